/-! EvenWordsModel -/
set_option maxRecDepth 100000
def RX2 : String := "EvenWordsModel"
def TX2 : u_T := fun k => match k with
  | 0 => ("EvenWordsModel", "thrown", "I", false)
  | 1 => ("EvenWordsModel", "s", "[I", true)
  | 2 => ("EvenWordsModel", "past", "[I", true)
  | 3 => ("EvenWordsModel", "undoMany", "I", false)
  | 4 => ("EvenWordsModel", "images", "[I", true)
  | 5 => ("EvenWordsModel", "isKept", "[Z", true)
  | 6 => ("EvenWordsModel", "text", "[I", true)
  | 7 => ("EvenWordsModel", "typed", "I", false)
  | 8 => ("EvenWordsModel", "draft", "[I", true)
  | 9 => ("EvenWordsModel", "draftMany", "I", false)
  | 10 => ("EvenWordsModel", "meant", "[I", true)
  | 11 => ("EvenWordsModel", "inForm", "[I", true)
  | 12 => ("EvenWordsModel", "isLaid", "Z", false)
  | 13 => ("EvenWordsModel", "at", "I", false)
  | 14 => ("EvenWordsModel", "place", "I", false)
  | 15 => ("EvenWordsModel", "token", "I", false)
  | 16 => ("EvenWordsModel", "value", "I", false)
  | 17 => ("EvenWordsModel", "fault", "I", false)
  | 18 => ("EvenWordsModel", "pieces", "I", false)
  | 19 => ("EvenWordsModel", "number", "[I", true)
  | 20 => ("EvenWordsModel", "rightly", "[I", true)
  | 21 => ("EvenWordsModel", "breach", "[I", true)
  | 22 => ("EvenWordsModel", "sumBehind", "[I", true)
  | 23 => ("EvenWordsModel", "blamedMany", "I", false)
  | 24 => ("EvenWordsModel", "lowestBlamed", "I", false)
  | 25 => ("EvenWordsModel", "level", "[I", true)
  | 26 => ("EvenWordsModel", "tailSum", "I", false)
  | 27 => ("EvenWordsModel", "tailBit", "I", false)
  | 28 => ("EvenWordsModel", "tailRun", "I", false)
  | 29 => ("EvenWordsModel", "tailLongest", "I", false)
  | 30 => ("EvenWordsModel", "row", "[I", true)
  | _ => ("EvenWordsModel", "best", "[I", true)
def tyX2 : Nat → FieldType := fun k => match k with
  | 0 => .int
  | 1 => .array .int
  | 2 => .array .int
  | 3 => .int
  | 4 => .array .int
  | 5 => .array .boolean
  | 6 => .array .int
  | 7 => .int
  | 8 => .array .int
  | 9 => .int
  | 10 => .array .int
  | 11 => .array .int
  | 12 => .boolean
  | 13 => .int
  | 14 => .int
  | 15 => .int
  | 16 => .int
  | 17 => .int
  | 18 => .int
  | 19 => .array .int
  | 20 => .array .int
  | 21 => .array .int
  | 22 => .array .int
  | 23 => .int
  | 24 => .int
  | 25 => .array .int
  | 26 => .int
  | 27 => .int
  | 28 => .int
  | 29 => .int
  | 30 => .array .int
  | _ => .array .int
abbrev wsX20 : List Cond := u_ws RX2 TX2 32
set_option maxRecDepth 100000 in
theorem nmX2 : ∀ a, a < 32 → ∀ b, b < 32 → a ≠ b → (TX2 a).2.1 ≠ (TX2 b).2.1 := by decide +kernel
set_option maxRecDepth 100000 in
theorem tyX2_ok : ∀ k, k < 32 → parseFieldDescriptor (TX2 k).2.2.1 = some (tyX2 k) := by decide +kernel
abbrev cX2_init : ByteArray := prog_12_method_1_code
def yX2_init : MethodName := ⟨RX2, "<init>", "()V"⟩
def dkwX2_init_5 : List UInt8 := [42, 16, 6, 188, 10, 181, 0, 53, 42, 182, 0, 56, 177]
abbrev dktX2_init_5 : List UInt8 := dkwX2_init_5 ++ []
def dkwX2_init_4 : List UInt8 := [16, 32, 188, 10, 181, 0, 44, 42, 17, 0, 192, 188, 10, 181, 0, 47, 42, 16, 6, 188, 10, 181, 0, 50]
abbrev dktX2_init_4 : List UInt8 := dkwX2_init_4 ++ dktX2_init_5
def dkwX2_init_3 : List UInt8 := [16, 32, 188, 10, 181, 0, 35, 42, 16, 32, 188, 10, 181, 0, 38, 42, 16, 32, 188, 10, 181, 0, 41, 42]
abbrev dktX2_init_3 : List UInt8 := dkwX2_init_3 ++ dktX2_init_4
def dkwX2_init_2 : List UInt8 := [16, 60, 188, 10, 181, 0, 26, 42, 16, 64, 188, 10, 181, 0, 29, 42, 16, 64, 188, 10, 181, 0, 32, 42]
abbrev dktX2_init_2 : List UInt8 := dkwX2_init_2 ++ dktX2_init_3
def dkwX2_init_1 : List UInt8 := [17, 1, 200, 188, 10, 181, 0, 16, 42, 5, 188, 4, 181, 0, 19, 42, 16, 120, 188, 10, 181, 0, 23, 42]
abbrev dktX2_init_1 : List UInt8 := dkwX2_init_1 ++ dktX2_init_2
def dkwX2_init_0 : List UInt8 := [42, 183, 0, 1, 42, 17, 0, 228, 188, 10, 181, 0, 7, 42, 17, 5, 88, 188, 10, 181, 0, 13, 42]
abbrev dktX2_init_0 : List UInt8 := dkwX2_init_0 ++ dktX2_init_1
theorem dksX2_init_0 : cX2_init.data.toList.drop 0 = dktX2_init_0 := by decide +kernel
theorem dksX2_init_1 : cX2_init.data.toList.drop 23 = dktX2_init_1 := dk_seg dksX2_init_0 23 rfl rfl
theorem dksX2_init_2 : cX2_init.data.toList.drop 47 = dktX2_init_2 := dk_seg dksX2_init_1 24 rfl rfl
theorem dksX2_init_3 : cX2_init.data.toList.drop 71 = dktX2_init_3 := dk_seg dksX2_init_2 24 rfl rfl
theorem dksX2_init_4 : cX2_init.data.toList.drop 95 = dktX2_init_4 := dk_seg dksX2_init_3 24 rfl rfl
theorem dksX2_init_5 : cX2_init.data.toList.drop 119 = dktX2_init_5 := dk_seg dksX2_init_4 24 rfl rfl
theorem dX2_init_0 : decode cX2_init 0 = .ok (.aload_n 0, 1) := dk_42 (dk_at dksX2_init_0 0 rfl rfl)
theorem dX2_init_1 : decode cX2_init 1 = .ok (.invokespecial 1, 3) := dk_183 0 1 (dk_at dksX2_init_0 1 rfl rfl)
theorem dX2_init_4 : decode cX2_init 4 = .ok (.aload_n 0, 1) := dk_42 (dk_at dksX2_init_0 4 rfl rfl)
theorem dX2_init_5 : decode cX2_init 5 = .ok (.sipush 228, 3) := dk_17 0 228 (dk_at dksX2_init_0 5 rfl rfl)
theorem dX2_init_8 : decode cX2_init 8 = .ok (.newarray .int, 2) := dk_188_10 (dk_at dksX2_init_0 8 rfl rfl)
theorem dX2_init_10 : decode cX2_init 10 = .ok (.putfield 7, 3) := dk_181 0 7 (dk_at dksX2_init_0 10 rfl rfl)
theorem dX2_init_13 : decode cX2_init 13 = .ok (.aload_n 0, 1) := dk_42 (dk_at dksX2_init_0 13 rfl rfl)
theorem dX2_init_14 : decode cX2_init 14 = .ok (.sipush 1368, 3) := dk_17 5 88 (dk_at dksX2_init_0 14 rfl rfl)
theorem dX2_init_17 : decode cX2_init 17 = .ok (.newarray .int, 2) := dk_188_10 (dk_at dksX2_init_0 17 rfl rfl)
theorem dX2_init_19 : decode cX2_init 19 = .ok (.putfield 13, 3) := dk_181 0 13 (dk_at dksX2_init_0 19 rfl rfl)
theorem dX2_init_22 : decode cX2_init 22 = .ok (.aload_n 0, 1) := dk_42 (dk_at dksX2_init_0 22 rfl rfl)
theorem dX2_init_23 : decode cX2_init 23 = .ok (.sipush 456, 3) := dk_17 1 200 (dk_at dksX2_init_1 0 rfl rfl)
theorem dX2_init_26 : decode cX2_init 26 = .ok (.newarray .int, 2) := dk_188_10 (dk_at dksX2_init_1 3 rfl rfl)
theorem dX2_init_28 : decode cX2_init 28 = .ok (.putfield 16, 3) := dk_181 0 16 (dk_at dksX2_init_1 5 rfl rfl)
theorem dX2_init_31 : decode cX2_init 31 = .ok (.aload_n 0, 1) := dk_42 (dk_at dksX2_init_1 8 rfl rfl)
theorem dX2_init_32 : decode cX2_init 32 = .ok (.iconst 2, 1) := dk_5 (dk_at dksX2_init_1 9 rfl rfl)
theorem dX2_init_33 : decode cX2_init 33 = .ok (.newarray .boolean, 2) := dk_188_4 (dk_at dksX2_init_1 10 rfl rfl)
theorem dX2_init_35 : decode cX2_init 35 = .ok (.putfield 19, 3) := dk_181 0 19 (dk_at dksX2_init_1 12 rfl rfl)
theorem dX2_init_38 : decode cX2_init 38 = .ok (.aload_n 0, 1) := dk_42 (dk_at dksX2_init_1 15 rfl rfl)
theorem dX2_init_39 : decode cX2_init 39 = .ok (.bipush 120, 2) := dk_16 120 (dk_at dksX2_init_1 16 rfl rfl)
theorem dX2_init_41 : decode cX2_init 41 = .ok (.newarray .int, 2) := dk_188_10 (dk_at dksX2_init_1 18 rfl rfl)
theorem dX2_init_43 : decode cX2_init 43 = .ok (.putfield 23, 3) := dk_181 0 23 (dk_at dksX2_init_1 20 rfl rfl)
theorem dX2_init_46 : decode cX2_init 46 = .ok (.aload_n 0, 1) := dk_42 (dk_at dksX2_init_1 23 rfl rfl)
theorem dX2_init_47 : decode cX2_init 47 = .ok (.bipush 60, 2) := dk_16 60 (dk_at dksX2_init_2 0 rfl rfl)
theorem dX2_init_49 : decode cX2_init 49 = .ok (.newarray .int, 2) := dk_188_10 (dk_at dksX2_init_2 2 rfl rfl)
theorem dX2_init_51 : decode cX2_init 51 = .ok (.putfield 26, 3) := dk_181 0 26 (dk_at dksX2_init_2 4 rfl rfl)
theorem dX2_init_54 : decode cX2_init 54 = .ok (.aload_n 0, 1) := dk_42 (dk_at dksX2_init_2 7 rfl rfl)
theorem dX2_init_55 : decode cX2_init 55 = .ok (.bipush 64, 2) := dk_16 64 (dk_at dksX2_init_2 8 rfl rfl)
theorem dX2_init_57 : decode cX2_init 57 = .ok (.newarray .int, 2) := dk_188_10 (dk_at dksX2_init_2 10 rfl rfl)
theorem dX2_init_59 : decode cX2_init 59 = .ok (.putfield 29, 3) := dk_181 0 29 (dk_at dksX2_init_2 12 rfl rfl)
theorem dX2_init_62 : decode cX2_init 62 = .ok (.aload_n 0, 1) := dk_42 (dk_at dksX2_init_2 15 rfl rfl)
theorem dX2_init_63 : decode cX2_init 63 = .ok (.bipush 64, 2) := dk_16 64 (dk_at dksX2_init_2 16 rfl rfl)
theorem dX2_init_65 : decode cX2_init 65 = .ok (.newarray .int, 2) := dk_188_10 (dk_at dksX2_init_2 18 rfl rfl)
theorem dX2_init_67 : decode cX2_init 67 = .ok (.putfield 32, 3) := dk_181 0 32 (dk_at dksX2_init_2 20 rfl rfl)
theorem dX2_init_70 : decode cX2_init 70 = .ok (.aload_n 0, 1) := dk_42 (dk_at dksX2_init_2 23 rfl rfl)
theorem dX2_init_71 : decode cX2_init 71 = .ok (.bipush 32, 2) := dk_16 32 (dk_at dksX2_init_3 0 rfl rfl)
theorem dX2_init_73 : decode cX2_init 73 = .ok (.newarray .int, 2) := dk_188_10 (dk_at dksX2_init_3 2 rfl rfl)
theorem dX2_init_75 : decode cX2_init 75 = .ok (.putfield 35, 3) := dk_181 0 35 (dk_at dksX2_init_3 4 rfl rfl)
theorem dX2_init_78 : decode cX2_init 78 = .ok (.aload_n 0, 1) := dk_42 (dk_at dksX2_init_3 7 rfl rfl)
theorem dX2_init_79 : decode cX2_init 79 = .ok (.bipush 32, 2) := dk_16 32 (dk_at dksX2_init_3 8 rfl rfl)
theorem dX2_init_81 : decode cX2_init 81 = .ok (.newarray .int, 2) := dk_188_10 (dk_at dksX2_init_3 10 rfl rfl)
theorem dX2_init_83 : decode cX2_init 83 = .ok (.putfield 38, 3) := dk_181 0 38 (dk_at dksX2_init_3 12 rfl rfl)
theorem dX2_init_86 : decode cX2_init 86 = .ok (.aload_n 0, 1) := dk_42 (dk_at dksX2_init_3 15 rfl rfl)
theorem dX2_init_87 : decode cX2_init 87 = .ok (.bipush 32, 2) := dk_16 32 (dk_at dksX2_init_3 16 rfl rfl)
theorem dX2_init_89 : decode cX2_init 89 = .ok (.newarray .int, 2) := dk_188_10 (dk_at dksX2_init_3 18 rfl rfl)
theorem dX2_init_91 : decode cX2_init 91 = .ok (.putfield 41, 3) := dk_181 0 41 (dk_at dksX2_init_3 20 rfl rfl)
theorem dX2_init_94 : decode cX2_init 94 = .ok (.aload_n 0, 1) := dk_42 (dk_at dksX2_init_3 23 rfl rfl)
theorem dX2_init_95 : decode cX2_init 95 = .ok (.bipush 32, 2) := dk_16 32 (dk_at dksX2_init_4 0 rfl rfl)
theorem dX2_init_97 : decode cX2_init 97 = .ok (.newarray .int, 2) := dk_188_10 (dk_at dksX2_init_4 2 rfl rfl)
theorem dX2_init_99 : decode cX2_init 99 = .ok (.putfield 44, 3) := dk_181 0 44 (dk_at dksX2_init_4 4 rfl rfl)
theorem dX2_init_102 : decode cX2_init 102 = .ok (.aload_n 0, 1) := dk_42 (dk_at dksX2_init_4 7 rfl rfl)
theorem dX2_init_103 : decode cX2_init 103 = .ok (.sipush 192, 3) := dk_17 0 192 (dk_at dksX2_init_4 8 rfl rfl)
theorem dX2_init_106 : decode cX2_init 106 = .ok (.newarray .int, 2) := dk_188_10 (dk_at dksX2_init_4 11 rfl rfl)
theorem dX2_init_108 : decode cX2_init 108 = .ok (.putfield 47, 3) := dk_181 0 47 (dk_at dksX2_init_4 13 rfl rfl)
theorem dX2_init_111 : decode cX2_init 111 = .ok (.aload_n 0, 1) := dk_42 (dk_at dksX2_init_4 16 rfl rfl)
theorem dX2_init_112 : decode cX2_init 112 = .ok (.bipush 6, 2) := dk_16 6 (dk_at dksX2_init_4 17 rfl rfl)
theorem dX2_init_114 : decode cX2_init 114 = .ok (.newarray .int, 2) := dk_188_10 (dk_at dksX2_init_4 19 rfl rfl)
theorem dX2_init_116 : decode cX2_init 116 = .ok (.putfield 50, 3) := dk_181 0 50 (dk_at dksX2_init_4 21 rfl rfl)
theorem dX2_init_119 : decode cX2_init 119 = .ok (.aload_n 0, 1) := dk_42 (dk_at dksX2_init_5 0 rfl rfl)
theorem dX2_init_120 : decode cX2_init 120 = .ok (.bipush 6, 2) := dk_16 6 (dk_at dksX2_init_5 1 rfl rfl)
theorem dX2_init_122 : decode cX2_init 122 = .ok (.newarray .int, 2) := dk_188_10 (dk_at dksX2_init_5 3 rfl rfl)
theorem dX2_init_124 : decode cX2_init 124 = .ok (.putfield 53, 3) := dk_181 0 53 (dk_at dksX2_init_5 5 rfl rfl)
theorem dX2_init_127 : decode cX2_init 127 = .ok (.aload_n 0, 1) := dk_42 (dk_at dksX2_init_5 8 rfl rfl)
theorem dX2_init_128 : decode cX2_init 128 = .ok (.invokevirtual 56, 3) := dk_182 0 56 (dk_at dksX2_init_5 9 rfl rfl)
theorem dX2_init_131 : decode cX2_init 131 = .ok (.return_, 1) := dk_177 (dk_at dksX2_init_5 12 rfl rfl)
abbrev cX2_bares : ByteArray := prog_12_method_2_code
def yX2_bares : MethodName := ⟨RX2, "bares", "()V"⟩
def dkwX2_bares_1 : List UInt8 := [180, 0, 7, 4, 2, 79, 42, 180, 0, 7, 5, 16, 247, 79, 42, 180, 0, 7, 6, 16, 247, 79, 177]
abbrev dktX2_bares_1 : List UInt8 := dkwX2_bares_1 ++ []
def dkwX2_bares_0 : List UInt8 := [3, 60, 27, 17, 0, 228, 162, 0, 16, 42, 180, 0, 7, 27, 3, 79, 132, 1, 1, 167, 255, 239, 42]
abbrev dktX2_bares_0 : List UInt8 := dkwX2_bares_0 ++ dktX2_bares_1
theorem dksX2_bares_0 : cX2_bares.data.toList.drop 0 = dktX2_bares_0 := by decide +kernel
theorem dksX2_bares_1 : cX2_bares.data.toList.drop 23 = dktX2_bares_1 := dk_seg dksX2_bares_0 23 rfl rfl
theorem dX2_bares_0 : decode cX2_bares 0 = .ok (.iconst 0, 1) := dk_3 (dk_at dksX2_bares_0 0 rfl rfl)
theorem dX2_bares_1 : decode cX2_bares 1 = .ok (.istore_n 1, 1) := dk_60 (dk_at dksX2_bares_0 1 rfl rfl)
theorem dX2_bares_2 : decode cX2_bares 2 = .ok (.iload_n 1, 1) := dk_27 (dk_at dksX2_bares_0 2 rfl rfl)
theorem dX2_bares_3 : decode cX2_bares 3 = .ok (.sipush 228, 3) := dk_17 0 228 (dk_at dksX2_bares_0 3 rfl rfl)
theorem dX2_bares_6 : decode cX2_bares 6 = .ok (.if_icmp .ge 16, 3) := dk_162 0 16 (dk_at dksX2_bares_0 6 rfl rfl)
theorem dX2_bares_9 : decode cX2_bares 9 = .ok (.aload_n 0, 1) := dk_42 (dk_at dksX2_bares_0 9 rfl rfl)
theorem dX2_bares_10 : decode cX2_bares 10 = .ok (.getfield 7, 3) := dk_180 0 7 (dk_at dksX2_bares_0 10 rfl rfl)
theorem dX2_bares_13 : decode cX2_bares 13 = .ok (.iload_n 1, 1) := dk_27 (dk_at dksX2_bares_0 13 rfl rfl)
theorem dX2_bares_14 : decode cX2_bares 14 = .ok (.iconst 0, 1) := dk_3 (dk_at dksX2_bares_0 14 rfl rfl)
theorem dX2_bares_15 : decode cX2_bares 15 = .ok (.iastore, 1) := dk_79 (dk_at dksX2_bares_0 15 rfl rfl)
theorem dX2_bares_16 : decode cX2_bares 16 = .ok (.iinc 1 1, 3) := dk_132 1 1 (dk_at dksX2_bares_0 16 rfl rfl)
theorem dX2_bares_19 : decode cX2_bares 19 = .ok (.goto (-17), 3) := dk_167 255 239 (dk_at dksX2_bares_0 19 rfl rfl)
theorem dX2_bares_22 : decode cX2_bares 22 = .ok (.aload_n 0, 1) := dk_42 (dk_at dksX2_bares_0 22 rfl rfl)
theorem dX2_bares_23 : decode cX2_bares 23 = .ok (.getfield 7, 3) := dk_180 0 7 (dk_at dksX2_bares_1 0 rfl rfl)
theorem dX2_bares_26 : decode cX2_bares 26 = .ok (.iconst 1, 1) := dk_4 (dk_at dksX2_bares_1 3 rfl rfl)
theorem dX2_bares_27 : decode cX2_bares 27 = .ok (.iconst (-1), 1) := dk_2 (dk_at dksX2_bares_1 4 rfl rfl)
theorem dX2_bares_28 : decode cX2_bares 28 = .ok (.iastore, 1) := dk_79 (dk_at dksX2_bares_1 5 rfl rfl)
theorem dX2_bares_29 : decode cX2_bares 29 = .ok (.aload_n 0, 1) := dk_42 (dk_at dksX2_bares_1 6 rfl rfl)
theorem dX2_bares_30 : decode cX2_bares 30 = .ok (.getfield 7, 3) := dk_180 0 7 (dk_at dksX2_bares_1 7 rfl rfl)
theorem dX2_bares_33 : decode cX2_bares 33 = .ok (.iconst 2, 1) := dk_5 (dk_at dksX2_bares_1 10 rfl rfl)
theorem dX2_bares_34 : decode cX2_bares 34 = .ok (.bipush (-9), 2) := dk_16 247 (dk_at dksX2_bares_1 11 rfl rfl)
theorem dX2_bares_36 : decode cX2_bares 36 = .ok (.iastore, 1) := dk_79 (dk_at dksX2_bares_1 13 rfl rfl)
theorem dX2_bares_37 : decode cX2_bares 37 = .ok (.aload_n 0, 1) := dk_42 (dk_at dksX2_bares_1 14 rfl rfl)
theorem dX2_bares_38 : decode cX2_bares 38 = .ok (.getfield 7, 3) := dk_180 0 7 (dk_at dksX2_bares_1 15 rfl rfl)
theorem dX2_bares_41 : decode cX2_bares 41 = .ok (.iconst 3, 1) := dk_6 (dk_at dksX2_bares_1 18 rfl rfl)
theorem dX2_bares_42 : decode cX2_bares 42 = .ok (.bipush (-9), 2) := dk_16 247 (dk_at dksX2_bares_1 19 rfl rfl)
theorem dX2_bares_44 : decode cX2_bares 44 = .ok (.iastore, 1) := dk_79 (dk_at dksX2_bares_1 21 rfl rfl)
theorem dX2_bares_45 : decode cX2_bares 45 = .ok (.return_, 1) := dk_177 (dk_at dksX2_bares_1 22 rfl rfl)
abbrev cX2_type : ByteArray := prog_12_method_11_code
def yX2_type : MethodName := ⟨RX2, "type", "(I)I"⟩
def dkwX2_type_2 : List UInt8 := [181, 0, 82, 42, 180, 0, 82, 172]
abbrev dktX2_type_2 : List UInt8 := dkwX2_type_2 ++ []
def dkwX2_type_1 : List UInt8 := [160, 0, 6, 16, 253, 172, 42, 180, 0, 23, 42, 180, 0, 82, 27, 79, 42, 89, 180, 0, 82, 4, 96]
abbrev dktX2_type_1 : List UInt8 := dkwX2_type_1 ++ dktX2_type_2
def dkwX2_type_0 : List UInt8 := [42, 3, 181, 0, 59, 27, 3, 17, 0, 255, 184, 0, 85, 154, 0, 5, 2, 172, 42, 180, 0, 82, 16, 120]
abbrev dktX2_type_0 : List UInt8 := dkwX2_type_0 ++ dktX2_type_1
theorem dksX2_type_0 : cX2_type.data.toList.drop 0 = dktX2_type_0 := by decide +kernel
theorem dksX2_type_1 : cX2_type.data.toList.drop 24 = dktX2_type_1 := dk_seg dksX2_type_0 24 rfl rfl
theorem dksX2_type_2 : cX2_type.data.toList.drop 47 = dktX2_type_2 := dk_seg dksX2_type_1 23 rfl rfl
theorem dX2_type_0 : decode cX2_type 0 = .ok (.aload_n 0, 1) := dk_42 (dk_at dksX2_type_0 0 rfl rfl)
theorem dX2_type_1 : decode cX2_type 1 = .ok (.iconst 0, 1) := dk_3 (dk_at dksX2_type_0 1 rfl rfl)
theorem dX2_type_2 : decode cX2_type 2 = .ok (.putfield 59, 3) := dk_181 0 59 (dk_at dksX2_type_0 2 rfl rfl)
theorem dX2_type_5 : decode cX2_type 5 = .ok (.iload_n 1, 1) := dk_27 (dk_at dksX2_type_0 5 rfl rfl)
theorem dX2_type_6 : decode cX2_type 6 = .ok (.iconst 0, 1) := dk_3 (dk_at dksX2_type_0 6 rfl rfl)
theorem dX2_type_7 : decode cX2_type 7 = .ok (.sipush 255, 3) := dk_17 0 255 (dk_at dksX2_type_0 7 rfl rfl)
theorem dX2_type_10 : decode cX2_type 10 = .ok (.invokestatic 85, 3) := dk_184 0 85 (dk_at dksX2_type_0 10 rfl rfl)
theorem dX2_type_13 : decode cX2_type 13 = .ok (.ifCond .ne 5, 3) := dk_154 0 5 (dk_at dksX2_type_0 13 rfl rfl)
theorem dX2_type_16 : decode cX2_type 16 = .ok (.iconst (-1), 1) := dk_2 (dk_at dksX2_type_0 16 rfl rfl)
theorem dX2_type_17 : decode cX2_type 17 = .ok (.ireturn, 1) := dk_172 (dk_at dksX2_type_0 17 rfl rfl)
theorem dX2_type_18 : decode cX2_type 18 = .ok (.aload_n 0, 1) := dk_42 (dk_at dksX2_type_0 18 rfl rfl)
theorem dX2_type_19 : decode cX2_type 19 = .ok (.getfield 82, 3) := dk_180 0 82 (dk_at dksX2_type_0 19 rfl rfl)
theorem dX2_type_22 : decode cX2_type 22 = .ok (.bipush 120, 2) := dk_16 120 (dk_at dksX2_type_0 22 rfl rfl)
theorem dX2_type_24 : decode cX2_type 24 = .ok (.if_icmp .ne 6, 3) := dk_160 0 6 (dk_at dksX2_type_1 0 rfl rfl)
theorem dX2_type_27 : decode cX2_type 27 = .ok (.bipush (-3), 2) := dk_16 253 (dk_at dksX2_type_1 3 rfl rfl)
theorem dX2_type_29 : decode cX2_type 29 = .ok (.ireturn, 1) := dk_172 (dk_at dksX2_type_1 5 rfl rfl)
theorem dX2_type_30 : decode cX2_type 30 = .ok (.aload_n 0, 1) := dk_42 (dk_at dksX2_type_1 6 rfl rfl)
theorem dX2_type_31 : decode cX2_type 31 = .ok (.getfield 23, 3) := dk_180 0 23 (dk_at dksX2_type_1 7 rfl rfl)
theorem dX2_type_34 : decode cX2_type 34 = .ok (.aload_n 0, 1) := dk_42 (dk_at dksX2_type_1 10 rfl rfl)
theorem dX2_type_35 : decode cX2_type 35 = .ok (.getfield 82, 3) := dk_180 0 82 (dk_at dksX2_type_1 11 rfl rfl)
theorem dX2_type_38 : decode cX2_type 38 = .ok (.iload_n 1, 1) := dk_27 (dk_at dksX2_type_1 14 rfl rfl)
theorem dX2_type_39 : decode cX2_type 39 = .ok (.iastore, 1) := dk_79 (dk_at dksX2_type_1 15 rfl rfl)
theorem dX2_type_40 : decode cX2_type 40 = .ok (.aload_n 0, 1) := dk_42 (dk_at dksX2_type_1 16 rfl rfl)
theorem dX2_type_41 : decode cX2_type 41 = .ok (.dup, 1) := dk_89 (dk_at dksX2_type_1 17 rfl rfl)
theorem dX2_type_42 : decode cX2_type 42 = .ok (.getfield 82, 3) := dk_180 0 82 (dk_at dksX2_type_1 18 rfl rfl)
theorem dX2_type_45 : decode cX2_type 45 = .ok (.iconst 1, 1) := dk_4 (dk_at dksX2_type_1 21 rfl rfl)
theorem dX2_type_46 : decode cX2_type 46 = .ok (.iadd, 1) := dk_96 (dk_at dksX2_type_1 22 rfl rfl)
theorem dX2_type_47 : decode cX2_type 47 = .ok (.putfield 82, 3) := dk_181 0 82 (dk_at dksX2_type_2 0 rfl rfl)
theorem dX2_type_50 : decode cX2_type 50 = .ok (.aload_n 0, 1) := dk_42 (dk_at dksX2_type_2 3 rfl rfl)
theorem dX2_type_51 : decode cX2_type 51 = .ok (.getfield 82, 3) := dk_180 0 82 (dk_at dksX2_type_2 4 rfl rfl)
theorem dX2_type_54 : decode cX2_type 54 = .ok (.ireturn, 1) := dk_172 (dk_at dksX2_type_2 7 rfl rfl)
abbrev cX2_in : ByteArray := prog_12_method_4_code
def yX2_in : MethodName := ⟨RX2, "in", "(III)Z"⟩
def dkwX2_in_0 : List UInt8 := [26, 27, 161, 0, 12, 26, 28, 163, 0, 7, 4, 167, 0, 4, 3, 172]
abbrev dktX2_in_0 : List UInt8 := dkwX2_in_0 ++ []
theorem dksX2_in_0 : cX2_in.data.toList.drop 0 = dktX2_in_0 := by decide +kernel
theorem dX2_in_0 : decode cX2_in 0 = .ok (.iload_n 0, 1) := dk_26 (dk_at dksX2_in_0 0 rfl rfl)
theorem dX2_in_1 : decode cX2_in 1 = .ok (.iload_n 1, 1) := dk_27 (dk_at dksX2_in_0 1 rfl rfl)
theorem dX2_in_2 : decode cX2_in 2 = .ok (.if_icmp .lt 12, 3) := dk_161 0 12 (dk_at dksX2_in_0 2 rfl rfl)
theorem dX2_in_5 : decode cX2_in 5 = .ok (.iload_n 0, 1) := dk_26 (dk_at dksX2_in_0 5 rfl rfl)
theorem dX2_in_6 : decode cX2_in 6 = .ok (.iload_n 2, 1) := dk_28 (dk_at dksX2_in_0 6 rfl rfl)
theorem dX2_in_7 : decode cX2_in 7 = .ok (.if_icmp .gt 7, 3) := dk_163 0 7 (dk_at dksX2_in_0 7 rfl rfl)
theorem dX2_in_10 : decode cX2_in 10 = .ok (.iconst 1, 1) := dk_4 (dk_at dksX2_in_0 10 rfl rfl)
theorem dX2_in_11 : decode cX2_in 11 = .ok (.goto 4, 3) := dk_167 0 4 (dk_at dksX2_in_0 11 rfl rfl)
theorem dX2_in_14 : decode cX2_in 14 = .ok (.iconst 0, 1) := dk_3 (dk_at dksX2_in_0 14 rfl rfl)
theorem dX2_in_15 : decode cX2_in 15 = .ok (.ireturn, 1) := dk_172 (dk_at dksX2_in_0 15 rfl rfl)
abbrev cX2_clear : ByteArray := prog_12_method_12_code
def yX2_clear : MethodName := ⟨RX2, "clear", "()I"⟩
def dkwX2_clear_0 : List UInt8 := [42, 3, 181, 0, 59, 42, 180, 0, 82, 60, 42, 3, 181, 0, 82, 27, 172]
abbrev dktX2_clear_0 : List UInt8 := dkwX2_clear_0 ++ []
theorem dksX2_clear_0 : cX2_clear.data.toList.drop 0 = dktX2_clear_0 := by decide +kernel
theorem dX2_clear_0 : decode cX2_clear 0 = .ok (.aload_n 0, 1) := dk_42 (dk_at dksX2_clear_0 0 rfl rfl)
theorem dX2_clear_1 : decode cX2_clear 1 = .ok (.iconst 0, 1) := dk_3 (dk_at dksX2_clear_0 1 rfl rfl)
theorem dX2_clear_2 : decode cX2_clear 2 = .ok (.putfield 59, 3) := dk_181 0 59 (dk_at dksX2_clear_0 2 rfl rfl)
theorem dX2_clear_5 : decode cX2_clear 5 = .ok (.aload_n 0, 1) := dk_42 (dk_at dksX2_clear_0 5 rfl rfl)
theorem dX2_clear_6 : decode cX2_clear 6 = .ok (.getfield 82, 3) := dk_180 0 82 (dk_at dksX2_clear_0 6 rfl rfl)
theorem dX2_clear_9 : decode cX2_clear 9 = .ok (.istore_n 1, 1) := dk_60 (dk_at dksX2_clear_0 9 rfl rfl)
theorem dX2_clear_10 : decode cX2_clear 10 = .ok (.aload_n 0, 1) := dk_42 (dk_at dksX2_clear_0 10 rfl rfl)
theorem dX2_clear_11 : decode cX2_clear 11 = .ok (.iconst 0, 1) := dk_3 (dk_at dksX2_clear_0 11 rfl rfl)
theorem dX2_clear_12 : decode cX2_clear 12 = .ok (.putfield 82, 3) := dk_181 0 82 (dk_at dksX2_clear_0 12 rfl rfl)
theorem dX2_clear_15 : decode cX2_clear 15 = .ok (.iload_n 1, 1) := dk_27 (dk_at dksX2_clear_0 15 rfl rfl)
theorem dX2_clear_16 : decode cX2_clear 16 = .ok (.ireturn, 1) := dk_172 (dk_at dksX2_clear_0 16 rfl rfl)
abbrev cX2_tells : ByteArray := prog_12_method_16_code
def yX2_tells : MethodName := ⟨RX2, "tells", "()I"⟩
def dkwX2_tells_3 : List UInt8 := [132, 1, 1, 167, 255, 234, 42, 3, 181, 0, 82, 42, 180, 0, 110, 172]
abbrev dktX2_tells_3 : List UInt8 := dkwX2_tells_3 ++ []
def dkwX2_tells_2 : List UInt8 := [182, 0, 120, 3, 60, 27, 42, 180, 0, 110, 162, 0, 20, 42, 42, 180, 0, 26, 27, 46, 182, 0, 123, 87]
abbrev dktX2_tells_2 : List UInt8 := dkwX2_tells_2 ++ dktX2_tells_3
def dkwX2_tells_1 : List UInt8 := [100, 172, 42, 180, 0, 7, 3, 46, 42, 180, 0, 110, 96, 16, 32, 164, 0, 6, 16, 253, 172, 42]
abbrev dktX2_tells_1 : List UInt8 := dkwX2_tells_1 ++ dktX2_tells_2
def dkwX2_tells_0 : List UInt8 := [42, 3, 181, 0, 59, 42, 182, 0, 117, 42, 180, 0, 104, 16, 247, 159, 0, 11, 16, 246, 42, 180, 0, 104]
abbrev dktX2_tells_0 : List UInt8 := dkwX2_tells_0 ++ dktX2_tells_1
theorem dksX2_tells_0 : cX2_tells.data.toList.drop 0 = dktX2_tells_0 := by decide +kernel
theorem dksX2_tells_1 : cX2_tells.data.toList.drop 24 = dktX2_tells_1 := dk_seg dksX2_tells_0 24 rfl rfl
theorem dksX2_tells_2 : cX2_tells.data.toList.drop 46 = dktX2_tells_2 := dk_seg dksX2_tells_1 22 rfl rfl
theorem dksX2_tells_3 : cX2_tells.data.toList.drop 70 = dktX2_tells_3 := dk_seg dksX2_tells_2 24 rfl rfl
theorem dX2_tells_0 : decode cX2_tells 0 = .ok (.aload_n 0, 1) := dk_42 (dk_at dksX2_tells_0 0 rfl rfl)
theorem dX2_tells_1 : decode cX2_tells 1 = .ok (.iconst 0, 1) := dk_3 (dk_at dksX2_tells_0 1 rfl rfl)
theorem dX2_tells_2 : decode cX2_tells 2 = .ok (.putfield 59, 3) := dk_181 0 59 (dk_at dksX2_tells_0 2 rfl rfl)
theorem dX2_tells_5 : decode cX2_tells 5 = .ok (.aload_n 0, 1) := dk_42 (dk_at dksX2_tells_0 5 rfl rfl)
theorem dX2_tells_6 : decode cX2_tells 6 = .ok (.invokevirtual 117, 3) := dk_182 0 117 (dk_at dksX2_tells_0 6 rfl rfl)
theorem dX2_tells_9 : decode cX2_tells 9 = .ok (.aload_n 0, 1) := dk_42 (dk_at dksX2_tells_0 9 rfl rfl)
theorem dX2_tells_10 : decode cX2_tells 10 = .ok (.getfield 104, 3) := dk_180 0 104 (dk_at dksX2_tells_0 10 rfl rfl)
theorem dX2_tells_13 : decode cX2_tells 13 = .ok (.bipush (-9), 2) := dk_16 247 (dk_at dksX2_tells_0 13 rfl rfl)
theorem dX2_tells_15 : decode cX2_tells 15 = .ok (.if_icmp .eq 11, 3) := dk_159 0 11 (dk_at dksX2_tells_0 15 rfl rfl)
theorem dX2_tells_18 : decode cX2_tells 18 = .ok (.bipush (-10), 2) := dk_16 246 (dk_at dksX2_tells_0 18 rfl rfl)
theorem dX2_tells_20 : decode cX2_tells 20 = .ok (.aload_n 0, 1) := dk_42 (dk_at dksX2_tells_0 20 rfl rfl)
theorem dX2_tells_21 : decode cX2_tells 21 = .ok (.getfield 104, 3) := dk_180 0 104 (dk_at dksX2_tells_0 21 rfl rfl)
theorem dX2_tells_24 : decode cX2_tells 24 = .ok (.isub, 1) := dk_100 (dk_at dksX2_tells_1 0 rfl rfl)
theorem dX2_tells_25 : decode cX2_tells 25 = .ok (.ireturn, 1) := dk_172 (dk_at dksX2_tells_1 1 rfl rfl)
theorem dX2_tells_26 : decode cX2_tells 26 = .ok (.aload_n 0, 1) := dk_42 (dk_at dksX2_tells_1 2 rfl rfl)
theorem dX2_tells_27 : decode cX2_tells 27 = .ok (.getfield 7, 3) := dk_180 0 7 (dk_at dksX2_tells_1 3 rfl rfl)
theorem dX2_tells_30 : decode cX2_tells 30 = .ok (.iconst 0, 1) := dk_3 (dk_at dksX2_tells_1 6 rfl rfl)
theorem dX2_tells_31 : decode cX2_tells 31 = .ok (.iaload, 1) := dk_46 (dk_at dksX2_tells_1 7 rfl rfl)
theorem dX2_tells_32 : decode cX2_tells 32 = .ok (.aload_n 0, 1) := dk_42 (dk_at dksX2_tells_1 8 rfl rfl)
theorem dX2_tells_33 : decode cX2_tells 33 = .ok (.getfield 110, 3) := dk_180 0 110 (dk_at dksX2_tells_1 9 rfl rfl)
theorem dX2_tells_36 : decode cX2_tells 36 = .ok (.iadd, 1) := dk_96 (dk_at dksX2_tells_1 12 rfl rfl)
theorem dX2_tells_37 : decode cX2_tells 37 = .ok (.bipush 32, 2) := dk_16 32 (dk_at dksX2_tells_1 13 rfl rfl)
theorem dX2_tells_39 : decode cX2_tells 39 = .ok (.if_icmp .le 6, 3) := dk_164 0 6 (dk_at dksX2_tells_1 15 rfl rfl)
theorem dX2_tells_42 : decode cX2_tells 42 = .ok (.bipush (-3), 2) := dk_16 253 (dk_at dksX2_tells_1 18 rfl rfl)
theorem dX2_tells_44 : decode cX2_tells 44 = .ok (.ireturn, 1) := dk_172 (dk_at dksX2_tells_1 20 rfl rfl)
theorem dX2_tells_45 : decode cX2_tells 45 = .ok (.aload_n 0, 1) := dk_42 (dk_at dksX2_tells_1 21 rfl rfl)
theorem dX2_tells_46 : decode cX2_tells 46 = .ok (.invokevirtual 120, 3) := dk_182 0 120 (dk_at dksX2_tells_2 0 rfl rfl)
theorem dX2_tells_49 : decode cX2_tells 49 = .ok (.iconst 0, 1) := dk_3 (dk_at dksX2_tells_2 3 rfl rfl)
theorem dX2_tells_50 : decode cX2_tells 50 = .ok (.istore_n 1, 1) := dk_60 (dk_at dksX2_tells_2 4 rfl rfl)
theorem dX2_tells_51 : decode cX2_tells 51 = .ok (.iload_n 1, 1) := dk_27 (dk_at dksX2_tells_2 5 rfl rfl)
theorem dX2_tells_52 : decode cX2_tells 52 = .ok (.aload_n 0, 1) := dk_42 (dk_at dksX2_tells_2 6 rfl rfl)
theorem dX2_tells_53 : decode cX2_tells 53 = .ok (.getfield 110, 3) := dk_180 0 110 (dk_at dksX2_tells_2 7 rfl rfl)
theorem dX2_tells_56 : decode cX2_tells 56 = .ok (.if_icmp .ge 20, 3) := dk_162 0 20 (dk_at dksX2_tells_2 10 rfl rfl)
theorem dX2_tells_59 : decode cX2_tells 59 = .ok (.aload_n 0, 1) := dk_42 (dk_at dksX2_tells_2 13 rfl rfl)
theorem dX2_tells_60 : decode cX2_tells 60 = .ok (.aload_n 0, 1) := dk_42 (dk_at dksX2_tells_2 14 rfl rfl)
theorem dX2_tells_61 : decode cX2_tells 61 = .ok (.getfield 26, 3) := dk_180 0 26 (dk_at dksX2_tells_2 15 rfl rfl)
theorem dX2_tells_64 : decode cX2_tells 64 = .ok (.iload_n 1, 1) := dk_27 (dk_at dksX2_tells_2 18 rfl rfl)
theorem dX2_tells_65 : decode cX2_tells 65 = .ok (.iaload, 1) := dk_46 (dk_at dksX2_tells_2 19 rfl rfl)
theorem dX2_tells_66 : decode cX2_tells 66 = .ok (.invokevirtual 123, 3) := dk_182 0 123 (dk_at dksX2_tells_2 20 rfl rfl)
theorem dX2_tells_69 : decode cX2_tells 69 = .ok (.pop, 1) := dk_87 (dk_at dksX2_tells_2 23 rfl rfl)
theorem dX2_tells_70 : decode cX2_tells 70 = .ok (.iinc 1 1, 3) := dk_132 1 1 (dk_at dksX2_tells_3 0 rfl rfl)
theorem dX2_tells_73 : decode cX2_tells 73 = .ok (.goto (-22), 3) := dk_167 255 234 (dk_at dksX2_tells_3 3 rfl rfl)
theorem dX2_tells_76 : decode cX2_tells 76 = .ok (.aload_n 0, 1) := dk_42 (dk_at dksX2_tells_3 6 rfl rfl)
theorem dX2_tells_77 : decode cX2_tells 77 = .ok (.iconst 0, 1) := dk_3 (dk_at dksX2_tells_3 7 rfl rfl)
theorem dX2_tells_78 : decode cX2_tells 78 = .ok (.putfield 82, 3) := dk_181 0 82 (dk_at dksX2_tells_3 8 rfl rfl)
theorem dX2_tells_81 : decode cX2_tells 81 = .ok (.aload_n 0, 1) := dk_42 (dk_at dksX2_tells_3 11 rfl rfl)
theorem dX2_tells_82 : decode cX2_tells 82 = .ok (.getfield 110, 3) := dk_180 0 110 (dk_at dksX2_tells_3 12 rfl rfl)
theorem dX2_tells_85 : decode cX2_tells 85 = .ok (.ireturn, 1) := dk_172 (dk_at dksX2_tells_3 15 rfl rfl)
abbrev cX2_readsText : ByteArray := prog_12_method_15_code
def yX2_readsText : MethodName := ⟨RX2, "readsText", "()V"⟩
def dkwX2_readsText_6 : List UInt8 := [167, 0, 7, 16, 31, 28, 96, 79, 42, 89, 180, 0, 110, 4, 96, 181, 0, 110, 167, 255, 117, 177]
abbrev dktX2_readsText_6 : List UInt8 := dkwX2_readsText_6 ++ []
def dkwX2_readsText_5 : List UInt8 := [4, 167, 0, 4, 3, 182, 0, 113, 87, 42, 180, 0, 26, 42, 180, 0, 110, 27, 153, 0, 7, 28]
abbrev dktX2_readsText_5 : List UInt8 := dkwX2_readsText_5 ++ dktX2_readsText_6
def dkwX2_readsText_4 : List UInt8 := [184, 0, 85, 153, 0, 7, 4, 167, 0, 4, 3, 182, 0, 113, 61, 42, 42, 180, 0, 98, 6, 160, 0, 7]
abbrev dktX2_readsText_4 : List UInt8 := dkwX2_readsText_4 ++ dktX2_readsText_5
def dkwX2_readsText_3 : List UInt8 := [42, 180, 0, 98, 5, 160, 0, 28, 42, 180, 0, 101, 3, 27, 153, 0, 8, 16, 30, 167, 0, 4, 5]
abbrev dktX2_readsText_3 : List UInt8 := dkwX2_readsText_3 ++ dktX2_readsText_4
def dkwX2_readsText_2 : List UInt8 := [4, 160, 0, 7, 4, 167, 0, 4, 3, 182, 0, 113, 16, 100, 160, 0, 7, 4, 167, 0, 4, 3, 60, 42]
abbrev dktX2_readsText_2 : List UInt8 := dkwX2_readsText_2 ++ dktX2_readsText_3
def dkwX2_readsText_1 : List UInt8 := [16, 247, 160, 0, 136, 42, 180, 0, 98, 154, 0, 10, 42, 180, 0, 110, 154, 0, 122, 42, 42, 180, 0, 98]
abbrev dktX2_readsText_1 : List UInt8 := dkwX2_readsText_1 ++ dktX2_readsText_2
def dkwX2_readsText_0 : List UInt8 := [42, 16, 247, 181, 0, 104, 42, 3, 181, 0, 89, 42, 3, 181, 0, 110, 42, 182, 0, 107, 42, 180, 0, 104]
abbrev dktX2_readsText_0 : List UInt8 := dkwX2_readsText_0 ++ dktX2_readsText_1
theorem dksX2_readsText_0 : cX2_readsText.data.toList.drop 0 = dktX2_readsText_0 := by decide +kernel
theorem dksX2_readsText_1 : cX2_readsText.data.toList.drop 24 = dktX2_readsText_1 := dk_seg dksX2_readsText_0 24 rfl rfl
theorem dksX2_readsText_2 : cX2_readsText.data.toList.drop 48 = dktX2_readsText_2 := dk_seg dksX2_readsText_1 24 rfl rfl
theorem dksX2_readsText_3 : cX2_readsText.data.toList.drop 72 = dktX2_readsText_3 := dk_seg dksX2_readsText_2 24 rfl rfl
theorem dksX2_readsText_4 : cX2_readsText.data.toList.drop 95 = dktX2_readsText_4 := dk_seg dksX2_readsText_3 23 rfl rfl
theorem dksX2_readsText_5 : cX2_readsText.data.toList.drop 119 = dktX2_readsText_5 := dk_seg dksX2_readsText_4 24 rfl rfl
theorem dksX2_readsText_6 : cX2_readsText.data.toList.drop 141 = dktX2_readsText_6 := dk_seg dksX2_readsText_5 22 rfl rfl
theorem dX2_readsText_0 : decode cX2_readsText 0 = .ok (.aload_n 0, 1) := dk_42 (dk_at dksX2_readsText_0 0 rfl rfl)
theorem dX2_readsText_1 : decode cX2_readsText 1 = .ok (.bipush (-9), 2) := dk_16 247 (dk_at dksX2_readsText_0 1 rfl rfl)
theorem dX2_readsText_3 : decode cX2_readsText 3 = .ok (.putfield 104, 3) := dk_181 0 104 (dk_at dksX2_readsText_0 3 rfl rfl)
theorem dX2_readsText_6 : decode cX2_readsText 6 = .ok (.aload_n 0, 1) := dk_42 (dk_at dksX2_readsText_0 6 rfl rfl)
theorem dX2_readsText_7 : decode cX2_readsText 7 = .ok (.iconst 0, 1) := dk_3 (dk_at dksX2_readsText_0 7 rfl rfl)
theorem dX2_readsText_8 : decode cX2_readsText 8 = .ok (.putfield 89, 3) := dk_181 0 89 (dk_at dksX2_readsText_0 8 rfl rfl)
theorem dX2_readsText_11 : decode cX2_readsText 11 = .ok (.aload_n 0, 1) := dk_42 (dk_at dksX2_readsText_0 11 rfl rfl)
theorem dX2_readsText_12 : decode cX2_readsText 12 = .ok (.iconst 0, 1) := dk_3 (dk_at dksX2_readsText_0 12 rfl rfl)
theorem dX2_readsText_13 : decode cX2_readsText 13 = .ok (.putfield 110, 3) := dk_181 0 110 (dk_at dksX2_readsText_0 13 rfl rfl)
theorem dX2_readsText_16 : decode cX2_readsText 16 = .ok (.aload_n 0, 1) := dk_42 (dk_at dksX2_readsText_0 16 rfl rfl)
theorem dX2_readsText_17 : decode cX2_readsText 17 = .ok (.invokevirtual 107, 3) := dk_182 0 107 (dk_at dksX2_readsText_0 17 rfl rfl)
theorem dX2_readsText_20 : decode cX2_readsText 20 = .ok (.aload_n 0, 1) := dk_42 (dk_at dksX2_readsText_0 20 rfl rfl)
theorem dX2_readsText_21 : decode cX2_readsText 21 = .ok (.getfield 104, 3) := dk_180 0 104 (dk_at dksX2_readsText_0 21 rfl rfl)
theorem dX2_readsText_24 : decode cX2_readsText 24 = .ok (.bipush (-9), 2) := dk_16 247 (dk_at dksX2_readsText_1 0 rfl rfl)
theorem dX2_readsText_26 : decode cX2_readsText 26 = .ok (.if_icmp .ne 136, 3) := dk_160 0 136 (dk_at dksX2_readsText_1 2 rfl rfl)
theorem dX2_readsText_29 : decode cX2_readsText 29 = .ok (.aload_n 0, 1) := dk_42 (dk_at dksX2_readsText_1 5 rfl rfl)
theorem dX2_readsText_30 : decode cX2_readsText 30 = .ok (.getfield 98, 3) := dk_180 0 98 (dk_at dksX2_readsText_1 6 rfl rfl)
theorem dX2_readsText_33 : decode cX2_readsText 33 = .ok (.ifCond .ne 10, 3) := dk_154 0 10 (dk_at dksX2_readsText_1 9 rfl rfl)
theorem dX2_readsText_36 : decode cX2_readsText 36 = .ok (.aload_n 0, 1) := dk_42 (dk_at dksX2_readsText_1 12 rfl rfl)
theorem dX2_readsText_37 : decode cX2_readsText 37 = .ok (.getfield 110, 3) := dk_180 0 110 (dk_at dksX2_readsText_1 13 rfl rfl)
theorem dX2_readsText_40 : decode cX2_readsText 40 = .ok (.ifCond .ne 122, 3) := dk_154 0 122 (dk_at dksX2_readsText_1 16 rfl rfl)
theorem dX2_readsText_43 : decode cX2_readsText 43 = .ok (.aload_n 0, 1) := dk_42 (dk_at dksX2_readsText_1 19 rfl rfl)
theorem dX2_readsText_44 : decode cX2_readsText 44 = .ok (.aload_n 0, 1) := dk_42 (dk_at dksX2_readsText_1 20 rfl rfl)
theorem dX2_readsText_45 : decode cX2_readsText 45 = .ok (.getfield 98, 3) := dk_180 0 98 (dk_at dksX2_readsText_1 21 rfl rfl)
theorem dX2_readsText_48 : decode cX2_readsText 48 = .ok (.iconst 1, 1) := dk_4 (dk_at dksX2_readsText_2 0 rfl rfl)
theorem dX2_readsText_49 : decode cX2_readsText 49 = .ok (.if_icmp .ne 7, 3) := dk_160 0 7 (dk_at dksX2_readsText_2 1 rfl rfl)
theorem dX2_readsText_52 : decode cX2_readsText 52 = .ok (.iconst 1, 1) := dk_4 (dk_at dksX2_readsText_2 4 rfl rfl)
theorem dX2_readsText_53 : decode cX2_readsText 53 = .ok (.goto 4, 3) := dk_167 0 4 (dk_at dksX2_readsText_2 5 rfl rfl)
theorem dX2_readsText_56 : decode cX2_readsText 56 = .ok (.iconst 0, 1) := dk_3 (dk_at dksX2_readsText_2 8 rfl rfl)
theorem dX2_readsText_57 : decode cX2_readsText 57 = .ok (.invokevirtual 113, 3) := dk_182 0 113 (dk_at dksX2_readsText_2 9 rfl rfl)
theorem dX2_readsText_60 : decode cX2_readsText 60 = .ok (.bipush 100, 2) := dk_16 100 (dk_at dksX2_readsText_2 12 rfl rfl)
theorem dX2_readsText_62 : decode cX2_readsText 62 = .ok (.if_icmp .ne 7, 3) := dk_160 0 7 (dk_at dksX2_readsText_2 14 rfl rfl)
theorem dX2_readsText_65 : decode cX2_readsText 65 = .ok (.iconst 1, 1) := dk_4 (dk_at dksX2_readsText_2 17 rfl rfl)
theorem dX2_readsText_66 : decode cX2_readsText 66 = .ok (.goto 4, 3) := dk_167 0 4 (dk_at dksX2_readsText_2 18 rfl rfl)
theorem dX2_readsText_69 : decode cX2_readsText 69 = .ok (.iconst 0, 1) := dk_3 (dk_at dksX2_readsText_2 21 rfl rfl)
theorem dX2_readsText_70 : decode cX2_readsText 70 = .ok (.istore_n 1, 1) := dk_60 (dk_at dksX2_readsText_2 22 rfl rfl)
theorem dX2_readsText_71 : decode cX2_readsText 71 = .ok (.aload_n 0, 1) := dk_42 (dk_at dksX2_readsText_2 23 rfl rfl)
theorem dX2_readsText_72 : decode cX2_readsText 72 = .ok (.aload_n 0, 1) := dk_42 (dk_at dksX2_readsText_3 0 rfl rfl)
theorem dX2_readsText_73 : decode cX2_readsText 73 = .ok (.getfield 98, 3) := dk_180 0 98 (dk_at dksX2_readsText_3 1 rfl rfl)
theorem dX2_readsText_76 : decode cX2_readsText 76 = .ok (.iconst 2, 1) := dk_5 (dk_at dksX2_readsText_3 4 rfl rfl)
theorem dX2_readsText_77 : decode cX2_readsText 77 = .ok (.if_icmp .ne 28, 3) := dk_160 0 28 (dk_at dksX2_readsText_3 5 rfl rfl)
theorem dX2_readsText_80 : decode cX2_readsText 80 = .ok (.aload_n 0, 1) := dk_42 (dk_at dksX2_readsText_3 8 rfl rfl)
theorem dX2_readsText_81 : decode cX2_readsText 81 = .ok (.getfield 101, 3) := dk_180 0 101 (dk_at dksX2_readsText_3 9 rfl rfl)
theorem dX2_readsText_84 : decode cX2_readsText 84 = .ok (.iconst 0, 1) := dk_3 (dk_at dksX2_readsText_3 12 rfl rfl)
theorem dX2_readsText_85 : decode cX2_readsText 85 = .ok (.iload_n 1, 1) := dk_27 (dk_at dksX2_readsText_3 13 rfl rfl)
theorem dX2_readsText_86 : decode cX2_readsText 86 = .ok (.ifCond .eq 8, 3) := dk_153 0 8 (dk_at dksX2_readsText_3 14 rfl rfl)
theorem dX2_readsText_89 : decode cX2_readsText 89 = .ok (.bipush 30, 2) := dk_16 30 (dk_at dksX2_readsText_3 17 rfl rfl)
theorem dX2_readsText_91 : decode cX2_readsText 91 = .ok (.goto 4, 3) := dk_167 0 4 (dk_at dksX2_readsText_3 19 rfl rfl)
theorem dX2_readsText_94 : decode cX2_readsText 94 = .ok (.iconst 2, 1) := dk_5 (dk_at dksX2_readsText_3 22 rfl rfl)
theorem dX2_readsText_95 : decode cX2_readsText 95 = .ok (.invokestatic 85, 3) := dk_184 0 85 (dk_at dksX2_readsText_4 0 rfl rfl)
theorem dX2_readsText_98 : decode cX2_readsText 98 = .ok (.ifCond .eq 7, 3) := dk_153 0 7 (dk_at dksX2_readsText_4 3 rfl rfl)
theorem dX2_readsText_101 : decode cX2_readsText 101 = .ok (.iconst 1, 1) := dk_4 (dk_at dksX2_readsText_4 6 rfl rfl)
theorem dX2_readsText_102 : decode cX2_readsText 102 = .ok (.goto 4, 3) := dk_167 0 4 (dk_at dksX2_readsText_4 7 rfl rfl)
theorem dX2_readsText_105 : decode cX2_readsText 105 = .ok (.iconst 0, 1) := dk_3 (dk_at dksX2_readsText_4 10 rfl rfl)
theorem dX2_readsText_106 : decode cX2_readsText 106 = .ok (.invokevirtual 113, 3) := dk_182 0 113 (dk_at dksX2_readsText_4 11 rfl rfl)
theorem dX2_readsText_109 : decode cX2_readsText 109 = .ok (.istore_n 2, 1) := dk_61 (dk_at dksX2_readsText_4 14 rfl rfl)
theorem dX2_readsText_110 : decode cX2_readsText 110 = .ok (.aload_n 0, 1) := dk_42 (dk_at dksX2_readsText_4 15 rfl rfl)
theorem dX2_readsText_111 : decode cX2_readsText 111 = .ok (.aload_n 0, 1) := dk_42 (dk_at dksX2_readsText_4 16 rfl rfl)
theorem dX2_readsText_112 : decode cX2_readsText 112 = .ok (.getfield 98, 3) := dk_180 0 98 (dk_at dksX2_readsText_4 17 rfl rfl)
theorem dX2_readsText_115 : decode cX2_readsText 115 = .ok (.iconst 3, 1) := dk_6 (dk_at dksX2_readsText_4 20 rfl rfl)
theorem dX2_readsText_116 : decode cX2_readsText 116 = .ok (.if_icmp .ne 7, 3) := dk_160 0 7 (dk_at dksX2_readsText_4 21 rfl rfl)
theorem dX2_readsText_119 : decode cX2_readsText 119 = .ok (.iconst 1, 1) := dk_4 (dk_at dksX2_readsText_5 0 rfl rfl)
theorem dX2_readsText_120 : decode cX2_readsText 120 = .ok (.goto 4, 3) := dk_167 0 4 (dk_at dksX2_readsText_5 1 rfl rfl)
theorem dX2_readsText_123 : decode cX2_readsText 123 = .ok (.iconst 0, 1) := dk_3 (dk_at dksX2_readsText_5 4 rfl rfl)
theorem dX2_readsText_124 : decode cX2_readsText 124 = .ok (.invokevirtual 113, 3) := dk_182 0 113 (dk_at dksX2_readsText_5 5 rfl rfl)
theorem dX2_readsText_127 : decode cX2_readsText 127 = .ok (.pop, 1) := dk_87 (dk_at dksX2_readsText_5 8 rfl rfl)
theorem dX2_readsText_128 : decode cX2_readsText 128 = .ok (.aload_n 0, 1) := dk_42 (dk_at dksX2_readsText_5 9 rfl rfl)
theorem dX2_readsText_129 : decode cX2_readsText 129 = .ok (.getfield 26, 3) := dk_180 0 26 (dk_at dksX2_readsText_5 10 rfl rfl)
theorem dX2_readsText_132 : decode cX2_readsText 132 = .ok (.aload_n 0, 1) := dk_42 (dk_at dksX2_readsText_5 13 rfl rfl)
theorem dX2_readsText_133 : decode cX2_readsText 133 = .ok (.getfield 110, 3) := dk_180 0 110 (dk_at dksX2_readsText_5 14 rfl rfl)
theorem dX2_readsText_136 : decode cX2_readsText 136 = .ok (.iload_n 1, 1) := dk_27 (dk_at dksX2_readsText_5 17 rfl rfl)
theorem dX2_readsText_137 : decode cX2_readsText 137 = .ok (.ifCond .eq 7, 3) := dk_153 0 7 (dk_at dksX2_readsText_5 18 rfl rfl)
theorem dX2_readsText_140 : decode cX2_readsText 140 = .ok (.iload_n 2, 1) := dk_28 (dk_at dksX2_readsText_5 21 rfl rfl)
theorem dX2_readsText_141 : decode cX2_readsText 141 = .ok (.goto 7, 3) := dk_167 0 7 (dk_at dksX2_readsText_6 0 rfl rfl)
theorem dX2_readsText_144 : decode cX2_readsText 144 = .ok (.bipush 31, 2) := dk_16 31 (dk_at dksX2_readsText_6 3 rfl rfl)
theorem dX2_readsText_146 : decode cX2_readsText 146 = .ok (.iload_n 2, 1) := dk_28 (dk_at dksX2_readsText_6 5 rfl rfl)
theorem dX2_readsText_147 : decode cX2_readsText 147 = .ok (.iadd, 1) := dk_96 (dk_at dksX2_readsText_6 6 rfl rfl)
theorem dX2_readsText_148 : decode cX2_readsText 148 = .ok (.iastore, 1) := dk_79 (dk_at dksX2_readsText_6 7 rfl rfl)
theorem dX2_readsText_149 : decode cX2_readsText 149 = .ok (.aload_n 0, 1) := dk_42 (dk_at dksX2_readsText_6 8 rfl rfl)
theorem dX2_readsText_150 : decode cX2_readsText 150 = .ok (.dup, 1) := dk_89 (dk_at dksX2_readsText_6 9 rfl rfl)
theorem dX2_readsText_151 : decode cX2_readsText 151 = .ok (.getfield 110, 3) := dk_180 0 110 (dk_at dksX2_readsText_6 10 rfl rfl)
theorem dX2_readsText_154 : decode cX2_readsText 154 = .ok (.iconst 1, 1) := dk_4 (dk_at dksX2_readsText_6 13 rfl rfl)
theorem dX2_readsText_155 : decode cX2_readsText 155 = .ok (.iadd, 1) := dk_96 (dk_at dksX2_readsText_6 14 rfl rfl)
theorem dX2_readsText_156 : decode cX2_readsText 156 = .ok (.putfield 110, 3) := dk_181 0 110 (dk_at dksX2_readsText_6 15 rfl rfl)
theorem dX2_readsText_159 : decode cX2_readsText 159 = .ok (.goto (-139), 3) := dk_167 255 117 (dk_at dksX2_readsText_6 18 rfl rfl)
theorem dX2_readsText_162 : decode cX2_readsText 162 = .ok (.return_, 1) := dk_177 (dk_at dksX2_readsText_6 21 rfl rfl)
abbrev cX2_advances : ByteArray := prog_12_method_13_code
def yX2_advances : MethodName := ⟨RX2, "advances", "()V"⟩
def dkwX2_advances_9 : List UInt8 := [159, 0, 9, 27, 16, 107, 160, 0, 7, 4, 167, 0, 4, 7, 181, 0, 98, 177]
abbrev dktX2_advances_9 : List UInt8 := dkwX2_advances_9 ++ []
def dkwX2_advances_8 : List UInt8 := [181, 0, 89, 42, 27, 181, 0, 101, 42, 27, 16, 59, 160, 0, 7, 6, 167, 0, 20, 27, 16, 100]
abbrev dktX2_advances_8 : List UInt8 := dkwX2_advances_8 ++ dktX2_advances_9
def dkwX2_advances_7 : List UInt8 := [4, 164, 0, 7, 7, 167, 0, 4, 5, 181, 0, 98, 167, 0, 49, 42, 89, 180, 0, 89, 4, 96]
abbrev dktX2_advances_7 : List UInt8 := dkwX2_advances_7 ++ dktX2_advances_8
def dkwX2_advances_6 : List UInt8 := [42, 180, 0, 101, 16, 99, 163, 0, 22, 27, 16, 48, 160, 0, 20, 42, 180, 0, 89, 42, 180, 0, 95, 100]
abbrev dktX2_advances_6 : List UInt8 := dkwX2_advances_6 ++ dktX2_advances_7
def dkwX2_advances_5 : List UInt8 := [182, 0, 92, 96, 16, 48, 100, 181, 0, 101, 42, 89, 180, 0, 89, 4, 96, 181, 0, 89, 167, 255, 189, 42]
abbrev dktX2_advances_5 : List UInt8 := dkwX2_advances_5 ++ dktX2_advances_6
def dkwX2_advances_4 : List UInt8 := [16, 99, 164, 0, 10, 42, 180, 0, 101, 167, 0, 22, 16, 10, 42, 180, 0, 101, 104, 42, 42, 180, 0, 89]
abbrev dktX2_advances_4 : List UInt8 := dkwX2_advances_4 ++ dktX2_advances_5
def dkwX2_advances_3 : List UInt8 := [42, 42, 180, 0, 89, 182, 0, 92, 16, 48, 16, 57, 184, 0, 85, 153, 0, 55, 42, 42, 180, 0, 101]
abbrev dktX2_advances_3 : List UInt8 := dkwX2_advances_3 ++ dktX2_advances_4
def dkwX2_advances_2 : List UInt8 := [42, 3, 181, 0, 98, 167, 0, 175, 27, 16, 48, 16, 57, 184, 0, 85, 153, 0, 118, 42, 3, 181, 0, 101]
abbrev dktX2_advances_2 : List UInt8 := dkwX2_advances_2 ++ dktX2_advances_3
def dkwX2_advances_1 : List UInt8 := [167, 255, 233, 42, 42, 180, 0, 89, 181, 0, 95, 42, 42, 180, 0, 89, 182, 0, 92, 60, 27, 156, 0, 11]
abbrev dktX2_advances_1 : List UInt8 := dkwX2_advances_1 ++ dktX2_advances_2
def dkwX2_advances_0 : List UInt8 := [42, 42, 180, 0, 89, 182, 0, 92, 16, 32, 160, 0, 16, 42, 89, 180, 0, 89, 4, 96, 181, 0, 89]
abbrev dktX2_advances_0 : List UInt8 := dkwX2_advances_0 ++ dktX2_advances_1
theorem dksX2_advances_0 : cX2_advances.data.toList.drop 0 = dktX2_advances_0 := by decide +kernel
theorem dksX2_advances_1 : cX2_advances.data.toList.drop 23 = dktX2_advances_1 := dk_seg dksX2_advances_0 23 rfl rfl
theorem dksX2_advances_2 : cX2_advances.data.toList.drop 47 = dktX2_advances_2 := dk_seg dksX2_advances_1 24 rfl rfl
theorem dksX2_advances_3 : cX2_advances.data.toList.drop 71 = dktX2_advances_3 := dk_seg dksX2_advances_2 24 rfl rfl
theorem dksX2_advances_4 : cX2_advances.data.toList.drop 94 = dktX2_advances_4 := dk_seg dksX2_advances_3 23 rfl rfl
theorem dksX2_advances_5 : cX2_advances.data.toList.drop 118 = dktX2_advances_5 := dk_seg dksX2_advances_4 24 rfl rfl
theorem dksX2_advances_6 : cX2_advances.data.toList.drop 142 = dktX2_advances_6 := dk_seg dksX2_advances_5 24 rfl rfl
theorem dksX2_advances_7 : cX2_advances.data.toList.drop 166 = dktX2_advances_7 := dk_seg dksX2_advances_6 24 rfl rfl
theorem dksX2_advances_8 : cX2_advances.data.toList.drop 188 = dktX2_advances_8 := dk_seg dksX2_advances_7 22 rfl rfl
theorem dksX2_advances_9 : cX2_advances.data.toList.drop 210 = dktX2_advances_9 := dk_seg dksX2_advances_8 22 rfl rfl
theorem dX2_advances_0 : decode cX2_advances 0 = .ok (.aload_n 0, 1) := dk_42 (dk_at dksX2_advances_0 0 rfl rfl)
theorem dX2_advances_1 : decode cX2_advances 1 = .ok (.aload_n 0, 1) := dk_42 (dk_at dksX2_advances_0 1 rfl rfl)
theorem dX2_advances_2 : decode cX2_advances 2 = .ok (.getfield 89, 3) := dk_180 0 89 (dk_at dksX2_advances_0 2 rfl rfl)
theorem dX2_advances_5 : decode cX2_advances 5 = .ok (.invokevirtual 92, 3) := dk_182 0 92 (dk_at dksX2_advances_0 5 rfl rfl)
theorem dX2_advances_8 : decode cX2_advances 8 = .ok (.bipush 32, 2) := dk_16 32 (dk_at dksX2_advances_0 8 rfl rfl)
theorem dX2_advances_10 : decode cX2_advances 10 = .ok (.if_icmp .ne 16, 3) := dk_160 0 16 (dk_at dksX2_advances_0 10 rfl rfl)
theorem dX2_advances_13 : decode cX2_advances 13 = .ok (.aload_n 0, 1) := dk_42 (dk_at dksX2_advances_0 13 rfl rfl)
theorem dX2_advances_14 : decode cX2_advances 14 = .ok (.dup, 1) := dk_89 (dk_at dksX2_advances_0 14 rfl rfl)
theorem dX2_advances_15 : decode cX2_advances 15 = .ok (.getfield 89, 3) := dk_180 0 89 (dk_at dksX2_advances_0 15 rfl rfl)
theorem dX2_advances_18 : decode cX2_advances 18 = .ok (.iconst 1, 1) := dk_4 (dk_at dksX2_advances_0 18 rfl rfl)
theorem dX2_advances_19 : decode cX2_advances 19 = .ok (.iadd, 1) := dk_96 (dk_at dksX2_advances_0 19 rfl rfl)
theorem dX2_advances_20 : decode cX2_advances 20 = .ok (.putfield 89, 3) := dk_181 0 89 (dk_at dksX2_advances_0 20 rfl rfl)
theorem dX2_advances_23 : decode cX2_advances 23 = .ok (.goto (-23), 3) := dk_167 255 233 (dk_at dksX2_advances_1 0 rfl rfl)
theorem dX2_advances_26 : decode cX2_advances 26 = .ok (.aload_n 0, 1) := dk_42 (dk_at dksX2_advances_1 3 rfl rfl)
theorem dX2_advances_27 : decode cX2_advances 27 = .ok (.aload_n 0, 1) := dk_42 (dk_at dksX2_advances_1 4 rfl rfl)
theorem dX2_advances_28 : decode cX2_advances 28 = .ok (.getfield 89, 3) := dk_180 0 89 (dk_at dksX2_advances_1 5 rfl rfl)
theorem dX2_advances_31 : decode cX2_advances 31 = .ok (.putfield 95, 3) := dk_181 0 95 (dk_at dksX2_advances_1 8 rfl rfl)
theorem dX2_advances_34 : decode cX2_advances 34 = .ok (.aload_n 0, 1) := dk_42 (dk_at dksX2_advances_1 11 rfl rfl)
theorem dX2_advances_35 : decode cX2_advances 35 = .ok (.aload_n 0, 1) := dk_42 (dk_at dksX2_advances_1 12 rfl rfl)
theorem dX2_advances_36 : decode cX2_advances 36 = .ok (.getfield 89, 3) := dk_180 0 89 (dk_at dksX2_advances_1 13 rfl rfl)
theorem dX2_advances_39 : decode cX2_advances 39 = .ok (.invokevirtual 92, 3) := dk_182 0 92 (dk_at dksX2_advances_1 16 rfl rfl)
theorem dX2_advances_42 : decode cX2_advances 42 = .ok (.istore_n 1, 1) := dk_60 (dk_at dksX2_advances_1 19 rfl rfl)
theorem dX2_advances_43 : decode cX2_advances 43 = .ok (.iload_n 1, 1) := dk_27 (dk_at dksX2_advances_1 20 rfl rfl)
theorem dX2_advances_44 : decode cX2_advances 44 = .ok (.ifCond .ge 11, 3) := dk_156 0 11 (dk_at dksX2_advances_1 21 rfl rfl)
theorem dX2_advances_47 : decode cX2_advances 47 = .ok (.aload_n 0, 1) := dk_42 (dk_at dksX2_advances_2 0 rfl rfl)
theorem dX2_advances_48 : decode cX2_advances 48 = .ok (.iconst 0, 1) := dk_3 (dk_at dksX2_advances_2 1 rfl rfl)
theorem dX2_advances_49 : decode cX2_advances 49 = .ok (.putfield 98, 3) := dk_181 0 98 (dk_at dksX2_advances_2 2 rfl rfl)
theorem dX2_advances_52 : decode cX2_advances 52 = .ok (.goto 175, 3) := dk_167 0 175 (dk_at dksX2_advances_2 5 rfl rfl)
theorem dX2_advances_55 : decode cX2_advances 55 = .ok (.iload_n 1, 1) := dk_27 (dk_at dksX2_advances_2 8 rfl rfl)
theorem dX2_advances_56 : decode cX2_advances 56 = .ok (.bipush 48, 2) := dk_16 48 (dk_at dksX2_advances_2 9 rfl rfl)
theorem dX2_advances_58 : decode cX2_advances 58 = .ok (.bipush 57, 2) := dk_16 57 (dk_at dksX2_advances_2 11 rfl rfl)
theorem dX2_advances_60 : decode cX2_advances 60 = .ok (.invokestatic 85, 3) := dk_184 0 85 (dk_at dksX2_advances_2 13 rfl rfl)
theorem dX2_advances_63 : decode cX2_advances 63 = .ok (.ifCond .eq 118, 3) := dk_153 0 118 (dk_at dksX2_advances_2 16 rfl rfl)
theorem dX2_advances_66 : decode cX2_advances 66 = .ok (.aload_n 0, 1) := dk_42 (dk_at dksX2_advances_2 19 rfl rfl)
theorem dX2_advances_67 : decode cX2_advances 67 = .ok (.iconst 0, 1) := dk_3 (dk_at dksX2_advances_2 20 rfl rfl)
theorem dX2_advances_68 : decode cX2_advances 68 = .ok (.putfield 101, 3) := dk_181 0 101 (dk_at dksX2_advances_2 21 rfl rfl)
theorem dX2_advances_71 : decode cX2_advances 71 = .ok (.aload_n 0, 1) := dk_42 (dk_at dksX2_advances_3 0 rfl rfl)
theorem dX2_advances_72 : decode cX2_advances 72 = .ok (.aload_n 0, 1) := dk_42 (dk_at dksX2_advances_3 1 rfl rfl)
theorem dX2_advances_73 : decode cX2_advances 73 = .ok (.getfield 89, 3) := dk_180 0 89 (dk_at dksX2_advances_3 2 rfl rfl)
theorem dX2_advances_76 : decode cX2_advances 76 = .ok (.invokevirtual 92, 3) := dk_182 0 92 (dk_at dksX2_advances_3 5 rfl rfl)
theorem dX2_advances_79 : decode cX2_advances 79 = .ok (.bipush 48, 2) := dk_16 48 (dk_at dksX2_advances_3 8 rfl rfl)
theorem dX2_advances_81 : decode cX2_advances 81 = .ok (.bipush 57, 2) := dk_16 57 (dk_at dksX2_advances_3 10 rfl rfl)
theorem dX2_advances_83 : decode cX2_advances 83 = .ok (.invokestatic 85, 3) := dk_184 0 85 (dk_at dksX2_advances_3 12 rfl rfl)
theorem dX2_advances_86 : decode cX2_advances 86 = .ok (.ifCond .eq 55, 3) := dk_153 0 55 (dk_at dksX2_advances_3 15 rfl rfl)
theorem dX2_advances_89 : decode cX2_advances 89 = .ok (.aload_n 0, 1) := dk_42 (dk_at dksX2_advances_3 18 rfl rfl)
theorem dX2_advances_90 : decode cX2_advances 90 = .ok (.aload_n 0, 1) := dk_42 (dk_at dksX2_advances_3 19 rfl rfl)
theorem dX2_advances_91 : decode cX2_advances 91 = .ok (.getfield 101, 3) := dk_180 0 101 (dk_at dksX2_advances_3 20 rfl rfl)
theorem dX2_advances_94 : decode cX2_advances 94 = .ok (.bipush 99, 2) := dk_16 99 (dk_at dksX2_advances_4 0 rfl rfl)
theorem dX2_advances_96 : decode cX2_advances 96 = .ok (.if_icmp .le 10, 3) := dk_164 0 10 (dk_at dksX2_advances_4 2 rfl rfl)
theorem dX2_advances_99 : decode cX2_advances 99 = .ok (.aload_n 0, 1) := dk_42 (dk_at dksX2_advances_4 5 rfl rfl)
theorem dX2_advances_100 : decode cX2_advances 100 = .ok (.getfield 101, 3) := dk_180 0 101 (dk_at dksX2_advances_4 6 rfl rfl)
theorem dX2_advances_103 : decode cX2_advances 103 = .ok (.goto 22, 3) := dk_167 0 22 (dk_at dksX2_advances_4 9 rfl rfl)
theorem dX2_advances_106 : decode cX2_advances 106 = .ok (.bipush 10, 2) := dk_16 10 (dk_at dksX2_advances_4 12 rfl rfl)
theorem dX2_advances_108 : decode cX2_advances 108 = .ok (.aload_n 0, 1) := dk_42 (dk_at dksX2_advances_4 14 rfl rfl)
theorem dX2_advances_109 : decode cX2_advances 109 = .ok (.getfield 101, 3) := dk_180 0 101 (dk_at dksX2_advances_4 15 rfl rfl)
theorem dX2_advances_112 : decode cX2_advances 112 = .ok (.imul, 1) := dk_104 (dk_at dksX2_advances_4 18 rfl rfl)
theorem dX2_advances_113 : decode cX2_advances 113 = .ok (.aload_n 0, 1) := dk_42 (dk_at dksX2_advances_4 19 rfl rfl)
theorem dX2_advances_114 : decode cX2_advances 114 = .ok (.aload_n 0, 1) := dk_42 (dk_at dksX2_advances_4 20 rfl rfl)
theorem dX2_advances_115 : decode cX2_advances 115 = .ok (.getfield 89, 3) := dk_180 0 89 (dk_at dksX2_advances_4 21 rfl rfl)
theorem dX2_advances_118 : decode cX2_advances 118 = .ok (.invokevirtual 92, 3) := dk_182 0 92 (dk_at dksX2_advances_5 0 rfl rfl)
theorem dX2_advances_121 : decode cX2_advances 121 = .ok (.iadd, 1) := dk_96 (dk_at dksX2_advances_5 3 rfl rfl)
theorem dX2_advances_122 : decode cX2_advances 122 = .ok (.bipush 48, 2) := dk_16 48 (dk_at dksX2_advances_5 4 rfl rfl)
theorem dX2_advances_124 : decode cX2_advances 124 = .ok (.isub, 1) := dk_100 (dk_at dksX2_advances_5 6 rfl rfl)
theorem dX2_advances_125 : decode cX2_advances 125 = .ok (.putfield 101, 3) := dk_181 0 101 (dk_at dksX2_advances_5 7 rfl rfl)
theorem dX2_advances_128 : decode cX2_advances 128 = .ok (.aload_n 0, 1) := dk_42 (dk_at dksX2_advances_5 10 rfl rfl)
theorem dX2_advances_129 : decode cX2_advances 129 = .ok (.dup, 1) := dk_89 (dk_at dksX2_advances_5 11 rfl rfl)
theorem dX2_advances_130 : decode cX2_advances 130 = .ok (.getfield 89, 3) := dk_180 0 89 (dk_at dksX2_advances_5 12 rfl rfl)
theorem dX2_advances_133 : decode cX2_advances 133 = .ok (.iconst 1, 1) := dk_4 (dk_at dksX2_advances_5 15 rfl rfl)
theorem dX2_advances_134 : decode cX2_advances 134 = .ok (.iadd, 1) := dk_96 (dk_at dksX2_advances_5 16 rfl rfl)
theorem dX2_advances_135 : decode cX2_advances 135 = .ok (.putfield 89, 3) := dk_181 0 89 (dk_at dksX2_advances_5 17 rfl rfl)
theorem dX2_advances_138 : decode cX2_advances 138 = .ok (.goto (-67), 3) := dk_167 255 189 (dk_at dksX2_advances_5 20 rfl rfl)
theorem dX2_advances_141 : decode cX2_advances 141 = .ok (.aload_n 0, 1) := dk_42 (dk_at dksX2_advances_5 23 rfl rfl)
theorem dX2_advances_142 : decode cX2_advances 142 = .ok (.aload_n 0, 1) := dk_42 (dk_at dksX2_advances_6 0 rfl rfl)
theorem dX2_advances_143 : decode cX2_advances 143 = .ok (.getfield 101, 3) := dk_180 0 101 (dk_at dksX2_advances_6 1 rfl rfl)
theorem dX2_advances_146 : decode cX2_advances 146 = .ok (.bipush 99, 2) := dk_16 99 (dk_at dksX2_advances_6 4 rfl rfl)
theorem dX2_advances_148 : decode cX2_advances 148 = .ok (.if_icmp .gt 22, 3) := dk_163 0 22 (dk_at dksX2_advances_6 6 rfl rfl)
theorem dX2_advances_151 : decode cX2_advances 151 = .ok (.iload_n 1, 1) := dk_27 (dk_at dksX2_advances_6 9 rfl rfl)
theorem dX2_advances_152 : decode cX2_advances 152 = .ok (.bipush 48, 2) := dk_16 48 (dk_at dksX2_advances_6 10 rfl rfl)
theorem dX2_advances_154 : decode cX2_advances 154 = .ok (.if_icmp .ne 20, 3) := dk_160 0 20 (dk_at dksX2_advances_6 12 rfl rfl)
theorem dX2_advances_157 : decode cX2_advances 157 = .ok (.aload_n 0, 1) := dk_42 (dk_at dksX2_advances_6 15 rfl rfl)
theorem dX2_advances_158 : decode cX2_advances 158 = .ok (.getfield 89, 3) := dk_180 0 89 (dk_at dksX2_advances_6 16 rfl rfl)
theorem dX2_advances_161 : decode cX2_advances 161 = .ok (.aload_n 0, 1) := dk_42 (dk_at dksX2_advances_6 19 rfl rfl)
theorem dX2_advances_162 : decode cX2_advances 162 = .ok (.getfield 95, 3) := dk_180 0 95 (dk_at dksX2_advances_6 20 rfl rfl)
theorem dX2_advances_165 : decode cX2_advances 165 = .ok (.isub, 1) := dk_100 (dk_at dksX2_advances_6 23 rfl rfl)
theorem dX2_advances_166 : decode cX2_advances 166 = .ok (.iconst 1, 1) := dk_4 (dk_at dksX2_advances_7 0 rfl rfl)
theorem dX2_advances_167 : decode cX2_advances 167 = .ok (.if_icmp .le 7, 3) := dk_164 0 7 (dk_at dksX2_advances_7 1 rfl rfl)
theorem dX2_advances_170 : decode cX2_advances 170 = .ok (.iconst 4, 1) := dk_7 (dk_at dksX2_advances_7 4 rfl rfl)
theorem dX2_advances_171 : decode cX2_advances 171 = .ok (.goto 4, 3) := dk_167 0 4 (dk_at dksX2_advances_7 5 rfl rfl)
theorem dX2_advances_174 : decode cX2_advances 174 = .ok (.iconst 2, 1) := dk_5 (dk_at dksX2_advances_7 8 rfl rfl)
theorem dX2_advances_175 : decode cX2_advances 175 = .ok (.putfield 98, 3) := dk_181 0 98 (dk_at dksX2_advances_7 9 rfl rfl)
theorem dX2_advances_178 : decode cX2_advances 178 = .ok (.goto 49, 3) := dk_167 0 49 (dk_at dksX2_advances_7 12 rfl rfl)
theorem dX2_advances_181 : decode cX2_advances 181 = .ok (.aload_n 0, 1) := dk_42 (dk_at dksX2_advances_7 15 rfl rfl)
theorem dX2_advances_182 : decode cX2_advances 182 = .ok (.dup, 1) := dk_89 (dk_at dksX2_advances_7 16 rfl rfl)
theorem dX2_advances_183 : decode cX2_advances 183 = .ok (.getfield 89, 3) := dk_180 0 89 (dk_at dksX2_advances_7 17 rfl rfl)
theorem dX2_advances_186 : decode cX2_advances 186 = .ok (.iconst 1, 1) := dk_4 (dk_at dksX2_advances_7 20 rfl rfl)
theorem dX2_advances_187 : decode cX2_advances 187 = .ok (.iadd, 1) := dk_96 (dk_at dksX2_advances_7 21 rfl rfl)
theorem dX2_advances_188 : decode cX2_advances 188 = .ok (.putfield 89, 3) := dk_181 0 89 (dk_at dksX2_advances_8 0 rfl rfl)
theorem dX2_advances_191 : decode cX2_advances 191 = .ok (.aload_n 0, 1) := dk_42 (dk_at dksX2_advances_8 3 rfl rfl)
theorem dX2_advances_192 : decode cX2_advances 192 = .ok (.iload_n 1, 1) := dk_27 (dk_at dksX2_advances_8 4 rfl rfl)
theorem dX2_advances_193 : decode cX2_advances 193 = .ok (.putfield 101, 3) := dk_181 0 101 (dk_at dksX2_advances_8 5 rfl rfl)
theorem dX2_advances_196 : decode cX2_advances 196 = .ok (.aload_n 0, 1) := dk_42 (dk_at dksX2_advances_8 8 rfl rfl)
theorem dX2_advances_197 : decode cX2_advances 197 = .ok (.iload_n 1, 1) := dk_27 (dk_at dksX2_advances_8 9 rfl rfl)
theorem dX2_advances_198 : decode cX2_advances 198 = .ok (.bipush 59, 2) := dk_16 59 (dk_at dksX2_advances_8 10 rfl rfl)
theorem dX2_advances_200 : decode cX2_advances 200 = .ok (.if_icmp .ne 7, 3) := dk_160 0 7 (dk_at dksX2_advances_8 12 rfl rfl)
theorem dX2_advances_203 : decode cX2_advances 203 = .ok (.iconst 3, 1) := dk_6 (dk_at dksX2_advances_8 15 rfl rfl)
theorem dX2_advances_204 : decode cX2_advances 204 = .ok (.goto 20, 3) := dk_167 0 20 (dk_at dksX2_advances_8 16 rfl rfl)
theorem dX2_advances_207 : decode cX2_advances 207 = .ok (.iload_n 1, 1) := dk_27 (dk_at dksX2_advances_8 19 rfl rfl)
theorem dX2_advances_208 : decode cX2_advances 208 = .ok (.bipush 100, 2) := dk_16 100 (dk_at dksX2_advances_8 20 rfl rfl)
theorem dX2_advances_210 : decode cX2_advances 210 = .ok (.if_icmp .eq 9, 3) := dk_159 0 9 (dk_at dksX2_advances_9 0 rfl rfl)
theorem dX2_advances_213 : decode cX2_advances 213 = .ok (.iload_n 1, 1) := dk_27 (dk_at dksX2_advances_9 3 rfl rfl)
theorem dX2_advances_214 : decode cX2_advances 214 = .ok (.bipush 107, 2) := dk_16 107 (dk_at dksX2_advances_9 4 rfl rfl)
theorem dX2_advances_216 : decode cX2_advances 216 = .ok (.if_icmp .ne 7, 3) := dk_160 0 7 (dk_at dksX2_advances_9 6 rfl rfl)
theorem dX2_advances_219 : decode cX2_advances 219 = .ok (.iconst 1, 1) := dk_4 (dk_at dksX2_advances_9 9 rfl rfl)
theorem dX2_advances_220 : decode cX2_advances 220 = .ok (.goto 4, 3) := dk_167 0 4 (dk_at dksX2_advances_9 10 rfl rfl)
theorem dX2_advances_223 : decode cX2_advances 223 = .ok (.iconst 4, 1) := dk_7 (dk_at dksX2_advances_9 13 rfl rfl)
theorem dX2_advances_224 : decode cX2_advances 224 = .ok (.putfield 98, 3) := dk_181 0 98 (dk_at dksX2_advances_9 14 rfl rfl)
theorem dX2_advances_227 : decode cX2_advances 227 = .ok (.return_, 1) := dk_177 (dk_at dksX2_advances_9 17 rfl rfl)
abbrev cX2_letterAt : ByteArray := prog_12_method_10_code
def yX2_letterAt : MethodName := ⟨RX2, "letterAt", "(I)I"⟩
def dkwX2_letterAt_0 : List UInt8 := [27, 42, 180, 0, 82, 162, 0, 12, 42, 180, 0, 23, 27, 46, 167, 0, 4, 2, 172]
abbrev dktX2_letterAt_0 : List UInt8 := dkwX2_letterAt_0 ++ []
theorem dksX2_letterAt_0 : cX2_letterAt.data.toList.drop 0 = dktX2_letterAt_0 := by decide +kernel
theorem dX2_letterAt_0 : decode cX2_letterAt 0 = .ok (.iload_n 1, 1) := dk_27 (dk_at dksX2_letterAt_0 0 rfl rfl)
theorem dX2_letterAt_1 : decode cX2_letterAt 1 = .ok (.aload_n 0, 1) := dk_42 (dk_at dksX2_letterAt_0 1 rfl rfl)
theorem dX2_letterAt_2 : decode cX2_letterAt 2 = .ok (.getfield 82, 3) := dk_180 0 82 (dk_at dksX2_letterAt_0 2 rfl rfl)
theorem dX2_letterAt_5 : decode cX2_letterAt 5 = .ok (.if_icmp .ge 12, 3) := dk_162 0 12 (dk_at dksX2_letterAt_0 5 rfl rfl)
theorem dX2_letterAt_8 : decode cX2_letterAt 8 = .ok (.aload_n 0, 1) := dk_42 (dk_at dksX2_letterAt_0 8 rfl rfl)
theorem dX2_letterAt_9 : decode cX2_letterAt 9 = .ok (.getfield 23, 3) := dk_180 0 23 (dk_at dksX2_letterAt_0 9 rfl rfl)
theorem dX2_letterAt_12 : decode cX2_letterAt 12 = .ok (.iload_n 1, 1) := dk_27 (dk_at dksX2_letterAt_0 12 rfl rfl)
theorem dX2_letterAt_13 : decode cX2_letterAt 13 = .ok (.iaload, 1) := dk_46 (dk_at dksX2_letterAt_0 13 rfl rfl)
theorem dX2_letterAt_14 : decode cX2_letterAt 14 = .ok (.goto 4, 3) := dk_167 0 4 (dk_at dksX2_letterAt_0 14 rfl rfl)
theorem dX2_letterAt_17 : decode cX2_letterAt 17 = .ok (.iconst (-1), 1) := dk_2 (dk_at dksX2_letterAt_0 17 rfl rfl)
theorem dX2_letterAt_18 : decode cX2_letterAt 18 = .ok (.ireturn, 1) := dk_172 (dk_at dksX2_letterAt_0 18 rfl rfl)
abbrev cX2_takes : ByteArray := prog_12_method_14_code
def yX2_takes : MethodName := ⟨RX2, "takes", "(Z)I"⟩
def dkwX2_takes_1 : List UInt8 := [167, 0, 11, 42, 42, 180, 0, 95, 181, 0, 104, 28, 172]
abbrev dktX2_takes_1 : List UInt8 := dkwX2_takes_1 ++ []
def dkwX2_takes_0 : List UInt8 := [42, 180, 0, 101, 61, 42, 180, 0, 104, 16, 247, 160, 0, 22, 27, 153, 0, 10, 42, 182, 0, 107]
abbrev dktX2_takes_0 : List UInt8 := dkwX2_takes_0 ++ dktX2_takes_1
theorem dksX2_takes_0 : cX2_takes.data.toList.drop 0 = dktX2_takes_0 := by decide +kernel
theorem dksX2_takes_1 : cX2_takes.data.toList.drop 22 = dktX2_takes_1 := dk_seg dksX2_takes_0 22 rfl rfl
theorem dX2_takes_0 : decode cX2_takes 0 = .ok (.aload_n 0, 1) := dk_42 (dk_at dksX2_takes_0 0 rfl rfl)
theorem dX2_takes_1 : decode cX2_takes 1 = .ok (.getfield 101, 3) := dk_180 0 101 (dk_at dksX2_takes_0 1 rfl rfl)
theorem dX2_takes_4 : decode cX2_takes 4 = .ok (.istore_n 2, 1) := dk_61 (dk_at dksX2_takes_0 4 rfl rfl)
theorem dX2_takes_5 : decode cX2_takes 5 = .ok (.aload_n 0, 1) := dk_42 (dk_at dksX2_takes_0 5 rfl rfl)
theorem dX2_takes_6 : decode cX2_takes 6 = .ok (.getfield 104, 3) := dk_180 0 104 (dk_at dksX2_takes_0 6 rfl rfl)
theorem dX2_takes_9 : decode cX2_takes 9 = .ok (.bipush (-9), 2) := dk_16 247 (dk_at dksX2_takes_0 9 rfl rfl)
theorem dX2_takes_11 : decode cX2_takes 11 = .ok (.if_icmp .ne 22, 3) := dk_160 0 22 (dk_at dksX2_takes_0 11 rfl rfl)
theorem dX2_takes_14 : decode cX2_takes 14 = .ok (.iload_n 1, 1) := dk_27 (dk_at dksX2_takes_0 14 rfl rfl)
theorem dX2_takes_15 : decode cX2_takes 15 = .ok (.ifCond .eq 10, 3) := dk_153 0 10 (dk_at dksX2_takes_0 15 rfl rfl)
theorem dX2_takes_18 : decode cX2_takes 18 = .ok (.aload_n 0, 1) := dk_42 (dk_at dksX2_takes_0 18 rfl rfl)
theorem dX2_takes_19 : decode cX2_takes 19 = .ok (.invokevirtual 107, 3) := dk_182 0 107 (dk_at dksX2_takes_0 19 rfl rfl)
theorem dX2_takes_22 : decode cX2_takes 22 = .ok (.goto 11, 3) := dk_167 0 11 (dk_at dksX2_takes_1 0 rfl rfl)
theorem dX2_takes_25 : decode cX2_takes 25 = .ok (.aload_n 0, 1) := dk_42 (dk_at dksX2_takes_1 3 rfl rfl)
theorem dX2_takes_26 : decode cX2_takes 26 = .ok (.aload_n 0, 1) := dk_42 (dk_at dksX2_takes_1 4 rfl rfl)
theorem dX2_takes_27 : decode cX2_takes 27 = .ok (.getfield 95, 3) := dk_180 0 95 (dk_at dksX2_takes_1 5 rfl rfl)
theorem dX2_takes_30 : decode cX2_takes 30 = .ok (.putfield 104, 3) := dk_181 0 104 (dk_at dksX2_takes_1 8 rfl rfl)
theorem dX2_takes_33 : decode cX2_takes 33 = .ok (.iload_n 2, 1) := dk_28 (dk_at dksX2_takes_1 11 rfl rfl)
theorem dX2_takes_34 : decode cX2_takes 34 = .ok (.ireturn, 1) := dk_172 (dk_at dksX2_takes_1 12 rfl rfl)
abbrev cX2_notes : ByteArray := prog_12_method_17_code
def yX2_notes : MethodName := ⟨RX2, "notes", "()V"⟩
def dkwX2_notes_4 : List UInt8 := [181, 0, 126, 177]
abbrev dktX2_notes_4 : List UInt8 := dkwX2_notes_4 ++ []
def dkwX2_notes_3 : List UInt8 := [27, 96, 42, 180, 0, 7, 27, 46, 79, 132, 1, 1, 167, 255, 225, 42, 89, 180, 0, 126, 4, 96]
abbrev dktX2_notes_3 : List UInt8 := dkwX2_notes_3 ++ dktX2_notes_4
def dkwX2_notes_2 : List UInt8 := [181, 0, 126, 3, 60, 27, 17, 0, 228, 162, 0, 30, 42, 180, 0, 13, 17, 0, 228, 42, 180, 0, 126, 104]
abbrev dktX2_notes_2 : List UInt8 := dkwX2_notes_2 ++ dktX2_notes_3
def dkwX2_notes_1 : List UInt8 := [180, 0, 13, 17, 0, 228, 27, 96, 46, 79, 132, 1, 1, 167, 255, 230, 42, 89, 180, 0, 126, 4, 100]
abbrev dktX2_notes_1 : List UInt8 := dkwX2_notes_1 ++ dktX2_notes_2
def dkwX2_notes_0 : List UInt8 := [42, 180, 0, 126, 16, 6, 160, 0, 44, 3, 60, 27, 17, 4, 116, 162, 0, 25, 42, 180, 0, 13, 27, 42]
abbrev dktX2_notes_0 : List UInt8 := dkwX2_notes_0 ++ dktX2_notes_1
theorem dksX2_notes_0 : cX2_notes.data.toList.drop 0 = dktX2_notes_0 := by decide +kernel
theorem dksX2_notes_1 : cX2_notes.data.toList.drop 24 = dktX2_notes_1 := dk_seg dksX2_notes_0 24 rfl rfl
theorem dksX2_notes_2 : cX2_notes.data.toList.drop 47 = dktX2_notes_2 := dk_seg dksX2_notes_1 23 rfl rfl
theorem dksX2_notes_3 : cX2_notes.data.toList.drop 71 = dktX2_notes_3 := dk_seg dksX2_notes_2 24 rfl rfl
theorem dksX2_notes_4 : cX2_notes.data.toList.drop 93 = dktX2_notes_4 := dk_seg dksX2_notes_3 22 rfl rfl
theorem dX2_notes_0 : decode cX2_notes 0 = .ok (.aload_n 0, 1) := dk_42 (dk_at dksX2_notes_0 0 rfl rfl)
theorem dX2_notes_1 : decode cX2_notes 1 = .ok (.getfield 126, 3) := dk_180 0 126 (dk_at dksX2_notes_0 1 rfl rfl)
theorem dX2_notes_4 : decode cX2_notes 4 = .ok (.bipush 6, 2) := dk_16 6 (dk_at dksX2_notes_0 4 rfl rfl)
theorem dX2_notes_6 : decode cX2_notes 6 = .ok (.if_icmp .ne 44, 3) := dk_160 0 44 (dk_at dksX2_notes_0 6 rfl rfl)
theorem dX2_notes_9 : decode cX2_notes 9 = .ok (.iconst 0, 1) := dk_3 (dk_at dksX2_notes_0 9 rfl rfl)
theorem dX2_notes_10 : decode cX2_notes 10 = .ok (.istore_n 1, 1) := dk_60 (dk_at dksX2_notes_0 10 rfl rfl)
theorem dX2_notes_11 : decode cX2_notes 11 = .ok (.iload_n 1, 1) := dk_27 (dk_at dksX2_notes_0 11 rfl rfl)
theorem dX2_notes_12 : decode cX2_notes 12 = .ok (.sipush 1140, 3) := dk_17 4 116 (dk_at dksX2_notes_0 12 rfl rfl)
theorem dX2_notes_15 : decode cX2_notes 15 = .ok (.if_icmp .ge 25, 3) := dk_162 0 25 (dk_at dksX2_notes_0 15 rfl rfl)
theorem dX2_notes_18 : decode cX2_notes 18 = .ok (.aload_n 0, 1) := dk_42 (dk_at dksX2_notes_0 18 rfl rfl)
theorem dX2_notes_19 : decode cX2_notes 19 = .ok (.getfield 13, 3) := dk_180 0 13 (dk_at dksX2_notes_0 19 rfl rfl)
theorem dX2_notes_22 : decode cX2_notes 22 = .ok (.iload_n 1, 1) := dk_27 (dk_at dksX2_notes_0 22 rfl rfl)
theorem dX2_notes_23 : decode cX2_notes 23 = .ok (.aload_n 0, 1) := dk_42 (dk_at dksX2_notes_0 23 rfl rfl)
theorem dX2_notes_24 : decode cX2_notes 24 = .ok (.getfield 13, 3) := dk_180 0 13 (dk_at dksX2_notes_1 0 rfl rfl)
theorem dX2_notes_27 : decode cX2_notes 27 = .ok (.sipush 228, 3) := dk_17 0 228 (dk_at dksX2_notes_1 3 rfl rfl)
theorem dX2_notes_30 : decode cX2_notes 30 = .ok (.iload_n 1, 1) := dk_27 (dk_at dksX2_notes_1 6 rfl rfl)
theorem dX2_notes_31 : decode cX2_notes 31 = .ok (.iadd, 1) := dk_96 (dk_at dksX2_notes_1 7 rfl rfl)
theorem dX2_notes_32 : decode cX2_notes 32 = .ok (.iaload, 1) := dk_46 (dk_at dksX2_notes_1 8 rfl rfl)
theorem dX2_notes_33 : decode cX2_notes 33 = .ok (.iastore, 1) := dk_79 (dk_at dksX2_notes_1 9 rfl rfl)
theorem dX2_notes_34 : decode cX2_notes 34 = .ok (.iinc 1 1, 3) := dk_132 1 1 (dk_at dksX2_notes_1 10 rfl rfl)
theorem dX2_notes_37 : decode cX2_notes 37 = .ok (.goto (-26), 3) := dk_167 255 230 (dk_at dksX2_notes_1 13 rfl rfl)
theorem dX2_notes_40 : decode cX2_notes 40 = .ok (.aload_n 0, 1) := dk_42 (dk_at dksX2_notes_1 16 rfl rfl)
theorem dX2_notes_41 : decode cX2_notes 41 = .ok (.dup, 1) := dk_89 (dk_at dksX2_notes_1 17 rfl rfl)
theorem dX2_notes_42 : decode cX2_notes 42 = .ok (.getfield 126, 3) := dk_180 0 126 (dk_at dksX2_notes_1 18 rfl rfl)
theorem dX2_notes_45 : decode cX2_notes 45 = .ok (.iconst 1, 1) := dk_4 (dk_at dksX2_notes_1 21 rfl rfl)
theorem dX2_notes_46 : decode cX2_notes 46 = .ok (.isub, 1) := dk_100 (dk_at dksX2_notes_1 22 rfl rfl)
theorem dX2_notes_47 : decode cX2_notes 47 = .ok (.putfield 126, 3) := dk_181 0 126 (dk_at dksX2_notes_2 0 rfl rfl)
theorem dX2_notes_50 : decode cX2_notes 50 = .ok (.iconst 0, 1) := dk_3 (dk_at dksX2_notes_2 3 rfl rfl)
theorem dX2_notes_51 : decode cX2_notes 51 = .ok (.istore_n 1, 1) := dk_60 (dk_at dksX2_notes_2 4 rfl rfl)
theorem dX2_notes_52 : decode cX2_notes 52 = .ok (.iload_n 1, 1) := dk_27 (dk_at dksX2_notes_2 5 rfl rfl)
theorem dX2_notes_53 : decode cX2_notes 53 = .ok (.sipush 228, 3) := dk_17 0 228 (dk_at dksX2_notes_2 6 rfl rfl)
theorem dX2_notes_56 : decode cX2_notes 56 = .ok (.if_icmp .ge 30, 3) := dk_162 0 30 (dk_at dksX2_notes_2 9 rfl rfl)
theorem dX2_notes_59 : decode cX2_notes 59 = .ok (.aload_n 0, 1) := dk_42 (dk_at dksX2_notes_2 12 rfl rfl)
theorem dX2_notes_60 : decode cX2_notes 60 = .ok (.getfield 13, 3) := dk_180 0 13 (dk_at dksX2_notes_2 13 rfl rfl)
theorem dX2_notes_63 : decode cX2_notes 63 = .ok (.sipush 228, 3) := dk_17 0 228 (dk_at dksX2_notes_2 16 rfl rfl)
theorem dX2_notes_66 : decode cX2_notes 66 = .ok (.aload_n 0, 1) := dk_42 (dk_at dksX2_notes_2 19 rfl rfl)
theorem dX2_notes_67 : decode cX2_notes 67 = .ok (.getfield 126, 3) := dk_180 0 126 (dk_at dksX2_notes_2 20 rfl rfl)
theorem dX2_notes_70 : decode cX2_notes 70 = .ok (.imul, 1) := dk_104 (dk_at dksX2_notes_2 23 rfl rfl)
theorem dX2_notes_71 : decode cX2_notes 71 = .ok (.iload_n 1, 1) := dk_27 (dk_at dksX2_notes_3 0 rfl rfl)
theorem dX2_notes_72 : decode cX2_notes 72 = .ok (.iadd, 1) := dk_96 (dk_at dksX2_notes_3 1 rfl rfl)
theorem dX2_notes_73 : decode cX2_notes 73 = .ok (.aload_n 0, 1) := dk_42 (dk_at dksX2_notes_3 2 rfl rfl)
theorem dX2_notes_74 : decode cX2_notes 74 = .ok (.getfield 7, 3) := dk_180 0 7 (dk_at dksX2_notes_3 3 rfl rfl)
theorem dX2_notes_77 : decode cX2_notes 77 = .ok (.iload_n 1, 1) := dk_27 (dk_at dksX2_notes_3 6 rfl rfl)
theorem dX2_notes_78 : decode cX2_notes 78 = .ok (.iaload, 1) := dk_46 (dk_at dksX2_notes_3 7 rfl rfl)
theorem dX2_notes_79 : decode cX2_notes 79 = .ok (.iastore, 1) := dk_79 (dk_at dksX2_notes_3 8 rfl rfl)
theorem dX2_notes_80 : decode cX2_notes 80 = .ok (.iinc 1 1, 3) := dk_132 1 1 (dk_at dksX2_notes_3 9 rfl rfl)
theorem dX2_notes_83 : decode cX2_notes 83 = .ok (.goto (-31), 3) := dk_167 255 225 (dk_at dksX2_notes_3 12 rfl rfl)
theorem dX2_notes_86 : decode cX2_notes 86 = .ok (.aload_n 0, 1) := dk_42 (dk_at dksX2_notes_3 15 rfl rfl)
theorem dX2_notes_87 : decode cX2_notes 87 = .ok (.dup, 1) := dk_89 (dk_at dksX2_notes_3 16 rfl rfl)
theorem dX2_notes_88 : decode cX2_notes 88 = .ok (.getfield 126, 3) := dk_180 0 126 (dk_at dksX2_notes_3 17 rfl rfl)
theorem dX2_notes_91 : decode cX2_notes 91 = .ok (.iconst 1, 1) := dk_4 (dk_at dksX2_notes_3 20 rfl rfl)
theorem dX2_notes_92 : decode cX2_notes 92 = .ok (.iadd, 1) := dk_96 (dk_at dksX2_notes_3 21 rfl rfl)
theorem dX2_notes_93 : decode cX2_notes 93 = .ok (.putfield 126, 3) := dk_181 0 126 (dk_at dksX2_notes_4 0 rfl rfl)
theorem dX2_notes_96 : decode cX2_notes 96 = .ok (.return_, 1) := dk_177 (dk_at dksX2_notes_4 3 rfl rfl)
abbrev cX2_sent : ByteArray := prog_12_method_19_code
def yX2_sent : MethodName := ⟨RX2, "sent", "(I)I"⟩
def dkwX2_sent_5 : List UInt8 := [27, 16, 31, 100, 182, 0, 129, 28, 172]
abbrev dktX2_sent_5 : List UInt8 := dkwX2_sent_5 ++ []
def dkwX2_sent_4 : List UInt8 := [42, 180, 0, 7, 4, 46, 167, 0, 10, 42, 180, 0, 7, 4, 46, 116, 79, 27, 16, 30, 164, 0, 11, 42]
abbrev dktX2_sent_4 : List UInt8 := dkwX2_sent_4 ++ dktX2_sent_5
def dkwX2_sent_3 : List UInt8 := [79, 42, 180, 0, 7, 3, 92, 46, 4, 96, 79, 42, 180, 0, 7, 4, 28, 184, 0, 63, 6, 160, 0, 12]
abbrev dktX2_sent_3 : List UInt8 := dkwX2_sent_3 ++ dktX2_sent_4
def dkwX2_sent_2 : List UInt8 := [100, 122, 4, 126, 79, 132, 3, 1, 167, 255, 221, 42, 180, 0, 7, 7, 42, 180, 0, 7, 3, 46, 96, 27]
abbrev dktX2_sent_2 : List UInt8 := dkwX2_sent_2 ++ dktX2_sent_3
def dkwX2_sent_1 : List UInt8 := [162, 0, 35, 42, 180, 0, 7, 16, 36, 16, 6, 42, 180, 0, 7, 3, 46, 104, 96, 29, 96, 28, 8, 29]
abbrev dktX2_sent_1 : List UInt8 := dkwX2_sent_1 ++ dktX2_sent_2
def dkwX2_sent_0 : List UInt8 := [27, 42, 180, 0, 7, 4, 46, 156, 0, 7, 3, 167, 0, 4, 4, 184, 0, 79, 61, 3, 62, 29, 16, 6]
abbrev dktX2_sent_0 : List UInt8 := dkwX2_sent_0 ++ dktX2_sent_1
theorem dksX2_sent_0 : cX2_sent.data.toList.drop 0 = dktX2_sent_0 := by decide +kernel
theorem dksX2_sent_1 : cX2_sent.data.toList.drop 24 = dktX2_sent_1 := dk_seg dksX2_sent_0 24 rfl rfl
theorem dksX2_sent_2 : cX2_sent.data.toList.drop 48 = dktX2_sent_2 := dk_seg dksX2_sent_1 24 rfl rfl
theorem dksX2_sent_3 : cX2_sent.data.toList.drop 72 = dktX2_sent_3 := dk_seg dksX2_sent_2 24 rfl rfl
theorem dksX2_sent_4 : cX2_sent.data.toList.drop 96 = dktX2_sent_4 := dk_seg dksX2_sent_3 24 rfl rfl
theorem dksX2_sent_5 : cX2_sent.data.toList.drop 120 = dktX2_sent_5 := dk_seg dksX2_sent_4 24 rfl rfl
theorem dX2_sent_0 : decode cX2_sent 0 = .ok (.iload_n 1, 1) := dk_27 (dk_at dksX2_sent_0 0 rfl rfl)
theorem dX2_sent_1 : decode cX2_sent 1 = .ok (.aload_n 0, 1) := dk_42 (dk_at dksX2_sent_0 1 rfl rfl)
theorem dX2_sent_2 : decode cX2_sent 2 = .ok (.getfield 7, 3) := dk_180 0 7 (dk_at dksX2_sent_0 2 rfl rfl)
theorem dX2_sent_5 : decode cX2_sent 5 = .ok (.iconst 1, 1) := dk_4 (dk_at dksX2_sent_0 5 rfl rfl)
theorem dX2_sent_6 : decode cX2_sent 6 = .ok (.iaload, 1) := dk_46 (dk_at dksX2_sent_0 6 rfl rfl)
theorem dX2_sent_7 : decode cX2_sent 7 = .ok (.ifCond .ge 7, 3) := dk_156 0 7 (dk_at dksX2_sent_0 7 rfl rfl)
theorem dX2_sent_10 : decode cX2_sent 10 = .ok (.iconst 0, 1) := dk_3 (dk_at dksX2_sent_0 10 rfl rfl)
theorem dX2_sent_11 : decode cX2_sent 11 = .ok (.goto 4, 3) := dk_167 0 4 (dk_at dksX2_sent_0 11 rfl rfl)
theorem dX2_sent_14 : decode cX2_sent 14 = .ok (.iconst 1, 1) := dk_4 (dk_at dksX2_sent_0 14 rfl rfl)
theorem dX2_sent_15 : decode cX2_sent 15 = .ok (.invokestatic 79, 3) := dk_184 0 79 (dk_at dksX2_sent_0 15 rfl rfl)
theorem dX2_sent_18 : decode cX2_sent 18 = .ok (.istore_n 2, 1) := dk_61 (dk_at dksX2_sent_0 18 rfl rfl)
theorem dX2_sent_19 : decode cX2_sent 19 = .ok (.iconst 0, 1) := dk_3 (dk_at dksX2_sent_0 19 rfl rfl)
theorem dX2_sent_20 : decode cX2_sent 20 = .ok (.istore_n 3, 1) := dk_62 (dk_at dksX2_sent_0 20 rfl rfl)
theorem dX2_sent_21 : decode cX2_sent 21 = .ok (.iload_n 3, 1) := dk_29 (dk_at dksX2_sent_0 21 rfl rfl)
theorem dX2_sent_22 : decode cX2_sent 22 = .ok (.bipush 6, 2) := dk_16 6 (dk_at dksX2_sent_0 22 rfl rfl)
theorem dX2_sent_24 : decode cX2_sent 24 = .ok (.if_icmp .ge 35, 3) := dk_162 0 35 (dk_at dksX2_sent_1 0 rfl rfl)
theorem dX2_sent_27 : decode cX2_sent 27 = .ok (.aload_n 0, 1) := dk_42 (dk_at dksX2_sent_1 3 rfl rfl)
theorem dX2_sent_28 : decode cX2_sent 28 = .ok (.getfield 7, 3) := dk_180 0 7 (dk_at dksX2_sent_1 4 rfl rfl)
theorem dX2_sent_31 : decode cX2_sent 31 = .ok (.bipush 36, 2) := dk_16 36 (dk_at dksX2_sent_1 7 rfl rfl)
theorem dX2_sent_33 : decode cX2_sent 33 = .ok (.bipush 6, 2) := dk_16 6 (dk_at dksX2_sent_1 9 rfl rfl)
theorem dX2_sent_35 : decode cX2_sent 35 = .ok (.aload_n 0, 1) := dk_42 (dk_at dksX2_sent_1 11 rfl rfl)
theorem dX2_sent_36 : decode cX2_sent 36 = .ok (.getfield 7, 3) := dk_180 0 7 (dk_at dksX2_sent_1 12 rfl rfl)
theorem dX2_sent_39 : decode cX2_sent 39 = .ok (.iconst 0, 1) := dk_3 (dk_at dksX2_sent_1 15 rfl rfl)
theorem dX2_sent_40 : decode cX2_sent 40 = .ok (.iaload, 1) := dk_46 (dk_at dksX2_sent_1 16 rfl rfl)
theorem dX2_sent_41 : decode cX2_sent 41 = .ok (.imul, 1) := dk_104 (dk_at dksX2_sent_1 17 rfl rfl)
theorem dX2_sent_42 : decode cX2_sent 42 = .ok (.iadd, 1) := dk_96 (dk_at dksX2_sent_1 18 rfl rfl)
theorem dX2_sent_43 : decode cX2_sent 43 = .ok (.iload_n 3, 1) := dk_29 (dk_at dksX2_sent_1 19 rfl rfl)
theorem dX2_sent_44 : decode cX2_sent 44 = .ok (.iadd, 1) := dk_96 (dk_at dksX2_sent_1 20 rfl rfl)
theorem dX2_sent_45 : decode cX2_sent 45 = .ok (.iload_n 2, 1) := dk_28 (dk_at dksX2_sent_1 21 rfl rfl)
theorem dX2_sent_46 : decode cX2_sent 46 = .ok (.iconst 5, 1) := dk_8 (dk_at dksX2_sent_1 22 rfl rfl)
theorem dX2_sent_47 : decode cX2_sent 47 = .ok (.iload_n 3, 1) := dk_29 (dk_at dksX2_sent_1 23 rfl rfl)
theorem dX2_sent_48 : decode cX2_sent 48 = .ok (.isub, 1) := dk_100 (dk_at dksX2_sent_2 0 rfl rfl)
theorem dX2_sent_49 : decode cX2_sent 49 = .ok (.ishr, 1) := dk_122 (dk_at dksX2_sent_2 1 rfl rfl)
theorem dX2_sent_50 : decode cX2_sent 50 = .ok (.iconst 1, 1) := dk_4 (dk_at dksX2_sent_2 2 rfl rfl)
theorem dX2_sent_51 : decode cX2_sent 51 = .ok (.iand, 1) := dk_126 (dk_at dksX2_sent_2 3 rfl rfl)
theorem dX2_sent_52 : decode cX2_sent 52 = .ok (.iastore, 1) := dk_79 (dk_at dksX2_sent_2 4 rfl rfl)
theorem dX2_sent_53 : decode cX2_sent 53 = .ok (.iinc 3 1, 3) := dk_132 3 1 (dk_at dksX2_sent_2 5 rfl rfl)
theorem dX2_sent_56 : decode cX2_sent 56 = .ok (.goto (-35), 3) := dk_167 255 221 (dk_at dksX2_sent_2 8 rfl rfl)
theorem dX2_sent_59 : decode cX2_sent 59 = .ok (.aload_n 0, 1) := dk_42 (dk_at dksX2_sent_2 11 rfl rfl)
theorem dX2_sent_60 : decode cX2_sent 60 = .ok (.getfield 7, 3) := dk_180 0 7 (dk_at dksX2_sent_2 12 rfl rfl)
theorem dX2_sent_63 : decode cX2_sent 63 = .ok (.iconst 4, 1) := dk_7 (dk_at dksX2_sent_2 15 rfl rfl)
theorem dX2_sent_64 : decode cX2_sent 64 = .ok (.aload_n 0, 1) := dk_42 (dk_at dksX2_sent_2 16 rfl rfl)
theorem dX2_sent_65 : decode cX2_sent 65 = .ok (.getfield 7, 3) := dk_180 0 7 (dk_at dksX2_sent_2 17 rfl rfl)
theorem dX2_sent_68 : decode cX2_sent 68 = .ok (.iconst 0, 1) := dk_3 (dk_at dksX2_sent_2 20 rfl rfl)
theorem dX2_sent_69 : decode cX2_sent 69 = .ok (.iaload, 1) := dk_46 (dk_at dksX2_sent_2 21 rfl rfl)
theorem dX2_sent_70 : decode cX2_sent 70 = .ok (.iadd, 1) := dk_96 (dk_at dksX2_sent_2 22 rfl rfl)
theorem dX2_sent_71 : decode cX2_sent 71 = .ok (.iload_n 1, 1) := dk_27 (dk_at dksX2_sent_2 23 rfl rfl)
theorem dX2_sent_72 : decode cX2_sent 72 = .ok (.iastore, 1) := dk_79 (dk_at dksX2_sent_3 0 rfl rfl)
theorem dX2_sent_73 : decode cX2_sent 73 = .ok (.aload_n 0, 1) := dk_42 (dk_at dksX2_sent_3 1 rfl rfl)
theorem dX2_sent_74 : decode cX2_sent 74 = .ok (.getfield 7, 3) := dk_180 0 7 (dk_at dksX2_sent_3 2 rfl rfl)
theorem dX2_sent_77 : decode cX2_sent 77 = .ok (.iconst 0, 1) := dk_3 (dk_at dksX2_sent_3 5 rfl rfl)
theorem dX2_sent_78 : decode cX2_sent 78 = .ok (.dup2, 1) := dk_92 (dk_at dksX2_sent_3 6 rfl rfl)
theorem dX2_sent_79 : decode cX2_sent 79 = .ok (.iaload, 1) := dk_46 (dk_at dksX2_sent_3 7 rfl rfl)
theorem dX2_sent_80 : decode cX2_sent 80 = .ok (.iconst 1, 1) := dk_4 (dk_at dksX2_sent_3 8 rfl rfl)
theorem dX2_sent_81 : decode cX2_sent 81 = .ok (.iadd, 1) := dk_96 (dk_at dksX2_sent_3 9 rfl rfl)
theorem dX2_sent_82 : decode cX2_sent 82 = .ok (.iastore, 1) := dk_79 (dk_at dksX2_sent_3 10 rfl rfl)
theorem dX2_sent_83 : decode cX2_sent 83 = .ok (.aload_n 0, 1) := dk_42 (dk_at dksX2_sent_3 11 rfl rfl)
theorem dX2_sent_84 : decode cX2_sent 84 = .ok (.getfield 7, 3) := dk_180 0 7 (dk_at dksX2_sent_3 12 rfl rfl)
theorem dX2_sent_87 : decode cX2_sent 87 = .ok (.iconst 1, 1) := dk_4 (dk_at dksX2_sent_3 15 rfl rfl)
theorem dX2_sent_88 : decode cX2_sent 88 = .ok (.iload_n 2, 1) := dk_28 (dk_at dksX2_sent_3 16 rfl rfl)
theorem dX2_sent_89 : decode cX2_sent 89 = .ok (.invokestatic 63, 3) := dk_184 0 63 (dk_at dksX2_sent_3 17 rfl rfl)
theorem dX2_sent_92 : decode cX2_sent 92 = .ok (.iconst 3, 1) := dk_6 (dk_at dksX2_sent_3 20 rfl rfl)
theorem dX2_sent_93 : decode cX2_sent 93 = .ok (.if_icmp .ne 12, 3) := dk_160 0 12 (dk_at dksX2_sent_3 21 rfl rfl)
theorem dX2_sent_96 : decode cX2_sent 96 = .ok (.aload_n 0, 1) := dk_42 (dk_at dksX2_sent_4 0 rfl rfl)
theorem dX2_sent_97 : decode cX2_sent 97 = .ok (.getfield 7, 3) := dk_180 0 7 (dk_at dksX2_sent_4 1 rfl rfl)
theorem dX2_sent_100 : decode cX2_sent 100 = .ok (.iconst 1, 1) := dk_4 (dk_at dksX2_sent_4 4 rfl rfl)
theorem dX2_sent_101 : decode cX2_sent 101 = .ok (.iaload, 1) := dk_46 (dk_at dksX2_sent_4 5 rfl rfl)
theorem dX2_sent_102 : decode cX2_sent 102 = .ok (.goto 10, 3) := dk_167 0 10 (dk_at dksX2_sent_4 6 rfl rfl)
theorem dX2_sent_105 : decode cX2_sent 105 = .ok (.aload_n 0, 1) := dk_42 (dk_at dksX2_sent_4 9 rfl rfl)
theorem dX2_sent_106 : decode cX2_sent 106 = .ok (.getfield 7, 3) := dk_180 0 7 (dk_at dksX2_sent_4 10 rfl rfl)
theorem dX2_sent_109 : decode cX2_sent 109 = .ok (.iconst 1, 1) := dk_4 (dk_at dksX2_sent_4 13 rfl rfl)
theorem dX2_sent_110 : decode cX2_sent 110 = .ok (.iaload, 1) := dk_46 (dk_at dksX2_sent_4 14 rfl rfl)
theorem dX2_sent_111 : decode cX2_sent 111 = .ok (.ineg, 1) := dk_116 (dk_at dksX2_sent_4 15 rfl rfl)
theorem dX2_sent_112 : decode cX2_sent 112 = .ok (.iastore, 1) := dk_79 (dk_at dksX2_sent_4 16 rfl rfl)
theorem dX2_sent_113 : decode cX2_sent 113 = .ok (.iload_n 1, 1) := dk_27 (dk_at dksX2_sent_4 17 rfl rfl)
theorem dX2_sent_114 : decode cX2_sent 114 = .ok (.bipush 30, 2) := dk_16 30 (dk_at dksX2_sent_4 18 rfl rfl)
theorem dX2_sent_116 : decode cX2_sent 116 = .ok (.if_icmp .le 11, 3) := dk_164 0 11 (dk_at dksX2_sent_4 20 rfl rfl)
theorem dX2_sent_119 : decode cX2_sent 119 = .ok (.aload_n 0, 1) := dk_42 (dk_at dksX2_sent_4 23 rfl rfl)
theorem dX2_sent_120 : decode cX2_sent 120 = .ok (.iload_n 1, 1) := dk_27 (dk_at dksX2_sent_5 0 rfl rfl)
theorem dX2_sent_121 : decode cX2_sent 121 = .ok (.bipush 31, 2) := dk_16 31 (dk_at dksX2_sent_5 1 rfl rfl)
theorem dX2_sent_123 : decode cX2_sent 123 = .ok (.isub, 1) := dk_100 (dk_at dksX2_sent_5 3 rfl rfl)
theorem dX2_sent_124 : decode cX2_sent 124 = .ok (.invokevirtual 129, 3) := dk_182 0 129 (dk_at dksX2_sent_5 4 rfl rfl)
theorem dX2_sent_127 : decode cX2_sent 127 = .ok (.iload_n 2, 1) := dk_28 (dk_at dksX2_sent_5 7 rfl rfl)
theorem dX2_sent_128 : decode cX2_sent 128 = .ok (.ireturn, 1) := dk_172 (dk_at dksX2_sent_5 8 rfl rfl)
abbrev cX2_formOf : ByteArray := prog_12_method_8_code
def yX2_formOf : MethodName := ⟨RX2, "formOf", "(II)I"⟩
def dkwX2_formOf_3 : List UInt8 := [161, 0, 7, 27, 154, 0, 7, 28, 167, 0, 7, 16, 63, 28, 100, 172]
abbrev dktX2_formOf_3 : List UInt8 := dkwX2_formOf_3 ++ []
def dkwX2_formOf_2 : List UInt8 := [16, 15, 167, 0, 16, 26, 16, 32, 160, 0, 8, 16, 30, 167, 0, 5, 16, 60, 61, 26, 16, 18]
abbrev dktX2_formOf_2 : List UInt8 := dkwX2_formOf_2 ++ dktX2_formOf_3
def dkwX2_formOf_1 : List UInt8 := [7, 184, 0, 71, 167, 0, 38, 26, 16, 30, 160, 0, 8, 16, 56, 167, 0, 27, 26, 16, 31, 160, 0, 8]
abbrev dktX2_formOf_1 : List UInt8 := dkwX2_formOf_1 ++ dktX2_formOf_2
def dkwX2_formOf_0 : List UInt8 := [26, 16, 18, 162, 0, 11, 26, 6, 184, 0, 71, 167, 0, 55, 26, 16, 30, 162, 0, 14, 26, 16, 18, 100]
abbrev dktX2_formOf_0 : List UInt8 := dkwX2_formOf_0 ++ dktX2_formOf_1
theorem dksX2_formOf_0 : cX2_formOf.data.toList.drop 0 = dktX2_formOf_0 := by decide +kernel
theorem dksX2_formOf_1 : cX2_formOf.data.toList.drop 24 = dktX2_formOf_1 := dk_seg dksX2_formOf_0 24 rfl rfl
theorem dksX2_formOf_2 : cX2_formOf.data.toList.drop 48 = dktX2_formOf_2 := dk_seg dksX2_formOf_1 24 rfl rfl
theorem dksX2_formOf_3 : cX2_formOf.data.toList.drop 70 = dktX2_formOf_3 := dk_seg dksX2_formOf_2 22 rfl rfl
theorem dX2_formOf_0 : decode cX2_formOf 0 = .ok (.iload_n 0, 1) := dk_26 (dk_at dksX2_formOf_0 0 rfl rfl)
theorem dX2_formOf_1 : decode cX2_formOf 1 = .ok (.bipush 18, 2) := dk_16 18 (dk_at dksX2_formOf_0 1 rfl rfl)
theorem dX2_formOf_3 : decode cX2_formOf 3 = .ok (.if_icmp .ge 11, 3) := dk_162 0 11 (dk_at dksX2_formOf_0 3 rfl rfl)
theorem dX2_formOf_6 : decode cX2_formOf 6 = .ok (.iload_n 0, 1) := dk_26 (dk_at dksX2_formOf_0 6 rfl rfl)
theorem dX2_formOf_7 : decode cX2_formOf 7 = .ok (.iconst 3, 1) := dk_6 (dk_at dksX2_formOf_0 7 rfl rfl)
theorem dX2_formOf_8 : decode cX2_formOf 8 = .ok (.invokestatic 71, 3) := dk_184 0 71 (dk_at dksX2_formOf_0 8 rfl rfl)
theorem dX2_formOf_11 : decode cX2_formOf 11 = .ok (.goto 55, 3) := dk_167 0 55 (dk_at dksX2_formOf_0 11 rfl rfl)
theorem dX2_formOf_14 : decode cX2_formOf 14 = .ok (.iload_n 0, 1) := dk_26 (dk_at dksX2_formOf_0 14 rfl rfl)
theorem dX2_formOf_15 : decode cX2_formOf 15 = .ok (.bipush 30, 2) := dk_16 30 (dk_at dksX2_formOf_0 15 rfl rfl)
theorem dX2_formOf_17 : decode cX2_formOf 17 = .ok (.if_icmp .ge 14, 3) := dk_162 0 14 (dk_at dksX2_formOf_0 17 rfl rfl)
theorem dX2_formOf_20 : decode cX2_formOf 20 = .ok (.iload_n 0, 1) := dk_26 (dk_at dksX2_formOf_0 20 rfl rfl)
theorem dX2_formOf_21 : decode cX2_formOf 21 = .ok (.bipush 18, 2) := dk_16 18 (dk_at dksX2_formOf_0 21 rfl rfl)
theorem dX2_formOf_23 : decode cX2_formOf 23 = .ok (.isub, 1) := dk_100 (dk_at dksX2_formOf_0 23 rfl rfl)
theorem dX2_formOf_24 : decode cX2_formOf 24 = .ok (.iconst 4, 1) := dk_7 (dk_at dksX2_formOf_1 0 rfl rfl)
theorem dX2_formOf_25 : decode cX2_formOf 25 = .ok (.invokestatic 71, 3) := dk_184 0 71 (dk_at dksX2_formOf_1 1 rfl rfl)
theorem dX2_formOf_28 : decode cX2_formOf 28 = .ok (.goto 38, 3) := dk_167 0 38 (dk_at dksX2_formOf_1 4 rfl rfl)
theorem dX2_formOf_31 : decode cX2_formOf 31 = .ok (.iload_n 0, 1) := dk_26 (dk_at dksX2_formOf_1 7 rfl rfl)
theorem dX2_formOf_32 : decode cX2_formOf 32 = .ok (.bipush 30, 2) := dk_16 30 (dk_at dksX2_formOf_1 8 rfl rfl)
theorem dX2_formOf_34 : decode cX2_formOf 34 = .ok (.if_icmp .ne 8, 3) := dk_160 0 8 (dk_at dksX2_formOf_1 10 rfl rfl)
theorem dX2_formOf_37 : decode cX2_formOf 37 = .ok (.bipush 56, 2) := dk_16 56 (dk_at dksX2_formOf_1 13 rfl rfl)
theorem dX2_formOf_39 : decode cX2_formOf 39 = .ok (.goto 27, 3) := dk_167 0 27 (dk_at dksX2_formOf_1 15 rfl rfl)
theorem dX2_formOf_42 : decode cX2_formOf 42 = .ok (.iload_n 0, 1) := dk_26 (dk_at dksX2_formOf_1 18 rfl rfl)
theorem dX2_formOf_43 : decode cX2_formOf 43 = .ok (.bipush 31, 2) := dk_16 31 (dk_at dksX2_formOf_1 19 rfl rfl)
theorem dX2_formOf_45 : decode cX2_formOf 45 = .ok (.if_icmp .ne 8, 3) := dk_160 0 8 (dk_at dksX2_formOf_1 21 rfl rfl)
theorem dX2_formOf_48 : decode cX2_formOf 48 = .ok (.bipush 15, 2) := dk_16 15 (dk_at dksX2_formOf_2 0 rfl rfl)
theorem dX2_formOf_50 : decode cX2_formOf 50 = .ok (.goto 16, 3) := dk_167 0 16 (dk_at dksX2_formOf_2 2 rfl rfl)
theorem dX2_formOf_53 : decode cX2_formOf 53 = .ok (.iload_n 0, 1) := dk_26 (dk_at dksX2_formOf_2 5 rfl rfl)
theorem dX2_formOf_54 : decode cX2_formOf 54 = .ok (.bipush 32, 2) := dk_16 32 (dk_at dksX2_formOf_2 6 rfl rfl)
theorem dX2_formOf_56 : decode cX2_formOf 56 = .ok (.if_icmp .ne 8, 3) := dk_160 0 8 (dk_at dksX2_formOf_2 8 rfl rfl)
theorem dX2_formOf_59 : decode cX2_formOf 59 = .ok (.bipush 30, 2) := dk_16 30 (dk_at dksX2_formOf_2 11 rfl rfl)
theorem dX2_formOf_61 : decode cX2_formOf 61 = .ok (.goto 5, 3) := dk_167 0 5 (dk_at dksX2_formOf_2 13 rfl rfl)
theorem dX2_formOf_64 : decode cX2_formOf 64 = .ok (.bipush 60, 2) := dk_16 60 (dk_at dksX2_formOf_2 16 rfl rfl)
theorem dX2_formOf_66 : decode cX2_formOf 66 = .ok (.istore_n 2, 1) := dk_61 (dk_at dksX2_formOf_2 18 rfl rfl)
theorem dX2_formOf_67 : decode cX2_formOf 67 = .ok (.iload_n 0, 1) := dk_26 (dk_at dksX2_formOf_2 19 rfl rfl)
theorem dX2_formOf_68 : decode cX2_formOf 68 = .ok (.bipush 18, 2) := dk_16 18 (dk_at dksX2_formOf_2 20 rfl rfl)
theorem dX2_formOf_70 : decode cX2_formOf 70 = .ok (.if_icmp .lt 7, 3) := dk_161 0 7 (dk_at dksX2_formOf_3 0 rfl rfl)
theorem dX2_formOf_73 : decode cX2_formOf 73 = .ok (.iload_n 1, 1) := dk_27 (dk_at dksX2_formOf_3 3 rfl rfl)
theorem dX2_formOf_74 : decode cX2_formOf 74 = .ok (.ifCond .ne 7, 3) := dk_154 0 7 (dk_at dksX2_formOf_3 4 rfl rfl)
theorem dX2_formOf_77 : decode cX2_formOf 77 = .ok (.iload_n 2, 1) := dk_28 (dk_at dksX2_formOf_3 7 rfl rfl)
theorem dX2_formOf_78 : decode cX2_formOf 78 = .ok (.goto 7, 3) := dk_167 0 7 (dk_at dksX2_formOf_3 8 rfl rfl)
theorem dX2_formOf_81 : decode cX2_formOf 81 = .ok (.bipush 63, 2) := dk_16 63 (dk_at dksX2_formOf_3 11 rfl rfl)
theorem dX2_formOf_83 : decode cX2_formOf 83 = .ok (.iload_n 2, 1) := dk_28 (dk_at dksX2_formOf_3 13 rfl rfl)
theorem dX2_formOf_84 : decode cX2_formOf 84 = .ok (.isub, 1) := dk_100 (dk_at dksX2_formOf_3 14 rfl rfl)
theorem dX2_formOf_85 : decode cX2_formOf 85 = .ok (.ireturn, 1) := dk_172 (dk_at dksX2_formOf_3 15 rfl rfl)
abbrev cX2_kth : ByteArray := prog_12_method_7_code
def yX2_kth : MethodName := ⟨RX2, "kth", "(II)I"⟩
def dkwX2_kth_4 : List UInt8 := [96, 62, 167, 255, 204, 29, 172]
abbrev dktX2_kth_4 : List UInt8 := dkwX2_kth_4 ++ []
def dkwX2_kth_3 : List UInt8 := [29, 16, 56, 159, 0, 7, 4, 167, 0, 4, 3, 54, 4, 29, 21, 4, 153, 0, 7, 3, 167, 0, 4, 4]
abbrev dktX2_kth_3 : List UInt8 := dkwX2_kth_3 ++ dktX2_kth_4
def dkwX2_kth_2 : List UInt8 := [154, 255, 216, 29, 184, 0, 63, 27, 160, 0, 26, 29, 184, 0, 67, 154, 0, 19, 29, 16, 7, 159, 0, 13]
abbrev dktX2_kth_2 : List UInt8 := dkwX2_kth_2 ++ dktX2_kth_3
def dkwX2_kth_1 : List UInt8 := [167, 0, 4, 3, 96, 62, 28, 21, 4, 153, 0, 7, 4, 167, 0, 4, 3, 100, 61, 3, 54, 4, 21, 4]
abbrev dktX2_kth_1 : List UInt8 := dkwX2_kth_1 ++ dktX2_kth_2
def dkwX2_kth_0 : List UInt8 := [26, 61, 3, 62, 3, 54, 4, 21, 4, 153, 0, 7, 28, 158, 0, 87, 29, 21, 4, 153, 0, 7, 4]
abbrev dktX2_kth_0 : List UInt8 := dkwX2_kth_0 ++ dktX2_kth_1
theorem dksX2_kth_0 : cX2_kth.data.toList.drop 0 = dktX2_kth_0 := by decide +kernel
theorem dksX2_kth_1 : cX2_kth.data.toList.drop 23 = dktX2_kth_1 := dk_seg dksX2_kth_0 23 rfl rfl
theorem dksX2_kth_2 : cX2_kth.data.toList.drop 47 = dktX2_kth_2 := dk_seg dksX2_kth_1 24 rfl rfl
theorem dksX2_kth_3 : cX2_kth.data.toList.drop 71 = dktX2_kth_3 := dk_seg dksX2_kth_2 24 rfl rfl
theorem dksX2_kth_4 : cX2_kth.data.toList.drop 95 = dktX2_kth_4 := dk_seg dksX2_kth_3 24 rfl rfl
theorem dX2_kth_0 : decode cX2_kth 0 = .ok (.iload_n 0, 1) := dk_26 (dk_at dksX2_kth_0 0 rfl rfl)
theorem dX2_kth_1 : decode cX2_kth 1 = .ok (.istore_n 2, 1) := dk_61 (dk_at dksX2_kth_0 1 rfl rfl)
theorem dX2_kth_2 : decode cX2_kth 2 = .ok (.iconst 0, 1) := dk_3 (dk_at dksX2_kth_0 2 rfl rfl)
theorem dX2_kth_3 : decode cX2_kth 3 = .ok (.istore_n 3, 1) := dk_62 (dk_at dksX2_kth_0 3 rfl rfl)
theorem dX2_kth_4 : decode cX2_kth 4 = .ok (.iconst 0, 1) := dk_3 (dk_at dksX2_kth_0 4 rfl rfl)
theorem dX2_kth_5 : decode cX2_kth 5 = .ok (.istore 4, 2) := dk_54 4 (dk_at dksX2_kth_0 5 rfl rfl)
theorem dX2_kth_7 : decode cX2_kth 7 = .ok (.iload 4, 2) := dk_21 4 (dk_at dksX2_kth_0 7 rfl rfl)
theorem dX2_kth_9 : decode cX2_kth 9 = .ok (.ifCond .eq 7, 3) := dk_153 0 7 (dk_at dksX2_kth_0 9 rfl rfl)
theorem dX2_kth_12 : decode cX2_kth 12 = .ok (.iload_n 2, 1) := dk_28 (dk_at dksX2_kth_0 12 rfl rfl)
theorem dX2_kth_13 : decode cX2_kth 13 = .ok (.ifCond .le 87, 3) := dk_158 0 87 (dk_at dksX2_kth_0 13 rfl rfl)
theorem dX2_kth_16 : decode cX2_kth 16 = .ok (.iload_n 3, 1) := dk_29 (dk_at dksX2_kth_0 16 rfl rfl)
theorem dX2_kth_17 : decode cX2_kth 17 = .ok (.iload 4, 2) := dk_21 4 (dk_at dksX2_kth_0 17 rfl rfl)
theorem dX2_kth_19 : decode cX2_kth 19 = .ok (.ifCond .eq 7, 3) := dk_153 0 7 (dk_at dksX2_kth_0 19 rfl rfl)
theorem dX2_kth_22 : decode cX2_kth 22 = .ok (.iconst 1, 1) := dk_4 (dk_at dksX2_kth_0 22 rfl rfl)
theorem dX2_kth_23 : decode cX2_kth 23 = .ok (.goto 4, 3) := dk_167 0 4 (dk_at dksX2_kth_1 0 rfl rfl)
theorem dX2_kth_26 : decode cX2_kth 26 = .ok (.iconst 0, 1) := dk_3 (dk_at dksX2_kth_1 3 rfl rfl)
theorem dX2_kth_27 : decode cX2_kth 27 = .ok (.iadd, 1) := dk_96 (dk_at dksX2_kth_1 4 rfl rfl)
theorem dX2_kth_28 : decode cX2_kth 28 = .ok (.istore_n 3, 1) := dk_62 (dk_at dksX2_kth_1 5 rfl rfl)
theorem dX2_kth_29 : decode cX2_kth 29 = .ok (.iload_n 2, 1) := dk_28 (dk_at dksX2_kth_1 6 rfl rfl)
theorem dX2_kth_30 : decode cX2_kth 30 = .ok (.iload 4, 2) := dk_21 4 (dk_at dksX2_kth_1 7 rfl rfl)
theorem dX2_kth_32 : decode cX2_kth 32 = .ok (.ifCond .eq 7, 3) := dk_153 0 7 (dk_at dksX2_kth_1 9 rfl rfl)
theorem dX2_kth_35 : decode cX2_kth 35 = .ok (.iconst 1, 1) := dk_4 (dk_at dksX2_kth_1 12 rfl rfl)
theorem dX2_kth_36 : decode cX2_kth 36 = .ok (.goto 4, 3) := dk_167 0 4 (dk_at dksX2_kth_1 13 rfl rfl)
theorem dX2_kth_39 : decode cX2_kth 39 = .ok (.iconst 0, 1) := dk_3 (dk_at dksX2_kth_1 16 rfl rfl)
theorem dX2_kth_40 : decode cX2_kth 40 = .ok (.isub, 1) := dk_100 (dk_at dksX2_kth_1 17 rfl rfl)
theorem dX2_kth_41 : decode cX2_kth 41 = .ok (.istore_n 2, 1) := dk_61 (dk_at dksX2_kth_1 18 rfl rfl)
theorem dX2_kth_42 : decode cX2_kth 42 = .ok (.iconst 0, 1) := dk_3 (dk_at dksX2_kth_1 19 rfl rfl)
theorem dX2_kth_43 : decode cX2_kth 43 = .ok (.istore 4, 2) := dk_54 4 (dk_at dksX2_kth_1 20 rfl rfl)
theorem dX2_kth_45 : decode cX2_kth 45 = .ok (.iload 4, 2) := dk_21 4 (dk_at dksX2_kth_1 22 rfl rfl)
theorem dX2_kth_47 : decode cX2_kth 47 = .ok (.ifCond .ne (-40), 3) := dk_154 255 216 (dk_at dksX2_kth_2 0 rfl rfl)
theorem dX2_kth_50 : decode cX2_kth 50 = .ok (.iload_n 3, 1) := dk_29 (dk_at dksX2_kth_2 3 rfl rfl)
theorem dX2_kth_51 : decode cX2_kth 51 = .ok (.invokestatic 63, 3) := dk_184 0 63 (dk_at dksX2_kth_2 4 rfl rfl)
theorem dX2_kth_54 : decode cX2_kth 54 = .ok (.iload_n 1, 1) := dk_27 (dk_at dksX2_kth_2 7 rfl rfl)
theorem dX2_kth_55 : decode cX2_kth 55 = .ok (.if_icmp .ne 26, 3) := dk_160 0 26 (dk_at dksX2_kth_2 8 rfl rfl)
theorem dX2_kth_58 : decode cX2_kth 58 = .ok (.iload_n 3, 1) := dk_29 (dk_at dksX2_kth_2 11 rfl rfl)
theorem dX2_kth_59 : decode cX2_kth 59 = .ok (.invokestatic 67, 3) := dk_184 0 67 (dk_at dksX2_kth_2 12 rfl rfl)
theorem dX2_kth_62 : decode cX2_kth 62 = .ok (.ifCond .ne 19, 3) := dk_154 0 19 (dk_at dksX2_kth_2 15 rfl rfl)
theorem dX2_kth_65 : decode cX2_kth 65 = .ok (.iload_n 3, 1) := dk_29 (dk_at dksX2_kth_2 18 rfl rfl)
theorem dX2_kth_66 : decode cX2_kth 66 = .ok (.bipush 7, 2) := dk_16 7 (dk_at dksX2_kth_2 19 rfl rfl)
theorem dX2_kth_68 : decode cX2_kth 68 = .ok (.if_icmp .eq 13, 3) := dk_159 0 13 (dk_at dksX2_kth_2 21 rfl rfl)
theorem dX2_kth_71 : decode cX2_kth 71 = .ok (.iload_n 3, 1) := dk_29 (dk_at dksX2_kth_3 0 rfl rfl)
theorem dX2_kth_72 : decode cX2_kth 72 = .ok (.bipush 56, 2) := dk_16 56 (dk_at dksX2_kth_3 1 rfl rfl)
theorem dX2_kth_74 : decode cX2_kth 74 = .ok (.if_icmp .eq 7, 3) := dk_159 0 7 (dk_at dksX2_kth_3 3 rfl rfl)
theorem dX2_kth_77 : decode cX2_kth 77 = .ok (.iconst 1, 1) := dk_4 (dk_at dksX2_kth_3 6 rfl rfl)
theorem dX2_kth_78 : decode cX2_kth 78 = .ok (.goto 4, 3) := dk_167 0 4 (dk_at dksX2_kth_3 7 rfl rfl)
theorem dX2_kth_81 : decode cX2_kth 81 = .ok (.iconst 0, 1) := dk_3 (dk_at dksX2_kth_3 10 rfl rfl)
theorem dX2_kth_82 : decode cX2_kth 82 = .ok (.istore 4, 2) := dk_54 4 (dk_at dksX2_kth_3 11 rfl rfl)
theorem dX2_kth_84 : decode cX2_kth 84 = .ok (.iload_n 3, 1) := dk_29 (dk_at dksX2_kth_3 13 rfl rfl)
theorem dX2_kth_85 : decode cX2_kth 85 = .ok (.iload 4, 2) := dk_21 4 (dk_at dksX2_kth_3 14 rfl rfl)
theorem dX2_kth_87 : decode cX2_kth 87 = .ok (.ifCond .eq 7, 3) := dk_153 0 7 (dk_at dksX2_kth_3 16 rfl rfl)
theorem dX2_kth_90 : decode cX2_kth 90 = .ok (.iconst 0, 1) := dk_3 (dk_at dksX2_kth_3 19 rfl rfl)
theorem dX2_kth_91 : decode cX2_kth 91 = .ok (.goto 4, 3) := dk_167 0 4 (dk_at dksX2_kth_3 20 rfl rfl)
theorem dX2_kth_94 : decode cX2_kth 94 = .ok (.iconst 1, 1) := dk_4 (dk_at dksX2_kth_3 23 rfl rfl)
theorem dX2_kth_95 : decode cX2_kth 95 = .ok (.iadd, 1) := dk_96 (dk_at dksX2_kth_4 0 rfl rfl)
theorem dX2_kth_96 : decode cX2_kth 96 = .ok (.istore_n 3, 1) := dk_62 (dk_at dksX2_kth_4 1 rfl rfl)
theorem dX2_kth_97 : decode cX2_kth 97 = .ok (.goto (-52), 3) := dk_167 255 204 (dk_at dksX2_kth_4 2 rfl rfl)
theorem dX2_kth_100 : decode cX2_kth 100 = .ok (.iload_n 3, 1) := dk_29 (dk_at dksX2_kth_4 5 rfl rfl)
theorem dX2_kth_101 : decode cX2_kth 101 = .ok (.ireturn, 1) := dk_172 (dk_at dksX2_kth_4 6 rfl rfl)
abbrev cX2_ones : ByteArray := prog_12_method_5_code
def yX2_ones : MethodName := ⟨RX2, "ones", "(I)I"⟩
def dkwX2_ones_1 : List UInt8 := [27, 172]
abbrev dktX2_ones_1 : List UInt8 := dkwX2_ones_1 ++ []
def dkwX2_ones_0 : List UInt8 := [3, 60, 3, 61, 28, 16, 6, 162, 0, 17, 27, 26, 28, 122, 4, 126, 96, 60, 132, 2, 1, 167, 255, 239]
abbrev dktX2_ones_0 : List UInt8 := dkwX2_ones_0 ++ dktX2_ones_1
theorem dksX2_ones_0 : cX2_ones.data.toList.drop 0 = dktX2_ones_0 := by decide +kernel
theorem dksX2_ones_1 : cX2_ones.data.toList.drop 24 = dktX2_ones_1 := dk_seg dksX2_ones_0 24 rfl rfl
theorem dX2_ones_0 : decode cX2_ones 0 = .ok (.iconst 0, 1) := dk_3 (dk_at dksX2_ones_0 0 rfl rfl)
theorem dX2_ones_1 : decode cX2_ones 1 = .ok (.istore_n 1, 1) := dk_60 (dk_at dksX2_ones_0 1 rfl rfl)
theorem dX2_ones_2 : decode cX2_ones 2 = .ok (.iconst 0, 1) := dk_3 (dk_at dksX2_ones_0 2 rfl rfl)
theorem dX2_ones_3 : decode cX2_ones 3 = .ok (.istore_n 2, 1) := dk_61 (dk_at dksX2_ones_0 3 rfl rfl)
theorem dX2_ones_4 : decode cX2_ones 4 = .ok (.iload_n 2, 1) := dk_28 (dk_at dksX2_ones_0 4 rfl rfl)
theorem dX2_ones_5 : decode cX2_ones 5 = .ok (.bipush 6, 2) := dk_16 6 (dk_at dksX2_ones_0 5 rfl rfl)
theorem dX2_ones_7 : decode cX2_ones 7 = .ok (.if_icmp .ge 17, 3) := dk_162 0 17 (dk_at dksX2_ones_0 7 rfl rfl)
theorem dX2_ones_10 : decode cX2_ones 10 = .ok (.iload_n 1, 1) := dk_27 (dk_at dksX2_ones_0 10 rfl rfl)
theorem dX2_ones_11 : decode cX2_ones 11 = .ok (.iload_n 0, 1) := dk_26 (dk_at dksX2_ones_0 11 rfl rfl)
theorem dX2_ones_12 : decode cX2_ones 12 = .ok (.iload_n 2, 1) := dk_28 (dk_at dksX2_ones_0 12 rfl rfl)
theorem dX2_ones_13 : decode cX2_ones 13 = .ok (.ishr, 1) := dk_122 (dk_at dksX2_ones_0 13 rfl rfl)
theorem dX2_ones_14 : decode cX2_ones 14 = .ok (.iconst 1, 1) := dk_4 (dk_at dksX2_ones_0 14 rfl rfl)
theorem dX2_ones_15 : decode cX2_ones 15 = .ok (.iand, 1) := dk_126 (dk_at dksX2_ones_0 15 rfl rfl)
theorem dX2_ones_16 : decode cX2_ones 16 = .ok (.iadd, 1) := dk_96 (dk_at dksX2_ones_0 16 rfl rfl)
theorem dX2_ones_17 : decode cX2_ones 17 = .ok (.istore_n 1, 1) := dk_60 (dk_at dksX2_ones_0 17 rfl rfl)
theorem dX2_ones_18 : decode cX2_ones 18 = .ok (.iinc 2 1, 3) := dk_132 2 1 (dk_at dksX2_ones_0 18 rfl rfl)
theorem dX2_ones_21 : decode cX2_ones 21 = .ok (.goto (-17), 3) := dk_167 255 239 (dk_at dksX2_ones_0 21 rfl rfl)
theorem dX2_ones_24 : decode cX2_ones 24 = .ok (.iload_n 1, 1) := dk_27 (dk_at dksX2_ones_1 0 rfl rfl)
theorem dX2_ones_25 : decode cX2_ones 25 = .ok (.ireturn, 1) := dk_172 (dk_at dksX2_ones_1 1 rfl rfl)
abbrev cX2_isMark : ByteArray := prog_12_method_6_code
def yX2_isMark : MethodName := ⟨RX2, "isMark", "(I)Z"⟩
def dkwX2_isMark_0 : List UInt8 := [26, 16, 15, 159, 0, 15, 26, 16, 30, 159, 0, 9, 26, 16, 60, 160, 0, 7, 4, 167, 0, 4, 3, 172]
abbrev dktX2_isMark_0 : List UInt8 := dkwX2_isMark_0 ++ []
theorem dksX2_isMark_0 : cX2_isMark.data.toList.drop 0 = dktX2_isMark_0 := by decide +kernel
theorem dX2_isMark_0 : decode cX2_isMark 0 = .ok (.iload_n 0, 1) := dk_26 (dk_at dksX2_isMark_0 0 rfl rfl)
theorem dX2_isMark_1 : decode cX2_isMark 1 = .ok (.bipush 15, 2) := dk_16 15 (dk_at dksX2_isMark_0 1 rfl rfl)
theorem dX2_isMark_3 : decode cX2_isMark 3 = .ok (.if_icmp .eq 15, 3) := dk_159 0 15 (dk_at dksX2_isMark_0 3 rfl rfl)
theorem dX2_isMark_6 : decode cX2_isMark 6 = .ok (.iload_n 0, 1) := dk_26 (dk_at dksX2_isMark_0 6 rfl rfl)
theorem dX2_isMark_7 : decode cX2_isMark 7 = .ok (.bipush 30, 2) := dk_16 30 (dk_at dksX2_isMark_0 7 rfl rfl)
theorem dX2_isMark_9 : decode cX2_isMark 9 = .ok (.if_icmp .eq 9, 3) := dk_159 0 9 (dk_at dksX2_isMark_0 9 rfl rfl)
theorem dX2_isMark_12 : decode cX2_isMark 12 = .ok (.iload_n 0, 1) := dk_26 (dk_at dksX2_isMark_0 12 rfl rfl)
theorem dX2_isMark_13 : decode cX2_isMark 13 = .ok (.bipush 60, 2) := dk_16 60 (dk_at dksX2_isMark_0 13 rfl rfl)
theorem dX2_isMark_15 : decode cX2_isMark 15 = .ok (.if_icmp .ne 7, 3) := dk_160 0 7 (dk_at dksX2_isMark_0 15 rfl rfl)
theorem dX2_isMark_18 : decode cX2_isMark 18 = .ok (.iconst 1, 1) := dk_4 (dk_at dksX2_isMark_0 18 rfl rfl)
theorem dX2_isMark_19 : decode cX2_isMark 19 = .ok (.goto 4, 3) := dk_167 0 4 (dk_at dksX2_isMark_0 19 rfl rfl)
theorem dX2_isMark_22 : decode cX2_isMark 22 = .ok (.iconst 0, 1) := dk_3 (dk_at dksX2_isMark_0 22 rfl rfl)
theorem dX2_isMark_23 : decode cX2_isMark 23 = .ok (.ireturn, 1) := dk_172 (dk_at dksX2_isMark_0 23 rfl rfl)
abbrev cX2_remembers : ByteArray := prog_12_method_18_code
def yX2_remembers : MethodName := ⟨RX2, "remembers", "(I)V"⟩
def dkwX2_remembers_1 : List UInt8 := [180, 0, 7, 6, 27, 79, 177]
abbrev dktX2_remembers_1 : List UInt8 := dkwX2_remembers_1 ++ []
def dkwX2_remembers_0 : List UInt8 := [42, 180, 0, 7, 6, 46, 27, 160, 0, 4, 177, 42, 180, 0, 7, 5, 42, 180, 0, 7, 6, 46, 79, 42]
abbrev dktX2_remembers_0 : List UInt8 := dkwX2_remembers_0 ++ dktX2_remembers_1
theorem dksX2_remembers_0 : cX2_remembers.data.toList.drop 0 = dktX2_remembers_0 := by decide +kernel
theorem dksX2_remembers_1 : cX2_remembers.data.toList.drop 24 = dktX2_remembers_1 := dk_seg dksX2_remembers_0 24 rfl rfl
theorem dX2_remembers_0 : decode cX2_remembers 0 = .ok (.aload_n 0, 1) := dk_42 (dk_at dksX2_remembers_0 0 rfl rfl)
theorem dX2_remembers_1 : decode cX2_remembers 1 = .ok (.getfield 7, 3) := dk_180 0 7 (dk_at dksX2_remembers_0 1 rfl rfl)
theorem dX2_remembers_4 : decode cX2_remembers 4 = .ok (.iconst 3, 1) := dk_6 (dk_at dksX2_remembers_0 4 rfl rfl)
theorem dX2_remembers_5 : decode cX2_remembers 5 = .ok (.iaload, 1) := dk_46 (dk_at dksX2_remembers_0 5 rfl rfl)
theorem dX2_remembers_6 : decode cX2_remembers 6 = .ok (.iload_n 1, 1) := dk_27 (dk_at dksX2_remembers_0 6 rfl rfl)
theorem dX2_remembers_7 : decode cX2_remembers 7 = .ok (.if_icmp .ne 4, 3) := dk_160 0 4 (dk_at dksX2_remembers_0 7 rfl rfl)
theorem dX2_remembers_10 : decode cX2_remembers 10 = .ok (.return_, 1) := dk_177 (dk_at dksX2_remembers_0 10 rfl rfl)
theorem dX2_remembers_11 : decode cX2_remembers 11 = .ok (.aload_n 0, 1) := dk_42 (dk_at dksX2_remembers_0 11 rfl rfl)
theorem dX2_remembers_12 : decode cX2_remembers 12 = .ok (.getfield 7, 3) := dk_180 0 7 (dk_at dksX2_remembers_0 12 rfl rfl)
theorem dX2_remembers_15 : decode cX2_remembers 15 = .ok (.iconst 2, 1) := dk_5 (dk_at dksX2_remembers_0 15 rfl rfl)
theorem dX2_remembers_16 : decode cX2_remembers 16 = .ok (.aload_n 0, 1) := dk_42 (dk_at dksX2_remembers_0 16 rfl rfl)
theorem dX2_remembers_17 : decode cX2_remembers 17 = .ok (.getfield 7, 3) := dk_180 0 7 (dk_at dksX2_remembers_0 17 rfl rfl)
theorem dX2_remembers_20 : decode cX2_remembers 20 = .ok (.iconst 3, 1) := dk_6 (dk_at dksX2_remembers_0 20 rfl rfl)
theorem dX2_remembers_21 : decode cX2_remembers 21 = .ok (.iaload, 1) := dk_46 (dk_at dksX2_remembers_0 21 rfl rfl)
theorem dX2_remembers_22 : decode cX2_remembers 22 = .ok (.iastore, 1) := dk_79 (dk_at dksX2_remembers_0 22 rfl rfl)
theorem dX2_remembers_23 : decode cX2_remembers 23 = .ok (.aload_n 0, 1) := dk_42 (dk_at dksX2_remembers_0 23 rfl rfl)
theorem dX2_remembers_24 : decode cX2_remembers 24 = .ok (.getfield 7, 3) := dk_180 0 7 (dk_at dksX2_remembers_1 0 rfl rfl)
theorem dX2_remembers_27 : decode cX2_remembers 27 = .ok (.iconst 3, 1) := dk_6 (dk_at dksX2_remembers_1 3 rfl rfl)
theorem dX2_remembers_28 : decode cX2_remembers 28 = .ok (.iload_n 1, 1) := dk_27 (dk_at dksX2_remembers_1 4 rfl rfl)
theorem dX2_remembers_29 : decode cX2_remembers 29 = .ok (.iastore, 1) := dk_79 (dk_at dksX2_remembers_1 5 rfl rfl)
theorem dX2_remembers_30 : decode cX2_remembers 30 = .ok (.return_, 1) := dk_177 (dk_at dksX2_remembers_1 6 rfl rfl)
abbrev cX2_sends : ByteArray := prog_12_method_20_code
def yX2_sends : MethodName := ⟨RX2, "sends", "(I)I"⟩
def dkwX2_sends_1 : List UInt8 := [16, 32, 160, 0, 6, 16, 253, 172, 42, 182, 0, 120, 42, 27, 182, 0, 123, 172]
abbrev dktX2_sends_1 : List UInt8 := dkwX2_sends_1 ++ []
def dkwX2_sends_0 : List UInt8 := [42, 3, 181, 0, 59, 27, 3, 16, 30, 184, 0, 85, 154, 0, 5, 2, 172, 42, 180, 0, 7, 3, 46]
abbrev dktX2_sends_0 : List UInt8 := dkwX2_sends_0 ++ dktX2_sends_1
theorem dksX2_sends_0 : cX2_sends.data.toList.drop 0 = dktX2_sends_0 := by decide +kernel
theorem dksX2_sends_1 : cX2_sends.data.toList.drop 23 = dktX2_sends_1 := dk_seg dksX2_sends_0 23 rfl rfl
theorem dX2_sends_0 : decode cX2_sends 0 = .ok (.aload_n 0, 1) := dk_42 (dk_at dksX2_sends_0 0 rfl rfl)
theorem dX2_sends_1 : decode cX2_sends 1 = .ok (.iconst 0, 1) := dk_3 (dk_at dksX2_sends_0 1 rfl rfl)
theorem dX2_sends_2 : decode cX2_sends 2 = .ok (.putfield 59, 3) := dk_181 0 59 (dk_at dksX2_sends_0 2 rfl rfl)
theorem dX2_sends_5 : decode cX2_sends 5 = .ok (.iload_n 1, 1) := dk_27 (dk_at dksX2_sends_0 5 rfl rfl)
theorem dX2_sends_6 : decode cX2_sends 6 = .ok (.iconst 0, 1) := dk_3 (dk_at dksX2_sends_0 6 rfl rfl)
theorem dX2_sends_7 : decode cX2_sends 7 = .ok (.bipush 30, 2) := dk_16 30 (dk_at dksX2_sends_0 7 rfl rfl)
theorem dX2_sends_9 : decode cX2_sends 9 = .ok (.invokestatic 85, 3) := dk_184 0 85 (dk_at dksX2_sends_0 9 rfl rfl)
theorem dX2_sends_12 : decode cX2_sends 12 = .ok (.ifCond .ne 5, 3) := dk_154 0 5 (dk_at dksX2_sends_0 12 rfl rfl)
theorem dX2_sends_15 : decode cX2_sends 15 = .ok (.iconst (-1), 1) := dk_2 (dk_at dksX2_sends_0 15 rfl rfl)
theorem dX2_sends_16 : decode cX2_sends 16 = .ok (.ireturn, 1) := dk_172 (dk_at dksX2_sends_0 16 rfl rfl)
theorem dX2_sends_17 : decode cX2_sends 17 = .ok (.aload_n 0, 1) := dk_42 (dk_at dksX2_sends_0 17 rfl rfl)
theorem dX2_sends_18 : decode cX2_sends 18 = .ok (.getfield 7, 3) := dk_180 0 7 (dk_at dksX2_sends_0 18 rfl rfl)
theorem dX2_sends_21 : decode cX2_sends 21 = .ok (.iconst 0, 1) := dk_3 (dk_at dksX2_sends_0 21 rfl rfl)
theorem dX2_sends_22 : decode cX2_sends 22 = .ok (.iaload, 1) := dk_46 (dk_at dksX2_sends_0 22 rfl rfl)
theorem dX2_sends_23 : decode cX2_sends 23 = .ok (.bipush 32, 2) := dk_16 32 (dk_at dksX2_sends_1 0 rfl rfl)
theorem dX2_sends_25 : decode cX2_sends 25 = .ok (.if_icmp .ne 6, 3) := dk_160 0 6 (dk_at dksX2_sends_1 2 rfl rfl)
theorem dX2_sends_28 : decode cX2_sends 28 = .ok (.bipush (-3), 2) := dk_16 253 (dk_at dksX2_sends_1 5 rfl rfl)
theorem dX2_sends_30 : decode cX2_sends 30 = .ok (.ireturn, 1) := dk_172 (dk_at dksX2_sends_1 7 rfl rfl)
theorem dX2_sends_31 : decode cX2_sends 31 = .ok (.aload_n 0, 1) := dk_42 (dk_at dksX2_sends_1 8 rfl rfl)
theorem dX2_sends_32 : decode cX2_sends 32 = .ok (.invokevirtual 120, 3) := dk_182 0 120 (dk_at dksX2_sends_1 9 rfl rfl)
theorem dX2_sends_35 : decode cX2_sends 35 = .ok (.aload_n 0, 1) := dk_42 (dk_at dksX2_sends_1 12 rfl rfl)
theorem dX2_sends_36 : decode cX2_sends 36 = .ok (.iload_n 1, 1) := dk_27 (dk_at dksX2_sends_1 13 rfl rfl)
theorem dX2_sends_37 : decode cX2_sends 37 = .ok (.invokevirtual 123, 3) := dk_182 0 123 (dk_at dksX2_sends_1 14 rfl rfl)
theorem dX2_sends_40 : decode cX2_sends 40 = .ok (.ireturn, 1) := dk_172 (dk_at dksX2_sends_1 17 rfl rfl)
abbrev cX2_marks : ByteArray := prog_12_method_21_code
def yX2_marks : MethodName := ⟨RX2, "marks", "(I)I"⟩
def dkwX2_marks_1 : List UInt8 := [160, 0, 6, 16, 253, 172, 42, 182, 0, 120, 42, 16, 31, 27, 96, 182, 0, 123, 172]
abbrev dktX2_marks_1 : List UInt8 := dkwX2_marks_1 ++ []
def dkwX2_marks_0 : List UInt8 := [42, 3, 181, 0, 59, 27, 3, 5, 184, 0, 85, 154, 0, 5, 2, 172, 42, 180, 0, 7, 3, 46, 16, 32]
abbrev dktX2_marks_0 : List UInt8 := dkwX2_marks_0 ++ dktX2_marks_1
theorem dksX2_marks_0 : cX2_marks.data.toList.drop 0 = dktX2_marks_0 := by decide +kernel
theorem dksX2_marks_1 : cX2_marks.data.toList.drop 24 = dktX2_marks_1 := dk_seg dksX2_marks_0 24 rfl rfl
theorem dX2_marks_0 : decode cX2_marks 0 = .ok (.aload_n 0, 1) := dk_42 (dk_at dksX2_marks_0 0 rfl rfl)
theorem dX2_marks_1 : decode cX2_marks 1 = .ok (.iconst 0, 1) := dk_3 (dk_at dksX2_marks_0 1 rfl rfl)
theorem dX2_marks_2 : decode cX2_marks 2 = .ok (.putfield 59, 3) := dk_181 0 59 (dk_at dksX2_marks_0 2 rfl rfl)
theorem dX2_marks_5 : decode cX2_marks 5 = .ok (.iload_n 1, 1) := dk_27 (dk_at dksX2_marks_0 5 rfl rfl)
theorem dX2_marks_6 : decode cX2_marks 6 = .ok (.iconst 0, 1) := dk_3 (dk_at dksX2_marks_0 6 rfl rfl)
theorem dX2_marks_7 : decode cX2_marks 7 = .ok (.iconst 2, 1) := dk_5 (dk_at dksX2_marks_0 7 rfl rfl)
theorem dX2_marks_8 : decode cX2_marks 8 = .ok (.invokestatic 85, 3) := dk_184 0 85 (dk_at dksX2_marks_0 8 rfl rfl)
theorem dX2_marks_11 : decode cX2_marks 11 = .ok (.ifCond .ne 5, 3) := dk_154 0 5 (dk_at dksX2_marks_0 11 rfl rfl)
theorem dX2_marks_14 : decode cX2_marks 14 = .ok (.iconst (-1), 1) := dk_2 (dk_at dksX2_marks_0 14 rfl rfl)
theorem dX2_marks_15 : decode cX2_marks 15 = .ok (.ireturn, 1) := dk_172 (dk_at dksX2_marks_0 15 rfl rfl)
theorem dX2_marks_16 : decode cX2_marks 16 = .ok (.aload_n 0, 1) := dk_42 (dk_at dksX2_marks_0 16 rfl rfl)
theorem dX2_marks_17 : decode cX2_marks 17 = .ok (.getfield 7, 3) := dk_180 0 7 (dk_at dksX2_marks_0 17 rfl rfl)
theorem dX2_marks_20 : decode cX2_marks 20 = .ok (.iconst 0, 1) := dk_3 (dk_at dksX2_marks_0 20 rfl rfl)
theorem dX2_marks_21 : decode cX2_marks 21 = .ok (.iaload, 1) := dk_46 (dk_at dksX2_marks_0 21 rfl rfl)
theorem dX2_marks_22 : decode cX2_marks 22 = .ok (.bipush 32, 2) := dk_16 32 (dk_at dksX2_marks_0 22 rfl rfl)
theorem dX2_marks_24 : decode cX2_marks 24 = .ok (.if_icmp .ne 6, 3) := dk_160 0 6 (dk_at dksX2_marks_1 0 rfl rfl)
theorem dX2_marks_27 : decode cX2_marks 27 = .ok (.bipush (-3), 2) := dk_16 253 (dk_at dksX2_marks_1 3 rfl rfl)
theorem dX2_marks_29 : decode cX2_marks 29 = .ok (.ireturn, 1) := dk_172 (dk_at dksX2_marks_1 5 rfl rfl)
theorem dX2_marks_30 : decode cX2_marks 30 = .ok (.aload_n 0, 1) := dk_42 (dk_at dksX2_marks_1 6 rfl rfl)
theorem dX2_marks_31 : decode cX2_marks 31 = .ok (.invokevirtual 120, 3) := dk_182 0 120 (dk_at dksX2_marks_1 7 rfl rfl)
theorem dX2_marks_34 : decode cX2_marks 34 = .ok (.aload_n 0, 1) := dk_42 (dk_at dksX2_marks_1 10 rfl rfl)
theorem dX2_marks_35 : decode cX2_marks 35 = .ok (.bipush 31, 2) := dk_16 31 (dk_at dksX2_marks_1 11 rfl rfl)
theorem dX2_marks_37 : decode cX2_marks 37 = .ok (.iload_n 1, 1) := dk_27 (dk_at dksX2_marks_1 13 rfl rfl)
theorem dX2_marks_38 : decode cX2_marks 38 = .ok (.iadd, 1) := dk_96 (dk_at dksX2_marks_1 14 rfl rfl)
theorem dX2_marks_39 : decode cX2_marks 39 = .ok (.invokevirtual 123, 3) := dk_182 0 123 (dk_at dksX2_marks_1 15 rfl rfl)
theorem dX2_marks_42 : decode cX2_marks 42 = .ok (.ireturn, 1) := dk_172 (dk_at dksX2_marks_1 18 rfl rfl)
abbrev cX2_flips : ByteArray := prog_12_method_23_code
def yX2_flips : MethodName := ⟨RX2, "flips", "(I)I"⟩
def dkwX2_flips_2 : List UInt8 := [46, 172]
abbrev dktX2_flips_2 : List UInt8 := dkwX2_flips_2 ++ []
def dkwX2_flips_1 : List UInt8 := [16, 36, 27, 96, 4, 42, 180, 0, 7, 16, 36, 27, 96, 46, 100, 79, 42, 180, 0, 7, 16, 36, 27, 96]
abbrev dktX2_flips_1 : List UInt8 := dkwX2_flips_1 ++ dktX2_flips_2
def dkwX2_flips_0 : List UInt8 := [42, 3, 181, 0, 59, 42, 27, 182, 0, 133, 154, 0, 5, 2, 172, 42, 182, 0, 120, 42, 180, 0, 7]
abbrev dktX2_flips_0 : List UInt8 := dkwX2_flips_0 ++ dktX2_flips_1
theorem dksX2_flips_0 : cX2_flips.data.toList.drop 0 = dktX2_flips_0 := by decide +kernel
theorem dksX2_flips_1 : cX2_flips.data.toList.drop 23 = dktX2_flips_1 := dk_seg dksX2_flips_0 23 rfl rfl
theorem dksX2_flips_2 : cX2_flips.data.toList.drop 47 = dktX2_flips_2 := dk_seg dksX2_flips_1 24 rfl rfl
theorem dX2_flips_0 : decode cX2_flips 0 = .ok (.aload_n 0, 1) := dk_42 (dk_at dksX2_flips_0 0 rfl rfl)
theorem dX2_flips_1 : decode cX2_flips 1 = .ok (.iconst 0, 1) := dk_3 (dk_at dksX2_flips_0 1 rfl rfl)
theorem dX2_flips_2 : decode cX2_flips 2 = .ok (.putfield 59, 3) := dk_181 0 59 (dk_at dksX2_flips_0 2 rfl rfl)
theorem dX2_flips_5 : decode cX2_flips 5 = .ok (.aload_n 0, 1) := dk_42 (dk_at dksX2_flips_0 5 rfl rfl)
theorem dX2_flips_6 : decode cX2_flips 6 = .ok (.iload_n 1, 1) := dk_27 (dk_at dksX2_flips_0 6 rfl rfl)
theorem dX2_flips_7 : decode cX2_flips 7 = .ok (.invokevirtual 133, 3) := dk_182 0 133 (dk_at dksX2_flips_0 7 rfl rfl)
theorem dX2_flips_10 : decode cX2_flips 10 = .ok (.ifCond .ne 5, 3) := dk_154 0 5 (dk_at dksX2_flips_0 10 rfl rfl)
theorem dX2_flips_13 : decode cX2_flips 13 = .ok (.iconst (-1), 1) := dk_2 (dk_at dksX2_flips_0 13 rfl rfl)
theorem dX2_flips_14 : decode cX2_flips 14 = .ok (.ireturn, 1) := dk_172 (dk_at dksX2_flips_0 14 rfl rfl)
theorem dX2_flips_15 : decode cX2_flips 15 = .ok (.aload_n 0, 1) := dk_42 (dk_at dksX2_flips_0 15 rfl rfl)
theorem dX2_flips_16 : decode cX2_flips 16 = .ok (.invokevirtual 120, 3) := dk_182 0 120 (dk_at dksX2_flips_0 16 rfl rfl)
theorem dX2_flips_19 : decode cX2_flips 19 = .ok (.aload_n 0, 1) := dk_42 (dk_at dksX2_flips_0 19 rfl rfl)
theorem dX2_flips_20 : decode cX2_flips 20 = .ok (.getfield 7, 3) := dk_180 0 7 (dk_at dksX2_flips_0 20 rfl rfl)
theorem dX2_flips_23 : decode cX2_flips 23 = .ok (.bipush 36, 2) := dk_16 36 (dk_at dksX2_flips_1 0 rfl rfl)
theorem dX2_flips_25 : decode cX2_flips 25 = .ok (.iload_n 1, 1) := dk_27 (dk_at dksX2_flips_1 2 rfl rfl)
theorem dX2_flips_26 : decode cX2_flips 26 = .ok (.iadd, 1) := dk_96 (dk_at dksX2_flips_1 3 rfl rfl)
theorem dX2_flips_27 : decode cX2_flips 27 = .ok (.iconst 1, 1) := dk_4 (dk_at dksX2_flips_1 4 rfl rfl)
theorem dX2_flips_28 : decode cX2_flips 28 = .ok (.aload_n 0, 1) := dk_42 (dk_at dksX2_flips_1 5 rfl rfl)
theorem dX2_flips_29 : decode cX2_flips 29 = .ok (.getfield 7, 3) := dk_180 0 7 (dk_at dksX2_flips_1 6 rfl rfl)
theorem dX2_flips_32 : decode cX2_flips 32 = .ok (.bipush 36, 2) := dk_16 36 (dk_at dksX2_flips_1 9 rfl rfl)
theorem dX2_flips_34 : decode cX2_flips 34 = .ok (.iload_n 1, 1) := dk_27 (dk_at dksX2_flips_1 11 rfl rfl)
theorem dX2_flips_35 : decode cX2_flips 35 = .ok (.iadd, 1) := dk_96 (dk_at dksX2_flips_1 12 rfl rfl)
theorem dX2_flips_36 : decode cX2_flips 36 = .ok (.iaload, 1) := dk_46 (dk_at dksX2_flips_1 13 rfl rfl)
theorem dX2_flips_37 : decode cX2_flips 37 = .ok (.isub, 1) := dk_100 (dk_at dksX2_flips_1 14 rfl rfl)
theorem dX2_flips_38 : decode cX2_flips 38 = .ok (.iastore, 1) := dk_79 (dk_at dksX2_flips_1 15 rfl rfl)
theorem dX2_flips_39 : decode cX2_flips 39 = .ok (.aload_n 0, 1) := dk_42 (dk_at dksX2_flips_1 16 rfl rfl)
theorem dX2_flips_40 : decode cX2_flips 40 = .ok (.getfield 7, 3) := dk_180 0 7 (dk_at dksX2_flips_1 17 rfl rfl)
theorem dX2_flips_43 : decode cX2_flips 43 = .ok (.bipush 36, 2) := dk_16 36 (dk_at dksX2_flips_1 20 rfl rfl)
theorem dX2_flips_45 : decode cX2_flips 45 = .ok (.iload_n 1, 1) := dk_27 (dk_at dksX2_flips_1 22 rfl rfl)
theorem dX2_flips_46 : decode cX2_flips 46 = .ok (.iadd, 1) := dk_96 (dk_at dksX2_flips_1 23 rfl rfl)
theorem dX2_flips_47 : decode cX2_flips 47 = .ok (.iaload, 1) := dk_46 (dk_at dksX2_flips_2 0 rfl rfl)
theorem dX2_flips_48 : decode cX2_flips 48 = .ok (.ireturn, 1) := dk_172 (dk_at dksX2_flips_2 1 rfl rfl)
abbrev cX2_isBit : ByteArray := prog_12_method_22_code
def yX2_isBit : MethodName := ⟨RX2, "isBit", "(I)Z"⟩
def dkwX2_isBit_0 : List UInt8 := [27, 3, 16, 6, 42, 180, 0, 7, 3, 46, 104, 4, 100, 184, 0, 85, 172]
abbrev dktX2_isBit_0 : List UInt8 := dkwX2_isBit_0 ++ []
theorem dksX2_isBit_0 : cX2_isBit.data.toList.drop 0 = dktX2_isBit_0 := by decide +kernel
theorem dX2_isBit_0 : decode cX2_isBit 0 = .ok (.iload_n 1, 1) := dk_27 (dk_at dksX2_isBit_0 0 rfl rfl)
theorem dX2_isBit_1 : decode cX2_isBit 1 = .ok (.iconst 0, 1) := dk_3 (dk_at dksX2_isBit_0 1 rfl rfl)
theorem dX2_isBit_2 : decode cX2_isBit 2 = .ok (.bipush 6, 2) := dk_16 6 (dk_at dksX2_isBit_0 2 rfl rfl)
theorem dX2_isBit_4 : decode cX2_isBit 4 = .ok (.aload_n 0, 1) := dk_42 (dk_at dksX2_isBit_0 4 rfl rfl)
theorem dX2_isBit_5 : decode cX2_isBit 5 = .ok (.getfield 7, 3) := dk_180 0 7 (dk_at dksX2_isBit_0 5 rfl rfl)
theorem dX2_isBit_8 : decode cX2_isBit 8 = .ok (.iconst 0, 1) := dk_3 (dk_at dksX2_isBit_0 8 rfl rfl)
theorem dX2_isBit_9 : decode cX2_isBit 9 = .ok (.iaload, 1) := dk_46 (dk_at dksX2_isBit_0 9 rfl rfl)
theorem dX2_isBit_10 : decode cX2_isBit 10 = .ok (.imul, 1) := dk_104 (dk_at dksX2_isBit_0 10 rfl rfl)
theorem dX2_isBit_11 : decode cX2_isBit 11 = .ok (.iconst 1, 1) := dk_4 (dk_at dksX2_isBit_0 11 rfl rfl)
theorem dX2_isBit_12 : decode cX2_isBit 12 = .ok (.isub, 1) := dk_100 (dk_at dksX2_isBit_0 12 rfl rfl)
theorem dX2_isBit_13 : decode cX2_isBit 13 = .ok (.invokestatic 85, 3) := dk_184 0 85 (dk_at dksX2_isBit_0 13 rfl rfl)
theorem dX2_isBit_16 : decode cX2_isBit 16 = .ok (.ireturn, 1) := dk_172 (dk_at dksX2_isBit_0 16 rfl rfl)
abbrev cX2_clears : ByteArray := prog_12_method_24_code
def yX2_clears : MethodName := ⟨RX2, "clears", "()I"⟩
def dkwX2_clears_1 : List UInt8 := [182, 0, 56, 27, 172]
abbrev dktX2_clears_1 : List UInt8 := dkwX2_clears_1 ++ []
def dkwX2_clears_0 : List UInt8 := [42, 3, 181, 0, 59, 42, 180, 0, 7, 3, 46, 60, 27, 154, 0, 6, 16, 254, 172, 42, 182, 0, 120, 42]
abbrev dktX2_clears_0 : List UInt8 := dkwX2_clears_0 ++ dktX2_clears_1
theorem dksX2_clears_0 : cX2_clears.data.toList.drop 0 = dktX2_clears_0 := by decide +kernel
theorem dksX2_clears_1 : cX2_clears.data.toList.drop 24 = dktX2_clears_1 := dk_seg dksX2_clears_0 24 rfl rfl
theorem dX2_clears_0 : decode cX2_clears 0 = .ok (.aload_n 0, 1) := dk_42 (dk_at dksX2_clears_0 0 rfl rfl)
theorem dX2_clears_1 : decode cX2_clears 1 = .ok (.iconst 0, 1) := dk_3 (dk_at dksX2_clears_0 1 rfl rfl)
theorem dX2_clears_2 : decode cX2_clears 2 = .ok (.putfield 59, 3) := dk_181 0 59 (dk_at dksX2_clears_0 2 rfl rfl)
theorem dX2_clears_5 : decode cX2_clears 5 = .ok (.aload_n 0, 1) := dk_42 (dk_at dksX2_clears_0 5 rfl rfl)
theorem dX2_clears_6 : decode cX2_clears 6 = .ok (.getfield 7, 3) := dk_180 0 7 (dk_at dksX2_clears_0 6 rfl rfl)
theorem dX2_clears_9 : decode cX2_clears 9 = .ok (.iconst 0, 1) := dk_3 (dk_at dksX2_clears_0 9 rfl rfl)
theorem dX2_clears_10 : decode cX2_clears 10 = .ok (.iaload, 1) := dk_46 (dk_at dksX2_clears_0 10 rfl rfl)
theorem dX2_clears_11 : decode cX2_clears 11 = .ok (.istore_n 1, 1) := dk_60 (dk_at dksX2_clears_0 11 rfl rfl)
theorem dX2_clears_12 : decode cX2_clears 12 = .ok (.iload_n 1, 1) := dk_27 (dk_at dksX2_clears_0 12 rfl rfl)
theorem dX2_clears_13 : decode cX2_clears 13 = .ok (.ifCond .ne 6, 3) := dk_154 0 6 (dk_at dksX2_clears_0 13 rfl rfl)
theorem dX2_clears_16 : decode cX2_clears 16 = .ok (.bipush (-2), 2) := dk_16 254 (dk_at dksX2_clears_0 16 rfl rfl)
theorem dX2_clears_18 : decode cX2_clears 18 = .ok (.ireturn, 1) := dk_172 (dk_at dksX2_clears_0 18 rfl rfl)
theorem dX2_clears_19 : decode cX2_clears 19 = .ok (.aload_n 0, 1) := dk_42 (dk_at dksX2_clears_0 19 rfl rfl)
theorem dX2_clears_20 : decode cX2_clears 20 = .ok (.invokevirtual 120, 3) := dk_182 0 120 (dk_at dksX2_clears_0 20 rfl rfl)
theorem dX2_clears_23 : decode cX2_clears 23 = .ok (.aload_n 0, 1) := dk_42 (dk_at dksX2_clears_0 23 rfl rfl)
theorem dX2_clears_24 : decode cX2_clears 24 = .ok (.invokevirtual 56, 3) := dk_182 0 56 (dk_at dksX2_clears_1 0 rfl rfl)
theorem dX2_clears_27 : decode cX2_clears 27 = .ok (.iload_n 1, 1) := dk_27 (dk_at dksX2_clears_1 3 rfl rfl)
theorem dX2_clears_28 : decode cX2_clears 28 = .ok (.ireturn, 1) := dk_172 (dk_at dksX2_clears_1 4 rfl rfl)
abbrev cX2_undo : ByteArray := prog_12_method_25_code
def yX2_undo : MethodName := ⟨RX2, "undo", "()I"⟩
def dkwX2_undo_2 : List UInt8 := [42, 180, 0, 126, 104, 27, 96, 46, 79, 132, 1, 1, 167, 255, 225, 42, 180, 0, 126, 172]
abbrev dktX2_undo_2 : List UInt8 := dkwX2_undo_2 ++ []
def dkwX2_undo_1 : List UInt8 := [181, 0, 126, 3, 60, 27, 17, 0, 228, 162, 0, 30, 42, 180, 0, 7, 27, 42, 180, 0, 13, 17, 0, 228]
abbrev dktX2_undo_1 : List UInt8 := dkwX2_undo_1 ++ dktX2_undo_2
def dkwX2_undo_0 : List UInt8 := [42, 3, 181, 0, 59, 42, 180, 0, 126, 154, 0, 6, 16, 254, 172, 42, 89, 180, 0, 126, 4, 100]
abbrev dktX2_undo_0 : List UInt8 := dkwX2_undo_0 ++ dktX2_undo_1
theorem dksX2_undo_0 : cX2_undo.data.toList.drop 0 = dktX2_undo_0 := by decide +kernel
theorem dksX2_undo_1 : cX2_undo.data.toList.drop 22 = dktX2_undo_1 := dk_seg dksX2_undo_0 22 rfl rfl
theorem dksX2_undo_2 : cX2_undo.data.toList.drop 46 = dktX2_undo_2 := dk_seg dksX2_undo_1 24 rfl rfl
theorem dX2_undo_0 : decode cX2_undo 0 = .ok (.aload_n 0, 1) := dk_42 (dk_at dksX2_undo_0 0 rfl rfl)
theorem dX2_undo_1 : decode cX2_undo 1 = .ok (.iconst 0, 1) := dk_3 (dk_at dksX2_undo_0 1 rfl rfl)
theorem dX2_undo_2 : decode cX2_undo 2 = .ok (.putfield 59, 3) := dk_181 0 59 (dk_at dksX2_undo_0 2 rfl rfl)
theorem dX2_undo_5 : decode cX2_undo 5 = .ok (.aload_n 0, 1) := dk_42 (dk_at dksX2_undo_0 5 rfl rfl)
theorem dX2_undo_6 : decode cX2_undo 6 = .ok (.getfield 126, 3) := dk_180 0 126 (dk_at dksX2_undo_0 6 rfl rfl)
theorem dX2_undo_9 : decode cX2_undo 9 = .ok (.ifCond .ne 6, 3) := dk_154 0 6 (dk_at dksX2_undo_0 9 rfl rfl)
theorem dX2_undo_12 : decode cX2_undo 12 = .ok (.bipush (-2), 2) := dk_16 254 (dk_at dksX2_undo_0 12 rfl rfl)
theorem dX2_undo_14 : decode cX2_undo 14 = .ok (.ireturn, 1) := dk_172 (dk_at dksX2_undo_0 14 rfl rfl)
theorem dX2_undo_15 : decode cX2_undo 15 = .ok (.aload_n 0, 1) := dk_42 (dk_at dksX2_undo_0 15 rfl rfl)
theorem dX2_undo_16 : decode cX2_undo 16 = .ok (.dup, 1) := dk_89 (dk_at dksX2_undo_0 16 rfl rfl)
theorem dX2_undo_17 : decode cX2_undo 17 = .ok (.getfield 126, 3) := dk_180 0 126 (dk_at dksX2_undo_0 17 rfl rfl)
theorem dX2_undo_20 : decode cX2_undo 20 = .ok (.iconst 1, 1) := dk_4 (dk_at dksX2_undo_0 20 rfl rfl)
theorem dX2_undo_21 : decode cX2_undo 21 = .ok (.isub, 1) := dk_100 (dk_at dksX2_undo_0 21 rfl rfl)
theorem dX2_undo_22 : decode cX2_undo 22 = .ok (.putfield 126, 3) := dk_181 0 126 (dk_at dksX2_undo_1 0 rfl rfl)
theorem dX2_undo_25 : decode cX2_undo 25 = .ok (.iconst 0, 1) := dk_3 (dk_at dksX2_undo_1 3 rfl rfl)
theorem dX2_undo_26 : decode cX2_undo 26 = .ok (.istore_n 1, 1) := dk_60 (dk_at dksX2_undo_1 4 rfl rfl)
theorem dX2_undo_27 : decode cX2_undo 27 = .ok (.iload_n 1, 1) := dk_27 (dk_at dksX2_undo_1 5 rfl rfl)
theorem dX2_undo_28 : decode cX2_undo 28 = .ok (.sipush 228, 3) := dk_17 0 228 (dk_at dksX2_undo_1 6 rfl rfl)
theorem dX2_undo_31 : decode cX2_undo 31 = .ok (.if_icmp .ge 30, 3) := dk_162 0 30 (dk_at dksX2_undo_1 9 rfl rfl)
theorem dX2_undo_34 : decode cX2_undo 34 = .ok (.aload_n 0, 1) := dk_42 (dk_at dksX2_undo_1 12 rfl rfl)
theorem dX2_undo_35 : decode cX2_undo 35 = .ok (.getfield 7, 3) := dk_180 0 7 (dk_at dksX2_undo_1 13 rfl rfl)
theorem dX2_undo_38 : decode cX2_undo 38 = .ok (.iload_n 1, 1) := dk_27 (dk_at dksX2_undo_1 16 rfl rfl)
theorem dX2_undo_39 : decode cX2_undo 39 = .ok (.aload_n 0, 1) := dk_42 (dk_at dksX2_undo_1 17 rfl rfl)
theorem dX2_undo_40 : decode cX2_undo 40 = .ok (.getfield 13, 3) := dk_180 0 13 (dk_at dksX2_undo_1 18 rfl rfl)
theorem dX2_undo_43 : decode cX2_undo 43 = .ok (.sipush 228, 3) := dk_17 0 228 (dk_at dksX2_undo_1 21 rfl rfl)
theorem dX2_undo_46 : decode cX2_undo 46 = .ok (.aload_n 0, 1) := dk_42 (dk_at dksX2_undo_2 0 rfl rfl)
theorem dX2_undo_47 : decode cX2_undo 47 = .ok (.getfield 126, 3) := dk_180 0 126 (dk_at dksX2_undo_2 1 rfl rfl)
theorem dX2_undo_50 : decode cX2_undo 50 = .ok (.imul, 1) := dk_104 (dk_at dksX2_undo_2 4 rfl rfl)
theorem dX2_undo_51 : decode cX2_undo 51 = .ok (.iload_n 1, 1) := dk_27 (dk_at dksX2_undo_2 5 rfl rfl)
theorem dX2_undo_52 : decode cX2_undo 52 = .ok (.iadd, 1) := dk_96 (dk_at dksX2_undo_2 6 rfl rfl)
theorem dX2_undo_53 : decode cX2_undo 53 = .ok (.iaload, 1) := dk_46 (dk_at dksX2_undo_2 7 rfl rfl)
theorem dX2_undo_54 : decode cX2_undo 54 = .ok (.iastore, 1) := dk_79 (dk_at dksX2_undo_2 8 rfl rfl)
theorem dX2_undo_55 : decode cX2_undo 55 = .ok (.iinc 1 1, 3) := dk_132 1 1 (dk_at dksX2_undo_2 9 rfl rfl)
theorem dX2_undo_58 : decode cX2_undo 58 = .ok (.goto (-31), 3) := dk_167 255 225 (dk_at dksX2_undo_2 12 rfl rfl)
theorem dX2_undo_61 : decode cX2_undo 61 = .ok (.aload_n 0, 1) := dk_42 (dk_at dksX2_undo_2 15 rfl rfl)
theorem dX2_undo_62 : decode cX2_undo 62 = .ok (.getfield 126, 3) := dk_180 0 126 (dk_at dksX2_undo_2 16 rfl rfl)
theorem dX2_undo_65 : decode cX2_undo 65 = .ok (.ireturn, 1) := dk_172 (dk_at dksX2_undo_2 19 rfl rfl)
abbrev cX2_form : ByteArray := prog_12_method_26_code
def yX2_form : MethodName := ⟨RX2, "form", "(II)I"⟩
def dkwX2_form_1 : List UInt8 := [27, 28, 184, 0, 79, 167, 0, 4, 2, 172]
abbrev dktX2_form_1 : List UInt8 := dkwX2_form_1 ++ []
def dkwX2_form_0 : List UInt8 := [42, 3, 181, 0, 59, 27, 3, 16, 33, 184, 0, 85, 153, 0, 20, 28, 3, 4, 184, 0, 85, 153, 0, 11]
abbrev dktX2_form_0 : List UInt8 := dkwX2_form_0 ++ dktX2_form_1
theorem dksX2_form_0 : cX2_form.data.toList.drop 0 = dktX2_form_0 := by decide +kernel
theorem dksX2_form_1 : cX2_form.data.toList.drop 24 = dktX2_form_1 := dk_seg dksX2_form_0 24 rfl rfl
theorem dX2_form_0 : decode cX2_form 0 = .ok (.aload_n 0, 1) := dk_42 (dk_at dksX2_form_0 0 rfl rfl)
theorem dX2_form_1 : decode cX2_form 1 = .ok (.iconst 0, 1) := dk_3 (dk_at dksX2_form_0 1 rfl rfl)
theorem dX2_form_2 : decode cX2_form 2 = .ok (.putfield 59, 3) := dk_181 0 59 (dk_at dksX2_form_0 2 rfl rfl)
theorem dX2_form_5 : decode cX2_form 5 = .ok (.iload_n 1, 1) := dk_27 (dk_at dksX2_form_0 5 rfl rfl)
theorem dX2_form_6 : decode cX2_form 6 = .ok (.iconst 0, 1) := dk_3 (dk_at dksX2_form_0 6 rfl rfl)
theorem dX2_form_7 : decode cX2_form 7 = .ok (.bipush 33, 2) := dk_16 33 (dk_at dksX2_form_0 7 rfl rfl)
theorem dX2_form_9 : decode cX2_form 9 = .ok (.invokestatic 85, 3) := dk_184 0 85 (dk_at dksX2_form_0 9 rfl rfl)
theorem dX2_form_12 : decode cX2_form 12 = .ok (.ifCond .eq 20, 3) := dk_153 0 20 (dk_at dksX2_form_0 12 rfl rfl)
theorem dX2_form_15 : decode cX2_form 15 = .ok (.iload_n 2, 1) := dk_28 (dk_at dksX2_form_0 15 rfl rfl)
theorem dX2_form_16 : decode cX2_form 16 = .ok (.iconst 0, 1) := dk_3 (dk_at dksX2_form_0 16 rfl rfl)
theorem dX2_form_17 : decode cX2_form 17 = .ok (.iconst 1, 1) := dk_4 (dk_at dksX2_form_0 17 rfl rfl)
theorem dX2_form_18 : decode cX2_form 18 = .ok (.invokestatic 85, 3) := dk_184 0 85 (dk_at dksX2_form_0 18 rfl rfl)
theorem dX2_form_21 : decode cX2_form 21 = .ok (.ifCond .eq 11, 3) := dk_153 0 11 (dk_at dksX2_form_0 21 rfl rfl)
theorem dX2_form_24 : decode cX2_form 24 = .ok (.iload_n 1, 1) := dk_27 (dk_at dksX2_form_1 0 rfl rfl)
theorem dX2_form_25 : decode cX2_form 25 = .ok (.iload_n 2, 1) := dk_28 (dk_at dksX2_form_1 1 rfl rfl)
theorem dX2_form_26 : decode cX2_form 26 = .ok (.invokestatic 79, 3) := dk_184 0 79 (dk_at dksX2_form_1 2 rfl rfl)
theorem dX2_form_29 : decode cX2_form 29 = .ok (.goto 4, 3) := dk_167 0 4 (dk_at dksX2_form_1 5 rfl rfl)
theorem dX2_form_32 : decode cX2_form 32 = .ok (.iconst (-1), 1) := dk_2 (dk_at dksX2_form_1 8 rfl rfl)
theorem dX2_form_33 : decode cX2_form 33 = .ok (.ireturn, 1) := dk_172 (dk_at dksX2_form_1 9 rfl rfl)
abbrev cX2_bit : ByteArray := prog_12_method_27_code
def yX2_bit : MethodName := ⟨RX2, "bit", "(I)I"⟩
def dkwX2_bit_1 : List UInt8 := [167, 0, 4, 2, 172]
abbrev dktX2_bit_1 : List UInt8 := dkwX2_bit_1 ++ []
def dkwX2_bit_0 : List UInt8 := [42, 3, 181, 0, 59, 42, 27, 182, 0, 133, 153, 0, 15, 42, 180, 0, 7, 16, 36, 27, 96, 46]
abbrev dktX2_bit_0 : List UInt8 := dkwX2_bit_0 ++ dktX2_bit_1
theorem dksX2_bit_0 : cX2_bit.data.toList.drop 0 = dktX2_bit_0 := by decide +kernel
theorem dksX2_bit_1 : cX2_bit.data.toList.drop 22 = dktX2_bit_1 := dk_seg dksX2_bit_0 22 rfl rfl
theorem dX2_bit_0 : decode cX2_bit 0 = .ok (.aload_n 0, 1) := dk_42 (dk_at dksX2_bit_0 0 rfl rfl)
theorem dX2_bit_1 : decode cX2_bit 1 = .ok (.iconst 0, 1) := dk_3 (dk_at dksX2_bit_0 1 rfl rfl)
theorem dX2_bit_2 : decode cX2_bit 2 = .ok (.putfield 59, 3) := dk_181 0 59 (dk_at dksX2_bit_0 2 rfl rfl)
theorem dX2_bit_5 : decode cX2_bit 5 = .ok (.aload_n 0, 1) := dk_42 (dk_at dksX2_bit_0 5 rfl rfl)
theorem dX2_bit_6 : decode cX2_bit 6 = .ok (.iload_n 1, 1) := dk_27 (dk_at dksX2_bit_0 6 rfl rfl)
theorem dX2_bit_7 : decode cX2_bit 7 = .ok (.invokevirtual 133, 3) := dk_182 0 133 (dk_at dksX2_bit_0 7 rfl rfl)
theorem dX2_bit_10 : decode cX2_bit 10 = .ok (.ifCond .eq 15, 3) := dk_153 0 15 (dk_at dksX2_bit_0 10 rfl rfl)
theorem dX2_bit_13 : decode cX2_bit 13 = .ok (.aload_n 0, 1) := dk_42 (dk_at dksX2_bit_0 13 rfl rfl)
theorem dX2_bit_14 : decode cX2_bit 14 = .ok (.getfield 7, 3) := dk_180 0 7 (dk_at dksX2_bit_0 14 rfl rfl)
theorem dX2_bit_17 : decode cX2_bit 17 = .ok (.bipush 36, 2) := dk_16 36 (dk_at dksX2_bit_0 17 rfl rfl)
theorem dX2_bit_19 : decode cX2_bit 19 = .ok (.iload_n 1, 1) := dk_27 (dk_at dksX2_bit_0 19 rfl rfl)
theorem dX2_bit_20 : decode cX2_bit 20 = .ok (.iadd, 1) := dk_96 (dk_at dksX2_bit_0 20 rfl rfl)
theorem dX2_bit_21 : decode cX2_bit 21 = .ok (.iaload, 1) := dk_46 (dk_at dksX2_bit_0 21 rfl rfl)
theorem dX2_bit_22 : decode cX2_bit 22 = .ok (.goto 4, 3) := dk_167 0 4 (dk_at dksX2_bit_1 0 rfl rfl)
theorem dX2_bit_25 : decode cX2_bit 25 = .ok (.iconst (-1), 1) := dk_2 (dk_at dksX2_bit_1 3 rfl rfl)
theorem dX2_bit_26 : decode cX2_bit 26 = .ok (.ireturn, 1) := dk_172 (dk_at dksX2_bit_1 4 rfl rfl)
abbrev cX2_word : ByteArray := prog_12_method_28_code
def yX2_word : MethodName := ⟨RX2, "word", "(I)I"⟩
def dkwX2_word_1 : List UInt8 := [180, 0, 7, 7, 27, 96, 46, 167, 0, 4, 2, 172]
abbrev dktX2_word_1 : List UInt8 := dkwX2_word_1 ++ []
def dkwX2_word_0 : List UInt8 := [42, 3, 181, 0, 59, 27, 3, 42, 180, 0, 7, 3, 46, 4, 100, 184, 0, 85, 153, 0, 14, 42]
abbrev dktX2_word_0 : List UInt8 := dkwX2_word_0 ++ dktX2_word_1
theorem dksX2_word_0 : cX2_word.data.toList.drop 0 = dktX2_word_0 := by decide +kernel
theorem dksX2_word_1 : cX2_word.data.toList.drop 22 = dktX2_word_1 := dk_seg dksX2_word_0 22 rfl rfl
theorem dX2_word_0 : decode cX2_word 0 = .ok (.aload_n 0, 1) := dk_42 (dk_at dksX2_word_0 0 rfl rfl)
theorem dX2_word_1 : decode cX2_word 1 = .ok (.iconst 0, 1) := dk_3 (dk_at dksX2_word_0 1 rfl rfl)
theorem dX2_word_2 : decode cX2_word 2 = .ok (.putfield 59, 3) := dk_181 0 59 (dk_at dksX2_word_0 2 rfl rfl)
theorem dX2_word_5 : decode cX2_word 5 = .ok (.iload_n 1, 1) := dk_27 (dk_at dksX2_word_0 5 rfl rfl)
theorem dX2_word_6 : decode cX2_word 6 = .ok (.iconst 0, 1) := dk_3 (dk_at dksX2_word_0 6 rfl rfl)
theorem dX2_word_7 : decode cX2_word 7 = .ok (.aload_n 0, 1) := dk_42 (dk_at dksX2_word_0 7 rfl rfl)
theorem dX2_word_8 : decode cX2_word 8 = .ok (.getfield 7, 3) := dk_180 0 7 (dk_at dksX2_word_0 8 rfl rfl)
theorem dX2_word_11 : decode cX2_word 11 = .ok (.iconst 0, 1) := dk_3 (dk_at dksX2_word_0 11 rfl rfl)
theorem dX2_word_12 : decode cX2_word 12 = .ok (.iaload, 1) := dk_46 (dk_at dksX2_word_0 12 rfl rfl)
theorem dX2_word_13 : decode cX2_word 13 = .ok (.iconst 1, 1) := dk_4 (dk_at dksX2_word_0 13 rfl rfl)
theorem dX2_word_14 : decode cX2_word 14 = .ok (.isub, 1) := dk_100 (dk_at dksX2_word_0 14 rfl rfl)
theorem dX2_word_15 : decode cX2_word 15 = .ok (.invokestatic 85, 3) := dk_184 0 85 (dk_at dksX2_word_0 15 rfl rfl)
theorem dX2_word_18 : decode cX2_word 18 = .ok (.ifCond .eq 14, 3) := dk_153 0 14 (dk_at dksX2_word_0 18 rfl rfl)
theorem dX2_word_21 : decode cX2_word 21 = .ok (.aload_n 0, 1) := dk_42 (dk_at dksX2_word_0 21 rfl rfl)
theorem dX2_word_22 : decode cX2_word 22 = .ok (.getfield 7, 3) := dk_180 0 7 (dk_at dksX2_word_1 0 rfl rfl)
theorem dX2_word_25 : decode cX2_word 25 = .ok (.iconst 4, 1) := dk_7 (dk_at dksX2_word_1 3 rfl rfl)
theorem dX2_word_26 : decode cX2_word 26 = .ok (.iload_n 1, 1) := dk_27 (dk_at dksX2_word_1 4 rfl rfl)
theorem dX2_word_27 : decode cX2_word 27 = .ok (.iadd, 1) := dk_96 (dk_at dksX2_word_1 5 rfl rfl)
theorem dX2_word_28 : decode cX2_word 28 = .ok (.iaload, 1) := dk_46 (dk_at dksX2_word_1 6 rfl rfl)
theorem dX2_word_29 : decode cX2_word 29 = .ok (.goto 4, 3) := dk_167 0 4 (dk_at dksX2_word_1 7 rfl rfl)
theorem dX2_word_32 : decode cX2_word 32 = .ok (.iconst (-1), 1) := dk_2 (dk_at dksX2_word_1 10 rfl rfl)
theorem dX2_word_33 : decode cX2_word 33 = .ok (.ireturn, 1) := dk_172 (dk_at dksX2_word_1 11 rfl rfl)
abbrev cX2_recent : ByteArray := prog_12_method_29_code
def yX2_recent : MethodName := ⟨RX2, "recent", "(I)I"⟩
def dkwX2_recent_2 : List UInt8 := [162, 0, 16, 42, 180, 0, 7, 7, 28, 100, 27, 96, 46, 167, 0, 5, 16, 247, 172]
abbrev dktX2_recent_2 : List UInt8 := dkwX2_recent_2 ++ []
def dkwX2_recent_1 : List UInt8 := [167, 0, 4, 4, 42, 180, 0, 7, 6, 46, 16, 247, 160, 0, 7, 3, 167, 0, 4, 4, 96, 61, 27, 28]
abbrev dktX2_recent_1 : List UInt8 := dkwX2_recent_1 ++ dktX2_recent_2
def dkwX2_recent_0 : List UInt8 := [42, 3, 181, 0, 59, 27, 156, 0, 5, 2, 172, 42, 180, 0, 7, 5, 46, 16, 247, 160, 0, 7, 3]
abbrev dktX2_recent_0 : List UInt8 := dkwX2_recent_0 ++ dktX2_recent_1
theorem dksX2_recent_0 : cX2_recent.data.toList.drop 0 = dktX2_recent_0 := by decide +kernel
theorem dksX2_recent_1 : cX2_recent.data.toList.drop 23 = dktX2_recent_1 := dk_seg dksX2_recent_0 23 rfl rfl
theorem dksX2_recent_2 : cX2_recent.data.toList.drop 47 = dktX2_recent_2 := dk_seg dksX2_recent_1 24 rfl rfl
theorem dX2_recent_0 : decode cX2_recent 0 = .ok (.aload_n 0, 1) := dk_42 (dk_at dksX2_recent_0 0 rfl rfl)
theorem dX2_recent_1 : decode cX2_recent 1 = .ok (.iconst 0, 1) := dk_3 (dk_at dksX2_recent_0 1 rfl rfl)
theorem dX2_recent_2 : decode cX2_recent 2 = .ok (.putfield 59, 3) := dk_181 0 59 (dk_at dksX2_recent_0 2 rfl rfl)
theorem dX2_recent_5 : decode cX2_recent 5 = .ok (.iload_n 1, 1) := dk_27 (dk_at dksX2_recent_0 5 rfl rfl)
theorem dX2_recent_6 : decode cX2_recent 6 = .ok (.ifCond .ge 5, 3) := dk_156 0 5 (dk_at dksX2_recent_0 6 rfl rfl)
theorem dX2_recent_9 : decode cX2_recent 9 = .ok (.iconst (-1), 1) := dk_2 (dk_at dksX2_recent_0 9 rfl rfl)
theorem dX2_recent_10 : decode cX2_recent 10 = .ok (.ireturn, 1) := dk_172 (dk_at dksX2_recent_0 10 rfl rfl)
theorem dX2_recent_11 : decode cX2_recent 11 = .ok (.aload_n 0, 1) := dk_42 (dk_at dksX2_recent_0 11 rfl rfl)
theorem dX2_recent_12 : decode cX2_recent 12 = .ok (.getfield 7, 3) := dk_180 0 7 (dk_at dksX2_recent_0 12 rfl rfl)
theorem dX2_recent_15 : decode cX2_recent 15 = .ok (.iconst 2, 1) := dk_5 (dk_at dksX2_recent_0 15 rfl rfl)
theorem dX2_recent_16 : decode cX2_recent 16 = .ok (.iaload, 1) := dk_46 (dk_at dksX2_recent_0 16 rfl rfl)
theorem dX2_recent_17 : decode cX2_recent 17 = .ok (.bipush (-9), 2) := dk_16 247 (dk_at dksX2_recent_0 17 rfl rfl)
theorem dX2_recent_19 : decode cX2_recent 19 = .ok (.if_icmp .ne 7, 3) := dk_160 0 7 (dk_at dksX2_recent_0 19 rfl rfl)
theorem dX2_recent_22 : decode cX2_recent 22 = .ok (.iconst 0, 1) := dk_3 (dk_at dksX2_recent_0 22 rfl rfl)
theorem dX2_recent_23 : decode cX2_recent 23 = .ok (.goto 4, 3) := dk_167 0 4 (dk_at dksX2_recent_1 0 rfl rfl)
theorem dX2_recent_26 : decode cX2_recent 26 = .ok (.iconst 1, 1) := dk_4 (dk_at dksX2_recent_1 3 rfl rfl)
theorem dX2_recent_27 : decode cX2_recent 27 = .ok (.aload_n 0, 1) := dk_42 (dk_at dksX2_recent_1 4 rfl rfl)
theorem dX2_recent_28 : decode cX2_recent 28 = .ok (.getfield 7, 3) := dk_180 0 7 (dk_at dksX2_recent_1 5 rfl rfl)
theorem dX2_recent_31 : decode cX2_recent 31 = .ok (.iconst 3, 1) := dk_6 (dk_at dksX2_recent_1 8 rfl rfl)
theorem dX2_recent_32 : decode cX2_recent 32 = .ok (.iaload, 1) := dk_46 (dk_at dksX2_recent_1 9 rfl rfl)
theorem dX2_recent_33 : decode cX2_recent 33 = .ok (.bipush (-9), 2) := dk_16 247 (dk_at dksX2_recent_1 10 rfl rfl)
theorem dX2_recent_35 : decode cX2_recent 35 = .ok (.if_icmp .ne 7, 3) := dk_160 0 7 (dk_at dksX2_recent_1 12 rfl rfl)
theorem dX2_recent_38 : decode cX2_recent 38 = .ok (.iconst 0, 1) := dk_3 (dk_at dksX2_recent_1 15 rfl rfl)
theorem dX2_recent_39 : decode cX2_recent 39 = .ok (.goto 4, 3) := dk_167 0 4 (dk_at dksX2_recent_1 16 rfl rfl)
theorem dX2_recent_42 : decode cX2_recent 42 = .ok (.iconst 1, 1) := dk_4 (dk_at dksX2_recent_1 19 rfl rfl)
theorem dX2_recent_43 : decode cX2_recent 43 = .ok (.iadd, 1) := dk_96 (dk_at dksX2_recent_1 20 rfl rfl)
theorem dX2_recent_44 : decode cX2_recent 44 = .ok (.istore_n 2, 1) := dk_61 (dk_at dksX2_recent_1 21 rfl rfl)
theorem dX2_recent_45 : decode cX2_recent 45 = .ok (.iload_n 1, 1) := dk_27 (dk_at dksX2_recent_1 22 rfl rfl)
theorem dX2_recent_46 : decode cX2_recent 46 = .ok (.iload_n 2, 1) := dk_28 (dk_at dksX2_recent_1 23 rfl rfl)
theorem dX2_recent_47 : decode cX2_recent 47 = .ok (.if_icmp .ge 16, 3) := dk_162 0 16 (dk_at dksX2_recent_2 0 rfl rfl)
theorem dX2_recent_50 : decode cX2_recent 50 = .ok (.aload_n 0, 1) := dk_42 (dk_at dksX2_recent_2 3 rfl rfl)
theorem dX2_recent_51 : decode cX2_recent 51 = .ok (.getfield 7, 3) := dk_180 0 7 (dk_at dksX2_recent_2 4 rfl rfl)
theorem dX2_recent_54 : decode cX2_recent 54 = .ok (.iconst 4, 1) := dk_7 (dk_at dksX2_recent_2 7 rfl rfl)
theorem dX2_recent_55 : decode cX2_recent 55 = .ok (.iload_n 2, 1) := dk_28 (dk_at dksX2_recent_2 8 rfl rfl)
theorem dX2_recent_56 : decode cX2_recent 56 = .ok (.isub, 1) := dk_100 (dk_at dksX2_recent_2 9 rfl rfl)
theorem dX2_recent_57 : decode cX2_recent 57 = .ok (.iload_n 1, 1) := dk_27 (dk_at dksX2_recent_2 10 rfl rfl)
theorem dX2_recent_58 : decode cX2_recent 58 = .ok (.iadd, 1) := dk_96 (dk_at dksX2_recent_2 11 rfl rfl)
theorem dX2_recent_59 : decode cX2_recent 59 = .ok (.iaload, 1) := dk_46 (dk_at dksX2_recent_2 12 rfl rfl)
theorem dX2_recent_60 : decode cX2_recent 60 = .ok (.goto 5, 3) := dk_167 0 5 (dk_at dksX2_recent_2 13 rfl rfl)
theorem dX2_recent_63 : decode cX2_recent 63 = .ok (.bipush (-9), 2) := dk_16 247 (dk_at dksX2_recent_2 16 rfl rfl)
theorem dX2_recent_65 : decode cX2_recent 65 = .ok (.ireturn, 1) := dk_172 (dk_at dksX2_recent_2 18 rfl rfl)
abbrev cX2_piece : ByteArray := prog_12_method_35_code
def yX2_piece : MethodName := ⟨RX2, "piece", "(IIII)I"⟩
def dkwX2_piece_5 : List UInt8 := [46, 172, 42, 180, 0, 41, 29, 46, 172, 42, 180, 0, 44, 29, 46, 156, 0, 7, 3, 167, 0, 4, 4, 172]
abbrev dktX2_piece_5 : List UInt8 := dkwX2_piece_5 ++ []
def dkwX2_piece_4 : List UInt8 := [42, 180, 0, 35, 29, 46, 172, 42, 180, 0, 29, 42, 180, 0, 35, 29, 46, 46, 172, 42, 180, 0, 38, 29]
abbrev dktX2_piece_4 : List UInt8 := dkwX2_piece_4 ++ dktX2_piece_5
def dkwX2_piece_3 : List UInt8 := [170, 0, 0, 0, 0, 0, 64, 0, 0, 0, 0, 0, 0, 0, 3, 0, 0, 0, 31, 0, 0, 0, 38, 0, 0, 0, 50, 0, 0, 0, 57]
abbrev dktX2_piece_3 : List UInt8 := dkwX2_piece_3 ++ dktX2_piece_4
def dkwX2_piece_2 : List UInt8 := [16, 247, 172, 21, 4]
abbrev dktX2_piece_2 : List UInt8 := dkwX2_piece_2 ++ dktX2_piece_3
def dkwX2_piece_1 : List UInt8 := [154, 0, 5, 2, 172, 42, 27, 28, 184, 0, 149, 16, 247, 182, 0, 152, 29, 42, 180, 0, 139, 161, 0, 6]
abbrev dktX2_piece_1 : List UInt8 := dkwX2_piece_1 ++ dktX2_piece_2
def dkwX2_piece_0 : List UInt8 := [42, 3, 181, 0, 59, 27, 28, 184, 0, 145, 153, 0, 17, 29, 155, 0, 13, 21, 4, 3, 7, 184, 0, 85]
abbrev dktX2_piece_0 : List UInt8 := dkwX2_piece_0 ++ dktX2_piece_1
theorem dksX2_piece_0 : cX2_piece.data.toList.drop 0 = dktX2_piece_0 := by decide +kernel
theorem dksX2_piece_1 : cX2_piece.data.toList.drop 24 = dktX2_piece_1 := dk_seg dksX2_piece_0 24 rfl rfl
theorem dksX2_piece_2 : cX2_piece.data.toList.drop 48 = dktX2_piece_2 := dk_seg dksX2_piece_1 24 rfl rfl
theorem dksX2_piece_3 : cX2_piece.data.toList.drop 53 = dktX2_piece_3 := dk_seg dksX2_piece_2 5 rfl rfl
theorem dksX2_piece_4 : cX2_piece.data.toList.drop 84 = dktX2_piece_4 := dk_seg dksX2_piece_3 31 rfl rfl
theorem dksX2_piece_5 : cX2_piece.data.toList.drop 108 = dktX2_piece_5 := dk_seg dksX2_piece_4 24 rfl rfl
theorem dX2_piece_0 : decode cX2_piece 0 = .ok (.aload_n 0, 1) := dk_42 (dk_at dksX2_piece_0 0 rfl rfl)
theorem dX2_piece_1 : decode cX2_piece 1 = .ok (.iconst 0, 1) := dk_3 (dk_at dksX2_piece_0 1 rfl rfl)
theorem dX2_piece_2 : decode cX2_piece 2 = .ok (.putfield 59, 3) := dk_181 0 59 (dk_at dksX2_piece_0 2 rfl rfl)
theorem dX2_piece_5 : decode cX2_piece 5 = .ok (.iload_n 1, 1) := dk_27 (dk_at dksX2_piece_0 5 rfl rfl)
theorem dX2_piece_6 : decode cX2_piece 6 = .ok (.iload_n 2, 1) := dk_28 (dk_at dksX2_piece_0 6 rfl rfl)
theorem dX2_piece_7 : decode cX2_piece 7 = .ok (.invokestatic 145, 3) := dk_184 0 145 (dk_at dksX2_piece_0 7 rfl rfl)
theorem dX2_piece_10 : decode cX2_piece 10 = .ok (.ifCond .eq 17, 3) := dk_153 0 17 (dk_at dksX2_piece_0 10 rfl rfl)
theorem dX2_piece_13 : decode cX2_piece 13 = .ok (.iload_n 3, 1) := dk_29 (dk_at dksX2_piece_0 13 rfl rfl)
theorem dX2_piece_14 : decode cX2_piece 14 = .ok (.ifCond .lt 13, 3) := dk_155 0 13 (dk_at dksX2_piece_0 14 rfl rfl)
theorem dX2_piece_17 : decode cX2_piece 17 = .ok (.iload 4, 2) := dk_21 4 (dk_at dksX2_piece_0 17 rfl rfl)
theorem dX2_piece_19 : decode cX2_piece 19 = .ok (.iconst 0, 1) := dk_3 (dk_at dksX2_piece_0 19 rfl rfl)
theorem dX2_piece_20 : decode cX2_piece 20 = .ok (.iconst 4, 1) := dk_7 (dk_at dksX2_piece_0 20 rfl rfl)
theorem dX2_piece_21 : decode cX2_piece 21 = .ok (.invokestatic 85, 3) := dk_184 0 85 (dk_at dksX2_piece_0 21 rfl rfl)
theorem dX2_piece_24 : decode cX2_piece 24 = .ok (.ifCond .ne 5, 3) := dk_154 0 5 (dk_at dksX2_piece_1 0 rfl rfl)
theorem dX2_piece_27 : decode cX2_piece 27 = .ok (.iconst (-1), 1) := dk_2 (dk_at dksX2_piece_1 3 rfl rfl)
theorem dX2_piece_28 : decode cX2_piece 28 = .ok (.ireturn, 1) := dk_172 (dk_at dksX2_piece_1 4 rfl rfl)
theorem dX2_piece_29 : decode cX2_piece 29 = .ok (.aload_n 0, 1) := dk_42 (dk_at dksX2_piece_1 5 rfl rfl)
theorem dX2_piece_30 : decode cX2_piece 30 = .ok (.iload_n 1, 1) := dk_27 (dk_at dksX2_piece_1 6 rfl rfl)
theorem dX2_piece_31 : decode cX2_piece 31 = .ok (.iload_n 2, 1) := dk_28 (dk_at dksX2_piece_1 7 rfl rfl)
theorem dX2_piece_32 : decode cX2_piece 32 = .ok (.invokestatic 149, 3) := dk_184 0 149 (dk_at dksX2_piece_1 8 rfl rfl)
theorem dX2_piece_35 : decode cX2_piece 35 = .ok (.bipush (-9), 2) := dk_16 247 (dk_at dksX2_piece_1 11 rfl rfl)
theorem dX2_piece_37 : decode cX2_piece 37 = .ok (.invokevirtual 152, 3) := dk_182 0 152 (dk_at dksX2_piece_1 13 rfl rfl)
theorem dX2_piece_40 : decode cX2_piece 40 = .ok (.iload_n 3, 1) := dk_29 (dk_at dksX2_piece_1 16 rfl rfl)
theorem dX2_piece_41 : decode cX2_piece 41 = .ok (.aload_n 0, 1) := dk_42 (dk_at dksX2_piece_1 17 rfl rfl)
theorem dX2_piece_42 : decode cX2_piece 42 = .ok (.getfield 139, 3) := dk_180 0 139 (dk_at dksX2_piece_1 18 rfl rfl)
theorem dX2_piece_45 : decode cX2_piece 45 = .ok (.if_icmp .lt 6, 3) := dk_161 0 6 (dk_at dksX2_piece_1 21 rfl rfl)
theorem dX2_piece_48 : decode cX2_piece 48 = .ok (.bipush (-9), 2) := dk_16 247 (dk_at dksX2_piece_2 0 rfl rfl)
theorem dX2_piece_50 : decode cX2_piece 50 = .ok (.ireturn, 1) := dk_172 (dk_at dksX2_piece_2 2 rfl rfl)
theorem dX2_piece_51 : decode cX2_piece 51 = .ok (.iload 4, 2) := dk_21 4 (dk_at dksX2_piece_2 3 rfl rfl)
theorem dX2_piece_53 : decode cX2_piece 53 = .ok (.tableswitch 64 0 3 #[31, 38, 50, 57], 31) := by decide +kernel
theorem dX2_piece_84 : decode cX2_piece 84 = .ok (.aload_n 0, 1) := dk_42 (dk_at dksX2_piece_4 0 rfl rfl)
theorem dX2_piece_85 : decode cX2_piece 85 = .ok (.getfield 35, 3) := dk_180 0 35 (dk_at dksX2_piece_4 1 rfl rfl)
theorem dX2_piece_88 : decode cX2_piece 88 = .ok (.iload_n 3, 1) := dk_29 (dk_at dksX2_piece_4 4 rfl rfl)
theorem dX2_piece_89 : decode cX2_piece 89 = .ok (.iaload, 1) := dk_46 (dk_at dksX2_piece_4 5 rfl rfl)
theorem dX2_piece_90 : decode cX2_piece 90 = .ok (.ireturn, 1) := dk_172 (dk_at dksX2_piece_4 6 rfl rfl)
theorem dX2_piece_91 : decode cX2_piece 91 = .ok (.aload_n 0, 1) := dk_42 (dk_at dksX2_piece_4 7 rfl rfl)
theorem dX2_piece_92 : decode cX2_piece 92 = .ok (.getfield 29, 3) := dk_180 0 29 (dk_at dksX2_piece_4 8 rfl rfl)
theorem dX2_piece_95 : decode cX2_piece 95 = .ok (.aload_n 0, 1) := dk_42 (dk_at dksX2_piece_4 11 rfl rfl)
theorem dX2_piece_96 : decode cX2_piece 96 = .ok (.getfield 35, 3) := dk_180 0 35 (dk_at dksX2_piece_4 12 rfl rfl)
theorem dX2_piece_99 : decode cX2_piece 99 = .ok (.iload_n 3, 1) := dk_29 (dk_at dksX2_piece_4 15 rfl rfl)
theorem dX2_piece_100 : decode cX2_piece 100 = .ok (.iaload, 1) := dk_46 (dk_at dksX2_piece_4 16 rfl rfl)
theorem dX2_piece_101 : decode cX2_piece 101 = .ok (.iaload, 1) := dk_46 (dk_at dksX2_piece_4 17 rfl rfl)
theorem dX2_piece_102 : decode cX2_piece 102 = .ok (.ireturn, 1) := dk_172 (dk_at dksX2_piece_4 18 rfl rfl)
theorem dX2_piece_103 : decode cX2_piece 103 = .ok (.aload_n 0, 1) := dk_42 (dk_at dksX2_piece_4 19 rfl rfl)
theorem dX2_piece_104 : decode cX2_piece 104 = .ok (.getfield 38, 3) := dk_180 0 38 (dk_at dksX2_piece_4 20 rfl rfl)
theorem dX2_piece_107 : decode cX2_piece 107 = .ok (.iload_n 3, 1) := dk_29 (dk_at dksX2_piece_4 23 rfl rfl)
theorem dX2_piece_108 : decode cX2_piece 108 = .ok (.iaload, 1) := dk_46 (dk_at dksX2_piece_5 0 rfl rfl)
theorem dX2_piece_109 : decode cX2_piece 109 = .ok (.ireturn, 1) := dk_172 (dk_at dksX2_piece_5 1 rfl rfl)
theorem dX2_piece_110 : decode cX2_piece 110 = .ok (.aload_n 0, 1) := dk_42 (dk_at dksX2_piece_5 2 rfl rfl)
theorem dX2_piece_111 : decode cX2_piece 111 = .ok (.getfield 41, 3) := dk_180 0 41 (dk_at dksX2_piece_5 3 rfl rfl)
theorem dX2_piece_114 : decode cX2_piece 114 = .ok (.iload_n 3, 1) := dk_29 (dk_at dksX2_piece_5 6 rfl rfl)
theorem dX2_piece_115 : decode cX2_piece 115 = .ok (.iaload, 1) := dk_46 (dk_at dksX2_piece_5 7 rfl rfl)
theorem dX2_piece_116 : decode cX2_piece 116 = .ok (.ireturn, 1) := dk_172 (dk_at dksX2_piece_5 8 rfl rfl)
theorem dX2_piece_117 : decode cX2_piece 117 = .ok (.aload_n 0, 1) := dk_42 (dk_at dksX2_piece_5 9 rfl rfl)
theorem dX2_piece_118 : decode cX2_piece 118 = .ok (.getfield 44, 3) := dk_180 0 44 (dk_at dksX2_piece_5 10 rfl rfl)
theorem dX2_piece_121 : decode cX2_piece 121 = .ok (.iload_n 3, 1) := dk_29 (dk_at dksX2_piece_5 13 rfl rfl)
theorem dX2_piece_122 : decode cX2_piece 122 = .ok (.iaload, 1) := dk_46 (dk_at dksX2_piece_5 14 rfl rfl)
theorem dX2_piece_123 : decode cX2_piece 123 = .ok (.ifCond .ge 7, 3) := dk_156 0 7 (dk_at dksX2_piece_5 15 rfl rfl)
theorem dX2_piece_126 : decode cX2_piece 126 = .ok (.iconst 0, 1) := dk_3 (dk_at dksX2_piece_5 18 rfl rfl)
theorem dX2_piece_127 : decode cX2_piece 127 = .ok (.goto 4, 3) := dk_167 0 4 (dk_at dksX2_piece_5 19 rfl rfl)
theorem dX2_piece_130 : decode cX2_piece 130 = .ok (.iconst 1, 1) := dk_4 (dk_at dksX2_piece_5 22 rfl rfl)
theorem dX2_piece_131 : decode cX2_piece 131 = .ok (.ireturn, 1) := dk_172 (dk_at dksX2_piece_5 23 rfl rfl)
abbrev cX2_isBegin : ByteArray := prog_12_method_33_code
def yX2_isBegin : MethodName := ⟨RX2, "isBegin", "(II)Z"⟩
def dkwX2_isBegin_0 : List UInt8 := [26, 3, 8, 184, 0, 85, 153, 0, 16, 27, 3, 4, 184, 0, 85, 153, 0, 7, 4, 167, 0, 4, 3, 172]
abbrev dktX2_isBegin_0 : List UInt8 := dkwX2_isBegin_0 ++ []
theorem dksX2_isBegin_0 : cX2_isBegin.data.toList.drop 0 = dktX2_isBegin_0 := by decide +kernel
theorem dX2_isBegin_0 : decode cX2_isBegin 0 = .ok (.iload_n 0, 1) := dk_26 (dk_at dksX2_isBegin_0 0 rfl rfl)
theorem dX2_isBegin_1 : decode cX2_isBegin 1 = .ok (.iconst 0, 1) := dk_3 (dk_at dksX2_isBegin_0 1 rfl rfl)
theorem dX2_isBegin_2 : decode cX2_isBegin 2 = .ok (.iconst 5, 1) := dk_8 (dk_at dksX2_isBegin_0 2 rfl rfl)
theorem dX2_isBegin_3 : decode cX2_isBegin 3 = .ok (.invokestatic 85, 3) := dk_184 0 85 (dk_at dksX2_isBegin_0 3 rfl rfl)
theorem dX2_isBegin_6 : decode cX2_isBegin 6 = .ok (.ifCond .eq 16, 3) := dk_153 0 16 (dk_at dksX2_isBegin_0 6 rfl rfl)
theorem dX2_isBegin_9 : decode cX2_isBegin 9 = .ok (.iload_n 1, 1) := dk_27 (dk_at dksX2_isBegin_0 9 rfl rfl)
theorem dX2_isBegin_10 : decode cX2_isBegin 10 = .ok (.iconst 0, 1) := dk_3 (dk_at dksX2_isBegin_0 10 rfl rfl)
theorem dX2_isBegin_11 : decode cX2_isBegin 11 = .ok (.iconst 1, 1) := dk_4 (dk_at dksX2_isBegin_0 11 rfl rfl)
theorem dX2_isBegin_12 : decode cX2_isBegin 12 = .ok (.invokestatic 85, 3) := dk_184 0 85 (dk_at dksX2_isBegin_0 12 rfl rfl)
theorem dX2_isBegin_15 : decode cX2_isBegin 15 = .ok (.ifCond .eq 7, 3) := dk_153 0 7 (dk_at dksX2_isBegin_0 15 rfl rfl)
theorem dX2_isBegin_18 : decode cX2_isBegin 18 = .ok (.iconst 1, 1) := dk_4 (dk_at dksX2_isBegin_0 18 rfl rfl)
theorem dX2_isBegin_19 : decode cX2_isBegin 19 = .ok (.goto 4, 3) := dk_167 0 4 (dk_at dksX2_isBegin_0 19 rfl rfl)
theorem dX2_isBegin_22 : decode cX2_isBegin 22 = .ok (.iconst 0, 1) := dk_3 (dk_at dksX2_isBegin_0 22 rfl rfl)
theorem dX2_isBegin_23 : decode cX2_isBegin 23 = .ok (.ireturn, 1) := dk_172 (dk_at dksX2_isBegin_0 23 rfl rfl)
abbrev cX2_sumOf : ByteArray := prog_12_method_34_code
def yX2_sumOf : MethodName := ⟨RX2, "sumOf", "(I)I"⟩
def dkwX2_sumOf_0 : List UInt8 := [26, 154, 0, 7, 2, 167, 0, 4, 4, 172]
abbrev dktX2_sumOf_0 : List UInt8 := dkwX2_sumOf_0 ++ []
theorem dksX2_sumOf_0 : cX2_sumOf.data.toList.drop 0 = dktX2_sumOf_0 := by decide +kernel
theorem dX2_sumOf_0 : decode cX2_sumOf 0 = .ok (.iload_n 0, 1) := dk_26 (dk_at dksX2_sumOf_0 0 rfl rfl)
theorem dX2_sumOf_1 : decode cX2_sumOf 1 = .ok (.ifCond .ne 7, 3) := dk_154 0 7 (dk_at dksX2_sumOf_0 1 rfl rfl)
theorem dX2_sumOf_4 : decode cX2_sumOf 4 = .ok (.iconst (-1), 1) := dk_2 (dk_at dksX2_sumOf_0 4 rfl rfl)
theorem dX2_sumOf_5 : decode cX2_sumOf 5 = .ok (.goto 4, 3) := dk_167 0 4 (dk_at dksX2_sumOf_0 5 rfl rfl)
theorem dX2_sumOf_8 : decode cX2_sumOf 8 = .ok (.iconst 1, 1) := dk_4 (dk_at dksX2_sumOf_0 8 rfl rfl)
theorem dX2_sumOf_9 : decode cX2_sumOf 9 = .ok (.ireturn, 1) := dk_172 (dk_at dksX2_sumOf_0 9 rfl rfl)
abbrev cX2_reads : ByteArray := prog_12_method_31_code
def yX2_reads : MethodName := ⟨RX2, "reads", "(III)V"⟩
def dkwX2_reads_13 : List UInt8 := [167, 0, 5, 21, 5, 54, 5, 42, 180, 0, 44, 21, 8, 21, 5, 79, 132, 8, 1, 167, 254, 235, 177]
abbrev dktX2_reads_13 : List UInt8 := dkwX2_reads_13 ++ []
def dkwX2_reads_12 : List UInt8 := [21, 9, 184, 0, 63, 6, 164, 0, 7, 4, 167, 0, 18, 21, 9, 184, 0, 63, 6, 162, 0, 7, 2]
abbrev dktX2_reads_12 : List UInt8 := dkwX2_reads_12 ++ dktX2_reads_13
def dkwX2_reads_11 : List UInt8 := [154, 0, 7, 4, 167, 0, 18, 42, 180, 0, 38, 21, 8, 46, 154, 0, 7, 5, 167, 0, 4, 3, 128, 79]
abbrev dktX2_reads_11 : List UInt8 := dkwX2_reads_11 ++ dktX2_reads_12
def dkwX2_reads_10 : List UInt8 := [153, 0, 7, 4, 167, 0, 4, 3, 79, 42, 180, 0, 41, 21, 8, 21, 10, 42, 180, 0, 32, 21, 9, 46]
abbrev dktX2_reads_10 : List UInt8 := dkwX2_reads_10 ++ dktX2_reads_11
def dkwX2_reads_9 : List UInt8 := [180, 0, 35, 21, 8, 21, 9, 79, 42, 180, 0, 38, 21, 8, 42, 180, 0, 32, 21, 9, 46, 21, 11, 126]
abbrev dktX2_reads_9 : List UInt8 := dkwX2_reads_9 ++ dktX2_reads_10
def dkwX2_reads_8 : List UInt8 := [21, 12, 96, 54, 9, 132, 11, 1, 167, 255, 133, 21, 5, 156, 0, 7, 4, 167, 0, 4, 5, 54, 11, 42]
abbrev dktX2_reads_8 : List UInt8 := dkwX2_reads_8 ++ dktX2_reads_9
def dkwX2_reads_7 : List UInt8 := [163, 0, 10, 21, 6, 16, 253, 162, 0, 8, 16, 8, 167, 0, 4, 3, 128, 54, 10, 5, 21, 9, 104]
abbrev dktX2_reads_7 : List UInt8 := dkwX2_reads_7 ++ dktX2_reads_8
def dkwX2_reads_6 : List UInt8 := [21, 10, 21, 7, 16, 6, 164, 0, 7, 7, 167, 0, 4, 3, 128, 54, 10, 21, 10, 21, 6, 6]
abbrev dktX2_reads_6 : List UInt8 := dkwX2_reads_6 ++ dktX2_reads_7
def dkwX2_reads_5 : List UInt8 := [4, 96, 167, 0, 4, 4, 54, 7, 21, 6, 21, 12, 4, 160, 0, 7, 4, 167, 0, 4, 2, 96, 54, 6]
abbrev dktX2_reads_5 : List UInt8 := dkwX2_reads_5 ++ dktX2_reads_6
def dkwX2_reads_4 : List UInt8 := [54, 12, 21, 11, 27, 164, 0, 24, 42, 21, 11, 4, 100, 29, 182, 0, 142, 21, 12, 160, 0, 10, 21, 7]
abbrev dktX2_reads_4 : List UInt8 := dkwX2_reads_4 ++ dktX2_reads_5
def dkwX2_reads_3 : List UInt8 := [54, 11, 21, 11, 27, 16, 6, 21, 8, 104, 96, 16, 6, 96, 162, 0, 114, 42, 21, 11, 29, 182, 0, 142]
abbrev dktX2_reads_3 : List UInt8 := dkwX2_reads_3 ++ dktX2_reads_4
def dkwX2_reads_2 : List UInt8 := [54, 8, 21, 8, 42, 180, 0, 139, 162, 1, 18, 3, 54, 9, 3, 54, 10, 27, 16, 6, 21, 8, 104, 96]
abbrev dktX2_reads_2 : List UInt8 := dkwX2_reads_2 ++ dktX2_reads_3
def dkwX2_reads_1 : List UInt8 := [167, 0, 10, 21, 4, 27, 100, 16, 6, 108, 181, 0, 139, 28, 54, 5, 28, 54, 6, 3, 54, 7, 3]
abbrev dktX2_reads_1 : List UInt8 := dkwX2_reads_1 ++ dktX2_reads_2
def dkwX2_reads_0 : List UInt8 := [42, 182, 0, 136, 16, 6, 42, 180, 0, 7, 3, 46, 104, 54, 4, 42, 21, 4, 27, 162, 0, 7, 3]
abbrev dktX2_reads_0 : List UInt8 := dkwX2_reads_0 ++ dktX2_reads_1
theorem dksX2_reads_0 : cX2_reads.data.toList.drop 0 = dktX2_reads_0 := by decide +kernel
theorem dksX2_reads_1 : cX2_reads.data.toList.drop 23 = dktX2_reads_1 := dk_seg dksX2_reads_0 23 rfl rfl
theorem dksX2_reads_2 : cX2_reads.data.toList.drop 46 = dktX2_reads_2 := dk_seg dksX2_reads_1 23 rfl rfl
theorem dksX2_reads_3 : cX2_reads.data.toList.drop 70 = dktX2_reads_3 := dk_seg dksX2_reads_2 24 rfl rfl
theorem dksX2_reads_4 : cX2_reads.data.toList.drop 94 = dktX2_reads_4 := dk_seg dksX2_reads_3 24 rfl rfl
theorem dksX2_reads_5 : cX2_reads.data.toList.drop 118 = dktX2_reads_5 := dk_seg dksX2_reads_4 24 rfl rfl
theorem dksX2_reads_6 : cX2_reads.data.toList.drop 142 = dktX2_reads_6 := dk_seg dksX2_reads_5 24 rfl rfl
theorem dksX2_reads_7 : cX2_reads.data.toList.drop 164 = dktX2_reads_7 := dk_seg dksX2_reads_6 22 rfl rfl
theorem dksX2_reads_8 : cX2_reads.data.toList.drop 187 = dktX2_reads_8 := dk_seg dksX2_reads_7 23 rfl rfl
theorem dksX2_reads_9 : cX2_reads.data.toList.drop 211 = dktX2_reads_9 := dk_seg dksX2_reads_8 24 rfl rfl
theorem dksX2_reads_10 : cX2_reads.data.toList.drop 235 = dktX2_reads_10 := dk_seg dksX2_reads_9 24 rfl rfl
theorem dksX2_reads_11 : cX2_reads.data.toList.drop 259 = dktX2_reads_11 := dk_seg dksX2_reads_10 24 rfl rfl
theorem dksX2_reads_12 : cX2_reads.data.toList.drop 283 = dktX2_reads_12 := dk_seg dksX2_reads_11 24 rfl rfl
theorem dksX2_reads_13 : cX2_reads.data.toList.drop 306 = dktX2_reads_13 := dk_seg dksX2_reads_12 23 rfl rfl
theorem dX2_reads_0 : decode cX2_reads 0 = .ok (.aload_n 0, 1) := dk_42 (dk_at dksX2_reads_0 0 rfl rfl)
theorem dX2_reads_1 : decode cX2_reads 1 = .ok (.invokevirtual 136, 3) := dk_182 0 136 (dk_at dksX2_reads_0 1 rfl rfl)
theorem dX2_reads_4 : decode cX2_reads 4 = .ok (.bipush 6, 2) := dk_16 6 (dk_at dksX2_reads_0 4 rfl rfl)
theorem dX2_reads_6 : decode cX2_reads 6 = .ok (.aload_n 0, 1) := dk_42 (dk_at dksX2_reads_0 6 rfl rfl)
theorem dX2_reads_7 : decode cX2_reads 7 = .ok (.getfield 7, 3) := dk_180 0 7 (dk_at dksX2_reads_0 7 rfl rfl)
theorem dX2_reads_10 : decode cX2_reads 10 = .ok (.iconst 0, 1) := dk_3 (dk_at dksX2_reads_0 10 rfl rfl)
theorem dX2_reads_11 : decode cX2_reads 11 = .ok (.iaload, 1) := dk_46 (dk_at dksX2_reads_0 11 rfl rfl)
theorem dX2_reads_12 : decode cX2_reads 12 = .ok (.imul, 1) := dk_104 (dk_at dksX2_reads_0 12 rfl rfl)
theorem dX2_reads_13 : decode cX2_reads 13 = .ok (.istore 4, 2) := dk_54 4 (dk_at dksX2_reads_0 13 rfl rfl)
theorem dX2_reads_15 : decode cX2_reads 15 = .ok (.aload_n 0, 1) := dk_42 (dk_at dksX2_reads_0 15 rfl rfl)
theorem dX2_reads_16 : decode cX2_reads 16 = .ok (.iload 4, 2) := dk_21 4 (dk_at dksX2_reads_0 16 rfl rfl)
theorem dX2_reads_18 : decode cX2_reads 18 = .ok (.iload_n 1, 1) := dk_27 (dk_at dksX2_reads_0 18 rfl rfl)
theorem dX2_reads_19 : decode cX2_reads 19 = .ok (.if_icmp .ge 7, 3) := dk_162 0 7 (dk_at dksX2_reads_0 19 rfl rfl)
theorem dX2_reads_22 : decode cX2_reads 22 = .ok (.iconst 0, 1) := dk_3 (dk_at dksX2_reads_0 22 rfl rfl)
theorem dX2_reads_23 : decode cX2_reads 23 = .ok (.goto 10, 3) := dk_167 0 10 (dk_at dksX2_reads_1 0 rfl rfl)
theorem dX2_reads_26 : decode cX2_reads 26 = .ok (.iload 4, 2) := dk_21 4 (dk_at dksX2_reads_1 3 rfl rfl)
theorem dX2_reads_28 : decode cX2_reads 28 = .ok (.iload_n 1, 1) := dk_27 (dk_at dksX2_reads_1 5 rfl rfl)
theorem dX2_reads_29 : decode cX2_reads 29 = .ok (.isub, 1) := dk_100 (dk_at dksX2_reads_1 6 rfl rfl)
theorem dX2_reads_30 : decode cX2_reads 30 = .ok (.bipush 6, 2) := dk_16 6 (dk_at dksX2_reads_1 7 rfl rfl)
theorem dX2_reads_32 : decode cX2_reads 32 = .ok (.idiv, 1) := dk_108 (dk_at dksX2_reads_1 9 rfl rfl)
theorem dX2_reads_33 : decode cX2_reads 33 = .ok (.putfield 139, 3) := dk_181 0 139 (dk_at dksX2_reads_1 10 rfl rfl)
theorem dX2_reads_36 : decode cX2_reads 36 = .ok (.iload_n 2, 1) := dk_28 (dk_at dksX2_reads_1 13 rfl rfl)
theorem dX2_reads_37 : decode cX2_reads 37 = .ok (.istore 5, 2) := dk_54 5 (dk_at dksX2_reads_1 14 rfl rfl)
theorem dX2_reads_39 : decode cX2_reads 39 = .ok (.iload_n 2, 1) := dk_28 (dk_at dksX2_reads_1 16 rfl rfl)
theorem dX2_reads_40 : decode cX2_reads 40 = .ok (.istore 6, 2) := dk_54 6 (dk_at dksX2_reads_1 17 rfl rfl)
theorem dX2_reads_42 : decode cX2_reads 42 = .ok (.iconst 0, 1) := dk_3 (dk_at dksX2_reads_1 19 rfl rfl)
theorem dX2_reads_43 : decode cX2_reads 43 = .ok (.istore 7, 2) := dk_54 7 (dk_at dksX2_reads_1 20 rfl rfl)
theorem dX2_reads_45 : decode cX2_reads 45 = .ok (.iconst 0, 1) := dk_3 (dk_at dksX2_reads_1 22 rfl rfl)
theorem dX2_reads_46 : decode cX2_reads 46 = .ok (.istore 8, 2) := dk_54 8 (dk_at dksX2_reads_2 0 rfl rfl)
theorem dX2_reads_48 : decode cX2_reads 48 = .ok (.iload 8, 2) := dk_21 8 (dk_at dksX2_reads_2 2 rfl rfl)
theorem dX2_reads_50 : decode cX2_reads 50 = .ok (.aload_n 0, 1) := dk_42 (dk_at dksX2_reads_2 4 rfl rfl)
theorem dX2_reads_51 : decode cX2_reads 51 = .ok (.getfield 139, 3) := dk_180 0 139 (dk_at dksX2_reads_2 5 rfl rfl)
theorem dX2_reads_54 : decode cX2_reads 54 = .ok (.if_icmp .ge 274, 3) := dk_162 1 18 (dk_at dksX2_reads_2 8 rfl rfl)
theorem dX2_reads_57 : decode cX2_reads 57 = .ok (.iconst 0, 1) := dk_3 (dk_at dksX2_reads_2 11 rfl rfl)
theorem dX2_reads_58 : decode cX2_reads 58 = .ok (.istore 9, 2) := dk_54 9 (dk_at dksX2_reads_2 12 rfl rfl)
theorem dX2_reads_60 : decode cX2_reads 60 = .ok (.iconst 0, 1) := dk_3 (dk_at dksX2_reads_2 14 rfl rfl)
theorem dX2_reads_61 : decode cX2_reads 61 = .ok (.istore 10, 2) := dk_54 10 (dk_at dksX2_reads_2 15 rfl rfl)
theorem dX2_reads_63 : decode cX2_reads 63 = .ok (.iload_n 1, 1) := dk_27 (dk_at dksX2_reads_2 17 rfl rfl)
theorem dX2_reads_64 : decode cX2_reads 64 = .ok (.bipush 6, 2) := dk_16 6 (dk_at dksX2_reads_2 18 rfl rfl)
theorem dX2_reads_66 : decode cX2_reads 66 = .ok (.iload 8, 2) := dk_21 8 (dk_at dksX2_reads_2 20 rfl rfl)
theorem dX2_reads_68 : decode cX2_reads 68 = .ok (.imul, 1) := dk_104 (dk_at dksX2_reads_2 22 rfl rfl)
theorem dX2_reads_69 : decode cX2_reads 69 = .ok (.iadd, 1) := dk_96 (dk_at dksX2_reads_2 23 rfl rfl)
theorem dX2_reads_70 : decode cX2_reads 70 = .ok (.istore 11, 2) := dk_54 11 (dk_at dksX2_reads_3 0 rfl rfl)
theorem dX2_reads_72 : decode cX2_reads 72 = .ok (.iload 11, 2) := dk_21 11 (dk_at dksX2_reads_3 2 rfl rfl)
theorem dX2_reads_74 : decode cX2_reads 74 = .ok (.iload_n 1, 1) := dk_27 (dk_at dksX2_reads_3 4 rfl rfl)
theorem dX2_reads_75 : decode cX2_reads 75 = .ok (.bipush 6, 2) := dk_16 6 (dk_at dksX2_reads_3 5 rfl rfl)
theorem dX2_reads_77 : decode cX2_reads 77 = .ok (.iload 8, 2) := dk_21 8 (dk_at dksX2_reads_3 7 rfl rfl)
theorem dX2_reads_79 : decode cX2_reads 79 = .ok (.imul, 1) := dk_104 (dk_at dksX2_reads_3 9 rfl rfl)
theorem dX2_reads_80 : decode cX2_reads 80 = .ok (.iadd, 1) := dk_96 (dk_at dksX2_reads_3 10 rfl rfl)
theorem dX2_reads_81 : decode cX2_reads 81 = .ok (.bipush 6, 2) := dk_16 6 (dk_at dksX2_reads_3 11 rfl rfl)
theorem dX2_reads_83 : decode cX2_reads 83 = .ok (.iadd, 1) := dk_96 (dk_at dksX2_reads_3 13 rfl rfl)
theorem dX2_reads_84 : decode cX2_reads 84 = .ok (.if_icmp .ge 114, 3) := dk_162 0 114 (dk_at dksX2_reads_3 14 rfl rfl)
theorem dX2_reads_87 : decode cX2_reads 87 = .ok (.aload_n 0, 1) := dk_42 (dk_at dksX2_reads_3 17 rfl rfl)
theorem dX2_reads_88 : decode cX2_reads 88 = .ok (.iload 11, 2) := dk_21 11 (dk_at dksX2_reads_3 18 rfl rfl)
theorem dX2_reads_90 : decode cX2_reads 90 = .ok (.iload_n 3, 1) := dk_29 (dk_at dksX2_reads_3 20 rfl rfl)
theorem dX2_reads_91 : decode cX2_reads 91 = .ok (.invokevirtual 142, 3) := dk_182 0 142 (dk_at dksX2_reads_3 21 rfl rfl)
theorem dX2_reads_94 : decode cX2_reads 94 = .ok (.istore 12, 2) := dk_54 12 (dk_at dksX2_reads_4 0 rfl rfl)
theorem dX2_reads_96 : decode cX2_reads 96 = .ok (.iload 11, 2) := dk_21 11 (dk_at dksX2_reads_4 2 rfl rfl)
theorem dX2_reads_98 : decode cX2_reads 98 = .ok (.iload_n 1, 1) := dk_27 (dk_at dksX2_reads_4 4 rfl rfl)
theorem dX2_reads_99 : decode cX2_reads 99 = .ok (.if_icmp .le 24, 3) := dk_164 0 24 (dk_at dksX2_reads_4 5 rfl rfl)
theorem dX2_reads_102 : decode cX2_reads 102 = .ok (.aload_n 0, 1) := dk_42 (dk_at dksX2_reads_4 8 rfl rfl)
theorem dX2_reads_103 : decode cX2_reads 103 = .ok (.iload 11, 2) := dk_21 11 (dk_at dksX2_reads_4 9 rfl rfl)
theorem dX2_reads_105 : decode cX2_reads 105 = .ok (.iconst 1, 1) := dk_4 (dk_at dksX2_reads_4 11 rfl rfl)
theorem dX2_reads_106 : decode cX2_reads 106 = .ok (.isub, 1) := dk_100 (dk_at dksX2_reads_4 12 rfl rfl)
theorem dX2_reads_107 : decode cX2_reads 107 = .ok (.iload_n 3, 1) := dk_29 (dk_at dksX2_reads_4 13 rfl rfl)
theorem dX2_reads_108 : decode cX2_reads 108 = .ok (.invokevirtual 142, 3) := dk_182 0 142 (dk_at dksX2_reads_4 14 rfl rfl)
theorem dX2_reads_111 : decode cX2_reads 111 = .ok (.iload 12, 2) := dk_21 12 (dk_at dksX2_reads_4 17 rfl rfl)
theorem dX2_reads_113 : decode cX2_reads 113 = .ok (.if_icmp .ne 10, 3) := dk_160 0 10 (dk_at dksX2_reads_4 19 rfl rfl)
theorem dX2_reads_116 : decode cX2_reads 116 = .ok (.iload 7, 2) := dk_21 7 (dk_at dksX2_reads_4 22 rfl rfl)
theorem dX2_reads_118 : decode cX2_reads 118 = .ok (.iconst 1, 1) := dk_4 (dk_at dksX2_reads_5 0 rfl rfl)
theorem dX2_reads_119 : decode cX2_reads 119 = .ok (.iadd, 1) := dk_96 (dk_at dksX2_reads_5 1 rfl rfl)
theorem dX2_reads_120 : decode cX2_reads 120 = .ok (.goto 4, 3) := dk_167 0 4 (dk_at dksX2_reads_5 2 rfl rfl)
theorem dX2_reads_123 : decode cX2_reads 123 = .ok (.iconst 1, 1) := dk_4 (dk_at dksX2_reads_5 5 rfl rfl)
theorem dX2_reads_124 : decode cX2_reads 124 = .ok (.istore 7, 2) := dk_54 7 (dk_at dksX2_reads_5 6 rfl rfl)
theorem dX2_reads_126 : decode cX2_reads 126 = .ok (.iload 6, 2) := dk_21 6 (dk_at dksX2_reads_5 8 rfl rfl)
theorem dX2_reads_128 : decode cX2_reads 128 = .ok (.iload 12, 2) := dk_21 12 (dk_at dksX2_reads_5 10 rfl rfl)
theorem dX2_reads_130 : decode cX2_reads 130 = .ok (.iconst 1, 1) := dk_4 (dk_at dksX2_reads_5 12 rfl rfl)
theorem dX2_reads_131 : decode cX2_reads 131 = .ok (.if_icmp .ne 7, 3) := dk_160 0 7 (dk_at dksX2_reads_5 13 rfl rfl)
theorem dX2_reads_134 : decode cX2_reads 134 = .ok (.iconst 1, 1) := dk_4 (dk_at dksX2_reads_5 16 rfl rfl)
theorem dX2_reads_135 : decode cX2_reads 135 = .ok (.goto 4, 3) := dk_167 0 4 (dk_at dksX2_reads_5 17 rfl rfl)
theorem dX2_reads_138 : decode cX2_reads 138 = .ok (.iconst (-1), 1) := dk_2 (dk_at dksX2_reads_5 20 rfl rfl)
theorem dX2_reads_139 : decode cX2_reads 139 = .ok (.iadd, 1) := dk_96 (dk_at dksX2_reads_5 21 rfl rfl)
theorem dX2_reads_140 : decode cX2_reads 140 = .ok (.istore 6, 2) := dk_54 6 (dk_at dksX2_reads_5 22 rfl rfl)
theorem dX2_reads_142 : decode cX2_reads 142 = .ok (.iload 10, 2) := dk_21 10 (dk_at dksX2_reads_6 0 rfl rfl)
theorem dX2_reads_144 : decode cX2_reads 144 = .ok (.iload 7, 2) := dk_21 7 (dk_at dksX2_reads_6 2 rfl rfl)
theorem dX2_reads_146 : decode cX2_reads 146 = .ok (.bipush 6, 2) := dk_16 6 (dk_at dksX2_reads_6 4 rfl rfl)
theorem dX2_reads_148 : decode cX2_reads 148 = .ok (.if_icmp .le 7, 3) := dk_164 0 7 (dk_at dksX2_reads_6 6 rfl rfl)
theorem dX2_reads_151 : decode cX2_reads 151 = .ok (.iconst 4, 1) := dk_7 (dk_at dksX2_reads_6 9 rfl rfl)
theorem dX2_reads_152 : decode cX2_reads 152 = .ok (.goto 4, 3) := dk_167 0 4 (dk_at dksX2_reads_6 10 rfl rfl)
theorem dX2_reads_155 : decode cX2_reads 155 = .ok (.iconst 0, 1) := dk_3 (dk_at dksX2_reads_6 13 rfl rfl)
theorem dX2_reads_156 : decode cX2_reads 156 = .ok (.ior, 1) := dk_128 (dk_at dksX2_reads_6 14 rfl rfl)
theorem dX2_reads_157 : decode cX2_reads 157 = .ok (.istore 10, 2) := dk_54 10 (dk_at dksX2_reads_6 15 rfl rfl)
theorem dX2_reads_159 : decode cX2_reads 159 = .ok (.iload 10, 2) := dk_21 10 (dk_at dksX2_reads_6 17 rfl rfl)
theorem dX2_reads_161 : decode cX2_reads 161 = .ok (.iload 6, 2) := dk_21 6 (dk_at dksX2_reads_6 19 rfl rfl)
theorem dX2_reads_163 : decode cX2_reads 163 = .ok (.iconst 3, 1) := dk_6 (dk_at dksX2_reads_6 21 rfl rfl)
theorem dX2_reads_164 : decode cX2_reads 164 = .ok (.if_icmp .gt 10, 3) := dk_163 0 10 (dk_at dksX2_reads_7 0 rfl rfl)
theorem dX2_reads_167 : decode cX2_reads 167 = .ok (.iload 6, 2) := dk_21 6 (dk_at dksX2_reads_7 3 rfl rfl)
theorem dX2_reads_169 : decode cX2_reads 169 = .ok (.bipush (-3), 2) := dk_16 253 (dk_at dksX2_reads_7 5 rfl rfl)
theorem dX2_reads_171 : decode cX2_reads 171 = .ok (.if_icmp .ge 8, 3) := dk_162 0 8 (dk_at dksX2_reads_7 7 rfl rfl)
theorem dX2_reads_174 : decode cX2_reads 174 = .ok (.bipush 8, 2) := dk_16 8 (dk_at dksX2_reads_7 10 rfl rfl)
theorem dX2_reads_176 : decode cX2_reads 176 = .ok (.goto 4, 3) := dk_167 0 4 (dk_at dksX2_reads_7 12 rfl rfl)
theorem dX2_reads_179 : decode cX2_reads 179 = .ok (.iconst 0, 1) := dk_3 (dk_at dksX2_reads_7 15 rfl rfl)
theorem dX2_reads_180 : decode cX2_reads 180 = .ok (.ior, 1) := dk_128 (dk_at dksX2_reads_7 16 rfl rfl)
theorem dX2_reads_181 : decode cX2_reads 181 = .ok (.istore 10, 2) := dk_54 10 (dk_at dksX2_reads_7 17 rfl rfl)
theorem dX2_reads_183 : decode cX2_reads 183 = .ok (.iconst 2, 1) := dk_5 (dk_at dksX2_reads_7 19 rfl rfl)
theorem dX2_reads_184 : decode cX2_reads 184 = .ok (.iload 9, 2) := dk_21 9 (dk_at dksX2_reads_7 20 rfl rfl)
theorem dX2_reads_186 : decode cX2_reads 186 = .ok (.imul, 1) := dk_104 (dk_at dksX2_reads_7 22 rfl rfl)
theorem dX2_reads_187 : decode cX2_reads 187 = .ok (.iload 12, 2) := dk_21 12 (dk_at dksX2_reads_8 0 rfl rfl)
theorem dX2_reads_189 : decode cX2_reads 189 = .ok (.iadd, 1) := dk_96 (dk_at dksX2_reads_8 2 rfl rfl)
theorem dX2_reads_190 : decode cX2_reads 190 = .ok (.istore 9, 2) := dk_54 9 (dk_at dksX2_reads_8 3 rfl rfl)
theorem dX2_reads_192 : decode cX2_reads 192 = .ok (.iinc 11 1, 3) := dk_132 11 1 (dk_at dksX2_reads_8 5 rfl rfl)
theorem dX2_reads_195 : decode cX2_reads 195 = .ok (.goto (-123), 3) := dk_167 255 133 (dk_at dksX2_reads_8 8 rfl rfl)
theorem dX2_reads_198 : decode cX2_reads 198 = .ok (.iload 5, 2) := dk_21 5 (dk_at dksX2_reads_8 11 rfl rfl)
theorem dX2_reads_200 : decode cX2_reads 200 = .ok (.ifCond .ge 7, 3) := dk_156 0 7 (dk_at dksX2_reads_8 13 rfl rfl)
theorem dX2_reads_203 : decode cX2_reads 203 = .ok (.iconst 1, 1) := dk_4 (dk_at dksX2_reads_8 16 rfl rfl)
theorem dX2_reads_204 : decode cX2_reads 204 = .ok (.goto 4, 3) := dk_167 0 4 (dk_at dksX2_reads_8 17 rfl rfl)
theorem dX2_reads_207 : decode cX2_reads 207 = .ok (.iconst 2, 1) := dk_5 (dk_at dksX2_reads_8 20 rfl rfl)
theorem dX2_reads_208 : decode cX2_reads 208 = .ok (.istore 11, 2) := dk_54 11 (dk_at dksX2_reads_8 21 rfl rfl)
theorem dX2_reads_210 : decode cX2_reads 210 = .ok (.aload_n 0, 1) := dk_42 (dk_at dksX2_reads_8 23 rfl rfl)
theorem dX2_reads_211 : decode cX2_reads 211 = .ok (.getfield 35, 3) := dk_180 0 35 (dk_at dksX2_reads_9 0 rfl rfl)
theorem dX2_reads_214 : decode cX2_reads 214 = .ok (.iload 8, 2) := dk_21 8 (dk_at dksX2_reads_9 3 rfl rfl)
theorem dX2_reads_216 : decode cX2_reads 216 = .ok (.iload 9, 2) := dk_21 9 (dk_at dksX2_reads_9 5 rfl rfl)
theorem dX2_reads_218 : decode cX2_reads 218 = .ok (.iastore, 1) := dk_79 (dk_at dksX2_reads_9 7 rfl rfl)
theorem dX2_reads_219 : decode cX2_reads 219 = .ok (.aload_n 0, 1) := dk_42 (dk_at dksX2_reads_9 8 rfl rfl)
theorem dX2_reads_220 : decode cX2_reads 220 = .ok (.getfield 38, 3) := dk_180 0 38 (dk_at dksX2_reads_9 9 rfl rfl)
theorem dX2_reads_223 : decode cX2_reads 223 = .ok (.iload 8, 2) := dk_21 8 (dk_at dksX2_reads_9 12 rfl rfl)
theorem dX2_reads_225 : decode cX2_reads 225 = .ok (.aload_n 0, 1) := dk_42 (dk_at dksX2_reads_9 14 rfl rfl)
theorem dX2_reads_226 : decode cX2_reads 226 = .ok (.getfield 32, 3) := dk_180 0 32 (dk_at dksX2_reads_9 15 rfl rfl)
theorem dX2_reads_229 : decode cX2_reads 229 = .ok (.iload 9, 2) := dk_21 9 (dk_at dksX2_reads_9 18 rfl rfl)
theorem dX2_reads_231 : decode cX2_reads 231 = .ok (.iaload, 1) := dk_46 (dk_at dksX2_reads_9 20 rfl rfl)
theorem dX2_reads_232 : decode cX2_reads 232 = .ok (.iload 11, 2) := dk_21 11 (dk_at dksX2_reads_9 21 rfl rfl)
theorem dX2_reads_234 : decode cX2_reads 234 = .ok (.iand, 1) := dk_126 (dk_at dksX2_reads_9 23 rfl rfl)
theorem dX2_reads_235 : decode cX2_reads 235 = .ok (.ifCond .eq 7, 3) := dk_153 0 7 (dk_at dksX2_reads_10 0 rfl rfl)
theorem dX2_reads_238 : decode cX2_reads 238 = .ok (.iconst 1, 1) := dk_4 (dk_at dksX2_reads_10 3 rfl rfl)
theorem dX2_reads_239 : decode cX2_reads 239 = .ok (.goto 4, 3) := dk_167 0 4 (dk_at dksX2_reads_10 4 rfl rfl)
theorem dX2_reads_242 : decode cX2_reads 242 = .ok (.iconst 0, 1) := dk_3 (dk_at dksX2_reads_10 7 rfl rfl)
theorem dX2_reads_243 : decode cX2_reads 243 = .ok (.iastore, 1) := dk_79 (dk_at dksX2_reads_10 8 rfl rfl)
theorem dX2_reads_244 : decode cX2_reads 244 = .ok (.aload_n 0, 1) := dk_42 (dk_at dksX2_reads_10 9 rfl rfl)
theorem dX2_reads_245 : decode cX2_reads 245 = .ok (.getfield 41, 3) := dk_180 0 41 (dk_at dksX2_reads_10 10 rfl rfl)
theorem dX2_reads_248 : decode cX2_reads 248 = .ok (.iload 8, 2) := dk_21 8 (dk_at dksX2_reads_10 13 rfl rfl)
theorem dX2_reads_250 : decode cX2_reads 250 = .ok (.iload 10, 2) := dk_21 10 (dk_at dksX2_reads_10 15 rfl rfl)
theorem dX2_reads_252 : decode cX2_reads 252 = .ok (.aload_n 0, 1) := dk_42 (dk_at dksX2_reads_10 17 rfl rfl)
theorem dX2_reads_253 : decode cX2_reads 253 = .ok (.getfield 32, 3) := dk_180 0 32 (dk_at dksX2_reads_10 18 rfl rfl)
theorem dX2_reads_256 : decode cX2_reads 256 = .ok (.iload 9, 2) := dk_21 9 (dk_at dksX2_reads_10 21 rfl rfl)
theorem dX2_reads_258 : decode cX2_reads 258 = .ok (.iaload, 1) := dk_46 (dk_at dksX2_reads_10 23 rfl rfl)
theorem dX2_reads_259 : decode cX2_reads 259 = .ok (.ifCond .ne 7, 3) := dk_154 0 7 (dk_at dksX2_reads_11 0 rfl rfl)
theorem dX2_reads_262 : decode cX2_reads 262 = .ok (.iconst 1, 1) := dk_4 (dk_at dksX2_reads_11 3 rfl rfl)
theorem dX2_reads_263 : decode cX2_reads 263 = .ok (.goto 18, 3) := dk_167 0 18 (dk_at dksX2_reads_11 4 rfl rfl)
theorem dX2_reads_266 : decode cX2_reads 266 = .ok (.aload_n 0, 1) := dk_42 (dk_at dksX2_reads_11 7 rfl rfl)
theorem dX2_reads_267 : decode cX2_reads 267 = .ok (.getfield 38, 3) := dk_180 0 38 (dk_at dksX2_reads_11 8 rfl rfl)
theorem dX2_reads_270 : decode cX2_reads 270 = .ok (.iload 8, 2) := dk_21 8 (dk_at dksX2_reads_11 11 rfl rfl)
theorem dX2_reads_272 : decode cX2_reads 272 = .ok (.iaload, 1) := dk_46 (dk_at dksX2_reads_11 13 rfl rfl)
theorem dX2_reads_273 : decode cX2_reads 273 = .ok (.ifCond .ne 7, 3) := dk_154 0 7 (dk_at dksX2_reads_11 14 rfl rfl)
theorem dX2_reads_276 : decode cX2_reads 276 = .ok (.iconst 2, 1) := dk_5 (dk_at dksX2_reads_11 17 rfl rfl)
theorem dX2_reads_277 : decode cX2_reads 277 = .ok (.goto 4, 3) := dk_167 0 4 (dk_at dksX2_reads_11 18 rfl rfl)
theorem dX2_reads_280 : decode cX2_reads 280 = .ok (.iconst 0, 1) := dk_3 (dk_at dksX2_reads_11 21 rfl rfl)
theorem dX2_reads_281 : decode cX2_reads 281 = .ok (.ior, 1) := dk_128 (dk_at dksX2_reads_11 22 rfl rfl)
theorem dX2_reads_282 : decode cX2_reads 282 = .ok (.iastore, 1) := dk_79 (dk_at dksX2_reads_11 23 rfl rfl)
theorem dX2_reads_283 : decode cX2_reads 283 = .ok (.iload 9, 2) := dk_21 9 (dk_at dksX2_reads_12 0 rfl rfl)
theorem dX2_reads_285 : decode cX2_reads 285 = .ok (.invokestatic 63, 3) := dk_184 0 63 (dk_at dksX2_reads_12 2 rfl rfl)
theorem dX2_reads_288 : decode cX2_reads 288 = .ok (.iconst 3, 1) := dk_6 (dk_at dksX2_reads_12 5 rfl rfl)
theorem dX2_reads_289 : decode cX2_reads 289 = .ok (.if_icmp .le 7, 3) := dk_164 0 7 (dk_at dksX2_reads_12 6 rfl rfl)
theorem dX2_reads_292 : decode cX2_reads 292 = .ok (.iconst 1, 1) := dk_4 (dk_at dksX2_reads_12 9 rfl rfl)
theorem dX2_reads_293 : decode cX2_reads 293 = .ok (.goto 18, 3) := dk_167 0 18 (dk_at dksX2_reads_12 10 rfl rfl)
theorem dX2_reads_296 : decode cX2_reads 296 = .ok (.iload 9, 2) := dk_21 9 (dk_at dksX2_reads_12 13 rfl rfl)
theorem dX2_reads_298 : decode cX2_reads 298 = .ok (.invokestatic 63, 3) := dk_184 0 63 (dk_at dksX2_reads_12 15 rfl rfl)
theorem dX2_reads_301 : decode cX2_reads 301 = .ok (.iconst 3, 1) := dk_6 (dk_at dksX2_reads_12 18 rfl rfl)
theorem dX2_reads_302 : decode cX2_reads 302 = .ok (.if_icmp .ge 7, 3) := dk_162 0 7 (dk_at dksX2_reads_12 19 rfl rfl)
theorem dX2_reads_305 : decode cX2_reads 305 = .ok (.iconst (-1), 1) := dk_2 (dk_at dksX2_reads_12 22 rfl rfl)
theorem dX2_reads_306 : decode cX2_reads 306 = .ok (.goto 5, 3) := dk_167 0 5 (dk_at dksX2_reads_13 0 rfl rfl)
theorem dX2_reads_309 : decode cX2_reads 309 = .ok (.iload 5, 2) := dk_21 5 (dk_at dksX2_reads_13 3 rfl rfl)
theorem dX2_reads_311 : decode cX2_reads 311 = .ok (.istore 5, 2) := dk_54 5 (dk_at dksX2_reads_13 5 rfl rfl)
theorem dX2_reads_313 : decode cX2_reads 313 = .ok (.aload_n 0, 1) := dk_42 (dk_at dksX2_reads_13 7 rfl rfl)
theorem dX2_reads_314 : decode cX2_reads 314 = .ok (.getfield 44, 3) := dk_180 0 44 (dk_at dksX2_reads_13 8 rfl rfl)
theorem dX2_reads_317 : decode cX2_reads 317 = .ok (.iload 8, 2) := dk_21 8 (dk_at dksX2_reads_13 11 rfl rfl)
theorem dX2_reads_319 : decode cX2_reads 319 = .ok (.iload 5, 2) := dk_21 5 (dk_at dksX2_reads_13 13 rfl rfl)
theorem dX2_reads_321 : decode cX2_reads 321 = .ok (.iastore, 1) := dk_79 (dk_at dksX2_reads_13 15 rfl rfl)
theorem dX2_reads_322 : decode cX2_reads 322 = .ok (.iinc 8 1, 3) := dk_132 8 1 (dk_at dksX2_reads_13 16 rfl rfl)
theorem dX2_reads_325 : decode cX2_reads 325 = .ok (.goto (-277), 3) := dk_167 254 235 (dk_at dksX2_reads_13 19 rfl rfl)
theorem dX2_reads_328 : decode cX2_reads 328 = .ok (.return_, 1) := dk_177 (dk_at dksX2_reads_13 22 rfl rfl)
abbrev cX2_lays : ByteArray := prog_12_method_9_code
def yX2_lays : MethodName := ⟨RX2, "lays", "()V"⟩
def dkwX2_lays_4 : List UInt8 := [177]
abbrev dktX2_lays_4 : List UInt8 := dkwX2_lays_4 ++ []
def dkwX2_lays_3 : List UInt8 := [92, 46, 4, 28, 120, 128, 79, 132, 2, 1, 167, 255, 221, 132, 1, 1, 167, 255, 207, 42, 4, 181, 0, 75]
abbrev dktX2_lays_3 : List UInt8 := dkwX2_lays_3 ++ dktX2_lays_4
def dkwX2_lays_2 : List UInt8 := [5, 162, 0, 36, 42, 180, 0, 29, 27, 28, 184, 0, 79, 27, 79, 42, 180, 0, 32, 27, 28, 184, 0, 79]
abbrev dktX2_lays_2 : List UInt8 := dkwX2_lays_2 ++ dktX2_lays_3
def dkwX2_lays_1 : List UInt8 := [42, 180, 0, 32, 27, 3, 79, 132, 1, 1, 167, 255, 232, 3, 60, 27, 16, 34, 162, 0, 49, 3, 61, 28]
abbrev dktX2_lays_1 : List UInt8 := dkwX2_lays_1 ++ dktX2_lays_2
def dkwX2_lays_0 : List UInt8 := [42, 180, 0, 75, 153, 0, 4, 177, 3, 60, 27, 16, 64, 162, 0, 24, 42, 180, 0, 29, 27, 16, 247, 79]
abbrev dktX2_lays_0 : List UInt8 := dkwX2_lays_0 ++ dktX2_lays_1
theorem dksX2_lays_0 : cX2_lays.data.toList.drop 0 = dktX2_lays_0 := by decide +kernel
theorem dksX2_lays_1 : cX2_lays.data.toList.drop 24 = dktX2_lays_1 := dk_seg dksX2_lays_0 24 rfl rfl
theorem dksX2_lays_2 : cX2_lays.data.toList.drop 48 = dktX2_lays_2 := dk_seg dksX2_lays_1 24 rfl rfl
theorem dksX2_lays_3 : cX2_lays.data.toList.drop 72 = dktX2_lays_3 := dk_seg dksX2_lays_2 24 rfl rfl
theorem dksX2_lays_4 : cX2_lays.data.toList.drop 96 = dktX2_lays_4 := dk_seg dksX2_lays_3 24 rfl rfl
theorem dX2_lays_0 : decode cX2_lays 0 = .ok (.aload_n 0, 1) := dk_42 (dk_at dksX2_lays_0 0 rfl rfl)
theorem dX2_lays_1 : decode cX2_lays 1 = .ok (.getfield 75, 3) := dk_180 0 75 (dk_at dksX2_lays_0 1 rfl rfl)
theorem dX2_lays_4 : decode cX2_lays 4 = .ok (.ifCond .eq 4, 3) := dk_153 0 4 (dk_at dksX2_lays_0 4 rfl rfl)
theorem dX2_lays_7 : decode cX2_lays 7 = .ok (.return_, 1) := dk_177 (dk_at dksX2_lays_0 7 rfl rfl)
theorem dX2_lays_8 : decode cX2_lays 8 = .ok (.iconst 0, 1) := dk_3 (dk_at dksX2_lays_0 8 rfl rfl)
theorem dX2_lays_9 : decode cX2_lays 9 = .ok (.istore_n 1, 1) := dk_60 (dk_at dksX2_lays_0 9 rfl rfl)
theorem dX2_lays_10 : decode cX2_lays 10 = .ok (.iload_n 1, 1) := dk_27 (dk_at dksX2_lays_0 10 rfl rfl)
theorem dX2_lays_11 : decode cX2_lays 11 = .ok (.bipush 64, 2) := dk_16 64 (dk_at dksX2_lays_0 11 rfl rfl)
theorem dX2_lays_13 : decode cX2_lays 13 = .ok (.if_icmp .ge 24, 3) := dk_162 0 24 (dk_at dksX2_lays_0 13 rfl rfl)
theorem dX2_lays_16 : decode cX2_lays 16 = .ok (.aload_n 0, 1) := dk_42 (dk_at dksX2_lays_0 16 rfl rfl)
theorem dX2_lays_17 : decode cX2_lays 17 = .ok (.getfield 29, 3) := dk_180 0 29 (dk_at dksX2_lays_0 17 rfl rfl)
theorem dX2_lays_20 : decode cX2_lays 20 = .ok (.iload_n 1, 1) := dk_27 (dk_at dksX2_lays_0 20 rfl rfl)
theorem dX2_lays_21 : decode cX2_lays 21 = .ok (.bipush (-9), 2) := dk_16 247 (dk_at dksX2_lays_0 21 rfl rfl)
theorem dX2_lays_23 : decode cX2_lays 23 = .ok (.iastore, 1) := dk_79 (dk_at dksX2_lays_0 23 rfl rfl)
theorem dX2_lays_24 : decode cX2_lays 24 = .ok (.aload_n 0, 1) := dk_42 (dk_at dksX2_lays_1 0 rfl rfl)
theorem dX2_lays_25 : decode cX2_lays 25 = .ok (.getfield 32, 3) := dk_180 0 32 (dk_at dksX2_lays_1 1 rfl rfl)
theorem dX2_lays_28 : decode cX2_lays 28 = .ok (.iload_n 1, 1) := dk_27 (dk_at dksX2_lays_1 4 rfl rfl)
theorem dX2_lays_29 : decode cX2_lays 29 = .ok (.iconst 0, 1) := dk_3 (dk_at dksX2_lays_1 5 rfl rfl)
theorem dX2_lays_30 : decode cX2_lays 30 = .ok (.iastore, 1) := dk_79 (dk_at dksX2_lays_1 6 rfl rfl)
theorem dX2_lays_31 : decode cX2_lays 31 = .ok (.iinc 1 1, 3) := dk_132 1 1 (dk_at dksX2_lays_1 7 rfl rfl)
theorem dX2_lays_34 : decode cX2_lays 34 = .ok (.goto (-24), 3) := dk_167 255 232 (dk_at dksX2_lays_1 10 rfl rfl)
theorem dX2_lays_37 : decode cX2_lays 37 = .ok (.iconst 0, 1) := dk_3 (dk_at dksX2_lays_1 13 rfl rfl)
theorem dX2_lays_38 : decode cX2_lays 38 = .ok (.istore_n 1, 1) := dk_60 (dk_at dksX2_lays_1 14 rfl rfl)
theorem dX2_lays_39 : decode cX2_lays 39 = .ok (.iload_n 1, 1) := dk_27 (dk_at dksX2_lays_1 15 rfl rfl)
theorem dX2_lays_40 : decode cX2_lays 40 = .ok (.bipush 34, 2) := dk_16 34 (dk_at dksX2_lays_1 16 rfl rfl)
theorem dX2_lays_42 : decode cX2_lays 42 = .ok (.if_icmp .ge 49, 3) := dk_162 0 49 (dk_at dksX2_lays_1 18 rfl rfl)
theorem dX2_lays_45 : decode cX2_lays 45 = .ok (.iconst 0, 1) := dk_3 (dk_at dksX2_lays_1 21 rfl rfl)
theorem dX2_lays_46 : decode cX2_lays 46 = .ok (.istore_n 2, 1) := dk_61 (dk_at dksX2_lays_1 22 rfl rfl)
theorem dX2_lays_47 : decode cX2_lays 47 = .ok (.iload_n 2, 1) := dk_28 (dk_at dksX2_lays_1 23 rfl rfl)
theorem dX2_lays_48 : decode cX2_lays 48 = .ok (.iconst 2, 1) := dk_5 (dk_at dksX2_lays_2 0 rfl rfl)
theorem dX2_lays_49 : decode cX2_lays 49 = .ok (.if_icmp .ge 36, 3) := dk_162 0 36 (dk_at dksX2_lays_2 1 rfl rfl)
theorem dX2_lays_52 : decode cX2_lays 52 = .ok (.aload_n 0, 1) := dk_42 (dk_at dksX2_lays_2 4 rfl rfl)
theorem dX2_lays_53 : decode cX2_lays 53 = .ok (.getfield 29, 3) := dk_180 0 29 (dk_at dksX2_lays_2 5 rfl rfl)
theorem dX2_lays_56 : decode cX2_lays 56 = .ok (.iload_n 1, 1) := dk_27 (dk_at dksX2_lays_2 8 rfl rfl)
theorem dX2_lays_57 : decode cX2_lays 57 = .ok (.iload_n 2, 1) := dk_28 (dk_at dksX2_lays_2 9 rfl rfl)
theorem dX2_lays_58 : decode cX2_lays 58 = .ok (.invokestatic 79, 3) := dk_184 0 79 (dk_at dksX2_lays_2 10 rfl rfl)
theorem dX2_lays_61 : decode cX2_lays 61 = .ok (.iload_n 1, 1) := dk_27 (dk_at dksX2_lays_2 13 rfl rfl)
theorem dX2_lays_62 : decode cX2_lays 62 = .ok (.iastore, 1) := dk_79 (dk_at dksX2_lays_2 14 rfl rfl)
theorem dX2_lays_63 : decode cX2_lays 63 = .ok (.aload_n 0, 1) := dk_42 (dk_at dksX2_lays_2 15 rfl rfl)
theorem dX2_lays_64 : decode cX2_lays 64 = .ok (.getfield 32, 3) := dk_180 0 32 (dk_at dksX2_lays_2 16 rfl rfl)
theorem dX2_lays_67 : decode cX2_lays 67 = .ok (.iload_n 1, 1) := dk_27 (dk_at dksX2_lays_2 19 rfl rfl)
theorem dX2_lays_68 : decode cX2_lays 68 = .ok (.iload_n 2, 1) := dk_28 (dk_at dksX2_lays_2 20 rfl rfl)
theorem dX2_lays_69 : decode cX2_lays 69 = .ok (.invokestatic 79, 3) := dk_184 0 79 (dk_at dksX2_lays_2 21 rfl rfl)
theorem dX2_lays_72 : decode cX2_lays 72 = .ok (.dup2, 1) := dk_92 (dk_at dksX2_lays_3 0 rfl rfl)
theorem dX2_lays_73 : decode cX2_lays 73 = .ok (.iaload, 1) := dk_46 (dk_at dksX2_lays_3 1 rfl rfl)
theorem dX2_lays_74 : decode cX2_lays 74 = .ok (.iconst 1, 1) := dk_4 (dk_at dksX2_lays_3 2 rfl rfl)
theorem dX2_lays_75 : decode cX2_lays 75 = .ok (.iload_n 2, 1) := dk_28 (dk_at dksX2_lays_3 3 rfl rfl)
theorem dX2_lays_76 : decode cX2_lays 76 = .ok (.ishl, 1) := dk_120 (dk_at dksX2_lays_3 4 rfl rfl)
theorem dX2_lays_77 : decode cX2_lays 77 = .ok (.ior, 1) := dk_128 (dk_at dksX2_lays_3 5 rfl rfl)
theorem dX2_lays_78 : decode cX2_lays 78 = .ok (.iastore, 1) := dk_79 (dk_at dksX2_lays_3 6 rfl rfl)
theorem dX2_lays_79 : decode cX2_lays 79 = .ok (.iinc 2 1, 3) := dk_132 2 1 (dk_at dksX2_lays_3 7 rfl rfl)
theorem dX2_lays_82 : decode cX2_lays 82 = .ok (.goto (-35), 3) := dk_167 255 221 (dk_at dksX2_lays_3 10 rfl rfl)
theorem dX2_lays_85 : decode cX2_lays 85 = .ok (.iinc 1 1, 3) := dk_132 1 1 (dk_at dksX2_lays_3 13 rfl rfl)
theorem dX2_lays_88 : decode cX2_lays 88 = .ok (.goto (-49), 3) := dk_167 255 207 (dk_at dksX2_lays_3 16 rfl rfl)
theorem dX2_lays_91 : decode cX2_lays 91 = .ok (.aload_n 0, 1) := dk_42 (dk_at dksX2_lays_3 19 rfl rfl)
theorem dX2_lays_92 : decode cX2_lays 92 = .ok (.iconst 1, 1) := dk_4 (dk_at dksX2_lays_3 20 rfl rfl)
theorem dX2_lays_93 : decode cX2_lays 93 = .ok (.putfield 75, 3) := dk_181 0 75 (dk_at dksX2_lays_3 21 rfl rfl)
theorem dX2_lays_96 : decode cX2_lays 96 = .ok (.return_, 1) := dk_177 (dk_at dksX2_lays_4 0 rfl rfl)
abbrev cX2_bitAt : ByteArray := prog_12_method_30_code
def yX2_bitAt : MethodName := ⟨RX2, "bitAt", "(II)I"⟩
def dkwX2_bitAt_1 : List UInt8 := [16, 36, 27, 96, 46, 172]
abbrev dktX2_bitAt_1 : List UInt8 := dkwX2_bitAt_1 ++ []
def dkwX2_bitAt_0 : List UInt8 := [27, 28, 160, 0, 17, 4, 42, 180, 0, 7, 16, 36, 27, 96, 46, 100, 167, 0, 12, 42, 180, 0, 7]
abbrev dktX2_bitAt_0 : List UInt8 := dkwX2_bitAt_0 ++ dktX2_bitAt_1
theorem dksX2_bitAt_0 : cX2_bitAt.data.toList.drop 0 = dktX2_bitAt_0 := by decide +kernel
theorem dksX2_bitAt_1 : cX2_bitAt.data.toList.drop 23 = dktX2_bitAt_1 := dk_seg dksX2_bitAt_0 23 rfl rfl
theorem dX2_bitAt_0 : decode cX2_bitAt 0 = .ok (.iload_n 1, 1) := dk_27 (dk_at dksX2_bitAt_0 0 rfl rfl)
theorem dX2_bitAt_1 : decode cX2_bitAt 1 = .ok (.iload_n 2, 1) := dk_28 (dk_at dksX2_bitAt_0 1 rfl rfl)
theorem dX2_bitAt_2 : decode cX2_bitAt 2 = .ok (.if_icmp .ne 17, 3) := dk_160 0 17 (dk_at dksX2_bitAt_0 2 rfl rfl)
theorem dX2_bitAt_5 : decode cX2_bitAt 5 = .ok (.iconst 1, 1) := dk_4 (dk_at dksX2_bitAt_0 5 rfl rfl)
theorem dX2_bitAt_6 : decode cX2_bitAt 6 = .ok (.aload_n 0, 1) := dk_42 (dk_at dksX2_bitAt_0 6 rfl rfl)
theorem dX2_bitAt_7 : decode cX2_bitAt 7 = .ok (.getfield 7, 3) := dk_180 0 7 (dk_at dksX2_bitAt_0 7 rfl rfl)
theorem dX2_bitAt_10 : decode cX2_bitAt 10 = .ok (.bipush 36, 2) := dk_16 36 (dk_at dksX2_bitAt_0 10 rfl rfl)
theorem dX2_bitAt_12 : decode cX2_bitAt 12 = .ok (.iload_n 1, 1) := dk_27 (dk_at dksX2_bitAt_0 12 rfl rfl)
theorem dX2_bitAt_13 : decode cX2_bitAt 13 = .ok (.iadd, 1) := dk_96 (dk_at dksX2_bitAt_0 13 rfl rfl)
theorem dX2_bitAt_14 : decode cX2_bitAt 14 = .ok (.iaload, 1) := dk_46 (dk_at dksX2_bitAt_0 14 rfl rfl)
theorem dX2_bitAt_15 : decode cX2_bitAt 15 = .ok (.isub, 1) := dk_100 (dk_at dksX2_bitAt_0 15 rfl rfl)
theorem dX2_bitAt_16 : decode cX2_bitAt 16 = .ok (.goto 12, 3) := dk_167 0 12 (dk_at dksX2_bitAt_0 16 rfl rfl)
theorem dX2_bitAt_19 : decode cX2_bitAt 19 = .ok (.aload_n 0, 1) := dk_42 (dk_at dksX2_bitAt_0 19 rfl rfl)
theorem dX2_bitAt_20 : decode cX2_bitAt 20 = .ok (.getfield 7, 3) := dk_180 0 7 (dk_at dksX2_bitAt_0 20 rfl rfl)
theorem dX2_bitAt_23 : decode cX2_bitAt 23 = .ok (.bipush 36, 2) := dk_16 36 (dk_at dksX2_bitAt_1 0 rfl rfl)
theorem dX2_bitAt_25 : decode cX2_bitAt 25 = .ok (.iload_n 1, 1) := dk_27 (dk_at dksX2_bitAt_1 2 rfl rfl)
theorem dX2_bitAt_26 : decode cX2_bitAt 26 = .ok (.iadd, 1) := dk_96 (dk_at dksX2_bitAt_1 3 rfl rfl)
theorem dX2_bitAt_27 : decode cX2_bitAt 27 = .ok (.iaload, 1) := dk_46 (dk_at dksX2_bitAt_1 4 rfl rfl)
theorem dX2_bitAt_28 : decode cX2_bitAt 28 = .ok (.ireturn, 1) := dk_172 (dk_at dksX2_bitAt_1 5 rfl rfl)
abbrev cX2_read : ByteArray := prog_12_method_37_code
def yX2_read : MethodName := ⟨RX2, "read", "(III)I"⟩
def dkwX2_read_7 : List UInt8 := [42, 180, 0, 159, 27, 100, 16, 6, 108, 100, 172]
abbrev dktX2_read_7 : List UInt8 := dkwX2_read_7 ++ []
def dkwX2_read_6 : List UInt8 := [172, 21, 4, 16, 247, 159, 0, 12, 42, 180, 0, 159, 16, 247, 160, 0, 8, 18, 171, 167, 0, 15, 21, 4]
abbrev dktX2_read_6 : List UInt8 := dkwX2_read_6 ++ dktX2_read_7
def dkwX2_read_5 : List UInt8 := [182, 0, 167, 29, 8, 162, 0, 20, 29, 6, 160, 0, 10, 42, 180, 0, 156, 167, 0, 7, 42, 180, 0, 159]
abbrev dktX2_read_5 : List UInt8 := dkwX2_read_5 ++ dktX2_read_6
def dkwX2_read_4 : List UInt8 := [167, 0, 4, 4, 96, 54, 5, 132, 6, 1, 167, 255, 224, 21, 5, 172, 42, 27, 28, 184, 0, 149]
abbrev dktX2_read_4 : List UInt8 := dkwX2_read_4 ++ dktX2_read_5
def dkwX2_read_3 : List UInt8 := [21, 6, 42, 180, 0, 139, 162, 0, 29, 21, 5, 42, 180, 0, 41, 21, 6, 46, 154, 0, 7, 3]
abbrev dktX2_read_3 : List UInt8 := dkwX2_read_3 ++ dktX2_read_4
def dkwX2_read_2 : List UInt8 := [182, 0, 162, 54, 4, 29, 4, 160, 0, 6, 21, 4, 172, 29, 5, 160, 0, 47, 3, 54, 5, 3, 54, 6]
abbrev dktX2_read_2 : List UInt8 := dkwX2_read_2 ++ dktX2_read_3
def dkwX2_read_1 : List UInt8 := [172, 42, 27, 28, 184, 0, 149, 16, 247, 182, 0, 152, 29, 154, 0, 8, 42, 180, 0, 139, 172, 42]
abbrev dktX2_read_1 : List UInt8 := dkwX2_read_1 ++ dktX2_read_2
def dkwX2_read_0 : List UInt8 := [42, 3, 181, 0, 59, 27, 28, 184, 0, 145, 153, 0, 12, 29, 3, 8, 184, 0, 85, 154, 0, 6, 18, 166]
abbrev dktX2_read_0 : List UInt8 := dkwX2_read_0 ++ dktX2_read_1
theorem dksX2_read_0 : cX2_read.data.toList.drop 0 = dktX2_read_0 := by decide +kernel
theorem dksX2_read_1 : cX2_read.data.toList.drop 24 = dktX2_read_1 := dk_seg dksX2_read_0 24 rfl rfl
theorem dksX2_read_2 : cX2_read.data.toList.drop 46 = dktX2_read_2 := dk_seg dksX2_read_1 22 rfl rfl
theorem dksX2_read_3 : cX2_read.data.toList.drop 70 = dktX2_read_3 := dk_seg dksX2_read_2 24 rfl rfl
theorem dksX2_read_4 : cX2_read.data.toList.drop 92 = dktX2_read_4 := dk_seg dksX2_read_3 22 rfl rfl
theorem dksX2_read_5 : cX2_read.data.toList.drop 114 = dktX2_read_5 := dk_seg dksX2_read_4 22 rfl rfl
theorem dksX2_read_6 : cX2_read.data.toList.drop 138 = dktX2_read_6 := dk_seg dksX2_read_5 24 rfl rfl
theorem dksX2_read_7 : cX2_read.data.toList.drop 162 = dktX2_read_7 := dk_seg dksX2_read_6 24 rfl rfl
theorem dX2_read_0 : decode cX2_read 0 = .ok (.aload_n 0, 1) := dk_42 (dk_at dksX2_read_0 0 rfl rfl)
theorem dX2_read_1 : decode cX2_read 1 = .ok (.iconst 0, 1) := dk_3 (dk_at dksX2_read_0 1 rfl rfl)
theorem dX2_read_2 : decode cX2_read 2 = .ok (.putfield 59, 3) := dk_181 0 59 (dk_at dksX2_read_0 2 rfl rfl)
theorem dX2_read_5 : decode cX2_read 5 = .ok (.iload_n 1, 1) := dk_27 (dk_at dksX2_read_0 5 rfl rfl)
theorem dX2_read_6 : decode cX2_read 6 = .ok (.iload_n 2, 1) := dk_28 (dk_at dksX2_read_0 6 rfl rfl)
theorem dX2_read_7 : decode cX2_read 7 = .ok (.invokestatic 145, 3) := dk_184 0 145 (dk_at dksX2_read_0 7 rfl rfl)
theorem dX2_read_10 : decode cX2_read 10 = .ok (.ifCond .eq 12, 3) := dk_153 0 12 (dk_at dksX2_read_0 10 rfl rfl)
theorem dX2_read_13 : decode cX2_read 13 = .ok (.iload_n 3, 1) := dk_29 (dk_at dksX2_read_0 13 rfl rfl)
theorem dX2_read_14 : decode cX2_read 14 = .ok (.iconst 0, 1) := dk_3 (dk_at dksX2_read_0 14 rfl rfl)
theorem dX2_read_15 : decode cX2_read 15 = .ok (.iconst 5, 1) := dk_8 (dk_at dksX2_read_0 15 rfl rfl)
theorem dX2_read_16 : decode cX2_read 16 = .ok (.invokestatic 85, 3) := dk_184 0 85 (dk_at dksX2_read_0 16 rfl rfl)
theorem dX2_read_19 : decode cX2_read 19 = .ok (.ifCond .ne 6, 3) := dk_154 0 6 (dk_at dksX2_read_0 19 rfl rfl)
theorem dX2_read_22 : decode cX2_read 22 = .ok (.ldc 166, 2) := dk_18 166 (dk_at dksX2_read_0 22 rfl rfl)
theorem dX2_read_24 : decode cX2_read 24 = .ok (.ireturn, 1) := dk_172 (dk_at dksX2_read_1 0 rfl rfl)
theorem dX2_read_25 : decode cX2_read 25 = .ok (.aload_n 0, 1) := dk_42 (dk_at dksX2_read_1 1 rfl rfl)
theorem dX2_read_26 : decode cX2_read 26 = .ok (.iload_n 1, 1) := dk_27 (dk_at dksX2_read_1 2 rfl rfl)
theorem dX2_read_27 : decode cX2_read 27 = .ok (.iload_n 2, 1) := dk_28 (dk_at dksX2_read_1 3 rfl rfl)
theorem dX2_read_28 : decode cX2_read 28 = .ok (.invokestatic 149, 3) := dk_184 0 149 (dk_at dksX2_read_1 4 rfl rfl)
theorem dX2_read_31 : decode cX2_read 31 = .ok (.bipush (-9), 2) := dk_16 247 (dk_at dksX2_read_1 7 rfl rfl)
theorem dX2_read_33 : decode cX2_read 33 = .ok (.invokevirtual 152, 3) := dk_182 0 152 (dk_at dksX2_read_1 9 rfl rfl)
theorem dX2_read_36 : decode cX2_read 36 = .ok (.iload_n 3, 1) := dk_29 (dk_at dksX2_read_1 12 rfl rfl)
theorem dX2_read_37 : decode cX2_read 37 = .ok (.ifCond .ne 8, 3) := dk_154 0 8 (dk_at dksX2_read_1 13 rfl rfl)
theorem dX2_read_40 : decode cX2_read 40 = .ok (.aload_n 0, 1) := dk_42 (dk_at dksX2_read_1 16 rfl rfl)
theorem dX2_read_41 : decode cX2_read 41 = .ok (.getfield 139, 3) := dk_180 0 139 (dk_at dksX2_read_1 17 rfl rfl)
theorem dX2_read_44 : decode cX2_read 44 = .ok (.ireturn, 1) := dk_172 (dk_at dksX2_read_1 20 rfl rfl)
theorem dX2_read_45 : decode cX2_read 45 = .ok (.aload_n 0, 1) := dk_42 (dk_at dksX2_read_1 21 rfl rfl)
theorem dX2_read_46 : decode cX2_read 46 = .ok (.invokevirtual 162, 3) := dk_182 0 162 (dk_at dksX2_read_2 0 rfl rfl)
theorem dX2_read_49 : decode cX2_read 49 = .ok (.istore 4, 2) := dk_54 4 (dk_at dksX2_read_2 3 rfl rfl)
theorem dX2_read_51 : decode cX2_read 51 = .ok (.iload_n 3, 1) := dk_29 (dk_at dksX2_read_2 5 rfl rfl)
theorem dX2_read_52 : decode cX2_read 52 = .ok (.iconst 1, 1) := dk_4 (dk_at dksX2_read_2 6 rfl rfl)
theorem dX2_read_53 : decode cX2_read 53 = .ok (.if_icmp .ne 6, 3) := dk_160 0 6 (dk_at dksX2_read_2 7 rfl rfl)
theorem dX2_read_56 : decode cX2_read 56 = .ok (.iload 4, 2) := dk_21 4 (dk_at dksX2_read_2 10 rfl rfl)
theorem dX2_read_58 : decode cX2_read 58 = .ok (.ireturn, 1) := dk_172 (dk_at dksX2_read_2 12 rfl rfl)
theorem dX2_read_59 : decode cX2_read 59 = .ok (.iload_n 3, 1) := dk_29 (dk_at dksX2_read_2 13 rfl rfl)
theorem dX2_read_60 : decode cX2_read 60 = .ok (.iconst 2, 1) := dk_5 (dk_at dksX2_read_2 14 rfl rfl)
theorem dX2_read_61 : decode cX2_read 61 = .ok (.if_icmp .ne 47, 3) := dk_160 0 47 (dk_at dksX2_read_2 15 rfl rfl)
theorem dX2_read_64 : decode cX2_read 64 = .ok (.iconst 0, 1) := dk_3 (dk_at dksX2_read_2 18 rfl rfl)
theorem dX2_read_65 : decode cX2_read 65 = .ok (.istore 5, 2) := dk_54 5 (dk_at dksX2_read_2 19 rfl rfl)
theorem dX2_read_67 : decode cX2_read 67 = .ok (.iconst 0, 1) := dk_3 (dk_at dksX2_read_2 21 rfl rfl)
theorem dX2_read_68 : decode cX2_read 68 = .ok (.istore 6, 2) := dk_54 6 (dk_at dksX2_read_2 22 rfl rfl)
theorem dX2_read_70 : decode cX2_read 70 = .ok (.iload 6, 2) := dk_21 6 (dk_at dksX2_read_3 0 rfl rfl)
theorem dX2_read_72 : decode cX2_read 72 = .ok (.aload_n 0, 1) := dk_42 (dk_at dksX2_read_3 2 rfl rfl)
theorem dX2_read_73 : decode cX2_read 73 = .ok (.getfield 139, 3) := dk_180 0 139 (dk_at dksX2_read_3 3 rfl rfl)
theorem dX2_read_76 : decode cX2_read 76 = .ok (.if_icmp .ge 29, 3) := dk_162 0 29 (dk_at dksX2_read_3 6 rfl rfl)
theorem dX2_read_79 : decode cX2_read 79 = .ok (.iload 5, 2) := dk_21 5 (dk_at dksX2_read_3 9 rfl rfl)
theorem dX2_read_81 : decode cX2_read 81 = .ok (.aload_n 0, 1) := dk_42 (dk_at dksX2_read_3 11 rfl rfl)
theorem dX2_read_82 : decode cX2_read 82 = .ok (.getfield 41, 3) := dk_180 0 41 (dk_at dksX2_read_3 12 rfl rfl)
theorem dX2_read_85 : decode cX2_read 85 = .ok (.iload 6, 2) := dk_21 6 (dk_at dksX2_read_3 15 rfl rfl)
theorem dX2_read_87 : decode cX2_read 87 = .ok (.iaload, 1) := dk_46 (dk_at dksX2_read_3 17 rfl rfl)
theorem dX2_read_88 : decode cX2_read 88 = .ok (.ifCond .ne 7, 3) := dk_154 0 7 (dk_at dksX2_read_3 18 rfl rfl)
theorem dX2_read_91 : decode cX2_read 91 = .ok (.iconst 0, 1) := dk_3 (dk_at dksX2_read_3 21 rfl rfl)
theorem dX2_read_92 : decode cX2_read 92 = .ok (.goto 4, 3) := dk_167 0 4 (dk_at dksX2_read_4 0 rfl rfl)
theorem dX2_read_95 : decode cX2_read 95 = .ok (.iconst 1, 1) := dk_4 (dk_at dksX2_read_4 3 rfl rfl)
theorem dX2_read_96 : decode cX2_read 96 = .ok (.iadd, 1) := dk_96 (dk_at dksX2_read_4 4 rfl rfl)
theorem dX2_read_97 : decode cX2_read 97 = .ok (.istore 5, 2) := dk_54 5 (dk_at dksX2_read_4 5 rfl rfl)
theorem dX2_read_99 : decode cX2_read 99 = .ok (.iinc 6 1, 3) := dk_132 6 1 (dk_at dksX2_read_4 7 rfl rfl)
theorem dX2_read_102 : decode cX2_read 102 = .ok (.goto (-32), 3) := dk_167 255 224 (dk_at dksX2_read_4 10 rfl rfl)
theorem dX2_read_105 : decode cX2_read 105 = .ok (.iload 5, 2) := dk_21 5 (dk_at dksX2_read_4 13 rfl rfl)
theorem dX2_read_107 : decode cX2_read 107 = .ok (.ireturn, 1) := dk_172 (dk_at dksX2_read_4 15 rfl rfl)
theorem dX2_read_108 : decode cX2_read 108 = .ok (.aload_n 0, 1) := dk_42 (dk_at dksX2_read_4 16 rfl rfl)
theorem dX2_read_109 : decode cX2_read 109 = .ok (.iload_n 1, 1) := dk_27 (dk_at dksX2_read_4 17 rfl rfl)
theorem dX2_read_110 : decode cX2_read 110 = .ok (.iload_n 2, 1) := dk_28 (dk_at dksX2_read_4 18 rfl rfl)
theorem dX2_read_111 : decode cX2_read 111 = .ok (.invokestatic 149, 3) := dk_184 0 149 (dk_at dksX2_read_4 19 rfl rfl)
theorem dX2_read_114 : decode cX2_read 114 = .ok (.invokevirtual 167, 3) := dk_182 0 167 (dk_at dksX2_read_5 0 rfl rfl)
theorem dX2_read_117 : decode cX2_read 117 = .ok (.iload_n 3, 1) := dk_29 (dk_at dksX2_read_5 3 rfl rfl)
theorem dX2_read_118 : decode cX2_read 118 = .ok (.iconst 5, 1) := dk_8 (dk_at dksX2_read_5 4 rfl rfl)
theorem dX2_read_119 : decode cX2_read 119 = .ok (.if_icmp .ge 20, 3) := dk_162 0 20 (dk_at dksX2_read_5 5 rfl rfl)
theorem dX2_read_122 : decode cX2_read 122 = .ok (.iload_n 3, 1) := dk_29 (dk_at dksX2_read_5 8 rfl rfl)
theorem dX2_read_123 : decode cX2_read 123 = .ok (.iconst 3, 1) := dk_6 (dk_at dksX2_read_5 9 rfl rfl)
theorem dX2_read_124 : decode cX2_read 124 = .ok (.if_icmp .ne 10, 3) := dk_160 0 10 (dk_at dksX2_read_5 10 rfl rfl)
theorem dX2_read_127 : decode cX2_read 127 = .ok (.aload_n 0, 1) := dk_42 (dk_at dksX2_read_5 13 rfl rfl)
theorem dX2_read_128 : decode cX2_read 128 = .ok (.getfield 156, 3) := dk_180 0 156 (dk_at dksX2_read_5 14 rfl rfl)
theorem dX2_read_131 : decode cX2_read 131 = .ok (.goto 7, 3) := dk_167 0 7 (dk_at dksX2_read_5 17 rfl rfl)
theorem dX2_read_134 : decode cX2_read 134 = .ok (.aload_n 0, 1) := dk_42 (dk_at dksX2_read_5 20 rfl rfl)
theorem dX2_read_135 : decode cX2_read 135 = .ok (.getfield 159, 3) := dk_180 0 159 (dk_at dksX2_read_5 21 rfl rfl)
theorem dX2_read_138 : decode cX2_read 138 = .ok (.ireturn, 1) := dk_172 (dk_at dksX2_read_6 0 rfl rfl)
theorem dX2_read_139 : decode cX2_read 139 = .ok (.iload 4, 2) := dk_21 4 (dk_at dksX2_read_6 1 rfl rfl)
theorem dX2_read_141 : decode cX2_read 141 = .ok (.bipush (-9), 2) := dk_16 247 (dk_at dksX2_read_6 3 rfl rfl)
theorem dX2_read_143 : decode cX2_read 143 = .ok (.if_icmp .eq 12, 3) := dk_159 0 12 (dk_at dksX2_read_6 5 rfl rfl)
theorem dX2_read_146 : decode cX2_read 146 = .ok (.aload_n 0, 1) := dk_42 (dk_at dksX2_read_6 8 rfl rfl)
theorem dX2_read_147 : decode cX2_read 147 = .ok (.getfield 159, 3) := dk_180 0 159 (dk_at dksX2_read_6 9 rfl rfl)
theorem dX2_read_150 : decode cX2_read 150 = .ok (.bipush (-9), 2) := dk_16 247 (dk_at dksX2_read_6 12 rfl rfl)
theorem dX2_read_152 : decode cX2_read 152 = .ok (.if_icmp .ne 8, 3) := dk_160 0 8 (dk_at dksX2_read_6 14 rfl rfl)
theorem dX2_read_155 : decode cX2_read 155 = .ok (.ldc 171, 2) := dk_18 171 (dk_at dksX2_read_6 17 rfl rfl)
theorem dX2_read_157 : decode cX2_read 157 = .ok (.goto 15, 3) := dk_167 0 15 (dk_at dksX2_read_6 19 rfl rfl)
theorem dX2_read_160 : decode cX2_read 160 = .ok (.iload 4, 2) := dk_21 4 (dk_at dksX2_read_6 22 rfl rfl)
theorem dX2_read_162 : decode cX2_read 162 = .ok (.aload_n 0, 1) := dk_42 (dk_at dksX2_read_7 0 rfl rfl)
theorem dX2_read_163 : decode cX2_read 163 = .ok (.getfield 159, 3) := dk_180 0 159 (dk_at dksX2_read_7 1 rfl rfl)
theorem dX2_read_166 : decode cX2_read 166 = .ok (.iload_n 1, 1) := dk_27 (dk_at dksX2_read_7 4 rfl rfl)
theorem dX2_read_167 : decode cX2_read 167 = .ok (.isub, 1) := dk_100 (dk_at dksX2_read_7 5 rfl rfl)
theorem dX2_read_168 : decode cX2_read 168 = .ok (.bipush 6, 2) := dk_16 6 (dk_at dksX2_read_7 6 rfl rfl)
theorem dX2_read_170 : decode cX2_read 170 = .ok (.idiv, 1) := dk_108 (dk_at dksX2_read_7 8 rfl rfl)
theorem dX2_read_171 : decode cX2_read 171 = .ok (.isub, 1) := dk_100 (dk_at dksX2_read_7 9 rfl rfl)
theorem dX2_read_172 : decode cX2_read 172 = .ok (.ireturn, 1) := dk_172 (dk_at dksX2_read_7 10 rfl rfl)
abbrev cX2_firstBreach : ByteArray := prog_12_method_32_code
def yX2_firstBreach : MethodName := ⟨RX2, "firstBreach", "()I"⟩
def dkwX2_firstBreach_1 : List UInt8 := [167, 255, 236, 27, 42, 180, 0, 139, 162, 0, 7, 27, 167, 0, 5, 16, 247, 172]
abbrev dktX2_firstBreach_1 : List UInt8 := dkwX2_firstBreach_1 ++ []
def dkwX2_firstBreach_0 : List UInt8 := [3, 60, 27, 42, 180, 0, 139, 162, 0, 18, 42, 180, 0, 41, 27, 46, 154, 0, 9, 132, 1, 1]
abbrev dktX2_firstBreach_0 : List UInt8 := dkwX2_firstBreach_0 ++ dktX2_firstBreach_1
theorem dksX2_firstBreach_0 : cX2_firstBreach.data.toList.drop 0 = dktX2_firstBreach_0 := by decide +kernel
theorem dksX2_firstBreach_1 : cX2_firstBreach.data.toList.drop 22 = dktX2_firstBreach_1 := dk_seg dksX2_firstBreach_0 22 rfl rfl
theorem dX2_firstBreach_0 : decode cX2_firstBreach 0 = .ok (.iconst 0, 1) := dk_3 (dk_at dksX2_firstBreach_0 0 rfl rfl)
theorem dX2_firstBreach_1 : decode cX2_firstBreach 1 = .ok (.istore_n 1, 1) := dk_60 (dk_at dksX2_firstBreach_0 1 rfl rfl)
theorem dX2_firstBreach_2 : decode cX2_firstBreach 2 = .ok (.iload_n 1, 1) := dk_27 (dk_at dksX2_firstBreach_0 2 rfl rfl)
theorem dX2_firstBreach_3 : decode cX2_firstBreach 3 = .ok (.aload_n 0, 1) := dk_42 (dk_at dksX2_firstBreach_0 3 rfl rfl)
theorem dX2_firstBreach_4 : decode cX2_firstBreach 4 = .ok (.getfield 139, 3) := dk_180 0 139 (dk_at dksX2_firstBreach_0 4 rfl rfl)
theorem dX2_firstBreach_7 : decode cX2_firstBreach 7 = .ok (.if_icmp .ge 18, 3) := dk_162 0 18 (dk_at dksX2_firstBreach_0 7 rfl rfl)
theorem dX2_firstBreach_10 : decode cX2_firstBreach 10 = .ok (.aload_n 0, 1) := dk_42 (dk_at dksX2_firstBreach_0 10 rfl rfl)
theorem dX2_firstBreach_11 : decode cX2_firstBreach 11 = .ok (.getfield 41, 3) := dk_180 0 41 (dk_at dksX2_firstBreach_0 11 rfl rfl)
theorem dX2_firstBreach_14 : decode cX2_firstBreach 14 = .ok (.iload_n 1, 1) := dk_27 (dk_at dksX2_firstBreach_0 14 rfl rfl)
theorem dX2_firstBreach_15 : decode cX2_firstBreach 15 = .ok (.iaload, 1) := dk_46 (dk_at dksX2_firstBreach_0 15 rfl rfl)
theorem dX2_firstBreach_16 : decode cX2_firstBreach 16 = .ok (.ifCond .ne 9, 3) := dk_154 0 9 (dk_at dksX2_firstBreach_0 16 rfl rfl)
theorem dX2_firstBreach_19 : decode cX2_firstBreach 19 = .ok (.iinc 1 1, 3) := dk_132 1 1 (dk_at dksX2_firstBreach_0 19 rfl rfl)
theorem dX2_firstBreach_22 : decode cX2_firstBreach 22 = .ok (.goto (-20), 3) := dk_167 255 236 (dk_at dksX2_firstBreach_1 0 rfl rfl)
theorem dX2_firstBreach_25 : decode cX2_firstBreach 25 = .ok (.iload_n 1, 1) := dk_27 (dk_at dksX2_firstBreach_1 3 rfl rfl)
theorem dX2_firstBreach_26 : decode cX2_firstBreach 26 = .ok (.aload_n 0, 1) := dk_42 (dk_at dksX2_firstBreach_1 4 rfl rfl)
theorem dX2_firstBreach_27 : decode cX2_firstBreach 27 = .ok (.getfield 139, 3) := dk_180 0 139 (dk_at dksX2_firstBreach_1 5 rfl rfl)
theorem dX2_firstBreach_30 : decode cX2_firstBreach 30 = .ok (.if_icmp .ge 7, 3) := dk_162 0 7 (dk_at dksX2_firstBreach_1 8 rfl rfl)
theorem dX2_firstBreach_33 : decode cX2_firstBreach 33 = .ok (.iload_n 1, 1) := dk_27 (dk_at dksX2_firstBreach_1 11 rfl rfl)
theorem dX2_firstBreach_34 : decode cX2_firstBreach 34 = .ok (.goto 5, 3) := dk_167 0 5 (dk_at dksX2_firstBreach_1 12 rfl rfl)
theorem dX2_firstBreach_37 : decode cX2_firstBreach 37 = .ok (.bipush (-9), 2) := dk_16 247 (dk_at dksX2_firstBreach_1 15 rfl rfl)
theorem dX2_firstBreach_39 : decode cX2_firstBreach 39 = .ok (.ireturn, 1) := dk_172 (dk_at dksX2_firstBreach_1 17 rfl rfl)
abbrev cX2_blames : ByteArray := prog_12_method_36_code
def yX2_blames : MethodName := ⟨RX2, "blames", "(II)V"⟩
def dkwX2_blames_4 : List UInt8 := [28, 16, 247, 182, 0, 152, 177]
abbrev dktX2_blames_4 : List UInt8 := dkwX2_blames_4 ++ []
def dkwX2_blames_3 : List UInt8 := [180, 0, 159, 181, 0, 159, 42, 89, 180, 0, 156, 4, 96, 181, 0, 156, 132, 4, 1, 167, 255, 195, 42, 27]
abbrev dktX2_blames_3 : List UInt8 := dkwX2_blames_3 ++ dktX2_blames_4
def dkwX2_blames_2 : List UInt8 := [182, 0, 162, 16, 247, 160, 0, 33, 42, 42, 180, 0, 156, 154, 0, 8, 21, 4, 167, 0, 7, 42]
abbrev dktX2_blames_2 : List UInt8 := dkwX2_blames_2 ++ dktX2_blames_3
def dkwX2_blames_1 : List UInt8 := [27, 54, 4, 21, 4, 27, 16, 6, 29, 104, 96, 162, 0, 56, 42, 27, 28, 21, 4, 182, 0, 152, 42]
abbrev dktX2_blames_1 : List UInt8 := dkwX2_blames_1 ++ dktX2_blames_2
def dkwX2_blames_0 : List UInt8 := [42, 3, 181, 0, 156, 42, 16, 247, 181, 0, 159, 42, 27, 28, 16, 247, 182, 0, 152, 42, 180, 0, 139, 62]
abbrev dktX2_blames_0 : List UInt8 := dkwX2_blames_0 ++ dktX2_blames_1
theorem dksX2_blames_0 : cX2_blames.data.toList.drop 0 = dktX2_blames_0 := by decide +kernel
theorem dksX2_blames_1 : cX2_blames.data.toList.drop 24 = dktX2_blames_1 := dk_seg dksX2_blames_0 24 rfl rfl
theorem dksX2_blames_2 : cX2_blames.data.toList.drop 47 = dktX2_blames_2 := dk_seg dksX2_blames_1 23 rfl rfl
theorem dksX2_blames_3 : cX2_blames.data.toList.drop 69 = dktX2_blames_3 := dk_seg dksX2_blames_2 22 rfl rfl
theorem dksX2_blames_4 : cX2_blames.data.toList.drop 93 = dktX2_blames_4 := dk_seg dksX2_blames_3 24 rfl rfl
theorem dX2_blames_0 : decode cX2_blames 0 = .ok (.aload_n 0, 1) := dk_42 (dk_at dksX2_blames_0 0 rfl rfl)
theorem dX2_blames_1 : decode cX2_blames 1 = .ok (.iconst 0, 1) := dk_3 (dk_at dksX2_blames_0 1 rfl rfl)
theorem dX2_blames_2 : decode cX2_blames 2 = .ok (.putfield 156, 3) := dk_181 0 156 (dk_at dksX2_blames_0 2 rfl rfl)
theorem dX2_blames_5 : decode cX2_blames 5 = .ok (.aload_n 0, 1) := dk_42 (dk_at dksX2_blames_0 5 rfl rfl)
theorem dX2_blames_6 : decode cX2_blames 6 = .ok (.bipush (-9), 2) := dk_16 247 (dk_at dksX2_blames_0 6 rfl rfl)
theorem dX2_blames_8 : decode cX2_blames 8 = .ok (.putfield 159, 3) := dk_181 0 159 (dk_at dksX2_blames_0 8 rfl rfl)
theorem dX2_blames_11 : decode cX2_blames 11 = .ok (.aload_n 0, 1) := dk_42 (dk_at dksX2_blames_0 11 rfl rfl)
theorem dX2_blames_12 : decode cX2_blames 12 = .ok (.iload_n 1, 1) := dk_27 (dk_at dksX2_blames_0 12 rfl rfl)
theorem dX2_blames_13 : decode cX2_blames 13 = .ok (.iload_n 2, 1) := dk_28 (dk_at dksX2_blames_0 13 rfl rfl)
theorem dX2_blames_14 : decode cX2_blames 14 = .ok (.bipush (-9), 2) := dk_16 247 (dk_at dksX2_blames_0 14 rfl rfl)
theorem dX2_blames_16 : decode cX2_blames 16 = .ok (.invokevirtual 152, 3) := dk_182 0 152 (dk_at dksX2_blames_0 16 rfl rfl)
theorem dX2_blames_19 : decode cX2_blames 19 = .ok (.aload_n 0, 1) := dk_42 (dk_at dksX2_blames_0 19 rfl rfl)
theorem dX2_blames_20 : decode cX2_blames 20 = .ok (.getfield 139, 3) := dk_180 0 139 (dk_at dksX2_blames_0 20 rfl rfl)
theorem dX2_blames_23 : decode cX2_blames 23 = .ok (.istore_n 3, 1) := dk_62 (dk_at dksX2_blames_0 23 rfl rfl)
theorem dX2_blames_24 : decode cX2_blames 24 = .ok (.iload_n 1, 1) := dk_27 (dk_at dksX2_blames_1 0 rfl rfl)
theorem dX2_blames_25 : decode cX2_blames 25 = .ok (.istore 4, 2) := dk_54 4 (dk_at dksX2_blames_1 1 rfl rfl)
theorem dX2_blames_27 : decode cX2_blames 27 = .ok (.iload 4, 2) := dk_21 4 (dk_at dksX2_blames_1 3 rfl rfl)
theorem dX2_blames_29 : decode cX2_blames 29 = .ok (.iload_n 1, 1) := dk_27 (dk_at dksX2_blames_1 5 rfl rfl)
theorem dX2_blames_30 : decode cX2_blames 30 = .ok (.bipush 6, 2) := dk_16 6 (dk_at dksX2_blames_1 6 rfl rfl)
theorem dX2_blames_32 : decode cX2_blames 32 = .ok (.iload_n 3, 1) := dk_29 (dk_at dksX2_blames_1 8 rfl rfl)
theorem dX2_blames_33 : decode cX2_blames 33 = .ok (.imul, 1) := dk_104 (dk_at dksX2_blames_1 9 rfl rfl)
theorem dX2_blames_34 : decode cX2_blames 34 = .ok (.iadd, 1) := dk_96 (dk_at dksX2_blames_1 10 rfl rfl)
theorem dX2_blames_35 : decode cX2_blames 35 = .ok (.if_icmp .ge 56, 3) := dk_162 0 56 (dk_at dksX2_blames_1 11 rfl rfl)
theorem dX2_blames_38 : decode cX2_blames 38 = .ok (.aload_n 0, 1) := dk_42 (dk_at dksX2_blames_1 14 rfl rfl)
theorem dX2_blames_39 : decode cX2_blames 39 = .ok (.iload_n 1, 1) := dk_27 (dk_at dksX2_blames_1 15 rfl rfl)
theorem dX2_blames_40 : decode cX2_blames 40 = .ok (.iload_n 2, 1) := dk_28 (dk_at dksX2_blames_1 16 rfl rfl)
theorem dX2_blames_41 : decode cX2_blames 41 = .ok (.iload 4, 2) := dk_21 4 (dk_at dksX2_blames_1 17 rfl rfl)
theorem dX2_blames_43 : decode cX2_blames 43 = .ok (.invokevirtual 152, 3) := dk_182 0 152 (dk_at dksX2_blames_1 19 rfl rfl)
theorem dX2_blames_46 : decode cX2_blames 46 = .ok (.aload_n 0, 1) := dk_42 (dk_at dksX2_blames_1 22 rfl rfl)
theorem dX2_blames_47 : decode cX2_blames 47 = .ok (.invokevirtual 162, 3) := dk_182 0 162 (dk_at dksX2_blames_2 0 rfl rfl)
theorem dX2_blames_50 : decode cX2_blames 50 = .ok (.bipush (-9), 2) := dk_16 247 (dk_at dksX2_blames_2 3 rfl rfl)
theorem dX2_blames_52 : decode cX2_blames 52 = .ok (.if_icmp .ne 33, 3) := dk_160 0 33 (dk_at dksX2_blames_2 5 rfl rfl)
theorem dX2_blames_55 : decode cX2_blames 55 = .ok (.aload_n 0, 1) := dk_42 (dk_at dksX2_blames_2 8 rfl rfl)
theorem dX2_blames_56 : decode cX2_blames 56 = .ok (.aload_n 0, 1) := dk_42 (dk_at dksX2_blames_2 9 rfl rfl)
theorem dX2_blames_57 : decode cX2_blames 57 = .ok (.getfield 156, 3) := dk_180 0 156 (dk_at dksX2_blames_2 10 rfl rfl)
theorem dX2_blames_60 : decode cX2_blames 60 = .ok (.ifCond .ne 8, 3) := dk_154 0 8 (dk_at dksX2_blames_2 13 rfl rfl)
theorem dX2_blames_63 : decode cX2_blames 63 = .ok (.iload 4, 2) := dk_21 4 (dk_at dksX2_blames_2 16 rfl rfl)
theorem dX2_blames_65 : decode cX2_blames 65 = .ok (.goto 7, 3) := dk_167 0 7 (dk_at dksX2_blames_2 18 rfl rfl)
theorem dX2_blames_68 : decode cX2_blames 68 = .ok (.aload_n 0, 1) := dk_42 (dk_at dksX2_blames_2 21 rfl rfl)
theorem dX2_blames_69 : decode cX2_blames 69 = .ok (.getfield 159, 3) := dk_180 0 159 (dk_at dksX2_blames_3 0 rfl rfl)
theorem dX2_blames_72 : decode cX2_blames 72 = .ok (.putfield 159, 3) := dk_181 0 159 (dk_at dksX2_blames_3 3 rfl rfl)
theorem dX2_blames_75 : decode cX2_blames 75 = .ok (.aload_n 0, 1) := dk_42 (dk_at dksX2_blames_3 6 rfl rfl)
theorem dX2_blames_76 : decode cX2_blames 76 = .ok (.dup, 1) := dk_89 (dk_at dksX2_blames_3 7 rfl rfl)
theorem dX2_blames_77 : decode cX2_blames 77 = .ok (.getfield 156, 3) := dk_180 0 156 (dk_at dksX2_blames_3 8 rfl rfl)
theorem dX2_blames_80 : decode cX2_blames 80 = .ok (.iconst 1, 1) := dk_4 (dk_at dksX2_blames_3 11 rfl rfl)
theorem dX2_blames_81 : decode cX2_blames 81 = .ok (.iadd, 1) := dk_96 (dk_at dksX2_blames_3 12 rfl rfl)
theorem dX2_blames_82 : decode cX2_blames 82 = .ok (.putfield 156, 3) := dk_181 0 156 (dk_at dksX2_blames_3 13 rfl rfl)
theorem dX2_blames_85 : decode cX2_blames 85 = .ok (.iinc 4 1, 3) := dk_132 4 1 (dk_at dksX2_blames_3 16 rfl rfl)
theorem dX2_blames_88 : decode cX2_blames 88 = .ok (.goto (-61), 3) := dk_167 255 195 (dk_at dksX2_blames_3 19 rfl rfl)
theorem dX2_blames_91 : decode cX2_blames 91 = .ok (.aload_n 0, 1) := dk_42 (dk_at dksX2_blames_3 22 rfl rfl)
theorem dX2_blames_92 : decode cX2_blames 92 = .ok (.iload_n 1, 1) := dk_27 (dk_at dksX2_blames_3 23 rfl rfl)
theorem dX2_blames_93 : decode cX2_blames 93 = .ok (.iload_n 2, 1) := dk_28 (dk_at dksX2_blames_4 0 rfl rfl)
theorem dX2_blames_94 : decode cX2_blames 94 = .ok (.bipush (-9), 2) := dk_16 247 (dk_at dksX2_blames_4 1 rfl rfl)
theorem dX2_blames_96 : decode cX2_blames 96 = .ok (.invokevirtual 152, 3) := dk_182 0 152 (dk_at dksX2_blames_4 3 rfl rfl)
theorem dX2_blames_99 : decode cX2_blames 99 = .ok (.return_, 1) := dk_177 (dk_at dksX2_blames_4 6 rfl rfl)
abbrev cX2_cuts : ByteArray := prog_12_method_38_code
def yX2_cuts : MethodName := ⟨RX2, "cuts", "(I)I"⟩
def dkwX2_cuts_3 : List UInt8 := [132, 2, 1, 132, 4, 1, 167, 255, 198, 27, 2, 160, 0, 7, 28, 167, 0, 4, 29, 172]
abbrev dktX2_cuts_3 : List UInt8 := dkwX2_cuts_3 ++ []
def dkwX2_cuts_2 : List UInt8 := [158, 0, 27, 42, 182, 0, 162, 16, 247, 160, 0, 18, 28, 27, 160, 0, 8, 21, 4, 167, 0, 4, 29, 62]
abbrev dktX2_cuts_2 : List UInt8 := dkwX2_cuts_2 ++ dktX2_cuts_3
def dkwX2_cuts_1 : List UInt8 := [162, 0, 57, 42, 21, 4, 5, 108, 21, 4, 5, 112, 184, 0, 149, 16, 247, 182, 0, 152, 42, 180, 0, 139]
abbrev dktX2_cuts_1 : List UInt8 := dkwX2_cuts_1 ++ dktX2_cuts_2
def dkwX2_cuts_0 : List UInt8 := [42, 3, 181, 0, 59, 27, 2, 162, 0, 5, 2, 172, 3, 61, 16, 247, 62, 3, 54, 4, 21, 4, 16, 12]
abbrev dktX2_cuts_0 : List UInt8 := dkwX2_cuts_0 ++ dktX2_cuts_1
theorem dksX2_cuts_0 : cX2_cuts.data.toList.drop 0 = dktX2_cuts_0 := by decide +kernel
theorem dksX2_cuts_1 : cX2_cuts.data.toList.drop 24 = dktX2_cuts_1 := dk_seg dksX2_cuts_0 24 rfl rfl
theorem dksX2_cuts_2 : cX2_cuts.data.toList.drop 48 = dktX2_cuts_2 := dk_seg dksX2_cuts_1 24 rfl rfl
theorem dksX2_cuts_3 : cX2_cuts.data.toList.drop 72 = dktX2_cuts_3 := dk_seg dksX2_cuts_2 24 rfl rfl
theorem dX2_cuts_0 : decode cX2_cuts 0 = .ok (.aload_n 0, 1) := dk_42 (dk_at dksX2_cuts_0 0 rfl rfl)
theorem dX2_cuts_1 : decode cX2_cuts 1 = .ok (.iconst 0, 1) := dk_3 (dk_at dksX2_cuts_0 1 rfl rfl)
theorem dX2_cuts_2 : decode cX2_cuts 2 = .ok (.putfield 59, 3) := dk_181 0 59 (dk_at dksX2_cuts_0 2 rfl rfl)
theorem dX2_cuts_5 : decode cX2_cuts 5 = .ok (.iload_n 1, 1) := dk_27 (dk_at dksX2_cuts_0 5 rfl rfl)
theorem dX2_cuts_6 : decode cX2_cuts 6 = .ok (.iconst (-1), 1) := dk_2 (dk_at dksX2_cuts_0 6 rfl rfl)
theorem dX2_cuts_7 : decode cX2_cuts 7 = .ok (.if_icmp .ge 5, 3) := dk_162 0 5 (dk_at dksX2_cuts_0 7 rfl rfl)
theorem dX2_cuts_10 : decode cX2_cuts 10 = .ok (.iconst (-1), 1) := dk_2 (dk_at dksX2_cuts_0 10 rfl rfl)
theorem dX2_cuts_11 : decode cX2_cuts 11 = .ok (.ireturn, 1) := dk_172 (dk_at dksX2_cuts_0 11 rfl rfl)
theorem dX2_cuts_12 : decode cX2_cuts 12 = .ok (.iconst 0, 1) := dk_3 (dk_at dksX2_cuts_0 12 rfl rfl)
theorem dX2_cuts_13 : decode cX2_cuts 13 = .ok (.istore_n 2, 1) := dk_61 (dk_at dksX2_cuts_0 13 rfl rfl)
theorem dX2_cuts_14 : decode cX2_cuts 14 = .ok (.bipush (-9), 2) := dk_16 247 (dk_at dksX2_cuts_0 14 rfl rfl)
theorem dX2_cuts_16 : decode cX2_cuts 16 = .ok (.istore_n 3, 1) := dk_62 (dk_at dksX2_cuts_0 16 rfl rfl)
theorem dX2_cuts_17 : decode cX2_cuts 17 = .ok (.iconst 0, 1) := dk_3 (dk_at dksX2_cuts_0 17 rfl rfl)
theorem dX2_cuts_18 : decode cX2_cuts 18 = .ok (.istore 4, 2) := dk_54 4 (dk_at dksX2_cuts_0 18 rfl rfl)
theorem dX2_cuts_20 : decode cX2_cuts 20 = .ok (.iload 4, 2) := dk_21 4 (dk_at dksX2_cuts_0 20 rfl rfl)
theorem dX2_cuts_22 : decode cX2_cuts 22 = .ok (.bipush 12, 2) := dk_16 12 (dk_at dksX2_cuts_0 22 rfl rfl)
theorem dX2_cuts_24 : decode cX2_cuts 24 = .ok (.if_icmp .ge 57, 3) := dk_162 0 57 (dk_at dksX2_cuts_1 0 rfl rfl)
theorem dX2_cuts_27 : decode cX2_cuts 27 = .ok (.aload_n 0, 1) := dk_42 (dk_at dksX2_cuts_1 3 rfl rfl)
theorem dX2_cuts_28 : decode cX2_cuts 28 = .ok (.iload 4, 2) := dk_21 4 (dk_at dksX2_cuts_1 4 rfl rfl)
theorem dX2_cuts_30 : decode cX2_cuts 30 = .ok (.iconst 2, 1) := dk_5 (dk_at dksX2_cuts_1 6 rfl rfl)
theorem dX2_cuts_31 : decode cX2_cuts 31 = .ok (.idiv, 1) := dk_108 (dk_at dksX2_cuts_1 7 rfl rfl)
theorem dX2_cuts_32 : decode cX2_cuts 32 = .ok (.iload 4, 2) := dk_21 4 (dk_at dksX2_cuts_1 8 rfl rfl)
theorem dX2_cuts_34 : decode cX2_cuts 34 = .ok (.iconst 2, 1) := dk_5 (dk_at dksX2_cuts_1 10 rfl rfl)
theorem dX2_cuts_35 : decode cX2_cuts 35 = .ok (.irem, 1) := dk_112 (dk_at dksX2_cuts_1 11 rfl rfl)
theorem dX2_cuts_36 : decode cX2_cuts 36 = .ok (.invokestatic 149, 3) := dk_184 0 149 (dk_at dksX2_cuts_1 12 rfl rfl)
theorem dX2_cuts_39 : decode cX2_cuts 39 = .ok (.bipush (-9), 2) := dk_16 247 (dk_at dksX2_cuts_1 15 rfl rfl)
theorem dX2_cuts_41 : decode cX2_cuts 41 = .ok (.invokevirtual 152, 3) := dk_182 0 152 (dk_at dksX2_cuts_1 17 rfl rfl)
theorem dX2_cuts_44 : decode cX2_cuts 44 = .ok (.aload_n 0, 1) := dk_42 (dk_at dksX2_cuts_1 20 rfl rfl)
theorem dX2_cuts_45 : decode cX2_cuts 45 = .ok (.getfield 139, 3) := dk_180 0 139 (dk_at dksX2_cuts_1 21 rfl rfl)
theorem dX2_cuts_48 : decode cX2_cuts 48 = .ok (.ifCond .le 27, 3) := dk_158 0 27 (dk_at dksX2_cuts_2 0 rfl rfl)
theorem dX2_cuts_51 : decode cX2_cuts 51 = .ok (.aload_n 0, 1) := dk_42 (dk_at dksX2_cuts_2 3 rfl rfl)
theorem dX2_cuts_52 : decode cX2_cuts 52 = .ok (.invokevirtual 162, 3) := dk_182 0 162 (dk_at dksX2_cuts_2 4 rfl rfl)
theorem dX2_cuts_55 : decode cX2_cuts 55 = .ok (.bipush (-9), 2) := dk_16 247 (dk_at dksX2_cuts_2 7 rfl rfl)
theorem dX2_cuts_57 : decode cX2_cuts 57 = .ok (.if_icmp .ne 18, 3) := dk_160 0 18 (dk_at dksX2_cuts_2 9 rfl rfl)
theorem dX2_cuts_60 : decode cX2_cuts 60 = .ok (.iload_n 2, 1) := dk_28 (dk_at dksX2_cuts_2 12 rfl rfl)
theorem dX2_cuts_61 : decode cX2_cuts 61 = .ok (.iload_n 1, 1) := dk_27 (dk_at dksX2_cuts_2 13 rfl rfl)
theorem dX2_cuts_62 : decode cX2_cuts 62 = .ok (.if_icmp .ne 8, 3) := dk_160 0 8 (dk_at dksX2_cuts_2 14 rfl rfl)
theorem dX2_cuts_65 : decode cX2_cuts 65 = .ok (.iload 4, 2) := dk_21 4 (dk_at dksX2_cuts_2 17 rfl rfl)
theorem dX2_cuts_67 : decode cX2_cuts 67 = .ok (.goto 4, 3) := dk_167 0 4 (dk_at dksX2_cuts_2 19 rfl rfl)
theorem dX2_cuts_70 : decode cX2_cuts 70 = .ok (.iload_n 3, 1) := dk_29 (dk_at dksX2_cuts_2 22 rfl rfl)
theorem dX2_cuts_71 : decode cX2_cuts 71 = .ok (.istore_n 3, 1) := dk_62 (dk_at dksX2_cuts_2 23 rfl rfl)
theorem dX2_cuts_72 : decode cX2_cuts 72 = .ok (.iinc 2 1, 3) := dk_132 2 1 (dk_at dksX2_cuts_3 0 rfl rfl)
theorem dX2_cuts_75 : decode cX2_cuts 75 = .ok (.iinc 4 1, 3) := dk_132 4 1 (dk_at dksX2_cuts_3 3 rfl rfl)
theorem dX2_cuts_78 : decode cX2_cuts 78 = .ok (.goto (-58), 3) := dk_167 255 198 (dk_at dksX2_cuts_3 6 rfl rfl)
theorem dX2_cuts_81 : decode cX2_cuts 81 = .ok (.iload_n 1, 1) := dk_27 (dk_at dksX2_cuts_3 9 rfl rfl)
theorem dX2_cuts_82 : decode cX2_cuts 82 = .ok (.iconst (-1), 1) := dk_2 (dk_at dksX2_cuts_3 10 rfl rfl)
theorem dX2_cuts_83 : decode cX2_cuts 83 = .ok (.if_icmp .ne 7, 3) := dk_160 0 7 (dk_at dksX2_cuts_3 11 rfl rfl)
theorem dX2_cuts_86 : decode cX2_cuts 86 = .ok (.iload_n 2, 1) := dk_28 (dk_at dksX2_cuts_3 14 rfl rfl)
theorem dX2_cuts_87 : decode cX2_cuts 87 = .ok (.goto 4, 3) := dk_167 0 4 (dk_at dksX2_cuts_3 15 rfl rfl)
theorem dX2_cuts_90 : decode cX2_cuts 90 = .ok (.iload_n 3, 1) := dk_29 (dk_at dksX2_cuts_3 18 rfl rfl)
theorem dX2_cuts_91 : decode cX2_cuts 91 = .ok (.ireturn, 1) := dk_172 (dk_at dksX2_cuts_3 19 rfl rfl)
abbrev cX2_level : ByteArray := prog_12_method_41_code
def yX2_level : MethodName := ⟨RX2, "level", "(II)I"⟩
def dkwX2_level_7 : List UInt8 := [167, 0, 5, 21, 5, 172]
abbrev dktX2_level_7 : List UInt8 := dkwX2_level_7 ++ []
def dkwX2_level_6 : List UInt8 := [54, 5, 132, 6, 1, 167, 255, 158, 28, 154, 0, 7, 29, 167, 0, 15, 28, 4, 160, 0, 8, 21, 4]
abbrev dktX2_level_6 : List UInt8 := dkwX2_level_6 ++ dktX2_level_7
def dkwX2_level_5 : List UInt8 := [162, 0, 22, 21, 5, 18, 171, 159, 0, 10, 21, 7, 21, 5, 164, 0, 8, 21, 7, 167, 0, 5, 21, 5]
abbrev dktX2_level_5 : List UInt8 := dkwX2_level_5 ++ dktX2_level_6
def dkwX2_level_4 : List UInt8 := [159, 0, 10, 21, 7, 21, 4, 162, 0, 8, 21, 7, 167, 0, 5, 21, 4, 54, 4, 21, 7, 27]
abbrev dktX2_level_4 : List UInt8 := dkwX2_level_4 ++ dktX2_level_5
def dkwX2_level_3 : List UInt8 := [21, 7, 27, 160, 0, 7, 4, 167, 0, 4, 3, 96, 62, 21, 7, 27, 164, 0, 22, 21, 4, 18, 171]
abbrev dktX2_level_3 : List UInt8 := dkwX2_level_3 ++ dktX2_level_4
def dkwX2_level_2 : List UInt8 := [21, 6, 16, 6, 42, 180, 0, 7, 3, 46, 104, 162, 0, 90, 42, 180, 0, 47, 21, 6, 46, 54, 7, 29]
abbrev dktX2_level_2 : List UInt8 := dkwX2_level_2 ++ dktX2_level_3
def dkwX2_level_1 : List UInt8 := [154, 0, 6, 18, 166, 172, 42, 182, 0, 172, 3, 62, 18, 171, 54, 4, 18, 171, 54, 5, 3, 54, 6]
abbrev dktX2_level_1 : List UInt8 := dkwX2_level_1 ++ dktX2_level_2
def dkwX2_level_0 : List UInt8 := [42, 3, 181, 0, 59, 27, 17, 254, 212, 17, 1, 44, 184, 0, 85, 153, 0, 12, 28, 3, 5, 184, 0, 85]
abbrev dktX2_level_0 : List UInt8 := dkwX2_level_0 ++ dktX2_level_1
theorem dksX2_level_0 : cX2_level.data.toList.drop 0 = dktX2_level_0 := by decide +kernel
theorem dksX2_level_1 : cX2_level.data.toList.drop 24 = dktX2_level_1 := dk_seg dksX2_level_0 24 rfl rfl
theorem dksX2_level_2 : cX2_level.data.toList.drop 47 = dktX2_level_2 := dk_seg dksX2_level_1 23 rfl rfl
theorem dksX2_level_3 : cX2_level.data.toList.drop 71 = dktX2_level_3 := dk_seg dksX2_level_2 24 rfl rfl
theorem dksX2_level_4 : cX2_level.data.toList.drop 94 = dktX2_level_4 := dk_seg dksX2_level_3 23 rfl rfl
theorem dksX2_level_5 : cX2_level.data.toList.drop 116 = dktX2_level_5 := dk_seg dksX2_level_4 22 rfl rfl
theorem dksX2_level_6 : cX2_level.data.toList.drop 140 = dktX2_level_6 := dk_seg dksX2_level_5 24 rfl rfl
theorem dksX2_level_7 : cX2_level.data.toList.drop 163 = dktX2_level_7 := dk_seg dksX2_level_6 23 rfl rfl
theorem dX2_level_0 : decode cX2_level 0 = .ok (.aload_n 0, 1) := dk_42 (dk_at dksX2_level_0 0 rfl rfl)
theorem dX2_level_1 : decode cX2_level 1 = .ok (.iconst 0, 1) := dk_3 (dk_at dksX2_level_0 1 rfl rfl)
theorem dX2_level_2 : decode cX2_level 2 = .ok (.putfield 59, 3) := dk_181 0 59 (dk_at dksX2_level_0 2 rfl rfl)
theorem dX2_level_5 : decode cX2_level 5 = .ok (.iload_n 1, 1) := dk_27 (dk_at dksX2_level_0 5 rfl rfl)
theorem dX2_level_6 : decode cX2_level 6 = .ok (.sipush (-300), 3) := dk_17 254 212 (dk_at dksX2_level_0 6 rfl rfl)
theorem dX2_level_9 : decode cX2_level 9 = .ok (.sipush 300, 3) := dk_17 1 44 (dk_at dksX2_level_0 9 rfl rfl)
theorem dX2_level_12 : decode cX2_level 12 = .ok (.invokestatic 85, 3) := dk_184 0 85 (dk_at dksX2_level_0 12 rfl rfl)
theorem dX2_level_15 : decode cX2_level 15 = .ok (.ifCond .eq 12, 3) := dk_153 0 12 (dk_at dksX2_level_0 15 rfl rfl)
theorem dX2_level_18 : decode cX2_level 18 = .ok (.iload_n 2, 1) := dk_28 (dk_at dksX2_level_0 18 rfl rfl)
theorem dX2_level_19 : decode cX2_level 19 = .ok (.iconst 0, 1) := dk_3 (dk_at dksX2_level_0 19 rfl rfl)
theorem dX2_level_20 : decode cX2_level 20 = .ok (.iconst 2, 1) := dk_5 (dk_at dksX2_level_0 20 rfl rfl)
theorem dX2_level_21 : decode cX2_level 21 = .ok (.invokestatic 85, 3) := dk_184 0 85 (dk_at dksX2_level_0 21 rfl rfl)
theorem dX2_level_24 : decode cX2_level 24 = .ok (.ifCond .ne 6, 3) := dk_154 0 6 (dk_at dksX2_level_1 0 rfl rfl)
theorem dX2_level_27 : decode cX2_level 27 = .ok (.ldc 166, 2) := dk_18 166 (dk_at dksX2_level_1 3 rfl rfl)
theorem dX2_level_29 : decode cX2_level 29 = .ok (.ireturn, 1) := dk_172 (dk_at dksX2_level_1 5 rfl rfl)
theorem dX2_level_30 : decode cX2_level 30 = .ok (.aload_n 0, 1) := dk_42 (dk_at dksX2_level_1 6 rfl rfl)
theorem dX2_level_31 : decode cX2_level 31 = .ok (.invokevirtual 172, 3) := dk_182 0 172 (dk_at dksX2_level_1 7 rfl rfl)
theorem dX2_level_34 : decode cX2_level 34 = .ok (.iconst 0, 1) := dk_3 (dk_at dksX2_level_1 10 rfl rfl)
theorem dX2_level_35 : decode cX2_level 35 = .ok (.istore_n 3, 1) := dk_62 (dk_at dksX2_level_1 11 rfl rfl)
theorem dX2_level_36 : decode cX2_level 36 = .ok (.ldc 171, 2) := dk_18 171 (dk_at dksX2_level_1 12 rfl rfl)
theorem dX2_level_38 : decode cX2_level 38 = .ok (.istore 4, 2) := dk_54 4 (dk_at dksX2_level_1 14 rfl rfl)
theorem dX2_level_40 : decode cX2_level 40 = .ok (.ldc 171, 2) := dk_18 171 (dk_at dksX2_level_1 16 rfl rfl)
theorem dX2_level_42 : decode cX2_level 42 = .ok (.istore 5, 2) := dk_54 5 (dk_at dksX2_level_1 18 rfl rfl)
theorem dX2_level_44 : decode cX2_level 44 = .ok (.iconst 0, 1) := dk_3 (dk_at dksX2_level_1 20 rfl rfl)
theorem dX2_level_45 : decode cX2_level 45 = .ok (.istore 6, 2) := dk_54 6 (dk_at dksX2_level_1 21 rfl rfl)
theorem dX2_level_47 : decode cX2_level 47 = .ok (.iload 6, 2) := dk_21 6 (dk_at dksX2_level_2 0 rfl rfl)
theorem dX2_level_49 : decode cX2_level 49 = .ok (.bipush 6, 2) := dk_16 6 (dk_at dksX2_level_2 2 rfl rfl)
theorem dX2_level_51 : decode cX2_level 51 = .ok (.aload_n 0, 1) := dk_42 (dk_at dksX2_level_2 4 rfl rfl)
theorem dX2_level_52 : decode cX2_level 52 = .ok (.getfield 7, 3) := dk_180 0 7 (dk_at dksX2_level_2 5 rfl rfl)
theorem dX2_level_55 : decode cX2_level 55 = .ok (.iconst 0, 1) := dk_3 (dk_at dksX2_level_2 8 rfl rfl)
theorem dX2_level_56 : decode cX2_level 56 = .ok (.iaload, 1) := dk_46 (dk_at dksX2_level_2 9 rfl rfl)
theorem dX2_level_57 : decode cX2_level 57 = .ok (.imul, 1) := dk_104 (dk_at dksX2_level_2 10 rfl rfl)
theorem dX2_level_58 : decode cX2_level 58 = .ok (.if_icmp .ge 90, 3) := dk_162 0 90 (dk_at dksX2_level_2 11 rfl rfl)
theorem dX2_level_61 : decode cX2_level 61 = .ok (.aload_n 0, 1) := dk_42 (dk_at dksX2_level_2 14 rfl rfl)
theorem dX2_level_62 : decode cX2_level 62 = .ok (.getfield 47, 3) := dk_180 0 47 (dk_at dksX2_level_2 15 rfl rfl)
theorem dX2_level_65 : decode cX2_level 65 = .ok (.iload 6, 2) := dk_21 6 (dk_at dksX2_level_2 18 rfl rfl)
theorem dX2_level_67 : decode cX2_level 67 = .ok (.iaload, 1) := dk_46 (dk_at dksX2_level_2 20 rfl rfl)
theorem dX2_level_68 : decode cX2_level 68 = .ok (.istore 7, 2) := dk_54 7 (dk_at dksX2_level_2 21 rfl rfl)
theorem dX2_level_70 : decode cX2_level 70 = .ok (.iload_n 3, 1) := dk_29 (dk_at dksX2_level_2 23 rfl rfl)
theorem dX2_level_71 : decode cX2_level 71 = .ok (.iload 7, 2) := dk_21 7 (dk_at dksX2_level_3 0 rfl rfl)
theorem dX2_level_73 : decode cX2_level 73 = .ok (.iload_n 1, 1) := dk_27 (dk_at dksX2_level_3 2 rfl rfl)
theorem dX2_level_74 : decode cX2_level 74 = .ok (.if_icmp .ne 7, 3) := dk_160 0 7 (dk_at dksX2_level_3 3 rfl rfl)
theorem dX2_level_77 : decode cX2_level 77 = .ok (.iconst 1, 1) := dk_4 (dk_at dksX2_level_3 6 rfl rfl)
theorem dX2_level_78 : decode cX2_level 78 = .ok (.goto 4, 3) := dk_167 0 4 (dk_at dksX2_level_3 7 rfl rfl)
theorem dX2_level_81 : decode cX2_level 81 = .ok (.iconst 0, 1) := dk_3 (dk_at dksX2_level_3 10 rfl rfl)
theorem dX2_level_82 : decode cX2_level 82 = .ok (.iadd, 1) := dk_96 (dk_at dksX2_level_3 11 rfl rfl)
theorem dX2_level_83 : decode cX2_level 83 = .ok (.istore_n 3, 1) := dk_62 (dk_at dksX2_level_3 12 rfl rfl)
theorem dX2_level_84 : decode cX2_level 84 = .ok (.iload 7, 2) := dk_21 7 (dk_at dksX2_level_3 13 rfl rfl)
theorem dX2_level_86 : decode cX2_level 86 = .ok (.iload_n 1, 1) := dk_27 (dk_at dksX2_level_3 15 rfl rfl)
theorem dX2_level_87 : decode cX2_level 87 = .ok (.if_icmp .le 22, 3) := dk_164 0 22 (dk_at dksX2_level_3 16 rfl rfl)
theorem dX2_level_90 : decode cX2_level 90 = .ok (.iload 4, 2) := dk_21 4 (dk_at dksX2_level_3 19 rfl rfl)
theorem dX2_level_92 : decode cX2_level 92 = .ok (.ldc 171, 2) := dk_18 171 (dk_at dksX2_level_3 21 rfl rfl)
theorem dX2_level_94 : decode cX2_level 94 = .ok (.if_icmp .eq 10, 3) := dk_159 0 10 (dk_at dksX2_level_4 0 rfl rfl)
theorem dX2_level_97 : decode cX2_level 97 = .ok (.iload 7, 2) := dk_21 7 (dk_at dksX2_level_4 3 rfl rfl)
theorem dX2_level_99 : decode cX2_level 99 = .ok (.iload 4, 2) := dk_21 4 (dk_at dksX2_level_4 5 rfl rfl)
theorem dX2_level_101 : decode cX2_level 101 = .ok (.if_icmp .ge 8, 3) := dk_162 0 8 (dk_at dksX2_level_4 7 rfl rfl)
theorem dX2_level_104 : decode cX2_level 104 = .ok (.iload 7, 2) := dk_21 7 (dk_at dksX2_level_4 10 rfl rfl)
theorem dX2_level_106 : decode cX2_level 106 = .ok (.goto 5, 3) := dk_167 0 5 (dk_at dksX2_level_4 12 rfl rfl)
theorem dX2_level_109 : decode cX2_level 109 = .ok (.iload 4, 2) := dk_21 4 (dk_at dksX2_level_4 15 rfl rfl)
theorem dX2_level_111 : decode cX2_level 111 = .ok (.istore 4, 2) := dk_54 4 (dk_at dksX2_level_4 17 rfl rfl)
theorem dX2_level_113 : decode cX2_level 113 = .ok (.iload 7, 2) := dk_21 7 (dk_at dksX2_level_4 19 rfl rfl)
theorem dX2_level_115 : decode cX2_level 115 = .ok (.iload_n 1, 1) := dk_27 (dk_at dksX2_level_4 21 rfl rfl)
theorem dX2_level_116 : decode cX2_level 116 = .ok (.if_icmp .ge 22, 3) := dk_162 0 22 (dk_at dksX2_level_5 0 rfl rfl)
theorem dX2_level_119 : decode cX2_level 119 = .ok (.iload 5, 2) := dk_21 5 (dk_at dksX2_level_5 3 rfl rfl)
theorem dX2_level_121 : decode cX2_level 121 = .ok (.ldc 171, 2) := dk_18 171 (dk_at dksX2_level_5 5 rfl rfl)
theorem dX2_level_123 : decode cX2_level 123 = .ok (.if_icmp .eq 10, 3) := dk_159 0 10 (dk_at dksX2_level_5 7 rfl rfl)
theorem dX2_level_126 : decode cX2_level 126 = .ok (.iload 7, 2) := dk_21 7 (dk_at dksX2_level_5 10 rfl rfl)
theorem dX2_level_128 : decode cX2_level 128 = .ok (.iload 5, 2) := dk_21 5 (dk_at dksX2_level_5 12 rfl rfl)
theorem dX2_level_130 : decode cX2_level 130 = .ok (.if_icmp .le 8, 3) := dk_164 0 8 (dk_at dksX2_level_5 14 rfl rfl)
theorem dX2_level_133 : decode cX2_level 133 = .ok (.iload 7, 2) := dk_21 7 (dk_at dksX2_level_5 17 rfl rfl)
theorem dX2_level_135 : decode cX2_level 135 = .ok (.goto 5, 3) := dk_167 0 5 (dk_at dksX2_level_5 19 rfl rfl)
theorem dX2_level_138 : decode cX2_level 138 = .ok (.iload 5, 2) := dk_21 5 (dk_at dksX2_level_5 22 rfl rfl)
theorem dX2_level_140 : decode cX2_level 140 = .ok (.istore 5, 2) := dk_54 5 (dk_at dksX2_level_6 0 rfl rfl)
theorem dX2_level_142 : decode cX2_level 142 = .ok (.iinc 6 1, 3) := dk_132 6 1 (dk_at dksX2_level_6 2 rfl rfl)
theorem dX2_level_145 : decode cX2_level 145 = .ok (.goto (-98), 3) := dk_167 255 158 (dk_at dksX2_level_6 5 rfl rfl)
theorem dX2_level_148 : decode cX2_level 148 = .ok (.iload_n 2, 1) := dk_28 (dk_at dksX2_level_6 8 rfl rfl)
theorem dX2_level_149 : decode cX2_level 149 = .ok (.ifCond .ne 7, 3) := dk_154 0 7 (dk_at dksX2_level_6 9 rfl rfl)
theorem dX2_level_152 : decode cX2_level 152 = .ok (.iload_n 3, 1) := dk_29 (dk_at dksX2_level_6 12 rfl rfl)
theorem dX2_level_153 : decode cX2_level 153 = .ok (.goto 15, 3) := dk_167 0 15 (dk_at dksX2_level_6 13 rfl rfl)
theorem dX2_level_156 : decode cX2_level 156 = .ok (.iload_n 2, 1) := dk_28 (dk_at dksX2_level_6 16 rfl rfl)
theorem dX2_level_157 : decode cX2_level 157 = .ok (.iconst 1, 1) := dk_4 (dk_at dksX2_level_6 17 rfl rfl)
theorem dX2_level_158 : decode cX2_level 158 = .ok (.if_icmp .ne 8, 3) := dk_160 0 8 (dk_at dksX2_level_6 18 rfl rfl)
theorem dX2_level_161 : decode cX2_level 161 = .ok (.iload 4, 2) := dk_21 4 (dk_at dksX2_level_6 21 rfl rfl)
theorem dX2_level_163 : decode cX2_level 163 = .ok (.goto 5, 3) := dk_167 0 5 (dk_at dksX2_level_7 0 rfl rfl)
theorem dX2_level_166 : decode cX2_level 166 = .ok (.iload 5, 2) := dk_21 5 (dk_at dksX2_level_7 3 rfl rfl)
theorem dX2_level_168 : decode cX2_level 168 = .ok (.ireturn, 1) := dk_172 (dk_at dksX2_level_7 5 rfl rfl)
abbrev cX2_laysLevels : ByteArray := prog_12_method_39_code
def yX2_laysLevels : MethodName := ⟨RX2, "laysLevels", "()V"⟩
def dkwX2_laysLevels_2 : List UInt8 := [167, 255, 212, 177]
abbrev dktX2_laysLevels_2 : List UInt8 := dkwX2_laysLevels_2 ++ []
def dkwX2_laysLevels_1 : List UInt8 := [28, 96, 46, 4, 160, 0, 7, 4, 167, 0, 4, 2, 96, 60, 42, 180, 0, 47, 28, 27, 79, 132, 2, 1]
abbrev dktX2_laysLevels_1 : List UInt8 := dkwX2_laysLevels_1 ++ dktX2_laysLevels_2
def dkwX2_laysLevels_0 : List UInt8 := [2, 60, 3, 61, 28, 16, 6, 42, 180, 0, 7, 3, 46, 104, 162, 0, 37, 27, 42, 180, 0, 7, 16, 36]
abbrev dktX2_laysLevels_0 : List UInt8 := dkwX2_laysLevels_0 ++ dktX2_laysLevels_1
theorem dksX2_laysLevels_0 : cX2_laysLevels.data.toList.drop 0 = dktX2_laysLevels_0 := by decide +kernel
theorem dksX2_laysLevels_1 : cX2_laysLevels.data.toList.drop 24 = dktX2_laysLevels_1 := dk_seg dksX2_laysLevels_0 24 rfl rfl
theorem dksX2_laysLevels_2 : cX2_laysLevels.data.toList.drop 48 = dktX2_laysLevels_2 := dk_seg dksX2_laysLevels_1 24 rfl rfl
theorem dX2_laysLevels_0 : decode cX2_laysLevels 0 = .ok (.iconst (-1), 1) := dk_2 (dk_at dksX2_laysLevels_0 0 rfl rfl)
theorem dX2_laysLevels_1 : decode cX2_laysLevels 1 = .ok (.istore_n 1, 1) := dk_60 (dk_at dksX2_laysLevels_0 1 rfl rfl)
theorem dX2_laysLevels_2 : decode cX2_laysLevels 2 = .ok (.iconst 0, 1) := dk_3 (dk_at dksX2_laysLevels_0 2 rfl rfl)
theorem dX2_laysLevels_3 : decode cX2_laysLevels 3 = .ok (.istore_n 2, 1) := dk_61 (dk_at dksX2_laysLevels_0 3 rfl rfl)
theorem dX2_laysLevels_4 : decode cX2_laysLevels 4 = .ok (.iload_n 2, 1) := dk_28 (dk_at dksX2_laysLevels_0 4 rfl rfl)
theorem dX2_laysLevels_5 : decode cX2_laysLevels 5 = .ok (.bipush 6, 2) := dk_16 6 (dk_at dksX2_laysLevels_0 5 rfl rfl)
theorem dX2_laysLevels_7 : decode cX2_laysLevels 7 = .ok (.aload_n 0, 1) := dk_42 (dk_at dksX2_laysLevels_0 7 rfl rfl)
theorem dX2_laysLevels_8 : decode cX2_laysLevels 8 = .ok (.getfield 7, 3) := dk_180 0 7 (dk_at dksX2_laysLevels_0 8 rfl rfl)
theorem dX2_laysLevels_11 : decode cX2_laysLevels 11 = .ok (.iconst 0, 1) := dk_3 (dk_at dksX2_laysLevels_0 11 rfl rfl)
theorem dX2_laysLevels_12 : decode cX2_laysLevels 12 = .ok (.iaload, 1) := dk_46 (dk_at dksX2_laysLevels_0 12 rfl rfl)
theorem dX2_laysLevels_13 : decode cX2_laysLevels 13 = .ok (.imul, 1) := dk_104 (dk_at dksX2_laysLevels_0 13 rfl rfl)
theorem dX2_laysLevels_14 : decode cX2_laysLevels 14 = .ok (.if_icmp .ge 37, 3) := dk_162 0 37 (dk_at dksX2_laysLevels_0 14 rfl rfl)
theorem dX2_laysLevels_17 : decode cX2_laysLevels 17 = .ok (.iload_n 1, 1) := dk_27 (dk_at dksX2_laysLevels_0 17 rfl rfl)
theorem dX2_laysLevels_18 : decode cX2_laysLevels 18 = .ok (.aload_n 0, 1) := dk_42 (dk_at dksX2_laysLevels_0 18 rfl rfl)
theorem dX2_laysLevels_19 : decode cX2_laysLevels 19 = .ok (.getfield 7, 3) := dk_180 0 7 (dk_at dksX2_laysLevels_0 19 rfl rfl)
theorem dX2_laysLevels_22 : decode cX2_laysLevels 22 = .ok (.bipush 36, 2) := dk_16 36 (dk_at dksX2_laysLevels_0 22 rfl rfl)
theorem dX2_laysLevels_24 : decode cX2_laysLevels 24 = .ok (.iload_n 2, 1) := dk_28 (dk_at dksX2_laysLevels_1 0 rfl rfl)
theorem dX2_laysLevels_25 : decode cX2_laysLevels 25 = .ok (.iadd, 1) := dk_96 (dk_at dksX2_laysLevels_1 1 rfl rfl)
theorem dX2_laysLevels_26 : decode cX2_laysLevels 26 = .ok (.iaload, 1) := dk_46 (dk_at dksX2_laysLevels_1 2 rfl rfl)
theorem dX2_laysLevels_27 : decode cX2_laysLevels 27 = .ok (.iconst 1, 1) := dk_4 (dk_at dksX2_laysLevels_1 3 rfl rfl)
theorem dX2_laysLevels_28 : decode cX2_laysLevels 28 = .ok (.if_icmp .ne 7, 3) := dk_160 0 7 (dk_at dksX2_laysLevels_1 4 rfl rfl)
theorem dX2_laysLevels_31 : decode cX2_laysLevels 31 = .ok (.iconst 1, 1) := dk_4 (dk_at dksX2_laysLevels_1 7 rfl rfl)
theorem dX2_laysLevels_32 : decode cX2_laysLevels 32 = .ok (.goto 4, 3) := dk_167 0 4 (dk_at dksX2_laysLevels_1 8 rfl rfl)
theorem dX2_laysLevels_35 : decode cX2_laysLevels 35 = .ok (.iconst (-1), 1) := dk_2 (dk_at dksX2_laysLevels_1 11 rfl rfl)
theorem dX2_laysLevels_36 : decode cX2_laysLevels 36 = .ok (.iadd, 1) := dk_96 (dk_at dksX2_laysLevels_1 12 rfl rfl)
theorem dX2_laysLevels_37 : decode cX2_laysLevels 37 = .ok (.istore_n 1, 1) := dk_60 (dk_at dksX2_laysLevels_1 13 rfl rfl)
theorem dX2_laysLevels_38 : decode cX2_laysLevels 38 = .ok (.aload_n 0, 1) := dk_42 (dk_at dksX2_laysLevels_1 14 rfl rfl)
theorem dX2_laysLevels_39 : decode cX2_laysLevels 39 = .ok (.getfield 47, 3) := dk_180 0 47 (dk_at dksX2_laysLevels_1 15 rfl rfl)
theorem dX2_laysLevels_42 : decode cX2_laysLevels 42 = .ok (.iload_n 2, 1) := dk_28 (dk_at dksX2_laysLevels_1 18 rfl rfl)
theorem dX2_laysLevels_43 : decode cX2_laysLevels 43 = .ok (.iload_n 1, 1) := dk_27 (dk_at dksX2_laysLevels_1 19 rfl rfl)
theorem dX2_laysLevels_44 : decode cX2_laysLevels 44 = .ok (.iastore, 1) := dk_79 (dk_at dksX2_laysLevels_1 20 rfl rfl)
theorem dX2_laysLevels_45 : decode cX2_laysLevels 45 = .ok (.iinc 2 1, 3) := dk_132 2 1 (dk_at dksX2_laysLevels_1 21 rfl rfl)
theorem dX2_laysLevels_48 : decode cX2_laysLevels 48 = .ok (.goto (-44), 3) := dk_167 255 212 (dk_at dksX2_laysLevels_2 0 rfl rfl)
theorem dX2_laysLevels_51 : decode cX2_laysLevels 51 = .ok (.return_, 1) := dk_177 (dk_at dksX2_laysLevels_2 3 rfl rfl)
abbrev cX2_evenest : ByteArray := prog_12_method_46_code
def yX2_evenest : MethodName := ⟨RX2, "evenest", "(II)I"⟩
def dkwX2_evenest_2 : List UInt8 := [167, 0, 19, 28, 27, 162, 0, 12, 42, 180, 0, 53, 28, 46, 167, 0, 5, 16, 247, 172]
abbrev dktX2_evenest_2 : List UInt8 := dkwX2_evenest_2 ++ []
def dkwX2_evenest_1 : List UInt8 := [180, 0, 7, 3, 46, 27, 162, 0, 6, 16, 254, 172, 42, 27, 182, 0, 196, 62, 28, 2, 160, 0, 7, 29]
abbrev dktX2_evenest_1 : List UInt8 := dkwX2_evenest_1 ++ dktX2_evenest_2
def dkwX2_evenest_0 : List UInt8 := [42, 3, 181, 0, 59, 27, 4, 16, 6, 184, 0, 85, 153, 0, 8, 28, 2, 162, 0, 5, 2, 172, 42]
abbrev dktX2_evenest_0 : List UInt8 := dkwX2_evenest_0 ++ dktX2_evenest_1
theorem dksX2_evenest_0 : cX2_evenest.data.toList.drop 0 = dktX2_evenest_0 := by decide +kernel
theorem dksX2_evenest_1 : cX2_evenest.data.toList.drop 23 = dktX2_evenest_1 := dk_seg dksX2_evenest_0 23 rfl rfl
theorem dksX2_evenest_2 : cX2_evenest.data.toList.drop 47 = dktX2_evenest_2 := dk_seg dksX2_evenest_1 24 rfl rfl
theorem dX2_evenest_0 : decode cX2_evenest 0 = .ok (.aload_n 0, 1) := dk_42 (dk_at dksX2_evenest_0 0 rfl rfl)
theorem dX2_evenest_1 : decode cX2_evenest 1 = .ok (.iconst 0, 1) := dk_3 (dk_at dksX2_evenest_0 1 rfl rfl)
theorem dX2_evenest_2 : decode cX2_evenest 2 = .ok (.putfield 59, 3) := dk_181 0 59 (dk_at dksX2_evenest_0 2 rfl rfl)
theorem dX2_evenest_5 : decode cX2_evenest 5 = .ok (.iload_n 1, 1) := dk_27 (dk_at dksX2_evenest_0 5 rfl rfl)
theorem dX2_evenest_6 : decode cX2_evenest 6 = .ok (.iconst 1, 1) := dk_4 (dk_at dksX2_evenest_0 6 rfl rfl)
theorem dX2_evenest_7 : decode cX2_evenest 7 = .ok (.bipush 6, 2) := dk_16 6 (dk_at dksX2_evenest_0 7 rfl rfl)
theorem dX2_evenest_9 : decode cX2_evenest 9 = .ok (.invokestatic 85, 3) := dk_184 0 85 (dk_at dksX2_evenest_0 9 rfl rfl)
theorem dX2_evenest_12 : decode cX2_evenest 12 = .ok (.ifCond .eq 8, 3) := dk_153 0 8 (dk_at dksX2_evenest_0 12 rfl rfl)
theorem dX2_evenest_15 : decode cX2_evenest 15 = .ok (.iload_n 2, 1) := dk_28 (dk_at dksX2_evenest_0 15 rfl rfl)
theorem dX2_evenest_16 : decode cX2_evenest 16 = .ok (.iconst (-1), 1) := dk_2 (dk_at dksX2_evenest_0 16 rfl rfl)
theorem dX2_evenest_17 : decode cX2_evenest 17 = .ok (.if_icmp .ge 5, 3) := dk_162 0 5 (dk_at dksX2_evenest_0 17 rfl rfl)
theorem dX2_evenest_20 : decode cX2_evenest 20 = .ok (.iconst (-1), 1) := dk_2 (dk_at dksX2_evenest_0 20 rfl rfl)
theorem dX2_evenest_21 : decode cX2_evenest 21 = .ok (.ireturn, 1) := dk_172 (dk_at dksX2_evenest_0 21 rfl rfl)
theorem dX2_evenest_22 : decode cX2_evenest 22 = .ok (.aload_n 0, 1) := dk_42 (dk_at dksX2_evenest_0 22 rfl rfl)
theorem dX2_evenest_23 : decode cX2_evenest 23 = .ok (.getfield 7, 3) := dk_180 0 7 (dk_at dksX2_evenest_1 0 rfl rfl)
theorem dX2_evenest_26 : decode cX2_evenest 26 = .ok (.iconst 0, 1) := dk_3 (dk_at dksX2_evenest_1 3 rfl rfl)
theorem dX2_evenest_27 : decode cX2_evenest 27 = .ok (.iaload, 1) := dk_46 (dk_at dksX2_evenest_1 4 rfl rfl)
theorem dX2_evenest_28 : decode cX2_evenest 28 = .ok (.iload_n 1, 1) := dk_27 (dk_at dksX2_evenest_1 5 rfl rfl)
theorem dX2_evenest_29 : decode cX2_evenest 29 = .ok (.if_icmp .ge 6, 3) := dk_162 0 6 (dk_at dksX2_evenest_1 6 rfl rfl)
theorem dX2_evenest_32 : decode cX2_evenest 32 = .ok (.bipush (-2), 2) := dk_16 254 (dk_at dksX2_evenest_1 9 rfl rfl)
theorem dX2_evenest_34 : decode cX2_evenest 34 = .ok (.ireturn, 1) := dk_172 (dk_at dksX2_evenest_1 11 rfl rfl)
theorem dX2_evenest_35 : decode cX2_evenest 35 = .ok (.aload_n 0, 1) := dk_42 (dk_at dksX2_evenest_1 12 rfl rfl)
theorem dX2_evenest_36 : decode cX2_evenest 36 = .ok (.iload_n 1, 1) := dk_27 (dk_at dksX2_evenest_1 13 rfl rfl)
theorem dX2_evenest_37 : decode cX2_evenest 37 = .ok (.invokevirtual 196, 3) := dk_182 0 196 (dk_at dksX2_evenest_1 14 rfl rfl)
theorem dX2_evenest_40 : decode cX2_evenest 40 = .ok (.istore_n 3, 1) := dk_62 (dk_at dksX2_evenest_1 17 rfl rfl)
theorem dX2_evenest_41 : decode cX2_evenest 41 = .ok (.iload_n 2, 1) := dk_28 (dk_at dksX2_evenest_1 18 rfl rfl)
theorem dX2_evenest_42 : decode cX2_evenest 42 = .ok (.iconst (-1), 1) := dk_2 (dk_at dksX2_evenest_1 19 rfl rfl)
theorem dX2_evenest_43 : decode cX2_evenest 43 = .ok (.if_icmp .ne 7, 3) := dk_160 0 7 (dk_at dksX2_evenest_1 20 rfl rfl)
theorem dX2_evenest_46 : decode cX2_evenest 46 = .ok (.iload_n 3, 1) := dk_29 (dk_at dksX2_evenest_1 23 rfl rfl)
theorem dX2_evenest_47 : decode cX2_evenest 47 = .ok (.goto 19, 3) := dk_167 0 19 (dk_at dksX2_evenest_2 0 rfl rfl)
theorem dX2_evenest_50 : decode cX2_evenest 50 = .ok (.iload_n 2, 1) := dk_28 (dk_at dksX2_evenest_2 3 rfl rfl)
theorem dX2_evenest_51 : decode cX2_evenest 51 = .ok (.iload_n 1, 1) := dk_27 (dk_at dksX2_evenest_2 4 rfl rfl)
theorem dX2_evenest_52 : decode cX2_evenest 52 = .ok (.if_icmp .ge 12, 3) := dk_162 0 12 (dk_at dksX2_evenest_2 5 rfl rfl)
theorem dX2_evenest_55 : decode cX2_evenest 55 = .ok (.aload_n 0, 1) := dk_42 (dk_at dksX2_evenest_2 8 rfl rfl)
theorem dX2_evenest_56 : decode cX2_evenest 56 = .ok (.getfield 53, 3) := dk_180 0 53 (dk_at dksX2_evenest_2 9 rfl rfl)
theorem dX2_evenest_59 : decode cX2_evenest 59 = .ok (.iload_n 2, 1) := dk_28 (dk_at dksX2_evenest_2 12 rfl rfl)
theorem dX2_evenest_60 : decode cX2_evenest 60 = .ok (.iaload, 1) := dk_46 (dk_at dksX2_evenest_2 13 rfl rfl)
theorem dX2_evenest_61 : decode cX2_evenest 61 = .ok (.goto 5, 3) := dk_167 0 5 (dk_at dksX2_evenest_2 14 rfl rfl)
theorem dX2_evenest_64 : decode cX2_evenest 64 = .ok (.bipush (-9), 2) := dk_16 247 (dk_at dksX2_evenest_2 17 rfl rfl)
theorem dX2_evenest_66 : decode cX2_evenest 66 = .ok (.ireturn, 1) := dk_172 (dk_at dksX2_evenest_2 19 rfl rfl)
abbrev cX2_evenestOf : ByteArray := prog_12_method_45_code
def yX2_evenestOf : MethodName := ⟨RX2, "evenestOf", "(I)I"⟩
def dkwX2_evenestOf_9 : List UInt8 := [172]
abbrev dktX2_evenestOf_9 : List UInt8 := dkwX2_evenestOf_9 ++ []
def dkwX2_evenestOf_8 : List UInt8 := [21, 8, 162, 0, 10, 42, 180, 0, 184, 167, 0, 5, 21, 8, 54, 8, 132, 9, 1, 167, 255, 120, 21, 8]
abbrev dktX2_evenestOf_8 : List UInt8 := dkwX2_evenestOf_8 ++ dktX2_evenestOf_9
def dkwX2_evenestOf_7 : List UInt8 := [42, 180, 0, 53, 21, 10, 42, 180, 0, 50, 21, 10, 46, 79, 132, 10, 1, 167, 255, 224, 42, 180, 0, 184]
abbrev dktX2_evenestOf_7 : List UInt8 := dkwX2_evenestOf_7 ++ dktX2_evenestOf_8
def dkwX2_evenestOf_6 : List UInt8 := [132, 10, 1, 167, 255, 227, 3, 54, 10, 21, 10, 27, 162, 0, 32, 42, 180, 0, 184, 21, 8, 162, 0, 23]
abbrev dktX2_evenestOf_6 : List UInt8 := dkwX2_evenestOf_6 ++ dktX2_evenestOf_7
def dkwX2_evenestOf_5 : List UInt8 := [162, 0, 29, 42, 42, 180, 0, 7, 7, 28, 96, 42, 180, 0, 50, 21, 10, 46, 96, 46, 182, 0, 187]
abbrev dktX2_evenestOf_5 : List UInt8 := dkwX2_evenestOf_5 ++ dktX2_evenestOf_6
def dkwX2_evenestOf_4 : List UInt8 := [21, 4, 181, 0, 178, 42, 21, 5, 181, 0, 181, 42, 21, 6, 181, 0, 184, 3, 54, 10, 21, 10, 27]
abbrev dktX2_evenestOf_4 : List UInt8 := dkwX2_evenestOf_4 ++ dktX2_evenestOf_5
def dkwX2_evenestOf_3 : List UInt8 := [21, 9, 21, 7, 162, 0, 135, 42, 21, 9, 27, 182, 0, 193, 153, 0, 119, 42, 29, 181, 0, 175, 42]
abbrev dktX2_evenestOf_3 : List UInt8 := dkwX2_evenestOf_3 ++ dktX2_evenestOf_4
def dkwX2_evenestOf_2 : List UInt8 := [162, 0, 15, 21, 7, 27, 104, 54, 7, 132, 8, 1, 167, 255, 241, 17, 3, 232, 54, 8, 3, 54, 9]
abbrev dktX2_evenestOf_2 : List UInt8 := dkwX2_evenestOf_2 ++ dktX2_evenestOf_3
def dkwX2_evenestOf_1 : List UInt8 := [54, 4, 42, 180, 0, 181, 54, 5, 42, 180, 0, 184, 54, 6, 4, 54, 7, 3, 54, 8, 21, 8, 27]
abbrev dktX2_evenestOf_1 : List UInt8 := dkwX2_evenestOf_1 ++ dktX2_evenestOf_2
def dkwX2_evenestOf_0 : List UInt8 := [42, 180, 0, 7, 3, 46, 27, 100, 61, 42, 28, 182, 0, 190, 42, 180, 0, 175, 62, 42, 180, 0, 178]
abbrev dktX2_evenestOf_0 : List UInt8 := dkwX2_evenestOf_0 ++ dktX2_evenestOf_1
theorem dksX2_evenestOf_0 : cX2_evenestOf.data.toList.drop 0 = dktX2_evenestOf_0 := by decide +kernel
theorem dksX2_evenestOf_1 : cX2_evenestOf.data.toList.drop 23 = dktX2_evenestOf_1 := dk_seg dksX2_evenestOf_0 23 rfl rfl
theorem dksX2_evenestOf_2 : cX2_evenestOf.data.toList.drop 46 = dktX2_evenestOf_2 := dk_seg dksX2_evenestOf_1 23 rfl rfl
theorem dksX2_evenestOf_3 : cX2_evenestOf.data.toList.drop 69 = dktX2_evenestOf_3 := dk_seg dksX2_evenestOf_2 23 rfl rfl
theorem dksX2_evenestOf_4 : cX2_evenestOf.data.toList.drop 92 = dktX2_evenestOf_4 := dk_seg dksX2_evenestOf_3 23 rfl rfl
theorem dksX2_evenestOf_5 : cX2_evenestOf.data.toList.drop 115 = dktX2_evenestOf_5 := dk_seg dksX2_evenestOf_4 23 rfl rfl
theorem dksX2_evenestOf_6 : cX2_evenestOf.data.toList.drop 138 = dktX2_evenestOf_6 := dk_seg dksX2_evenestOf_5 23 rfl rfl
theorem dksX2_evenestOf_7 : cX2_evenestOf.data.toList.drop 162 = dktX2_evenestOf_7 := dk_seg dksX2_evenestOf_6 24 rfl rfl
theorem dksX2_evenestOf_8 : cX2_evenestOf.data.toList.drop 186 = dktX2_evenestOf_8 := dk_seg dksX2_evenestOf_7 24 rfl rfl
theorem dksX2_evenestOf_9 : cX2_evenestOf.data.toList.drop 210 = dktX2_evenestOf_9 := dk_seg dksX2_evenestOf_8 24 rfl rfl
theorem dX2_evenestOf_0 : decode cX2_evenestOf 0 = .ok (.aload_n 0, 1) := dk_42 (dk_at dksX2_evenestOf_0 0 rfl rfl)
theorem dX2_evenestOf_1 : decode cX2_evenestOf 1 = .ok (.getfield 7, 3) := dk_180 0 7 (dk_at dksX2_evenestOf_0 1 rfl rfl)
theorem dX2_evenestOf_4 : decode cX2_evenestOf 4 = .ok (.iconst 0, 1) := dk_3 (dk_at dksX2_evenestOf_0 4 rfl rfl)
theorem dX2_evenestOf_5 : decode cX2_evenestOf 5 = .ok (.iaload, 1) := dk_46 (dk_at dksX2_evenestOf_0 5 rfl rfl)
theorem dX2_evenestOf_6 : decode cX2_evenestOf 6 = .ok (.iload_n 1, 1) := dk_27 (dk_at dksX2_evenestOf_0 6 rfl rfl)
theorem dX2_evenestOf_7 : decode cX2_evenestOf 7 = .ok (.isub, 1) := dk_100 (dk_at dksX2_evenestOf_0 7 rfl rfl)
theorem dX2_evenestOf_8 : decode cX2_evenestOf 8 = .ok (.istore_n 2, 1) := dk_61 (dk_at dksX2_evenestOf_0 8 rfl rfl)
theorem dX2_evenestOf_9 : decode cX2_evenestOf 9 = .ok (.aload_n 0, 1) := dk_42 (dk_at dksX2_evenestOf_0 9 rfl rfl)
theorem dX2_evenestOf_10 : decode cX2_evenestOf 10 = .ok (.iload_n 2, 1) := dk_28 (dk_at dksX2_evenestOf_0 10 rfl rfl)
theorem dX2_evenestOf_11 : decode cX2_evenestOf 11 = .ok (.invokevirtual 190, 3) := dk_182 0 190 (dk_at dksX2_evenestOf_0 11 rfl rfl)
theorem dX2_evenestOf_14 : decode cX2_evenestOf 14 = .ok (.aload_n 0, 1) := dk_42 (dk_at dksX2_evenestOf_0 14 rfl rfl)
theorem dX2_evenestOf_15 : decode cX2_evenestOf 15 = .ok (.getfield 175, 3) := dk_180 0 175 (dk_at dksX2_evenestOf_0 15 rfl rfl)
theorem dX2_evenestOf_18 : decode cX2_evenestOf 18 = .ok (.istore_n 3, 1) := dk_62 (dk_at dksX2_evenestOf_0 18 rfl rfl)
theorem dX2_evenestOf_19 : decode cX2_evenestOf 19 = .ok (.aload_n 0, 1) := dk_42 (dk_at dksX2_evenestOf_0 19 rfl rfl)
theorem dX2_evenestOf_20 : decode cX2_evenestOf 20 = .ok (.getfield 178, 3) := dk_180 0 178 (dk_at dksX2_evenestOf_0 20 rfl rfl)
theorem dX2_evenestOf_23 : decode cX2_evenestOf 23 = .ok (.istore 4, 2) := dk_54 4 (dk_at dksX2_evenestOf_1 0 rfl rfl)
theorem dX2_evenestOf_25 : decode cX2_evenestOf 25 = .ok (.aload_n 0, 1) := dk_42 (dk_at dksX2_evenestOf_1 2 rfl rfl)
theorem dX2_evenestOf_26 : decode cX2_evenestOf 26 = .ok (.getfield 181, 3) := dk_180 0 181 (dk_at dksX2_evenestOf_1 3 rfl rfl)
theorem dX2_evenestOf_29 : decode cX2_evenestOf 29 = .ok (.istore 5, 2) := dk_54 5 (dk_at dksX2_evenestOf_1 6 rfl rfl)
theorem dX2_evenestOf_31 : decode cX2_evenestOf 31 = .ok (.aload_n 0, 1) := dk_42 (dk_at dksX2_evenestOf_1 8 rfl rfl)
theorem dX2_evenestOf_32 : decode cX2_evenestOf 32 = .ok (.getfield 184, 3) := dk_180 0 184 (dk_at dksX2_evenestOf_1 9 rfl rfl)
theorem dX2_evenestOf_35 : decode cX2_evenestOf 35 = .ok (.istore 6, 2) := dk_54 6 (dk_at dksX2_evenestOf_1 12 rfl rfl)
theorem dX2_evenestOf_37 : decode cX2_evenestOf 37 = .ok (.iconst 1, 1) := dk_4 (dk_at dksX2_evenestOf_1 14 rfl rfl)
theorem dX2_evenestOf_38 : decode cX2_evenestOf 38 = .ok (.istore 7, 2) := dk_54 7 (dk_at dksX2_evenestOf_1 15 rfl rfl)
theorem dX2_evenestOf_40 : decode cX2_evenestOf 40 = .ok (.iconst 0, 1) := dk_3 (dk_at dksX2_evenestOf_1 17 rfl rfl)
theorem dX2_evenestOf_41 : decode cX2_evenestOf 41 = .ok (.istore 8, 2) := dk_54 8 (dk_at dksX2_evenestOf_1 18 rfl rfl)
theorem dX2_evenestOf_43 : decode cX2_evenestOf 43 = .ok (.iload 8, 2) := dk_21 8 (dk_at dksX2_evenestOf_1 20 rfl rfl)
theorem dX2_evenestOf_45 : decode cX2_evenestOf 45 = .ok (.iload_n 1, 1) := dk_27 (dk_at dksX2_evenestOf_1 22 rfl rfl)
theorem dX2_evenestOf_46 : decode cX2_evenestOf 46 = .ok (.if_icmp .ge 15, 3) := dk_162 0 15 (dk_at dksX2_evenestOf_2 0 rfl rfl)
theorem dX2_evenestOf_49 : decode cX2_evenestOf 49 = .ok (.iload 7, 2) := dk_21 7 (dk_at dksX2_evenestOf_2 3 rfl rfl)
theorem dX2_evenestOf_51 : decode cX2_evenestOf 51 = .ok (.iload_n 1, 1) := dk_27 (dk_at dksX2_evenestOf_2 5 rfl rfl)
theorem dX2_evenestOf_52 : decode cX2_evenestOf 52 = .ok (.imul, 1) := dk_104 (dk_at dksX2_evenestOf_2 6 rfl rfl)
theorem dX2_evenestOf_53 : decode cX2_evenestOf 53 = .ok (.istore 7, 2) := dk_54 7 (dk_at dksX2_evenestOf_2 7 rfl rfl)
theorem dX2_evenestOf_55 : decode cX2_evenestOf 55 = .ok (.iinc 8 1, 3) := dk_132 8 1 (dk_at dksX2_evenestOf_2 9 rfl rfl)
theorem dX2_evenestOf_58 : decode cX2_evenestOf 58 = .ok (.goto (-15), 3) := dk_167 255 241 (dk_at dksX2_evenestOf_2 12 rfl rfl)
theorem dX2_evenestOf_61 : decode cX2_evenestOf 61 = .ok (.sipush 1000, 3) := dk_17 3 232 (dk_at dksX2_evenestOf_2 15 rfl rfl)
theorem dX2_evenestOf_64 : decode cX2_evenestOf 64 = .ok (.istore 8, 2) := dk_54 8 (dk_at dksX2_evenestOf_2 18 rfl rfl)
theorem dX2_evenestOf_66 : decode cX2_evenestOf 66 = .ok (.iconst 0, 1) := dk_3 (dk_at dksX2_evenestOf_2 20 rfl rfl)
theorem dX2_evenestOf_67 : decode cX2_evenestOf 67 = .ok (.istore 9, 2) := dk_54 9 (dk_at dksX2_evenestOf_2 21 rfl rfl)
theorem dX2_evenestOf_69 : decode cX2_evenestOf 69 = .ok (.iload 9, 2) := dk_21 9 (dk_at dksX2_evenestOf_3 0 rfl rfl)
theorem dX2_evenestOf_71 : decode cX2_evenestOf 71 = .ok (.iload 7, 2) := dk_21 7 (dk_at dksX2_evenestOf_3 2 rfl rfl)
theorem dX2_evenestOf_73 : decode cX2_evenestOf 73 = .ok (.if_icmp .ge 135, 3) := dk_162 0 135 (dk_at dksX2_evenestOf_3 4 rfl rfl)
theorem dX2_evenestOf_76 : decode cX2_evenestOf 76 = .ok (.aload_n 0, 1) := dk_42 (dk_at dksX2_evenestOf_3 7 rfl rfl)
theorem dX2_evenestOf_77 : decode cX2_evenestOf 77 = .ok (.iload 9, 2) := dk_21 9 (dk_at dksX2_evenestOf_3 8 rfl rfl)
theorem dX2_evenestOf_79 : decode cX2_evenestOf 79 = .ok (.iload_n 1, 1) := dk_27 (dk_at dksX2_evenestOf_3 10 rfl rfl)
theorem dX2_evenestOf_80 : decode cX2_evenestOf 80 = .ok (.invokevirtual 193, 3) := dk_182 0 193 (dk_at dksX2_evenestOf_3 11 rfl rfl)
theorem dX2_evenestOf_83 : decode cX2_evenestOf 83 = .ok (.ifCond .eq 119, 3) := dk_153 0 119 (dk_at dksX2_evenestOf_3 14 rfl rfl)
theorem dX2_evenestOf_86 : decode cX2_evenestOf 86 = .ok (.aload_n 0, 1) := dk_42 (dk_at dksX2_evenestOf_3 17 rfl rfl)
theorem dX2_evenestOf_87 : decode cX2_evenestOf 87 = .ok (.iload_n 3, 1) := dk_29 (dk_at dksX2_evenestOf_3 18 rfl rfl)
theorem dX2_evenestOf_88 : decode cX2_evenestOf 88 = .ok (.putfield 175, 3) := dk_181 0 175 (dk_at dksX2_evenestOf_3 19 rfl rfl)
theorem dX2_evenestOf_91 : decode cX2_evenestOf 91 = .ok (.aload_n 0, 1) := dk_42 (dk_at dksX2_evenestOf_3 22 rfl rfl)
theorem dX2_evenestOf_92 : decode cX2_evenestOf 92 = .ok (.iload 4, 2) := dk_21 4 (dk_at dksX2_evenestOf_4 0 rfl rfl)
theorem dX2_evenestOf_94 : decode cX2_evenestOf 94 = .ok (.putfield 178, 3) := dk_181 0 178 (dk_at dksX2_evenestOf_4 2 rfl rfl)
theorem dX2_evenestOf_97 : decode cX2_evenestOf 97 = .ok (.aload_n 0, 1) := dk_42 (dk_at dksX2_evenestOf_4 5 rfl rfl)
theorem dX2_evenestOf_98 : decode cX2_evenestOf 98 = .ok (.iload 5, 2) := dk_21 5 (dk_at dksX2_evenestOf_4 6 rfl rfl)
theorem dX2_evenestOf_100 : decode cX2_evenestOf 100 = .ok (.putfield 181, 3) := dk_181 0 181 (dk_at dksX2_evenestOf_4 8 rfl rfl)
theorem dX2_evenestOf_103 : decode cX2_evenestOf 103 = .ok (.aload_n 0, 1) := dk_42 (dk_at dksX2_evenestOf_4 11 rfl rfl)
theorem dX2_evenestOf_104 : decode cX2_evenestOf 104 = .ok (.iload 6, 2) := dk_21 6 (dk_at dksX2_evenestOf_4 12 rfl rfl)
theorem dX2_evenestOf_106 : decode cX2_evenestOf 106 = .ok (.putfield 184, 3) := dk_181 0 184 (dk_at dksX2_evenestOf_4 14 rfl rfl)
theorem dX2_evenestOf_109 : decode cX2_evenestOf 109 = .ok (.iconst 0, 1) := dk_3 (dk_at dksX2_evenestOf_4 17 rfl rfl)
theorem dX2_evenestOf_110 : decode cX2_evenestOf 110 = .ok (.istore 10, 2) := dk_54 10 (dk_at dksX2_evenestOf_4 18 rfl rfl)
theorem dX2_evenestOf_112 : decode cX2_evenestOf 112 = .ok (.iload 10, 2) := dk_21 10 (dk_at dksX2_evenestOf_4 20 rfl rfl)
theorem dX2_evenestOf_114 : decode cX2_evenestOf 114 = .ok (.iload_n 1, 1) := dk_27 (dk_at dksX2_evenestOf_4 22 rfl rfl)
theorem dX2_evenestOf_115 : decode cX2_evenestOf 115 = .ok (.if_icmp .ge 29, 3) := dk_162 0 29 (dk_at dksX2_evenestOf_5 0 rfl rfl)
theorem dX2_evenestOf_118 : decode cX2_evenestOf 118 = .ok (.aload_n 0, 1) := dk_42 (dk_at dksX2_evenestOf_5 3 rfl rfl)
theorem dX2_evenestOf_119 : decode cX2_evenestOf 119 = .ok (.aload_n 0, 1) := dk_42 (dk_at dksX2_evenestOf_5 4 rfl rfl)
theorem dX2_evenestOf_120 : decode cX2_evenestOf 120 = .ok (.getfield 7, 3) := dk_180 0 7 (dk_at dksX2_evenestOf_5 5 rfl rfl)
theorem dX2_evenestOf_123 : decode cX2_evenestOf 123 = .ok (.iconst 4, 1) := dk_7 (dk_at dksX2_evenestOf_5 8 rfl rfl)
theorem dX2_evenestOf_124 : decode cX2_evenestOf 124 = .ok (.iload_n 2, 1) := dk_28 (dk_at dksX2_evenestOf_5 9 rfl rfl)
theorem dX2_evenestOf_125 : decode cX2_evenestOf 125 = .ok (.iadd, 1) := dk_96 (dk_at dksX2_evenestOf_5 10 rfl rfl)
theorem dX2_evenestOf_126 : decode cX2_evenestOf 126 = .ok (.aload_n 0, 1) := dk_42 (dk_at dksX2_evenestOf_5 11 rfl rfl)
theorem dX2_evenestOf_127 : decode cX2_evenestOf 127 = .ok (.getfield 50, 3) := dk_180 0 50 (dk_at dksX2_evenestOf_5 12 rfl rfl)
theorem dX2_evenestOf_130 : decode cX2_evenestOf 130 = .ok (.iload 10, 2) := dk_21 10 (dk_at dksX2_evenestOf_5 15 rfl rfl)
theorem dX2_evenestOf_132 : decode cX2_evenestOf 132 = .ok (.iaload, 1) := dk_46 (dk_at dksX2_evenestOf_5 17 rfl rfl)
theorem dX2_evenestOf_133 : decode cX2_evenestOf 133 = .ok (.iadd, 1) := dk_96 (dk_at dksX2_evenestOf_5 18 rfl rfl)
theorem dX2_evenestOf_134 : decode cX2_evenestOf 134 = .ok (.iaload, 1) := dk_46 (dk_at dksX2_evenestOf_5 19 rfl rfl)
theorem dX2_evenestOf_135 : decode cX2_evenestOf 135 = .ok (.invokevirtual 187, 3) := dk_182 0 187 (dk_at dksX2_evenestOf_5 20 rfl rfl)
theorem dX2_evenestOf_138 : decode cX2_evenestOf 138 = .ok (.iinc 10 1, 3) := dk_132 10 1 (dk_at dksX2_evenestOf_6 0 rfl rfl)
theorem dX2_evenestOf_141 : decode cX2_evenestOf 141 = .ok (.goto (-29), 3) := dk_167 255 227 (dk_at dksX2_evenestOf_6 3 rfl rfl)
theorem dX2_evenestOf_144 : decode cX2_evenestOf 144 = .ok (.iconst 0, 1) := dk_3 (dk_at dksX2_evenestOf_6 6 rfl rfl)
theorem dX2_evenestOf_145 : decode cX2_evenestOf 145 = .ok (.istore 10, 2) := dk_54 10 (dk_at dksX2_evenestOf_6 7 rfl rfl)
theorem dX2_evenestOf_147 : decode cX2_evenestOf 147 = .ok (.iload 10, 2) := dk_21 10 (dk_at dksX2_evenestOf_6 9 rfl rfl)
theorem dX2_evenestOf_149 : decode cX2_evenestOf 149 = .ok (.iload_n 1, 1) := dk_27 (dk_at dksX2_evenestOf_6 11 rfl rfl)
theorem dX2_evenestOf_150 : decode cX2_evenestOf 150 = .ok (.if_icmp .ge 32, 3) := dk_162 0 32 (dk_at dksX2_evenestOf_6 12 rfl rfl)
theorem dX2_evenestOf_153 : decode cX2_evenestOf 153 = .ok (.aload_n 0, 1) := dk_42 (dk_at dksX2_evenestOf_6 15 rfl rfl)
theorem dX2_evenestOf_154 : decode cX2_evenestOf 154 = .ok (.getfield 184, 3) := dk_180 0 184 (dk_at dksX2_evenestOf_6 16 rfl rfl)
theorem dX2_evenestOf_157 : decode cX2_evenestOf 157 = .ok (.iload 8, 2) := dk_21 8 (dk_at dksX2_evenestOf_6 19 rfl rfl)
theorem dX2_evenestOf_159 : decode cX2_evenestOf 159 = .ok (.if_icmp .ge 23, 3) := dk_162 0 23 (dk_at dksX2_evenestOf_6 21 rfl rfl)
theorem dX2_evenestOf_162 : decode cX2_evenestOf 162 = .ok (.aload_n 0, 1) := dk_42 (dk_at dksX2_evenestOf_7 0 rfl rfl)
theorem dX2_evenestOf_163 : decode cX2_evenestOf 163 = .ok (.getfield 53, 3) := dk_180 0 53 (dk_at dksX2_evenestOf_7 1 rfl rfl)
theorem dX2_evenestOf_166 : decode cX2_evenestOf 166 = .ok (.iload 10, 2) := dk_21 10 (dk_at dksX2_evenestOf_7 4 rfl rfl)
theorem dX2_evenestOf_168 : decode cX2_evenestOf 168 = .ok (.aload_n 0, 1) := dk_42 (dk_at dksX2_evenestOf_7 6 rfl rfl)
theorem dX2_evenestOf_169 : decode cX2_evenestOf 169 = .ok (.getfield 50, 3) := dk_180 0 50 (dk_at dksX2_evenestOf_7 7 rfl rfl)
theorem dX2_evenestOf_172 : decode cX2_evenestOf 172 = .ok (.iload 10, 2) := dk_21 10 (dk_at dksX2_evenestOf_7 10 rfl rfl)
theorem dX2_evenestOf_174 : decode cX2_evenestOf 174 = .ok (.iaload, 1) := dk_46 (dk_at dksX2_evenestOf_7 12 rfl rfl)
theorem dX2_evenestOf_175 : decode cX2_evenestOf 175 = .ok (.iastore, 1) := dk_79 (dk_at dksX2_evenestOf_7 13 rfl rfl)
theorem dX2_evenestOf_176 : decode cX2_evenestOf 176 = .ok (.iinc 10 1, 3) := dk_132 10 1 (dk_at dksX2_evenestOf_7 14 rfl rfl)
theorem dX2_evenestOf_179 : decode cX2_evenestOf 179 = .ok (.goto (-32), 3) := dk_167 255 224 (dk_at dksX2_evenestOf_7 17 rfl rfl)
theorem dX2_evenestOf_182 : decode cX2_evenestOf 182 = .ok (.aload_n 0, 1) := dk_42 (dk_at dksX2_evenestOf_7 20 rfl rfl)
theorem dX2_evenestOf_183 : decode cX2_evenestOf 183 = .ok (.getfield 184, 3) := dk_180 0 184 (dk_at dksX2_evenestOf_7 21 rfl rfl)
theorem dX2_evenestOf_186 : decode cX2_evenestOf 186 = .ok (.iload 8, 2) := dk_21 8 (dk_at dksX2_evenestOf_8 0 rfl rfl)
theorem dX2_evenestOf_188 : decode cX2_evenestOf 188 = .ok (.if_icmp .ge 10, 3) := dk_162 0 10 (dk_at dksX2_evenestOf_8 2 rfl rfl)
theorem dX2_evenestOf_191 : decode cX2_evenestOf 191 = .ok (.aload_n 0, 1) := dk_42 (dk_at dksX2_evenestOf_8 5 rfl rfl)
theorem dX2_evenestOf_192 : decode cX2_evenestOf 192 = .ok (.getfield 184, 3) := dk_180 0 184 (dk_at dksX2_evenestOf_8 6 rfl rfl)
theorem dX2_evenestOf_195 : decode cX2_evenestOf 195 = .ok (.goto 5, 3) := dk_167 0 5 (dk_at dksX2_evenestOf_8 9 rfl rfl)
theorem dX2_evenestOf_198 : decode cX2_evenestOf 198 = .ok (.iload 8, 2) := dk_21 8 (dk_at dksX2_evenestOf_8 12 rfl rfl)
theorem dX2_evenestOf_200 : decode cX2_evenestOf 200 = .ok (.istore 8, 2) := dk_54 8 (dk_at dksX2_evenestOf_8 14 rfl rfl)
theorem dX2_evenestOf_202 : decode cX2_evenestOf 202 = .ok (.iinc 9 1, 3) := dk_132 9 1 (dk_at dksX2_evenestOf_8 16 rfl rfl)
theorem dX2_evenestOf_205 : decode cX2_evenestOf 205 = .ok (.goto (-136), 3) := dk_167 255 120 (dk_at dksX2_evenestOf_8 19 rfl rfl)
theorem dX2_evenestOf_208 : decode cX2_evenestOf 208 = .ok (.iload 8, 2) := dk_21 8 (dk_at dksX2_evenestOf_8 22 rfl rfl)
theorem dX2_evenestOf_210 : decode cX2_evenestOf 210 = .ok (.ireturn, 1) := dk_172 (dk_at dksX2_evenestOf_9 0 rfl rfl)
abbrev cX2_laysAhead : ByteArray := prog_12_method_44_code
def yX2_laysAhead : MethodName := ⟨RX2, "laysAhead", "(I)V"⟩
def dkwX2_laysAhead_1 : List UInt8 := [27, 162, 0, 21, 42, 42, 180, 0, 7, 7, 28, 96, 46, 182, 0, 187, 132, 2, 1, 167, 255, 236, 177]
abbrev dktX2_laysAhead_1 : List UInt8 := dkwX2_laysAhead_1 ++ []
def dkwX2_laysAhead_0 : List UInt8 := [42, 2, 181, 0, 175, 42, 16, 247, 181, 0, 178, 42, 3, 181, 0, 181, 42, 3, 181, 0, 184, 3, 61, 28]
abbrev dktX2_laysAhead_0 : List UInt8 := dkwX2_laysAhead_0 ++ dktX2_laysAhead_1
theorem dksX2_laysAhead_0 : cX2_laysAhead.data.toList.drop 0 = dktX2_laysAhead_0 := by decide +kernel
theorem dksX2_laysAhead_1 : cX2_laysAhead.data.toList.drop 24 = dktX2_laysAhead_1 := dk_seg dksX2_laysAhead_0 24 rfl rfl
theorem dX2_laysAhead_0 : decode cX2_laysAhead 0 = .ok (.aload_n 0, 1) := dk_42 (dk_at dksX2_laysAhead_0 0 rfl rfl)
theorem dX2_laysAhead_1 : decode cX2_laysAhead 1 = .ok (.iconst (-1), 1) := dk_2 (dk_at dksX2_laysAhead_0 1 rfl rfl)
theorem dX2_laysAhead_2 : decode cX2_laysAhead 2 = .ok (.putfield 175, 3) := dk_181 0 175 (dk_at dksX2_laysAhead_0 2 rfl rfl)
theorem dX2_laysAhead_5 : decode cX2_laysAhead 5 = .ok (.aload_n 0, 1) := dk_42 (dk_at dksX2_laysAhead_0 5 rfl rfl)
theorem dX2_laysAhead_6 : decode cX2_laysAhead 6 = .ok (.bipush (-9), 2) := dk_16 247 (dk_at dksX2_laysAhead_0 6 rfl rfl)
theorem dX2_laysAhead_8 : decode cX2_laysAhead 8 = .ok (.putfield 178, 3) := dk_181 0 178 (dk_at dksX2_laysAhead_0 8 rfl rfl)
theorem dX2_laysAhead_11 : decode cX2_laysAhead 11 = .ok (.aload_n 0, 1) := dk_42 (dk_at dksX2_laysAhead_0 11 rfl rfl)
theorem dX2_laysAhead_12 : decode cX2_laysAhead 12 = .ok (.iconst 0, 1) := dk_3 (dk_at dksX2_laysAhead_0 12 rfl rfl)
theorem dX2_laysAhead_13 : decode cX2_laysAhead 13 = .ok (.putfield 181, 3) := dk_181 0 181 (dk_at dksX2_laysAhead_0 13 rfl rfl)
theorem dX2_laysAhead_16 : decode cX2_laysAhead 16 = .ok (.aload_n 0, 1) := dk_42 (dk_at dksX2_laysAhead_0 16 rfl rfl)
theorem dX2_laysAhead_17 : decode cX2_laysAhead 17 = .ok (.iconst 0, 1) := dk_3 (dk_at dksX2_laysAhead_0 17 rfl rfl)
theorem dX2_laysAhead_18 : decode cX2_laysAhead 18 = .ok (.putfield 184, 3) := dk_181 0 184 (dk_at dksX2_laysAhead_0 18 rfl rfl)
theorem dX2_laysAhead_21 : decode cX2_laysAhead 21 = .ok (.iconst 0, 1) := dk_3 (dk_at dksX2_laysAhead_0 21 rfl rfl)
theorem dX2_laysAhead_22 : decode cX2_laysAhead 22 = .ok (.istore_n 2, 1) := dk_61 (dk_at dksX2_laysAhead_0 22 rfl rfl)
theorem dX2_laysAhead_23 : decode cX2_laysAhead 23 = .ok (.iload_n 2, 1) := dk_28 (dk_at dksX2_laysAhead_0 23 rfl rfl)
theorem dX2_laysAhead_24 : decode cX2_laysAhead 24 = .ok (.iload_n 1, 1) := dk_27 (dk_at dksX2_laysAhead_1 0 rfl rfl)
theorem dX2_laysAhead_25 : decode cX2_laysAhead 25 = .ok (.if_icmp .ge 21, 3) := dk_162 0 21 (dk_at dksX2_laysAhead_1 1 rfl rfl)
theorem dX2_laysAhead_28 : decode cX2_laysAhead 28 = .ok (.aload_n 0, 1) := dk_42 (dk_at dksX2_laysAhead_1 4 rfl rfl)
theorem dX2_laysAhead_29 : decode cX2_laysAhead 29 = .ok (.aload_n 0, 1) := dk_42 (dk_at dksX2_laysAhead_1 5 rfl rfl)
theorem dX2_laysAhead_30 : decode cX2_laysAhead 30 = .ok (.getfield 7, 3) := dk_180 0 7 (dk_at dksX2_laysAhead_1 6 rfl rfl)
theorem dX2_laysAhead_33 : decode cX2_laysAhead 33 = .ok (.iconst 4, 1) := dk_7 (dk_at dksX2_laysAhead_1 9 rfl rfl)
theorem dX2_laysAhead_34 : decode cX2_laysAhead 34 = .ok (.iload_n 2, 1) := dk_28 (dk_at dksX2_laysAhead_1 10 rfl rfl)
theorem dX2_laysAhead_35 : decode cX2_laysAhead 35 = .ok (.iadd, 1) := dk_96 (dk_at dksX2_laysAhead_1 11 rfl rfl)
theorem dX2_laysAhead_36 : decode cX2_laysAhead 36 = .ok (.iaload, 1) := dk_46 (dk_at dksX2_laysAhead_1 12 rfl rfl)
theorem dX2_laysAhead_37 : decode cX2_laysAhead 37 = .ok (.invokevirtual 187, 3) := dk_182 0 187 (dk_at dksX2_laysAhead_1 13 rfl rfl)
theorem dX2_laysAhead_40 : decode cX2_laysAhead 40 = .ok (.iinc 2 1, 3) := dk_132 2 1 (dk_at dksX2_laysAhead_1 16 rfl rfl)
theorem dX2_laysAhead_43 : decode cX2_laysAhead 43 = .ok (.goto (-20), 3) := dk_167 255 236 (dk_at dksX2_laysAhead_1 19 rfl rfl)
theorem dX2_laysAhead_46 : decode cX2_laysAhead 46 = .ok (.return_, 1) := dk_177 (dk_at dksX2_laysAhead_1 22 rfl rfl)
abbrev cX2_lengthens : ByteArray := prog_12_method_42_code
def yX2_lengthens : MethodName := ⟨RX2, "lengthens", "(I)V"⟩
def dkwX2_lengthens_4 : List UInt8 := [28, 184, 0, 63, 6, 160, 0, 10, 42, 180, 0, 175, 167, 0, 8, 42, 180, 0, 175, 116, 181, 0, 175, 177]
abbrev dktX2_lengthens_4 : List UInt8 := dkwX2_lengthens_4 ++ []
def dkwX2_lengthens_3 : List UInt8 := [164, 0, 10, 42, 180, 0, 181, 167, 0, 7, 42, 180, 0, 184, 181, 0, 184, 132, 3, 255, 167, 255, 187, 42]
abbrev dktX2_lengthens_3 : List UInt8 := dkwX2_lengthens_3 ++ dktX2_lengthens_4
def dkwX2_lengthens_2 : List UInt8 := [167, 0, 4, 4, 181, 0, 181, 42, 21, 4, 181, 0, 178, 42, 42, 180, 0, 181, 42, 180, 0, 184]
abbrev dktX2_lengthens_2 : List UInt8 := dkwX2_lengthens_2 ++ dktX2_lengthens_3
def dkwX2_lengthens_1 : List UInt8 := [29, 122, 4, 126, 54, 4, 42, 21, 4, 42, 180, 0, 178, 160, 0, 12, 42, 180, 0, 181, 4, 96]
abbrev dktX2_lengthens_1 : List UInt8 := dkwX2_lengthens_1 ++ dktX2_lengthens_2
def dkwX2_lengthens_0 : List UInt8 := [27, 42, 180, 0, 175, 156, 0, 7, 3, 167, 0, 4, 4, 184, 0, 79, 61, 8, 62, 29, 155, 0, 71, 28]
abbrev dktX2_lengthens_0 : List UInt8 := dkwX2_lengthens_0 ++ dktX2_lengthens_1
theorem dksX2_lengthens_0 : cX2_lengthens.data.toList.drop 0 = dktX2_lengthens_0 := by decide +kernel
theorem dksX2_lengthens_1 : cX2_lengthens.data.toList.drop 24 = dktX2_lengthens_1 := dk_seg dksX2_lengthens_0 24 rfl rfl
theorem dksX2_lengthens_2 : cX2_lengthens.data.toList.drop 46 = dktX2_lengthens_2 := dk_seg dksX2_lengthens_1 22 rfl rfl
theorem dksX2_lengthens_3 : cX2_lengthens.data.toList.drop 68 = dktX2_lengthens_3 := dk_seg dksX2_lengthens_2 22 rfl rfl
theorem dksX2_lengthens_4 : cX2_lengthens.data.toList.drop 92 = dktX2_lengthens_4 := dk_seg dksX2_lengthens_3 24 rfl rfl
theorem dX2_lengthens_0 : decode cX2_lengthens 0 = .ok (.iload_n 1, 1) := dk_27 (dk_at dksX2_lengthens_0 0 rfl rfl)
theorem dX2_lengthens_1 : decode cX2_lengthens 1 = .ok (.aload_n 0, 1) := dk_42 (dk_at dksX2_lengthens_0 1 rfl rfl)
theorem dX2_lengthens_2 : decode cX2_lengthens 2 = .ok (.getfield 175, 3) := dk_180 0 175 (dk_at dksX2_lengthens_0 2 rfl rfl)
theorem dX2_lengthens_5 : decode cX2_lengthens 5 = .ok (.ifCond .ge 7, 3) := dk_156 0 7 (dk_at dksX2_lengthens_0 5 rfl rfl)
theorem dX2_lengthens_8 : decode cX2_lengthens 8 = .ok (.iconst 0, 1) := dk_3 (dk_at dksX2_lengthens_0 8 rfl rfl)
theorem dX2_lengthens_9 : decode cX2_lengthens 9 = .ok (.goto 4, 3) := dk_167 0 4 (dk_at dksX2_lengthens_0 9 rfl rfl)
theorem dX2_lengthens_12 : decode cX2_lengthens 12 = .ok (.iconst 1, 1) := dk_4 (dk_at dksX2_lengthens_0 12 rfl rfl)
theorem dX2_lengthens_13 : decode cX2_lengthens 13 = .ok (.invokestatic 79, 3) := dk_184 0 79 (dk_at dksX2_lengthens_0 13 rfl rfl)
theorem dX2_lengthens_16 : decode cX2_lengthens 16 = .ok (.istore_n 2, 1) := dk_61 (dk_at dksX2_lengthens_0 16 rfl rfl)
theorem dX2_lengthens_17 : decode cX2_lengthens 17 = .ok (.iconst 5, 1) := dk_8 (dk_at dksX2_lengthens_0 17 rfl rfl)
theorem dX2_lengthens_18 : decode cX2_lengthens 18 = .ok (.istore_n 3, 1) := dk_62 (dk_at dksX2_lengthens_0 18 rfl rfl)
theorem dX2_lengthens_19 : decode cX2_lengthens 19 = .ok (.iload_n 3, 1) := dk_29 (dk_at dksX2_lengthens_0 19 rfl rfl)
theorem dX2_lengthens_20 : decode cX2_lengthens 20 = .ok (.ifCond .lt 71, 3) := dk_155 0 71 (dk_at dksX2_lengthens_0 20 rfl rfl)
theorem dX2_lengthens_23 : decode cX2_lengthens 23 = .ok (.iload_n 2, 1) := dk_28 (dk_at dksX2_lengthens_0 23 rfl rfl)
theorem dX2_lengthens_24 : decode cX2_lengthens 24 = .ok (.iload_n 3, 1) := dk_29 (dk_at dksX2_lengthens_1 0 rfl rfl)
theorem dX2_lengthens_25 : decode cX2_lengthens 25 = .ok (.ishr, 1) := dk_122 (dk_at dksX2_lengthens_1 1 rfl rfl)
theorem dX2_lengthens_26 : decode cX2_lengthens 26 = .ok (.iconst 1, 1) := dk_4 (dk_at dksX2_lengthens_1 2 rfl rfl)
theorem dX2_lengthens_27 : decode cX2_lengthens 27 = .ok (.iand, 1) := dk_126 (dk_at dksX2_lengthens_1 3 rfl rfl)
theorem dX2_lengthens_28 : decode cX2_lengthens 28 = .ok (.istore 4, 2) := dk_54 4 (dk_at dksX2_lengthens_1 4 rfl rfl)
theorem dX2_lengthens_30 : decode cX2_lengthens 30 = .ok (.aload_n 0, 1) := dk_42 (dk_at dksX2_lengthens_1 6 rfl rfl)
theorem dX2_lengthens_31 : decode cX2_lengthens 31 = .ok (.iload 4, 2) := dk_21 4 (dk_at dksX2_lengthens_1 7 rfl rfl)
theorem dX2_lengthens_33 : decode cX2_lengthens 33 = .ok (.aload_n 0, 1) := dk_42 (dk_at dksX2_lengthens_1 9 rfl rfl)
theorem dX2_lengthens_34 : decode cX2_lengthens 34 = .ok (.getfield 178, 3) := dk_180 0 178 (dk_at dksX2_lengthens_1 10 rfl rfl)
theorem dX2_lengthens_37 : decode cX2_lengthens 37 = .ok (.if_icmp .ne 12, 3) := dk_160 0 12 (dk_at dksX2_lengthens_1 13 rfl rfl)
theorem dX2_lengthens_40 : decode cX2_lengthens 40 = .ok (.aload_n 0, 1) := dk_42 (dk_at dksX2_lengthens_1 16 rfl rfl)
theorem dX2_lengthens_41 : decode cX2_lengthens 41 = .ok (.getfield 181, 3) := dk_180 0 181 (dk_at dksX2_lengthens_1 17 rfl rfl)
theorem dX2_lengthens_44 : decode cX2_lengthens 44 = .ok (.iconst 1, 1) := dk_4 (dk_at dksX2_lengthens_1 20 rfl rfl)
theorem dX2_lengthens_45 : decode cX2_lengthens 45 = .ok (.iadd, 1) := dk_96 (dk_at dksX2_lengthens_1 21 rfl rfl)
theorem dX2_lengthens_46 : decode cX2_lengthens 46 = .ok (.goto 4, 3) := dk_167 0 4 (dk_at dksX2_lengthens_2 0 rfl rfl)
theorem dX2_lengthens_49 : decode cX2_lengthens 49 = .ok (.iconst 1, 1) := dk_4 (dk_at dksX2_lengthens_2 3 rfl rfl)
theorem dX2_lengthens_50 : decode cX2_lengthens 50 = .ok (.putfield 181, 3) := dk_181 0 181 (dk_at dksX2_lengthens_2 4 rfl rfl)
theorem dX2_lengthens_53 : decode cX2_lengthens 53 = .ok (.aload_n 0, 1) := dk_42 (dk_at dksX2_lengthens_2 7 rfl rfl)
theorem dX2_lengthens_54 : decode cX2_lengthens 54 = .ok (.iload 4, 2) := dk_21 4 (dk_at dksX2_lengthens_2 8 rfl rfl)
theorem dX2_lengthens_56 : decode cX2_lengthens 56 = .ok (.putfield 178, 3) := dk_181 0 178 (dk_at dksX2_lengthens_2 10 rfl rfl)
theorem dX2_lengthens_59 : decode cX2_lengthens 59 = .ok (.aload_n 0, 1) := dk_42 (dk_at dksX2_lengthens_2 13 rfl rfl)
theorem dX2_lengthens_60 : decode cX2_lengthens 60 = .ok (.aload_n 0, 1) := dk_42 (dk_at dksX2_lengthens_2 14 rfl rfl)
theorem dX2_lengthens_61 : decode cX2_lengthens 61 = .ok (.getfield 181, 3) := dk_180 0 181 (dk_at dksX2_lengthens_2 15 rfl rfl)
theorem dX2_lengthens_64 : decode cX2_lengthens 64 = .ok (.aload_n 0, 1) := dk_42 (dk_at dksX2_lengthens_2 18 rfl rfl)
theorem dX2_lengthens_65 : decode cX2_lengthens 65 = .ok (.getfield 184, 3) := dk_180 0 184 (dk_at dksX2_lengthens_2 19 rfl rfl)
theorem dX2_lengthens_68 : decode cX2_lengthens 68 = .ok (.if_icmp .le 10, 3) := dk_164 0 10 (dk_at dksX2_lengthens_3 0 rfl rfl)
theorem dX2_lengthens_71 : decode cX2_lengthens 71 = .ok (.aload_n 0, 1) := dk_42 (dk_at dksX2_lengthens_3 3 rfl rfl)
theorem dX2_lengthens_72 : decode cX2_lengthens 72 = .ok (.getfield 181, 3) := dk_180 0 181 (dk_at dksX2_lengthens_3 4 rfl rfl)
theorem dX2_lengthens_75 : decode cX2_lengthens 75 = .ok (.goto 7, 3) := dk_167 0 7 (dk_at dksX2_lengthens_3 7 rfl rfl)
theorem dX2_lengthens_78 : decode cX2_lengthens 78 = .ok (.aload_n 0, 1) := dk_42 (dk_at dksX2_lengthens_3 10 rfl rfl)
theorem dX2_lengthens_79 : decode cX2_lengthens 79 = .ok (.getfield 184, 3) := dk_180 0 184 (dk_at dksX2_lengthens_3 11 rfl rfl)
theorem dX2_lengthens_82 : decode cX2_lengthens 82 = .ok (.putfield 184, 3) := dk_181 0 184 (dk_at dksX2_lengthens_3 14 rfl rfl)
theorem dX2_lengthens_85 : decode cX2_lengthens 85 = .ok (.iinc 3 (-1), 3) := dk_132 3 255 (dk_at dksX2_lengthens_3 17 rfl rfl)
theorem dX2_lengthens_88 : decode cX2_lengthens 88 = .ok (.goto (-69), 3) := dk_167 255 187 (dk_at dksX2_lengthens_3 20 rfl rfl)
theorem dX2_lengthens_91 : decode cX2_lengthens 91 = .ok (.aload_n 0, 1) := dk_42 (dk_at dksX2_lengthens_3 23 rfl rfl)
theorem dX2_lengthens_92 : decode cX2_lengthens 92 = .ok (.iload_n 2, 1) := dk_28 (dk_at dksX2_lengthens_4 0 rfl rfl)
theorem dX2_lengthens_93 : decode cX2_lengthens 93 = .ok (.invokestatic 63, 3) := dk_184 0 63 (dk_at dksX2_lengthens_4 1 rfl rfl)
theorem dX2_lengthens_96 : decode cX2_lengthens 96 = .ok (.iconst 3, 1) := dk_6 (dk_at dksX2_lengthens_4 4 rfl rfl)
theorem dX2_lengthens_97 : decode cX2_lengthens 97 = .ok (.if_icmp .ne 10, 3) := dk_160 0 10 (dk_at dksX2_lengthens_4 5 rfl rfl)
theorem dX2_lengthens_100 : decode cX2_lengthens 100 = .ok (.aload_n 0, 1) := dk_42 (dk_at dksX2_lengthens_4 8 rfl rfl)
theorem dX2_lengthens_101 : decode cX2_lengthens 101 = .ok (.getfield 175, 3) := dk_180 0 175 (dk_at dksX2_lengthens_4 9 rfl rfl)
theorem dX2_lengthens_104 : decode cX2_lengthens 104 = .ok (.goto 8, 3) := dk_167 0 8 (dk_at dksX2_lengthens_4 12 rfl rfl)
theorem dX2_lengthens_107 : decode cX2_lengthens 107 = .ok (.aload_n 0, 1) := dk_42 (dk_at dksX2_lengthens_4 15 rfl rfl)
theorem dX2_lengthens_108 : decode cX2_lengthens 108 = .ok (.getfield 175, 3) := dk_180 0 175 (dk_at dksX2_lengthens_4 16 rfl rfl)
theorem dX2_lengthens_111 : decode cX2_lengthens 111 = .ok (.ineg, 1) := dk_116 (dk_at dksX2_lengthens_4 19 rfl rfl)
theorem dX2_lengthens_112 : decode cX2_lengthens 112 = .ok (.putfield 175, 3) := dk_181 0 175 (dk_at dksX2_lengthens_4 20 rfl rfl)
theorem dX2_lengthens_115 : decode cX2_lengthens 115 = .ok (.return_, 1) := dk_177 (dk_at dksX2_lengthens_4 23 rfl rfl)
abbrev cX2_isOrder : ByteArray := prog_12_method_43_code
def yX2_isOrder : MethodName := ⟨RX2, "isOrder", "(II)Z"⟩
def dkwX2_isOrder_2 : List UInt8 := [167, 255, 219, 29, 4, 28, 120, 4, 100, 160, 0, 7, 4, 167, 0, 4, 3, 172]
abbrev dktX2_isOrder_2 : List UInt8 := dkwX2_isOrder_2 ++ []
def dkwX2_isOrder_1 : List UInt8 := [112, 79, 21, 4, 28, 108, 54, 4, 29, 4, 42, 180, 0, 50, 21, 5, 46, 120, 128, 62, 132, 5, 255]
abbrev dktX2_isOrder_1 : List UInt8 := dkwX2_isOrder_1 ++ dktX2_isOrder_2
def dkwX2_isOrder_0 : List UInt8 := [3, 62, 27, 54, 4, 28, 4, 100, 54, 5, 21, 5, 155, 0, 38, 42, 180, 0, 50, 21, 5, 21, 4, 28]
abbrev dktX2_isOrder_0 : List UInt8 := dkwX2_isOrder_0 ++ dktX2_isOrder_1
theorem dksX2_isOrder_0 : cX2_isOrder.data.toList.drop 0 = dktX2_isOrder_0 := by decide +kernel
theorem dksX2_isOrder_1 : cX2_isOrder.data.toList.drop 24 = dktX2_isOrder_1 := dk_seg dksX2_isOrder_0 24 rfl rfl
theorem dksX2_isOrder_2 : cX2_isOrder.data.toList.drop 47 = dktX2_isOrder_2 := dk_seg dksX2_isOrder_1 23 rfl rfl
theorem dX2_isOrder_0 : decode cX2_isOrder 0 = .ok (.iconst 0, 1) := dk_3 (dk_at dksX2_isOrder_0 0 rfl rfl)
theorem dX2_isOrder_1 : decode cX2_isOrder 1 = .ok (.istore_n 3, 1) := dk_62 (dk_at dksX2_isOrder_0 1 rfl rfl)
theorem dX2_isOrder_2 : decode cX2_isOrder 2 = .ok (.iload_n 1, 1) := dk_27 (dk_at dksX2_isOrder_0 2 rfl rfl)
theorem dX2_isOrder_3 : decode cX2_isOrder 3 = .ok (.istore 4, 2) := dk_54 4 (dk_at dksX2_isOrder_0 3 rfl rfl)
theorem dX2_isOrder_5 : decode cX2_isOrder 5 = .ok (.iload_n 2, 1) := dk_28 (dk_at dksX2_isOrder_0 5 rfl rfl)
theorem dX2_isOrder_6 : decode cX2_isOrder 6 = .ok (.iconst 1, 1) := dk_4 (dk_at dksX2_isOrder_0 6 rfl rfl)
theorem dX2_isOrder_7 : decode cX2_isOrder 7 = .ok (.isub, 1) := dk_100 (dk_at dksX2_isOrder_0 7 rfl rfl)
theorem dX2_isOrder_8 : decode cX2_isOrder 8 = .ok (.istore 5, 2) := dk_54 5 (dk_at dksX2_isOrder_0 8 rfl rfl)
theorem dX2_isOrder_10 : decode cX2_isOrder 10 = .ok (.iload 5, 2) := dk_21 5 (dk_at dksX2_isOrder_0 10 rfl rfl)
theorem dX2_isOrder_12 : decode cX2_isOrder 12 = .ok (.ifCond .lt 38, 3) := dk_155 0 38 (dk_at dksX2_isOrder_0 12 rfl rfl)
theorem dX2_isOrder_15 : decode cX2_isOrder 15 = .ok (.aload_n 0, 1) := dk_42 (dk_at dksX2_isOrder_0 15 rfl rfl)
theorem dX2_isOrder_16 : decode cX2_isOrder 16 = .ok (.getfield 50, 3) := dk_180 0 50 (dk_at dksX2_isOrder_0 16 rfl rfl)
theorem dX2_isOrder_19 : decode cX2_isOrder 19 = .ok (.iload 5, 2) := dk_21 5 (dk_at dksX2_isOrder_0 19 rfl rfl)
theorem dX2_isOrder_21 : decode cX2_isOrder 21 = .ok (.iload 4, 2) := dk_21 4 (dk_at dksX2_isOrder_0 21 rfl rfl)
theorem dX2_isOrder_23 : decode cX2_isOrder 23 = .ok (.iload_n 2, 1) := dk_28 (dk_at dksX2_isOrder_0 23 rfl rfl)
theorem dX2_isOrder_24 : decode cX2_isOrder 24 = .ok (.irem, 1) := dk_112 (dk_at dksX2_isOrder_1 0 rfl rfl)
theorem dX2_isOrder_25 : decode cX2_isOrder 25 = .ok (.iastore, 1) := dk_79 (dk_at dksX2_isOrder_1 1 rfl rfl)
theorem dX2_isOrder_26 : decode cX2_isOrder 26 = .ok (.iload 4, 2) := dk_21 4 (dk_at dksX2_isOrder_1 2 rfl rfl)
theorem dX2_isOrder_28 : decode cX2_isOrder 28 = .ok (.iload_n 2, 1) := dk_28 (dk_at dksX2_isOrder_1 4 rfl rfl)
theorem dX2_isOrder_29 : decode cX2_isOrder 29 = .ok (.idiv, 1) := dk_108 (dk_at dksX2_isOrder_1 5 rfl rfl)
theorem dX2_isOrder_30 : decode cX2_isOrder 30 = .ok (.istore 4, 2) := dk_54 4 (dk_at dksX2_isOrder_1 6 rfl rfl)
theorem dX2_isOrder_32 : decode cX2_isOrder 32 = .ok (.iload_n 3, 1) := dk_29 (dk_at dksX2_isOrder_1 8 rfl rfl)
theorem dX2_isOrder_33 : decode cX2_isOrder 33 = .ok (.iconst 1, 1) := dk_4 (dk_at dksX2_isOrder_1 9 rfl rfl)
theorem dX2_isOrder_34 : decode cX2_isOrder 34 = .ok (.aload_n 0, 1) := dk_42 (dk_at dksX2_isOrder_1 10 rfl rfl)
theorem dX2_isOrder_35 : decode cX2_isOrder 35 = .ok (.getfield 50, 3) := dk_180 0 50 (dk_at dksX2_isOrder_1 11 rfl rfl)
theorem dX2_isOrder_38 : decode cX2_isOrder 38 = .ok (.iload 5, 2) := dk_21 5 (dk_at dksX2_isOrder_1 14 rfl rfl)
theorem dX2_isOrder_40 : decode cX2_isOrder 40 = .ok (.iaload, 1) := dk_46 (dk_at dksX2_isOrder_1 16 rfl rfl)
theorem dX2_isOrder_41 : decode cX2_isOrder 41 = .ok (.ishl, 1) := dk_120 (dk_at dksX2_isOrder_1 17 rfl rfl)
theorem dX2_isOrder_42 : decode cX2_isOrder 42 = .ok (.ior, 1) := dk_128 (dk_at dksX2_isOrder_1 18 rfl rfl)
theorem dX2_isOrder_43 : decode cX2_isOrder 43 = .ok (.istore_n 3, 1) := dk_62 (dk_at dksX2_isOrder_1 19 rfl rfl)
theorem dX2_isOrder_44 : decode cX2_isOrder 44 = .ok (.iinc 5 (-1), 3) := dk_132 5 255 (dk_at dksX2_isOrder_1 20 rfl rfl)
theorem dX2_isOrder_47 : decode cX2_isOrder 47 = .ok (.goto (-37), 3) := dk_167 255 219 (dk_at dksX2_isOrder_2 0 rfl rfl)
theorem dX2_isOrder_50 : decode cX2_isOrder 50 = .ok (.iload_n 3, 1) := dk_29 (dk_at dksX2_isOrder_2 3 rfl rfl)
theorem dX2_isOrder_51 : decode cX2_isOrder 51 = .ok (.iconst 1, 1) := dk_4 (dk_at dksX2_isOrder_2 4 rfl rfl)
theorem dX2_isOrder_52 : decode cX2_isOrder 52 = .ok (.iload_n 2, 1) := dk_28 (dk_at dksX2_isOrder_2 5 rfl rfl)
theorem dX2_isOrder_53 : decode cX2_isOrder 53 = .ok (.ishl, 1) := dk_120 (dk_at dksX2_isOrder_2 6 rfl rfl)
theorem dX2_isOrder_54 : decode cX2_isOrder 54 = .ok (.iconst 1, 1) := dk_4 (dk_at dksX2_isOrder_2 7 rfl rfl)
theorem dX2_isOrder_55 : decode cX2_isOrder 55 = .ok (.isub, 1) := dk_100 (dk_at dksX2_isOrder_2 8 rfl rfl)
theorem dX2_isOrder_56 : decode cX2_isOrder 56 = .ok (.if_icmp .ne 7, 3) := dk_160 0 7 (dk_at dksX2_isOrder_2 9 rfl rfl)
theorem dX2_isOrder_59 : decode cX2_isOrder 59 = .ok (.iconst 1, 1) := dk_4 (dk_at dksX2_isOrder_2 12 rfl rfl)
theorem dX2_isOrder_60 : decode cX2_isOrder 60 = .ok (.goto 4, 3) := dk_167 0 4 (dk_at dksX2_isOrder_2 13 rfl rfl)
theorem dX2_isOrder_63 : decode cX2_isOrder 63 = .ok (.iconst 0, 1) := dk_3 (dk_at dksX2_isOrder_2 16 rfl rfl)
theorem dX2_isOrder_64 : decode cX2_isOrder 64 = .ok (.ireturn, 1) := dk_172 (dk_at dksX2_isOrder_2 17 rfl rfl)
abbrev cX2_weight : ByteArray := prog_12_method_47_code
def yX2_weight : MethodName := ⟨RX2, "weight", "(I)I"⟩
def dkwX2_weight_3 : List UInt8 := [158, 0, 8, 18, 166, 167, 0, 6, 22, 4, 136, 172]
abbrev dktX2_weight_3 : List UInt8 := dkwX2_weight_3 ++ []
def dkwX2_weight_2 : List UInt8 := [167, 255, 222, 32, 27, 133, 105, 55, 4, 22, 4, 20, 0, 199, 148, 155, 0, 12, 22, 4, 20, 0, 201, 148]
abbrev dktX2_weight_2 : List UInt8 := dkwX2_weight_2 ++ dktX2_weight_3
def dkwX2_weight_1 : List UInt8 := [104, 162, 0, 26, 32, 42, 180, 0, 47, 21, 4, 46, 133, 21, 4, 4, 96, 133, 105, 97, 65, 132, 4, 1]
abbrev dktX2_weight_1 : List UInt8 := dkwX2_weight_1 ++ dktX2_weight_2
def dkwX2_weight_0 : List UInt8 := [42, 3, 181, 0, 59, 42, 182, 0, 172, 9, 65, 3, 54, 4, 21, 4, 16, 6, 42, 180, 0, 7, 3, 46]
abbrev dktX2_weight_0 : List UInt8 := dkwX2_weight_0 ++ dktX2_weight_1
theorem dksX2_weight_0 : cX2_weight.data.toList.drop 0 = dktX2_weight_0 := by decide +kernel
theorem dksX2_weight_1 : cX2_weight.data.toList.drop 24 = dktX2_weight_1 := dk_seg dksX2_weight_0 24 rfl rfl
theorem dksX2_weight_2 : cX2_weight.data.toList.drop 48 = dktX2_weight_2 := dk_seg dksX2_weight_1 24 rfl rfl
theorem dksX2_weight_3 : cX2_weight.data.toList.drop 72 = dktX2_weight_3 := dk_seg dksX2_weight_2 24 rfl rfl
theorem dX2_weight_0 : decode cX2_weight 0 = .ok (.aload_n 0, 1) := dk_42 (dk_at dksX2_weight_0 0 rfl rfl)
theorem dX2_weight_1 : decode cX2_weight 1 = .ok (.iconst 0, 1) := dk_3 (dk_at dksX2_weight_0 1 rfl rfl)
theorem dX2_weight_2 : decode cX2_weight 2 = .ok (.putfield 59, 3) := dk_181 0 59 (dk_at dksX2_weight_0 2 rfl rfl)
theorem dX2_weight_5 : decode cX2_weight 5 = .ok (.aload_n 0, 1) := dk_42 (dk_at dksX2_weight_0 5 rfl rfl)
theorem dX2_weight_6 : decode cX2_weight 6 = .ok (.invokevirtual 172, 3) := dk_182 0 172 (dk_at dksX2_weight_0 6 rfl rfl)
theorem dX2_weight_9 : decode cX2_weight 9 = .ok (.lconst 0, 1) := dk_9 (dk_at dksX2_weight_0 9 rfl rfl)
theorem dX2_weight_10 : decode cX2_weight 10 = .ok (.lstore_n 2, 1) := dk_65 (dk_at dksX2_weight_0 10 rfl rfl)
theorem dX2_weight_11 : decode cX2_weight 11 = .ok (.iconst 0, 1) := dk_3 (dk_at dksX2_weight_0 11 rfl rfl)
theorem dX2_weight_12 : decode cX2_weight 12 = .ok (.istore 4, 2) := dk_54 4 (dk_at dksX2_weight_0 12 rfl rfl)
theorem dX2_weight_14 : decode cX2_weight 14 = .ok (.iload 4, 2) := dk_21 4 (dk_at dksX2_weight_0 14 rfl rfl)
theorem dX2_weight_16 : decode cX2_weight 16 = .ok (.bipush 6, 2) := dk_16 6 (dk_at dksX2_weight_0 16 rfl rfl)
theorem dX2_weight_18 : decode cX2_weight 18 = .ok (.aload_n 0, 1) := dk_42 (dk_at dksX2_weight_0 18 rfl rfl)
theorem dX2_weight_19 : decode cX2_weight 19 = .ok (.getfield 7, 3) := dk_180 0 7 (dk_at dksX2_weight_0 19 rfl rfl)
theorem dX2_weight_22 : decode cX2_weight 22 = .ok (.iconst 0, 1) := dk_3 (dk_at dksX2_weight_0 22 rfl rfl)
theorem dX2_weight_23 : decode cX2_weight 23 = .ok (.iaload, 1) := dk_46 (dk_at dksX2_weight_0 23 rfl rfl)
theorem dX2_weight_24 : decode cX2_weight 24 = .ok (.imul, 1) := dk_104 (dk_at dksX2_weight_1 0 rfl rfl)
theorem dX2_weight_25 : decode cX2_weight 25 = .ok (.if_icmp .ge 26, 3) := dk_162 0 26 (dk_at dksX2_weight_1 1 rfl rfl)
theorem dX2_weight_28 : decode cX2_weight 28 = .ok (.lload_n 2, 1) := dk_32 (dk_at dksX2_weight_1 4 rfl rfl)
theorem dX2_weight_29 : decode cX2_weight 29 = .ok (.aload_n 0, 1) := dk_42 (dk_at dksX2_weight_1 5 rfl rfl)
theorem dX2_weight_30 : decode cX2_weight 30 = .ok (.getfield 47, 3) := dk_180 0 47 (dk_at dksX2_weight_1 6 rfl rfl)
theorem dX2_weight_33 : decode cX2_weight 33 = .ok (.iload 4, 2) := dk_21 4 (dk_at dksX2_weight_1 9 rfl rfl)
theorem dX2_weight_35 : decode cX2_weight 35 = .ok (.iaload, 1) := dk_46 (dk_at dksX2_weight_1 11 rfl rfl)
theorem dX2_weight_36 : decode cX2_weight 36 = .ok (.i2l, 1) := dk_133 (dk_at dksX2_weight_1 12 rfl rfl)
theorem dX2_weight_37 : decode cX2_weight 37 = .ok (.iload 4, 2) := dk_21 4 (dk_at dksX2_weight_1 13 rfl rfl)
theorem dX2_weight_39 : decode cX2_weight 39 = .ok (.iconst 1, 1) := dk_4 (dk_at dksX2_weight_1 15 rfl rfl)
theorem dX2_weight_40 : decode cX2_weight 40 = .ok (.iadd, 1) := dk_96 (dk_at dksX2_weight_1 16 rfl rfl)
theorem dX2_weight_41 : decode cX2_weight 41 = .ok (.i2l, 1) := dk_133 (dk_at dksX2_weight_1 17 rfl rfl)
theorem dX2_weight_42 : decode cX2_weight 42 = .ok (.lmul, 1) := dk_105 (dk_at dksX2_weight_1 18 rfl rfl)
theorem dX2_weight_43 : decode cX2_weight 43 = .ok (.ladd, 1) := dk_97 (dk_at dksX2_weight_1 19 rfl rfl)
theorem dX2_weight_44 : decode cX2_weight 44 = .ok (.lstore_n 2, 1) := dk_65 (dk_at dksX2_weight_1 20 rfl rfl)
theorem dX2_weight_45 : decode cX2_weight 45 = .ok (.iinc 4 1, 3) := dk_132 4 1 (dk_at dksX2_weight_1 21 rfl rfl)
theorem dX2_weight_48 : decode cX2_weight 48 = .ok (.goto (-34), 3) := dk_167 255 222 (dk_at dksX2_weight_2 0 rfl rfl)
theorem dX2_weight_51 : decode cX2_weight 51 = .ok (.lload_n 2, 1) := dk_32 (dk_at dksX2_weight_2 3 rfl rfl)
theorem dX2_weight_52 : decode cX2_weight 52 = .ok (.iload_n 1, 1) := dk_27 (dk_at dksX2_weight_2 4 rfl rfl)
theorem dX2_weight_53 : decode cX2_weight 53 = .ok (.i2l, 1) := dk_133 (dk_at dksX2_weight_2 5 rfl rfl)
theorem dX2_weight_54 : decode cX2_weight 54 = .ok (.lmul, 1) := dk_105 (dk_at dksX2_weight_2 6 rfl rfl)
theorem dX2_weight_55 : decode cX2_weight 55 = .ok (.lstore 4, 2) := dk_55 4 (dk_at dksX2_weight_2 7 rfl rfl)
theorem dX2_weight_57 : decode cX2_weight 57 = .ok (.lload 4, 2) := dk_22 4 (dk_at dksX2_weight_2 9 rfl rfl)
theorem dX2_weight_59 : decode cX2_weight 59 = .ok (.ldc2_w 199, 3) := dk_20 0 199 (dk_at dksX2_weight_2 11 rfl rfl)
theorem dX2_weight_62 : decode cX2_weight 62 = .ok (.lcmp, 1) := dk_148 (dk_at dksX2_weight_2 14 rfl rfl)
theorem dX2_weight_63 : decode cX2_weight 63 = .ok (.ifCond .lt 12, 3) := dk_155 0 12 (dk_at dksX2_weight_2 15 rfl rfl)
theorem dX2_weight_66 : decode cX2_weight 66 = .ok (.lload 4, 2) := dk_22 4 (dk_at dksX2_weight_2 18 rfl rfl)
theorem dX2_weight_68 : decode cX2_weight 68 = .ok (.ldc2_w 201, 3) := dk_20 0 201 (dk_at dksX2_weight_2 20 rfl rfl)
theorem dX2_weight_71 : decode cX2_weight 71 = .ok (.lcmp, 1) := dk_148 (dk_at dksX2_weight_2 23 rfl rfl)
theorem dX2_weight_72 : decode cX2_weight 72 = .ok (.ifCond .le 8, 3) := dk_158 0 8 (dk_at dksX2_weight_3 0 rfl rfl)
theorem dX2_weight_75 : decode cX2_weight 75 = .ok (.ldc 166, 2) := dk_18 166 (dk_at dksX2_weight_3 3 rfl rfl)
theorem dX2_weight_77 : decode cX2_weight 77 = .ok (.goto 6, 3) := dk_167 0 6 (dk_at dksX2_weight_3 5 rfl rfl)
theorem dX2_weight_80 : decode cX2_weight 80 = .ok (.lload 4, 2) := dk_22 4 (dk_at dksX2_weight_3 8 rfl rfl)
theorem dX2_weight_82 : decode cX2_weight 82 = .ok (.l2i, 1) := dk_136 (dk_at dksX2_weight_3 10 rfl rfl)
theorem dX2_weight_83 : decode cX2_weight 83 = .ok (.ireturn, 1) := dk_172 (dk_at dksX2_weight_3 11 rfl rfl)
abbrev cX2_keep : ByteArray := prog_12_method_48_code
def yX2_keep : MethodName := ⟨RX2, "keep", "(I)I"⟩
def dkwX2_keep_2 : List UInt8 := [167, 255, 228, 42, 180, 0, 19, 27, 4, 84, 42, 180, 0, 7, 3, 46, 172]
abbrev dktX2_keep_2 : List UInt8 := dkwX2_keep_2 ++ []
def dkwX2_keep_1 : List UInt8 := [162, 0, 27, 42, 180, 0, 16, 17, 0, 228, 27, 104, 28, 96, 42, 180, 0, 7, 28, 46, 79, 132, 2, 1]
abbrev dktX2_keep_1 : List UInt8 := dkwX2_keep_1 ++ dktX2_keep_2
def dkwX2_keep_0 : List UInt8 := [42, 3, 181, 0, 59, 27, 3, 4, 184, 0, 85, 154, 0, 5, 2, 172, 3, 61, 28, 17, 0, 228]
abbrev dktX2_keep_0 : List UInt8 := dkwX2_keep_0 ++ dktX2_keep_1
theorem dksX2_keep_0 : cX2_keep.data.toList.drop 0 = dktX2_keep_0 := by decide +kernel
theorem dksX2_keep_1 : cX2_keep.data.toList.drop 22 = dktX2_keep_1 := dk_seg dksX2_keep_0 22 rfl rfl
theorem dksX2_keep_2 : cX2_keep.data.toList.drop 46 = dktX2_keep_2 := dk_seg dksX2_keep_1 24 rfl rfl
theorem dX2_keep_0 : decode cX2_keep 0 = .ok (.aload_n 0, 1) := dk_42 (dk_at dksX2_keep_0 0 rfl rfl)
theorem dX2_keep_1 : decode cX2_keep 1 = .ok (.iconst 0, 1) := dk_3 (dk_at dksX2_keep_0 1 rfl rfl)
theorem dX2_keep_2 : decode cX2_keep 2 = .ok (.putfield 59, 3) := dk_181 0 59 (dk_at dksX2_keep_0 2 rfl rfl)
theorem dX2_keep_5 : decode cX2_keep 5 = .ok (.iload_n 1, 1) := dk_27 (dk_at dksX2_keep_0 5 rfl rfl)
theorem dX2_keep_6 : decode cX2_keep 6 = .ok (.iconst 0, 1) := dk_3 (dk_at dksX2_keep_0 6 rfl rfl)
theorem dX2_keep_7 : decode cX2_keep 7 = .ok (.iconst 1, 1) := dk_4 (dk_at dksX2_keep_0 7 rfl rfl)
theorem dX2_keep_8 : decode cX2_keep 8 = .ok (.invokestatic 85, 3) := dk_184 0 85 (dk_at dksX2_keep_0 8 rfl rfl)
theorem dX2_keep_11 : decode cX2_keep 11 = .ok (.ifCond .ne 5, 3) := dk_154 0 5 (dk_at dksX2_keep_0 11 rfl rfl)
theorem dX2_keep_14 : decode cX2_keep 14 = .ok (.iconst (-1), 1) := dk_2 (dk_at dksX2_keep_0 14 rfl rfl)
theorem dX2_keep_15 : decode cX2_keep 15 = .ok (.ireturn, 1) := dk_172 (dk_at dksX2_keep_0 15 rfl rfl)
theorem dX2_keep_16 : decode cX2_keep 16 = .ok (.iconst 0, 1) := dk_3 (dk_at dksX2_keep_0 16 rfl rfl)
theorem dX2_keep_17 : decode cX2_keep 17 = .ok (.istore_n 2, 1) := dk_61 (dk_at dksX2_keep_0 17 rfl rfl)
theorem dX2_keep_18 : decode cX2_keep 18 = .ok (.iload_n 2, 1) := dk_28 (dk_at dksX2_keep_0 18 rfl rfl)
theorem dX2_keep_19 : decode cX2_keep 19 = .ok (.sipush 228, 3) := dk_17 0 228 (dk_at dksX2_keep_0 19 rfl rfl)
theorem dX2_keep_22 : decode cX2_keep 22 = .ok (.if_icmp .ge 27, 3) := dk_162 0 27 (dk_at dksX2_keep_1 0 rfl rfl)
theorem dX2_keep_25 : decode cX2_keep 25 = .ok (.aload_n 0, 1) := dk_42 (dk_at dksX2_keep_1 3 rfl rfl)
theorem dX2_keep_26 : decode cX2_keep 26 = .ok (.getfield 16, 3) := dk_180 0 16 (dk_at dksX2_keep_1 4 rfl rfl)
theorem dX2_keep_29 : decode cX2_keep 29 = .ok (.sipush 228, 3) := dk_17 0 228 (dk_at dksX2_keep_1 7 rfl rfl)
theorem dX2_keep_32 : decode cX2_keep 32 = .ok (.iload_n 1, 1) := dk_27 (dk_at dksX2_keep_1 10 rfl rfl)
theorem dX2_keep_33 : decode cX2_keep 33 = .ok (.imul, 1) := dk_104 (dk_at dksX2_keep_1 11 rfl rfl)
theorem dX2_keep_34 : decode cX2_keep 34 = .ok (.iload_n 2, 1) := dk_28 (dk_at dksX2_keep_1 12 rfl rfl)
theorem dX2_keep_35 : decode cX2_keep 35 = .ok (.iadd, 1) := dk_96 (dk_at dksX2_keep_1 13 rfl rfl)
theorem dX2_keep_36 : decode cX2_keep 36 = .ok (.aload_n 0, 1) := dk_42 (dk_at dksX2_keep_1 14 rfl rfl)
theorem dX2_keep_37 : decode cX2_keep 37 = .ok (.getfield 7, 3) := dk_180 0 7 (dk_at dksX2_keep_1 15 rfl rfl)
theorem dX2_keep_40 : decode cX2_keep 40 = .ok (.iload_n 2, 1) := dk_28 (dk_at dksX2_keep_1 18 rfl rfl)
theorem dX2_keep_41 : decode cX2_keep 41 = .ok (.iaload, 1) := dk_46 (dk_at dksX2_keep_1 19 rfl rfl)
theorem dX2_keep_42 : decode cX2_keep 42 = .ok (.iastore, 1) := dk_79 (dk_at dksX2_keep_1 20 rfl rfl)
theorem dX2_keep_43 : decode cX2_keep 43 = .ok (.iinc 2 1, 3) := dk_132 2 1 (dk_at dksX2_keep_1 21 rfl rfl)
theorem dX2_keep_46 : decode cX2_keep 46 = .ok (.goto (-28), 3) := dk_167 255 228 (dk_at dksX2_keep_2 0 rfl rfl)
theorem dX2_keep_49 : decode cX2_keep 49 = .ok (.aload_n 0, 1) := dk_42 (dk_at dksX2_keep_2 3 rfl rfl)
theorem dX2_keep_50 : decode cX2_keep 50 = .ok (.getfield 19, 3) := dk_180 0 19 (dk_at dksX2_keep_2 4 rfl rfl)
theorem dX2_keep_53 : decode cX2_keep 53 = .ok (.iload_n 1, 1) := dk_27 (dk_at dksX2_keep_2 7 rfl rfl)
theorem dX2_keep_54 : decode cX2_keep 54 = .ok (.iconst 1, 1) := dk_4 (dk_at dksX2_keep_2 8 rfl rfl)
theorem dX2_keep_55 : decode cX2_keep 55 = .ok (.bastore, 1) := dk_84 (dk_at dksX2_keep_2 9 rfl rfl)
theorem dX2_keep_56 : decode cX2_keep 56 = .ok (.aload_n 0, 1) := dk_42 (dk_at dksX2_keep_2 10 rfl rfl)
theorem dX2_keep_57 : decode cX2_keep 57 = .ok (.getfield 7, 3) := dk_180 0 7 (dk_at dksX2_keep_2 11 rfl rfl)
theorem dX2_keep_60 : decode cX2_keep 60 = .ok (.iconst 0, 1) := dk_3 (dk_at dksX2_keep_2 14 rfl rfl)
theorem dX2_keep_61 : decode cX2_keep 61 = .ok (.iaload, 1) := dk_46 (dk_at dksX2_keep_2 15 rfl rfl)
theorem dX2_keep_62 : decode cX2_keep 62 = .ok (.ireturn, 1) := dk_172 (dk_at dksX2_keep_2 16 rfl rfl)
abbrev cX2_back : ByteArray := prog_12_method_49_code
def yX2_back : MethodName := ⟨RX2, "back", "(I)I"⟩
def dkwX2_back_3 : List UInt8 := [3, 46, 172]
abbrev dktX2_back_3 : List UInt8 := dkwX2_back_3 ++ []
def dkwX2_back_2 : List UInt8 := [17, 0, 228, 27, 104, 28, 96, 46, 79, 132, 2, 1, 167, 255, 228, 42, 3, 181, 0, 126, 42, 180, 0, 7]
abbrev dktX2_back_2 : List UInt8 := dkwX2_back_2 ++ dktX2_back_3
def dkwX2_back_1 : List UInt8 := [154, 0, 6, 16, 254, 172, 3, 61, 28, 17, 0, 228, 162, 0, 27, 42, 180, 0, 7, 28, 42, 180, 0, 16]
abbrev dktX2_back_1 : List UInt8 := dkwX2_back_1 ++ dktX2_back_2
def dkwX2_back_0 : List UInt8 := [42, 3, 181, 0, 59, 27, 3, 4, 184, 0, 85, 154, 0, 5, 2, 172, 42, 180, 0, 19, 27, 51]
abbrev dktX2_back_0 : List UInt8 := dkwX2_back_0 ++ dktX2_back_1
theorem dksX2_back_0 : cX2_back.data.toList.drop 0 = dktX2_back_0 := by decide +kernel
theorem dksX2_back_1 : cX2_back.data.toList.drop 22 = dktX2_back_1 := dk_seg dksX2_back_0 22 rfl rfl
theorem dksX2_back_2 : cX2_back.data.toList.drop 46 = dktX2_back_2 := dk_seg dksX2_back_1 24 rfl rfl
theorem dksX2_back_3 : cX2_back.data.toList.drop 70 = dktX2_back_3 := dk_seg dksX2_back_2 24 rfl rfl
theorem dX2_back_0 : decode cX2_back 0 = .ok (.aload_n 0, 1) := dk_42 (dk_at dksX2_back_0 0 rfl rfl)
theorem dX2_back_1 : decode cX2_back 1 = .ok (.iconst 0, 1) := dk_3 (dk_at dksX2_back_0 1 rfl rfl)
theorem dX2_back_2 : decode cX2_back 2 = .ok (.putfield 59, 3) := dk_181 0 59 (dk_at dksX2_back_0 2 rfl rfl)
theorem dX2_back_5 : decode cX2_back 5 = .ok (.iload_n 1, 1) := dk_27 (dk_at dksX2_back_0 5 rfl rfl)
theorem dX2_back_6 : decode cX2_back 6 = .ok (.iconst 0, 1) := dk_3 (dk_at dksX2_back_0 6 rfl rfl)
theorem dX2_back_7 : decode cX2_back 7 = .ok (.iconst 1, 1) := dk_4 (dk_at dksX2_back_0 7 rfl rfl)
theorem dX2_back_8 : decode cX2_back 8 = .ok (.invokestatic 85, 3) := dk_184 0 85 (dk_at dksX2_back_0 8 rfl rfl)
theorem dX2_back_11 : decode cX2_back 11 = .ok (.ifCond .ne 5, 3) := dk_154 0 5 (dk_at dksX2_back_0 11 rfl rfl)
theorem dX2_back_14 : decode cX2_back 14 = .ok (.iconst (-1), 1) := dk_2 (dk_at dksX2_back_0 14 rfl rfl)
theorem dX2_back_15 : decode cX2_back 15 = .ok (.ireturn, 1) := dk_172 (dk_at dksX2_back_0 15 rfl rfl)
theorem dX2_back_16 : decode cX2_back 16 = .ok (.aload_n 0, 1) := dk_42 (dk_at dksX2_back_0 16 rfl rfl)
theorem dX2_back_17 : decode cX2_back 17 = .ok (.getfield 19, 3) := dk_180 0 19 (dk_at dksX2_back_0 17 rfl rfl)
theorem dX2_back_20 : decode cX2_back 20 = .ok (.iload_n 1, 1) := dk_27 (dk_at dksX2_back_0 20 rfl rfl)
theorem dX2_back_21 : decode cX2_back 21 = .ok (.baload, 1) := dk_51 (dk_at dksX2_back_0 21 rfl rfl)
theorem dX2_back_22 : decode cX2_back 22 = .ok (.ifCond .ne 6, 3) := dk_154 0 6 (dk_at dksX2_back_1 0 rfl rfl)
theorem dX2_back_25 : decode cX2_back 25 = .ok (.bipush (-2), 2) := dk_16 254 (dk_at dksX2_back_1 3 rfl rfl)
theorem dX2_back_27 : decode cX2_back 27 = .ok (.ireturn, 1) := dk_172 (dk_at dksX2_back_1 5 rfl rfl)
theorem dX2_back_28 : decode cX2_back 28 = .ok (.iconst 0, 1) := dk_3 (dk_at dksX2_back_1 6 rfl rfl)
theorem dX2_back_29 : decode cX2_back 29 = .ok (.istore_n 2, 1) := dk_61 (dk_at dksX2_back_1 7 rfl rfl)
theorem dX2_back_30 : decode cX2_back 30 = .ok (.iload_n 2, 1) := dk_28 (dk_at dksX2_back_1 8 rfl rfl)
theorem dX2_back_31 : decode cX2_back 31 = .ok (.sipush 228, 3) := dk_17 0 228 (dk_at dksX2_back_1 9 rfl rfl)
theorem dX2_back_34 : decode cX2_back 34 = .ok (.if_icmp .ge 27, 3) := dk_162 0 27 (dk_at dksX2_back_1 12 rfl rfl)
theorem dX2_back_37 : decode cX2_back 37 = .ok (.aload_n 0, 1) := dk_42 (dk_at dksX2_back_1 15 rfl rfl)
theorem dX2_back_38 : decode cX2_back 38 = .ok (.getfield 7, 3) := dk_180 0 7 (dk_at dksX2_back_1 16 rfl rfl)
theorem dX2_back_41 : decode cX2_back 41 = .ok (.iload_n 2, 1) := dk_28 (dk_at dksX2_back_1 19 rfl rfl)
theorem dX2_back_42 : decode cX2_back 42 = .ok (.aload_n 0, 1) := dk_42 (dk_at dksX2_back_1 20 rfl rfl)
theorem dX2_back_43 : decode cX2_back 43 = .ok (.getfield 16, 3) := dk_180 0 16 (dk_at dksX2_back_1 21 rfl rfl)
theorem dX2_back_46 : decode cX2_back 46 = .ok (.sipush 228, 3) := dk_17 0 228 (dk_at dksX2_back_2 0 rfl rfl)
theorem dX2_back_49 : decode cX2_back 49 = .ok (.iload_n 1, 1) := dk_27 (dk_at dksX2_back_2 3 rfl rfl)
theorem dX2_back_50 : decode cX2_back 50 = .ok (.imul, 1) := dk_104 (dk_at dksX2_back_2 4 rfl rfl)
theorem dX2_back_51 : decode cX2_back 51 = .ok (.iload_n 2, 1) := dk_28 (dk_at dksX2_back_2 5 rfl rfl)
theorem dX2_back_52 : decode cX2_back 52 = .ok (.iadd, 1) := dk_96 (dk_at dksX2_back_2 6 rfl rfl)
theorem dX2_back_53 : decode cX2_back 53 = .ok (.iaload, 1) := dk_46 (dk_at dksX2_back_2 7 rfl rfl)
theorem dX2_back_54 : decode cX2_back 54 = .ok (.iastore, 1) := dk_79 (dk_at dksX2_back_2 8 rfl rfl)
theorem dX2_back_55 : decode cX2_back 55 = .ok (.iinc 2 1, 3) := dk_132 2 1 (dk_at dksX2_back_2 9 rfl rfl)
theorem dX2_back_58 : decode cX2_back 58 = .ok (.goto (-28), 3) := dk_167 255 228 (dk_at dksX2_back_2 12 rfl rfl)
theorem dX2_back_61 : decode cX2_back 61 = .ok (.aload_n 0, 1) := dk_42 (dk_at dksX2_back_2 15 rfl rfl)
theorem dX2_back_62 : decode cX2_back 62 = .ok (.iconst 0, 1) := dk_3 (dk_at dksX2_back_2 16 rfl rfl)
theorem dX2_back_63 : decode cX2_back 63 = .ok (.putfield 126, 3) := dk_181 0 126 (dk_at dksX2_back_2 17 rfl rfl)
theorem dX2_back_66 : decode cX2_back 66 = .ok (.aload_n 0, 1) := dk_42 (dk_at dksX2_back_2 20 rfl rfl)
theorem dX2_back_67 : decode cX2_back 67 = .ok (.getfield 7, 3) := dk_180 0 7 (dk_at dksX2_back_2 21 rfl rfl)
theorem dX2_back_70 : decode cX2_back 70 = .ok (.iconst 0, 1) := dk_3 (dk_at dksX2_back_3 0 rfl rfl)
theorem dX2_back_71 : decode cX2_back 71 = .ok (.iaload, 1) := dk_46 (dk_at dksX2_back_3 1 rfl rfl)
theorem dX2_back_72 : decode cX2_back 72 = .ok (.ireturn, 1) := dk_172 (dk_at dksX2_back_3 2 rfl rfl)
abbrev cX2_count : ByteArray := prog_12_method_53_code
def yX2_count : MethodName := ⟨RX2, "count", "(I)I"⟩
def dkwX2_count_4 : List UInt8 := [42, 180, 0, 126, 172, 2, 172]
abbrev dktX2_count_4 : List UInt8 := dkwX2_count_4 ++ []
def dkwX2_count_3 : List UInt8 := [182, 0, 203, 172, 42, 182, 0, 206, 172, 42, 182, 0, 209, 172, 42, 182, 0, 212, 172, 42, 180, 0, 82, 172]
abbrev dktX2_count_3 : List UInt8 := dkwX2_count_3 ++ dktX2_count_4
def dkwX2_count_2 : List UInt8 := [42, 180, 0, 7, 3, 46, 172, 42, 180, 0, 7, 4, 46, 156, 0, 7, 3, 167, 0, 4, 4, 172, 42]
abbrev dktX2_count_2 : List UInt8 := dkwX2_count_2 ++ dktX2_count_3
def dkwX2_count_1 : List UInt8 := [170, 0, 0, 0, 0, 98, 0, 0, 0, 0, 0, 0, 0, 7, 0, 0, 0, 46, 0, 0, 0, 53, 0, 0, 0, 68, 0, 0, 0, 73, 0, 0, 0, 78, 0, 0, 0, 83, 0, 0, 0, 88, 0, 0, 0, 93]
abbrev dktX2_count_1 : List UInt8 := dkwX2_count_1 ++ dktX2_count_2
def dkwX2_count_0 : List UInt8 := [42, 3, 181, 0, 59, 27]
abbrev dktX2_count_0 : List UInt8 := dkwX2_count_0 ++ dktX2_count_1
theorem dksX2_count_0 : cX2_count.data.toList.drop 0 = dktX2_count_0 := by decide +kernel
theorem dksX2_count_1 : cX2_count.data.toList.drop 6 = dktX2_count_1 := dk_seg dksX2_count_0 6 rfl rfl
theorem dksX2_count_2 : cX2_count.data.toList.drop 52 = dktX2_count_2 := dk_seg dksX2_count_1 46 rfl rfl
theorem dksX2_count_3 : cX2_count.data.toList.drop 75 = dktX2_count_3 := dk_seg dksX2_count_2 23 rfl rfl
theorem dksX2_count_4 : cX2_count.data.toList.drop 99 = dktX2_count_4 := dk_seg dksX2_count_3 24 rfl rfl
theorem dX2_count_0 : decode cX2_count 0 = .ok (.aload_n 0, 1) := dk_42 (dk_at dksX2_count_0 0 rfl rfl)
theorem dX2_count_1 : decode cX2_count 1 = .ok (.iconst 0, 1) := dk_3 (dk_at dksX2_count_0 1 rfl rfl)
theorem dX2_count_2 : decode cX2_count 2 = .ok (.putfield 59, 3) := dk_181 0 59 (dk_at dksX2_count_0 2 rfl rfl)
theorem dX2_count_5 : decode cX2_count 5 = .ok (.iload_n 1, 1) := dk_27 (dk_at dksX2_count_0 5 rfl rfl)
theorem dX2_count_6 : decode cX2_count 6 = .ok (.tableswitch 98 0 7 #[46, 53, 68, 73, 78, 83, 88, 93], 46) := by decide +kernel
theorem dX2_count_52 : decode cX2_count 52 = .ok (.aload_n 0, 1) := dk_42 (dk_at dksX2_count_2 0 rfl rfl)
theorem dX2_count_53 : decode cX2_count 53 = .ok (.getfield 7, 3) := dk_180 0 7 (dk_at dksX2_count_2 1 rfl rfl)
theorem dX2_count_56 : decode cX2_count 56 = .ok (.iconst 0, 1) := dk_3 (dk_at dksX2_count_2 4 rfl rfl)
theorem dX2_count_57 : decode cX2_count 57 = .ok (.iaload, 1) := dk_46 (dk_at dksX2_count_2 5 rfl rfl)
theorem dX2_count_58 : decode cX2_count 58 = .ok (.ireturn, 1) := dk_172 (dk_at dksX2_count_2 6 rfl rfl)
theorem dX2_count_59 : decode cX2_count 59 = .ok (.aload_n 0, 1) := dk_42 (dk_at dksX2_count_2 7 rfl rfl)
theorem dX2_count_60 : decode cX2_count 60 = .ok (.getfield 7, 3) := dk_180 0 7 (dk_at dksX2_count_2 8 rfl rfl)
theorem dX2_count_63 : decode cX2_count 63 = .ok (.iconst 1, 1) := dk_4 (dk_at dksX2_count_2 11 rfl rfl)
theorem dX2_count_64 : decode cX2_count 64 = .ok (.iaload, 1) := dk_46 (dk_at dksX2_count_2 12 rfl rfl)
theorem dX2_count_65 : decode cX2_count 65 = .ok (.ifCond .ge 7, 3) := dk_156 0 7 (dk_at dksX2_count_2 13 rfl rfl)
theorem dX2_count_68 : decode cX2_count 68 = .ok (.iconst 0, 1) := dk_3 (dk_at dksX2_count_2 16 rfl rfl)
theorem dX2_count_69 : decode cX2_count 69 = .ok (.goto 4, 3) := dk_167 0 4 (dk_at dksX2_count_2 17 rfl rfl)
theorem dX2_count_72 : decode cX2_count 72 = .ok (.iconst 1, 1) := dk_4 (dk_at dksX2_count_2 20 rfl rfl)
theorem dX2_count_73 : decode cX2_count 73 = .ok (.ireturn, 1) := dk_172 (dk_at dksX2_count_2 21 rfl rfl)
theorem dX2_count_74 : decode cX2_count 74 = .ok (.aload_n 0, 1) := dk_42 (dk_at dksX2_count_2 22 rfl rfl)
theorem dX2_count_75 : decode cX2_count 75 = .ok (.invokevirtual 203, 3) := dk_182 0 203 (dk_at dksX2_count_3 0 rfl rfl)
theorem dX2_count_78 : decode cX2_count 78 = .ok (.ireturn, 1) := dk_172 (dk_at dksX2_count_3 3 rfl rfl)
theorem dX2_count_79 : decode cX2_count 79 = .ok (.aload_n 0, 1) := dk_42 (dk_at dksX2_count_3 4 rfl rfl)
theorem dX2_count_80 : decode cX2_count 80 = .ok (.invokevirtual 206, 3) := dk_182 0 206 (dk_at dksX2_count_3 5 rfl rfl)
theorem dX2_count_83 : decode cX2_count 83 = .ok (.ireturn, 1) := dk_172 (dk_at dksX2_count_3 8 rfl rfl)
theorem dX2_count_84 : decode cX2_count 84 = .ok (.aload_n 0, 1) := dk_42 (dk_at dksX2_count_3 9 rfl rfl)
theorem dX2_count_85 : decode cX2_count 85 = .ok (.invokevirtual 209, 3) := dk_182 0 209 (dk_at dksX2_count_3 10 rfl rfl)
theorem dX2_count_88 : decode cX2_count 88 = .ok (.ireturn, 1) := dk_172 (dk_at dksX2_count_3 13 rfl rfl)
theorem dX2_count_89 : decode cX2_count 89 = .ok (.aload_n 0, 1) := dk_42 (dk_at dksX2_count_3 14 rfl rfl)
theorem dX2_count_90 : decode cX2_count 90 = .ok (.invokevirtual 212, 3) := dk_182 0 212 (dk_at dksX2_count_3 15 rfl rfl)
theorem dX2_count_93 : decode cX2_count 93 = .ok (.ireturn, 1) := dk_172 (dk_at dksX2_count_3 18 rfl rfl)
theorem dX2_count_94 : decode cX2_count 94 = .ok (.aload_n 0, 1) := dk_42 (dk_at dksX2_count_3 19 rfl rfl)
theorem dX2_count_95 : decode cX2_count 95 = .ok (.getfield 82, 3) := dk_180 0 82 (dk_at dksX2_count_3 20 rfl rfl)
theorem dX2_count_98 : decode cX2_count 98 = .ok (.ireturn, 1) := dk_172 (dk_at dksX2_count_3 23 rfl rfl)
theorem dX2_count_99 : decode cX2_count 99 = .ok (.aload_n 0, 1) := dk_42 (dk_at dksX2_count_4 0 rfl rfl)
theorem dX2_count_100 : decode cX2_count 100 = .ok (.getfield 126, 3) := dk_180 0 126 (dk_at dksX2_count_4 1 rfl rfl)
theorem dX2_count_103 : decode cX2_count 103 = .ok (.ireturn, 1) := dk_172 (dk_at dksX2_count_4 4 rfl rfl)
theorem dX2_count_104 : decode cX2_count 104 = .ok (.iconst (-1), 1) := dk_2 (dk_at dksX2_count_4 5 rfl rfl)
theorem dX2_count_105 : decode cX2_count 105 = .ok (.ireturn, 1) := dk_172 (dk_at dksX2_count_4 6 rfl rfl)
abbrev cX2_oneMany : ByteArray := prog_12_method_51_code
def yX2_oneMany : MethodName := ⟨RX2, "oneMany", "()I"⟩
def dkwX2_oneMany_1 : List UInt8 := [28, 96, 46, 96, 60, 132, 2, 1, 167, 255, 228, 27, 172]
abbrev dktX2_oneMany_1 : List UInt8 := dkwX2_oneMany_1 ++ []
def dkwX2_oneMany_0 : List UInt8 := [3, 60, 3, 61, 28, 16, 6, 42, 180, 0, 7, 3, 46, 104, 162, 0, 21, 27, 42, 180, 0, 7, 16, 36]
abbrev dktX2_oneMany_0 : List UInt8 := dkwX2_oneMany_0 ++ dktX2_oneMany_1
theorem dksX2_oneMany_0 : cX2_oneMany.data.toList.drop 0 = dktX2_oneMany_0 := by decide +kernel
theorem dksX2_oneMany_1 : cX2_oneMany.data.toList.drop 24 = dktX2_oneMany_1 := dk_seg dksX2_oneMany_0 24 rfl rfl
theorem dX2_oneMany_0 : decode cX2_oneMany 0 = .ok (.iconst 0, 1) := dk_3 (dk_at dksX2_oneMany_0 0 rfl rfl)
theorem dX2_oneMany_1 : decode cX2_oneMany 1 = .ok (.istore_n 1, 1) := dk_60 (dk_at dksX2_oneMany_0 1 rfl rfl)
theorem dX2_oneMany_2 : decode cX2_oneMany 2 = .ok (.iconst 0, 1) := dk_3 (dk_at dksX2_oneMany_0 2 rfl rfl)
theorem dX2_oneMany_3 : decode cX2_oneMany 3 = .ok (.istore_n 2, 1) := dk_61 (dk_at dksX2_oneMany_0 3 rfl rfl)
theorem dX2_oneMany_4 : decode cX2_oneMany 4 = .ok (.iload_n 2, 1) := dk_28 (dk_at dksX2_oneMany_0 4 rfl rfl)
theorem dX2_oneMany_5 : decode cX2_oneMany 5 = .ok (.bipush 6, 2) := dk_16 6 (dk_at dksX2_oneMany_0 5 rfl rfl)
theorem dX2_oneMany_7 : decode cX2_oneMany 7 = .ok (.aload_n 0, 1) := dk_42 (dk_at dksX2_oneMany_0 7 rfl rfl)
theorem dX2_oneMany_8 : decode cX2_oneMany 8 = .ok (.getfield 7, 3) := dk_180 0 7 (dk_at dksX2_oneMany_0 8 rfl rfl)
theorem dX2_oneMany_11 : decode cX2_oneMany 11 = .ok (.iconst 0, 1) := dk_3 (dk_at dksX2_oneMany_0 11 rfl rfl)
theorem dX2_oneMany_12 : decode cX2_oneMany 12 = .ok (.iaload, 1) := dk_46 (dk_at dksX2_oneMany_0 12 rfl rfl)
theorem dX2_oneMany_13 : decode cX2_oneMany 13 = .ok (.imul, 1) := dk_104 (dk_at dksX2_oneMany_0 13 rfl rfl)
theorem dX2_oneMany_14 : decode cX2_oneMany 14 = .ok (.if_icmp .ge 21, 3) := dk_162 0 21 (dk_at dksX2_oneMany_0 14 rfl rfl)
theorem dX2_oneMany_17 : decode cX2_oneMany 17 = .ok (.iload_n 1, 1) := dk_27 (dk_at dksX2_oneMany_0 17 rfl rfl)
theorem dX2_oneMany_18 : decode cX2_oneMany 18 = .ok (.aload_n 0, 1) := dk_42 (dk_at dksX2_oneMany_0 18 rfl rfl)
theorem dX2_oneMany_19 : decode cX2_oneMany 19 = .ok (.getfield 7, 3) := dk_180 0 7 (dk_at dksX2_oneMany_0 19 rfl rfl)
theorem dX2_oneMany_22 : decode cX2_oneMany 22 = .ok (.bipush 36, 2) := dk_16 36 (dk_at dksX2_oneMany_0 22 rfl rfl)
theorem dX2_oneMany_24 : decode cX2_oneMany 24 = .ok (.iload_n 2, 1) := dk_28 (dk_at dksX2_oneMany_1 0 rfl rfl)
theorem dX2_oneMany_25 : decode cX2_oneMany 25 = .ok (.iadd, 1) := dk_96 (dk_at dksX2_oneMany_1 1 rfl rfl)
theorem dX2_oneMany_26 : decode cX2_oneMany 26 = .ok (.iaload, 1) := dk_46 (dk_at dksX2_oneMany_1 2 rfl rfl)
theorem dX2_oneMany_27 : decode cX2_oneMany 27 = .ok (.iadd, 1) := dk_96 (dk_at dksX2_oneMany_1 3 rfl rfl)
theorem dX2_oneMany_28 : decode cX2_oneMany 28 = .ok (.istore_n 1, 1) := dk_60 (dk_at dksX2_oneMany_1 4 rfl rfl)
theorem dX2_oneMany_29 : decode cX2_oneMany 29 = .ok (.iinc 2 1, 3) := dk_132 2 1 (dk_at dksX2_oneMany_1 5 rfl rfl)
theorem dX2_oneMany_32 : decode cX2_oneMany 32 = .ok (.goto (-28), 3) := dk_167 255 228 (dk_at dksX2_oneMany_1 8 rfl rfl)
theorem dX2_oneMany_35 : decode cX2_oneMany 35 = .ok (.iload_n 1, 1) := dk_27 (dk_at dksX2_oneMany_1 11 rfl rfl)
theorem dX2_oneMany_36 : decode cX2_oneMany 36 = .ok (.ireturn, 1) := dk_172 (dk_at dksX2_oneMany_1 12 rfl rfl)
abbrev cX2_turnedMany : ByteArray := prog_12_method_50_code
def yX2_turnedMany : MethodName := ⟨RX2, "turnedMany", "()I"⟩
def dkwX2_turnedMany_5 : List UInt8 := [132, 2, 1, 167, 255, 145, 27, 172]
abbrev dktX2_turnedMany_5 : List UInt8 := dkwX2_turnedMany_5 ++ []
def dkwX2_turnedMany_4 : List UInt8 := [184, 0, 63, 6, 160, 0, 10, 42, 180, 0, 175, 167, 0, 8, 42, 180, 0, 175, 116, 181, 0, 175]
abbrev dktX2_turnedMany_4 : List UInt8 := dkwX2_turnedMany_4 ++ dktX2_turnedMany_5
def dkwX2_turnedMany_3 : List UInt8 := [21, 4, 100, 122, 4, 126, 160, 0, 7, 3, 167, 0, 4, 4, 96, 60, 132, 4, 1, 167, 255, 212, 42, 29]
abbrev dktX2_turnedMany_3 : List UInt8 := dkwX2_turnedMany_3 ++ dktX2_turnedMany_4
def dkwX2_turnedMany_2 : List UInt8 := [16, 6, 162, 0, 43, 27, 42, 180, 0, 7, 16, 36, 16, 6, 28, 104, 96, 21, 4, 96, 46, 29, 8]
abbrev dktX2_turnedMany_2 : List UInt8 := dkwX2_turnedMany_2 ++ dktX2_turnedMany_3
def dkwX2_turnedMany_1 : List UInt8 := [28, 96, 46, 42, 180, 0, 175, 156, 0, 7, 3, 167, 0, 4, 4, 184, 0, 79, 62, 3, 54, 4, 21, 4]
abbrev dktX2_turnedMany_1 : List UInt8 := dkwX2_turnedMany_1 ++ dktX2_turnedMany_2
def dkwX2_turnedMany_0 : List UInt8 := [3, 60, 42, 2, 181, 0, 175, 3, 61, 28, 42, 180, 0, 7, 3, 46, 162, 0, 107, 42, 180, 0, 7, 7]
abbrev dktX2_turnedMany_0 : List UInt8 := dkwX2_turnedMany_0 ++ dktX2_turnedMany_1
theorem dksX2_turnedMany_0 : cX2_turnedMany.data.toList.drop 0 = dktX2_turnedMany_0 := by decide +kernel
theorem dksX2_turnedMany_1 : cX2_turnedMany.data.toList.drop 24 = dktX2_turnedMany_1 := dk_seg dksX2_turnedMany_0 24 rfl rfl
theorem dksX2_turnedMany_2 : cX2_turnedMany.data.toList.drop 48 = dktX2_turnedMany_2 := dk_seg dksX2_turnedMany_1 24 rfl rfl
theorem dksX2_turnedMany_3 : cX2_turnedMany.data.toList.drop 71 = dktX2_turnedMany_3 := dk_seg dksX2_turnedMany_2 23 rfl rfl
theorem dksX2_turnedMany_4 : cX2_turnedMany.data.toList.drop 95 = dktX2_turnedMany_4 := dk_seg dksX2_turnedMany_3 24 rfl rfl
theorem dksX2_turnedMany_5 : cX2_turnedMany.data.toList.drop 117 = dktX2_turnedMany_5 := dk_seg dksX2_turnedMany_4 22 rfl rfl
theorem dX2_turnedMany_0 : decode cX2_turnedMany 0 = .ok (.iconst 0, 1) := dk_3 (dk_at dksX2_turnedMany_0 0 rfl rfl)
theorem dX2_turnedMany_1 : decode cX2_turnedMany 1 = .ok (.istore_n 1, 1) := dk_60 (dk_at dksX2_turnedMany_0 1 rfl rfl)
theorem dX2_turnedMany_2 : decode cX2_turnedMany 2 = .ok (.aload_n 0, 1) := dk_42 (dk_at dksX2_turnedMany_0 2 rfl rfl)
theorem dX2_turnedMany_3 : decode cX2_turnedMany 3 = .ok (.iconst (-1), 1) := dk_2 (dk_at dksX2_turnedMany_0 3 rfl rfl)
theorem dX2_turnedMany_4 : decode cX2_turnedMany 4 = .ok (.putfield 175, 3) := dk_181 0 175 (dk_at dksX2_turnedMany_0 4 rfl rfl)
theorem dX2_turnedMany_7 : decode cX2_turnedMany 7 = .ok (.iconst 0, 1) := dk_3 (dk_at dksX2_turnedMany_0 7 rfl rfl)
theorem dX2_turnedMany_8 : decode cX2_turnedMany 8 = .ok (.istore_n 2, 1) := dk_61 (dk_at dksX2_turnedMany_0 8 rfl rfl)
theorem dX2_turnedMany_9 : decode cX2_turnedMany 9 = .ok (.iload_n 2, 1) := dk_28 (dk_at dksX2_turnedMany_0 9 rfl rfl)
theorem dX2_turnedMany_10 : decode cX2_turnedMany 10 = .ok (.aload_n 0, 1) := dk_42 (dk_at dksX2_turnedMany_0 10 rfl rfl)
theorem dX2_turnedMany_11 : decode cX2_turnedMany 11 = .ok (.getfield 7, 3) := dk_180 0 7 (dk_at dksX2_turnedMany_0 11 rfl rfl)
theorem dX2_turnedMany_14 : decode cX2_turnedMany 14 = .ok (.iconst 0, 1) := dk_3 (dk_at dksX2_turnedMany_0 14 rfl rfl)
theorem dX2_turnedMany_15 : decode cX2_turnedMany 15 = .ok (.iaload, 1) := dk_46 (dk_at dksX2_turnedMany_0 15 rfl rfl)
theorem dX2_turnedMany_16 : decode cX2_turnedMany 16 = .ok (.if_icmp .ge 107, 3) := dk_162 0 107 (dk_at dksX2_turnedMany_0 16 rfl rfl)
theorem dX2_turnedMany_19 : decode cX2_turnedMany 19 = .ok (.aload_n 0, 1) := dk_42 (dk_at dksX2_turnedMany_0 19 rfl rfl)
theorem dX2_turnedMany_20 : decode cX2_turnedMany 20 = .ok (.getfield 7, 3) := dk_180 0 7 (dk_at dksX2_turnedMany_0 20 rfl rfl)
theorem dX2_turnedMany_23 : decode cX2_turnedMany 23 = .ok (.iconst 4, 1) := dk_7 (dk_at dksX2_turnedMany_0 23 rfl rfl)
theorem dX2_turnedMany_24 : decode cX2_turnedMany 24 = .ok (.iload_n 2, 1) := dk_28 (dk_at dksX2_turnedMany_1 0 rfl rfl)
theorem dX2_turnedMany_25 : decode cX2_turnedMany 25 = .ok (.iadd, 1) := dk_96 (dk_at dksX2_turnedMany_1 1 rfl rfl)
theorem dX2_turnedMany_26 : decode cX2_turnedMany 26 = .ok (.iaload, 1) := dk_46 (dk_at dksX2_turnedMany_1 2 rfl rfl)
theorem dX2_turnedMany_27 : decode cX2_turnedMany 27 = .ok (.aload_n 0, 1) := dk_42 (dk_at dksX2_turnedMany_1 3 rfl rfl)
theorem dX2_turnedMany_28 : decode cX2_turnedMany 28 = .ok (.getfield 175, 3) := dk_180 0 175 (dk_at dksX2_turnedMany_1 4 rfl rfl)
theorem dX2_turnedMany_31 : decode cX2_turnedMany 31 = .ok (.ifCond .ge 7, 3) := dk_156 0 7 (dk_at dksX2_turnedMany_1 7 rfl rfl)
theorem dX2_turnedMany_34 : decode cX2_turnedMany 34 = .ok (.iconst 0, 1) := dk_3 (dk_at dksX2_turnedMany_1 10 rfl rfl)
theorem dX2_turnedMany_35 : decode cX2_turnedMany 35 = .ok (.goto 4, 3) := dk_167 0 4 (dk_at dksX2_turnedMany_1 11 rfl rfl)
theorem dX2_turnedMany_38 : decode cX2_turnedMany 38 = .ok (.iconst 1, 1) := dk_4 (dk_at dksX2_turnedMany_1 14 rfl rfl)
theorem dX2_turnedMany_39 : decode cX2_turnedMany 39 = .ok (.invokestatic 79, 3) := dk_184 0 79 (dk_at dksX2_turnedMany_1 15 rfl rfl)
theorem dX2_turnedMany_42 : decode cX2_turnedMany 42 = .ok (.istore_n 3, 1) := dk_62 (dk_at dksX2_turnedMany_1 18 rfl rfl)
theorem dX2_turnedMany_43 : decode cX2_turnedMany 43 = .ok (.iconst 0, 1) := dk_3 (dk_at dksX2_turnedMany_1 19 rfl rfl)
theorem dX2_turnedMany_44 : decode cX2_turnedMany 44 = .ok (.istore 4, 2) := dk_54 4 (dk_at dksX2_turnedMany_1 20 rfl rfl)
theorem dX2_turnedMany_46 : decode cX2_turnedMany 46 = .ok (.iload 4, 2) := dk_21 4 (dk_at dksX2_turnedMany_1 22 rfl rfl)
theorem dX2_turnedMany_48 : decode cX2_turnedMany 48 = .ok (.bipush 6, 2) := dk_16 6 (dk_at dksX2_turnedMany_2 0 rfl rfl)
theorem dX2_turnedMany_50 : decode cX2_turnedMany 50 = .ok (.if_icmp .ge 43, 3) := dk_162 0 43 (dk_at dksX2_turnedMany_2 2 rfl rfl)
theorem dX2_turnedMany_53 : decode cX2_turnedMany 53 = .ok (.iload_n 1, 1) := dk_27 (dk_at dksX2_turnedMany_2 5 rfl rfl)
theorem dX2_turnedMany_54 : decode cX2_turnedMany 54 = .ok (.aload_n 0, 1) := dk_42 (dk_at dksX2_turnedMany_2 6 rfl rfl)
theorem dX2_turnedMany_55 : decode cX2_turnedMany 55 = .ok (.getfield 7, 3) := dk_180 0 7 (dk_at dksX2_turnedMany_2 7 rfl rfl)
theorem dX2_turnedMany_58 : decode cX2_turnedMany 58 = .ok (.bipush 36, 2) := dk_16 36 (dk_at dksX2_turnedMany_2 10 rfl rfl)
theorem dX2_turnedMany_60 : decode cX2_turnedMany 60 = .ok (.bipush 6, 2) := dk_16 6 (dk_at dksX2_turnedMany_2 12 rfl rfl)
theorem dX2_turnedMany_62 : decode cX2_turnedMany 62 = .ok (.iload_n 2, 1) := dk_28 (dk_at dksX2_turnedMany_2 14 rfl rfl)
theorem dX2_turnedMany_63 : decode cX2_turnedMany 63 = .ok (.imul, 1) := dk_104 (dk_at dksX2_turnedMany_2 15 rfl rfl)
theorem dX2_turnedMany_64 : decode cX2_turnedMany 64 = .ok (.iadd, 1) := dk_96 (dk_at dksX2_turnedMany_2 16 rfl rfl)
theorem dX2_turnedMany_65 : decode cX2_turnedMany 65 = .ok (.iload 4, 2) := dk_21 4 (dk_at dksX2_turnedMany_2 17 rfl rfl)
theorem dX2_turnedMany_67 : decode cX2_turnedMany 67 = .ok (.iadd, 1) := dk_96 (dk_at dksX2_turnedMany_2 19 rfl rfl)
theorem dX2_turnedMany_68 : decode cX2_turnedMany 68 = .ok (.iaload, 1) := dk_46 (dk_at dksX2_turnedMany_2 20 rfl rfl)
theorem dX2_turnedMany_69 : decode cX2_turnedMany 69 = .ok (.iload_n 3, 1) := dk_29 (dk_at dksX2_turnedMany_2 21 rfl rfl)
theorem dX2_turnedMany_70 : decode cX2_turnedMany 70 = .ok (.iconst 5, 1) := dk_8 (dk_at dksX2_turnedMany_2 22 rfl rfl)
theorem dX2_turnedMany_71 : decode cX2_turnedMany 71 = .ok (.iload 4, 2) := dk_21 4 (dk_at dksX2_turnedMany_3 0 rfl rfl)
theorem dX2_turnedMany_73 : decode cX2_turnedMany 73 = .ok (.isub, 1) := dk_100 (dk_at dksX2_turnedMany_3 2 rfl rfl)
theorem dX2_turnedMany_74 : decode cX2_turnedMany 74 = .ok (.ishr, 1) := dk_122 (dk_at dksX2_turnedMany_3 3 rfl rfl)
theorem dX2_turnedMany_75 : decode cX2_turnedMany 75 = .ok (.iconst 1, 1) := dk_4 (dk_at dksX2_turnedMany_3 4 rfl rfl)
theorem dX2_turnedMany_76 : decode cX2_turnedMany 76 = .ok (.iand, 1) := dk_126 (dk_at dksX2_turnedMany_3 5 rfl rfl)
theorem dX2_turnedMany_77 : decode cX2_turnedMany 77 = .ok (.if_icmp .ne 7, 3) := dk_160 0 7 (dk_at dksX2_turnedMany_3 6 rfl rfl)
theorem dX2_turnedMany_80 : decode cX2_turnedMany 80 = .ok (.iconst 0, 1) := dk_3 (dk_at dksX2_turnedMany_3 9 rfl rfl)
theorem dX2_turnedMany_81 : decode cX2_turnedMany 81 = .ok (.goto 4, 3) := dk_167 0 4 (dk_at dksX2_turnedMany_3 10 rfl rfl)
theorem dX2_turnedMany_84 : decode cX2_turnedMany 84 = .ok (.iconst 1, 1) := dk_4 (dk_at dksX2_turnedMany_3 13 rfl rfl)
theorem dX2_turnedMany_85 : decode cX2_turnedMany 85 = .ok (.iadd, 1) := dk_96 (dk_at dksX2_turnedMany_3 14 rfl rfl)
theorem dX2_turnedMany_86 : decode cX2_turnedMany 86 = .ok (.istore_n 1, 1) := dk_60 (dk_at dksX2_turnedMany_3 15 rfl rfl)
theorem dX2_turnedMany_87 : decode cX2_turnedMany 87 = .ok (.iinc 4 1, 3) := dk_132 4 1 (dk_at dksX2_turnedMany_3 16 rfl rfl)
theorem dX2_turnedMany_90 : decode cX2_turnedMany 90 = .ok (.goto (-44), 3) := dk_167 255 212 (dk_at dksX2_turnedMany_3 19 rfl rfl)
theorem dX2_turnedMany_93 : decode cX2_turnedMany 93 = .ok (.aload_n 0, 1) := dk_42 (dk_at dksX2_turnedMany_3 22 rfl rfl)
theorem dX2_turnedMany_94 : decode cX2_turnedMany 94 = .ok (.iload_n 3, 1) := dk_29 (dk_at dksX2_turnedMany_3 23 rfl rfl)
theorem dX2_turnedMany_95 : decode cX2_turnedMany 95 = .ok (.invokestatic 63, 3) := dk_184 0 63 (dk_at dksX2_turnedMany_4 0 rfl rfl)
theorem dX2_turnedMany_98 : decode cX2_turnedMany 98 = .ok (.iconst 3, 1) := dk_6 (dk_at dksX2_turnedMany_4 3 rfl rfl)
theorem dX2_turnedMany_99 : decode cX2_turnedMany 99 = .ok (.if_icmp .ne 10, 3) := dk_160 0 10 (dk_at dksX2_turnedMany_4 4 rfl rfl)
theorem dX2_turnedMany_102 : decode cX2_turnedMany 102 = .ok (.aload_n 0, 1) := dk_42 (dk_at dksX2_turnedMany_4 7 rfl rfl)
theorem dX2_turnedMany_103 : decode cX2_turnedMany 103 = .ok (.getfield 175, 3) := dk_180 0 175 (dk_at dksX2_turnedMany_4 8 rfl rfl)
theorem dX2_turnedMany_106 : decode cX2_turnedMany 106 = .ok (.goto 8, 3) := dk_167 0 8 (dk_at dksX2_turnedMany_4 11 rfl rfl)
theorem dX2_turnedMany_109 : decode cX2_turnedMany 109 = .ok (.aload_n 0, 1) := dk_42 (dk_at dksX2_turnedMany_4 14 rfl rfl)
theorem dX2_turnedMany_110 : decode cX2_turnedMany 110 = .ok (.getfield 175, 3) := dk_180 0 175 (dk_at dksX2_turnedMany_4 15 rfl rfl)
theorem dX2_turnedMany_113 : decode cX2_turnedMany 113 = .ok (.ineg, 1) := dk_116 (dk_at dksX2_turnedMany_4 18 rfl rfl)
theorem dX2_turnedMany_114 : decode cX2_turnedMany 114 = .ok (.putfield 175, 3) := dk_181 0 175 (dk_at dksX2_turnedMany_4 19 rfl rfl)
theorem dX2_turnedMany_117 : decode cX2_turnedMany 117 = .ok (.iinc 2 1, 3) := dk_132 2 1 (dk_at dksX2_turnedMany_5 0 rfl rfl)
theorem dX2_turnedMany_120 : decode cX2_turnedMany 120 = .ok (.goto (-111), 3) := dk_167 255 145 (dk_at dksX2_turnedMany_5 3 rfl rfl)
theorem dX2_turnedMany_123 : decode cX2_turnedMany 123 = .ok (.iload_n 1, 1) := dk_27 (dk_at dksX2_turnedMany_5 6 rfl rfl)
theorem dX2_turnedMany_124 : decode cX2_turnedMany 124 = .ok (.ireturn, 1) := dk_172 (dk_at dksX2_turnedMany_5 7 rfl rfl)
abbrev cX2_longest : ByteArray := prog_12_method_40_code
def yX2_longest : MethodName := ⟨RX2, "longest", "()I"⟩
def dkwX2_longest_3 : List UInt8 := [172]
abbrev dktX2_longest_3 : List UInt8 := dkwX2_longest_3 ++ []
def dkwX2_longest_2 : List UInt8 := [96, 167, 0, 4, 4, 61, 28, 27, 164, 0, 7, 28, 167, 0, 4, 27, 60, 132, 3, 1, 167, 255, 194, 27]
abbrev dktX2_longest_2 : List UInt8 := dkwX2_longest_2 ++ dktX2_longest_3
def dkwX2_longest_1 : List UInt8 := [180, 0, 7, 16, 36, 29, 96, 46, 42, 180, 0, 7, 16, 36, 29, 96, 4, 100, 46, 160, 0, 9, 28, 4]
abbrev dktX2_longest_1 : List UInt8 := dkwX2_longest_1 ++ dktX2_longest_2
def dkwX2_longest_0 : List UInt8 := [3, 60, 3, 61, 3, 62, 29, 16, 6, 42, 180, 0, 7, 3, 46, 104, 162, 0, 55, 29, 158, 0, 32, 42]
abbrev dktX2_longest_0 : List UInt8 := dkwX2_longest_0 ++ dktX2_longest_1
theorem dksX2_longest_0 : cX2_longest.data.toList.drop 0 = dktX2_longest_0 := by decide +kernel
theorem dksX2_longest_1 : cX2_longest.data.toList.drop 24 = dktX2_longest_1 := dk_seg dksX2_longest_0 24 rfl rfl
theorem dksX2_longest_2 : cX2_longest.data.toList.drop 48 = dktX2_longest_2 := dk_seg dksX2_longest_1 24 rfl rfl
theorem dksX2_longest_3 : cX2_longest.data.toList.drop 72 = dktX2_longest_3 := dk_seg dksX2_longest_2 24 rfl rfl
theorem dX2_longest_0 : decode cX2_longest 0 = .ok (.iconst 0, 1) := dk_3 (dk_at dksX2_longest_0 0 rfl rfl)
theorem dX2_longest_1 : decode cX2_longest 1 = .ok (.istore_n 1, 1) := dk_60 (dk_at dksX2_longest_0 1 rfl rfl)
theorem dX2_longest_2 : decode cX2_longest 2 = .ok (.iconst 0, 1) := dk_3 (dk_at dksX2_longest_0 2 rfl rfl)
theorem dX2_longest_3 : decode cX2_longest 3 = .ok (.istore_n 2, 1) := dk_61 (dk_at dksX2_longest_0 3 rfl rfl)
theorem dX2_longest_4 : decode cX2_longest 4 = .ok (.iconst 0, 1) := dk_3 (dk_at dksX2_longest_0 4 rfl rfl)
theorem dX2_longest_5 : decode cX2_longest 5 = .ok (.istore_n 3, 1) := dk_62 (dk_at dksX2_longest_0 5 rfl rfl)
theorem dX2_longest_6 : decode cX2_longest 6 = .ok (.iload_n 3, 1) := dk_29 (dk_at dksX2_longest_0 6 rfl rfl)
theorem dX2_longest_7 : decode cX2_longest 7 = .ok (.bipush 6, 2) := dk_16 6 (dk_at dksX2_longest_0 7 rfl rfl)
theorem dX2_longest_9 : decode cX2_longest 9 = .ok (.aload_n 0, 1) := dk_42 (dk_at dksX2_longest_0 9 rfl rfl)
theorem dX2_longest_10 : decode cX2_longest 10 = .ok (.getfield 7, 3) := dk_180 0 7 (dk_at dksX2_longest_0 10 rfl rfl)
theorem dX2_longest_13 : decode cX2_longest 13 = .ok (.iconst 0, 1) := dk_3 (dk_at dksX2_longest_0 13 rfl rfl)
theorem dX2_longest_14 : decode cX2_longest 14 = .ok (.iaload, 1) := dk_46 (dk_at dksX2_longest_0 14 rfl rfl)
theorem dX2_longest_15 : decode cX2_longest 15 = .ok (.imul, 1) := dk_104 (dk_at dksX2_longest_0 15 rfl rfl)
theorem dX2_longest_16 : decode cX2_longest 16 = .ok (.if_icmp .ge 55, 3) := dk_162 0 55 (dk_at dksX2_longest_0 16 rfl rfl)
theorem dX2_longest_19 : decode cX2_longest 19 = .ok (.iload_n 3, 1) := dk_29 (dk_at dksX2_longest_0 19 rfl rfl)
theorem dX2_longest_20 : decode cX2_longest 20 = .ok (.ifCond .le 32, 3) := dk_158 0 32 (dk_at dksX2_longest_0 20 rfl rfl)
theorem dX2_longest_23 : decode cX2_longest 23 = .ok (.aload_n 0, 1) := dk_42 (dk_at dksX2_longest_0 23 rfl rfl)
theorem dX2_longest_24 : decode cX2_longest 24 = .ok (.getfield 7, 3) := dk_180 0 7 (dk_at dksX2_longest_1 0 rfl rfl)
theorem dX2_longest_27 : decode cX2_longest 27 = .ok (.bipush 36, 2) := dk_16 36 (dk_at dksX2_longest_1 3 rfl rfl)
theorem dX2_longest_29 : decode cX2_longest 29 = .ok (.iload_n 3, 1) := dk_29 (dk_at dksX2_longest_1 5 rfl rfl)
theorem dX2_longest_30 : decode cX2_longest 30 = .ok (.iadd, 1) := dk_96 (dk_at dksX2_longest_1 6 rfl rfl)
theorem dX2_longest_31 : decode cX2_longest 31 = .ok (.iaload, 1) := dk_46 (dk_at dksX2_longest_1 7 rfl rfl)
theorem dX2_longest_32 : decode cX2_longest 32 = .ok (.aload_n 0, 1) := dk_42 (dk_at dksX2_longest_1 8 rfl rfl)
theorem dX2_longest_33 : decode cX2_longest 33 = .ok (.getfield 7, 3) := dk_180 0 7 (dk_at dksX2_longest_1 9 rfl rfl)
theorem dX2_longest_36 : decode cX2_longest 36 = .ok (.bipush 36, 2) := dk_16 36 (dk_at dksX2_longest_1 12 rfl rfl)
theorem dX2_longest_38 : decode cX2_longest 38 = .ok (.iload_n 3, 1) := dk_29 (dk_at dksX2_longest_1 14 rfl rfl)
theorem dX2_longest_39 : decode cX2_longest 39 = .ok (.iadd, 1) := dk_96 (dk_at dksX2_longest_1 15 rfl rfl)
theorem dX2_longest_40 : decode cX2_longest 40 = .ok (.iconst 1, 1) := dk_4 (dk_at dksX2_longest_1 16 rfl rfl)
theorem dX2_longest_41 : decode cX2_longest 41 = .ok (.isub, 1) := dk_100 (dk_at dksX2_longest_1 17 rfl rfl)
theorem dX2_longest_42 : decode cX2_longest 42 = .ok (.iaload, 1) := dk_46 (dk_at dksX2_longest_1 18 rfl rfl)
theorem dX2_longest_43 : decode cX2_longest 43 = .ok (.if_icmp .ne 9, 3) := dk_160 0 9 (dk_at dksX2_longest_1 19 rfl rfl)
theorem dX2_longest_46 : decode cX2_longest 46 = .ok (.iload_n 2, 1) := dk_28 (dk_at dksX2_longest_1 22 rfl rfl)
theorem dX2_longest_47 : decode cX2_longest 47 = .ok (.iconst 1, 1) := dk_4 (dk_at dksX2_longest_1 23 rfl rfl)
theorem dX2_longest_48 : decode cX2_longest 48 = .ok (.iadd, 1) := dk_96 (dk_at dksX2_longest_2 0 rfl rfl)
theorem dX2_longest_49 : decode cX2_longest 49 = .ok (.goto 4, 3) := dk_167 0 4 (dk_at dksX2_longest_2 1 rfl rfl)
theorem dX2_longest_52 : decode cX2_longest 52 = .ok (.iconst 1, 1) := dk_4 (dk_at dksX2_longest_2 4 rfl rfl)
theorem dX2_longest_53 : decode cX2_longest 53 = .ok (.istore_n 2, 1) := dk_61 (dk_at dksX2_longest_2 5 rfl rfl)
theorem dX2_longest_54 : decode cX2_longest 54 = .ok (.iload_n 2, 1) := dk_28 (dk_at dksX2_longest_2 6 rfl rfl)
theorem dX2_longest_55 : decode cX2_longest 55 = .ok (.iload_n 1, 1) := dk_27 (dk_at dksX2_longest_2 7 rfl rfl)
theorem dX2_longest_56 : decode cX2_longest 56 = .ok (.if_icmp .le 7, 3) := dk_164 0 7 (dk_at dksX2_longest_2 8 rfl rfl)
theorem dX2_longest_59 : decode cX2_longest 59 = .ok (.iload_n 2, 1) := dk_28 (dk_at dksX2_longest_2 11 rfl rfl)
theorem dX2_longest_60 : decode cX2_longest 60 = .ok (.goto 4, 3) := dk_167 0 4 (dk_at dksX2_longest_2 12 rfl rfl)
theorem dX2_longest_63 : decode cX2_longest 63 = .ok (.iload_n 1, 1) := dk_27 (dk_at dksX2_longest_2 15 rfl rfl)
theorem dX2_longest_64 : decode cX2_longest 64 = .ok (.istore_n 1, 1) := dk_60 (dk_at dksX2_longest_2 16 rfl rfl)
theorem dX2_longest_65 : decode cX2_longest 65 = .ok (.iinc 3 1, 3) := dk_132 3 1 (dk_at dksX2_longest_2 17 rfl rfl)
theorem dX2_longest_68 : decode cX2_longest 68 = .ok (.goto (-62), 3) := dk_167 255 194 (dk_at dksX2_longest_2 20 rfl rfl)
theorem dX2_longest_71 : decode cX2_longest 71 = .ok (.iload_n 1, 1) := dk_27 (dk_at dksX2_longest_2 23 rfl rfl)
theorem dX2_longest_72 : decode cX2_longest 72 = .ok (.ireturn, 1) := dk_172 (dk_at dksX2_longest_3 0 rfl rfl)
abbrev cX2_markMany : ByteArray := prog_12_method_52_code
def yX2_markMany : MethodName := ⟨RX2, "markMany", "()I"⟩
def dkwX2_markMany_1 : List UInt8 := [16, 30, 164, 0, 7, 4, 167, 0, 4, 3, 96, 60, 132, 2, 1, 167, 255, 222, 27, 172]
abbrev dktX2_markMany_1 : List UInt8 := dkwX2_markMany_1 ++ []
def dkwX2_markMany_0 : List UInt8 := [3, 60, 3, 61, 28, 42, 180, 0, 7, 3, 46, 162, 0, 30, 27, 42, 180, 0, 7, 7, 28, 96, 46]
abbrev dktX2_markMany_0 : List UInt8 := dkwX2_markMany_0 ++ dktX2_markMany_1
theorem dksX2_markMany_0 : cX2_markMany.data.toList.drop 0 = dktX2_markMany_0 := by decide +kernel
theorem dksX2_markMany_1 : cX2_markMany.data.toList.drop 23 = dktX2_markMany_1 := dk_seg dksX2_markMany_0 23 rfl rfl
theorem dX2_markMany_0 : decode cX2_markMany 0 = .ok (.iconst 0, 1) := dk_3 (dk_at dksX2_markMany_0 0 rfl rfl)
theorem dX2_markMany_1 : decode cX2_markMany 1 = .ok (.istore_n 1, 1) := dk_60 (dk_at dksX2_markMany_0 1 rfl rfl)
theorem dX2_markMany_2 : decode cX2_markMany 2 = .ok (.iconst 0, 1) := dk_3 (dk_at dksX2_markMany_0 2 rfl rfl)
theorem dX2_markMany_3 : decode cX2_markMany 3 = .ok (.istore_n 2, 1) := dk_61 (dk_at dksX2_markMany_0 3 rfl rfl)
theorem dX2_markMany_4 : decode cX2_markMany 4 = .ok (.iload_n 2, 1) := dk_28 (dk_at dksX2_markMany_0 4 rfl rfl)
theorem dX2_markMany_5 : decode cX2_markMany 5 = .ok (.aload_n 0, 1) := dk_42 (dk_at dksX2_markMany_0 5 rfl rfl)
theorem dX2_markMany_6 : decode cX2_markMany 6 = .ok (.getfield 7, 3) := dk_180 0 7 (dk_at dksX2_markMany_0 6 rfl rfl)
theorem dX2_markMany_9 : decode cX2_markMany 9 = .ok (.iconst 0, 1) := dk_3 (dk_at dksX2_markMany_0 9 rfl rfl)
theorem dX2_markMany_10 : decode cX2_markMany 10 = .ok (.iaload, 1) := dk_46 (dk_at dksX2_markMany_0 10 rfl rfl)
theorem dX2_markMany_11 : decode cX2_markMany 11 = .ok (.if_icmp .ge 30, 3) := dk_162 0 30 (dk_at dksX2_markMany_0 11 rfl rfl)
theorem dX2_markMany_14 : decode cX2_markMany 14 = .ok (.iload_n 1, 1) := dk_27 (dk_at dksX2_markMany_0 14 rfl rfl)
theorem dX2_markMany_15 : decode cX2_markMany 15 = .ok (.aload_n 0, 1) := dk_42 (dk_at dksX2_markMany_0 15 rfl rfl)
theorem dX2_markMany_16 : decode cX2_markMany 16 = .ok (.getfield 7, 3) := dk_180 0 7 (dk_at dksX2_markMany_0 16 rfl rfl)
theorem dX2_markMany_19 : decode cX2_markMany 19 = .ok (.iconst 4, 1) := dk_7 (dk_at dksX2_markMany_0 19 rfl rfl)
theorem dX2_markMany_20 : decode cX2_markMany 20 = .ok (.iload_n 2, 1) := dk_28 (dk_at dksX2_markMany_0 20 rfl rfl)
theorem dX2_markMany_21 : decode cX2_markMany 21 = .ok (.iadd, 1) := dk_96 (dk_at dksX2_markMany_0 21 rfl rfl)
theorem dX2_markMany_22 : decode cX2_markMany 22 = .ok (.iaload, 1) := dk_46 (dk_at dksX2_markMany_0 22 rfl rfl)
theorem dX2_markMany_23 : decode cX2_markMany 23 = .ok (.bipush 30, 2) := dk_16 30 (dk_at dksX2_markMany_1 0 rfl rfl)
theorem dX2_markMany_25 : decode cX2_markMany 25 = .ok (.if_icmp .le 7, 3) := dk_164 0 7 (dk_at dksX2_markMany_1 2 rfl rfl)
theorem dX2_markMany_28 : decode cX2_markMany 28 = .ok (.iconst 1, 1) := dk_4 (dk_at dksX2_markMany_1 5 rfl rfl)
theorem dX2_markMany_29 : decode cX2_markMany 29 = .ok (.goto 4, 3) := dk_167 0 4 (dk_at dksX2_markMany_1 6 rfl rfl)
theorem dX2_markMany_32 : decode cX2_markMany 32 = .ok (.iconst 0, 1) := dk_3 (dk_at dksX2_markMany_1 9 rfl rfl)
theorem dX2_markMany_33 : decode cX2_markMany 33 = .ok (.iadd, 1) := dk_96 (dk_at dksX2_markMany_1 10 rfl rfl)
theorem dX2_markMany_34 : decode cX2_markMany 34 = .ok (.istore_n 1, 1) := dk_60 (dk_at dksX2_markMany_1 11 rfl rfl)
theorem dX2_markMany_35 : decode cX2_markMany 35 = .ok (.iinc 2 1, 3) := dk_132 2 1 (dk_at dksX2_markMany_1 12 rfl rfl)
theorem dX2_markMany_38 : decode cX2_markMany 38 = .ok (.goto (-34), 3) := dk_167 255 222 (dk_at dksX2_markMany_1 15 rfl rfl)
theorem dX2_markMany_41 : decode cX2_markMany 41 = .ok (.iload_n 1, 1) := dk_27 (dk_at dksX2_markMany_1 18 rfl rfl)
theorem dX2_markMany_42 : decode cX2_markMany 42 = .ok (.ireturn, 1) := dk_172 (dk_at dksX2_markMany_1 19 rfl rfl)
theorem q57 : (Jvm.Cond.initialized "EvenWordsModel") ∈ lw_all := lw_g (lw_at lw_m1 5 rfl) rfl
theorem q552 : (Jvm.Cond.selects "EvenWordsModel" ({ cls := "java/lang/Object", name := "hashCode", desc := "()I" } : Jvm.MethodName) ({ cls := "java/lang/Object", name := "hashCode", desc := "()I" } : Jvm.MethodName)) ∈ lw_all := lw_g (lw_at lw_m3 20 rfl) rfl
theorem q733 : (Jvm.Cond.selects "EvenWordsModel" ({ cls := "java/lang/Object", name := "getClass", desc := "()Ljava/lang/Class;" } : Jvm.MethodName) ({ cls := "java/lang/Object", name := "getClass", desc := "()Ljava/lang/Class;" } : Jvm.MethodName)) ∈ lw_all := lw_g (lw_at lw_m3 201 rfl) rfl
theorem q957 : (Jvm.Cond.selects "EvenWordsModel" ({ cls := "java/lang/Object", name := "equals", desc := "(Ljava/lang/Object;)Z" } : Jvm.MethodName) ({ cls := "java/lang/Object", name := "equals", desc := "(Ljava/lang/Object;)Z" } : Jvm.MethodName)) ∈ lw_all := lw_g (lw_at lw_m4 185 rfl) rfl
theorem q1560 : (Jvm.Cond.instantiable "EvenWordsModel" (32 : Nat)) ∈ lw_all := lw_g (lw_at lw_m7 68 rfl) rfl
theorem q1562 : (Jvm.Cond.instanceMethod ({ cls := "EvenWordsModel", name := "<init>", desc := "()V" } : Jvm.MethodName)) ∈ lw_all := lw_g (lw_at lw_m7 70 rfl) rfl
theorem q1563 : (Jvm.Cond.code ({ cls := "EvenWordsModel", name := "<init>", desc := "()V" } : Jvm.MethodName) prog_12_method_1_code (1 : Nat) (Option.none : Option Jvm.ClassFile.FieldType)) ∈ lw_all := lw_g (lw_at lw_m7 71 rfl) rfl
theorem q1564 : (Jvm.Cond.methodLink "EvenWordsModel" (1 : Nat) ({ cls := "java/lang/Object", name := "<init>", desc := "()V" } : Jvm.MethodName)) ∈ lw_all := lw_g (lw_at lw_m7 72 rfl) rfl
theorem q1565 : (Jvm.Cond.methodLink "EvenWordsModel" (56 : Nat) ({ cls := "EvenWordsModel", name := "bares", desc := "()V" } : Jvm.MethodName)) ∈ lw_all := lw_g (lw_at lw_m7 73 rfl) rfl
theorem q1566 : (Jvm.Cond.privateMethod ({ cls := "EvenWordsModel", name := "bares", desc := "()V" } : Jvm.MethodName)) ∈ lw_tbl := lw_at lw_m7 74 rfl
theorem q1567 : (Jvm.Cond.instanceMethod ({ cls := "EvenWordsModel", name := "bares", desc := "()V" } : Jvm.MethodName)) ∈ lw_all := lw_g (lw_at lw_m7 75 rfl) rfl
theorem q1568 : (Jvm.Cond.code ({ cls := "EvenWordsModel", name := "bares", desc := "()V" } : Jvm.MethodName) prog_12_method_2_code (2 : Nat) (Option.none : Option Jvm.ClassFile.FieldType)) ∈ lw_all := lw_g (lw_at lw_m7 76 rfl) rfl
theorem q1569 : (Jvm.Cond.fieldLink "EvenWordsModel" (59 : Nat) "EvenWordsModel" "thrown" "I") ∈ lw_all := lw_g (lw_at lw_m7 77 rfl) rfl
theorem q1570 : (Jvm.Cond.fieldLink "EvenWordsModel" (7 : Nat) "EvenWordsModel" "s" "[I") ∈ lw_all := lw_g (lw_at lw_m7 78 rfl) rfl
theorem q1571 : (Jvm.Cond.fieldLink "EvenWordsModel" (13 : Nat) "EvenWordsModel" "past" "[I") ∈ lw_all := lw_g (lw_at lw_m7 79 rfl) rfl
theorem q1572 : (Jvm.Cond.fieldLink "EvenWordsModel" (126 : Nat) "EvenWordsModel" "undoMany" "I") ∈ lw_all := lw_g (lw_at lw_m7 80 rfl) rfl
theorem q1573 : (Jvm.Cond.fieldLink "EvenWordsModel" (16 : Nat) "EvenWordsModel" "images" "[I") ∈ lw_all := lw_g (lw_at lw_m7 81 rfl) rfl
theorem q1574 : (Jvm.Cond.fieldLink "EvenWordsModel" (19 : Nat) "EvenWordsModel" "isKept" "[Z") ∈ lw_all := lw_g (lw_at lw_m7 82 rfl) rfl
theorem q1575 : (Jvm.Cond.fieldLink "EvenWordsModel" (23 : Nat) "EvenWordsModel" "text" "[I") ∈ lw_all := lw_g (lw_at lw_m7 83 rfl) rfl
theorem q1576 : (Jvm.Cond.fieldLink "EvenWordsModel" (82 : Nat) "EvenWordsModel" "typed" "I") ∈ lw_all := lw_g (lw_at lw_m7 84 rfl) rfl
theorem q1577 : (Jvm.Cond.fieldLink "EvenWordsModel" (26 : Nat) "EvenWordsModel" "draft" "[I") ∈ lw_all := lw_g (lw_at lw_m7 85 rfl) rfl
theorem q1578 : (Jvm.Cond.fieldLink "EvenWordsModel" (110 : Nat) "EvenWordsModel" "draftMany" "I") ∈ lw_all := lw_g (lw_at lw_m7 86 rfl) rfl
theorem q1579 : (Jvm.Cond.fieldLink "EvenWordsModel" (29 : Nat) "EvenWordsModel" "meant" "[I") ∈ lw_all := lw_g (lw_at lw_m7 87 rfl) rfl
theorem q1580 : (Jvm.Cond.fieldLink "EvenWordsModel" (32 : Nat) "EvenWordsModel" "inForm" "[I") ∈ lw_all := lw_g (lw_at lw_m7 88 rfl) rfl
theorem q1581 : (Jvm.Cond.fieldLink "EvenWordsModel" (75 : Nat) "EvenWordsModel" "isLaid" "Z") ∈ lw_all := lw_g (lw_at lw_m7 89 rfl) rfl
theorem q1582 : (Jvm.Cond.fieldLink "EvenWordsModel" (89 : Nat) "EvenWordsModel" "at" "I") ∈ lw_all := lw_g (lw_at lw_m7 90 rfl) rfl
theorem q1583 : (Jvm.Cond.fieldLink "EvenWordsModel" (95 : Nat) "EvenWordsModel" "place" "I") ∈ lw_all := lw_g (lw_at lw_m7 91 rfl) rfl
theorem q1584 : (Jvm.Cond.fieldLink "EvenWordsModel" (98 : Nat) "EvenWordsModel" "token" "I") ∈ lw_all := lw_g (lw_at lw_m7 92 rfl) rfl
theorem q1585 : (Jvm.Cond.fieldLink "EvenWordsModel" (101 : Nat) "EvenWordsModel" "value" "I") ∈ lw_all := lw_g (lw_at lw_m7 93 rfl) rfl
theorem q1586 : (Jvm.Cond.fieldLink "EvenWordsModel" (104 : Nat) "EvenWordsModel" "fault" "I") ∈ lw_all := lw_g (lw_at lw_m7 94 rfl) rfl
theorem q1587 : (Jvm.Cond.fieldLink "EvenWordsModel" (139 : Nat) "EvenWordsModel" "pieces" "I") ∈ lw_all := lw_g (lw_at lw_m7 95 rfl) rfl
theorem q1588 : (Jvm.Cond.fieldLink "EvenWordsModel" (35 : Nat) "EvenWordsModel" "number" "[I") ∈ lw_all := lw_g (lw_at lw_m7 96 rfl) rfl
theorem q1589 : (Jvm.Cond.fieldLink "EvenWordsModel" (38 : Nat) "EvenWordsModel" "rightly" "[I") ∈ lw_all := lw_g (lw_at lw_m7 97 rfl) rfl
theorem q1590 : (Jvm.Cond.fieldLink "EvenWordsModel" (41 : Nat) "EvenWordsModel" "breach" "[I") ∈ lw_all := lw_g (lw_at lw_m7 98 rfl) rfl
theorem q1591 : (Jvm.Cond.fieldLink "EvenWordsModel" (44 : Nat) "EvenWordsModel" "sumBehind" "[I") ∈ lw_all := lw_g (lw_at lw_m7 99 rfl) rfl
theorem q1592 : (Jvm.Cond.fieldLink "EvenWordsModel" (156 : Nat) "EvenWordsModel" "blamedMany" "I") ∈ lw_all := lw_g (lw_at lw_m7 100 rfl) rfl
theorem q1593 : (Jvm.Cond.fieldLink "EvenWordsModel" (159 : Nat) "EvenWordsModel" "lowestBlamed" "I") ∈ lw_all := lw_g (lw_at lw_m7 101 rfl) rfl
theorem q1594 : (Jvm.Cond.fieldLink "EvenWordsModel" (47 : Nat) "EvenWordsModel" "level" "[I") ∈ lw_all := lw_g (lw_at lw_m7 102 rfl) rfl
theorem q1595 : (Jvm.Cond.fieldLink "EvenWordsModel" (175 : Nat) "EvenWordsModel" "tailSum" "I") ∈ lw_all := lw_g (lw_at lw_m7 103 rfl) rfl
theorem q1596 : (Jvm.Cond.fieldLink "EvenWordsModel" (178 : Nat) "EvenWordsModel" "tailBit" "I") ∈ lw_all := lw_g (lw_at lw_m7 104 rfl) rfl
theorem q1597 : (Jvm.Cond.fieldLink "EvenWordsModel" (181 : Nat) "EvenWordsModel" "tailRun" "I") ∈ lw_all := lw_g (lw_at lw_m7 105 rfl) rfl
theorem q1598 : (Jvm.Cond.fieldLink "EvenWordsModel" (184 : Nat) "EvenWordsModel" "tailLongest" "I") ∈ lw_all := lw_g (lw_at lw_m7 106 rfl) rfl
theorem q1599 : (Jvm.Cond.fieldLink "EvenWordsModel" (50 : Nat) "EvenWordsModel" "row" "[I") ∈ lw_all := lw_g (lw_at lw_m7 107 rfl) rfl
theorem q1600 : (Jvm.Cond.fieldLink "EvenWordsModel" (53 : Nat) "EvenWordsModel" "best" "[I") ∈ lw_all := lw_g (lw_at lw_m7 108 rfl) rfl
theorem q1601 : (Jvm.Cond.lays "EvenWordsModel" "EvenWordsModel" "thrown" "I") ∈ lw_all := lw_g (lw_at lw_m7 109 rfl) rfl
theorem q1602 : (Jvm.Cond.soleField "EvenWordsModel" "thrown") ∈ lw_all := lw_g (lw_at lw_m7 110 rfl) rfl
theorem q1603 : (Jvm.Cond.laysFinal "EvenWordsModel" "EvenWordsModel" "s" "[I") ∈ lw_all := lw_g (lw_at lw_m7 111 rfl) rfl
theorem q1604 : (Jvm.Cond.soleField "EvenWordsModel" "s") ∈ lw_all := lw_g (lw_at lw_m7 112 rfl) rfl
theorem q1605 : (Jvm.Cond.laysFinal "EvenWordsModel" "EvenWordsModel" "past" "[I") ∈ lw_all := lw_g (lw_at lw_m7 113 rfl) rfl
theorem q1606 : (Jvm.Cond.soleField "EvenWordsModel" "past") ∈ lw_all := lw_g (lw_at lw_m7 114 rfl) rfl
theorem q1607 : (Jvm.Cond.lays "EvenWordsModel" "EvenWordsModel" "undoMany" "I") ∈ lw_all := lw_g (lw_at lw_m7 115 rfl) rfl
theorem q1608 : (Jvm.Cond.soleField "EvenWordsModel" "undoMany") ∈ lw_all := lw_g (lw_at lw_m7 116 rfl) rfl
theorem q1609 : (Jvm.Cond.laysFinal "EvenWordsModel" "EvenWordsModel" "images" "[I") ∈ lw_all := lw_g (lw_at lw_m7 117 rfl) rfl
theorem q1610 : (Jvm.Cond.soleField "EvenWordsModel" "images") ∈ lw_all := lw_g (lw_at lw_m7 118 rfl) rfl
theorem q1611 : (Jvm.Cond.laysFinal "EvenWordsModel" "EvenWordsModel" "isKept" "[Z") ∈ lw_all := lw_g (lw_at lw_m7 119 rfl) rfl
theorem q1612 : (Jvm.Cond.soleField "EvenWordsModel" "isKept") ∈ lw_all := lw_g (lw_at lw_m7 120 rfl) rfl
theorem q1613 : (Jvm.Cond.laysFinal "EvenWordsModel" "EvenWordsModel" "text" "[I") ∈ lw_all := lw_g (lw_at lw_m7 121 rfl) rfl
theorem q1614 : (Jvm.Cond.soleField "EvenWordsModel" "text") ∈ lw_all := lw_g (lw_at lw_m7 122 rfl) rfl
theorem q1615 : (Jvm.Cond.lays "EvenWordsModel" "EvenWordsModel" "typed" "I") ∈ lw_all := lw_g (lw_at lw_m7 123 rfl) rfl
theorem q1616 : (Jvm.Cond.soleField "EvenWordsModel" "typed") ∈ lw_all := lw_g (lw_at lw_m7 124 rfl) rfl
theorem q1617 : (Jvm.Cond.laysFinal "EvenWordsModel" "EvenWordsModel" "draft" "[I") ∈ lw_all := lw_g (lw_at lw_m7 125 rfl) rfl
theorem q1618 : (Jvm.Cond.soleField "EvenWordsModel" "draft") ∈ lw_all := lw_g (lw_at lw_m7 126 rfl) rfl
theorem q1619 : (Jvm.Cond.lays "EvenWordsModel" "EvenWordsModel" "draftMany" "I") ∈ lw_all := lw_g (lw_at lw_m7 127 rfl) rfl
theorem q1620 : (Jvm.Cond.soleField "EvenWordsModel" "draftMany") ∈ lw_all := lw_g (lw_at lw_m7 128 rfl) rfl
theorem q1621 : (Jvm.Cond.laysFinal "EvenWordsModel" "EvenWordsModel" "meant" "[I") ∈ lw_all := lw_g (lw_at lw_m7 129 rfl) rfl
theorem q1622 : (Jvm.Cond.soleField "EvenWordsModel" "meant") ∈ lw_all := lw_g (lw_at lw_m7 130 rfl) rfl
theorem q1623 : (Jvm.Cond.laysFinal "EvenWordsModel" "EvenWordsModel" "inForm" "[I") ∈ lw_all := lw_g (lw_at lw_m7 131 rfl) rfl
theorem q1624 : (Jvm.Cond.soleField "EvenWordsModel" "inForm") ∈ lw_all := lw_g (lw_at lw_m7 132 rfl) rfl
theorem q1625 : (Jvm.Cond.lays "EvenWordsModel" "EvenWordsModel" "isLaid" "Z") ∈ lw_all := lw_g (lw_at lw_m7 133 rfl) rfl
theorem q1626 : (Jvm.Cond.soleField "EvenWordsModel" "isLaid") ∈ lw_all := lw_g (lw_at lw_m7 134 rfl) rfl
theorem q1627 : (Jvm.Cond.lays "EvenWordsModel" "EvenWordsModel" "at" "I") ∈ lw_all := lw_g (lw_at lw_m7 135 rfl) rfl
theorem q1628 : (Jvm.Cond.soleField "EvenWordsModel" "at") ∈ lw_all := lw_g (lw_at lw_m7 136 rfl) rfl
theorem q1629 : (Jvm.Cond.lays "EvenWordsModel" "EvenWordsModel" "place" "I") ∈ lw_all := lw_g (lw_at lw_m7 137 rfl) rfl
theorem q1630 : (Jvm.Cond.soleField "EvenWordsModel" "place") ∈ lw_all := lw_g (lw_at lw_m7 138 rfl) rfl
theorem q1631 : (Jvm.Cond.lays "EvenWordsModel" "EvenWordsModel" "token" "I") ∈ lw_all := lw_g (lw_at lw_m7 139 rfl) rfl
theorem q1632 : (Jvm.Cond.soleField "EvenWordsModel" "token") ∈ lw_all := lw_g (lw_at lw_m7 140 rfl) rfl
theorem q1633 : (Jvm.Cond.lays "EvenWordsModel" "EvenWordsModel" "value" "I") ∈ lw_all := lw_g (lw_at lw_m7 141 rfl) rfl
theorem q1634 : (Jvm.Cond.soleField "EvenWordsModel" "value") ∈ lw_all := lw_g (lw_at lw_m7 142 rfl) rfl
theorem q1635 : (Jvm.Cond.lays "EvenWordsModel" "EvenWordsModel" "fault" "I") ∈ lw_all := lw_g (lw_at lw_m7 143 rfl) rfl
theorem q1636 : (Jvm.Cond.soleField "EvenWordsModel" "fault") ∈ lw_all := lw_g (lw_at lw_m7 144 rfl) rfl
theorem q1637 : (Jvm.Cond.lays "EvenWordsModel" "EvenWordsModel" "pieces" "I") ∈ lw_all := lw_g (lw_at lw_m7 145 rfl) rfl
theorem q1638 : (Jvm.Cond.soleField "EvenWordsModel" "pieces") ∈ lw_all := lw_g (lw_at lw_m7 146 rfl) rfl
theorem q1639 : (Jvm.Cond.laysFinal "EvenWordsModel" "EvenWordsModel" "number" "[I") ∈ lw_all := lw_g (lw_at lw_m7 147 rfl) rfl
theorem q1640 : (Jvm.Cond.soleField "EvenWordsModel" "number") ∈ lw_all := lw_g (lw_at lw_m7 148 rfl) rfl
theorem q1641 : (Jvm.Cond.laysFinal "EvenWordsModel" "EvenWordsModel" "rightly" "[I") ∈ lw_all := lw_g (lw_at lw_m7 149 rfl) rfl
theorem q1642 : (Jvm.Cond.soleField "EvenWordsModel" "rightly") ∈ lw_all := lw_g (lw_at lw_m7 150 rfl) rfl
theorem q1643 : (Jvm.Cond.laysFinal "EvenWordsModel" "EvenWordsModel" "breach" "[I") ∈ lw_all := lw_g (lw_at lw_m7 151 rfl) rfl
theorem q1644 : (Jvm.Cond.soleField "EvenWordsModel" "breach") ∈ lw_all := lw_g (lw_at lw_m7 152 rfl) rfl
theorem q1645 : (Jvm.Cond.laysFinal "EvenWordsModel" "EvenWordsModel" "sumBehind" "[I") ∈ lw_all := lw_g (lw_at lw_m7 153 rfl) rfl
theorem q1646 : (Jvm.Cond.soleField "EvenWordsModel" "sumBehind") ∈ lw_all := lw_g (lw_at lw_m7 154 rfl) rfl
theorem q1647 : (Jvm.Cond.lays "EvenWordsModel" "EvenWordsModel" "blamedMany" "I") ∈ lw_all := lw_g (lw_at lw_m7 155 rfl) rfl
theorem q1648 : (Jvm.Cond.soleField "EvenWordsModel" "blamedMany") ∈ lw_all := lw_g (lw_at lw_m7 156 rfl) rfl
theorem q1649 : (Jvm.Cond.lays "EvenWordsModel" "EvenWordsModel" "lowestBlamed" "I") ∈ lw_all := lw_g (lw_at lw_m7 157 rfl) rfl
theorem q1650 : (Jvm.Cond.soleField "EvenWordsModel" "lowestBlamed") ∈ lw_all := lw_g (lw_at lw_m7 158 rfl) rfl
theorem q1651 : (Jvm.Cond.laysFinal "EvenWordsModel" "EvenWordsModel" "level" "[I") ∈ lw_all := lw_g (lw_at lw_m7 159 rfl) rfl
theorem q1652 : (Jvm.Cond.soleField "EvenWordsModel" "level") ∈ lw_all := lw_g (lw_at lw_m7 160 rfl) rfl
theorem q1653 : (Jvm.Cond.lays "EvenWordsModel" "EvenWordsModel" "tailSum" "I") ∈ lw_all := lw_g (lw_at lw_m7 161 rfl) rfl
theorem q1654 : (Jvm.Cond.soleField "EvenWordsModel" "tailSum") ∈ lw_all := lw_g (lw_at lw_m7 162 rfl) rfl
theorem q1655 : (Jvm.Cond.lays "EvenWordsModel" "EvenWordsModel" "tailBit" "I") ∈ lw_all := lw_g (lw_at lw_m7 163 rfl) rfl
theorem q1656 : (Jvm.Cond.soleField "EvenWordsModel" "tailBit") ∈ lw_all := lw_g (lw_at lw_m7 164 rfl) rfl
theorem q1657 : (Jvm.Cond.lays "EvenWordsModel" "EvenWordsModel" "tailRun" "I") ∈ lw_all := lw_g (lw_at lw_m7 165 rfl) rfl
theorem q1658 : (Jvm.Cond.soleField "EvenWordsModel" "tailRun") ∈ lw_all := lw_g (lw_at lw_m7 166 rfl) rfl
theorem q1659 : (Jvm.Cond.lays "EvenWordsModel" "EvenWordsModel" "tailLongest" "I") ∈ lw_all := lw_g (lw_at lw_m7 167 rfl) rfl
theorem q1660 : (Jvm.Cond.soleField "EvenWordsModel" "tailLongest") ∈ lw_all := lw_g (lw_at lw_m7 168 rfl) rfl
theorem q1661 : (Jvm.Cond.laysFinal "EvenWordsModel" "EvenWordsModel" "row" "[I") ∈ lw_all := lw_g (lw_at lw_m7 169 rfl) rfl
theorem q1662 : (Jvm.Cond.soleField "EvenWordsModel" "row") ∈ lw_all := lw_g (lw_at lw_m7 170 rfl) rfl
theorem q1663 : (Jvm.Cond.laysFinal "EvenWordsModel" "EvenWordsModel" "best" "[I") ∈ lw_all := lw_g (lw_at lw_m7 171 rfl) rfl
theorem q1664 : (Jvm.Cond.soleField "EvenWordsModel" "best") ∈ lw_all := lw_g (lw_at lw_m7 172 rfl) rfl
theorem q1665 : (Jvm.Cond.superclass "EvenWordsModel" "java/lang/Object") ∈ lw_all := lw_g (lw_at lw_m7 173 rfl) rfl
theorem q1667 : (Jvm.Cond.instanceMethod ({ cls := "EvenWordsModel", name := "type", desc := "(I)I" } : Jvm.MethodName)) ∈ lw_all := lw_g (lw_at lw_m7 175 rfl) rfl
theorem q1668 : (Jvm.Cond.selects "EvenWordsModel" ({ cls := "EvenWordsModel", name := "type", desc := "(I)I" } : Jvm.MethodName) ({ cls := "EvenWordsModel", name := "type", desc := "(I)I" } : Jvm.MethodName)) ∈ lw_all := lw_g (lw_at lw_m7 176 rfl) rfl
theorem q1669 : (Jvm.Cond.code ({ cls := "EvenWordsModel", name := "type", desc := "(I)I" } : Jvm.MethodName) prog_12_method_11_code (2 : Nat) (Option.some Jvm.ClassFile.FieldType.int)) ∈ lw_all := lw_g (lw_at lw_m7 177 rfl) rfl
theorem q1670 : (Jvm.Cond.methodLink "EvenWordsModel" (85 : Nat) ({ cls := "EvenWordsModel", name := "in", desc := "(III)Z" } : Jvm.MethodName)) ∈ lw_all := lw_g (lw_at lw_m7 178 rfl) rfl
theorem q1671 : (Jvm.Cond.static ({ cls := "EvenWordsModel", name := "in", desc := "(III)Z" } : Jvm.MethodName)) ∈ lw_all := lw_g (lw_at lw_m7 179 rfl) rfl
theorem q1672 : (Jvm.Cond.code ({ cls := "EvenWordsModel", name := "in", desc := "(III)Z" } : Jvm.MethodName) prog_12_method_4_code (3 : Nat) (Option.some Jvm.ClassFile.FieldType.boolean)) ∈ lw_all := lw_g (lw_at lw_m7 180 rfl) rfl
theorem q1674 : (Jvm.Cond.instanceMethod ({ cls := "EvenWordsModel", name := "clear", desc := "()I" } : Jvm.MethodName)) ∈ lw_all := lw_g (lw_at lw_m7 182 rfl) rfl
theorem q1675 : (Jvm.Cond.selects "EvenWordsModel" ({ cls := "EvenWordsModel", name := "clear", desc := "()I" } : Jvm.MethodName) ({ cls := "EvenWordsModel", name := "clear", desc := "()I" } : Jvm.MethodName)) ∈ lw_all := lw_g (lw_at lw_m7 183 rfl) rfl
theorem q1676 : (Jvm.Cond.code ({ cls := "EvenWordsModel", name := "clear", desc := "()I" } : Jvm.MethodName) prog_12_method_12_code (2 : Nat) (Option.some Jvm.ClassFile.FieldType.int)) ∈ lw_all := lw_g (lw_at lw_m7 184 rfl) rfl
theorem q1678 : (Jvm.Cond.instanceMethod ({ cls := "EvenWordsModel", name := "tells", desc := "()I" } : Jvm.MethodName)) ∈ lw_all := lw_g (lw_at lw_m7 186 rfl) rfl
theorem q1679 : (Jvm.Cond.selects "EvenWordsModel" ({ cls := "EvenWordsModel", name := "tells", desc := "()I" } : Jvm.MethodName) ({ cls := "EvenWordsModel", name := "tells", desc := "()I" } : Jvm.MethodName)) ∈ lw_all := lw_g (lw_at lw_m7 187 rfl) rfl
theorem q1680 : (Jvm.Cond.code ({ cls := "EvenWordsModel", name := "tells", desc := "()I" } : Jvm.MethodName) prog_12_method_16_code (2 : Nat) (Option.some Jvm.ClassFile.FieldType.int)) ∈ lw_all := lw_g (lw_at lw_m7 188 rfl) rfl
theorem q1681 : (Jvm.Cond.methodLink "EvenWordsModel" (117 : Nat) ({ cls := "EvenWordsModel", name := "readsText", desc := "()V" } : Jvm.MethodName)) ∈ lw_all := lw_g (lw_at lw_m7 189 rfl) rfl
theorem q1682 : (Jvm.Cond.privateMethod ({ cls := "EvenWordsModel", name := "readsText", desc := "()V" } : Jvm.MethodName)) ∈ lw_tbl := lw_at lw_m7 190 rfl
theorem q1683 : (Jvm.Cond.instanceMethod ({ cls := "EvenWordsModel", name := "readsText", desc := "()V" } : Jvm.MethodName)) ∈ lw_all := lw_g (lw_at lw_m7 191 rfl) rfl
theorem q1684 : (Jvm.Cond.code ({ cls := "EvenWordsModel", name := "readsText", desc := "()V" } : Jvm.MethodName) prog_12_method_15_code (3 : Nat) (Option.none : Option Jvm.ClassFile.FieldType)) ∈ lw_all := lw_g (lw_at lw_m7 192 rfl) rfl
theorem q1685 : (Jvm.Cond.methodLink "EvenWordsModel" (107 : Nat) ({ cls := "EvenWordsModel", name := "advances", desc := "()V" } : Jvm.MethodName)) ∈ lw_all := lw_g (lw_at lw_m7 193 rfl) rfl
theorem q1686 : (Jvm.Cond.privateMethod ({ cls := "EvenWordsModel", name := "advances", desc := "()V" } : Jvm.MethodName)) ∈ lw_tbl := lw_at lw_m7 194 rfl
theorem q1687 : (Jvm.Cond.instanceMethod ({ cls := "EvenWordsModel", name := "advances", desc := "()V" } : Jvm.MethodName)) ∈ lw_all := lw_g (lw_at lw_m7 195 rfl) rfl
theorem q1688 : (Jvm.Cond.code ({ cls := "EvenWordsModel", name := "advances", desc := "()V" } : Jvm.MethodName) prog_12_method_13_code (2 : Nat) (Option.none : Option Jvm.ClassFile.FieldType)) ∈ lw_all := lw_g (lw_at lw_m7 196 rfl) rfl
theorem q1689 : (Jvm.Cond.methodLink "EvenWordsModel" (92 : Nat) ({ cls := "EvenWordsModel", name := "letterAt", desc := "(I)I" } : Jvm.MethodName)) ∈ lw_all := lw_g (lw_at lw_m7 197 rfl) rfl
theorem q1690 : (Jvm.Cond.privateMethod ({ cls := "EvenWordsModel", name := "letterAt", desc := "(I)I" } : Jvm.MethodName)) ∈ lw_tbl := lw_at lw_m7 198 rfl
theorem q1691 : (Jvm.Cond.instanceMethod ({ cls := "EvenWordsModel", name := "letterAt", desc := "(I)I" } : Jvm.MethodName)) ∈ lw_all := lw_g (lw_at lw_m7 199 rfl) rfl
theorem q1692 : (Jvm.Cond.code ({ cls := "EvenWordsModel", name := "letterAt", desc := "(I)I" } : Jvm.MethodName) prog_12_method_10_code (2 : Nat) (Option.some Jvm.ClassFile.FieldType.int)) ∈ lw_all := lw_g (lw_at lw_m7 200 rfl) rfl
theorem q1693 : (Jvm.Cond.methodLink "EvenWordsModel" (113 : Nat) ({ cls := "EvenWordsModel", name := "takes", desc := "(Z)I" } : Jvm.MethodName)) ∈ lw_all := lw_g (lw_at lw_m7 201 rfl) rfl
theorem q1694 : (Jvm.Cond.privateMethod ({ cls := "EvenWordsModel", name := "takes", desc := "(Z)I" } : Jvm.MethodName)) ∈ lw_tbl := lw_at lw_m7 202 rfl
theorem q1695 : (Jvm.Cond.instanceMethod ({ cls := "EvenWordsModel", name := "takes", desc := "(Z)I" } : Jvm.MethodName)) ∈ lw_all := lw_g (lw_at lw_m7 203 rfl) rfl
theorem q1696 : (Jvm.Cond.code ({ cls := "EvenWordsModel", name := "takes", desc := "(Z)I" } : Jvm.MethodName) prog_12_method_14_code (3 : Nat) (Option.some Jvm.ClassFile.FieldType.int)) ∈ lw_all := lw_g (lw_at lw_m7 204 rfl) rfl
theorem q1697 : (Jvm.Cond.methodLink "EvenWordsModel" (120 : Nat) ({ cls := "EvenWordsModel", name := "notes", desc := "()V" } : Jvm.MethodName)) ∈ lw_all := lw_g (lw_at lw_m7 205 rfl) rfl
theorem q1698 : (Jvm.Cond.privateMethod ({ cls := "EvenWordsModel", name := "notes", desc := "()V" } : Jvm.MethodName)) ∈ lw_tbl := lw_at lw_m7 206 rfl
theorem q1699 : (Jvm.Cond.instanceMethod ({ cls := "EvenWordsModel", name := "notes", desc := "()V" } : Jvm.MethodName)) ∈ lw_all := lw_g (lw_at lw_m7 207 rfl) rfl
theorem q1700 : (Jvm.Cond.code ({ cls := "EvenWordsModel", name := "notes", desc := "()V" } : Jvm.MethodName) prog_12_method_17_code (2 : Nat) (Option.none : Option Jvm.ClassFile.FieldType)) ∈ lw_all := lw_g (lw_at lw_m7 208 rfl) rfl
theorem q1701 : (Jvm.Cond.methodLink "EvenWordsModel" (123 : Nat) ({ cls := "EvenWordsModel", name := "sent", desc := "(I)I" } : Jvm.MethodName)) ∈ lw_all := lw_g (lw_at lw_m7 209 rfl) rfl
theorem q1702 : (Jvm.Cond.privateMethod ({ cls := "EvenWordsModel", name := "sent", desc := "(I)I" } : Jvm.MethodName)) ∈ lw_tbl := lw_at lw_m7 210 rfl
theorem q1703 : (Jvm.Cond.instanceMethod ({ cls := "EvenWordsModel", name := "sent", desc := "(I)I" } : Jvm.MethodName)) ∈ lw_all := lw_g (lw_at lw_m7 211 rfl) rfl
theorem q1704 : (Jvm.Cond.code ({ cls := "EvenWordsModel", name := "sent", desc := "(I)I" } : Jvm.MethodName) prog_12_method_19_code (4 : Nat) (Option.some Jvm.ClassFile.FieldType.int)) ∈ lw_all := lw_g (lw_at lw_m7 212 rfl) rfl
theorem q1705 : (Jvm.Cond.methodLink "EvenWordsModel" (79 : Nat) ({ cls := "EvenWordsModel", name := "formOf", desc := "(II)I" } : Jvm.MethodName)) ∈ lw_all := lw_g (lw_at lw_m7 213 rfl) rfl
theorem q1706 : (Jvm.Cond.static ({ cls := "EvenWordsModel", name := "formOf", desc := "(II)I" } : Jvm.MethodName)) ∈ lw_all := lw_g (lw_at lw_m7 214 rfl) rfl
theorem q1707 : (Jvm.Cond.code ({ cls := "EvenWordsModel", name := "formOf", desc := "(II)I" } : Jvm.MethodName) prog_12_method_8_code (3 : Nat) (Option.some Jvm.ClassFile.FieldType.int)) ∈ lw_all := lw_g (lw_at lw_m7 215 rfl) rfl
theorem q1708 : (Jvm.Cond.methodLink "EvenWordsModel" (71 : Nat) ({ cls := "EvenWordsModel", name := "kth", desc := "(II)I" } : Jvm.MethodName)) ∈ lw_all := lw_g (lw_at lw_m7 216 rfl) rfl
theorem q1709 : (Jvm.Cond.static ({ cls := "EvenWordsModel", name := "kth", desc := "(II)I" } : Jvm.MethodName)) ∈ lw_all := lw_g (lw_at lw_m7 217 rfl) rfl
theorem q1710 : (Jvm.Cond.code ({ cls := "EvenWordsModel", name := "kth", desc := "(II)I" } : Jvm.MethodName) prog_12_method_7_code (5 : Nat) (Option.some Jvm.ClassFile.FieldType.int)) ∈ lw_all := lw_g (lw_at lw_m7 218 rfl) rfl
theorem q1711 : (Jvm.Cond.methodLink "EvenWordsModel" (63 : Nat) ({ cls := "EvenWordsModel", name := "ones", desc := "(I)I" } : Jvm.MethodName)) ∈ lw_all := lw_g (lw_at lw_m7 219 rfl) rfl
theorem q1712 : (Jvm.Cond.static ({ cls := "EvenWordsModel", name := "ones", desc := "(I)I" } : Jvm.MethodName)) ∈ lw_all := lw_g (lw_at lw_m7 220 rfl) rfl
theorem q1713 : (Jvm.Cond.code ({ cls := "EvenWordsModel", name := "ones", desc := "(I)I" } : Jvm.MethodName) prog_12_method_5_code (3 : Nat) (Option.some Jvm.ClassFile.FieldType.int)) ∈ lw_all := lw_g (lw_at lw_m7 221 rfl) rfl
theorem q1714 : (Jvm.Cond.methodLink "EvenWordsModel" (67 : Nat) ({ cls := "EvenWordsModel", name := "isMark", desc := "(I)Z" } : Jvm.MethodName)) ∈ lw_all := lw_g (lw_at lw_m7 222 rfl) rfl
theorem q1715 : (Jvm.Cond.static ({ cls := "EvenWordsModel", name := "isMark", desc := "(I)Z" } : Jvm.MethodName)) ∈ lw_all := lw_g (lw_at lw_m7 223 rfl) rfl
theorem q1716 : (Jvm.Cond.code ({ cls := "EvenWordsModel", name := "isMark", desc := "(I)Z" } : Jvm.MethodName) prog_12_method_6_code (1 : Nat) (Option.some Jvm.ClassFile.FieldType.boolean)) ∈ lw_all := lw_g (lw_at lw_m7 224 rfl) rfl
theorem q1717 : (Jvm.Cond.methodLink "EvenWordsModel" (129 : Nat) ({ cls := "EvenWordsModel", name := "remembers", desc := "(I)V" } : Jvm.MethodName)) ∈ lw_all := lw_g (lw_at lw_m7 225 rfl) rfl
theorem q1718 : (Jvm.Cond.privateMethod ({ cls := "EvenWordsModel", name := "remembers", desc := "(I)V" } : Jvm.MethodName)) ∈ lw_tbl := lw_at lw_m7 226 rfl
theorem q1719 : (Jvm.Cond.instanceMethod ({ cls := "EvenWordsModel", name := "remembers", desc := "(I)V" } : Jvm.MethodName)) ∈ lw_all := lw_g (lw_at lw_m7 227 rfl) rfl
theorem q1720 : (Jvm.Cond.code ({ cls := "EvenWordsModel", name := "remembers", desc := "(I)V" } : Jvm.MethodName) prog_12_method_18_code (2 : Nat) (Option.none : Option Jvm.ClassFile.FieldType)) ∈ lw_all := lw_g (lw_at lw_m7 228 rfl) rfl
theorem q1722 : (Jvm.Cond.instanceMethod ({ cls := "EvenWordsModel", name := "sends", desc := "(I)I" } : Jvm.MethodName)) ∈ lw_all := lw_g (lw_at lw_m7 230 rfl) rfl
theorem q1723 : (Jvm.Cond.selects "EvenWordsModel" ({ cls := "EvenWordsModel", name := "sends", desc := "(I)I" } : Jvm.MethodName) ({ cls := "EvenWordsModel", name := "sends", desc := "(I)I" } : Jvm.MethodName)) ∈ lw_all := lw_g (lw_at lw_m7 231 rfl) rfl
theorem q1724 : (Jvm.Cond.code ({ cls := "EvenWordsModel", name := "sends", desc := "(I)I" } : Jvm.MethodName) prog_12_method_20_code (2 : Nat) (Option.some Jvm.ClassFile.FieldType.int)) ∈ lw_all := lw_g (lw_at lw_m7 232 rfl) rfl
theorem q1726 : (Jvm.Cond.instanceMethod ({ cls := "EvenWordsModel", name := "marks", desc := "(I)I" } : Jvm.MethodName)) ∈ lw_all := lw_g (lw_at lw_m7 234 rfl) rfl
theorem q1727 : (Jvm.Cond.selects "EvenWordsModel" ({ cls := "EvenWordsModel", name := "marks", desc := "(I)I" } : Jvm.MethodName) ({ cls := "EvenWordsModel", name := "marks", desc := "(I)I" } : Jvm.MethodName)) ∈ lw_all := lw_g (lw_at lw_m7 235 rfl) rfl
theorem q1728 : (Jvm.Cond.code ({ cls := "EvenWordsModel", name := "marks", desc := "(I)I" } : Jvm.MethodName) prog_12_method_21_code (2 : Nat) (Option.some Jvm.ClassFile.FieldType.int)) ∈ lw_all := lw_g (lw_at lw_m7 236 rfl) rfl
theorem q1730 : (Jvm.Cond.instanceMethod ({ cls := "EvenWordsModel", name := "flips", desc := "(I)I" } : Jvm.MethodName)) ∈ lw_all := lw_g (lw_at lw_m7 238 rfl) rfl
theorem q1731 : (Jvm.Cond.selects "EvenWordsModel" ({ cls := "EvenWordsModel", name := "flips", desc := "(I)I" } : Jvm.MethodName) ({ cls := "EvenWordsModel", name := "flips", desc := "(I)I" } : Jvm.MethodName)) ∈ lw_all := lw_g (lw_at lw_m7 239 rfl) rfl
theorem q1732 : (Jvm.Cond.code ({ cls := "EvenWordsModel", name := "flips", desc := "(I)I" } : Jvm.MethodName) prog_12_method_23_code (2 : Nat) (Option.some Jvm.ClassFile.FieldType.int)) ∈ lw_all := lw_g (lw_at lw_m8 0 rfl) rfl
theorem q1733 : (Jvm.Cond.methodLink "EvenWordsModel" (133 : Nat) ({ cls := "EvenWordsModel", name := "isBit", desc := "(I)Z" } : Jvm.MethodName)) ∈ lw_all := lw_g (lw_at lw_m8 1 rfl) rfl
theorem q1734 : (Jvm.Cond.privateMethod ({ cls := "EvenWordsModel", name := "isBit", desc := "(I)Z" } : Jvm.MethodName)) ∈ lw_tbl := lw_at lw_m8 2 rfl
theorem q1735 : (Jvm.Cond.instanceMethod ({ cls := "EvenWordsModel", name := "isBit", desc := "(I)Z" } : Jvm.MethodName)) ∈ lw_all := lw_g (lw_at lw_m8 3 rfl) rfl
theorem q1736 : (Jvm.Cond.code ({ cls := "EvenWordsModel", name := "isBit", desc := "(I)Z" } : Jvm.MethodName) prog_12_method_22_code (2 : Nat) (Option.some Jvm.ClassFile.FieldType.boolean)) ∈ lw_all := lw_g (lw_at lw_m8 4 rfl) rfl
theorem q1738 : (Jvm.Cond.instanceMethod ({ cls := "EvenWordsModel", name := "clears", desc := "()I" } : Jvm.MethodName)) ∈ lw_all := lw_g (lw_at lw_m8 6 rfl) rfl
theorem q1739 : (Jvm.Cond.selects "EvenWordsModel" ({ cls := "EvenWordsModel", name := "clears", desc := "()I" } : Jvm.MethodName) ({ cls := "EvenWordsModel", name := "clears", desc := "()I" } : Jvm.MethodName)) ∈ lw_all := lw_g (lw_at lw_m8 7 rfl) rfl
theorem q1740 : (Jvm.Cond.code ({ cls := "EvenWordsModel", name := "clears", desc := "()I" } : Jvm.MethodName) prog_12_method_24_code (2 : Nat) (Option.some Jvm.ClassFile.FieldType.int)) ∈ lw_all := lw_g (lw_at lw_m8 8 rfl) rfl
theorem q1742 : (Jvm.Cond.instanceMethod ({ cls := "EvenWordsModel", name := "undo", desc := "()I" } : Jvm.MethodName)) ∈ lw_all := lw_g (lw_at lw_m8 10 rfl) rfl
theorem q1743 : (Jvm.Cond.selects "EvenWordsModel" ({ cls := "EvenWordsModel", name := "undo", desc := "()I" } : Jvm.MethodName) ({ cls := "EvenWordsModel", name := "undo", desc := "()I" } : Jvm.MethodName)) ∈ lw_all := lw_g (lw_at lw_m8 11 rfl) rfl
theorem q1744 : (Jvm.Cond.code ({ cls := "EvenWordsModel", name := "undo", desc := "()I" } : Jvm.MethodName) prog_12_method_25_code (2 : Nat) (Option.some Jvm.ClassFile.FieldType.int)) ∈ lw_all := lw_g (lw_at lw_m8 12 rfl) rfl
theorem q1746 : (Jvm.Cond.instanceMethod ({ cls := "EvenWordsModel", name := "form", desc := "(II)I" } : Jvm.MethodName)) ∈ lw_all := lw_g (lw_at lw_m8 14 rfl) rfl
theorem q1747 : (Jvm.Cond.selects "EvenWordsModel" ({ cls := "EvenWordsModel", name := "form", desc := "(II)I" } : Jvm.MethodName) ({ cls := "EvenWordsModel", name := "form", desc := "(II)I" } : Jvm.MethodName)) ∈ lw_all := lw_g (lw_at lw_m8 15 rfl) rfl
theorem q1748 : (Jvm.Cond.code ({ cls := "EvenWordsModel", name := "form", desc := "(II)I" } : Jvm.MethodName) prog_12_method_26_code (3 : Nat) (Option.some Jvm.ClassFile.FieldType.int)) ∈ lw_all := lw_g (lw_at lw_m8 16 rfl) rfl
theorem q1750 : (Jvm.Cond.instanceMethod ({ cls := "EvenWordsModel", name := "bit", desc := "(I)I" } : Jvm.MethodName)) ∈ lw_all := lw_g (lw_at lw_m8 18 rfl) rfl
theorem q1751 : (Jvm.Cond.selects "EvenWordsModel" ({ cls := "EvenWordsModel", name := "bit", desc := "(I)I" } : Jvm.MethodName) ({ cls := "EvenWordsModel", name := "bit", desc := "(I)I" } : Jvm.MethodName)) ∈ lw_all := lw_g (lw_at lw_m8 19 rfl) rfl
theorem q1752 : (Jvm.Cond.code ({ cls := "EvenWordsModel", name := "bit", desc := "(I)I" } : Jvm.MethodName) prog_12_method_27_code (2 : Nat) (Option.some Jvm.ClassFile.FieldType.int)) ∈ lw_all := lw_g (lw_at lw_m8 20 rfl) rfl
theorem q1754 : (Jvm.Cond.instanceMethod ({ cls := "EvenWordsModel", name := "word", desc := "(I)I" } : Jvm.MethodName)) ∈ lw_all := lw_g (lw_at lw_m8 22 rfl) rfl
theorem q1755 : (Jvm.Cond.selects "EvenWordsModel" ({ cls := "EvenWordsModel", name := "word", desc := "(I)I" } : Jvm.MethodName) ({ cls := "EvenWordsModel", name := "word", desc := "(I)I" } : Jvm.MethodName)) ∈ lw_all := lw_g (lw_at lw_m8 23 rfl) rfl
theorem q1756 : (Jvm.Cond.code ({ cls := "EvenWordsModel", name := "word", desc := "(I)I" } : Jvm.MethodName) prog_12_method_28_code (2 : Nat) (Option.some Jvm.ClassFile.FieldType.int)) ∈ lw_all := lw_g (lw_at lw_m8 24 rfl) rfl
theorem q1758 : (Jvm.Cond.instanceMethod ({ cls := "EvenWordsModel", name := "recent", desc := "(I)I" } : Jvm.MethodName)) ∈ lw_all := lw_g (lw_at lw_m8 26 rfl) rfl
theorem q1759 : (Jvm.Cond.selects "EvenWordsModel" ({ cls := "EvenWordsModel", name := "recent", desc := "(I)I" } : Jvm.MethodName) ({ cls := "EvenWordsModel", name := "recent", desc := "(I)I" } : Jvm.MethodName)) ∈ lw_all := lw_g (lw_at lw_m8 27 rfl) rfl
theorem q1760 : (Jvm.Cond.code ({ cls := "EvenWordsModel", name := "recent", desc := "(I)I" } : Jvm.MethodName) prog_12_method_29_code (3 : Nat) (Option.some Jvm.ClassFile.FieldType.int)) ∈ lw_all := lw_g (lw_at lw_m8 28 rfl) rfl
theorem q1762 : (Jvm.Cond.instanceMethod ({ cls := "EvenWordsModel", name := "piece", desc := "(IIII)I" } : Jvm.MethodName)) ∈ lw_all := lw_g (lw_at lw_m8 30 rfl) rfl
theorem q1763 : (Jvm.Cond.selects "EvenWordsModel" ({ cls := "EvenWordsModel", name := "piece", desc := "(IIII)I" } : Jvm.MethodName) ({ cls := "EvenWordsModel", name := "piece", desc := "(IIII)I" } : Jvm.MethodName)) ∈ lw_all := lw_g (lw_at lw_m8 31 rfl) rfl
theorem q1764 : (Jvm.Cond.code ({ cls := "EvenWordsModel", name := "piece", desc := "(IIII)I" } : Jvm.MethodName) prog_12_method_35_code (5 : Nat) (Option.some Jvm.ClassFile.FieldType.int)) ∈ lw_all := lw_g (lw_at lw_m8 32 rfl) rfl
theorem q1765 : (Jvm.Cond.methodLink "EvenWordsModel" (145 : Nat) ({ cls := "EvenWordsModel", name := "isBegin", desc := "(II)Z" } : Jvm.MethodName)) ∈ lw_all := lw_g (lw_at lw_m8 33 rfl) rfl
theorem q1766 : (Jvm.Cond.static ({ cls := "EvenWordsModel", name := "isBegin", desc := "(II)Z" } : Jvm.MethodName)) ∈ lw_all := lw_g (lw_at lw_m8 34 rfl) rfl
theorem q1767 : (Jvm.Cond.code ({ cls := "EvenWordsModel", name := "isBegin", desc := "(II)Z" } : Jvm.MethodName) prog_12_method_33_code (2 : Nat) (Option.some Jvm.ClassFile.FieldType.boolean)) ∈ lw_all := lw_g (lw_at lw_m8 35 rfl) rfl
theorem q1768 : (Jvm.Cond.methodLink "EvenWordsModel" (149 : Nat) ({ cls := "EvenWordsModel", name := "sumOf", desc := "(I)I" } : Jvm.MethodName)) ∈ lw_all := lw_g (lw_at lw_m8 36 rfl) rfl
theorem q1769 : (Jvm.Cond.static ({ cls := "EvenWordsModel", name := "sumOf", desc := "(I)I" } : Jvm.MethodName)) ∈ lw_all := lw_g (lw_at lw_m8 37 rfl) rfl
theorem q1770 : (Jvm.Cond.code ({ cls := "EvenWordsModel", name := "sumOf", desc := "(I)I" } : Jvm.MethodName) prog_12_method_34_code (1 : Nat) (Option.some Jvm.ClassFile.FieldType.int)) ∈ lw_all := lw_g (lw_at lw_m8 38 rfl) rfl
theorem q1771 : (Jvm.Cond.methodLink "EvenWordsModel" (152 : Nat) ({ cls := "EvenWordsModel", name := "reads", desc := "(III)V" } : Jvm.MethodName)) ∈ lw_all := lw_g (lw_at lw_m8 39 rfl) rfl
theorem q1772 : (Jvm.Cond.privateMethod ({ cls := "EvenWordsModel", name := "reads", desc := "(III)V" } : Jvm.MethodName)) ∈ lw_tbl := lw_at lw_m8 40 rfl
theorem q1773 : (Jvm.Cond.instanceMethod ({ cls := "EvenWordsModel", name := "reads", desc := "(III)V" } : Jvm.MethodName)) ∈ lw_all := lw_g (lw_at lw_m8 41 rfl) rfl
theorem q1774 : (Jvm.Cond.code ({ cls := "EvenWordsModel", name := "reads", desc := "(III)V" } : Jvm.MethodName) prog_12_method_31_code (13 : Nat) (Option.none : Option Jvm.ClassFile.FieldType)) ∈ lw_all := lw_g (lw_at lw_m8 42 rfl) rfl
theorem q1775 : (Jvm.Cond.methodLink "EvenWordsModel" (136 : Nat) ({ cls := "EvenWordsModel", name := "lays", desc := "()V" } : Jvm.MethodName)) ∈ lw_all := lw_g (lw_at lw_m8 43 rfl) rfl
theorem q1776 : (Jvm.Cond.privateMethod ({ cls := "EvenWordsModel", name := "lays", desc := "()V" } : Jvm.MethodName)) ∈ lw_tbl := lw_at lw_m8 44 rfl
theorem q1777 : (Jvm.Cond.instanceMethod ({ cls := "EvenWordsModel", name := "lays", desc := "()V" } : Jvm.MethodName)) ∈ lw_all := lw_g (lw_at lw_m8 45 rfl) rfl
theorem q1778 : (Jvm.Cond.code ({ cls := "EvenWordsModel", name := "lays", desc := "()V" } : Jvm.MethodName) prog_12_method_9_code (3 : Nat) (Option.none : Option Jvm.ClassFile.FieldType)) ∈ lw_all := lw_g (lw_at lw_m8 46 rfl) rfl
theorem q1779 : (Jvm.Cond.methodLink "EvenWordsModel" (142 : Nat) ({ cls := "EvenWordsModel", name := "bitAt", desc := "(II)I" } : Jvm.MethodName)) ∈ lw_all := lw_g (lw_at lw_m8 47 rfl) rfl
theorem q1780 : (Jvm.Cond.privateMethod ({ cls := "EvenWordsModel", name := "bitAt", desc := "(II)I" } : Jvm.MethodName)) ∈ lw_tbl := lw_at lw_m8 48 rfl
theorem q1781 : (Jvm.Cond.instanceMethod ({ cls := "EvenWordsModel", name := "bitAt", desc := "(II)I" } : Jvm.MethodName)) ∈ lw_all := lw_g (lw_at lw_m8 49 rfl) rfl
theorem q1782 : (Jvm.Cond.code ({ cls := "EvenWordsModel", name := "bitAt", desc := "(II)I" } : Jvm.MethodName) prog_12_method_30_code (3 : Nat) (Option.some Jvm.ClassFile.FieldType.int)) ∈ lw_all := lw_g (lw_at lw_m8 50 rfl) rfl
theorem q1784 : (Jvm.Cond.instanceMethod ({ cls := "EvenWordsModel", name := "read", desc := "(III)I" } : Jvm.MethodName)) ∈ lw_all := lw_g (lw_at lw_m8 52 rfl) rfl
theorem q1785 : (Jvm.Cond.selects "EvenWordsModel" ({ cls := "EvenWordsModel", name := "read", desc := "(III)I" } : Jvm.MethodName) ({ cls := "EvenWordsModel", name := "read", desc := "(III)I" } : Jvm.MethodName)) ∈ lw_all := lw_g (lw_at lw_m8 53 rfl) rfl
theorem q1786 : (Jvm.Cond.code ({ cls := "EvenWordsModel", name := "read", desc := "(III)I" } : Jvm.MethodName) prog_12_method_37_code (7 : Nat) (Option.some Jvm.ClassFile.FieldType.int)) ∈ lw_all := lw_g (lw_at lw_m8 54 rfl) rfl
theorem q1787 : (Jvm.Cond.constant "EvenWordsModel" (166 : Nat) (-1000000 : Int32)) ∈ lw_all := lw_g (lw_at lw_m8 55 rfl) rfl
theorem q1788 : (Jvm.Cond.methodLink "EvenWordsModel" (162 : Nat) ({ cls := "EvenWordsModel", name := "firstBreach", desc := "()I" } : Jvm.MethodName)) ∈ lw_all := lw_g (lw_at lw_m8 56 rfl) rfl
theorem q1789 : (Jvm.Cond.privateMethod ({ cls := "EvenWordsModel", name := "firstBreach", desc := "()I" } : Jvm.MethodName)) ∈ lw_tbl := lw_at lw_m8 57 rfl
theorem q1790 : (Jvm.Cond.instanceMethod ({ cls := "EvenWordsModel", name := "firstBreach", desc := "()I" } : Jvm.MethodName)) ∈ lw_all := lw_g (lw_at lw_m8 58 rfl) rfl
theorem q1791 : (Jvm.Cond.code ({ cls := "EvenWordsModel", name := "firstBreach", desc := "()I" } : Jvm.MethodName) prog_12_method_32_code (2 : Nat) (Option.some Jvm.ClassFile.FieldType.int)) ∈ lw_all := lw_g (lw_at lw_m8 59 rfl) rfl
theorem q1792 : (Jvm.Cond.methodLink "EvenWordsModel" (167 : Nat) ({ cls := "EvenWordsModel", name := "blames", desc := "(II)V" } : Jvm.MethodName)) ∈ lw_all := lw_g (lw_at lw_m8 60 rfl) rfl
theorem q1793 : (Jvm.Cond.privateMethod ({ cls := "EvenWordsModel", name := "blames", desc := "(II)V" } : Jvm.MethodName)) ∈ lw_tbl := lw_at lw_m8 61 rfl
theorem q1794 : (Jvm.Cond.instanceMethod ({ cls := "EvenWordsModel", name := "blames", desc := "(II)V" } : Jvm.MethodName)) ∈ lw_all := lw_g (lw_at lw_m8 62 rfl) rfl
theorem q1795 : (Jvm.Cond.code ({ cls := "EvenWordsModel", name := "blames", desc := "(II)V" } : Jvm.MethodName) prog_12_method_36_code (5 : Nat) (Option.none : Option Jvm.ClassFile.FieldType)) ∈ lw_all := lw_g (lw_at lw_m8 63 rfl) rfl
theorem q1796 : (Jvm.Cond.constant "EvenWordsModel" (171 : Nat) (-2000000 : Int32)) ∈ lw_all := lw_g (lw_at lw_m8 64 rfl) rfl
theorem q1798 : (Jvm.Cond.instanceMethod ({ cls := "EvenWordsModel", name := "cuts", desc := "(I)I" } : Jvm.MethodName)) ∈ lw_all := lw_g (lw_at lw_m8 66 rfl) rfl
theorem q1799 : (Jvm.Cond.selects "EvenWordsModel" ({ cls := "EvenWordsModel", name := "cuts", desc := "(I)I" } : Jvm.MethodName) ({ cls := "EvenWordsModel", name := "cuts", desc := "(I)I" } : Jvm.MethodName)) ∈ lw_all := lw_g (lw_at lw_m8 67 rfl) rfl
theorem q1800 : (Jvm.Cond.code ({ cls := "EvenWordsModel", name := "cuts", desc := "(I)I" } : Jvm.MethodName) prog_12_method_38_code (5 : Nat) (Option.some Jvm.ClassFile.FieldType.int)) ∈ lw_all := lw_g (lw_at lw_m8 68 rfl) rfl
theorem q1802 : (Jvm.Cond.instanceMethod ({ cls := "EvenWordsModel", name := "level", desc := "(II)I" } : Jvm.MethodName)) ∈ lw_all := lw_g (lw_at lw_m8 70 rfl) rfl
theorem q1803 : (Jvm.Cond.selects "EvenWordsModel" ({ cls := "EvenWordsModel", name := "level", desc := "(II)I" } : Jvm.MethodName) ({ cls := "EvenWordsModel", name := "level", desc := "(II)I" } : Jvm.MethodName)) ∈ lw_all := lw_g (lw_at lw_m8 71 rfl) rfl
theorem q1804 : (Jvm.Cond.code ({ cls := "EvenWordsModel", name := "level", desc := "(II)I" } : Jvm.MethodName) prog_12_method_41_code (8 : Nat) (Option.some Jvm.ClassFile.FieldType.int)) ∈ lw_all := lw_g (lw_at lw_m8 72 rfl) rfl
theorem q1805 : (Jvm.Cond.methodLink "EvenWordsModel" (172 : Nat) ({ cls := "EvenWordsModel", name := "laysLevels", desc := "()V" } : Jvm.MethodName)) ∈ lw_all := lw_g (lw_at lw_m8 73 rfl) rfl
theorem q1806 : (Jvm.Cond.privateMethod ({ cls := "EvenWordsModel", name := "laysLevels", desc := "()V" } : Jvm.MethodName)) ∈ lw_tbl := lw_at lw_m8 74 rfl
theorem q1807 : (Jvm.Cond.instanceMethod ({ cls := "EvenWordsModel", name := "laysLevels", desc := "()V" } : Jvm.MethodName)) ∈ lw_all := lw_g (lw_at lw_m8 75 rfl) rfl
theorem q1808 : (Jvm.Cond.code ({ cls := "EvenWordsModel", name := "laysLevels", desc := "()V" } : Jvm.MethodName) prog_12_method_39_code (3 : Nat) (Option.none : Option Jvm.ClassFile.FieldType)) ∈ lw_all := lw_g (lw_at lw_m8 76 rfl) rfl
theorem q1810 : (Jvm.Cond.instanceMethod ({ cls := "EvenWordsModel", name := "evenest", desc := "(II)I" } : Jvm.MethodName)) ∈ lw_all := lw_g (lw_at lw_m8 78 rfl) rfl
theorem q1811 : (Jvm.Cond.selects "EvenWordsModel" ({ cls := "EvenWordsModel", name := "evenest", desc := "(II)I" } : Jvm.MethodName) ({ cls := "EvenWordsModel", name := "evenest", desc := "(II)I" } : Jvm.MethodName)) ∈ lw_all := lw_g (lw_at lw_m8 79 rfl) rfl
theorem q1812 : (Jvm.Cond.code ({ cls := "EvenWordsModel", name := "evenest", desc := "(II)I" } : Jvm.MethodName) prog_12_method_46_code (4 : Nat) (Option.some Jvm.ClassFile.FieldType.int)) ∈ lw_all := lw_g (lw_at lw_m8 80 rfl) rfl
theorem q1813 : (Jvm.Cond.methodLink "EvenWordsModel" (196 : Nat) ({ cls := "EvenWordsModel", name := "evenestOf", desc := "(I)I" } : Jvm.MethodName)) ∈ lw_all := lw_g (lw_at lw_m8 81 rfl) rfl
theorem q1814 : (Jvm.Cond.privateMethod ({ cls := "EvenWordsModel", name := "evenestOf", desc := "(I)I" } : Jvm.MethodName)) ∈ lw_tbl := lw_at lw_m8 82 rfl
theorem q1815 : (Jvm.Cond.instanceMethod ({ cls := "EvenWordsModel", name := "evenestOf", desc := "(I)I" } : Jvm.MethodName)) ∈ lw_all := lw_g (lw_at lw_m8 83 rfl) rfl
theorem q1816 : (Jvm.Cond.code ({ cls := "EvenWordsModel", name := "evenestOf", desc := "(I)I" } : Jvm.MethodName) prog_12_method_45_code (11 : Nat) (Option.some Jvm.ClassFile.FieldType.int)) ∈ lw_all := lw_g (lw_at lw_m8 84 rfl) rfl
theorem q1817 : (Jvm.Cond.methodLink "EvenWordsModel" (190 : Nat) ({ cls := "EvenWordsModel", name := "laysAhead", desc := "(I)V" } : Jvm.MethodName)) ∈ lw_all := lw_g (lw_at lw_m8 85 rfl) rfl
theorem q1818 : (Jvm.Cond.privateMethod ({ cls := "EvenWordsModel", name := "laysAhead", desc := "(I)V" } : Jvm.MethodName)) ∈ lw_tbl := lw_at lw_m8 86 rfl
theorem q1819 : (Jvm.Cond.instanceMethod ({ cls := "EvenWordsModel", name := "laysAhead", desc := "(I)V" } : Jvm.MethodName)) ∈ lw_all := lw_g (lw_at lw_m8 87 rfl) rfl
theorem q1820 : (Jvm.Cond.code ({ cls := "EvenWordsModel", name := "laysAhead", desc := "(I)V" } : Jvm.MethodName) prog_12_method_44_code (3 : Nat) (Option.none : Option Jvm.ClassFile.FieldType)) ∈ lw_all := lw_g (lw_at lw_m8 88 rfl) rfl
theorem q1821 : (Jvm.Cond.methodLink "EvenWordsModel" (187 : Nat) ({ cls := "EvenWordsModel", name := "lengthens", desc := "(I)V" } : Jvm.MethodName)) ∈ lw_all := lw_g (lw_at lw_m8 89 rfl) rfl
theorem q1822 : (Jvm.Cond.privateMethod ({ cls := "EvenWordsModel", name := "lengthens", desc := "(I)V" } : Jvm.MethodName)) ∈ lw_tbl := lw_at lw_m8 90 rfl
theorem q1823 : (Jvm.Cond.instanceMethod ({ cls := "EvenWordsModel", name := "lengthens", desc := "(I)V" } : Jvm.MethodName)) ∈ lw_all := lw_g (lw_at lw_m8 91 rfl) rfl
theorem q1824 : (Jvm.Cond.code ({ cls := "EvenWordsModel", name := "lengthens", desc := "(I)V" } : Jvm.MethodName) prog_12_method_42_code (5 : Nat) (Option.none : Option Jvm.ClassFile.FieldType)) ∈ lw_all := lw_g (lw_at lw_m8 92 rfl) rfl
theorem q1825 : (Jvm.Cond.methodLink "EvenWordsModel" (193 : Nat) ({ cls := "EvenWordsModel", name := "isOrder", desc := "(II)Z" } : Jvm.MethodName)) ∈ lw_all := lw_g (lw_at lw_m8 93 rfl) rfl
theorem q1826 : (Jvm.Cond.privateMethod ({ cls := "EvenWordsModel", name := "isOrder", desc := "(II)Z" } : Jvm.MethodName)) ∈ lw_tbl := lw_at lw_m8 94 rfl
theorem q1827 : (Jvm.Cond.instanceMethod ({ cls := "EvenWordsModel", name := "isOrder", desc := "(II)Z" } : Jvm.MethodName)) ∈ lw_all := lw_g (lw_at lw_m8 95 rfl) rfl
theorem q1828 : (Jvm.Cond.code ({ cls := "EvenWordsModel", name := "isOrder", desc := "(II)Z" } : Jvm.MethodName) prog_12_method_43_code (6 : Nat) (Option.some Jvm.ClassFile.FieldType.boolean)) ∈ lw_all := lw_g (lw_at lw_m8 96 rfl) rfl
theorem q1830 : (Jvm.Cond.instanceMethod ({ cls := "EvenWordsModel", name := "weight", desc := "(I)I" } : Jvm.MethodName)) ∈ lw_all := lw_g (lw_at lw_m8 98 rfl) rfl
theorem q1831 : (Jvm.Cond.selects "EvenWordsModel" ({ cls := "EvenWordsModel", name := "weight", desc := "(I)I" } : Jvm.MethodName) ({ cls := "EvenWordsModel", name := "weight", desc := "(I)I" } : Jvm.MethodName)) ∈ lw_all := lw_g (lw_at lw_m8 99 rfl) rfl
theorem q1832 : (Jvm.Cond.code ({ cls := "EvenWordsModel", name := "weight", desc := "(I)I" } : Jvm.MethodName) prog_12_method_47_code (6 : Nat) (Option.some Jvm.ClassFile.FieldType.int)) ∈ lw_all := lw_g (lw_at lw_m8 100 rfl) rfl
theorem q1833 : (Jvm.Cond.constantLong "EvenWordsModel" (199 : Nat) (-999999 : Int64)) ∈ lw_all := lw_g (lw_at lw_m8 101 rfl) rfl
theorem q1834 : (Jvm.Cond.constantLong "EvenWordsModel" (201 : Nat) (999999 : Int64)) ∈ lw_all := lw_g (lw_at lw_m8 102 rfl) rfl
theorem q1836 : (Jvm.Cond.instanceMethod ({ cls := "EvenWordsModel", name := "keep", desc := "(I)I" } : Jvm.MethodName)) ∈ lw_all := lw_g (lw_at lw_m8 104 rfl) rfl
theorem q1837 : (Jvm.Cond.selects "EvenWordsModel" ({ cls := "EvenWordsModel", name := "keep", desc := "(I)I" } : Jvm.MethodName) ({ cls := "EvenWordsModel", name := "keep", desc := "(I)I" } : Jvm.MethodName)) ∈ lw_all := lw_g (lw_at lw_m8 105 rfl) rfl
theorem q1838 : (Jvm.Cond.code ({ cls := "EvenWordsModel", name := "keep", desc := "(I)I" } : Jvm.MethodName) prog_12_method_48_code (3 : Nat) (Option.some Jvm.ClassFile.FieldType.int)) ∈ lw_all := lw_g (lw_at lw_m8 106 rfl) rfl
theorem q1840 : (Jvm.Cond.instanceMethod ({ cls := "EvenWordsModel", name := "back", desc := "(I)I" } : Jvm.MethodName)) ∈ lw_all := lw_g (lw_at lw_m8 108 rfl) rfl
theorem q1841 : (Jvm.Cond.selects "EvenWordsModel" ({ cls := "EvenWordsModel", name := "back", desc := "(I)I" } : Jvm.MethodName) ({ cls := "EvenWordsModel", name := "back", desc := "(I)I" } : Jvm.MethodName)) ∈ lw_all := lw_g (lw_at lw_m8 109 rfl) rfl
theorem q1842 : (Jvm.Cond.code ({ cls := "EvenWordsModel", name := "back", desc := "(I)I" } : Jvm.MethodName) prog_12_method_49_code (3 : Nat) (Option.some Jvm.ClassFile.FieldType.int)) ∈ lw_all := lw_g (lw_at lw_m8 110 rfl) rfl
theorem q1844 : (Jvm.Cond.instanceMethod ({ cls := "EvenWordsModel", name := "count", desc := "(I)I" } : Jvm.MethodName)) ∈ lw_all := lw_g (lw_at lw_m8 112 rfl) rfl
theorem q1845 : (Jvm.Cond.selects "EvenWordsModel" ({ cls := "EvenWordsModel", name := "count", desc := "(I)I" } : Jvm.MethodName) ({ cls := "EvenWordsModel", name := "count", desc := "(I)I" } : Jvm.MethodName)) ∈ lw_all := lw_g (lw_at lw_m8 113 rfl) rfl
theorem q1846 : (Jvm.Cond.code ({ cls := "EvenWordsModel", name := "count", desc := "(I)I" } : Jvm.MethodName) prog_12_method_53_code (2 : Nat) (Option.some Jvm.ClassFile.FieldType.int)) ∈ lw_all := lw_g (lw_at lw_m8 114 rfl) rfl
theorem q1847 : (Jvm.Cond.methodLink "EvenWordsModel" (203 : Nat) ({ cls := "EvenWordsModel", name := "oneMany", desc := "()I" } : Jvm.MethodName)) ∈ lw_all := lw_g (lw_at lw_m8 115 rfl) rfl
theorem q1848 : (Jvm.Cond.privateMethod ({ cls := "EvenWordsModel", name := "oneMany", desc := "()I" } : Jvm.MethodName)) ∈ lw_tbl := lw_at lw_m8 116 rfl
theorem q1849 : (Jvm.Cond.instanceMethod ({ cls := "EvenWordsModel", name := "oneMany", desc := "()I" } : Jvm.MethodName)) ∈ lw_all := lw_g (lw_at lw_m8 117 rfl) rfl
theorem q1850 : (Jvm.Cond.code ({ cls := "EvenWordsModel", name := "oneMany", desc := "()I" } : Jvm.MethodName) prog_12_method_51_code (3 : Nat) (Option.some Jvm.ClassFile.FieldType.int)) ∈ lw_all := lw_g (lw_at lw_m8 118 rfl) rfl
theorem q1851 : (Jvm.Cond.methodLink "EvenWordsModel" (206 : Nat) ({ cls := "EvenWordsModel", name := "turnedMany", desc := "()I" } : Jvm.MethodName)) ∈ lw_all := lw_g (lw_at lw_m8 119 rfl) rfl
theorem q1852 : (Jvm.Cond.privateMethod ({ cls := "EvenWordsModel", name := "turnedMany", desc := "()I" } : Jvm.MethodName)) ∈ lw_tbl := lw_at lw_m8 120 rfl
theorem q1853 : (Jvm.Cond.instanceMethod ({ cls := "EvenWordsModel", name := "turnedMany", desc := "()I" } : Jvm.MethodName)) ∈ lw_all := lw_g (lw_at lw_m8 121 rfl) rfl
theorem q1854 : (Jvm.Cond.code ({ cls := "EvenWordsModel", name := "turnedMany", desc := "()I" } : Jvm.MethodName) prog_12_method_50_code (5 : Nat) (Option.some Jvm.ClassFile.FieldType.int)) ∈ lw_all := lw_g (lw_at lw_m8 122 rfl) rfl
theorem q1855 : (Jvm.Cond.methodLink "EvenWordsModel" (209 : Nat) ({ cls := "EvenWordsModel", name := "longest", desc := "()I" } : Jvm.MethodName)) ∈ lw_all := lw_g (lw_at lw_m8 123 rfl) rfl
theorem q1856 : (Jvm.Cond.privateMethod ({ cls := "EvenWordsModel", name := "longest", desc := "()I" } : Jvm.MethodName)) ∈ lw_tbl := lw_at lw_m8 124 rfl
theorem q1857 : (Jvm.Cond.instanceMethod ({ cls := "EvenWordsModel", name := "longest", desc := "()I" } : Jvm.MethodName)) ∈ lw_all := lw_g (lw_at lw_m8 125 rfl) rfl
theorem q1858 : (Jvm.Cond.code ({ cls := "EvenWordsModel", name := "longest", desc := "()I" } : Jvm.MethodName) prog_12_method_40_code (4 : Nat) (Option.some Jvm.ClassFile.FieldType.int)) ∈ lw_all := lw_g (lw_at lw_m8 126 rfl) rfl
theorem q1859 : (Jvm.Cond.methodLink "EvenWordsModel" (212 : Nat) ({ cls := "EvenWordsModel", name := "markMany", desc := "()I" } : Jvm.MethodName)) ∈ lw_all := lw_g (lw_at lw_m8 127 rfl) rfl
theorem q1860 : (Jvm.Cond.privateMethod ({ cls := "EvenWordsModel", name := "markMany", desc := "()I" } : Jvm.MethodName)) ∈ lw_tbl := lw_at lw_m8 128 rfl
theorem q1861 : (Jvm.Cond.instanceMethod ({ cls := "EvenWordsModel", name := "markMany", desc := "()I" } : Jvm.MethodName)) ∈ lw_all := lw_g (lw_at lw_m8 129 rfl) rfl
theorem q1862 : (Jvm.Cond.code ({ cls := "EvenWordsModel", name := "markMany", desc := "()I" } : Jvm.MethodName) prog_12_method_52_code (3 : Nat) (Option.some Jvm.ClassFile.FieldType.int)) ∈ lw_all := lw_g (lw_at lw_m8 130 rfl) rfl
theorem q1869 : (Jvm.Cond.castable "EvenWordsModel" "java/lang/Object") ∈ lw_tbl := lw_at lw_m8 137 rfl
theorem in_X2 : ∀ w ∈ wsX20, w ∈ lw_all := lw_in wsX20 [1601, 1603, 1605, 1607, 1609, 1611, 1613, 1615, 1617, 1619, 1621, 1623, 1625, 1627, 1629, 1631, 1633, 1635, 1637, 1639, 1641, 1643, 1645, 1647, 1649, 1651, 1653, 1655, 1657, 1659, 1661, 1663] (by decide +kernel) (by decide +kernel)
