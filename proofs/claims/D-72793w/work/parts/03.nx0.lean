/-! EvenWords -/
set_option maxRecDepth 100000
def RX0 : String := "EvenWords"
def TX0 : u_T := fun k => match k with
  | 0 => ("EvenWords", "forms", "[I", true)
  | 1 => ("EvenWords", "meaning", "[I", true)
  | 2 => ("EvenWords", "now", "LEvenWords$Wire;", false)
  | 3 => ("EvenWords", "trial", "LEvenWords$Wire;", true)
  | 4 => ("EvenWords", "done", "[LEvenWords$Wire;", true)
  | 5 => ("EvenWords", "doneMany", "I", false)
  | 6 => ("EvenWords", "kept", "[LEvenWords$Wire;", true)
  | 7 => ("EvenWords", "text", "[B", true)
  | 8 => ("EvenWords", "typed", "I", false)
  | 9 => ("EvenWords", "sorts", "[LEvenWords$Sort;", true)
  | 10 => ("EvenWords", "blamed", "I", false)
  | 11 => ("EvenWords", "lowest", "I", false)
  | 12 => ("EvenWords", "order", "[I", true)
  | 13 => ("EvenWords", "best", "[I", true)
  | _ => ("EvenWords", "least", "I", false)
def tyX0 : Nat → FieldType := fun k => match k with
  | 0 => .array .int
  | 1 => .array .int
  | 2 => .object "EvenWords$Wire"
  | 3 => .object "EvenWords$Wire"
  | 4 => .array (.object "EvenWords$Wire")
  | 5 => .int
  | 6 => .array (.object "EvenWords$Wire")
  | 7 => .array .byte
  | 8 => .int
  | 9 => .array (.object "EvenWords$Sort")
  | 10 => .int
  | 11 => .int
  | 12 => .array .int
  | 13 => .array .int
  | _ => .int
abbrev wsX00 : List Cond := u_ws RX0 TX0 15
set_option maxRecDepth 100000 in
theorem nmX0 : ∀ a, a < 15 → ∀ b, b < 15 → a ≠ b → (TX0 a).2.1 ≠ (TX0 b).2.1 := by decide +kernel
set_option maxRecDepth 100000 in
theorem tyX0_ok : ∀ k, k < 15 → parseFieldDescriptor (TX0 k).2.2.1 = some (tyX0 k) := by decide +kernel
abbrev cX0_init : ByteArray := prog_1_method_4_code
def yX0_init : MethodName := ⟨RX0, "<init>", "()V"⟩
def dkwX0_init_13 : List UInt8 := [181, 0, 67, 177]
abbrev dktX0_init_13 : List UInt8 := dkwX0_init_13 ++ []
def dkwX0_init_12 : List UInt8 := [6, 186, 0, 59, 0, 0, 83, 181, 0, 60, 42, 16, 6, 188, 10, 181, 0, 64, 42, 16, 6, 188, 10]
abbrev dktX0_init_12 : List UInt8 := dkwX0_init_12 ++ dktX0_init_13
def dkwX0_init_11 : List UInt8 := [186, 0, 51, 0, 0, 83, 89, 4, 42, 186, 0, 55, 0, 0, 83, 89, 5, 186, 0, 56, 0, 0, 83, 89]
abbrev dktX0_init_11 : List UInt8 := dkwX0_init_11 ++ dktX0_init_12
def dkwX0_init_10 : List UInt8 := [189, 0, 26, 181, 0, 42, 42, 16, 120, 188, 8, 181, 0, 45, 42, 7, 189, 0, 49, 89, 3, 42]
abbrev dktX0_init_10 : List UInt8 := dkwX0_init_10 ++ dktX0_init_11
def dkwX0_init_9 : List UInt8 := [187, 0, 26, 89, 42, 183, 0, 28, 181, 0, 35, 42, 16, 6, 189, 0, 26, 181, 0, 38, 42, 5]
abbrev dktX0_init_9 : List UInt8 := dkwX0_init_9 ++ dktX0_init_10
def dkwX0_init_8 : List UInt8 := [182, 0, 22, 29, 79, 132, 3, 1, 167, 255, 223, 42, 187, 0, 26, 89, 42, 183, 0, 28, 181, 0, 31, 42]
abbrev dktX0_init_8 : List UInt8 := dkwX0_init_8 ++ dktX0_init_9
def dkwX0_init_7 : List UInt8 := [162, 0, 33, 42, 180, 0, 19, 42, 29, 3, 182, 0, 22, 29, 79, 42, 180, 0, 19, 42, 29, 4]
abbrev dktX0_init_7 : List UInt8 := dkwX0_init_7 ++ dktX0_init_8
def dkwX0_init_6 : List UInt8 := [180, 0, 3, 16, 32, 16, 30, 79, 42, 180, 0, 3, 16, 33, 16, 60, 79, 3, 62, 29, 16, 34]
abbrev dktX0_init_6 : List UInt8 := dkwX0_init_6 ++ dktX0_init_7
def dkwX0_init_5 : List UInt8 := [167, 255, 168, 42, 180, 0, 3, 16, 30, 16, 56, 79, 42, 180, 0, 3, 16, 31, 16, 15, 79, 42]
abbrev dktX0_init_5 : List UInt8 := dkwX0_init_5 ++ dktX0_init_6
def dkwX0_init_4 : List UInt8 := [159, 0, 19, 29, 16, 60, 159, 0, 13, 42, 180, 0, 3, 28, 29, 79, 132, 2, 1, 132, 3, 1]
abbrev dktX0_init_4 : List UInt8 := dkwX0_init_4 ++ dktX0_init_5
def dkwX0_init_3 : List UInt8 := [79, 132, 1, 1, 167, 0, 37, 21, 4, 7, 160, 0, 31, 29, 16, 15, 159, 0, 25, 29, 16, 30]
abbrev dktX0_init_3 : List UInt8 := dkwX0_init_3 ++ dktX0_init_4
def dkwX0_init_2 : List UInt8 := [21, 4, 6, 160, 0, 28, 29, 16, 7, 159, 0, 22, 29, 16, 56, 159, 0, 16, 42, 180, 0, 3, 27, 29]
abbrev dktX0_init_2 : List UInt8 := dkwX0_init_2 ++ dktX0_init_3
def dkwX0_init_1 : List UInt8 := [61, 3, 62, 29, 16, 64, 162, 0, 88, 42, 180, 0, 19, 29, 16, 247, 79, 29, 184, 0, 7, 54, 4]
abbrev dktX0_init_1 : List UInt8 := dkwX0_init_1 ++ dktX0_init_2
def dkwX0_init_0 : List UInt8 := [42, 183, 0, 13, 42, 16, 34, 188, 10, 181, 0, 3, 42, 16, 64, 188, 10, 181, 0, 19, 3, 60, 16, 18]
abbrev dktX0_init_0 : List UInt8 := dkwX0_init_0 ++ dktX0_init_1
theorem dksX0_init_0 : cX0_init.data.toList.drop 0 = dktX0_init_0 := by decide +kernel
theorem dksX0_init_1 : cX0_init.data.toList.drop 24 = dktX0_init_1 := dk_seg dksX0_init_0 24 rfl rfl
theorem dksX0_init_2 : cX0_init.data.toList.drop 47 = dktX0_init_2 := dk_seg dksX0_init_1 23 rfl rfl
theorem dksX0_init_3 : cX0_init.data.toList.drop 71 = dktX0_init_3 := dk_seg dksX0_init_2 24 rfl rfl
theorem dksX0_init_4 : cX0_init.data.toList.drop 93 = dktX0_init_4 := dk_seg dksX0_init_3 22 rfl rfl
theorem dksX0_init_5 : cX0_init.data.toList.drop 115 = dktX0_init_5 := dk_seg dksX0_init_4 22 rfl rfl
theorem dksX0_init_6 : cX0_init.data.toList.drop 137 = dktX0_init_6 := dk_seg dksX0_init_5 22 rfl rfl
theorem dksX0_init_7 : cX0_init.data.toList.drop 159 = dktX0_init_7 := dk_seg dksX0_init_6 22 rfl rfl
theorem dksX0_init_8 : cX0_init.data.toList.drop 181 = dktX0_init_8 := dk_seg dksX0_init_7 22 rfl rfl
theorem dksX0_init_9 : cX0_init.data.toList.drop 205 = dktX0_init_9 := dk_seg dksX0_init_8 24 rfl rfl
theorem dksX0_init_10 : cX0_init.data.toList.drop 227 = dktX0_init_10 := dk_seg dksX0_init_9 22 rfl rfl
theorem dksX0_init_11 : cX0_init.data.toList.drop 249 = dktX0_init_11 := dk_seg dksX0_init_10 22 rfl rfl
theorem dksX0_init_12 : cX0_init.data.toList.drop 273 = dktX0_init_12 := dk_seg dksX0_init_11 24 rfl rfl
theorem dksX0_init_13 : cX0_init.data.toList.drop 296 = dktX0_init_13 := dk_seg dksX0_init_12 23 rfl rfl
theorem dX0_init_0 : decode cX0_init 0 = .ok (.aload_n 0, 1) := dk_42 (dk_at dksX0_init_0 0 rfl rfl)
theorem dX0_init_1 : decode cX0_init 1 = .ok (.invokespecial 13, 3) := dk_183 0 13 (dk_at dksX0_init_0 1 rfl rfl)
theorem dX0_init_4 : decode cX0_init 4 = .ok (.aload_n 0, 1) := dk_42 (dk_at dksX0_init_0 4 rfl rfl)
theorem dX0_init_5 : decode cX0_init 5 = .ok (.bipush 34, 2) := dk_16 34 (dk_at dksX0_init_0 5 rfl rfl)
theorem dX0_init_7 : decode cX0_init 7 = .ok (.newarray .int, 2) := dk_188_10 (dk_at dksX0_init_0 7 rfl rfl)
theorem dX0_init_9 : decode cX0_init 9 = .ok (.putfield 3, 3) := dk_181 0 3 (dk_at dksX0_init_0 9 rfl rfl)
theorem dX0_init_12 : decode cX0_init 12 = .ok (.aload_n 0, 1) := dk_42 (dk_at dksX0_init_0 12 rfl rfl)
theorem dX0_init_13 : decode cX0_init 13 = .ok (.bipush 64, 2) := dk_16 64 (dk_at dksX0_init_0 13 rfl rfl)
theorem dX0_init_15 : decode cX0_init 15 = .ok (.newarray .int, 2) := dk_188_10 (dk_at dksX0_init_0 15 rfl rfl)
theorem dX0_init_17 : decode cX0_init 17 = .ok (.putfield 19, 3) := dk_181 0 19 (dk_at dksX0_init_0 17 rfl rfl)
theorem dX0_init_20 : decode cX0_init 20 = .ok (.iconst 0, 1) := dk_3 (dk_at dksX0_init_0 20 rfl rfl)
theorem dX0_init_21 : decode cX0_init 21 = .ok (.istore_n 1, 1) := dk_60 (dk_at dksX0_init_0 21 rfl rfl)
theorem dX0_init_22 : decode cX0_init 22 = .ok (.bipush 18, 2) := dk_16 18 (dk_at dksX0_init_0 22 rfl rfl)
theorem dX0_init_24 : decode cX0_init 24 = .ok (.istore_n 2, 1) := dk_61 (dk_at dksX0_init_1 0 rfl rfl)
theorem dX0_init_25 : decode cX0_init 25 = .ok (.iconst 0, 1) := dk_3 (dk_at dksX0_init_1 1 rfl rfl)
theorem dX0_init_26 : decode cX0_init 26 = .ok (.istore_n 3, 1) := dk_62 (dk_at dksX0_init_1 2 rfl rfl)
theorem dX0_init_27 : decode cX0_init 27 = .ok (.iload_n 3, 1) := dk_29 (dk_at dksX0_init_1 3 rfl rfl)
theorem dX0_init_28 : decode cX0_init 28 = .ok (.bipush 64, 2) := dk_16 64 (dk_at dksX0_init_1 4 rfl rfl)
theorem dX0_init_30 : decode cX0_init 30 = .ok (.if_icmp .ge 88, 3) := dk_162 0 88 (dk_at dksX0_init_1 6 rfl rfl)
theorem dX0_init_33 : decode cX0_init 33 = .ok (.aload_n 0, 1) := dk_42 (dk_at dksX0_init_1 9 rfl rfl)
theorem dX0_init_34 : decode cX0_init 34 = .ok (.getfield 19, 3) := dk_180 0 19 (dk_at dksX0_init_1 10 rfl rfl)
theorem dX0_init_37 : decode cX0_init 37 = .ok (.iload_n 3, 1) := dk_29 (dk_at dksX0_init_1 13 rfl rfl)
theorem dX0_init_38 : decode cX0_init 38 = .ok (.bipush (-9), 2) := dk_16 247 (dk_at dksX0_init_1 14 rfl rfl)
theorem dX0_init_40 : decode cX0_init 40 = .ok (.iastore, 1) := dk_79 (dk_at dksX0_init_1 16 rfl rfl)
theorem dX0_init_41 : decode cX0_init 41 = .ok (.iload_n 3, 1) := dk_29 (dk_at dksX0_init_1 17 rfl rfl)
theorem dX0_init_42 : decode cX0_init 42 = .ok (.invokestatic 7, 3) := dk_184 0 7 (dk_at dksX0_init_1 18 rfl rfl)
theorem dX0_init_45 : decode cX0_init 45 = .ok (.istore 4, 2) := dk_54 4 (dk_at dksX0_init_1 21 rfl rfl)
theorem dX0_init_47 : decode cX0_init 47 = .ok (.iload 4, 2) := dk_21 4 (dk_at dksX0_init_2 0 rfl rfl)
theorem dX0_init_49 : decode cX0_init 49 = .ok (.iconst 3, 1) := dk_6 (dk_at dksX0_init_2 2 rfl rfl)
theorem dX0_init_50 : decode cX0_init 50 = .ok (.if_icmp .ne 28, 3) := dk_160 0 28 (dk_at dksX0_init_2 3 rfl rfl)
theorem dX0_init_53 : decode cX0_init 53 = .ok (.iload_n 3, 1) := dk_29 (dk_at dksX0_init_2 6 rfl rfl)
theorem dX0_init_54 : decode cX0_init 54 = .ok (.bipush 7, 2) := dk_16 7 (dk_at dksX0_init_2 7 rfl rfl)
theorem dX0_init_56 : decode cX0_init 56 = .ok (.if_icmp .eq 22, 3) := dk_159 0 22 (dk_at dksX0_init_2 9 rfl rfl)
theorem dX0_init_59 : decode cX0_init 59 = .ok (.iload_n 3, 1) := dk_29 (dk_at dksX0_init_2 12 rfl rfl)
theorem dX0_init_60 : decode cX0_init 60 = .ok (.bipush 56, 2) := dk_16 56 (dk_at dksX0_init_2 13 rfl rfl)
theorem dX0_init_62 : decode cX0_init 62 = .ok (.if_icmp .eq 16, 3) := dk_159 0 16 (dk_at dksX0_init_2 15 rfl rfl)
theorem dX0_init_65 : decode cX0_init 65 = .ok (.aload_n 0, 1) := dk_42 (dk_at dksX0_init_2 18 rfl rfl)
theorem dX0_init_66 : decode cX0_init 66 = .ok (.getfield 3, 3) := dk_180 0 3 (dk_at dksX0_init_2 19 rfl rfl)
theorem dX0_init_69 : decode cX0_init 69 = .ok (.iload_n 1, 1) := dk_27 (dk_at dksX0_init_2 22 rfl rfl)
theorem dX0_init_70 : decode cX0_init 70 = .ok (.iload_n 3, 1) := dk_29 (dk_at dksX0_init_2 23 rfl rfl)
theorem dX0_init_71 : decode cX0_init 71 = .ok (.iastore, 1) := dk_79 (dk_at dksX0_init_3 0 rfl rfl)
theorem dX0_init_72 : decode cX0_init 72 = .ok (.iinc 1 1, 3) := dk_132 1 1 (dk_at dksX0_init_3 1 rfl rfl)
theorem dX0_init_75 : decode cX0_init 75 = .ok (.goto 37, 3) := dk_167 0 37 (dk_at dksX0_init_3 4 rfl rfl)
theorem dX0_init_78 : decode cX0_init 78 = .ok (.iload 4, 2) := dk_21 4 (dk_at dksX0_init_3 7 rfl rfl)
theorem dX0_init_80 : decode cX0_init 80 = .ok (.iconst 4, 1) := dk_7 (dk_at dksX0_init_3 9 rfl rfl)
theorem dX0_init_81 : decode cX0_init 81 = .ok (.if_icmp .ne 31, 3) := dk_160 0 31 (dk_at dksX0_init_3 10 rfl rfl)
theorem dX0_init_84 : decode cX0_init 84 = .ok (.iload_n 3, 1) := dk_29 (dk_at dksX0_init_3 13 rfl rfl)
theorem dX0_init_85 : decode cX0_init 85 = .ok (.bipush 15, 2) := dk_16 15 (dk_at dksX0_init_3 14 rfl rfl)
theorem dX0_init_87 : decode cX0_init 87 = .ok (.if_icmp .eq 25, 3) := dk_159 0 25 (dk_at dksX0_init_3 16 rfl rfl)
theorem dX0_init_90 : decode cX0_init 90 = .ok (.iload_n 3, 1) := dk_29 (dk_at dksX0_init_3 19 rfl rfl)
theorem dX0_init_91 : decode cX0_init 91 = .ok (.bipush 30, 2) := dk_16 30 (dk_at dksX0_init_3 20 rfl rfl)
theorem dX0_init_93 : decode cX0_init 93 = .ok (.if_icmp .eq 19, 3) := dk_159 0 19 (dk_at dksX0_init_4 0 rfl rfl)
theorem dX0_init_96 : decode cX0_init 96 = .ok (.iload_n 3, 1) := dk_29 (dk_at dksX0_init_4 3 rfl rfl)
theorem dX0_init_97 : decode cX0_init 97 = .ok (.bipush 60, 2) := dk_16 60 (dk_at dksX0_init_4 4 rfl rfl)
theorem dX0_init_99 : decode cX0_init 99 = .ok (.if_icmp .eq 13, 3) := dk_159 0 13 (dk_at dksX0_init_4 6 rfl rfl)
theorem dX0_init_102 : decode cX0_init 102 = .ok (.aload_n 0, 1) := dk_42 (dk_at dksX0_init_4 9 rfl rfl)
theorem dX0_init_103 : decode cX0_init 103 = .ok (.getfield 3, 3) := dk_180 0 3 (dk_at dksX0_init_4 10 rfl rfl)
theorem dX0_init_106 : decode cX0_init 106 = .ok (.iload_n 2, 1) := dk_28 (dk_at dksX0_init_4 13 rfl rfl)
theorem dX0_init_107 : decode cX0_init 107 = .ok (.iload_n 3, 1) := dk_29 (dk_at dksX0_init_4 14 rfl rfl)
theorem dX0_init_108 : decode cX0_init 108 = .ok (.iastore, 1) := dk_79 (dk_at dksX0_init_4 15 rfl rfl)
theorem dX0_init_109 : decode cX0_init 109 = .ok (.iinc 2 1, 3) := dk_132 2 1 (dk_at dksX0_init_4 16 rfl rfl)
theorem dX0_init_112 : decode cX0_init 112 = .ok (.iinc 3 1, 3) := dk_132 3 1 (dk_at dksX0_init_4 19 rfl rfl)
theorem dX0_init_115 : decode cX0_init 115 = .ok (.goto (-88), 3) := dk_167 255 168 (dk_at dksX0_init_5 0 rfl rfl)
theorem dX0_init_118 : decode cX0_init 118 = .ok (.aload_n 0, 1) := dk_42 (dk_at dksX0_init_5 3 rfl rfl)
theorem dX0_init_119 : decode cX0_init 119 = .ok (.getfield 3, 3) := dk_180 0 3 (dk_at dksX0_init_5 4 rfl rfl)
theorem dX0_init_122 : decode cX0_init 122 = .ok (.bipush 30, 2) := dk_16 30 (dk_at dksX0_init_5 7 rfl rfl)
theorem dX0_init_124 : decode cX0_init 124 = .ok (.bipush 56, 2) := dk_16 56 (dk_at dksX0_init_5 9 rfl rfl)
theorem dX0_init_126 : decode cX0_init 126 = .ok (.iastore, 1) := dk_79 (dk_at dksX0_init_5 11 rfl rfl)
theorem dX0_init_127 : decode cX0_init 127 = .ok (.aload_n 0, 1) := dk_42 (dk_at dksX0_init_5 12 rfl rfl)
theorem dX0_init_128 : decode cX0_init 128 = .ok (.getfield 3, 3) := dk_180 0 3 (dk_at dksX0_init_5 13 rfl rfl)
theorem dX0_init_131 : decode cX0_init 131 = .ok (.bipush 31, 2) := dk_16 31 (dk_at dksX0_init_5 16 rfl rfl)
theorem dX0_init_133 : decode cX0_init 133 = .ok (.bipush 15, 2) := dk_16 15 (dk_at dksX0_init_5 18 rfl rfl)
theorem dX0_init_135 : decode cX0_init 135 = .ok (.iastore, 1) := dk_79 (dk_at dksX0_init_5 20 rfl rfl)
theorem dX0_init_136 : decode cX0_init 136 = .ok (.aload_n 0, 1) := dk_42 (dk_at dksX0_init_5 21 rfl rfl)
theorem dX0_init_137 : decode cX0_init 137 = .ok (.getfield 3, 3) := dk_180 0 3 (dk_at dksX0_init_6 0 rfl rfl)
theorem dX0_init_140 : decode cX0_init 140 = .ok (.bipush 32, 2) := dk_16 32 (dk_at dksX0_init_6 3 rfl rfl)
theorem dX0_init_142 : decode cX0_init 142 = .ok (.bipush 30, 2) := dk_16 30 (dk_at dksX0_init_6 5 rfl rfl)
theorem dX0_init_144 : decode cX0_init 144 = .ok (.iastore, 1) := dk_79 (dk_at dksX0_init_6 7 rfl rfl)
theorem dX0_init_145 : decode cX0_init 145 = .ok (.aload_n 0, 1) := dk_42 (dk_at dksX0_init_6 8 rfl rfl)
theorem dX0_init_146 : decode cX0_init 146 = .ok (.getfield 3, 3) := dk_180 0 3 (dk_at dksX0_init_6 9 rfl rfl)
theorem dX0_init_149 : decode cX0_init 149 = .ok (.bipush 33, 2) := dk_16 33 (dk_at dksX0_init_6 12 rfl rfl)
theorem dX0_init_151 : decode cX0_init 151 = .ok (.bipush 60, 2) := dk_16 60 (dk_at dksX0_init_6 14 rfl rfl)
theorem dX0_init_153 : decode cX0_init 153 = .ok (.iastore, 1) := dk_79 (dk_at dksX0_init_6 16 rfl rfl)
theorem dX0_init_154 : decode cX0_init 154 = .ok (.iconst 0, 1) := dk_3 (dk_at dksX0_init_6 17 rfl rfl)
theorem dX0_init_155 : decode cX0_init 155 = .ok (.istore_n 3, 1) := dk_62 (dk_at dksX0_init_6 18 rfl rfl)
theorem dX0_init_156 : decode cX0_init 156 = .ok (.iload_n 3, 1) := dk_29 (dk_at dksX0_init_6 19 rfl rfl)
theorem dX0_init_157 : decode cX0_init 157 = .ok (.bipush 34, 2) := dk_16 34 (dk_at dksX0_init_6 20 rfl rfl)
theorem dX0_init_159 : decode cX0_init 159 = .ok (.if_icmp .ge 33, 3) := dk_162 0 33 (dk_at dksX0_init_7 0 rfl rfl)
theorem dX0_init_162 : decode cX0_init 162 = .ok (.aload_n 0, 1) := dk_42 (dk_at dksX0_init_7 3 rfl rfl)
theorem dX0_init_163 : decode cX0_init 163 = .ok (.getfield 19, 3) := dk_180 0 19 (dk_at dksX0_init_7 4 rfl rfl)
theorem dX0_init_166 : decode cX0_init 166 = .ok (.aload_n 0, 1) := dk_42 (dk_at dksX0_init_7 7 rfl rfl)
theorem dX0_init_167 : decode cX0_init 167 = .ok (.iload_n 3, 1) := dk_29 (dk_at dksX0_init_7 8 rfl rfl)
theorem dX0_init_168 : decode cX0_init 168 = .ok (.iconst 0, 1) := dk_3 (dk_at dksX0_init_7 9 rfl rfl)
theorem dX0_init_169 : decode cX0_init 169 = .ok (.invokevirtual 22, 3) := dk_182 0 22 (dk_at dksX0_init_7 10 rfl rfl)
theorem dX0_init_172 : decode cX0_init 172 = .ok (.iload_n 3, 1) := dk_29 (dk_at dksX0_init_7 13 rfl rfl)
theorem dX0_init_173 : decode cX0_init 173 = .ok (.iastore, 1) := dk_79 (dk_at dksX0_init_7 14 rfl rfl)
theorem dX0_init_174 : decode cX0_init 174 = .ok (.aload_n 0, 1) := dk_42 (dk_at dksX0_init_7 15 rfl rfl)
theorem dX0_init_175 : decode cX0_init 175 = .ok (.getfield 19, 3) := dk_180 0 19 (dk_at dksX0_init_7 16 rfl rfl)
theorem dX0_init_178 : decode cX0_init 178 = .ok (.aload_n 0, 1) := dk_42 (dk_at dksX0_init_7 19 rfl rfl)
theorem dX0_init_179 : decode cX0_init 179 = .ok (.iload_n 3, 1) := dk_29 (dk_at dksX0_init_7 20 rfl rfl)
theorem dX0_init_180 : decode cX0_init 180 = .ok (.iconst 1, 1) := dk_4 (dk_at dksX0_init_7 21 rfl rfl)
theorem dX0_init_181 : decode cX0_init 181 = .ok (.invokevirtual 22, 3) := dk_182 0 22 (dk_at dksX0_init_8 0 rfl rfl)
theorem dX0_init_184 : decode cX0_init 184 = .ok (.iload_n 3, 1) := dk_29 (dk_at dksX0_init_8 3 rfl rfl)
theorem dX0_init_185 : decode cX0_init 185 = .ok (.iastore, 1) := dk_79 (dk_at dksX0_init_8 4 rfl rfl)
theorem dX0_init_186 : decode cX0_init 186 = .ok (.iinc 3 1, 3) := dk_132 3 1 (dk_at dksX0_init_8 5 rfl rfl)
theorem dX0_init_189 : decode cX0_init 189 = .ok (.goto (-33), 3) := dk_167 255 223 (dk_at dksX0_init_8 8 rfl rfl)
theorem dX0_init_192 : decode cX0_init 192 = .ok (.aload_n 0, 1) := dk_42 (dk_at dksX0_init_8 11 rfl rfl)
theorem dX0_init_193 : decode cX0_init 193 = .ok (.new 26, 3) := dk_187 0 26 (dk_at dksX0_init_8 12 rfl rfl)
theorem dX0_init_196 : decode cX0_init 196 = .ok (.dup, 1) := dk_89 (dk_at dksX0_init_8 15 rfl rfl)
theorem dX0_init_197 : decode cX0_init 197 = .ok (.aload_n 0, 1) := dk_42 (dk_at dksX0_init_8 16 rfl rfl)
theorem dX0_init_198 : decode cX0_init 198 = .ok (.invokespecial 28, 3) := dk_183 0 28 (dk_at dksX0_init_8 17 rfl rfl)
theorem dX0_init_201 : decode cX0_init 201 = .ok (.putfield 31, 3) := dk_181 0 31 (dk_at dksX0_init_8 20 rfl rfl)
theorem dX0_init_204 : decode cX0_init 204 = .ok (.aload_n 0, 1) := dk_42 (dk_at dksX0_init_8 23 rfl rfl)
theorem dX0_init_205 : decode cX0_init 205 = .ok (.new 26, 3) := dk_187 0 26 (dk_at dksX0_init_9 0 rfl rfl)
theorem dX0_init_208 : decode cX0_init 208 = .ok (.dup, 1) := dk_89 (dk_at dksX0_init_9 3 rfl rfl)
theorem dX0_init_209 : decode cX0_init 209 = .ok (.aload_n 0, 1) := dk_42 (dk_at dksX0_init_9 4 rfl rfl)
theorem dX0_init_210 : decode cX0_init 210 = .ok (.invokespecial 28, 3) := dk_183 0 28 (dk_at dksX0_init_9 5 rfl rfl)
theorem dX0_init_213 : decode cX0_init 213 = .ok (.putfield 35, 3) := dk_181 0 35 (dk_at dksX0_init_9 8 rfl rfl)
theorem dX0_init_216 : decode cX0_init 216 = .ok (.aload_n 0, 1) := dk_42 (dk_at dksX0_init_9 11 rfl rfl)
theorem dX0_init_217 : decode cX0_init 217 = .ok (.bipush 6, 2) := dk_16 6 (dk_at dksX0_init_9 12 rfl rfl)
theorem dX0_init_219 : decode cX0_init 219 = .ok (.anewarray 26, 3) := dk_189 0 26 (dk_at dksX0_init_9 14 rfl rfl)
theorem dX0_init_222 : decode cX0_init 222 = .ok (.putfield 38, 3) := dk_181 0 38 (dk_at dksX0_init_9 17 rfl rfl)
theorem dX0_init_225 : decode cX0_init 225 = .ok (.aload_n 0, 1) := dk_42 (dk_at dksX0_init_9 20 rfl rfl)
theorem dX0_init_226 : decode cX0_init 226 = .ok (.iconst 2, 1) := dk_5 (dk_at dksX0_init_9 21 rfl rfl)
theorem dX0_init_227 : decode cX0_init 227 = .ok (.anewarray 26, 3) := dk_189 0 26 (dk_at dksX0_init_10 0 rfl rfl)
theorem dX0_init_230 : decode cX0_init 230 = .ok (.putfield 42, 3) := dk_181 0 42 (dk_at dksX0_init_10 3 rfl rfl)
theorem dX0_init_233 : decode cX0_init 233 = .ok (.aload_n 0, 1) := dk_42 (dk_at dksX0_init_10 6 rfl rfl)
theorem dX0_init_234 : decode cX0_init 234 = .ok (.bipush 120, 2) := dk_16 120 (dk_at dksX0_init_10 7 rfl rfl)
theorem dX0_init_236 : decode cX0_init 236 = .ok (.newarray .byte, 2) := dk_188_8 (dk_at dksX0_init_10 9 rfl rfl)
theorem dX0_init_238 : decode cX0_init 238 = .ok (.putfield 45, 3) := dk_181 0 45 (dk_at dksX0_init_10 11 rfl rfl)
theorem dX0_init_241 : decode cX0_init 241 = .ok (.aload_n 0, 1) := dk_42 (dk_at dksX0_init_10 14 rfl rfl)
theorem dX0_init_242 : decode cX0_init 242 = .ok (.iconst 4, 1) := dk_7 (dk_at dksX0_init_10 15 rfl rfl)
theorem dX0_init_243 : decode cX0_init 243 = .ok (.anewarray 49, 3) := dk_189 0 49 (dk_at dksX0_init_10 16 rfl rfl)
theorem dX0_init_246 : decode cX0_init 246 = .ok (.dup, 1) := dk_89 (dk_at dksX0_init_10 19 rfl rfl)
theorem dX0_init_247 : decode cX0_init 247 = .ok (.iconst 0, 1) := dk_3 (dk_at dksX0_init_10 20 rfl rfl)
theorem dX0_init_248 : decode cX0_init 248 = .ok (.aload_n 0, 1) := dk_42 (dk_at dksX0_init_10 21 rfl rfl)
theorem dX0_init_249 : decode cX0_init 249 = .ok (.invokedynamic 51, 5) := by decide +kernel
theorem dX0_init_254 : decode cX0_init 254 = .ok (.aastore, 1) := dk_83 (dk_at dksX0_init_11 5 rfl rfl)
theorem dX0_init_255 : decode cX0_init 255 = .ok (.dup, 1) := dk_89 (dk_at dksX0_init_11 6 rfl rfl)
theorem dX0_init_256 : decode cX0_init 256 = .ok (.iconst 1, 1) := dk_4 (dk_at dksX0_init_11 7 rfl rfl)
theorem dX0_init_257 : decode cX0_init 257 = .ok (.aload_n 0, 1) := dk_42 (dk_at dksX0_init_11 8 rfl rfl)
theorem dX0_init_258 : decode cX0_init 258 = .ok (.invokedynamic 55, 5) := by decide +kernel
theorem dX0_init_263 : decode cX0_init 263 = .ok (.aastore, 1) := dk_83 (dk_at dksX0_init_11 14 rfl rfl)
theorem dX0_init_264 : decode cX0_init 264 = .ok (.dup, 1) := dk_89 (dk_at dksX0_init_11 15 rfl rfl)
theorem dX0_init_265 : decode cX0_init 265 = .ok (.iconst 2, 1) := dk_5 (dk_at dksX0_init_11 16 rfl rfl)
theorem dX0_init_266 : decode cX0_init 266 = .ok (.invokedynamic 56, 5) := by decide +kernel
theorem dX0_init_271 : decode cX0_init 271 = .ok (.aastore, 1) := dk_83 (dk_at dksX0_init_11 22 rfl rfl)
theorem dX0_init_272 : decode cX0_init 272 = .ok (.dup, 1) := dk_89 (dk_at dksX0_init_11 23 rfl rfl)
theorem dX0_init_273 : decode cX0_init 273 = .ok (.iconst 3, 1) := dk_6 (dk_at dksX0_init_12 0 rfl rfl)
theorem dX0_init_274 : decode cX0_init 274 = .ok (.invokedynamic 59, 5) := by decide +kernel
theorem dX0_init_279 : decode cX0_init 279 = .ok (.aastore, 1) := dk_83 (dk_at dksX0_init_12 6 rfl rfl)
theorem dX0_init_280 : decode cX0_init 280 = .ok (.putfield 60, 3) := dk_181 0 60 (dk_at dksX0_init_12 7 rfl rfl)
theorem dX0_init_283 : decode cX0_init 283 = .ok (.aload_n 0, 1) := dk_42 (dk_at dksX0_init_12 10 rfl rfl)
theorem dX0_init_284 : decode cX0_init 284 = .ok (.bipush 6, 2) := dk_16 6 (dk_at dksX0_init_12 11 rfl rfl)
theorem dX0_init_286 : decode cX0_init 286 = .ok (.newarray .int, 2) := dk_188_10 (dk_at dksX0_init_12 13 rfl rfl)
theorem dX0_init_288 : decode cX0_init 288 = .ok (.putfield 64, 3) := dk_181 0 64 (dk_at dksX0_init_12 15 rfl rfl)
theorem dX0_init_291 : decode cX0_init 291 = .ok (.aload_n 0, 1) := dk_42 (dk_at dksX0_init_12 18 rfl rfl)
theorem dX0_init_292 : decode cX0_init 292 = .ok (.bipush 6, 2) := dk_16 6 (dk_at dksX0_init_12 19 rfl rfl)
theorem dX0_init_294 : decode cX0_init 294 = .ok (.newarray .int, 2) := dk_188_10 (dk_at dksX0_init_12 21 rfl rfl)
theorem dX0_init_296 : decode cX0_init 296 = .ok (.putfield 67, 3) := dk_181 0 67 (dk_at dksX0_init_13 0 rfl rfl)
theorem dX0_init_299 : decode cX0_init 299 = .ok (.return_, 1) := dk_177 (dk_at dksX0_init_13 3 rfl rfl)
abbrev cX0_formOf : ByteArray := prog_1_method_2_code
def yX0_formOf : MethodName := ⟨RX0, "formOf", "(IZ)I"⟩
def dkwX0_formOf_1 : List UInt8 := [180, 0, 3, 27, 46, 172]
abbrev dktX0_formOf_1 : List UInt8 := dkwX0_formOf_1 ++ []
def dkwX0_formOf_0 : List UInt8 := [28, 153, 0, 21, 27, 16, 17, 164, 0, 15, 16, 63, 42, 180, 0, 3, 27, 46, 100, 167, 0, 9, 42]
abbrev dktX0_formOf_0 : List UInt8 := dkwX0_formOf_0 ++ dktX0_formOf_1
theorem dksX0_formOf_0 : cX0_formOf.data.toList.drop 0 = dktX0_formOf_0 := by decide +kernel
theorem dksX0_formOf_1 : cX0_formOf.data.toList.drop 23 = dktX0_formOf_1 := dk_seg dksX0_formOf_0 23 rfl rfl
theorem dX0_formOf_0 : decode cX0_formOf 0 = .ok (.iload_n 2, 1) := dk_28 (dk_at dksX0_formOf_0 0 rfl rfl)
theorem dX0_formOf_1 : decode cX0_formOf 1 = .ok (.ifCond .eq 21, 3) := dk_153 0 21 (dk_at dksX0_formOf_0 1 rfl rfl)
theorem dX0_formOf_4 : decode cX0_formOf 4 = .ok (.iload_n 1, 1) := dk_27 (dk_at dksX0_formOf_0 4 rfl rfl)
theorem dX0_formOf_5 : decode cX0_formOf 5 = .ok (.bipush 17, 2) := dk_16 17 (dk_at dksX0_formOf_0 5 rfl rfl)
theorem dX0_formOf_7 : decode cX0_formOf 7 = .ok (.if_icmp .le 15, 3) := dk_164 0 15 (dk_at dksX0_formOf_0 7 rfl rfl)
theorem dX0_formOf_10 : decode cX0_formOf 10 = .ok (.bipush 63, 2) := dk_16 63 (dk_at dksX0_formOf_0 10 rfl rfl)
theorem dX0_formOf_12 : decode cX0_formOf 12 = .ok (.aload_n 0, 1) := dk_42 (dk_at dksX0_formOf_0 12 rfl rfl)
theorem dX0_formOf_13 : decode cX0_formOf 13 = .ok (.getfield 3, 3) := dk_180 0 3 (dk_at dksX0_formOf_0 13 rfl rfl)
theorem dX0_formOf_16 : decode cX0_formOf 16 = .ok (.iload_n 1, 1) := dk_27 (dk_at dksX0_formOf_0 16 rfl rfl)
theorem dX0_formOf_17 : decode cX0_formOf 17 = .ok (.iaload, 1) := dk_46 (dk_at dksX0_formOf_0 17 rfl rfl)
theorem dX0_formOf_18 : decode cX0_formOf 18 = .ok (.isub, 1) := dk_100 (dk_at dksX0_formOf_0 18 rfl rfl)
theorem dX0_formOf_19 : decode cX0_formOf 19 = .ok (.goto 9, 3) := dk_167 0 9 (dk_at dksX0_formOf_0 19 rfl rfl)
theorem dX0_formOf_22 : decode cX0_formOf 22 = .ok (.aload_n 0, 1) := dk_42 (dk_at dksX0_formOf_0 22 rfl rfl)
theorem dX0_formOf_23 : decode cX0_formOf 23 = .ok (.getfield 3, 3) := dk_180 0 3 (dk_at dksX0_formOf_1 0 rfl rfl)
theorem dX0_formOf_26 : decode cX0_formOf 26 = .ok (.iload_n 1, 1) := dk_27 (dk_at dksX0_formOf_1 3 rfl rfl)
theorem dX0_formOf_27 : decode cX0_formOf 27 = .ok (.iaload, 1) := dk_46 (dk_at dksX0_formOf_1 4 rfl rfl)
theorem dX0_formOf_28 : decode cX0_formOf 28 = .ok (.ireturn, 1) := dk_172 (dk_at dksX0_formOf_1 5 rfl rfl)
abbrev cX0_lambda_new_0 : ByteArray := prog_1_method_42_code
def yX0_lambda_new_0 : MethodName := ⟨RX0, "lambda$new$0", "(LEvenWords$Piece;)Z"⟩
def dkwX0_lambda_new_0_0 : List UInt8 := [42, 180, 0, 19, 43, 180, 0, 186, 46, 16, 247, 160, 0, 7, 4, 167, 0, 4, 3, 172]
abbrev dktX0_lambda_new_0_0 : List UInt8 := dkwX0_lambda_new_0_0 ++ []
theorem dksX0_lambda_new_0_0 : cX0_lambda_new_0.data.toList.drop 0 = dktX0_lambda_new_0_0 := by decide +kernel
theorem dX0_lambda_new_0_0 : decode cX0_lambda_new_0 0 = .ok (.aload_n 0, 1) := dk_42 (dk_at dksX0_lambda_new_0_0 0 rfl rfl)
theorem dX0_lambda_new_0_1 : decode cX0_lambda_new_0 1 = .ok (.getfield 19, 3) := dk_180 0 19 (dk_at dksX0_lambda_new_0_0 1 rfl rfl)
theorem dX0_lambda_new_0_4 : decode cX0_lambda_new_0 4 = .ok (.aload_n 1, 1) := dk_43 (dk_at dksX0_lambda_new_0_0 4 rfl rfl)
theorem dX0_lambda_new_0_5 : decode cX0_lambda_new_0 5 = .ok (.getfield 186, 3) := dk_180 0 186 (dk_at dksX0_lambda_new_0_0 5 rfl rfl)
theorem dX0_lambda_new_0_8 : decode cX0_lambda_new_0 8 = .ok (.iaload, 1) := dk_46 (dk_at dksX0_lambda_new_0_0 8 rfl rfl)
theorem dX0_lambda_new_0_9 : decode cX0_lambda_new_0 9 = .ok (.bipush (-9), 2) := dk_16 247 (dk_at dksX0_lambda_new_0_0 9 rfl rfl)
theorem dX0_lambda_new_0_11 : decode cX0_lambda_new_0 11 = .ok (.if_icmp .ne 7, 3) := dk_160 0 7 (dk_at dksX0_lambda_new_0_0 11 rfl rfl)
theorem dX0_lambda_new_0_14 : decode cX0_lambda_new_0 14 = .ok (.iconst 1, 1) := dk_4 (dk_at dksX0_lambda_new_0_0 14 rfl rfl)
theorem dX0_lambda_new_0_15 : decode cX0_lambda_new_0 15 = .ok (.goto 4, 3) := dk_167 0 4 (dk_at dksX0_lambda_new_0_0 15 rfl rfl)
theorem dX0_lambda_new_0_18 : decode cX0_lambda_new_0 18 = .ok (.iconst 0, 1) := dk_3 (dk_at dksX0_lambda_new_0_0 18 rfl rfl)
theorem dX0_lambda_new_0_19 : decode cX0_lambda_new_0 19 = .ok (.ireturn, 1) := dk_172 (dk_at dksX0_lambda_new_0_0 19 rfl rfl)
abbrev cX0_lambda_new_1 : ByteArray := prog_1_method_41_code
def yX0_lambda_new_1 : MethodName := ⟨RX0, "lambda$new$1", "(LEvenWords$Piece;)Z"⟩
def dkwX0_lambda_new_1_1 : List UInt8 := [43, 180, 1, 51, 182, 0, 22, 43, 180, 0, 186, 159, 0, 7, 4, 167, 0, 4, 3, 172]
abbrev dktX0_lambda_new_1_1 : List UInt8 := dkwX0_lambda_new_1_1 ++ []
def dkwX0_lambda_new_1_0 : List UInt8 := [42, 180, 0, 19, 43, 180, 0, 186, 46, 16, 247, 159, 0, 31, 42, 42, 180, 0, 19, 43, 180, 0, 186, 46]
abbrev dktX0_lambda_new_1_0 : List UInt8 := dkwX0_lambda_new_1_0 ++ dktX0_lambda_new_1_1
theorem dksX0_lambda_new_1_0 : cX0_lambda_new_1.data.toList.drop 0 = dktX0_lambda_new_1_0 := by decide +kernel
theorem dksX0_lambda_new_1_1 : cX0_lambda_new_1.data.toList.drop 24 = dktX0_lambda_new_1_1 := dk_seg dksX0_lambda_new_1_0 24 rfl rfl
theorem dX0_lambda_new_1_0 : decode cX0_lambda_new_1 0 = .ok (.aload_n 0, 1) := dk_42 (dk_at dksX0_lambda_new_1_0 0 rfl rfl)
theorem dX0_lambda_new_1_1 : decode cX0_lambda_new_1 1 = .ok (.getfield 19, 3) := dk_180 0 19 (dk_at dksX0_lambda_new_1_0 1 rfl rfl)
theorem dX0_lambda_new_1_4 : decode cX0_lambda_new_1 4 = .ok (.aload_n 1, 1) := dk_43 (dk_at dksX0_lambda_new_1_0 4 rfl rfl)
theorem dX0_lambda_new_1_5 : decode cX0_lambda_new_1 5 = .ok (.getfield 186, 3) := dk_180 0 186 (dk_at dksX0_lambda_new_1_0 5 rfl rfl)
theorem dX0_lambda_new_1_8 : decode cX0_lambda_new_1 8 = .ok (.iaload, 1) := dk_46 (dk_at dksX0_lambda_new_1_0 8 rfl rfl)
theorem dX0_lambda_new_1_9 : decode cX0_lambda_new_1 9 = .ok (.bipush (-9), 2) := dk_16 247 (dk_at dksX0_lambda_new_1_0 9 rfl rfl)
theorem dX0_lambda_new_1_11 : decode cX0_lambda_new_1 11 = .ok (.if_icmp .eq 31, 3) := dk_159 0 31 (dk_at dksX0_lambda_new_1_0 11 rfl rfl)
theorem dX0_lambda_new_1_14 : decode cX0_lambda_new_1 14 = .ok (.aload_n 0, 1) := dk_42 (dk_at dksX0_lambda_new_1_0 14 rfl rfl)
theorem dX0_lambda_new_1_15 : decode cX0_lambda_new_1 15 = .ok (.aload_n 0, 1) := dk_42 (dk_at dksX0_lambda_new_1_0 15 rfl rfl)
theorem dX0_lambda_new_1_16 : decode cX0_lambda_new_1 16 = .ok (.getfield 19, 3) := dk_180 0 19 (dk_at dksX0_lambda_new_1_0 16 rfl rfl)
theorem dX0_lambda_new_1_19 : decode cX0_lambda_new_1 19 = .ok (.aload_n 1, 1) := dk_43 (dk_at dksX0_lambda_new_1_0 19 rfl rfl)
theorem dX0_lambda_new_1_20 : decode cX0_lambda_new_1 20 = .ok (.getfield 186, 3) := dk_180 0 186 (dk_at dksX0_lambda_new_1_0 20 rfl rfl)
theorem dX0_lambda_new_1_23 : decode cX0_lambda_new_1 23 = .ok (.iaload, 1) := dk_46 (dk_at dksX0_lambda_new_1_0 23 rfl rfl)
theorem dX0_lambda_new_1_24 : decode cX0_lambda_new_1 24 = .ok (.aload_n 1, 1) := dk_43 (dk_at dksX0_lambda_new_1_1 0 rfl rfl)
theorem dX0_lambda_new_1_25 : decode cX0_lambda_new_1 25 = .ok (.getfield 307, 3) := dk_180 1 51 (dk_at dksX0_lambda_new_1_1 1 rfl rfl)
theorem dX0_lambda_new_1_28 : decode cX0_lambda_new_1 28 = .ok (.invokevirtual 22, 3) := dk_182 0 22 (dk_at dksX0_lambda_new_1_1 4 rfl rfl)
theorem dX0_lambda_new_1_31 : decode cX0_lambda_new_1 31 = .ok (.aload_n 1, 1) := dk_43 (dk_at dksX0_lambda_new_1_1 7 rfl rfl)
theorem dX0_lambda_new_1_32 : decode cX0_lambda_new_1 32 = .ok (.getfield 186, 3) := dk_180 0 186 (dk_at dksX0_lambda_new_1_1 8 rfl rfl)
theorem dX0_lambda_new_1_35 : decode cX0_lambda_new_1 35 = .ok (.if_icmp .eq 7, 3) := dk_159 0 7 (dk_at dksX0_lambda_new_1_1 11 rfl rfl)
theorem dX0_lambda_new_1_38 : decode cX0_lambda_new_1 38 = .ok (.iconst 1, 1) := dk_4 (dk_at dksX0_lambda_new_1_1 14 rfl rfl)
theorem dX0_lambda_new_1_39 : decode cX0_lambda_new_1 39 = .ok (.goto 4, 3) := dk_167 0 4 (dk_at dksX0_lambda_new_1_1 15 rfl rfl)
theorem dX0_lambda_new_1_42 : decode cX0_lambda_new_1 42 = .ok (.iconst 0, 1) := dk_3 (dk_at dksX0_lambda_new_1_1 18 rfl rfl)
theorem dX0_lambda_new_1_43 : decode cX0_lambda_new_1 43 = .ok (.ireturn, 1) := dk_172 (dk_at dksX0_lambda_new_1_1 19 rfl rfl)
abbrev cX0_lambda_new_2 : ByteArray := prog_1_method_40_code
def yX0_lambda_new_2 : MethodName := ⟨RX0, "lambda$new$2", "(LEvenWords$Piece;)Z"⟩
def dkwX0_lambda_new_2_0 : List UInt8 := [42, 180, 1, 48, 16, 6, 164, 0, 7, 4, 167, 0, 4, 3, 172]
abbrev dktX0_lambda_new_2_0 : List UInt8 := dkwX0_lambda_new_2_0 ++ []
theorem dksX0_lambda_new_2_0 : cX0_lambda_new_2.data.toList.drop 0 = dktX0_lambda_new_2_0 := by decide +kernel
theorem dX0_lambda_new_2_0 : decode cX0_lambda_new_2 0 = .ok (.aload_n 0, 1) := dk_42 (dk_at dksX0_lambda_new_2_0 0 rfl rfl)
theorem dX0_lambda_new_2_1 : decode cX0_lambda_new_2 1 = .ok (.getfield 304, 3) := dk_180 1 48 (dk_at dksX0_lambda_new_2_0 1 rfl rfl)
theorem dX0_lambda_new_2_4 : decode cX0_lambda_new_2 4 = .ok (.bipush 6, 2) := dk_16 6 (dk_at dksX0_lambda_new_2_0 4 rfl rfl)
theorem dX0_lambda_new_2_6 : decode cX0_lambda_new_2 6 = .ok (.if_icmp .le 7, 3) := dk_164 0 7 (dk_at dksX0_lambda_new_2_0 6 rfl rfl)
theorem dX0_lambda_new_2_9 : decode cX0_lambda_new_2 9 = .ok (.iconst 1, 1) := dk_4 (dk_at dksX0_lambda_new_2_0 9 rfl rfl)
theorem dX0_lambda_new_2_10 : decode cX0_lambda_new_2 10 = .ok (.goto 4, 3) := dk_167 0 4 (dk_at dksX0_lambda_new_2_0 10 rfl rfl)
theorem dX0_lambda_new_2_13 : decode cX0_lambda_new_2 13 = .ok (.iconst 0, 1) := dk_3 (dk_at dksX0_lambda_new_2_0 13 rfl rfl)
theorem dX0_lambda_new_2_14 : decode cX0_lambda_new_2 14 = .ok (.ireturn, 1) := dk_172 (dk_at dksX0_lambda_new_2_0 14 rfl rfl)
abbrev cX0_lambda_new_3 : ByteArray := prog_1_method_39_code
def yX0_lambda_new_3 : MethodName := ⟨RX0, "lambda$new$3", "(LEvenWords$Piece;)Z"⟩
def dkwX0_lambda_new_3_0 : List UInt8 := [42, 180, 1, 44, 6, 163, 0, 12, 42, 180, 1, 47, 16, 253, 162, 0, 7, 4, 167, 0, 4, 3, 172]
abbrev dktX0_lambda_new_3_0 : List UInt8 := dkwX0_lambda_new_3_0 ++ []
theorem dksX0_lambda_new_3_0 : cX0_lambda_new_3.data.toList.drop 0 = dktX0_lambda_new_3_0 := by decide +kernel
theorem dX0_lambda_new_3_0 : decode cX0_lambda_new_3 0 = .ok (.aload_n 0, 1) := dk_42 (dk_at dksX0_lambda_new_3_0 0 rfl rfl)
theorem dX0_lambda_new_3_1 : decode cX0_lambda_new_3 1 = .ok (.getfield 300, 3) := dk_180 1 44 (dk_at dksX0_lambda_new_3_0 1 rfl rfl)
theorem dX0_lambda_new_3_4 : decode cX0_lambda_new_3 4 = .ok (.iconst 3, 1) := dk_6 (dk_at dksX0_lambda_new_3_0 4 rfl rfl)
theorem dX0_lambda_new_3_5 : decode cX0_lambda_new_3 5 = .ok (.if_icmp .gt 12, 3) := dk_163 0 12 (dk_at dksX0_lambda_new_3_0 5 rfl rfl)
theorem dX0_lambda_new_3_8 : decode cX0_lambda_new_3 8 = .ok (.aload_n 0, 1) := dk_42 (dk_at dksX0_lambda_new_3_0 8 rfl rfl)
theorem dX0_lambda_new_3_9 : decode cX0_lambda_new_3 9 = .ok (.getfield 303, 3) := dk_180 1 47 (dk_at dksX0_lambda_new_3_0 9 rfl rfl)
theorem dX0_lambda_new_3_12 : decode cX0_lambda_new_3 12 = .ok (.bipush (-3), 2) := dk_16 253 (dk_at dksX0_lambda_new_3_0 12 rfl rfl)
theorem dX0_lambda_new_3_14 : decode cX0_lambda_new_3 14 = .ok (.if_icmp .ge 7, 3) := dk_162 0 7 (dk_at dksX0_lambda_new_3_0 14 rfl rfl)
theorem dX0_lambda_new_3_17 : decode cX0_lambda_new_3 17 = .ok (.iconst 1, 1) := dk_4 (dk_at dksX0_lambda_new_3_0 17 rfl rfl)
theorem dX0_lambda_new_3_18 : decode cX0_lambda_new_3 18 = .ok (.goto 4, 3) := dk_167 0 4 (dk_at dksX0_lambda_new_3_0 18 rfl rfl)
theorem dX0_lambda_new_3_21 : decode cX0_lambda_new_3 21 = .ok (.iconst 0, 1) := dk_3 (dk_at dksX0_lambda_new_3_0 21 rfl rfl)
theorem dX0_lambda_new_3_22 : decode cX0_lambda_new_3 22 = .ok (.ireturn, 1) := dk_172 (dk_at dksX0_lambda_new_3_0 22 rfl rfl)
abbrev cX0_type : ByteArray := prog_1_method_6_code
def yX0_type : MethodName := ⟨RX0, "type", "(I)I"⟩
def dkwX0_type_2 : List UInt8 := [180, 0, 88, 172]
abbrev dktX0_type_2 : List UInt8 := dkwX0_type_2 ++ []
def dkwX0_type_1 : List UInt8 := [172, 42, 180, 0, 45, 42, 180, 0, 88, 27, 145, 84, 42, 89, 180, 0, 88, 4, 96, 181, 0, 88, 42]
abbrev dktX0_type_1 : List UInt8 := dkwX0_type_1 ++ dktX0_type_2
def dkwX0_type_0 : List UInt8 := [27, 3, 17, 0, 255, 184, 0, 84, 154, 0, 5, 2, 172, 42, 180, 0, 88, 16, 120, 160, 0, 6, 16, 253]
abbrev dktX0_type_0 : List UInt8 := dkwX0_type_0 ++ dktX0_type_1
theorem dksX0_type_0 : cX0_type.data.toList.drop 0 = dktX0_type_0 := by decide +kernel
theorem dksX0_type_1 : cX0_type.data.toList.drop 24 = dktX0_type_1 := dk_seg dksX0_type_0 24 rfl rfl
theorem dksX0_type_2 : cX0_type.data.toList.drop 47 = dktX0_type_2 := dk_seg dksX0_type_1 23 rfl rfl
theorem dX0_type_0 : decode cX0_type 0 = .ok (.iload_n 1, 1) := dk_27 (dk_at dksX0_type_0 0 rfl rfl)
theorem dX0_type_1 : decode cX0_type 1 = .ok (.iconst 0, 1) := dk_3 (dk_at dksX0_type_0 1 rfl rfl)
theorem dX0_type_2 : decode cX0_type 2 = .ok (.sipush 255, 3) := dk_17 0 255 (dk_at dksX0_type_0 2 rfl rfl)
theorem dX0_type_5 : decode cX0_type 5 = .ok (.invokestatic 84, 3) := dk_184 0 84 (dk_at dksX0_type_0 5 rfl rfl)
theorem dX0_type_8 : decode cX0_type 8 = .ok (.ifCond .ne 5, 3) := dk_154 0 5 (dk_at dksX0_type_0 8 rfl rfl)
theorem dX0_type_11 : decode cX0_type 11 = .ok (.iconst (-1), 1) := dk_2 (dk_at dksX0_type_0 11 rfl rfl)
theorem dX0_type_12 : decode cX0_type 12 = .ok (.ireturn, 1) := dk_172 (dk_at dksX0_type_0 12 rfl rfl)
theorem dX0_type_13 : decode cX0_type 13 = .ok (.aload_n 0, 1) := dk_42 (dk_at dksX0_type_0 13 rfl rfl)
theorem dX0_type_14 : decode cX0_type 14 = .ok (.getfield 88, 3) := dk_180 0 88 (dk_at dksX0_type_0 14 rfl rfl)
theorem dX0_type_17 : decode cX0_type 17 = .ok (.bipush 120, 2) := dk_16 120 (dk_at dksX0_type_0 17 rfl rfl)
theorem dX0_type_19 : decode cX0_type 19 = .ok (.if_icmp .ne 6, 3) := dk_160 0 6 (dk_at dksX0_type_0 19 rfl rfl)
theorem dX0_type_22 : decode cX0_type 22 = .ok (.bipush (-3), 2) := dk_16 253 (dk_at dksX0_type_0 22 rfl rfl)
theorem dX0_type_24 : decode cX0_type 24 = .ok (.ireturn, 1) := dk_172 (dk_at dksX0_type_1 0 rfl rfl)
theorem dX0_type_25 : decode cX0_type 25 = .ok (.aload_n 0, 1) := dk_42 (dk_at dksX0_type_1 1 rfl rfl)
theorem dX0_type_26 : decode cX0_type 26 = .ok (.getfield 45, 3) := dk_180 0 45 (dk_at dksX0_type_1 2 rfl rfl)
theorem dX0_type_29 : decode cX0_type 29 = .ok (.aload_n 0, 1) := dk_42 (dk_at dksX0_type_1 5 rfl rfl)
theorem dX0_type_30 : decode cX0_type 30 = .ok (.getfield 88, 3) := dk_180 0 88 (dk_at dksX0_type_1 6 rfl rfl)
theorem dX0_type_33 : decode cX0_type 33 = .ok (.iload_n 1, 1) := dk_27 (dk_at dksX0_type_1 9 rfl rfl)
theorem dX0_type_34 : decode cX0_type 34 = .ok (.i2b, 1) := dk_145 (dk_at dksX0_type_1 10 rfl rfl)
theorem dX0_type_35 : decode cX0_type 35 = .ok (.bastore, 1) := dk_84 (dk_at dksX0_type_1 11 rfl rfl)
theorem dX0_type_36 : decode cX0_type 36 = .ok (.aload_n 0, 1) := dk_42 (dk_at dksX0_type_1 12 rfl rfl)
theorem dX0_type_37 : decode cX0_type 37 = .ok (.dup, 1) := dk_89 (dk_at dksX0_type_1 13 rfl rfl)
theorem dX0_type_38 : decode cX0_type 38 = .ok (.getfield 88, 3) := dk_180 0 88 (dk_at dksX0_type_1 14 rfl rfl)
theorem dX0_type_41 : decode cX0_type 41 = .ok (.iconst 1, 1) := dk_4 (dk_at dksX0_type_1 17 rfl rfl)
theorem dX0_type_42 : decode cX0_type 42 = .ok (.iadd, 1) := dk_96 (dk_at dksX0_type_1 18 rfl rfl)
theorem dX0_type_43 : decode cX0_type 43 = .ok (.putfield 88, 3) := dk_181 0 88 (dk_at dksX0_type_1 19 rfl rfl)
theorem dX0_type_46 : decode cX0_type 46 = .ok (.aload_n 0, 1) := dk_42 (dk_at dksX0_type_1 22 rfl rfl)
theorem dX0_type_47 : decode cX0_type 47 = .ok (.getfield 88, 3) := dk_180 0 88 (dk_at dksX0_type_2 0 rfl rfl)
theorem dX0_type_50 : decode cX0_type 50 = .ok (.ireturn, 1) := dk_172 (dk_at dksX0_type_2 3 rfl rfl)
abbrev cX0_in : ByteArray := prog_1_method_1_code
def yX0_in : MethodName := ⟨RX0, "in", "(III)Z"⟩
def dkwX0_in_0 : List UInt8 := [26, 27, 161, 0, 12, 26, 28, 163, 0, 7, 4, 167, 0, 4, 3, 172]
abbrev dktX0_in_0 : List UInt8 := dkwX0_in_0 ++ []
theorem dksX0_in_0 : cX0_in.data.toList.drop 0 = dktX0_in_0 := by decide +kernel
theorem dX0_in_0 : decode cX0_in 0 = .ok (.iload_n 0, 1) := dk_26 (dk_at dksX0_in_0 0 rfl rfl)
theorem dX0_in_1 : decode cX0_in 1 = .ok (.iload_n 1, 1) := dk_27 (dk_at dksX0_in_0 1 rfl rfl)
theorem dX0_in_2 : decode cX0_in 2 = .ok (.if_icmp .lt 12, 3) := dk_161 0 12 (dk_at dksX0_in_0 2 rfl rfl)
theorem dX0_in_5 : decode cX0_in 5 = .ok (.iload_n 0, 1) := dk_26 (dk_at dksX0_in_0 5 rfl rfl)
theorem dX0_in_6 : decode cX0_in 6 = .ok (.iload_n 2, 1) := dk_28 (dk_at dksX0_in_0 6 rfl rfl)
theorem dX0_in_7 : decode cX0_in 7 = .ok (.if_icmp .gt 7, 3) := dk_163 0 7 (dk_at dksX0_in_0 7 rfl rfl)
theorem dX0_in_10 : decode cX0_in 10 = .ok (.iconst 1, 1) := dk_4 (dk_at dksX0_in_0 10 rfl rfl)
theorem dX0_in_11 : decode cX0_in 11 = .ok (.goto 4, 3) := dk_167 0 4 (dk_at dksX0_in_0 11 rfl rfl)
theorem dX0_in_14 : decode cX0_in 14 = .ok (.iconst 0, 1) := dk_3 (dk_at dksX0_in_0 14 rfl rfl)
theorem dX0_in_15 : decode cX0_in 15 = .ok (.ireturn, 1) := dk_172 (dk_at dksX0_in_0 15 rfl rfl)
abbrev cX0_clear : ByteArray := prog_1_method_7_code
def yX0_clear : MethodName := ⟨RX0, "clear", "()I"⟩
def dkwX0_clear_0 : List UInt8 := [42, 180, 0, 88, 60, 42, 3, 181, 0, 88, 27, 172]
abbrev dktX0_clear_0 : List UInt8 := dkwX0_clear_0 ++ []
theorem dksX0_clear_0 : cX0_clear.data.toList.drop 0 = dktX0_clear_0 := by decide +kernel
theorem dX0_clear_0 : decode cX0_clear 0 = .ok (.aload_n 0, 1) := dk_42 (dk_at dksX0_clear_0 0 rfl rfl)
theorem dX0_clear_1 : decode cX0_clear 1 = .ok (.getfield 88, 3) := dk_180 0 88 (dk_at dksX0_clear_0 1 rfl rfl)
theorem dX0_clear_4 : decode cX0_clear 4 = .ok (.istore_n 1, 1) := dk_60 (dk_at dksX0_clear_0 4 rfl rfl)
theorem dX0_clear_5 : decode cX0_clear 5 = .ok (.aload_n 0, 1) := dk_42 (dk_at dksX0_clear_0 5 rfl rfl)
theorem dX0_clear_6 : decode cX0_clear 6 = .ok (.iconst 0, 1) := dk_3 (dk_at dksX0_clear_0 6 rfl rfl)
theorem dX0_clear_7 : decode cX0_clear 7 = .ok (.putfield 88, 3) := dk_181 0 88 (dk_at dksX0_clear_0 7 rfl rfl)
theorem dX0_clear_10 : decode cX0_clear 10 = .ok (.iload_n 1, 1) := dk_27 (dk_at dksX0_clear_0 10 rfl rfl)
theorem dX0_clear_11 : decode cX0_clear 11 = .ok (.ireturn, 1) := dk_172 (dk_at dksX0_clear_0 11 rfl rfl)
abbrev cX0_tells : ByteArray := prog_1_method_8_code
def yX0_tells : MethodName := ⟨RX0, "tells", "()I"⟩
def dkwX0_tells_3 : List UInt8 := [182, 0, 118, 87, 132, 2, 1, 167, 255, 231, 42, 3, 181, 0, 88, 43, 180, 0, 112, 172]
abbrev dktX0_tells_3 : List UInt8 := dkwX0_tells_3 ++ []
def dkwX0_tells_2 : List UInt8 := [182, 0, 109, 3, 61, 28, 43, 180, 0, 112, 162, 0, 23, 42, 180, 0, 31, 43, 180, 0, 115, 28, 46]
abbrev dktX0_tells_2 : List UInt8 := dkwX0_tells_2 ++ dktX0_tells_3
def dkwX0_tells_1 : List UInt8 := [153, 0, 19, 16, 246, 44, 182, 0, 100, 192, 0, 104, 180, 0, 106, 100, 167, 0, 5, 16, 253, 172, 42]
abbrev dktX0_tells_1 : List UInt8 := dkwX0_tells_1 ++ dktX0_tells_2
def dkwX0_tells_0 : List UInt8 := [187, 0, 91, 89, 42, 183, 0, 93, 182, 0, 94, 76, 167, 0, 33, 77, 44, 182, 0, 100, 193, 0, 104]
abbrev dktX0_tells_0 : List UInt8 := dkwX0_tells_0 ++ dktX0_tells_1
theorem dksX0_tells_0 : cX0_tells.data.toList.drop 0 = dktX0_tells_0 := by decide +kernel
theorem dksX0_tells_1 : cX0_tells.data.toList.drop 23 = dktX0_tells_1 := dk_seg dksX0_tells_0 23 rfl rfl
theorem dksX0_tells_2 : cX0_tells.data.toList.drop 46 = dktX0_tells_2 := dk_seg dksX0_tells_1 23 rfl rfl
theorem dksX0_tells_3 : cX0_tells.data.toList.drop 69 = dktX0_tells_3 := dk_seg dksX0_tells_2 23 rfl rfl
theorem dX0_tells_0 : decode cX0_tells 0 = .ok (.new 91, 3) := dk_187 0 91 (dk_at dksX0_tells_0 0 rfl rfl)
theorem dX0_tells_3 : decode cX0_tells 3 = .ok (.dup, 1) := dk_89 (dk_at dksX0_tells_0 3 rfl rfl)
theorem dX0_tells_4 : decode cX0_tells 4 = .ok (.aload_n 0, 1) := dk_42 (dk_at dksX0_tells_0 4 rfl rfl)
theorem dX0_tells_5 : decode cX0_tells 5 = .ok (.invokespecial 93, 3) := dk_183 0 93 (dk_at dksX0_tells_0 5 rfl rfl)
theorem dX0_tells_8 : decode cX0_tells 8 = .ok (.invokevirtual 94, 3) := dk_182 0 94 (dk_at dksX0_tells_0 8 rfl rfl)
theorem dX0_tells_11 : decode cX0_tells 11 = .ok (.astore_n 1, 1) := dk_76 (dk_at dksX0_tells_0 11 rfl rfl)
theorem dX0_tells_12 : decode cX0_tells 12 = .ok (.goto 33, 3) := dk_167 0 33 (dk_at dksX0_tells_0 12 rfl rfl)
theorem dX0_tells_15 : decode cX0_tells 15 = .ok (.astore_n 2, 1) := dk_77 (dk_at dksX0_tells_0 15 rfl rfl)
theorem dX0_tells_16 : decode cX0_tells 16 = .ok (.aload_n 2, 1) := dk_44 (dk_at dksX0_tells_0 16 rfl rfl)
theorem dX0_tells_17 : decode cX0_tells 17 = .ok (.invokevirtual 100, 3) := dk_182 0 100 (dk_at dksX0_tells_0 17 rfl rfl)
theorem dX0_tells_20 : decode cX0_tells 20 = .ok (.instanceof 104, 3) := dk_193 0 104 (dk_at dksX0_tells_0 20 rfl rfl)
theorem dX0_tells_23 : decode cX0_tells 23 = .ok (.ifCond .eq 19, 3) := dk_153 0 19 (dk_at dksX0_tells_1 0 rfl rfl)
theorem dX0_tells_26 : decode cX0_tells 26 = .ok (.bipush (-10), 2) := dk_16 246 (dk_at dksX0_tells_1 3 rfl rfl)
theorem dX0_tells_28 : decode cX0_tells 28 = .ok (.aload_n 2, 1) := dk_44 (dk_at dksX0_tells_1 5 rfl rfl)
theorem dX0_tells_29 : decode cX0_tells 29 = .ok (.invokevirtual 100, 3) := dk_182 0 100 (dk_at dksX0_tells_1 6 rfl rfl)
theorem dX0_tells_32 : decode cX0_tells 32 = .ok (.checkcast 104, 3) := dk_192 0 104 (dk_at dksX0_tells_1 9 rfl rfl)
theorem dX0_tells_35 : decode cX0_tells 35 = .ok (.getfield 106, 3) := dk_180 0 106 (dk_at dksX0_tells_1 12 rfl rfl)
theorem dX0_tells_38 : decode cX0_tells 38 = .ok (.isub, 1) := dk_100 (dk_at dksX0_tells_1 15 rfl rfl)
theorem dX0_tells_39 : decode cX0_tells 39 = .ok (.goto 5, 3) := dk_167 0 5 (dk_at dksX0_tells_1 16 rfl rfl)
theorem dX0_tells_42 : decode cX0_tells 42 = .ok (.bipush (-3), 2) := dk_16 253 (dk_at dksX0_tells_1 19 rfl rfl)
theorem dX0_tells_44 : decode cX0_tells 44 = .ok (.ireturn, 1) := dk_172 (dk_at dksX0_tells_1 21 rfl rfl)
theorem dX0_tells_45 : decode cX0_tells 45 = .ok (.aload_n 0, 1) := dk_42 (dk_at dksX0_tells_1 22 rfl rfl)
theorem dX0_tells_46 : decode cX0_tells 46 = .ok (.invokevirtual 109, 3) := dk_182 0 109 (dk_at dksX0_tells_2 0 rfl rfl)
theorem dX0_tells_49 : decode cX0_tells 49 = .ok (.iconst 0, 1) := dk_3 (dk_at dksX0_tells_2 3 rfl rfl)
theorem dX0_tells_50 : decode cX0_tells 50 = .ok (.istore_n 2, 1) := dk_61 (dk_at dksX0_tells_2 4 rfl rfl)
theorem dX0_tells_51 : decode cX0_tells 51 = .ok (.iload_n 2, 1) := dk_28 (dk_at dksX0_tells_2 5 rfl rfl)
theorem dX0_tells_52 : decode cX0_tells 52 = .ok (.aload_n 1, 1) := dk_43 (dk_at dksX0_tells_2 6 rfl rfl)
theorem dX0_tells_53 : decode cX0_tells 53 = .ok (.getfield 112, 3) := dk_180 0 112 (dk_at dksX0_tells_2 7 rfl rfl)
theorem dX0_tells_56 : decode cX0_tells 56 = .ok (.if_icmp .ge 23, 3) := dk_162 0 23 (dk_at dksX0_tells_2 10 rfl rfl)
theorem dX0_tells_59 : decode cX0_tells 59 = .ok (.aload_n 0, 1) := dk_42 (dk_at dksX0_tells_2 13 rfl rfl)
theorem dX0_tells_60 : decode cX0_tells 60 = .ok (.getfield 31, 3) := dk_180 0 31 (dk_at dksX0_tells_2 14 rfl rfl)
theorem dX0_tells_63 : decode cX0_tells 63 = .ok (.aload_n 1, 1) := dk_43 (dk_at dksX0_tells_2 17 rfl rfl)
theorem dX0_tells_64 : decode cX0_tells 64 = .ok (.getfield 115, 3) := dk_180 0 115 (dk_at dksX0_tells_2 18 rfl rfl)
theorem dX0_tells_67 : decode cX0_tells 67 = .ok (.iload_n 2, 1) := dk_28 (dk_at dksX0_tells_2 21 rfl rfl)
theorem dX0_tells_68 : decode cX0_tells 68 = .ok (.iaload, 1) := dk_46 (dk_at dksX0_tells_2 22 rfl rfl)
theorem dX0_tells_69 : decode cX0_tells 69 = .ok (.invokevirtual 118, 3) := dk_182 0 118 (dk_at dksX0_tells_3 0 rfl rfl)
theorem dX0_tells_72 : decode cX0_tells 72 = .ok (.pop, 1) := dk_87 (dk_at dksX0_tells_3 3 rfl rfl)
theorem dX0_tells_73 : decode cX0_tells 73 = .ok (.iinc 2 1, 3) := dk_132 2 1 (dk_at dksX0_tells_3 4 rfl rfl)
theorem dX0_tells_76 : decode cX0_tells 76 = .ok (.goto (-25), 3) := dk_167 255 231 (dk_at dksX0_tells_3 7 rfl rfl)
theorem dX0_tells_79 : decode cX0_tells 79 = .ok (.aload_n 0, 1) := dk_42 (dk_at dksX0_tells_3 10 rfl rfl)
theorem dX0_tells_80 : decode cX0_tells 80 = .ok (.iconst 0, 1) := dk_3 (dk_at dksX0_tells_3 11 rfl rfl)
theorem dX0_tells_81 : decode cX0_tells 81 = .ok (.putfield 88, 3) := dk_181 0 88 (dk_at dksX0_tells_3 12 rfl rfl)
theorem dX0_tells_84 : decode cX0_tells 84 = .ok (.aload_n 1, 1) := dk_43 (dk_at dksX0_tells_3 15 rfl rfl)
theorem dX0_tells_85 : decode cX0_tells 85 = .ok (.getfield 112, 3) := dk_180 0 112 (dk_at dksX0_tells_3 16 rfl rfl)
theorem dX0_tells_88 : decode cX0_tells 88 = .ok (.ireturn, 1) := dk_172 (dk_at dksX0_tells_3 19 rfl rfl)
abbrev cX0_notes : ByteArray := prog_1_method_5_code
def yX0_notes : MethodName := ⟨RX0, "notes", "()V"⟩
def dkwX0_notes_2 : List UInt8 := [183, 0, 28, 42, 180, 0, 31, 182, 0, 80, 83, 42, 89, 180, 0, 70, 4, 96, 181, 0, 70, 177]
abbrev dktX0_notes_2 : List UInt8 := dkwX0_notes_2 ++ []
def dkwX0_notes_1 : List UInt8 := [89, 180, 0, 70, 4, 100, 181, 0, 70, 42, 180, 0, 38, 42, 180, 0, 70, 187, 0, 26, 89, 42]
abbrev dktX0_notes_1 : List UInt8 := dkwX0_notes_1 ++ dktX0_notes_2
def dkwX0_notes_0 : List UInt8 := [42, 180, 0, 70, 16, 6, 160, 0, 27, 42, 180, 0, 38, 4, 42, 180, 0, 38, 3, 8, 184, 0, 74, 42]
abbrev dktX0_notes_0 : List UInt8 := dkwX0_notes_0 ++ dktX0_notes_1
theorem dksX0_notes_0 : cX0_notes.data.toList.drop 0 = dktX0_notes_0 := by decide +kernel
theorem dksX0_notes_1 : cX0_notes.data.toList.drop 24 = dktX0_notes_1 := dk_seg dksX0_notes_0 24 rfl rfl
theorem dksX0_notes_2 : cX0_notes.data.toList.drop 46 = dktX0_notes_2 := dk_seg dksX0_notes_1 22 rfl rfl
theorem dX0_notes_0 : decode cX0_notes 0 = .ok (.aload_n 0, 1) := dk_42 (dk_at dksX0_notes_0 0 rfl rfl)
theorem dX0_notes_1 : decode cX0_notes 1 = .ok (.getfield 70, 3) := dk_180 0 70 (dk_at dksX0_notes_0 1 rfl rfl)
theorem dX0_notes_4 : decode cX0_notes 4 = .ok (.bipush 6, 2) := dk_16 6 (dk_at dksX0_notes_0 4 rfl rfl)
theorem dX0_notes_6 : decode cX0_notes 6 = .ok (.if_icmp .ne 27, 3) := dk_160 0 27 (dk_at dksX0_notes_0 6 rfl rfl)
theorem dX0_notes_9 : decode cX0_notes 9 = .ok (.aload_n 0, 1) := dk_42 (dk_at dksX0_notes_0 9 rfl rfl)
theorem dX0_notes_10 : decode cX0_notes 10 = .ok (.getfield 38, 3) := dk_180 0 38 (dk_at dksX0_notes_0 10 rfl rfl)
theorem dX0_notes_13 : decode cX0_notes 13 = .ok (.iconst 1, 1) := dk_4 (dk_at dksX0_notes_0 13 rfl rfl)
theorem dX0_notes_14 : decode cX0_notes 14 = .ok (.aload_n 0, 1) := dk_42 (dk_at dksX0_notes_0 14 rfl rfl)
theorem dX0_notes_15 : decode cX0_notes 15 = .ok (.getfield 38, 3) := dk_180 0 38 (dk_at dksX0_notes_0 15 rfl rfl)
theorem dX0_notes_18 : decode cX0_notes 18 = .ok (.iconst 0, 1) := dk_3 (dk_at dksX0_notes_0 18 rfl rfl)
theorem dX0_notes_19 : decode cX0_notes 19 = .ok (.iconst 5, 1) := dk_8 (dk_at dksX0_notes_0 19 rfl rfl)
theorem dX0_notes_20 : decode cX0_notes 20 = .ok (.invokestatic 74, 3) := dk_184 0 74 (dk_at dksX0_notes_0 20 rfl rfl)
theorem dX0_notes_23 : decode cX0_notes 23 = .ok (.aload_n 0, 1) := dk_42 (dk_at dksX0_notes_0 23 rfl rfl)
theorem dX0_notes_24 : decode cX0_notes 24 = .ok (.dup, 1) := dk_89 (dk_at dksX0_notes_1 0 rfl rfl)
theorem dX0_notes_25 : decode cX0_notes 25 = .ok (.getfield 70, 3) := dk_180 0 70 (dk_at dksX0_notes_1 1 rfl rfl)
theorem dX0_notes_28 : decode cX0_notes 28 = .ok (.iconst 1, 1) := dk_4 (dk_at dksX0_notes_1 4 rfl rfl)
theorem dX0_notes_29 : decode cX0_notes 29 = .ok (.isub, 1) := dk_100 (dk_at dksX0_notes_1 5 rfl rfl)
theorem dX0_notes_30 : decode cX0_notes 30 = .ok (.putfield 70, 3) := dk_181 0 70 (dk_at dksX0_notes_1 6 rfl rfl)
theorem dX0_notes_33 : decode cX0_notes 33 = .ok (.aload_n 0, 1) := dk_42 (dk_at dksX0_notes_1 9 rfl rfl)
theorem dX0_notes_34 : decode cX0_notes 34 = .ok (.getfield 38, 3) := dk_180 0 38 (dk_at dksX0_notes_1 10 rfl rfl)
theorem dX0_notes_37 : decode cX0_notes 37 = .ok (.aload_n 0, 1) := dk_42 (dk_at dksX0_notes_1 13 rfl rfl)
theorem dX0_notes_38 : decode cX0_notes 38 = .ok (.getfield 70, 3) := dk_180 0 70 (dk_at dksX0_notes_1 14 rfl rfl)
theorem dX0_notes_41 : decode cX0_notes 41 = .ok (.new 26, 3) := dk_187 0 26 (dk_at dksX0_notes_1 17 rfl rfl)
theorem dX0_notes_44 : decode cX0_notes 44 = .ok (.dup, 1) := dk_89 (dk_at dksX0_notes_1 20 rfl rfl)
theorem dX0_notes_45 : decode cX0_notes 45 = .ok (.aload_n 0, 1) := dk_42 (dk_at dksX0_notes_1 21 rfl rfl)
theorem dX0_notes_46 : decode cX0_notes 46 = .ok (.invokespecial 28, 3) := dk_183 0 28 (dk_at dksX0_notes_2 0 rfl rfl)
theorem dX0_notes_49 : decode cX0_notes 49 = .ok (.aload_n 0, 1) := dk_42 (dk_at dksX0_notes_2 3 rfl rfl)
theorem dX0_notes_50 : decode cX0_notes 50 = .ok (.getfield 31, 3) := dk_180 0 31 (dk_at dksX0_notes_2 4 rfl rfl)
theorem dX0_notes_53 : decode cX0_notes 53 = .ok (.invokevirtual 80, 3) := dk_182 0 80 (dk_at dksX0_notes_2 7 rfl rfl)
theorem dX0_notes_56 : decode cX0_notes 56 = .ok (.aastore, 1) := dk_83 (dk_at dksX0_notes_2 10 rfl rfl)
theorem dX0_notes_57 : decode cX0_notes 57 = .ok (.aload_n 0, 1) := dk_42 (dk_at dksX0_notes_2 11 rfl rfl)
theorem dX0_notes_58 : decode cX0_notes 58 = .ok (.dup, 1) := dk_89 (dk_at dksX0_notes_2 12 rfl rfl)
theorem dX0_notes_59 : decode cX0_notes 59 = .ok (.getfield 70, 3) := dk_180 0 70 (dk_at dksX0_notes_2 13 rfl rfl)
theorem dX0_notes_62 : decode cX0_notes 62 = .ok (.iconst 1, 1) := dk_4 (dk_at dksX0_notes_2 16 rfl rfl)
theorem dX0_notes_63 : decode cX0_notes 63 = .ok (.iadd, 1) := dk_96 (dk_at dksX0_notes_2 17 rfl rfl)
theorem dX0_notes_64 : decode cX0_notes 64 = .ok (.putfield 70, 3) := dk_181 0 70 (dk_at dksX0_notes_2 18 rfl rfl)
theorem dX0_notes_67 : decode cX0_notes 67 = .ok (.return_, 1) := dk_177 (dk_at dksX0_notes_2 21 rfl rfl)
abbrev cX0_isAbove : ByteArray := prog_1_method_3_code
def yX0_isAbove : MethodName := ⟨RX0, "isAbove", "(IZ)Z"⟩
def dkwX0_isAbove_1 : List UInt8 := [172]
abbrev dktX0_isAbove_1 : List UInt8 := dkwX0_isAbove_1 ++ []
def dkwX0_isAbove_0 : List UInt8 := [26, 184, 0, 7, 61, 28, 6, 163, 0, 12, 28, 6, 160, 0, 11, 27, 153, 0, 7, 4, 167, 0, 4, 3]
abbrev dktX0_isAbove_0 : List UInt8 := dkwX0_isAbove_0 ++ dktX0_isAbove_1
theorem dksX0_isAbove_0 : cX0_isAbove.data.toList.drop 0 = dktX0_isAbove_0 := by decide +kernel
theorem dksX0_isAbove_1 : cX0_isAbove.data.toList.drop 24 = dktX0_isAbove_1 := dk_seg dksX0_isAbove_0 24 rfl rfl
theorem dX0_isAbove_0 : decode cX0_isAbove 0 = .ok (.iload_n 0, 1) := dk_26 (dk_at dksX0_isAbove_0 0 rfl rfl)
theorem dX0_isAbove_1 : decode cX0_isAbove 1 = .ok (.invokestatic 7, 3) := dk_184 0 7 (dk_at dksX0_isAbove_0 1 rfl rfl)
theorem dX0_isAbove_4 : decode cX0_isAbove 4 = .ok (.istore_n 2, 1) := dk_61 (dk_at dksX0_isAbove_0 4 rfl rfl)
theorem dX0_isAbove_5 : decode cX0_isAbove 5 = .ok (.iload_n 2, 1) := dk_28 (dk_at dksX0_isAbove_0 5 rfl rfl)
theorem dX0_isAbove_6 : decode cX0_isAbove 6 = .ok (.iconst 3, 1) := dk_6 (dk_at dksX0_isAbove_0 6 rfl rfl)
theorem dX0_isAbove_7 : decode cX0_isAbove 7 = .ok (.if_icmp .gt 12, 3) := dk_163 0 12 (dk_at dksX0_isAbove_0 7 rfl rfl)
theorem dX0_isAbove_10 : decode cX0_isAbove 10 = .ok (.iload_n 2, 1) := dk_28 (dk_at dksX0_isAbove_0 10 rfl rfl)
theorem dX0_isAbove_11 : decode cX0_isAbove 11 = .ok (.iconst 3, 1) := dk_6 (dk_at dksX0_isAbove_0 11 rfl rfl)
theorem dX0_isAbove_12 : decode cX0_isAbove 12 = .ok (.if_icmp .ne 11, 3) := dk_160 0 11 (dk_at dksX0_isAbove_0 12 rfl rfl)
theorem dX0_isAbove_15 : decode cX0_isAbove 15 = .ok (.iload_n 1, 1) := dk_27 (dk_at dksX0_isAbove_0 15 rfl rfl)
theorem dX0_isAbove_16 : decode cX0_isAbove 16 = .ok (.ifCond .eq 7, 3) := dk_153 0 7 (dk_at dksX0_isAbove_0 16 rfl rfl)
theorem dX0_isAbove_19 : decode cX0_isAbove 19 = .ok (.iconst 1, 1) := dk_4 (dk_at dksX0_isAbove_0 19 rfl rfl)
theorem dX0_isAbove_20 : decode cX0_isAbove 20 = .ok (.goto 4, 3) := dk_167 0 4 (dk_at dksX0_isAbove_0 20 rfl rfl)
theorem dX0_isAbove_23 : decode cX0_isAbove 23 = .ok (.iconst 0, 1) := dk_3 (dk_at dksX0_isAbove_0 23 rfl rfl)
theorem dX0_isAbove_24 : decode cX0_isAbove 24 = .ok (.ireturn, 1) := dk_172 (dk_at dksX0_isAbove_1 0 rfl rfl)
abbrev cX0_sends : ByteArray := prog_1_method_10_code
def yX0_sends : MethodName := ⟨RX0, "sends", "(I)I"⟩
def dkwX0_sends_0 : List UInt8 := [27, 3, 16, 30, 184, 0, 84, 153, 0, 11, 42, 27, 182, 0, 124, 167, 0, 4, 2, 172]
abbrev dktX0_sends_0 : List UInt8 := dkwX0_sends_0 ++ []
theorem dksX0_sends_0 : cX0_sends.data.toList.drop 0 = dktX0_sends_0 := by decide +kernel
theorem dX0_sends_0 : decode cX0_sends 0 = .ok (.iload_n 1, 1) := dk_27 (dk_at dksX0_sends_0 0 rfl rfl)
theorem dX0_sends_1 : decode cX0_sends 1 = .ok (.iconst 0, 1) := dk_3 (dk_at dksX0_sends_0 1 rfl rfl)
theorem dX0_sends_2 : decode cX0_sends 2 = .ok (.bipush 30, 2) := dk_16 30 (dk_at dksX0_sends_0 2 rfl rfl)
theorem dX0_sends_4 : decode cX0_sends 4 = .ok (.invokestatic 84, 3) := dk_184 0 84 (dk_at dksX0_sends_0 4 rfl rfl)
theorem dX0_sends_7 : decode cX0_sends 7 = .ok (.ifCond .eq 11, 3) := dk_153 0 11 (dk_at dksX0_sends_0 7 rfl rfl)
theorem dX0_sends_10 : decode cX0_sends 10 = .ok (.aload_n 0, 1) := dk_42 (dk_at dksX0_sends_0 10 rfl rfl)
theorem dX0_sends_11 : decode cX0_sends 11 = .ok (.iload_n 1, 1) := dk_27 (dk_at dksX0_sends_0 11 rfl rfl)
theorem dX0_sends_12 : decode cX0_sends 12 = .ok (.invokevirtual 124, 3) := dk_182 0 124 (dk_at dksX0_sends_0 12 rfl rfl)
theorem dX0_sends_15 : decode cX0_sends 15 = .ok (.goto 4, 3) := dk_167 0 4 (dk_at dksX0_sends_0 15 rfl rfl)
theorem dX0_sends_18 : decode cX0_sends 18 = .ok (.iconst (-1), 1) := dk_2 (dk_at dksX0_sends_0 18 rfl rfl)
theorem dX0_sends_19 : decode cX0_sends 19 = .ok (.ireturn, 1) := dk_172 (dk_at dksX0_sends_0 19 rfl rfl)
abbrev cX0_sent : ByteArray := prog_1_method_9_code
def yX0_sent : MethodName := ⟨RX0, "sent", "(I)I"⟩
def dkwX0_sent_1 : List UInt8 := [182, 0, 118, 172]
abbrev dktX0_sent_1 : List UInt8 := dkwX0_sent_1 ++ []
def dkwX0_sent_0 : List UInt8 := [42, 180, 0, 31, 180, 0, 121, 16, 32, 160, 0, 6, 16, 253, 172, 42, 182, 0, 109, 42, 180, 0, 31, 27]
abbrev dktX0_sent_0 : List UInt8 := dkwX0_sent_0 ++ dktX0_sent_1
theorem dksX0_sent_0 : cX0_sent.data.toList.drop 0 = dktX0_sent_0 := by decide +kernel
theorem dksX0_sent_1 : cX0_sent.data.toList.drop 24 = dktX0_sent_1 := dk_seg dksX0_sent_0 24 rfl rfl
theorem dX0_sent_0 : decode cX0_sent 0 = .ok (.aload_n 0, 1) := dk_42 (dk_at dksX0_sent_0 0 rfl rfl)
theorem dX0_sent_1 : decode cX0_sent 1 = .ok (.getfield 31, 3) := dk_180 0 31 (dk_at dksX0_sent_0 1 rfl rfl)
theorem dX0_sent_4 : decode cX0_sent 4 = .ok (.getfield 121, 3) := dk_180 0 121 (dk_at dksX0_sent_0 4 rfl rfl)
theorem dX0_sent_7 : decode cX0_sent 7 = .ok (.bipush 32, 2) := dk_16 32 (dk_at dksX0_sent_0 7 rfl rfl)
theorem dX0_sent_9 : decode cX0_sent 9 = .ok (.if_icmp .ne 6, 3) := dk_160 0 6 (dk_at dksX0_sent_0 9 rfl rfl)
theorem dX0_sent_12 : decode cX0_sent 12 = .ok (.bipush (-3), 2) := dk_16 253 (dk_at dksX0_sent_0 12 rfl rfl)
theorem dX0_sent_14 : decode cX0_sent 14 = .ok (.ireturn, 1) := dk_172 (dk_at dksX0_sent_0 14 rfl rfl)
theorem dX0_sent_15 : decode cX0_sent 15 = .ok (.aload_n 0, 1) := dk_42 (dk_at dksX0_sent_0 15 rfl rfl)
theorem dX0_sent_16 : decode cX0_sent 16 = .ok (.invokevirtual 109, 3) := dk_182 0 109 (dk_at dksX0_sent_0 16 rfl rfl)
theorem dX0_sent_19 : decode cX0_sent 19 = .ok (.aload_n 0, 1) := dk_42 (dk_at dksX0_sent_0 19 rfl rfl)
theorem dX0_sent_20 : decode cX0_sent 20 = .ok (.getfield 31, 3) := dk_180 0 31 (dk_at dksX0_sent_0 20 rfl rfl)
theorem dX0_sent_23 : decode cX0_sent 23 = .ok (.iload_n 1, 1) := dk_27 (dk_at dksX0_sent_0 23 rfl rfl)
theorem dX0_sent_24 : decode cX0_sent 24 = .ok (.invokevirtual 118, 3) := dk_182 0 118 (dk_at dksX0_sent_1 0 rfl rfl)
theorem dX0_sent_27 : decode cX0_sent 27 = .ok (.ireturn, 1) := dk_172 (dk_at dksX0_sent_1 3 rfl rfl)
abbrev cX0_marks : ByteArray := prog_1_method_11_code
def yX0_marks : MethodName := ⟨RX0, "marks", "(I)I"⟩
def dkwX0_marks_0 : List UInt8 := [27, 3, 5, 184, 0, 84, 153, 0, 14, 42, 16, 31, 27, 96, 182, 0, 124, 167, 0, 4, 2, 172]
abbrev dktX0_marks_0 : List UInt8 := dkwX0_marks_0 ++ []
theorem dksX0_marks_0 : cX0_marks.data.toList.drop 0 = dktX0_marks_0 := by decide +kernel
theorem dX0_marks_0 : decode cX0_marks 0 = .ok (.iload_n 1, 1) := dk_27 (dk_at dksX0_marks_0 0 rfl rfl)
theorem dX0_marks_1 : decode cX0_marks 1 = .ok (.iconst 0, 1) := dk_3 (dk_at dksX0_marks_0 1 rfl rfl)
theorem dX0_marks_2 : decode cX0_marks 2 = .ok (.iconst 2, 1) := dk_5 (dk_at dksX0_marks_0 2 rfl rfl)
theorem dX0_marks_3 : decode cX0_marks 3 = .ok (.invokestatic 84, 3) := dk_184 0 84 (dk_at dksX0_marks_0 3 rfl rfl)
theorem dX0_marks_6 : decode cX0_marks 6 = .ok (.ifCond .eq 14, 3) := dk_153 0 14 (dk_at dksX0_marks_0 6 rfl rfl)
theorem dX0_marks_9 : decode cX0_marks 9 = .ok (.aload_n 0, 1) := dk_42 (dk_at dksX0_marks_0 9 rfl rfl)
theorem dX0_marks_10 : decode cX0_marks 10 = .ok (.bipush 31, 2) := dk_16 31 (dk_at dksX0_marks_0 10 rfl rfl)
theorem dX0_marks_12 : decode cX0_marks 12 = .ok (.iload_n 1, 1) := dk_27 (dk_at dksX0_marks_0 12 rfl rfl)
theorem dX0_marks_13 : decode cX0_marks 13 = .ok (.iadd, 1) := dk_96 (dk_at dksX0_marks_0 13 rfl rfl)
theorem dX0_marks_14 : decode cX0_marks 14 = .ok (.invokevirtual 124, 3) := dk_182 0 124 (dk_at dksX0_marks_0 14 rfl rfl)
theorem dX0_marks_17 : decode cX0_marks 17 = .ok (.goto 4, 3) := dk_167 0 4 (dk_at dksX0_marks_0 17 rfl rfl)
theorem dX0_marks_20 : decode cX0_marks 20 = .ok (.iconst (-1), 1) := dk_2 (dk_at dksX0_marks_0 20 rfl rfl)
theorem dX0_marks_21 : decode cX0_marks 21 = .ok (.ireturn, 1) := dk_172 (dk_at dksX0_marks_0 21 rfl rfl)
abbrev cX0_flips : ByteArray := prog_1_method_13_code
def yX0_flips : MethodName := ⟨RX0, "flips", "(I)I"⟩
def dkwX0_flips_0 : List UInt8 := [42, 27, 182, 0, 130, 154, 0, 5, 2, 172, 42, 182, 0, 109, 42, 180, 0, 31, 27, 182, 0, 134, 172]
abbrev dktX0_flips_0 : List UInt8 := dkwX0_flips_0 ++ []
theorem dksX0_flips_0 : cX0_flips.data.toList.drop 0 = dktX0_flips_0 := by decide +kernel
theorem dX0_flips_0 : decode cX0_flips 0 = .ok (.aload_n 0, 1) := dk_42 (dk_at dksX0_flips_0 0 rfl rfl)
theorem dX0_flips_1 : decode cX0_flips 1 = .ok (.iload_n 1, 1) := dk_27 (dk_at dksX0_flips_0 1 rfl rfl)
theorem dX0_flips_2 : decode cX0_flips 2 = .ok (.invokevirtual 130, 3) := dk_182 0 130 (dk_at dksX0_flips_0 2 rfl rfl)
theorem dX0_flips_5 : decode cX0_flips 5 = .ok (.ifCond .ne 5, 3) := dk_154 0 5 (dk_at dksX0_flips_0 5 rfl rfl)
theorem dX0_flips_8 : decode cX0_flips 8 = .ok (.iconst (-1), 1) := dk_2 (dk_at dksX0_flips_0 8 rfl rfl)
theorem dX0_flips_9 : decode cX0_flips 9 = .ok (.ireturn, 1) := dk_172 (dk_at dksX0_flips_0 9 rfl rfl)
theorem dX0_flips_10 : decode cX0_flips 10 = .ok (.aload_n 0, 1) := dk_42 (dk_at dksX0_flips_0 10 rfl rfl)
theorem dX0_flips_11 : decode cX0_flips 11 = .ok (.invokevirtual 109, 3) := dk_182 0 109 (dk_at dksX0_flips_0 11 rfl rfl)
theorem dX0_flips_14 : decode cX0_flips 14 = .ok (.aload_n 0, 1) := dk_42 (dk_at dksX0_flips_0 14 rfl rfl)
theorem dX0_flips_15 : decode cX0_flips 15 = .ok (.getfield 31, 3) := dk_180 0 31 (dk_at dksX0_flips_0 15 rfl rfl)
theorem dX0_flips_18 : decode cX0_flips 18 = .ok (.iload_n 1, 1) := dk_27 (dk_at dksX0_flips_0 18 rfl rfl)
theorem dX0_flips_19 : decode cX0_flips 19 = .ok (.invokevirtual 134, 3) := dk_182 0 134 (dk_at dksX0_flips_0 19 rfl rfl)
theorem dX0_flips_22 : decode cX0_flips 22 = .ok (.ireturn, 1) := dk_172 (dk_at dksX0_flips_0 22 rfl rfl)
abbrev cX0_isBit : ByteArray := prog_1_method_12_code
def yX0_isBit : MethodName := ⟨RX0, "isBit", "(I)Z"⟩
def dkwX0_isBit_0 : List UInt8 := [27, 3, 42, 180, 0, 31, 182, 0, 127, 4, 100, 184, 0, 84, 172]
abbrev dktX0_isBit_0 : List UInt8 := dkwX0_isBit_0 ++ []
theorem dksX0_isBit_0 : cX0_isBit.data.toList.drop 0 = dktX0_isBit_0 := by decide +kernel
theorem dX0_isBit_0 : decode cX0_isBit 0 = .ok (.iload_n 1, 1) := dk_27 (dk_at dksX0_isBit_0 0 rfl rfl)
theorem dX0_isBit_1 : decode cX0_isBit 1 = .ok (.iconst 0, 1) := dk_3 (dk_at dksX0_isBit_0 1 rfl rfl)
theorem dX0_isBit_2 : decode cX0_isBit 2 = .ok (.aload_n 0, 1) := dk_42 (dk_at dksX0_isBit_0 2 rfl rfl)
theorem dX0_isBit_3 : decode cX0_isBit 3 = .ok (.getfield 31, 3) := dk_180 0 31 (dk_at dksX0_isBit_0 3 rfl rfl)
theorem dX0_isBit_6 : decode cX0_isBit 6 = .ok (.invokevirtual 127, 3) := dk_182 0 127 (dk_at dksX0_isBit_0 6 rfl rfl)
theorem dX0_isBit_9 : decode cX0_isBit 9 = .ok (.iconst 1, 1) := dk_4 (dk_at dksX0_isBit_0 9 rfl rfl)
theorem dX0_isBit_10 : decode cX0_isBit 10 = .ok (.isub, 1) := dk_100 (dk_at dksX0_isBit_0 10 rfl rfl)
theorem dX0_isBit_11 : decode cX0_isBit 11 = .ok (.invokestatic 84, 3) := dk_184 0 84 (dk_at dksX0_isBit_0 11 rfl rfl)
theorem dX0_isBit_14 : decode cX0_isBit 14 = .ok (.ireturn, 1) := dk_172 (dk_at dksX0_isBit_0 14 rfl rfl)
abbrev cX0_clears : ByteArray := prog_1_method_14_code
def yX0_clears : MethodName := ⟨RX0, "clears", "()I"⟩
def dkwX0_clears_1 : List UInt8 := [42, 183, 0, 28, 181, 0, 31, 27, 172]
abbrev dktX0_clears_1 : List UInt8 := dkwX0_clears_1 ++ []
def dkwX0_clears_0 : List UInt8 := [42, 180, 0, 31, 180, 0, 121, 60, 27, 154, 0, 6, 16, 254, 172, 42, 182, 0, 109, 42, 187, 0, 26, 89]
abbrev dktX0_clears_0 : List UInt8 := dkwX0_clears_0 ++ dktX0_clears_1
theorem dksX0_clears_0 : cX0_clears.data.toList.drop 0 = dktX0_clears_0 := by decide +kernel
theorem dksX0_clears_1 : cX0_clears.data.toList.drop 24 = dktX0_clears_1 := dk_seg dksX0_clears_0 24 rfl rfl
theorem dX0_clears_0 : decode cX0_clears 0 = .ok (.aload_n 0, 1) := dk_42 (dk_at dksX0_clears_0 0 rfl rfl)
theorem dX0_clears_1 : decode cX0_clears 1 = .ok (.getfield 31, 3) := dk_180 0 31 (dk_at dksX0_clears_0 1 rfl rfl)
theorem dX0_clears_4 : decode cX0_clears 4 = .ok (.getfield 121, 3) := dk_180 0 121 (dk_at dksX0_clears_0 4 rfl rfl)
theorem dX0_clears_7 : decode cX0_clears 7 = .ok (.istore_n 1, 1) := dk_60 (dk_at dksX0_clears_0 7 rfl rfl)
theorem dX0_clears_8 : decode cX0_clears 8 = .ok (.iload_n 1, 1) := dk_27 (dk_at dksX0_clears_0 8 rfl rfl)
theorem dX0_clears_9 : decode cX0_clears 9 = .ok (.ifCond .ne 6, 3) := dk_154 0 6 (dk_at dksX0_clears_0 9 rfl rfl)
theorem dX0_clears_12 : decode cX0_clears 12 = .ok (.bipush (-2), 2) := dk_16 254 (dk_at dksX0_clears_0 12 rfl rfl)
theorem dX0_clears_14 : decode cX0_clears 14 = .ok (.ireturn, 1) := dk_172 (dk_at dksX0_clears_0 14 rfl rfl)
theorem dX0_clears_15 : decode cX0_clears 15 = .ok (.aload_n 0, 1) := dk_42 (dk_at dksX0_clears_0 15 rfl rfl)
theorem dX0_clears_16 : decode cX0_clears 16 = .ok (.invokevirtual 109, 3) := dk_182 0 109 (dk_at dksX0_clears_0 16 rfl rfl)
theorem dX0_clears_19 : decode cX0_clears 19 = .ok (.aload_n 0, 1) := dk_42 (dk_at dksX0_clears_0 19 rfl rfl)
theorem dX0_clears_20 : decode cX0_clears 20 = .ok (.new 26, 3) := dk_187 0 26 (dk_at dksX0_clears_0 20 rfl rfl)
theorem dX0_clears_23 : decode cX0_clears 23 = .ok (.dup, 1) := dk_89 (dk_at dksX0_clears_0 23 rfl rfl)
theorem dX0_clears_24 : decode cX0_clears 24 = .ok (.aload_n 0, 1) := dk_42 (dk_at dksX0_clears_1 0 rfl rfl)
theorem dX0_clears_25 : decode cX0_clears 25 = .ok (.invokespecial 28, 3) := dk_183 0 28 (dk_at dksX0_clears_1 1 rfl rfl)
theorem dX0_clears_28 : decode cX0_clears 28 = .ok (.putfield 31, 3) := dk_181 0 31 (dk_at dksX0_clears_1 4 rfl rfl)
theorem dX0_clears_31 : decode cX0_clears 31 = .ok (.iload_n 1, 1) := dk_27 (dk_at dksX0_clears_1 7 rfl rfl)
theorem dX0_clears_32 : decode cX0_clears 32 = .ok (.ireturn, 1) := dk_172 (dk_at dksX0_clears_1 8 rfl rfl)
abbrev cX0_undo : ByteArray := prog_1_method_15_code
def yX0_undo : MethodName := ⟨RX0, "undo", "()I"⟩
def dkwX0_undo_1 : List UInt8 := [180, 0, 38, 42, 180, 0, 70, 50, 181, 0, 31, 42, 180, 0, 70, 172]
abbrev dktX0_undo_1 : List UInt8 := dkwX0_undo_1 ++ []
def dkwX0_undo_0 : List UInt8 := [42, 180, 0, 70, 154, 0, 6, 16, 254, 172, 42, 89, 180, 0, 70, 4, 100, 181, 0, 70, 42, 42]
abbrev dktX0_undo_0 : List UInt8 := dkwX0_undo_0 ++ dktX0_undo_1
theorem dksX0_undo_0 : cX0_undo.data.toList.drop 0 = dktX0_undo_0 := by decide +kernel
theorem dksX0_undo_1 : cX0_undo.data.toList.drop 22 = dktX0_undo_1 := dk_seg dksX0_undo_0 22 rfl rfl
theorem dX0_undo_0 : decode cX0_undo 0 = .ok (.aload_n 0, 1) := dk_42 (dk_at dksX0_undo_0 0 rfl rfl)
theorem dX0_undo_1 : decode cX0_undo 1 = .ok (.getfield 70, 3) := dk_180 0 70 (dk_at dksX0_undo_0 1 rfl rfl)
theorem dX0_undo_4 : decode cX0_undo 4 = .ok (.ifCond .ne 6, 3) := dk_154 0 6 (dk_at dksX0_undo_0 4 rfl rfl)
theorem dX0_undo_7 : decode cX0_undo 7 = .ok (.bipush (-2), 2) := dk_16 254 (dk_at dksX0_undo_0 7 rfl rfl)
theorem dX0_undo_9 : decode cX0_undo 9 = .ok (.ireturn, 1) := dk_172 (dk_at dksX0_undo_0 9 rfl rfl)
theorem dX0_undo_10 : decode cX0_undo 10 = .ok (.aload_n 0, 1) := dk_42 (dk_at dksX0_undo_0 10 rfl rfl)
theorem dX0_undo_11 : decode cX0_undo 11 = .ok (.dup, 1) := dk_89 (dk_at dksX0_undo_0 11 rfl rfl)
theorem dX0_undo_12 : decode cX0_undo 12 = .ok (.getfield 70, 3) := dk_180 0 70 (dk_at dksX0_undo_0 12 rfl rfl)
theorem dX0_undo_15 : decode cX0_undo 15 = .ok (.iconst 1, 1) := dk_4 (dk_at dksX0_undo_0 15 rfl rfl)
theorem dX0_undo_16 : decode cX0_undo 16 = .ok (.isub, 1) := dk_100 (dk_at dksX0_undo_0 16 rfl rfl)
theorem dX0_undo_17 : decode cX0_undo 17 = .ok (.putfield 70, 3) := dk_181 0 70 (dk_at dksX0_undo_0 17 rfl rfl)
theorem dX0_undo_20 : decode cX0_undo 20 = .ok (.aload_n 0, 1) := dk_42 (dk_at dksX0_undo_0 20 rfl rfl)
theorem dX0_undo_21 : decode cX0_undo 21 = .ok (.aload_n 0, 1) := dk_42 (dk_at dksX0_undo_0 21 rfl rfl)
theorem dX0_undo_22 : decode cX0_undo 22 = .ok (.getfield 38, 3) := dk_180 0 38 (dk_at dksX0_undo_1 0 rfl rfl)
theorem dX0_undo_25 : decode cX0_undo 25 = .ok (.aload_n 0, 1) := dk_42 (dk_at dksX0_undo_1 3 rfl rfl)
theorem dX0_undo_26 : decode cX0_undo 26 = .ok (.getfield 70, 3) := dk_180 0 70 (dk_at dksX0_undo_1 4 rfl rfl)
theorem dX0_undo_29 : decode cX0_undo 29 = .ok (.aaload, 1) := dk_50 (dk_at dksX0_undo_1 7 rfl rfl)
theorem dX0_undo_30 : decode cX0_undo 30 = .ok (.putfield 31, 3) := dk_181 0 31 (dk_at dksX0_undo_1 8 rfl rfl)
theorem dX0_undo_33 : decode cX0_undo 33 = .ok (.aload_n 0, 1) := dk_42 (dk_at dksX0_undo_1 11 rfl rfl)
theorem dX0_undo_34 : decode cX0_undo 34 = .ok (.getfield 70, 3) := dk_180 0 70 (dk_at dksX0_undo_1 12 rfl rfl)
theorem dX0_undo_37 : decode cX0_undo 37 = .ok (.ireturn, 1) := dk_172 (dk_at dksX0_undo_1 15 rfl rfl)
abbrev cX0_form : ByteArray := prog_1_method_16_code
def yX0_form : MethodName := ⟨RX0, "form", "(II)I"⟩
def dkwX0_form_1 : List UInt8 := [160, 0, 7, 4, 167, 0, 4, 3, 182, 0, 22, 167, 0, 4, 2, 172]
abbrev dktX0_form_1 : List UInt8 := dkwX0_form_1 ++ []
def dkwX0_form_0 : List UInt8 := [27, 3, 16, 33, 184, 0, 84, 153, 0, 30, 28, 3, 4, 184, 0, 84, 153, 0, 21, 42, 27, 28, 4]
abbrev dktX0_form_0 : List UInt8 := dkwX0_form_0 ++ dktX0_form_1
theorem dksX0_form_0 : cX0_form.data.toList.drop 0 = dktX0_form_0 := by decide +kernel
theorem dksX0_form_1 : cX0_form.data.toList.drop 23 = dktX0_form_1 := dk_seg dksX0_form_0 23 rfl rfl
theorem dX0_form_0 : decode cX0_form 0 = .ok (.iload_n 1, 1) := dk_27 (dk_at dksX0_form_0 0 rfl rfl)
theorem dX0_form_1 : decode cX0_form 1 = .ok (.iconst 0, 1) := dk_3 (dk_at dksX0_form_0 1 rfl rfl)
theorem dX0_form_2 : decode cX0_form 2 = .ok (.bipush 33, 2) := dk_16 33 (dk_at dksX0_form_0 2 rfl rfl)
theorem dX0_form_4 : decode cX0_form 4 = .ok (.invokestatic 84, 3) := dk_184 0 84 (dk_at dksX0_form_0 4 rfl rfl)
theorem dX0_form_7 : decode cX0_form 7 = .ok (.ifCond .eq 30, 3) := dk_153 0 30 (dk_at dksX0_form_0 7 rfl rfl)
theorem dX0_form_10 : decode cX0_form 10 = .ok (.iload_n 2, 1) := dk_28 (dk_at dksX0_form_0 10 rfl rfl)
theorem dX0_form_11 : decode cX0_form 11 = .ok (.iconst 0, 1) := dk_3 (dk_at dksX0_form_0 11 rfl rfl)
theorem dX0_form_12 : decode cX0_form 12 = .ok (.iconst 1, 1) := dk_4 (dk_at dksX0_form_0 12 rfl rfl)
theorem dX0_form_13 : decode cX0_form 13 = .ok (.invokestatic 84, 3) := dk_184 0 84 (dk_at dksX0_form_0 13 rfl rfl)
theorem dX0_form_16 : decode cX0_form 16 = .ok (.ifCond .eq 21, 3) := dk_153 0 21 (dk_at dksX0_form_0 16 rfl rfl)
theorem dX0_form_19 : decode cX0_form 19 = .ok (.aload_n 0, 1) := dk_42 (dk_at dksX0_form_0 19 rfl rfl)
theorem dX0_form_20 : decode cX0_form 20 = .ok (.iload_n 1, 1) := dk_27 (dk_at dksX0_form_0 20 rfl rfl)
theorem dX0_form_21 : decode cX0_form 21 = .ok (.iload_n 2, 1) := dk_28 (dk_at dksX0_form_0 21 rfl rfl)
theorem dX0_form_22 : decode cX0_form 22 = .ok (.iconst 1, 1) := dk_4 (dk_at dksX0_form_0 22 rfl rfl)
theorem dX0_form_23 : decode cX0_form 23 = .ok (.if_icmp .ne 7, 3) := dk_160 0 7 (dk_at dksX0_form_1 0 rfl rfl)
theorem dX0_form_26 : decode cX0_form 26 = .ok (.iconst 1, 1) := dk_4 (dk_at dksX0_form_1 3 rfl rfl)
theorem dX0_form_27 : decode cX0_form 27 = .ok (.goto 4, 3) := dk_167 0 4 (dk_at dksX0_form_1 4 rfl rfl)
theorem dX0_form_30 : decode cX0_form 30 = .ok (.iconst 0, 1) := dk_3 (dk_at dksX0_form_1 7 rfl rfl)
theorem dX0_form_31 : decode cX0_form 31 = .ok (.invokevirtual 22, 3) := dk_182 0 22 (dk_at dksX0_form_1 8 rfl rfl)
theorem dX0_form_34 : decode cX0_form 34 = .ok (.goto 4, 3) := dk_167 0 4 (dk_at dksX0_form_1 11 rfl rfl)
theorem dX0_form_37 : decode cX0_form 37 = .ok (.iconst (-1), 1) := dk_2 (dk_at dksX0_form_1 14 rfl rfl)
theorem dX0_form_38 : decode cX0_form 38 = .ok (.ireturn, 1) := dk_172 (dk_at dksX0_form_1 15 rfl rfl)
abbrev cX0_bit : ByteArray := prog_1_method_17_code
def yX0_bit : MethodName := ⟨RX0, "bit", "(I)I"⟩
def dkwX0_bit_1 : List UInt8 := [4, 167, 0, 4, 3, 172]
abbrev dktX0_bit_1 : List UInt8 := dkwX0_bit_1 ++ []
def dkwX0_bit_0 : List UInt8 := [42, 27, 182, 0, 130, 154, 0, 7, 2, 167, 0, 20, 42, 180, 0, 31, 180, 0, 137, 27, 51, 153, 0, 7]
abbrev dktX0_bit_0 : List UInt8 := dkwX0_bit_0 ++ dktX0_bit_1
theorem dksX0_bit_0 : cX0_bit.data.toList.drop 0 = dktX0_bit_0 := by decide +kernel
theorem dksX0_bit_1 : cX0_bit.data.toList.drop 24 = dktX0_bit_1 := dk_seg dksX0_bit_0 24 rfl rfl
theorem dX0_bit_0 : decode cX0_bit 0 = .ok (.aload_n 0, 1) := dk_42 (dk_at dksX0_bit_0 0 rfl rfl)
theorem dX0_bit_1 : decode cX0_bit 1 = .ok (.iload_n 1, 1) := dk_27 (dk_at dksX0_bit_0 1 rfl rfl)
theorem dX0_bit_2 : decode cX0_bit 2 = .ok (.invokevirtual 130, 3) := dk_182 0 130 (dk_at dksX0_bit_0 2 rfl rfl)
theorem dX0_bit_5 : decode cX0_bit 5 = .ok (.ifCond .ne 7, 3) := dk_154 0 7 (dk_at dksX0_bit_0 5 rfl rfl)
theorem dX0_bit_8 : decode cX0_bit 8 = .ok (.iconst (-1), 1) := dk_2 (dk_at dksX0_bit_0 8 rfl rfl)
theorem dX0_bit_9 : decode cX0_bit 9 = .ok (.goto 20, 3) := dk_167 0 20 (dk_at dksX0_bit_0 9 rfl rfl)
theorem dX0_bit_12 : decode cX0_bit 12 = .ok (.aload_n 0, 1) := dk_42 (dk_at dksX0_bit_0 12 rfl rfl)
theorem dX0_bit_13 : decode cX0_bit 13 = .ok (.getfield 31, 3) := dk_180 0 31 (dk_at dksX0_bit_0 13 rfl rfl)
theorem dX0_bit_16 : decode cX0_bit 16 = .ok (.getfield 137, 3) := dk_180 0 137 (dk_at dksX0_bit_0 16 rfl rfl)
theorem dX0_bit_19 : decode cX0_bit 19 = .ok (.iload_n 1, 1) := dk_27 (dk_at dksX0_bit_0 19 rfl rfl)
theorem dX0_bit_20 : decode cX0_bit 20 = .ok (.baload, 1) := dk_51 (dk_at dksX0_bit_0 20 rfl rfl)
theorem dX0_bit_21 : decode cX0_bit 21 = .ok (.ifCond .eq 7, 3) := dk_153 0 7 (dk_at dksX0_bit_0 21 rfl rfl)
theorem dX0_bit_24 : decode cX0_bit 24 = .ok (.iconst 1, 1) := dk_4 (dk_at dksX0_bit_1 0 rfl rfl)
theorem dX0_bit_25 : decode cX0_bit 25 = .ok (.goto 4, 3) := dk_167 0 4 (dk_at dksX0_bit_1 1 rfl rfl)
theorem dX0_bit_28 : decode cX0_bit 28 = .ok (.iconst 0, 1) := dk_3 (dk_at dksX0_bit_1 4 rfl rfl)
theorem dX0_bit_29 : decode cX0_bit 29 = .ok (.ireturn, 1) := dk_172 (dk_at dksX0_bit_1 5 rfl rfl)
abbrev cX0_word : ByteArray := prog_1_method_18_code
def yX0_word : MethodName := ⟨RX0, "word", "(I)I"⟩
def dkwX0_word_1 : List UInt8 := [27, 46, 167, 0, 4, 2, 172]
abbrev dktX0_word_1 : List UInt8 := dkwX0_word_1 ++ []
def dkwX0_word_0 : List UInt8 := [27, 3, 42, 180, 0, 31, 180, 0, 121, 4, 100, 184, 0, 84, 153, 0, 15, 42, 180, 0, 31, 180, 0, 141]
abbrev dktX0_word_0 : List UInt8 := dkwX0_word_0 ++ dktX0_word_1
theorem dksX0_word_0 : cX0_word.data.toList.drop 0 = dktX0_word_0 := by decide +kernel
theorem dksX0_word_1 : cX0_word.data.toList.drop 24 = dktX0_word_1 := dk_seg dksX0_word_0 24 rfl rfl
theorem dX0_word_0 : decode cX0_word 0 = .ok (.iload_n 1, 1) := dk_27 (dk_at dksX0_word_0 0 rfl rfl)
theorem dX0_word_1 : decode cX0_word 1 = .ok (.iconst 0, 1) := dk_3 (dk_at dksX0_word_0 1 rfl rfl)
theorem dX0_word_2 : decode cX0_word 2 = .ok (.aload_n 0, 1) := dk_42 (dk_at dksX0_word_0 2 rfl rfl)
theorem dX0_word_3 : decode cX0_word 3 = .ok (.getfield 31, 3) := dk_180 0 31 (dk_at dksX0_word_0 3 rfl rfl)
theorem dX0_word_6 : decode cX0_word 6 = .ok (.getfield 121, 3) := dk_180 0 121 (dk_at dksX0_word_0 6 rfl rfl)
theorem dX0_word_9 : decode cX0_word 9 = .ok (.iconst 1, 1) := dk_4 (dk_at dksX0_word_0 9 rfl rfl)
theorem dX0_word_10 : decode cX0_word 10 = .ok (.isub, 1) := dk_100 (dk_at dksX0_word_0 10 rfl rfl)
theorem dX0_word_11 : decode cX0_word 11 = .ok (.invokestatic 84, 3) := dk_184 0 84 (dk_at dksX0_word_0 11 rfl rfl)
theorem dX0_word_14 : decode cX0_word 14 = .ok (.ifCond .eq 15, 3) := dk_153 0 15 (dk_at dksX0_word_0 14 rfl rfl)
theorem dX0_word_17 : decode cX0_word 17 = .ok (.aload_n 0, 1) := dk_42 (dk_at dksX0_word_0 17 rfl rfl)
theorem dX0_word_18 : decode cX0_word 18 = .ok (.getfield 31, 3) := dk_180 0 31 (dk_at dksX0_word_0 18 rfl rfl)
theorem dX0_word_21 : decode cX0_word 21 = .ok (.getfield 141, 3) := dk_180 0 141 (dk_at dksX0_word_0 21 rfl rfl)
theorem dX0_word_24 : decode cX0_word 24 = .ok (.iload_n 1, 1) := dk_27 (dk_at dksX0_word_1 0 rfl rfl)
theorem dX0_word_25 : decode cX0_word 25 = .ok (.iaload, 1) := dk_46 (dk_at dksX0_word_1 1 rfl rfl)
theorem dX0_word_26 : decode cX0_word 26 = .ok (.goto 4, 3) := dk_167 0 4 (dk_at dksX0_word_1 2 rfl rfl)
theorem dX0_word_29 : decode cX0_word 29 = .ok (.iconst (-1), 1) := dk_2 (dk_at dksX0_word_1 5 rfl rfl)
theorem dX0_word_30 : decode cX0_word 30 = .ok (.ireturn, 1) := dk_172 (dk_at dksX0_word_1 6 rfl rfl)
abbrev cX0_recent : ByteArray := prog_1_method_19_code
def yX0_recent : MethodName := ⟨RX0, "recent", "(I)I"⟩
def dkwX0_recent_4 : List UInt8 := [154, 0, 6, 21, 5, 172, 132, 3, 255, 167, 255, 221, 16, 247, 172]
abbrev dktX0_recent_4 : List UInt8 := dkwX0_recent_4 ++ []
def dkwX0_recent_3 : List UInt8 := [185, 0, 170, 1, 0, 153, 0, 31, 25, 4, 185, 0, 176, 1, 0, 192, 0, 8, 182, 0, 180, 54, 5, 29]
abbrev dktX0_recent_3 : List UInt8 := dkwX0_recent_3 ++ dktX0_recent_4
def dkwX0_recent_2 : List UInt8 := [132, 3, 1, 167, 255, 221, 27, 62, 44, 182, 0, 160, 185, 0, 164, 1, 0, 58, 4, 25, 4]
abbrev dktX0_recent_2 : List UInt8 := dkwX0_recent_2 ++ dktX0_recent_3
def dkwX0_recent_1 : List UInt8 := [162, 0, 30, 44, 42, 180, 0, 31, 180, 0, 149, 29, 46, 184, 0, 152, 29, 184, 0, 152, 182, 0, 156, 87]
abbrev dktX0_recent_1 : List UInt8 := dkwX0_recent_1 ++ dktX0_recent_2
def dkwX0_recent_0 : List UInt8 := [27, 156, 0, 5, 2, 172, 187, 0, 143, 89, 183, 0, 145, 77, 3, 62, 29, 42, 180, 0, 31, 180, 0, 146]
abbrev dktX0_recent_0 : List UInt8 := dkwX0_recent_0 ++ dktX0_recent_1
theorem dksX0_recent_0 : cX0_recent.data.toList.drop 0 = dktX0_recent_0 := by decide +kernel
theorem dksX0_recent_1 : cX0_recent.data.toList.drop 24 = dktX0_recent_1 := dk_seg dksX0_recent_0 24 rfl rfl
theorem dksX0_recent_2 : cX0_recent.data.toList.drop 48 = dktX0_recent_2 := dk_seg dksX0_recent_1 24 rfl rfl
theorem dksX0_recent_3 : cX0_recent.data.toList.drop 69 = dktX0_recent_3 := dk_seg dksX0_recent_2 21 rfl rfl
theorem dksX0_recent_4 : cX0_recent.data.toList.drop 93 = dktX0_recent_4 := dk_seg dksX0_recent_3 24 rfl rfl
theorem dX0_recent_0 : decode cX0_recent 0 = .ok (.iload_n 1, 1) := dk_27 (dk_at dksX0_recent_0 0 rfl rfl)
theorem dX0_recent_1 : decode cX0_recent 1 = .ok (.ifCond .ge 5, 3) := dk_156 0 5 (dk_at dksX0_recent_0 1 rfl rfl)
theorem dX0_recent_4 : decode cX0_recent 4 = .ok (.iconst (-1), 1) := dk_2 (dk_at dksX0_recent_0 4 rfl rfl)
theorem dX0_recent_5 : decode cX0_recent 5 = .ok (.ireturn, 1) := dk_172 (dk_at dksX0_recent_0 5 rfl rfl)
theorem dX0_recent_6 : decode cX0_recent 6 = .ok (.new 143, 3) := dk_187 0 143 (dk_at dksX0_recent_0 6 rfl rfl)
theorem dX0_recent_9 : decode cX0_recent 9 = .ok (.dup, 1) := dk_89 (dk_at dksX0_recent_0 9 rfl rfl)
theorem dX0_recent_10 : decode cX0_recent 10 = .ok (.invokespecial 145, 3) := dk_183 0 145 (dk_at dksX0_recent_0 10 rfl rfl)
theorem dX0_recent_13 : decode cX0_recent 13 = .ok (.astore_n 2, 1) := dk_77 (dk_at dksX0_recent_0 13 rfl rfl)
theorem dX0_recent_14 : decode cX0_recent 14 = .ok (.iconst 0, 1) := dk_3 (dk_at dksX0_recent_0 14 rfl rfl)
theorem dX0_recent_15 : decode cX0_recent 15 = .ok (.istore_n 3, 1) := dk_62 (dk_at dksX0_recent_0 15 rfl rfl)
theorem dX0_recent_16 : decode cX0_recent 16 = .ok (.iload_n 3, 1) := dk_29 (dk_at dksX0_recent_0 16 rfl rfl)
theorem dX0_recent_17 : decode cX0_recent 17 = .ok (.aload_n 0, 1) := dk_42 (dk_at dksX0_recent_0 17 rfl rfl)
theorem dX0_recent_18 : decode cX0_recent 18 = .ok (.getfield 31, 3) := dk_180 0 31 (dk_at dksX0_recent_0 18 rfl rfl)
theorem dX0_recent_21 : decode cX0_recent 21 = .ok (.getfield 146, 3) := dk_180 0 146 (dk_at dksX0_recent_0 21 rfl rfl)
theorem dX0_recent_24 : decode cX0_recent 24 = .ok (.if_icmp .ge 30, 3) := dk_162 0 30 (dk_at dksX0_recent_1 0 rfl rfl)
theorem dX0_recent_27 : decode cX0_recent 27 = .ok (.aload_n 2, 1) := dk_44 (dk_at dksX0_recent_1 3 rfl rfl)
theorem dX0_recent_28 : decode cX0_recent 28 = .ok (.aload_n 0, 1) := dk_42 (dk_at dksX0_recent_1 4 rfl rfl)
theorem dX0_recent_29 : decode cX0_recent 29 = .ok (.getfield 31, 3) := dk_180 0 31 (dk_at dksX0_recent_1 5 rfl rfl)
theorem dX0_recent_32 : decode cX0_recent 32 = .ok (.getfield 149, 3) := dk_180 0 149 (dk_at dksX0_recent_1 8 rfl rfl)
theorem dX0_recent_35 : decode cX0_recent 35 = .ok (.iload_n 3, 1) := dk_29 (dk_at dksX0_recent_1 11 rfl rfl)
theorem dX0_recent_36 : decode cX0_recent 36 = .ok (.iaload, 1) := dk_46 (dk_at dksX0_recent_1 12 rfl rfl)
theorem dX0_recent_37 : decode cX0_recent 37 = .ok (.invokestatic 152, 3) := dk_184 0 152 (dk_at dksX0_recent_1 13 rfl rfl)
theorem dX0_recent_40 : decode cX0_recent 40 = .ok (.iload_n 3, 1) := dk_29 (dk_at dksX0_recent_1 16 rfl rfl)
theorem dX0_recent_41 : decode cX0_recent 41 = .ok (.invokestatic 152, 3) := dk_184 0 152 (dk_at dksX0_recent_1 17 rfl rfl)
theorem dX0_recent_44 : decode cX0_recent 44 = .ok (.invokevirtual 156, 3) := dk_182 0 156 (dk_at dksX0_recent_1 20 rfl rfl)
theorem dX0_recent_47 : decode cX0_recent 47 = .ok (.pop, 1) := dk_87 (dk_at dksX0_recent_1 23 rfl rfl)
theorem dX0_recent_48 : decode cX0_recent 48 = .ok (.iinc 3 1, 3) := dk_132 3 1 (dk_at dksX0_recent_2 0 rfl rfl)
theorem dX0_recent_51 : decode cX0_recent 51 = .ok (.goto (-35), 3) := dk_167 255 221 (dk_at dksX0_recent_2 3 rfl rfl)
theorem dX0_recent_54 : decode cX0_recent 54 = .ok (.iload_n 1, 1) := dk_27 (dk_at dksX0_recent_2 6 rfl rfl)
theorem dX0_recent_55 : decode cX0_recent 55 = .ok (.istore_n 3, 1) := dk_62 (dk_at dksX0_recent_2 7 rfl rfl)
theorem dX0_recent_56 : decode cX0_recent 56 = .ok (.aload_n 2, 1) := dk_44 (dk_at dksX0_recent_2 8 rfl rfl)
theorem dX0_recent_57 : decode cX0_recent 57 = .ok (.invokevirtual 160, 3) := dk_182 0 160 (dk_at dksX0_recent_2 9 rfl rfl)
theorem dX0_recent_60 : decode cX0_recent 60 = .ok (.invokeinterface 164 1, 5) := by decide +kernel
theorem dX0_recent_65 : decode cX0_recent 65 = .ok (.astore 4, 2) := dk_58 4 (dk_at dksX0_recent_2 17 rfl rfl)
theorem dX0_recent_67 : decode cX0_recent 67 = .ok (.aload 4, 2) := dk_25 4 (dk_at dksX0_recent_2 19 rfl rfl)
theorem dX0_recent_69 : decode cX0_recent 69 = .ok (.invokeinterface 170 1, 5) := by decide +kernel
theorem dX0_recent_74 : decode cX0_recent 74 = .ok (.ifCond .eq 31, 3) := dk_153 0 31 (dk_at dksX0_recent_3 5 rfl rfl)
theorem dX0_recent_77 : decode cX0_recent 77 = .ok (.aload 4, 2) := dk_25 4 (dk_at dksX0_recent_3 8 rfl rfl)
theorem dX0_recent_79 : decode cX0_recent 79 = .ok (.invokeinterface 176 1, 5) := by decide +kernel
theorem dX0_recent_84 : decode cX0_recent 84 = .ok (.checkcast 8, 3) := dk_192 0 8 (dk_at dksX0_recent_3 15 rfl rfl)
theorem dX0_recent_87 : decode cX0_recent 87 = .ok (.invokevirtual 180, 3) := dk_182 0 180 (dk_at dksX0_recent_3 18 rfl rfl)
theorem dX0_recent_90 : decode cX0_recent 90 = .ok (.istore 5, 2) := dk_54 5 (dk_at dksX0_recent_3 21 rfl rfl)
theorem dX0_recent_92 : decode cX0_recent 92 = .ok (.iload_n 3, 1) := dk_29 (dk_at dksX0_recent_3 23 rfl rfl)
theorem dX0_recent_93 : decode cX0_recent 93 = .ok (.ifCond .ne 6, 3) := dk_154 0 6 (dk_at dksX0_recent_4 0 rfl rfl)
theorem dX0_recent_96 : decode cX0_recent 96 = .ok (.iload 5, 2) := dk_21 5 (dk_at dksX0_recent_4 3 rfl rfl)
theorem dX0_recent_98 : decode cX0_recent 98 = .ok (.ireturn, 1) := dk_172 (dk_at dksX0_recent_4 5 rfl rfl)
theorem dX0_recent_99 : decode cX0_recent 99 = .ok (.iinc 3 (-1), 3) := dk_132 3 255 (dk_at dksX0_recent_4 6 rfl rfl)
theorem dX0_recent_102 : decode cX0_recent 102 = .ok (.goto (-35), 3) := dk_167 255 221 (dk_at dksX0_recent_4 9 rfl rfl)
theorem dX0_recent_105 : decode cX0_recent 105 = .ok (.bipush (-9), 2) := dk_16 247 (dk_at dksX0_recent_4 12 rfl rfl)
theorem dX0_recent_107 : decode cX0_recent 107 = .ok (.ireturn, 1) := dk_172 (dk_at dksX0_recent_4 14 rfl rfl)
abbrev cX0_piece : ByteArray := prog_1_method_23_code
def yX0_piece : MethodName := ⟨RX0, "piece", "(IIII)I"⟩
def dkwX0_piece_4 : List UInt8 := [132, 5, 255, 167, 255, 217, 16, 247, 172]
abbrev dktX0_piece_4 : List UInt8 := dkwX0_piece_4 ++ []
def dkwX0_piece_3 : List UInt8 := [185, 0, 176, 1, 0, 192, 0, 187, 58, 7, 21, 5, 154, 0, 12, 42, 25, 7, 21, 4, 182, 0, 209, 172]
abbrev dktX0_piece_3 : List UInt8 := dkwX0_piece_3 ++ dktX0_piece_4
def dkwX0_piece_2 : List UInt8 := [183, 0, 205, 182, 0, 208, 58, 6, 25, 6, 185, 0, 170, 1, 0, 153, 0, 35, 25, 6]
abbrev dktX0_piece_2 : List UInt8 := dkwX0_piece_2 ++ dktX0_piece_3
def dkwX0_piece_1 : List UInt8 := [29, 54, 5, 187, 0, 203, 89, 42, 42, 180, 0, 31, 27, 28, 4, 160, 0, 7, 4, 167, 0, 4, 3]
abbrev dktX0_piece_1 : List UInt8 := dkwX0_piece_1 ++ dktX0_piece_2
def dkwX0_piece_0 : List UInt8 := [27, 28, 184, 0, 199, 153, 0, 17, 29, 155, 0, 13, 21, 4, 3, 7, 184, 0, 84, 154, 0, 5, 2, 172]
abbrev dktX0_piece_0 : List UInt8 := dkwX0_piece_0 ++ dktX0_piece_1
theorem dksX0_piece_0 : cX0_piece.data.toList.drop 0 = dktX0_piece_0 := by decide +kernel
theorem dksX0_piece_1 : cX0_piece.data.toList.drop 24 = dktX0_piece_1 := dk_seg dksX0_piece_0 24 rfl rfl
theorem dksX0_piece_2 : cX0_piece.data.toList.drop 47 = dktX0_piece_2 := dk_seg dksX0_piece_1 23 rfl rfl
theorem dksX0_piece_3 : cX0_piece.data.toList.drop 67 = dktX0_piece_3 := dk_seg dksX0_piece_2 20 rfl rfl
theorem dksX0_piece_4 : cX0_piece.data.toList.drop 91 = dktX0_piece_4 := dk_seg dksX0_piece_3 24 rfl rfl
theorem dX0_piece_0 : decode cX0_piece 0 = .ok (.iload_n 1, 1) := dk_27 (dk_at dksX0_piece_0 0 rfl rfl)
theorem dX0_piece_1 : decode cX0_piece 1 = .ok (.iload_n 2, 1) := dk_28 (dk_at dksX0_piece_0 1 rfl rfl)
theorem dX0_piece_2 : decode cX0_piece 2 = .ok (.invokestatic 199, 3) := dk_184 0 199 (dk_at dksX0_piece_0 2 rfl rfl)
theorem dX0_piece_5 : decode cX0_piece 5 = .ok (.ifCond .eq 17, 3) := dk_153 0 17 (dk_at dksX0_piece_0 5 rfl rfl)
theorem dX0_piece_8 : decode cX0_piece 8 = .ok (.iload_n 3, 1) := dk_29 (dk_at dksX0_piece_0 8 rfl rfl)
theorem dX0_piece_9 : decode cX0_piece 9 = .ok (.ifCond .lt 13, 3) := dk_155 0 13 (dk_at dksX0_piece_0 9 rfl rfl)
theorem dX0_piece_12 : decode cX0_piece 12 = .ok (.iload 4, 2) := dk_21 4 (dk_at dksX0_piece_0 12 rfl rfl)
theorem dX0_piece_14 : decode cX0_piece 14 = .ok (.iconst 0, 1) := dk_3 (dk_at dksX0_piece_0 14 rfl rfl)
theorem dX0_piece_15 : decode cX0_piece 15 = .ok (.iconst 4, 1) := dk_7 (dk_at dksX0_piece_0 15 rfl rfl)
theorem dX0_piece_16 : decode cX0_piece 16 = .ok (.invokestatic 84, 3) := dk_184 0 84 (dk_at dksX0_piece_0 16 rfl rfl)
theorem dX0_piece_19 : decode cX0_piece 19 = .ok (.ifCond .ne 5, 3) := dk_154 0 5 (dk_at dksX0_piece_0 19 rfl rfl)
theorem dX0_piece_22 : decode cX0_piece 22 = .ok (.iconst (-1), 1) := dk_2 (dk_at dksX0_piece_0 22 rfl rfl)
theorem dX0_piece_23 : decode cX0_piece 23 = .ok (.ireturn, 1) := dk_172 (dk_at dksX0_piece_0 23 rfl rfl)
theorem dX0_piece_24 : decode cX0_piece 24 = .ok (.iload_n 3, 1) := dk_29 (dk_at dksX0_piece_1 0 rfl rfl)
theorem dX0_piece_25 : decode cX0_piece 25 = .ok (.istore 5, 2) := dk_54 5 (dk_at dksX0_piece_1 1 rfl rfl)
theorem dX0_piece_27 : decode cX0_piece 27 = .ok (.new 203, 3) := dk_187 0 203 (dk_at dksX0_piece_1 3 rfl rfl)
theorem dX0_piece_30 : decode cX0_piece 30 = .ok (.dup, 1) := dk_89 (dk_at dksX0_piece_1 6 rfl rfl)
theorem dX0_piece_31 : decode cX0_piece 31 = .ok (.aload_n 0, 1) := dk_42 (dk_at dksX0_piece_1 7 rfl rfl)
theorem dX0_piece_32 : decode cX0_piece 32 = .ok (.aload_n 0, 1) := dk_42 (dk_at dksX0_piece_1 8 rfl rfl)
theorem dX0_piece_33 : decode cX0_piece 33 = .ok (.getfield 31, 3) := dk_180 0 31 (dk_at dksX0_piece_1 9 rfl rfl)
theorem dX0_piece_36 : decode cX0_piece 36 = .ok (.iload_n 1, 1) := dk_27 (dk_at dksX0_piece_1 12 rfl rfl)
theorem dX0_piece_37 : decode cX0_piece 37 = .ok (.iload_n 2, 1) := dk_28 (dk_at dksX0_piece_1 13 rfl rfl)
theorem dX0_piece_38 : decode cX0_piece 38 = .ok (.iconst 1, 1) := dk_4 (dk_at dksX0_piece_1 14 rfl rfl)
theorem dX0_piece_39 : decode cX0_piece 39 = .ok (.if_icmp .ne 7, 3) := dk_160 0 7 (dk_at dksX0_piece_1 15 rfl rfl)
theorem dX0_piece_42 : decode cX0_piece 42 = .ok (.iconst 1, 1) := dk_4 (dk_at dksX0_piece_1 18 rfl rfl)
theorem dX0_piece_43 : decode cX0_piece 43 = .ok (.goto 4, 3) := dk_167 0 4 (dk_at dksX0_piece_1 19 rfl rfl)
theorem dX0_piece_46 : decode cX0_piece 46 = .ok (.iconst 0, 1) := dk_3 (dk_at dksX0_piece_1 22 rfl rfl)
theorem dX0_piece_47 : decode cX0_piece 47 = .ok (.invokespecial 205, 3) := dk_183 0 205 (dk_at dksX0_piece_2 0 rfl rfl)
theorem dX0_piece_50 : decode cX0_piece 50 = .ok (.invokevirtual 208, 3) := dk_182 0 208 (dk_at dksX0_piece_2 3 rfl rfl)
theorem dX0_piece_53 : decode cX0_piece 53 = .ok (.astore 6, 2) := dk_58 6 (dk_at dksX0_piece_2 6 rfl rfl)
theorem dX0_piece_55 : decode cX0_piece 55 = .ok (.aload 6, 2) := dk_25 6 (dk_at dksX0_piece_2 8 rfl rfl)
theorem dX0_piece_57 : decode cX0_piece 57 = .ok (.invokeinterface 170 1, 5) := by decide +kernel
theorem dX0_piece_62 : decode cX0_piece 62 = .ok (.ifCond .eq 35, 3) := dk_153 0 35 (dk_at dksX0_piece_2 15 rfl rfl)
theorem dX0_piece_65 : decode cX0_piece 65 = .ok (.aload 6, 2) := dk_25 6 (dk_at dksX0_piece_2 18 rfl rfl)
theorem dX0_piece_67 : decode cX0_piece 67 = .ok (.invokeinterface 176 1, 5) := by decide +kernel
theorem dX0_piece_72 : decode cX0_piece 72 = .ok (.checkcast 187, 3) := dk_192 0 187 (dk_at dksX0_piece_3 5 rfl rfl)
theorem dX0_piece_75 : decode cX0_piece 75 = .ok (.astore 7, 2) := dk_58 7 (dk_at dksX0_piece_3 8 rfl rfl)
theorem dX0_piece_77 : decode cX0_piece 77 = .ok (.iload 5, 2) := dk_21 5 (dk_at dksX0_piece_3 10 rfl rfl)
theorem dX0_piece_79 : decode cX0_piece 79 = .ok (.ifCond .ne 12, 3) := dk_154 0 12 (dk_at dksX0_piece_3 12 rfl rfl)
theorem dX0_piece_82 : decode cX0_piece 82 = .ok (.aload_n 0, 1) := dk_42 (dk_at dksX0_piece_3 15 rfl rfl)
theorem dX0_piece_83 : decode cX0_piece 83 = .ok (.aload 7, 2) := dk_25 7 (dk_at dksX0_piece_3 16 rfl rfl)
theorem dX0_piece_85 : decode cX0_piece 85 = .ok (.iload 4, 2) := dk_21 4 (dk_at dksX0_piece_3 18 rfl rfl)
theorem dX0_piece_87 : decode cX0_piece 87 = .ok (.invokevirtual 209, 3) := dk_182 0 209 (dk_at dksX0_piece_3 20 rfl rfl)
theorem dX0_piece_90 : decode cX0_piece 90 = .ok (.ireturn, 1) := dk_172 (dk_at dksX0_piece_3 23 rfl rfl)
theorem dX0_piece_91 : decode cX0_piece 91 = .ok (.iinc 5 (-1), 3) := dk_132 5 255 (dk_at dksX0_piece_4 0 rfl rfl)
theorem dX0_piece_94 : decode cX0_piece 94 = .ok (.goto (-39), 3) := dk_167 255 217 (dk_at dksX0_piece_4 3 rfl rfl)
theorem dX0_piece_97 : decode cX0_piece 97 = .ok (.bipush (-9), 2) := dk_16 247 (dk_at dksX0_piece_4 6 rfl rfl)
theorem dX0_piece_99 : decode cX0_piece 99 = .ok (.ireturn, 1) := dk_172 (dk_at dksX0_piece_4 8 rfl rfl)
abbrev cX0_isRead : ByteArray := prog_1_method_21_code
def yX0_isRead : MethodName := ⟨RX0, "isRead", "(II)Z"⟩
def dkwX0_isRead_0 : List UInt8 := [26, 3, 8, 184, 0, 84, 153, 0, 16, 27, 3, 4, 184, 0, 84, 153, 0, 7, 4, 167, 0, 4, 3, 172]
abbrev dktX0_isRead_0 : List UInt8 := dkwX0_isRead_0 ++ []
theorem dksX0_isRead_0 : cX0_isRead.data.toList.drop 0 = dktX0_isRead_0 := by decide +kernel
theorem dX0_isRead_0 : decode cX0_isRead 0 = .ok (.iload_n 0, 1) := dk_26 (dk_at dksX0_isRead_0 0 rfl rfl)
theorem dX0_isRead_1 : decode cX0_isRead 1 = .ok (.iconst 0, 1) := dk_3 (dk_at dksX0_isRead_0 1 rfl rfl)
theorem dX0_isRead_2 : decode cX0_isRead 2 = .ok (.iconst 5, 1) := dk_8 (dk_at dksX0_isRead_0 2 rfl rfl)
theorem dX0_isRead_3 : decode cX0_isRead 3 = .ok (.invokestatic 84, 3) := dk_184 0 84 (dk_at dksX0_isRead_0 3 rfl rfl)
theorem dX0_isRead_6 : decode cX0_isRead 6 = .ok (.ifCond .eq 16, 3) := dk_153 0 16 (dk_at dksX0_isRead_0 6 rfl rfl)
theorem dX0_isRead_9 : decode cX0_isRead 9 = .ok (.iload_n 1, 1) := dk_27 (dk_at dksX0_isRead_0 9 rfl rfl)
theorem dX0_isRead_10 : decode cX0_isRead 10 = .ok (.iconst 0, 1) := dk_3 (dk_at dksX0_isRead_0 10 rfl rfl)
theorem dX0_isRead_11 : decode cX0_isRead 11 = .ok (.iconst 1, 1) := dk_4 (dk_at dksX0_isRead_0 11 rfl rfl)
theorem dX0_isRead_12 : decode cX0_isRead 12 = .ok (.invokestatic 84, 3) := dk_184 0 84 (dk_at dksX0_isRead_0 12 rfl rfl)
theorem dX0_isRead_15 : decode cX0_isRead 15 = .ok (.ifCond .eq 7, 3) := dk_153 0 7 (dk_at dksX0_isRead_0 15 rfl rfl)
theorem dX0_isRead_18 : decode cX0_isRead 18 = .ok (.iconst 1, 1) := dk_4 (dk_at dksX0_isRead_0 18 rfl rfl)
theorem dX0_isRead_19 : decode cX0_isRead 19 = .ok (.goto 4, 3) := dk_167 0 4 (dk_at dksX0_isRead_0 19 rfl rfl)
theorem dX0_isRead_22 : decode cX0_isRead 22 = .ok (.iconst 0, 1) := dk_3 (dk_at dksX0_isRead_0 22 rfl rfl)
theorem dX0_isRead_23 : decode cX0_isRead 23 = .ok (.ireturn, 1) := dk_172 (dk_at dksX0_isRead_0 23 rfl rfl)
abbrev cX0_toldOf : ByteArray := prog_1_method_22_code
def yX0_toldOf : MethodName := ⟨RX0, "toldOf", "(LEvenWords$Piece;I)I"⟩
def dkwX0_toldOf_4 : List UInt8 := [167, 0, 4, 3, 172]
abbrev dktX0_toldOf_4 : List UInt8 := dkwX0_toldOf_4 ++ []
def dkwX0_toldOf_3 : List UInt8 := [154, 0, 7, 4, 167, 0, 4, 3, 172, 42, 43, 182, 0, 191, 172, 43, 180, 0, 195, 153, 0, 7, 4]
abbrev dktX0_toldOf_3 : List UInt8 := dkwX0_toldOf_3 ++ dktX0_toldOf_4
def dkwX0_toldOf_2 : List UInt8 := [43, 180, 0, 186, 172, 42, 180, 0, 19, 43, 180, 0, 186, 46, 172, 42, 43, 182, 0, 191, 6, 126]
abbrev dktX0_toldOf_2 : List UInt8 := dkwX0_toldOf_2 ++ dktX0_toldOf_3
def dkwX0_toldOf_1 : List UInt8 := [170, 0, 0, 0, 0, 0, 68, 0, 0, 0, 0, 0, 0, 0, 3, 0, 0, 0, 31, 0, 0, 0, 36, 0, 0, 0, 46, 0, 0, 0, 62]
abbrev dktX0_toldOf_1 : List UInt8 := dkwX0_toldOf_1 ++ dktX0_toldOf_2
def dkwX0_toldOf_0 : List UInt8 := [28]
abbrev dktX0_toldOf_0 : List UInt8 := dkwX0_toldOf_0 ++ dktX0_toldOf_1
theorem dksX0_toldOf_0 : cX0_toldOf.data.toList.drop 0 = dktX0_toldOf_0 := by decide +kernel
theorem dksX0_toldOf_1 : cX0_toldOf.data.toList.drop 1 = dktX0_toldOf_1 := dk_seg dksX0_toldOf_0 1 rfl rfl
theorem dksX0_toldOf_2 : cX0_toldOf.data.toList.drop 32 = dktX0_toldOf_2 := dk_seg dksX0_toldOf_1 31 rfl rfl
theorem dksX0_toldOf_3 : cX0_toldOf.data.toList.drop 54 = dktX0_toldOf_3 := dk_seg dksX0_toldOf_2 22 rfl rfl
theorem dksX0_toldOf_4 : cX0_toldOf.data.toList.drop 77 = dktX0_toldOf_4 := dk_seg dksX0_toldOf_3 23 rfl rfl
theorem dX0_toldOf_0 : decode cX0_toldOf 0 = .ok (.iload_n 2, 1) := dk_28 (dk_at dksX0_toldOf_0 0 rfl rfl)
theorem dX0_toldOf_1 : decode cX0_toldOf 1 = .ok (.tableswitch 68 0 3 #[31, 36, 46, 62], 31) := by decide +kernel
theorem dX0_toldOf_32 : decode cX0_toldOf 32 = .ok (.aload_n 1, 1) := dk_43 (dk_at dksX0_toldOf_2 0 rfl rfl)
theorem dX0_toldOf_33 : decode cX0_toldOf 33 = .ok (.getfield 186, 3) := dk_180 0 186 (dk_at dksX0_toldOf_2 1 rfl rfl)
theorem dX0_toldOf_36 : decode cX0_toldOf 36 = .ok (.ireturn, 1) := dk_172 (dk_at dksX0_toldOf_2 4 rfl rfl)
theorem dX0_toldOf_37 : decode cX0_toldOf 37 = .ok (.aload_n 0, 1) := dk_42 (dk_at dksX0_toldOf_2 5 rfl rfl)
theorem dX0_toldOf_38 : decode cX0_toldOf 38 = .ok (.getfield 19, 3) := dk_180 0 19 (dk_at dksX0_toldOf_2 6 rfl rfl)
theorem dX0_toldOf_41 : decode cX0_toldOf 41 = .ok (.aload_n 1, 1) := dk_43 (dk_at dksX0_toldOf_2 9 rfl rfl)
theorem dX0_toldOf_42 : decode cX0_toldOf 42 = .ok (.getfield 186, 3) := dk_180 0 186 (dk_at dksX0_toldOf_2 10 rfl rfl)
theorem dX0_toldOf_45 : decode cX0_toldOf 45 = .ok (.iaload, 1) := dk_46 (dk_at dksX0_toldOf_2 13 rfl rfl)
theorem dX0_toldOf_46 : decode cX0_toldOf 46 = .ok (.ireturn, 1) := dk_172 (dk_at dksX0_toldOf_2 14 rfl rfl)
theorem dX0_toldOf_47 : decode cX0_toldOf 47 = .ok (.aload_n 0, 1) := dk_42 (dk_at dksX0_toldOf_2 15 rfl rfl)
theorem dX0_toldOf_48 : decode cX0_toldOf 48 = .ok (.aload_n 1, 1) := dk_43 (dk_at dksX0_toldOf_2 16 rfl rfl)
theorem dX0_toldOf_49 : decode cX0_toldOf 49 = .ok (.invokevirtual 191, 3) := dk_182 0 191 (dk_at dksX0_toldOf_2 17 rfl rfl)
theorem dX0_toldOf_52 : decode cX0_toldOf 52 = .ok (.iconst 3, 1) := dk_6 (dk_at dksX0_toldOf_2 20 rfl rfl)
theorem dX0_toldOf_53 : decode cX0_toldOf 53 = .ok (.iand, 1) := dk_126 (dk_at dksX0_toldOf_2 21 rfl rfl)
theorem dX0_toldOf_54 : decode cX0_toldOf 54 = .ok (.ifCond .ne 7, 3) := dk_154 0 7 (dk_at dksX0_toldOf_3 0 rfl rfl)
theorem dX0_toldOf_57 : decode cX0_toldOf 57 = .ok (.iconst 1, 1) := dk_4 (dk_at dksX0_toldOf_3 3 rfl rfl)
theorem dX0_toldOf_58 : decode cX0_toldOf 58 = .ok (.goto 4, 3) := dk_167 0 4 (dk_at dksX0_toldOf_3 4 rfl rfl)
theorem dX0_toldOf_61 : decode cX0_toldOf 61 = .ok (.iconst 0, 1) := dk_3 (dk_at dksX0_toldOf_3 7 rfl rfl)
theorem dX0_toldOf_62 : decode cX0_toldOf 62 = .ok (.ireturn, 1) := dk_172 (dk_at dksX0_toldOf_3 8 rfl rfl)
theorem dX0_toldOf_63 : decode cX0_toldOf 63 = .ok (.aload_n 0, 1) := dk_42 (dk_at dksX0_toldOf_3 9 rfl rfl)
theorem dX0_toldOf_64 : decode cX0_toldOf 64 = .ok (.aload_n 1, 1) := dk_43 (dk_at dksX0_toldOf_3 10 rfl rfl)
theorem dX0_toldOf_65 : decode cX0_toldOf 65 = .ok (.invokevirtual 191, 3) := dk_182 0 191 (dk_at dksX0_toldOf_3 11 rfl rfl)
theorem dX0_toldOf_68 : decode cX0_toldOf 68 = .ok (.ireturn, 1) := dk_172 (dk_at dksX0_toldOf_3 14 rfl rfl)
theorem dX0_toldOf_69 : decode cX0_toldOf 69 = .ok (.aload_n 1, 1) := dk_43 (dk_at dksX0_toldOf_3 15 rfl rfl)
theorem dX0_toldOf_70 : decode cX0_toldOf 70 = .ok (.getfield 195, 3) := dk_180 0 195 (dk_at dksX0_toldOf_3 16 rfl rfl)
theorem dX0_toldOf_73 : decode cX0_toldOf 73 = .ok (.ifCond .eq 7, 3) := dk_153 0 7 (dk_at dksX0_toldOf_3 19 rfl rfl)
theorem dX0_toldOf_76 : decode cX0_toldOf 76 = .ok (.iconst 1, 1) := dk_4 (dk_at dksX0_toldOf_3 22 rfl rfl)
theorem dX0_toldOf_77 : decode cX0_toldOf 77 = .ok (.goto 4, 3) := dk_167 0 4 (dk_at dksX0_toldOf_4 0 rfl rfl)
theorem dX0_toldOf_80 : decode cX0_toldOf 80 = .ok (.iconst 0, 1) := dk_3 (dk_at dksX0_toldOf_4 3 rfl rfl)
theorem dX0_toldOf_81 : decode cX0_toldOf 81 = .ok (.ireturn, 1) := dk_172 (dk_at dksX0_toldOf_4 4 rfl rfl)
abbrev cX0_breaches : ByteArray := prog_1_method_20_code
def yX0_breaches : MethodName := ⟨RX0, "breaches", "(LEvenWords$Piece;)I"⟩
def dkwX0_breaches_2 : List UInt8 := [172]
abbrev dktX0_breaches_2 : List UInt8 := dkwX0_breaches_2 ++ []
def dkwX0_breaches_1 : List UInt8 := [185, 0, 183, 2, 0, 153, 0, 9, 4, 29, 120, 167, 0, 4, 3, 128, 61, 132, 3, 1, 167, 255, 219, 28]
abbrev dktX0_breaches_1 : List UInt8 := dkwX0_breaches_1 ++ dktX0_breaches_2
def dkwX0_breaches_0 : List UInt8 := [3, 61, 3, 62, 29, 42, 180, 0, 60, 190, 162, 0, 34, 28, 42, 180, 0, 60, 29, 50, 43]
abbrev dktX0_breaches_0 : List UInt8 := dkwX0_breaches_0 ++ dktX0_breaches_1
theorem dksX0_breaches_0 : cX0_breaches.data.toList.drop 0 = dktX0_breaches_0 := by decide +kernel
theorem dksX0_breaches_1 : cX0_breaches.data.toList.drop 21 = dktX0_breaches_1 := dk_seg dksX0_breaches_0 21 rfl rfl
theorem dksX0_breaches_2 : cX0_breaches.data.toList.drop 45 = dktX0_breaches_2 := dk_seg dksX0_breaches_1 24 rfl rfl
theorem dX0_breaches_0 : decode cX0_breaches 0 = .ok (.iconst 0, 1) := dk_3 (dk_at dksX0_breaches_0 0 rfl rfl)
theorem dX0_breaches_1 : decode cX0_breaches 1 = .ok (.istore_n 2, 1) := dk_61 (dk_at dksX0_breaches_0 1 rfl rfl)
theorem dX0_breaches_2 : decode cX0_breaches 2 = .ok (.iconst 0, 1) := dk_3 (dk_at dksX0_breaches_0 2 rfl rfl)
theorem dX0_breaches_3 : decode cX0_breaches 3 = .ok (.istore_n 3, 1) := dk_62 (dk_at dksX0_breaches_0 3 rfl rfl)
theorem dX0_breaches_4 : decode cX0_breaches 4 = .ok (.iload_n 3, 1) := dk_29 (dk_at dksX0_breaches_0 4 rfl rfl)
theorem dX0_breaches_5 : decode cX0_breaches 5 = .ok (.aload_n 0, 1) := dk_42 (dk_at dksX0_breaches_0 5 rfl rfl)
theorem dX0_breaches_6 : decode cX0_breaches 6 = .ok (.getfield 60, 3) := dk_180 0 60 (dk_at dksX0_breaches_0 6 rfl rfl)
theorem dX0_breaches_9 : decode cX0_breaches 9 = .ok (.arraylength, 1) := dk_190 (dk_at dksX0_breaches_0 9 rfl rfl)
theorem dX0_breaches_10 : decode cX0_breaches 10 = .ok (.if_icmp .ge 34, 3) := dk_162 0 34 (dk_at dksX0_breaches_0 10 rfl rfl)
theorem dX0_breaches_13 : decode cX0_breaches 13 = .ok (.iload_n 2, 1) := dk_28 (dk_at dksX0_breaches_0 13 rfl rfl)
theorem dX0_breaches_14 : decode cX0_breaches 14 = .ok (.aload_n 0, 1) := dk_42 (dk_at dksX0_breaches_0 14 rfl rfl)
theorem dX0_breaches_15 : decode cX0_breaches 15 = .ok (.getfield 60, 3) := dk_180 0 60 (dk_at dksX0_breaches_0 15 rfl rfl)
theorem dX0_breaches_18 : decode cX0_breaches 18 = .ok (.iload_n 3, 1) := dk_29 (dk_at dksX0_breaches_0 18 rfl rfl)
theorem dX0_breaches_19 : decode cX0_breaches 19 = .ok (.aaload, 1) := dk_50 (dk_at dksX0_breaches_0 19 rfl rfl)
theorem dX0_breaches_20 : decode cX0_breaches 20 = .ok (.aload_n 1, 1) := dk_43 (dk_at dksX0_breaches_0 20 rfl rfl)
theorem dX0_breaches_21 : decode cX0_breaches 21 = .ok (.invokeinterface 183 2, 5) := by decide +kernel
theorem dX0_breaches_26 : decode cX0_breaches 26 = .ok (.ifCond .eq 9, 3) := dk_153 0 9 (dk_at dksX0_breaches_1 5 rfl rfl)
theorem dX0_breaches_29 : decode cX0_breaches 29 = .ok (.iconst 1, 1) := dk_4 (dk_at dksX0_breaches_1 8 rfl rfl)
theorem dX0_breaches_30 : decode cX0_breaches 30 = .ok (.iload_n 3, 1) := dk_29 (dk_at dksX0_breaches_1 9 rfl rfl)
theorem dX0_breaches_31 : decode cX0_breaches 31 = .ok (.ishl, 1) := dk_120 (dk_at dksX0_breaches_1 10 rfl rfl)
theorem dX0_breaches_32 : decode cX0_breaches 32 = .ok (.goto 4, 3) := dk_167 0 4 (dk_at dksX0_breaches_1 11 rfl rfl)
theorem dX0_breaches_35 : decode cX0_breaches 35 = .ok (.iconst 0, 1) := dk_3 (dk_at dksX0_breaches_1 14 rfl rfl)
theorem dX0_breaches_36 : decode cX0_breaches 36 = .ok (.ior, 1) := dk_128 (dk_at dksX0_breaches_1 15 rfl rfl)
theorem dX0_breaches_37 : decode cX0_breaches 37 = .ok (.istore_n 2, 1) := dk_61 (dk_at dksX0_breaches_1 16 rfl rfl)
theorem dX0_breaches_38 : decode cX0_breaches 38 = .ok (.iinc 3 1, 3) := dk_132 3 1 (dk_at dksX0_breaches_1 17 rfl rfl)
theorem dX0_breaches_41 : decode cX0_breaches 41 = .ok (.goto (-37), 3) := dk_167 255 219 (dk_at dksX0_breaches_1 20 rfl rfl)
theorem dX0_breaches_44 : decode cX0_breaches 44 = .ok (.iload_n 2, 1) := dk_28 (dk_at dksX0_breaches_1 23 rfl rfl)
theorem dX0_breaches_45 : decode cX0_breaches 45 = .ok (.ireturn, 1) := dk_172 (dk_at dksX0_breaches_2 0 rfl rfl)
abbrev cX0_read : ByteArray := prog_1_method_26_code
def yX0_read : MethodName := ⟨RX0, "read", "(III)I"⟩
def dkwX0_read_5 : List UInt8 := [172]
abbrev dktX0_read_5 : List UInt8 := dkwX0_read_5 ++ []
def dkwX0_read_4 : List UInt8 := [180, 0, 213, 167, 0, 21, 29, 7, 160, 0, 10, 42, 180, 0, 216, 167, 0, 9, 42, 25, 4, 182, 0, 238]
abbrev dktX0_read_4 : List UInt8 := dkwX0_read_4 ++ dktX0_read_5
def dkwX0_read_3 : List UInt8 := [182, 0, 226, 167, 0, 8, 25, 4, 182, 0, 231, 172, 42, 25, 4, 182, 0, 234, 29, 6, 160, 0, 10, 42]
abbrev dktX0_read_3 : List UInt8 := dkwX0_read_3 ++ dktX0_read_4
def dkwX0_read_2 : List UInt8 := [162, 0, 34, 29, 154, 0, 11, 25, 4, 182, 0, 223, 167, 0, 21, 29, 4, 160, 0, 11, 25, 4]
abbrev dktX0_read_2 : List UInt8 := dkwX0_read_2 ++ dktX0_read_3
def dkwX0_read_1 : List UInt8 := [42, 42, 180, 0, 31, 27, 28, 4, 160, 0, 7, 4, 167, 0, 4, 3, 183, 0, 205, 58, 4, 29, 6]
abbrev dktX0_read_1 : List UInt8 := dkwX0_read_1 ++ dktX0_read_2
def dkwX0_read_0 : List UInt8 := [27, 28, 184, 0, 199, 153, 0, 12, 29, 3, 8, 184, 0, 84, 154, 0, 6, 18, 230, 172, 187, 0, 203, 89]
abbrev dktX0_read_0 : List UInt8 := dkwX0_read_0 ++ dktX0_read_1
theorem dksX0_read_0 : cX0_read.data.toList.drop 0 = dktX0_read_0 := by decide +kernel
theorem dksX0_read_1 : cX0_read.data.toList.drop 24 = dktX0_read_1 := dk_seg dksX0_read_0 24 rfl rfl
theorem dksX0_read_2 : cX0_read.data.toList.drop 47 = dktX0_read_2 := dk_seg dksX0_read_1 23 rfl rfl
theorem dksX0_read_3 : cX0_read.data.toList.drop 69 = dktX0_read_3 := dk_seg dksX0_read_2 22 rfl rfl
theorem dksX0_read_4 : cX0_read.data.toList.drop 93 = dktX0_read_4 := dk_seg dksX0_read_3 24 rfl rfl
theorem dksX0_read_5 : cX0_read.data.toList.drop 117 = dktX0_read_5 := dk_seg dksX0_read_4 24 rfl rfl
theorem dX0_read_0 : decode cX0_read 0 = .ok (.iload_n 1, 1) := dk_27 (dk_at dksX0_read_0 0 rfl rfl)
theorem dX0_read_1 : decode cX0_read 1 = .ok (.iload_n 2, 1) := dk_28 (dk_at dksX0_read_0 1 rfl rfl)
theorem dX0_read_2 : decode cX0_read 2 = .ok (.invokestatic 199, 3) := dk_184 0 199 (dk_at dksX0_read_0 2 rfl rfl)
theorem dX0_read_5 : decode cX0_read 5 = .ok (.ifCond .eq 12, 3) := dk_153 0 12 (dk_at dksX0_read_0 5 rfl rfl)
theorem dX0_read_8 : decode cX0_read 8 = .ok (.iload_n 3, 1) := dk_29 (dk_at dksX0_read_0 8 rfl rfl)
theorem dX0_read_9 : decode cX0_read 9 = .ok (.iconst 0, 1) := dk_3 (dk_at dksX0_read_0 9 rfl rfl)
theorem dX0_read_10 : decode cX0_read 10 = .ok (.iconst 5, 1) := dk_8 (dk_at dksX0_read_0 10 rfl rfl)
theorem dX0_read_11 : decode cX0_read 11 = .ok (.invokestatic 84, 3) := dk_184 0 84 (dk_at dksX0_read_0 11 rfl rfl)
theorem dX0_read_14 : decode cX0_read 14 = .ok (.ifCond .ne 6, 3) := dk_154 0 6 (dk_at dksX0_read_0 14 rfl rfl)
theorem dX0_read_17 : decode cX0_read 17 = .ok (.ldc 230, 2) := dk_18 230 (dk_at dksX0_read_0 17 rfl rfl)
theorem dX0_read_19 : decode cX0_read 19 = .ok (.ireturn, 1) := dk_172 (dk_at dksX0_read_0 19 rfl rfl)
theorem dX0_read_20 : decode cX0_read 20 = .ok (.new 203, 3) := dk_187 0 203 (dk_at dksX0_read_0 20 rfl rfl)
theorem dX0_read_23 : decode cX0_read 23 = .ok (.dup, 1) := dk_89 (dk_at dksX0_read_0 23 rfl rfl)
theorem dX0_read_24 : decode cX0_read 24 = .ok (.aload_n 0, 1) := dk_42 (dk_at dksX0_read_1 0 rfl rfl)
theorem dX0_read_25 : decode cX0_read 25 = .ok (.aload_n 0, 1) := dk_42 (dk_at dksX0_read_1 1 rfl rfl)
theorem dX0_read_26 : decode cX0_read 26 = .ok (.getfield 31, 3) := dk_180 0 31 (dk_at dksX0_read_1 2 rfl rfl)
theorem dX0_read_29 : decode cX0_read 29 = .ok (.iload_n 1, 1) := dk_27 (dk_at dksX0_read_1 5 rfl rfl)
theorem dX0_read_30 : decode cX0_read 30 = .ok (.iload_n 2, 1) := dk_28 (dk_at dksX0_read_1 6 rfl rfl)
theorem dX0_read_31 : decode cX0_read 31 = .ok (.iconst 1, 1) := dk_4 (dk_at dksX0_read_1 7 rfl rfl)
theorem dX0_read_32 : decode cX0_read 32 = .ok (.if_icmp .ne 7, 3) := dk_160 0 7 (dk_at dksX0_read_1 8 rfl rfl)
theorem dX0_read_35 : decode cX0_read 35 = .ok (.iconst 1, 1) := dk_4 (dk_at dksX0_read_1 11 rfl rfl)
theorem dX0_read_36 : decode cX0_read 36 = .ok (.goto 4, 3) := dk_167 0 4 (dk_at dksX0_read_1 12 rfl rfl)
theorem dX0_read_39 : decode cX0_read 39 = .ok (.iconst 0, 1) := dk_3 (dk_at dksX0_read_1 15 rfl rfl)
theorem dX0_read_40 : decode cX0_read 40 = .ok (.invokespecial 205, 3) := dk_183 0 205 (dk_at dksX0_read_1 16 rfl rfl)
theorem dX0_read_43 : decode cX0_read 43 = .ok (.astore 4, 2) := dk_58 4 (dk_at dksX0_read_1 19 rfl rfl)
theorem dX0_read_45 : decode cX0_read 45 = .ok (.iload_n 3, 1) := dk_29 (dk_at dksX0_read_1 21 rfl rfl)
theorem dX0_read_46 : decode cX0_read 46 = .ok (.iconst 3, 1) := dk_6 (dk_at dksX0_read_1 22 rfl rfl)
theorem dX0_read_47 : decode cX0_read 47 = .ok (.if_icmp .ge 34, 3) := dk_162 0 34 (dk_at dksX0_read_2 0 rfl rfl)
theorem dX0_read_50 : decode cX0_read 50 = .ok (.iload_n 3, 1) := dk_29 (dk_at dksX0_read_2 3 rfl rfl)
theorem dX0_read_51 : decode cX0_read 51 = .ok (.ifCond .ne 11, 3) := dk_154 0 11 (dk_at dksX0_read_2 4 rfl rfl)
theorem dX0_read_54 : decode cX0_read 54 = .ok (.aload 4, 2) := dk_25 4 (dk_at dksX0_read_2 7 rfl rfl)
theorem dX0_read_56 : decode cX0_read 56 = .ok (.invokevirtual 223, 3) := dk_182 0 223 (dk_at dksX0_read_2 9 rfl rfl)
theorem dX0_read_59 : decode cX0_read 59 = .ok (.goto 21, 3) := dk_167 0 21 (dk_at dksX0_read_2 12 rfl rfl)
theorem dX0_read_62 : decode cX0_read 62 = .ok (.iload_n 3, 1) := dk_29 (dk_at dksX0_read_2 15 rfl rfl)
theorem dX0_read_63 : decode cX0_read 63 = .ok (.iconst 1, 1) := dk_4 (dk_at dksX0_read_2 16 rfl rfl)
theorem dX0_read_64 : decode cX0_read 64 = .ok (.if_icmp .ne 11, 3) := dk_160 0 11 (dk_at dksX0_read_2 17 rfl rfl)
theorem dX0_read_67 : decode cX0_read 67 = .ok (.aload 4, 2) := dk_25 4 (dk_at dksX0_read_2 20 rfl rfl)
theorem dX0_read_69 : decode cX0_read 69 = .ok (.invokevirtual 226, 3) := dk_182 0 226 (dk_at dksX0_read_3 0 rfl rfl)
theorem dX0_read_72 : decode cX0_read 72 = .ok (.goto 8, 3) := dk_167 0 8 (dk_at dksX0_read_3 3 rfl rfl)
theorem dX0_read_75 : decode cX0_read 75 = .ok (.aload 4, 2) := dk_25 4 (dk_at dksX0_read_3 6 rfl rfl)
theorem dX0_read_77 : decode cX0_read 77 = .ok (.invokevirtual 231, 3) := dk_182 0 231 (dk_at dksX0_read_3 8 rfl rfl)
theorem dX0_read_80 : decode cX0_read 80 = .ok (.ireturn, 1) := dk_172 (dk_at dksX0_read_3 11 rfl rfl)
theorem dX0_read_81 : decode cX0_read 81 = .ok (.aload_n 0, 1) := dk_42 (dk_at dksX0_read_3 12 rfl rfl)
theorem dX0_read_82 : decode cX0_read 82 = .ok (.aload 4, 2) := dk_25 4 (dk_at dksX0_read_3 13 rfl rfl)
theorem dX0_read_84 : decode cX0_read 84 = .ok (.invokevirtual 234, 3) := dk_182 0 234 (dk_at dksX0_read_3 15 rfl rfl)
theorem dX0_read_87 : decode cX0_read 87 = .ok (.iload_n 3, 1) := dk_29 (dk_at dksX0_read_3 18 rfl rfl)
theorem dX0_read_88 : decode cX0_read 88 = .ok (.iconst 3, 1) := dk_6 (dk_at dksX0_read_3 19 rfl rfl)
theorem dX0_read_89 : decode cX0_read 89 = .ok (.if_icmp .ne 10, 3) := dk_160 0 10 (dk_at dksX0_read_3 20 rfl rfl)
theorem dX0_read_92 : decode cX0_read 92 = .ok (.aload_n 0, 1) := dk_42 (dk_at dksX0_read_3 23 rfl rfl)
theorem dX0_read_93 : decode cX0_read 93 = .ok (.getfield 213, 3) := dk_180 0 213 (dk_at dksX0_read_4 0 rfl rfl)
theorem dX0_read_96 : decode cX0_read 96 = .ok (.goto 21, 3) := dk_167 0 21 (dk_at dksX0_read_4 3 rfl rfl)
theorem dX0_read_99 : decode cX0_read 99 = .ok (.iload_n 3, 1) := dk_29 (dk_at dksX0_read_4 6 rfl rfl)
theorem dX0_read_100 : decode cX0_read 100 = .ok (.iconst 4, 1) := dk_7 (dk_at dksX0_read_4 7 rfl rfl)
theorem dX0_read_101 : decode cX0_read 101 = .ok (.if_icmp .ne 10, 3) := dk_160 0 10 (dk_at dksX0_read_4 8 rfl rfl)
theorem dX0_read_104 : decode cX0_read 104 = .ok (.aload_n 0, 1) := dk_42 (dk_at dksX0_read_4 11 rfl rfl)
theorem dX0_read_105 : decode cX0_read 105 = .ok (.getfield 216, 3) := dk_180 0 216 (dk_at dksX0_read_4 12 rfl rfl)
theorem dX0_read_108 : decode cX0_read 108 = .ok (.goto 9, 3) := dk_167 0 9 (dk_at dksX0_read_4 15 rfl rfl)
theorem dX0_read_111 : decode cX0_read 111 = .ok (.aload_n 0, 1) := dk_42 (dk_at dksX0_read_4 18 rfl rfl)
theorem dX0_read_112 : decode cX0_read 112 = .ok (.aload 4, 2) := dk_25 4 (dk_at dksX0_read_4 19 rfl rfl)
theorem dX0_read_114 : decode cX0_read 114 = .ok (.invokevirtual 238, 3) := dk_182 0 238 (dk_at dksX0_read_4 21 rfl rfl)
theorem dX0_read_117 : decode cX0_read 117 = .ok (.ireturn, 1) := dk_172 (dk_at dksX0_read_5 0 rfl rfl)
abbrev cX0_blames : ByteArray := prog_1_method_24_code
def yX0_blames : MethodName := ⟨RX0, "blames", "(LEvenWords$Read;)V"⟩
def dkwX0_blames_6 : List UInt8 := [167, 0, 4, 3, 84, 132, 3, 255, 167, 255, 169, 177]
abbrev dktX0_blames_6 : List UInt8 := dkwX0_blames_6 ++ []
def dkwX0_blames_5 : List UInt8 := [181, 0, 216, 42, 180, 0, 35, 180, 0, 137, 29, 42, 180, 0, 35, 180, 0, 137, 29, 51, 154, 0, 7, 4]
abbrev dktX0_blames_5 : List UInt8 := dkwX0_blames_5 ++ dktX0_blames_6
def dkwX0_blames_4 : List UInt8 := [84, 44, 182, 0, 226, 16, 247, 160, 0, 18, 42, 89, 180, 0, 213, 4, 96, 181, 0, 213, 42, 29]
abbrev dktX0_blames_4 : List UInt8 := dkwX0_blames_4 ++ dktX0_blames_5
def dkwX0_blames_3 : List UInt8 := [180, 0, 35, 180, 0, 137, 29, 42, 180, 0, 35, 180, 0, 137, 29, 51, 154, 0, 7, 4, 167, 0, 4, 3]
abbrev dktX0_blames_3 : List UInt8 := dkwX0_blames_3 ++ dktX0_blames_4
def dkwX0_blames_2 : List UInt8 := [180, 0, 219, 16, 6, 43, 182, 0, 223, 104, 96, 4, 100, 62, 29, 43, 180, 0, 219, 161, 0, 85, 42]
abbrev dktX0_blames_2 : List UInt8 := dkwX0_blames_2 ++ dktX0_blames_3
def dkwX0_blames_1 : List UInt8 := [187, 0, 203, 89, 42, 42, 180, 0, 35, 43, 180, 0, 219, 43, 180, 0, 222, 183, 0, 205, 77, 43]
abbrev dktX0_blames_1 : List UInt8 := dkwX0_blames_1 ++ dktX0_blames_2
def dkwX0_blames_0 : List UInt8 := [42, 3, 181, 0, 213, 42, 16, 247, 181, 0, 216, 42, 180, 0, 35, 42, 180, 0, 31, 182, 0, 80, 87]
abbrev dktX0_blames_0 : List UInt8 := dkwX0_blames_0 ++ dktX0_blames_1
theorem dksX0_blames_0 : cX0_blames.data.toList.drop 0 = dktX0_blames_0 := by decide +kernel
theorem dksX0_blames_1 : cX0_blames.data.toList.drop 23 = dktX0_blames_1 := dk_seg dksX0_blames_0 23 rfl rfl
theorem dksX0_blames_2 : cX0_blames.data.toList.drop 45 = dktX0_blames_2 := dk_seg dksX0_blames_1 22 rfl rfl
theorem dksX0_blames_3 : cX0_blames.data.toList.drop 68 = dktX0_blames_3 := dk_seg dksX0_blames_2 23 rfl rfl
theorem dksX0_blames_4 : cX0_blames.data.toList.drop 92 = dktX0_blames_4 := dk_seg dksX0_blames_3 24 rfl rfl
theorem dksX0_blames_5 : cX0_blames.data.toList.drop 114 = dktX0_blames_5 := dk_seg dksX0_blames_4 22 rfl rfl
theorem dksX0_blames_6 : cX0_blames.data.toList.drop 138 = dktX0_blames_6 := dk_seg dksX0_blames_5 24 rfl rfl
theorem dX0_blames_0 : decode cX0_blames 0 = .ok (.aload_n 0, 1) := dk_42 (dk_at dksX0_blames_0 0 rfl rfl)
theorem dX0_blames_1 : decode cX0_blames 1 = .ok (.iconst 0, 1) := dk_3 (dk_at dksX0_blames_0 1 rfl rfl)
theorem dX0_blames_2 : decode cX0_blames 2 = .ok (.putfield 213, 3) := dk_181 0 213 (dk_at dksX0_blames_0 2 rfl rfl)
theorem dX0_blames_5 : decode cX0_blames 5 = .ok (.aload_n 0, 1) := dk_42 (dk_at dksX0_blames_0 5 rfl rfl)
theorem dX0_blames_6 : decode cX0_blames 6 = .ok (.bipush (-9), 2) := dk_16 247 (dk_at dksX0_blames_0 6 rfl rfl)
theorem dX0_blames_8 : decode cX0_blames 8 = .ok (.putfield 216, 3) := dk_181 0 216 (dk_at dksX0_blames_0 8 rfl rfl)
theorem dX0_blames_11 : decode cX0_blames 11 = .ok (.aload_n 0, 1) := dk_42 (dk_at dksX0_blames_0 11 rfl rfl)
theorem dX0_blames_12 : decode cX0_blames 12 = .ok (.getfield 35, 3) := dk_180 0 35 (dk_at dksX0_blames_0 12 rfl rfl)
theorem dX0_blames_15 : decode cX0_blames 15 = .ok (.aload_n 0, 1) := dk_42 (dk_at dksX0_blames_0 15 rfl rfl)
theorem dX0_blames_16 : decode cX0_blames 16 = .ok (.getfield 31, 3) := dk_180 0 31 (dk_at dksX0_blames_0 16 rfl rfl)
theorem dX0_blames_19 : decode cX0_blames 19 = .ok (.invokevirtual 80, 3) := dk_182 0 80 (dk_at dksX0_blames_0 19 rfl rfl)
theorem dX0_blames_22 : decode cX0_blames 22 = .ok (.pop, 1) := dk_87 (dk_at dksX0_blames_0 22 rfl rfl)
theorem dX0_blames_23 : decode cX0_blames 23 = .ok (.new 203, 3) := dk_187 0 203 (dk_at dksX0_blames_1 0 rfl rfl)
theorem dX0_blames_26 : decode cX0_blames 26 = .ok (.dup, 1) := dk_89 (dk_at dksX0_blames_1 3 rfl rfl)
theorem dX0_blames_27 : decode cX0_blames 27 = .ok (.aload_n 0, 1) := dk_42 (dk_at dksX0_blames_1 4 rfl rfl)
theorem dX0_blames_28 : decode cX0_blames 28 = .ok (.aload_n 0, 1) := dk_42 (dk_at dksX0_blames_1 5 rfl rfl)
theorem dX0_blames_29 : decode cX0_blames 29 = .ok (.getfield 35, 3) := dk_180 0 35 (dk_at dksX0_blames_1 6 rfl rfl)
theorem dX0_blames_32 : decode cX0_blames 32 = .ok (.aload_n 1, 1) := dk_43 (dk_at dksX0_blames_1 9 rfl rfl)
theorem dX0_blames_33 : decode cX0_blames 33 = .ok (.getfield 219, 3) := dk_180 0 219 (dk_at dksX0_blames_1 10 rfl rfl)
theorem dX0_blames_36 : decode cX0_blames 36 = .ok (.aload_n 1, 1) := dk_43 (dk_at dksX0_blames_1 13 rfl rfl)
theorem dX0_blames_37 : decode cX0_blames 37 = .ok (.getfield 222, 3) := dk_180 0 222 (dk_at dksX0_blames_1 14 rfl rfl)
theorem dX0_blames_40 : decode cX0_blames 40 = .ok (.invokespecial 205, 3) := dk_183 0 205 (dk_at dksX0_blames_1 17 rfl rfl)
theorem dX0_blames_43 : decode cX0_blames 43 = .ok (.astore_n 2, 1) := dk_77 (dk_at dksX0_blames_1 20 rfl rfl)
theorem dX0_blames_44 : decode cX0_blames 44 = .ok (.aload_n 1, 1) := dk_43 (dk_at dksX0_blames_1 21 rfl rfl)
theorem dX0_blames_45 : decode cX0_blames 45 = .ok (.getfield 219, 3) := dk_180 0 219 (dk_at dksX0_blames_2 0 rfl rfl)
theorem dX0_blames_48 : decode cX0_blames 48 = .ok (.bipush 6, 2) := dk_16 6 (dk_at dksX0_blames_2 3 rfl rfl)
theorem dX0_blames_50 : decode cX0_blames 50 = .ok (.aload_n 1, 1) := dk_43 (dk_at dksX0_blames_2 5 rfl rfl)
theorem dX0_blames_51 : decode cX0_blames 51 = .ok (.invokevirtual 223, 3) := dk_182 0 223 (dk_at dksX0_blames_2 6 rfl rfl)
theorem dX0_blames_54 : decode cX0_blames 54 = .ok (.imul, 1) := dk_104 (dk_at dksX0_blames_2 9 rfl rfl)
theorem dX0_blames_55 : decode cX0_blames 55 = .ok (.iadd, 1) := dk_96 (dk_at dksX0_blames_2 10 rfl rfl)
theorem dX0_blames_56 : decode cX0_blames 56 = .ok (.iconst 1, 1) := dk_4 (dk_at dksX0_blames_2 11 rfl rfl)
theorem dX0_blames_57 : decode cX0_blames 57 = .ok (.isub, 1) := dk_100 (dk_at dksX0_blames_2 12 rfl rfl)
theorem dX0_blames_58 : decode cX0_blames 58 = .ok (.istore_n 3, 1) := dk_62 (dk_at dksX0_blames_2 13 rfl rfl)
theorem dX0_blames_59 : decode cX0_blames 59 = .ok (.iload_n 3, 1) := dk_29 (dk_at dksX0_blames_2 14 rfl rfl)
theorem dX0_blames_60 : decode cX0_blames 60 = .ok (.aload_n 1, 1) := dk_43 (dk_at dksX0_blames_2 15 rfl rfl)
theorem dX0_blames_61 : decode cX0_blames 61 = .ok (.getfield 219, 3) := dk_180 0 219 (dk_at dksX0_blames_2 16 rfl rfl)
theorem dX0_blames_64 : decode cX0_blames 64 = .ok (.if_icmp .lt 85, 3) := dk_161 0 85 (dk_at dksX0_blames_2 19 rfl rfl)
theorem dX0_blames_67 : decode cX0_blames 67 = .ok (.aload_n 0, 1) := dk_42 (dk_at dksX0_blames_2 22 rfl rfl)
theorem dX0_blames_68 : decode cX0_blames 68 = .ok (.getfield 35, 3) := dk_180 0 35 (dk_at dksX0_blames_3 0 rfl rfl)
theorem dX0_blames_71 : decode cX0_blames 71 = .ok (.getfield 137, 3) := dk_180 0 137 (dk_at dksX0_blames_3 3 rfl rfl)
theorem dX0_blames_74 : decode cX0_blames 74 = .ok (.iload_n 3, 1) := dk_29 (dk_at dksX0_blames_3 6 rfl rfl)
theorem dX0_blames_75 : decode cX0_blames 75 = .ok (.aload_n 0, 1) := dk_42 (dk_at dksX0_blames_3 7 rfl rfl)
theorem dX0_blames_76 : decode cX0_blames 76 = .ok (.getfield 35, 3) := dk_180 0 35 (dk_at dksX0_blames_3 8 rfl rfl)
theorem dX0_blames_79 : decode cX0_blames 79 = .ok (.getfield 137, 3) := dk_180 0 137 (dk_at dksX0_blames_3 11 rfl rfl)
theorem dX0_blames_82 : decode cX0_blames 82 = .ok (.iload_n 3, 1) := dk_29 (dk_at dksX0_blames_3 14 rfl rfl)
theorem dX0_blames_83 : decode cX0_blames 83 = .ok (.baload, 1) := dk_51 (dk_at dksX0_blames_3 15 rfl rfl)
theorem dX0_blames_84 : decode cX0_blames 84 = .ok (.ifCond .ne 7, 3) := dk_154 0 7 (dk_at dksX0_blames_3 16 rfl rfl)
theorem dX0_blames_87 : decode cX0_blames 87 = .ok (.iconst 1, 1) := dk_4 (dk_at dksX0_blames_3 19 rfl rfl)
theorem dX0_blames_88 : decode cX0_blames 88 = .ok (.goto 4, 3) := dk_167 0 4 (dk_at dksX0_blames_3 20 rfl rfl)
theorem dX0_blames_91 : decode cX0_blames 91 = .ok (.iconst 0, 1) := dk_3 (dk_at dksX0_blames_3 23 rfl rfl)
theorem dX0_blames_92 : decode cX0_blames 92 = .ok (.bastore, 1) := dk_84 (dk_at dksX0_blames_4 0 rfl rfl)
theorem dX0_blames_93 : decode cX0_blames 93 = .ok (.aload_n 2, 1) := dk_44 (dk_at dksX0_blames_4 1 rfl rfl)
theorem dX0_blames_94 : decode cX0_blames 94 = .ok (.invokevirtual 226, 3) := dk_182 0 226 (dk_at dksX0_blames_4 2 rfl rfl)
theorem dX0_blames_97 : decode cX0_blames 97 = .ok (.bipush (-9), 2) := dk_16 247 (dk_at dksX0_blames_4 5 rfl rfl)
theorem dX0_blames_99 : decode cX0_blames 99 = .ok (.if_icmp .ne 18, 3) := dk_160 0 18 (dk_at dksX0_blames_4 7 rfl rfl)
theorem dX0_blames_102 : decode cX0_blames 102 = .ok (.aload_n 0, 1) := dk_42 (dk_at dksX0_blames_4 10 rfl rfl)
theorem dX0_blames_103 : decode cX0_blames 103 = .ok (.dup, 1) := dk_89 (dk_at dksX0_blames_4 11 rfl rfl)
theorem dX0_blames_104 : decode cX0_blames 104 = .ok (.getfield 213, 3) := dk_180 0 213 (dk_at dksX0_blames_4 12 rfl rfl)
theorem dX0_blames_107 : decode cX0_blames 107 = .ok (.iconst 1, 1) := dk_4 (dk_at dksX0_blames_4 15 rfl rfl)
theorem dX0_blames_108 : decode cX0_blames 108 = .ok (.iadd, 1) := dk_96 (dk_at dksX0_blames_4 16 rfl rfl)
theorem dX0_blames_109 : decode cX0_blames 109 = .ok (.putfield 213, 3) := dk_181 0 213 (dk_at dksX0_blames_4 17 rfl rfl)
theorem dX0_blames_112 : decode cX0_blames 112 = .ok (.aload_n 0, 1) := dk_42 (dk_at dksX0_blames_4 20 rfl rfl)
theorem dX0_blames_113 : decode cX0_blames 113 = .ok (.iload_n 3, 1) := dk_29 (dk_at dksX0_blames_4 21 rfl rfl)
theorem dX0_blames_114 : decode cX0_blames 114 = .ok (.putfield 216, 3) := dk_181 0 216 (dk_at dksX0_blames_5 0 rfl rfl)
theorem dX0_blames_117 : decode cX0_blames 117 = .ok (.aload_n 0, 1) := dk_42 (dk_at dksX0_blames_5 3 rfl rfl)
theorem dX0_blames_118 : decode cX0_blames 118 = .ok (.getfield 35, 3) := dk_180 0 35 (dk_at dksX0_blames_5 4 rfl rfl)
theorem dX0_blames_121 : decode cX0_blames 121 = .ok (.getfield 137, 3) := dk_180 0 137 (dk_at dksX0_blames_5 7 rfl rfl)
theorem dX0_blames_124 : decode cX0_blames 124 = .ok (.iload_n 3, 1) := dk_29 (dk_at dksX0_blames_5 10 rfl rfl)
theorem dX0_blames_125 : decode cX0_blames 125 = .ok (.aload_n 0, 1) := dk_42 (dk_at dksX0_blames_5 11 rfl rfl)
theorem dX0_blames_126 : decode cX0_blames 126 = .ok (.getfield 35, 3) := dk_180 0 35 (dk_at dksX0_blames_5 12 rfl rfl)
theorem dX0_blames_129 : decode cX0_blames 129 = .ok (.getfield 137, 3) := dk_180 0 137 (dk_at dksX0_blames_5 15 rfl rfl)
theorem dX0_blames_132 : decode cX0_blames 132 = .ok (.iload_n 3, 1) := dk_29 (dk_at dksX0_blames_5 18 rfl rfl)
theorem dX0_blames_133 : decode cX0_blames 133 = .ok (.baload, 1) := dk_51 (dk_at dksX0_blames_5 19 rfl rfl)
theorem dX0_blames_134 : decode cX0_blames 134 = .ok (.ifCond .ne 7, 3) := dk_154 0 7 (dk_at dksX0_blames_5 20 rfl rfl)
theorem dX0_blames_137 : decode cX0_blames 137 = .ok (.iconst 1, 1) := dk_4 (dk_at dksX0_blames_5 23 rfl rfl)
theorem dX0_blames_138 : decode cX0_blames 138 = .ok (.goto 4, 3) := dk_167 0 4 (dk_at dksX0_blames_6 0 rfl rfl)
theorem dX0_blames_141 : decode cX0_blames 141 = .ok (.iconst 0, 1) := dk_3 (dk_at dksX0_blames_6 3 rfl rfl)
theorem dX0_blames_142 : decode cX0_blames 142 = .ok (.bastore, 1) := dk_84 (dk_at dksX0_blames_6 4 rfl rfl)
theorem dX0_blames_143 : decode cX0_blames 143 = .ok (.iinc 3 (-1), 3) := dk_132 3 255 (dk_at dksX0_blames_6 5 rfl rfl)
theorem dX0_blames_146 : decode cX0_blames 146 = .ok (.goto (-87), 3) := dk_167 255 169 (dk_at dksX0_blames_6 8 rfl rfl)
theorem dX0_blames_149 : decode cX0_blames 149 = .ok (.return_, 1) := dk_177 (dk_at dksX0_blames_6 11 rfl rfl)
abbrev cX0_late : ByteArray := prog_1_method_25_code
def yX0_late : MethodName := ⟨RX0, "late", "(LEvenWords$Read;)I"⟩
def dkwX0_late_1 : List UInt8 := [167, 0, 17, 28, 42, 180, 0, 216, 43, 180, 0, 219, 100, 16, 6, 108, 100, 172]
abbrev dktX0_late_1 : List UInt8 := dkwX0_late_1 ++ []
def dkwX0_late_0 : List UInt8 := [43, 182, 0, 226, 61, 28, 16, 247, 159, 0, 12, 42, 180, 0, 216, 16, 247, 160, 0, 8, 18, 229]
abbrev dktX0_late_0 : List UInt8 := dkwX0_late_0 ++ dktX0_late_1
theorem dksX0_late_0 : cX0_late.data.toList.drop 0 = dktX0_late_0 := by decide +kernel
theorem dksX0_late_1 : cX0_late.data.toList.drop 22 = dktX0_late_1 := dk_seg dksX0_late_0 22 rfl rfl
theorem dX0_late_0 : decode cX0_late 0 = .ok (.aload_n 1, 1) := dk_43 (dk_at dksX0_late_0 0 rfl rfl)
theorem dX0_late_1 : decode cX0_late 1 = .ok (.invokevirtual 226, 3) := dk_182 0 226 (dk_at dksX0_late_0 1 rfl rfl)
theorem dX0_late_4 : decode cX0_late 4 = .ok (.istore_n 2, 1) := dk_61 (dk_at dksX0_late_0 4 rfl rfl)
theorem dX0_late_5 : decode cX0_late 5 = .ok (.iload_n 2, 1) := dk_28 (dk_at dksX0_late_0 5 rfl rfl)
theorem dX0_late_6 : decode cX0_late 6 = .ok (.bipush (-9), 2) := dk_16 247 (dk_at dksX0_late_0 6 rfl rfl)
theorem dX0_late_8 : decode cX0_late 8 = .ok (.if_icmp .eq 12, 3) := dk_159 0 12 (dk_at dksX0_late_0 8 rfl rfl)
theorem dX0_late_11 : decode cX0_late 11 = .ok (.aload_n 0, 1) := dk_42 (dk_at dksX0_late_0 11 rfl rfl)
theorem dX0_late_12 : decode cX0_late 12 = .ok (.getfield 216, 3) := dk_180 0 216 (dk_at dksX0_late_0 12 rfl rfl)
theorem dX0_late_15 : decode cX0_late 15 = .ok (.bipush (-9), 2) := dk_16 247 (dk_at dksX0_late_0 15 rfl rfl)
theorem dX0_late_17 : decode cX0_late 17 = .ok (.if_icmp .ne 8, 3) := dk_160 0 8 (dk_at dksX0_late_0 17 rfl rfl)
theorem dX0_late_20 : decode cX0_late 20 = .ok (.ldc 229, 2) := dk_18 229 (dk_at dksX0_late_0 20 rfl rfl)
theorem dX0_late_22 : decode cX0_late 22 = .ok (.goto 17, 3) := dk_167 0 17 (dk_at dksX0_late_1 0 rfl rfl)
theorem dX0_late_25 : decode cX0_late 25 = .ok (.iload_n 2, 1) := dk_28 (dk_at dksX0_late_1 3 rfl rfl)
theorem dX0_late_26 : decode cX0_late 26 = .ok (.aload_n 0, 1) := dk_42 (dk_at dksX0_late_1 4 rfl rfl)
theorem dX0_late_27 : decode cX0_late 27 = .ok (.getfield 216, 3) := dk_180 0 216 (dk_at dksX0_late_1 5 rfl rfl)
theorem dX0_late_30 : decode cX0_late 30 = .ok (.aload_n 1, 1) := dk_43 (dk_at dksX0_late_1 8 rfl rfl)
theorem dX0_late_31 : decode cX0_late 31 = .ok (.getfield 219, 3) := dk_180 0 219 (dk_at dksX0_late_1 9 rfl rfl)
theorem dX0_late_34 : decode cX0_late 34 = .ok (.isub, 1) := dk_100 (dk_at dksX0_late_1 12 rfl rfl)
theorem dX0_late_35 : decode cX0_late 35 = .ok (.bipush 6, 2) := dk_16 6 (dk_at dksX0_late_1 13 rfl rfl)
theorem dX0_late_37 : decode cX0_late 37 = .ok (.idiv, 1) := dk_108 (dk_at dksX0_late_1 15 rfl rfl)
theorem dX0_late_38 : decode cX0_late 38 = .ok (.isub, 1) := dk_100 (dk_at dksX0_late_1 16 rfl rfl)
theorem dX0_late_39 : decode cX0_late 39 = .ok (.ireturn, 1) := dk_172 (dk_at dksX0_late_1 17 rfl rfl)
abbrev cX0_cuts : ByteArray := prog_1_method_27_code
def yX0_cuts : MethodName := ⟨RX0, "cuts", "(I)I"⟩
def dkwX0_cuts_3 : List UInt8 := [172, 132, 2, 1, 132, 3, 1, 167, 255, 190, 27, 2, 160, 0, 7, 28, 167, 0, 5, 16, 247, 172]
abbrev dktX0_cuts_3 : List UInt8 := dkwX0_cuts_3 ++ []
def dkwX0_cuts_2 : List UInt8 := [25, 4, 182, 0, 223, 158, 0, 23, 25, 4, 182, 0, 226, 16, 247, 160, 0, 13, 28, 27, 160, 0, 5, 29]
abbrev dktX0_cuts_2 : List UInt8 := dkwX0_cuts_2 ++ dktX0_cuts_3
def dkwX0_cuts_1 : List UInt8 := [180, 0, 31, 29, 5, 108, 29, 5, 112, 4, 160, 0, 7, 4, 167, 0, 4, 3, 183, 0, 205, 58, 4]
abbrev dktX0_cuts_1 : List UInt8 := dkwX0_cuts_1 ++ dktX0_cuts_2
def dkwX0_cuts_0 : List UInt8 := [27, 2, 162, 0, 5, 2, 172, 3, 61, 3, 62, 29, 16, 12, 162, 0, 66, 187, 0, 203, 89, 42, 42]
abbrev dktX0_cuts_0 : List UInt8 := dkwX0_cuts_0 ++ dktX0_cuts_1
theorem dksX0_cuts_0 : cX0_cuts.data.toList.drop 0 = dktX0_cuts_0 := by decide +kernel
theorem dksX0_cuts_1 : cX0_cuts.data.toList.drop 23 = dktX0_cuts_1 := dk_seg dksX0_cuts_0 23 rfl rfl
theorem dksX0_cuts_2 : cX0_cuts.data.toList.drop 46 = dktX0_cuts_2 := dk_seg dksX0_cuts_1 23 rfl rfl
theorem dksX0_cuts_3 : cX0_cuts.data.toList.drop 70 = dktX0_cuts_3 := dk_seg dksX0_cuts_2 24 rfl rfl
theorem dX0_cuts_0 : decode cX0_cuts 0 = .ok (.iload_n 1, 1) := dk_27 (dk_at dksX0_cuts_0 0 rfl rfl)
theorem dX0_cuts_1 : decode cX0_cuts 1 = .ok (.iconst (-1), 1) := dk_2 (dk_at dksX0_cuts_0 1 rfl rfl)
theorem dX0_cuts_2 : decode cX0_cuts 2 = .ok (.if_icmp .ge 5, 3) := dk_162 0 5 (dk_at dksX0_cuts_0 2 rfl rfl)
theorem dX0_cuts_5 : decode cX0_cuts 5 = .ok (.iconst (-1), 1) := dk_2 (dk_at dksX0_cuts_0 5 rfl rfl)
theorem dX0_cuts_6 : decode cX0_cuts 6 = .ok (.ireturn, 1) := dk_172 (dk_at dksX0_cuts_0 6 rfl rfl)
theorem dX0_cuts_7 : decode cX0_cuts 7 = .ok (.iconst 0, 1) := dk_3 (dk_at dksX0_cuts_0 7 rfl rfl)
theorem dX0_cuts_8 : decode cX0_cuts 8 = .ok (.istore_n 2, 1) := dk_61 (dk_at dksX0_cuts_0 8 rfl rfl)
theorem dX0_cuts_9 : decode cX0_cuts 9 = .ok (.iconst 0, 1) := dk_3 (dk_at dksX0_cuts_0 9 rfl rfl)
theorem dX0_cuts_10 : decode cX0_cuts 10 = .ok (.istore_n 3, 1) := dk_62 (dk_at dksX0_cuts_0 10 rfl rfl)
theorem dX0_cuts_11 : decode cX0_cuts 11 = .ok (.iload_n 3, 1) := dk_29 (dk_at dksX0_cuts_0 11 rfl rfl)
theorem dX0_cuts_12 : decode cX0_cuts 12 = .ok (.bipush 12, 2) := dk_16 12 (dk_at dksX0_cuts_0 12 rfl rfl)
theorem dX0_cuts_14 : decode cX0_cuts 14 = .ok (.if_icmp .ge 66, 3) := dk_162 0 66 (dk_at dksX0_cuts_0 14 rfl rfl)
theorem dX0_cuts_17 : decode cX0_cuts 17 = .ok (.new 203, 3) := dk_187 0 203 (dk_at dksX0_cuts_0 17 rfl rfl)
theorem dX0_cuts_20 : decode cX0_cuts 20 = .ok (.dup, 1) := dk_89 (dk_at dksX0_cuts_0 20 rfl rfl)
theorem dX0_cuts_21 : decode cX0_cuts 21 = .ok (.aload_n 0, 1) := dk_42 (dk_at dksX0_cuts_0 21 rfl rfl)
theorem dX0_cuts_22 : decode cX0_cuts 22 = .ok (.aload_n 0, 1) := dk_42 (dk_at dksX0_cuts_0 22 rfl rfl)
theorem dX0_cuts_23 : decode cX0_cuts 23 = .ok (.getfield 31, 3) := dk_180 0 31 (dk_at dksX0_cuts_1 0 rfl rfl)
theorem dX0_cuts_26 : decode cX0_cuts 26 = .ok (.iload_n 3, 1) := dk_29 (dk_at dksX0_cuts_1 3 rfl rfl)
theorem dX0_cuts_27 : decode cX0_cuts 27 = .ok (.iconst 2, 1) := dk_5 (dk_at dksX0_cuts_1 4 rfl rfl)
theorem dX0_cuts_28 : decode cX0_cuts 28 = .ok (.idiv, 1) := dk_108 (dk_at dksX0_cuts_1 5 rfl rfl)
theorem dX0_cuts_29 : decode cX0_cuts 29 = .ok (.iload_n 3, 1) := dk_29 (dk_at dksX0_cuts_1 6 rfl rfl)
theorem dX0_cuts_30 : decode cX0_cuts 30 = .ok (.iconst 2, 1) := dk_5 (dk_at dksX0_cuts_1 7 rfl rfl)
theorem dX0_cuts_31 : decode cX0_cuts 31 = .ok (.irem, 1) := dk_112 (dk_at dksX0_cuts_1 8 rfl rfl)
theorem dX0_cuts_32 : decode cX0_cuts 32 = .ok (.iconst 1, 1) := dk_4 (dk_at dksX0_cuts_1 9 rfl rfl)
theorem dX0_cuts_33 : decode cX0_cuts 33 = .ok (.if_icmp .ne 7, 3) := dk_160 0 7 (dk_at dksX0_cuts_1 10 rfl rfl)
theorem dX0_cuts_36 : decode cX0_cuts 36 = .ok (.iconst 1, 1) := dk_4 (dk_at dksX0_cuts_1 13 rfl rfl)
theorem dX0_cuts_37 : decode cX0_cuts 37 = .ok (.goto 4, 3) := dk_167 0 4 (dk_at dksX0_cuts_1 14 rfl rfl)
theorem dX0_cuts_40 : decode cX0_cuts 40 = .ok (.iconst 0, 1) := dk_3 (dk_at dksX0_cuts_1 17 rfl rfl)
theorem dX0_cuts_41 : decode cX0_cuts 41 = .ok (.invokespecial 205, 3) := dk_183 0 205 (dk_at dksX0_cuts_1 18 rfl rfl)
theorem dX0_cuts_44 : decode cX0_cuts 44 = .ok (.astore 4, 2) := dk_58 4 (dk_at dksX0_cuts_1 21 rfl rfl)
theorem dX0_cuts_46 : decode cX0_cuts 46 = .ok (.aload 4, 2) := dk_25 4 (dk_at dksX0_cuts_2 0 rfl rfl)
theorem dX0_cuts_48 : decode cX0_cuts 48 = .ok (.invokevirtual 223, 3) := dk_182 0 223 (dk_at dksX0_cuts_2 2 rfl rfl)
theorem dX0_cuts_51 : decode cX0_cuts 51 = .ok (.ifCond .le 23, 3) := dk_158 0 23 (dk_at dksX0_cuts_2 5 rfl rfl)
theorem dX0_cuts_54 : decode cX0_cuts 54 = .ok (.aload 4, 2) := dk_25 4 (dk_at dksX0_cuts_2 8 rfl rfl)
theorem dX0_cuts_56 : decode cX0_cuts 56 = .ok (.invokevirtual 226, 3) := dk_182 0 226 (dk_at dksX0_cuts_2 10 rfl rfl)
theorem dX0_cuts_59 : decode cX0_cuts 59 = .ok (.bipush (-9), 2) := dk_16 247 (dk_at dksX0_cuts_2 13 rfl rfl)
theorem dX0_cuts_61 : decode cX0_cuts 61 = .ok (.if_icmp .ne 13, 3) := dk_160 0 13 (dk_at dksX0_cuts_2 15 rfl rfl)
theorem dX0_cuts_64 : decode cX0_cuts 64 = .ok (.iload_n 2, 1) := dk_28 (dk_at dksX0_cuts_2 18 rfl rfl)
theorem dX0_cuts_65 : decode cX0_cuts 65 = .ok (.iload_n 1, 1) := dk_27 (dk_at dksX0_cuts_2 19 rfl rfl)
theorem dX0_cuts_66 : decode cX0_cuts 66 = .ok (.if_icmp .ne 5, 3) := dk_160 0 5 (dk_at dksX0_cuts_2 20 rfl rfl)
theorem dX0_cuts_69 : decode cX0_cuts 69 = .ok (.iload_n 3, 1) := dk_29 (dk_at dksX0_cuts_2 23 rfl rfl)
theorem dX0_cuts_70 : decode cX0_cuts 70 = .ok (.ireturn, 1) := dk_172 (dk_at dksX0_cuts_3 0 rfl rfl)
theorem dX0_cuts_71 : decode cX0_cuts 71 = .ok (.iinc 2 1, 3) := dk_132 2 1 (dk_at dksX0_cuts_3 1 rfl rfl)
theorem dX0_cuts_74 : decode cX0_cuts 74 = .ok (.iinc 3 1, 3) := dk_132 3 1 (dk_at dksX0_cuts_3 4 rfl rfl)
theorem dX0_cuts_77 : decode cX0_cuts 77 = .ok (.goto (-66), 3) := dk_167 255 190 (dk_at dksX0_cuts_3 7 rfl rfl)
theorem dX0_cuts_80 : decode cX0_cuts 80 = .ok (.iload_n 1, 1) := dk_27 (dk_at dksX0_cuts_3 10 rfl rfl)
theorem dX0_cuts_81 : decode cX0_cuts 81 = .ok (.iconst (-1), 1) := dk_2 (dk_at dksX0_cuts_3 11 rfl rfl)
theorem dX0_cuts_82 : decode cX0_cuts 82 = .ok (.if_icmp .ne 7, 3) := dk_160 0 7 (dk_at dksX0_cuts_3 12 rfl rfl)
theorem dX0_cuts_85 : decode cX0_cuts 85 = .ok (.iload_n 2, 1) := dk_28 (dk_at dksX0_cuts_3 15 rfl rfl)
theorem dX0_cuts_86 : decode cX0_cuts 86 = .ok (.goto 5, 3) := dk_167 0 5 (dk_at dksX0_cuts_3 16 rfl rfl)
theorem dX0_cuts_89 : decode cX0_cuts 89 = .ok (.bipush (-9), 2) := dk_16 247 (dk_at dksX0_cuts_3 19 rfl rfl)
theorem dX0_cuts_91 : decode cX0_cuts 91 = .ok (.ireturn, 1) := dk_172 (dk_at dksX0_cuts_3 21 rfl rfl)
abbrev cX0_level : ByteArray := prog_1_method_29_code
def yX0_level : MethodName := ⟨RX0, "level", "(II)I"⟩
def dkwX0_level_4 : List UInt8 := [192, 0, 8, 58, 4, 25, 4, 199, 0, 8, 18, 229, 167, 0, 8, 25, 4, 182, 0, 180, 172]
abbrev dktX0_level_4 : List UInt8 := dkwX0_level_4 ++ []
def dkwX0_level_3 : List UInt8 := [184, 0, 152, 182, 1, 3, 192, 0, 8, 167, 0, 16, 45, 27, 4, 100, 184, 0, 152, 182, 1, 6]
abbrev dktX0_level_3 : List UInt8 := dkwX0_level_3 ++ dktX0_level_4
def dkwX0_level_2 : List UInt8 := [25, 4, 199, 0, 7, 3, 167, 0, 8, 25, 4, 182, 0, 180, 172, 28, 4, 160, 0, 19, 45, 27, 4, 96]
abbrev dktX0_level_2 : List UInt8 := dkwX0_level_2 ++ dktX0_level_3
def dkwX0_level_1 : List UInt8 := [172, 42, 182, 0, 255, 78, 28, 154, 0, 31, 45, 27, 184, 0, 152, 182, 0, 250, 192, 0, 8, 58, 4]
abbrev dktX0_level_1 : List UInt8 := dkwX0_level_1 ++ dktX0_level_2
def dkwX0_level_0 : List UInt8 := [27, 17, 254, 212, 17, 1, 44, 184, 0, 84, 153, 0, 12, 28, 3, 5, 184, 0, 84, 154, 0, 6, 18, 230]
abbrev dktX0_level_0 : List UInt8 := dkwX0_level_0 ++ dktX0_level_1
theorem dksX0_level_0 : cX0_level.data.toList.drop 0 = dktX0_level_0 := by decide +kernel
theorem dksX0_level_1 : cX0_level.data.toList.drop 24 = dktX0_level_1 := dk_seg dksX0_level_0 24 rfl rfl
theorem dksX0_level_2 : cX0_level.data.toList.drop 47 = dktX0_level_2 := dk_seg dksX0_level_1 23 rfl rfl
theorem dksX0_level_3 : cX0_level.data.toList.drop 71 = dktX0_level_3 := dk_seg dksX0_level_2 24 rfl rfl
theorem dksX0_level_4 : cX0_level.data.toList.drop 93 = dktX0_level_4 := dk_seg dksX0_level_3 22 rfl rfl
theorem dX0_level_0 : decode cX0_level 0 = .ok (.iload_n 1, 1) := dk_27 (dk_at dksX0_level_0 0 rfl rfl)
theorem dX0_level_1 : decode cX0_level 1 = .ok (.sipush (-300), 3) := dk_17 254 212 (dk_at dksX0_level_0 1 rfl rfl)
theorem dX0_level_4 : decode cX0_level 4 = .ok (.sipush 300, 3) := dk_17 1 44 (dk_at dksX0_level_0 4 rfl rfl)
theorem dX0_level_7 : decode cX0_level 7 = .ok (.invokestatic 84, 3) := dk_184 0 84 (dk_at dksX0_level_0 7 rfl rfl)
theorem dX0_level_10 : decode cX0_level 10 = .ok (.ifCond .eq 12, 3) := dk_153 0 12 (dk_at dksX0_level_0 10 rfl rfl)
theorem dX0_level_13 : decode cX0_level 13 = .ok (.iload_n 2, 1) := dk_28 (dk_at dksX0_level_0 13 rfl rfl)
theorem dX0_level_14 : decode cX0_level 14 = .ok (.iconst 0, 1) := dk_3 (dk_at dksX0_level_0 14 rfl rfl)
theorem dX0_level_15 : decode cX0_level 15 = .ok (.iconst 2, 1) := dk_5 (dk_at dksX0_level_0 15 rfl rfl)
theorem dX0_level_16 : decode cX0_level 16 = .ok (.invokestatic 84, 3) := dk_184 0 84 (dk_at dksX0_level_0 16 rfl rfl)
theorem dX0_level_19 : decode cX0_level 19 = .ok (.ifCond .ne 6, 3) := dk_154 0 6 (dk_at dksX0_level_0 19 rfl rfl)
theorem dX0_level_22 : decode cX0_level 22 = .ok (.ldc 230, 2) := dk_18 230 (dk_at dksX0_level_0 22 rfl rfl)
theorem dX0_level_24 : decode cX0_level 24 = .ok (.ireturn, 1) := dk_172 (dk_at dksX0_level_1 0 rfl rfl)
theorem dX0_level_25 : decode cX0_level 25 = .ok (.aload_n 0, 1) := dk_42 (dk_at dksX0_level_1 1 rfl rfl)
theorem dX0_level_26 : decode cX0_level 26 = .ok (.invokevirtual 255, 3) := dk_182 0 255 (dk_at dksX0_level_1 2 rfl rfl)
theorem dX0_level_29 : decode cX0_level 29 = .ok (.astore_n 3, 1) := dk_78 (dk_at dksX0_level_1 5 rfl rfl)
theorem dX0_level_30 : decode cX0_level 30 = .ok (.iload_n 2, 1) := dk_28 (dk_at dksX0_level_1 6 rfl rfl)
theorem dX0_level_31 : decode cX0_level 31 = .ok (.ifCond .ne 31, 3) := dk_154 0 31 (dk_at dksX0_level_1 7 rfl rfl)
theorem dX0_level_34 : decode cX0_level 34 = .ok (.aload_n 3, 1) := dk_45 (dk_at dksX0_level_1 10 rfl rfl)
theorem dX0_level_35 : decode cX0_level 35 = .ok (.iload_n 1, 1) := dk_27 (dk_at dksX0_level_1 11 rfl rfl)
theorem dX0_level_36 : decode cX0_level 36 = .ok (.invokestatic 152, 3) := dk_184 0 152 (dk_at dksX0_level_1 12 rfl rfl)
theorem dX0_level_39 : decode cX0_level 39 = .ok (.invokevirtual 250, 3) := dk_182 0 250 (dk_at dksX0_level_1 15 rfl rfl)
theorem dX0_level_42 : decode cX0_level 42 = .ok (.checkcast 8, 3) := dk_192 0 8 (dk_at dksX0_level_1 18 rfl rfl)
theorem dX0_level_45 : decode cX0_level 45 = .ok (.astore 4, 2) := dk_58 4 (dk_at dksX0_level_1 21 rfl rfl)
theorem dX0_level_47 : decode cX0_level 47 = .ok (.aload 4, 2) := dk_25 4 (dk_at dksX0_level_2 0 rfl rfl)
theorem dX0_level_49 : decode cX0_level 49 = .ok (.ifnonnull 7, 3) := dk_199 0 7 (dk_at dksX0_level_2 2 rfl rfl)
theorem dX0_level_52 : decode cX0_level 52 = .ok (.iconst 0, 1) := dk_3 (dk_at dksX0_level_2 5 rfl rfl)
theorem dX0_level_53 : decode cX0_level 53 = .ok (.goto 8, 3) := dk_167 0 8 (dk_at dksX0_level_2 6 rfl rfl)
theorem dX0_level_56 : decode cX0_level 56 = .ok (.aload 4, 2) := dk_25 4 (dk_at dksX0_level_2 9 rfl rfl)
theorem dX0_level_58 : decode cX0_level 58 = .ok (.invokevirtual 180, 3) := dk_182 0 180 (dk_at dksX0_level_2 11 rfl rfl)
theorem dX0_level_61 : decode cX0_level 61 = .ok (.ireturn, 1) := dk_172 (dk_at dksX0_level_2 14 rfl rfl)
theorem dX0_level_62 : decode cX0_level 62 = .ok (.iload_n 2, 1) := dk_28 (dk_at dksX0_level_2 15 rfl rfl)
theorem dX0_level_63 : decode cX0_level 63 = .ok (.iconst 1, 1) := dk_4 (dk_at dksX0_level_2 16 rfl rfl)
theorem dX0_level_64 : decode cX0_level 64 = .ok (.if_icmp .ne 19, 3) := dk_160 0 19 (dk_at dksX0_level_2 17 rfl rfl)
theorem dX0_level_67 : decode cX0_level 67 = .ok (.aload_n 3, 1) := dk_45 (dk_at dksX0_level_2 20 rfl rfl)
theorem dX0_level_68 : decode cX0_level 68 = .ok (.iload_n 1, 1) := dk_27 (dk_at dksX0_level_2 21 rfl rfl)
theorem dX0_level_69 : decode cX0_level 69 = .ok (.iconst 1, 1) := dk_4 (dk_at dksX0_level_2 22 rfl rfl)
theorem dX0_level_70 : decode cX0_level 70 = .ok (.iadd, 1) := dk_96 (dk_at dksX0_level_2 23 rfl rfl)
theorem dX0_level_71 : decode cX0_level 71 = .ok (.invokestatic 152, 3) := dk_184 0 152 (dk_at dksX0_level_3 0 rfl rfl)
theorem dX0_level_74 : decode cX0_level 74 = .ok (.invokevirtual 259, 3) := dk_182 1 3 (dk_at dksX0_level_3 3 rfl rfl)
theorem dX0_level_77 : decode cX0_level 77 = .ok (.checkcast 8, 3) := dk_192 0 8 (dk_at dksX0_level_3 6 rfl rfl)
theorem dX0_level_80 : decode cX0_level 80 = .ok (.goto 16, 3) := dk_167 0 16 (dk_at dksX0_level_3 9 rfl rfl)
theorem dX0_level_83 : decode cX0_level 83 = .ok (.aload_n 3, 1) := dk_45 (dk_at dksX0_level_3 12 rfl rfl)
theorem dX0_level_84 : decode cX0_level 84 = .ok (.iload_n 1, 1) := dk_27 (dk_at dksX0_level_3 13 rfl rfl)
theorem dX0_level_85 : decode cX0_level 85 = .ok (.iconst 1, 1) := dk_4 (dk_at dksX0_level_3 14 rfl rfl)
theorem dX0_level_86 : decode cX0_level 86 = .ok (.isub, 1) := dk_100 (dk_at dksX0_level_3 15 rfl rfl)
theorem dX0_level_87 : decode cX0_level 87 = .ok (.invokestatic 152, 3) := dk_184 0 152 (dk_at dksX0_level_3 16 rfl rfl)
theorem dX0_level_90 : decode cX0_level 90 = .ok (.invokevirtual 262, 3) := dk_182 1 6 (dk_at dksX0_level_3 19 rfl rfl)
theorem dX0_level_93 : decode cX0_level 93 = .ok (.checkcast 8, 3) := dk_192 0 8 (dk_at dksX0_level_4 0 rfl rfl)
theorem dX0_level_96 : decode cX0_level 96 = .ok (.astore 4, 2) := dk_58 4 (dk_at dksX0_level_4 3 rfl rfl)
theorem dX0_level_98 : decode cX0_level 98 = .ok (.aload 4, 2) := dk_25 4 (dk_at dksX0_level_4 5 rfl rfl)
theorem dX0_level_100 : decode cX0_level 100 = .ok (.ifnonnull 8, 3) := dk_199 0 8 (dk_at dksX0_level_4 7 rfl rfl)
theorem dX0_level_103 : decode cX0_level 103 = .ok (.ldc 229, 2) := dk_18 229 (dk_at dksX0_level_4 10 rfl rfl)
theorem dX0_level_105 : decode cX0_level 105 = .ok (.goto 8, 3) := dk_167 0 8 (dk_at dksX0_level_4 12 rfl rfl)
theorem dX0_level_108 : decode cX0_level 108 = .ok (.aload 4, 2) := dk_25 4 (dk_at dksX0_level_4 15 rfl rfl)
theorem dX0_level_110 : decode cX0_level 110 = .ok (.invokevirtual 180, 3) := dk_182 0 180 (dk_at dksX0_level_4 17 rfl rfl)
theorem dX0_level_113 : decode cX0_level 113 = .ok (.ireturn, 1) := dk_172 (dk_at dksX0_level_4 20 rfl rfl)
abbrev cX0_levels : ByteArray := prog_1_method_28_code
def yX0_levels : MethodName := ⟨RX0, "levels", "()Ljava/util/TreeMap;"⟩
def dkwX0_levels_4 : List UInt8 := [167, 255, 181, 43, 176]
abbrev dktX0_levels_4 : List UInt8 := dkwX0_levels_4 ++ []
def dkwX0_levels_3 : List UInt8 := [199, 0, 7, 4, 167, 0, 10, 25, 4, 182, 0, 180, 4, 96, 184, 0, 152, 182, 0, 254, 87, 132, 3, 1]
abbrev dktX0_levels_3 : List UInt8 := dkwX0_levels_3 ++ dktX0_levels_4
def dkwX0_levels_2 : List UInt8 := [96, 61, 43, 28, 184, 0, 152, 182, 0, 250, 192, 0, 8, 58, 4, 43, 28, 184, 0, 152, 25, 4]
abbrev dktX0_levels_2 : List UInt8 := dkwX0_levels_2 ++ dktX0_levels_3
def dkwX0_levels_1 : List UInt8 := [182, 0, 127, 162, 0, 70, 28, 42, 180, 0, 31, 180, 0, 137, 29, 51, 153, 0, 7, 4, 167, 0, 4, 2]
abbrev dktX0_levels_1 : List UInt8 := dkwX0_levels_1 ++ dktX0_levels_2
def dkwX0_levels_0 : List UInt8 := [187, 0, 242, 89, 187, 0, 244, 89, 183, 0, 246, 183, 0, 247, 76, 2, 61, 3, 62, 29, 42, 180, 0, 31]
abbrev dktX0_levels_0 : List UInt8 := dkwX0_levels_0 ++ dktX0_levels_1
theorem dksX0_levels_0 : cX0_levels.data.toList.drop 0 = dktX0_levels_0 := by decide +kernel
theorem dksX0_levels_1 : cX0_levels.data.toList.drop 24 = dktX0_levels_1 := dk_seg dksX0_levels_0 24 rfl rfl
theorem dksX0_levels_2 : cX0_levels.data.toList.drop 48 = dktX0_levels_2 := dk_seg dksX0_levels_1 24 rfl rfl
theorem dksX0_levels_3 : cX0_levels.data.toList.drop 70 = dktX0_levels_3 := dk_seg dksX0_levels_2 22 rfl rfl
theorem dksX0_levels_4 : cX0_levels.data.toList.drop 94 = dktX0_levels_4 := dk_seg dksX0_levels_3 24 rfl rfl
theorem dX0_levels_0 : decode cX0_levels 0 = .ok (.new 242, 3) := dk_187 0 242 (dk_at dksX0_levels_0 0 rfl rfl)
theorem dX0_levels_3 : decode cX0_levels 3 = .ok (.dup, 1) := dk_89 (dk_at dksX0_levels_0 3 rfl rfl)
theorem dX0_levels_4 : decode cX0_levels 4 = .ok (.new 244, 3) := dk_187 0 244 (dk_at dksX0_levels_0 4 rfl rfl)
theorem dX0_levels_7 : decode cX0_levels 7 = .ok (.dup, 1) := dk_89 (dk_at dksX0_levels_0 7 rfl rfl)
theorem dX0_levels_8 : decode cX0_levels 8 = .ok (.invokespecial 246, 3) := dk_183 0 246 (dk_at dksX0_levels_0 8 rfl rfl)
theorem dX0_levels_11 : decode cX0_levels 11 = .ok (.invokespecial 247, 3) := dk_183 0 247 (dk_at dksX0_levels_0 11 rfl rfl)
theorem dX0_levels_14 : decode cX0_levels 14 = .ok (.astore_n 1, 1) := dk_76 (dk_at dksX0_levels_0 14 rfl rfl)
theorem dX0_levels_15 : decode cX0_levels 15 = .ok (.iconst (-1), 1) := dk_2 (dk_at dksX0_levels_0 15 rfl rfl)
theorem dX0_levels_16 : decode cX0_levels 16 = .ok (.istore_n 2, 1) := dk_61 (dk_at dksX0_levels_0 16 rfl rfl)
theorem dX0_levels_17 : decode cX0_levels 17 = .ok (.iconst 0, 1) := dk_3 (dk_at dksX0_levels_0 17 rfl rfl)
theorem dX0_levels_18 : decode cX0_levels 18 = .ok (.istore_n 3, 1) := dk_62 (dk_at dksX0_levels_0 18 rfl rfl)
theorem dX0_levels_19 : decode cX0_levels 19 = .ok (.iload_n 3, 1) := dk_29 (dk_at dksX0_levels_0 19 rfl rfl)
theorem dX0_levels_20 : decode cX0_levels 20 = .ok (.aload_n 0, 1) := dk_42 (dk_at dksX0_levels_0 20 rfl rfl)
theorem dX0_levels_21 : decode cX0_levels 21 = .ok (.getfield 31, 3) := dk_180 0 31 (dk_at dksX0_levels_0 21 rfl rfl)
theorem dX0_levels_24 : decode cX0_levels 24 = .ok (.invokevirtual 127, 3) := dk_182 0 127 (dk_at dksX0_levels_1 0 rfl rfl)
theorem dX0_levels_27 : decode cX0_levels 27 = .ok (.if_icmp .ge 70, 3) := dk_162 0 70 (dk_at dksX0_levels_1 3 rfl rfl)
theorem dX0_levels_30 : decode cX0_levels 30 = .ok (.iload_n 2, 1) := dk_28 (dk_at dksX0_levels_1 6 rfl rfl)
theorem dX0_levels_31 : decode cX0_levels 31 = .ok (.aload_n 0, 1) := dk_42 (dk_at dksX0_levels_1 7 rfl rfl)
theorem dX0_levels_32 : decode cX0_levels 32 = .ok (.getfield 31, 3) := dk_180 0 31 (dk_at dksX0_levels_1 8 rfl rfl)
theorem dX0_levels_35 : decode cX0_levels 35 = .ok (.getfield 137, 3) := dk_180 0 137 (dk_at dksX0_levels_1 11 rfl rfl)
theorem dX0_levels_38 : decode cX0_levels 38 = .ok (.iload_n 3, 1) := dk_29 (dk_at dksX0_levels_1 14 rfl rfl)
theorem dX0_levels_39 : decode cX0_levels 39 = .ok (.baload, 1) := dk_51 (dk_at dksX0_levels_1 15 rfl rfl)
theorem dX0_levels_40 : decode cX0_levels 40 = .ok (.ifCond .eq 7, 3) := dk_153 0 7 (dk_at dksX0_levels_1 16 rfl rfl)
theorem dX0_levels_43 : decode cX0_levels 43 = .ok (.iconst 1, 1) := dk_4 (dk_at dksX0_levels_1 19 rfl rfl)
theorem dX0_levels_44 : decode cX0_levels 44 = .ok (.goto 4, 3) := dk_167 0 4 (dk_at dksX0_levels_1 20 rfl rfl)
theorem dX0_levels_47 : decode cX0_levels 47 = .ok (.iconst (-1), 1) := dk_2 (dk_at dksX0_levels_1 23 rfl rfl)
theorem dX0_levels_48 : decode cX0_levels 48 = .ok (.iadd, 1) := dk_96 (dk_at dksX0_levels_2 0 rfl rfl)
theorem dX0_levels_49 : decode cX0_levels 49 = .ok (.istore_n 2, 1) := dk_61 (dk_at dksX0_levels_2 1 rfl rfl)
theorem dX0_levels_50 : decode cX0_levels 50 = .ok (.aload_n 1, 1) := dk_43 (dk_at dksX0_levels_2 2 rfl rfl)
theorem dX0_levels_51 : decode cX0_levels 51 = .ok (.iload_n 2, 1) := dk_28 (dk_at dksX0_levels_2 3 rfl rfl)
theorem dX0_levels_52 : decode cX0_levels 52 = .ok (.invokestatic 152, 3) := dk_184 0 152 (dk_at dksX0_levels_2 4 rfl rfl)
theorem dX0_levels_55 : decode cX0_levels 55 = .ok (.invokevirtual 250, 3) := dk_182 0 250 (dk_at dksX0_levels_2 7 rfl rfl)
theorem dX0_levels_58 : decode cX0_levels 58 = .ok (.checkcast 8, 3) := dk_192 0 8 (dk_at dksX0_levels_2 10 rfl rfl)
theorem dX0_levels_61 : decode cX0_levels 61 = .ok (.astore 4, 2) := dk_58 4 (dk_at dksX0_levels_2 13 rfl rfl)
theorem dX0_levels_63 : decode cX0_levels 63 = .ok (.aload_n 1, 1) := dk_43 (dk_at dksX0_levels_2 15 rfl rfl)
theorem dX0_levels_64 : decode cX0_levels 64 = .ok (.iload_n 2, 1) := dk_28 (dk_at dksX0_levels_2 16 rfl rfl)
theorem dX0_levels_65 : decode cX0_levels 65 = .ok (.invokestatic 152, 3) := dk_184 0 152 (dk_at dksX0_levels_2 17 rfl rfl)
theorem dX0_levels_68 : decode cX0_levels 68 = .ok (.aload 4, 2) := dk_25 4 (dk_at dksX0_levels_2 20 rfl rfl)
theorem dX0_levels_70 : decode cX0_levels 70 = .ok (.ifnonnull 7, 3) := dk_199 0 7 (dk_at dksX0_levels_3 0 rfl rfl)
theorem dX0_levels_73 : decode cX0_levels 73 = .ok (.iconst 1, 1) := dk_4 (dk_at dksX0_levels_3 3 rfl rfl)
theorem dX0_levels_74 : decode cX0_levels 74 = .ok (.goto 10, 3) := dk_167 0 10 (dk_at dksX0_levels_3 4 rfl rfl)
theorem dX0_levels_77 : decode cX0_levels 77 = .ok (.aload 4, 2) := dk_25 4 (dk_at dksX0_levels_3 7 rfl rfl)
theorem dX0_levels_79 : decode cX0_levels 79 = .ok (.invokevirtual 180, 3) := dk_182 0 180 (dk_at dksX0_levels_3 9 rfl rfl)
theorem dX0_levels_82 : decode cX0_levels 82 = .ok (.iconst 1, 1) := dk_4 (dk_at dksX0_levels_3 12 rfl rfl)
theorem dX0_levels_83 : decode cX0_levels 83 = .ok (.iadd, 1) := dk_96 (dk_at dksX0_levels_3 13 rfl rfl)
theorem dX0_levels_84 : decode cX0_levels 84 = .ok (.invokestatic 152, 3) := dk_184 0 152 (dk_at dksX0_levels_3 14 rfl rfl)
theorem dX0_levels_87 : decode cX0_levels 87 = .ok (.invokevirtual 254, 3) := dk_182 0 254 (dk_at dksX0_levels_3 17 rfl rfl)
theorem dX0_levels_90 : decode cX0_levels 90 = .ok (.pop, 1) := dk_87 (dk_at dksX0_levels_3 20 rfl rfl)
theorem dX0_levels_91 : decode cX0_levels 91 = .ok (.iinc 3 1, 3) := dk_132 3 1 (dk_at dksX0_levels_3 21 rfl rfl)
theorem dX0_levels_94 : decode cX0_levels 94 = .ok (.goto (-75), 3) := dk_167 255 181 (dk_at dksX0_levels_4 0 rfl rfl)
theorem dX0_levels_97 : decode cX0_levels 97 = .ok (.aload_n 1, 1) := dk_43 (dk_at dksX0_levels_4 3 rfl rfl)
theorem dX0_levels_98 : decode cX0_levels 98 = .ok (.areturn, 1) := dk_176 (dk_at dksX0_levels_4 4 rfl rfl)
abbrev cX0_evenest : ByteArray := prog_1_method_32_code
def yX0_evenest : MethodName := ⟨RX0, "evenest", "(II)I"⟩
def dkwX0_evenest_3 : List UInt8 := [16, 247, 172]
abbrev dktX0_evenest_3 : List UInt8 := dkwX0_evenest_3 ++ []
def dkwX0_evenest_2 : List UInt8 := [160, 0, 10, 42, 180, 1, 16, 167, 0, 19, 28, 27, 162, 0, 12, 42, 180, 0, 67, 28, 46, 167, 0, 5]
abbrev dktX0_evenest_2 : List UInt8 := dkwX0_evenest_2 ++ dktX0_evenest_3
def dkwX0_evenest_1 : List UInt8 := [27, 162, 0, 6, 16, 254, 172, 42, 19, 1, 23, 181, 1, 16, 42, 27, 3, 3, 182, 1, 19, 28, 2]
abbrev dktX0_evenest_1 : List UInt8 := dkwX0_evenest_1 ++ dktX0_evenest_2
def dkwX0_evenest_0 : List UInt8 := [27, 4, 16, 6, 184, 0, 84, 153, 0, 8, 28, 2, 162, 0, 5, 2, 172, 42, 180, 0, 31, 180, 0, 121]
abbrev dktX0_evenest_0 : List UInt8 := dkwX0_evenest_0 ++ dktX0_evenest_1
theorem dksX0_evenest_0 : cX0_evenest.data.toList.drop 0 = dktX0_evenest_0 := by decide +kernel
theorem dksX0_evenest_1 : cX0_evenest.data.toList.drop 24 = dktX0_evenest_1 := dk_seg dksX0_evenest_0 24 rfl rfl
theorem dksX0_evenest_2 : cX0_evenest.data.toList.drop 47 = dktX0_evenest_2 := dk_seg dksX0_evenest_1 23 rfl rfl
theorem dksX0_evenest_3 : cX0_evenest.data.toList.drop 71 = dktX0_evenest_3 := dk_seg dksX0_evenest_2 24 rfl rfl
theorem dX0_evenest_0 : decode cX0_evenest 0 = .ok (.iload_n 1, 1) := dk_27 (dk_at dksX0_evenest_0 0 rfl rfl)
theorem dX0_evenest_1 : decode cX0_evenest 1 = .ok (.iconst 1, 1) := dk_4 (dk_at dksX0_evenest_0 1 rfl rfl)
theorem dX0_evenest_2 : decode cX0_evenest 2 = .ok (.bipush 6, 2) := dk_16 6 (dk_at dksX0_evenest_0 2 rfl rfl)
theorem dX0_evenest_4 : decode cX0_evenest 4 = .ok (.invokestatic 84, 3) := dk_184 0 84 (dk_at dksX0_evenest_0 4 rfl rfl)
theorem dX0_evenest_7 : decode cX0_evenest 7 = .ok (.ifCond .eq 8, 3) := dk_153 0 8 (dk_at dksX0_evenest_0 7 rfl rfl)
theorem dX0_evenest_10 : decode cX0_evenest 10 = .ok (.iload_n 2, 1) := dk_28 (dk_at dksX0_evenest_0 10 rfl rfl)
theorem dX0_evenest_11 : decode cX0_evenest 11 = .ok (.iconst (-1), 1) := dk_2 (dk_at dksX0_evenest_0 11 rfl rfl)
theorem dX0_evenest_12 : decode cX0_evenest 12 = .ok (.if_icmp .ge 5, 3) := dk_162 0 5 (dk_at dksX0_evenest_0 12 rfl rfl)
theorem dX0_evenest_15 : decode cX0_evenest 15 = .ok (.iconst (-1), 1) := dk_2 (dk_at dksX0_evenest_0 15 rfl rfl)
theorem dX0_evenest_16 : decode cX0_evenest 16 = .ok (.ireturn, 1) := dk_172 (dk_at dksX0_evenest_0 16 rfl rfl)
theorem dX0_evenest_17 : decode cX0_evenest 17 = .ok (.aload_n 0, 1) := dk_42 (dk_at dksX0_evenest_0 17 rfl rfl)
theorem dX0_evenest_18 : decode cX0_evenest 18 = .ok (.getfield 31, 3) := dk_180 0 31 (dk_at dksX0_evenest_0 18 rfl rfl)
theorem dX0_evenest_21 : decode cX0_evenest 21 = .ok (.getfield 121, 3) := dk_180 0 121 (dk_at dksX0_evenest_0 21 rfl rfl)
theorem dX0_evenest_24 : decode cX0_evenest 24 = .ok (.iload_n 1, 1) := dk_27 (dk_at dksX0_evenest_1 0 rfl rfl)
theorem dX0_evenest_25 : decode cX0_evenest 25 = .ok (.if_icmp .ge 6, 3) := dk_162 0 6 (dk_at dksX0_evenest_1 1 rfl rfl)
theorem dX0_evenest_28 : decode cX0_evenest 28 = .ok (.bipush (-2), 2) := dk_16 254 (dk_at dksX0_evenest_1 4 rfl rfl)
theorem dX0_evenest_30 : decode cX0_evenest 30 = .ok (.ireturn, 1) := dk_172 (dk_at dksX0_evenest_1 6 rfl rfl)
theorem dX0_evenest_31 : decode cX0_evenest 31 = .ok (.aload_n 0, 1) := dk_42 (dk_at dksX0_evenest_1 7 rfl rfl)
theorem dX0_evenest_32 : decode cX0_evenest 32 = .ok (.ldc_w 279, 3) := dk_19 1 23 (dk_at dksX0_evenest_1 8 rfl rfl)
theorem dX0_evenest_35 : decode cX0_evenest 35 = .ok (.putfield 272, 3) := dk_181 1 16 (dk_at dksX0_evenest_1 11 rfl rfl)
theorem dX0_evenest_38 : decode cX0_evenest 38 = .ok (.aload_n 0, 1) := dk_42 (dk_at dksX0_evenest_1 14 rfl rfl)
theorem dX0_evenest_39 : decode cX0_evenest 39 = .ok (.iload_n 1, 1) := dk_27 (dk_at dksX0_evenest_1 15 rfl rfl)
theorem dX0_evenest_40 : decode cX0_evenest 40 = .ok (.iconst 0, 1) := dk_3 (dk_at dksX0_evenest_1 16 rfl rfl)
theorem dX0_evenest_41 : decode cX0_evenest 41 = .ok (.iconst 0, 1) := dk_3 (dk_at dksX0_evenest_1 17 rfl rfl)
theorem dX0_evenest_42 : decode cX0_evenest 42 = .ok (.invokevirtual 275, 3) := dk_182 1 19 (dk_at dksX0_evenest_1 18 rfl rfl)
theorem dX0_evenest_45 : decode cX0_evenest 45 = .ok (.iload_n 2, 1) := dk_28 (dk_at dksX0_evenest_1 21 rfl rfl)
theorem dX0_evenest_46 : decode cX0_evenest 46 = .ok (.iconst (-1), 1) := dk_2 (dk_at dksX0_evenest_1 22 rfl rfl)
theorem dX0_evenest_47 : decode cX0_evenest 47 = .ok (.if_icmp .ne 10, 3) := dk_160 0 10 (dk_at dksX0_evenest_2 0 rfl rfl)
theorem dX0_evenest_50 : decode cX0_evenest 50 = .ok (.aload_n 0, 1) := dk_42 (dk_at dksX0_evenest_2 3 rfl rfl)
theorem dX0_evenest_51 : decode cX0_evenest 51 = .ok (.getfield 272, 3) := dk_180 1 16 (dk_at dksX0_evenest_2 4 rfl rfl)
theorem dX0_evenest_54 : decode cX0_evenest 54 = .ok (.goto 19, 3) := dk_167 0 19 (dk_at dksX0_evenest_2 7 rfl rfl)
theorem dX0_evenest_57 : decode cX0_evenest 57 = .ok (.iload_n 2, 1) := dk_28 (dk_at dksX0_evenest_2 10 rfl rfl)
theorem dX0_evenest_58 : decode cX0_evenest 58 = .ok (.iload_n 1, 1) := dk_27 (dk_at dksX0_evenest_2 11 rfl rfl)
theorem dX0_evenest_59 : decode cX0_evenest 59 = .ok (.if_icmp .ge 12, 3) := dk_162 0 12 (dk_at dksX0_evenest_2 12 rfl rfl)
theorem dX0_evenest_62 : decode cX0_evenest 62 = .ok (.aload_n 0, 1) := dk_42 (dk_at dksX0_evenest_2 15 rfl rfl)
theorem dX0_evenest_63 : decode cX0_evenest 63 = .ok (.getfield 67, 3) := dk_180 0 67 (dk_at dksX0_evenest_2 16 rfl rfl)
theorem dX0_evenest_66 : decode cX0_evenest 66 = .ok (.iload_n 2, 1) := dk_28 (dk_at dksX0_evenest_2 19 rfl rfl)
theorem dX0_evenest_67 : decode cX0_evenest 67 = .ok (.iaload, 1) := dk_46 (dk_at dksX0_evenest_2 20 rfl rfl)
theorem dX0_evenest_68 : decode cX0_evenest 68 = .ok (.goto 5, 3) := dk_167 0 5 (dk_at dksX0_evenest_2 21 rfl rfl)
theorem dX0_evenest_71 : decode cX0_evenest 71 = .ok (.bipush (-9), 2) := dk_16 247 (dk_at dksX0_evenest_3 0 rfl rfl)
theorem dX0_evenest_73 : decode cX0_evenest 73 = .ok (.ireturn, 1) := dk_172 (dk_at dksX0_evenest_3 2 rfl rfl)
abbrev cX0_tries : ByteArray := prog_1_method_31_code
def yX0_tries : MethodName := ⟨RX0, "tries", "(III)V"⟩
def dkwX0_tries_3 : List UInt8 := [96, 29, 4, 21, 4, 120, 128, 182, 1, 19, 132, 4, 1, 167, 255, 216, 177]
abbrev dktX0_tries_3 : List UInt8 := dkwX0_tries_3 ++ []
def dkwX0_tries_2 : List UInt8 := [162, 0, 40, 29, 21, 4, 122, 4, 126, 154, 0, 25, 42, 180, 0, 64, 28, 21, 4, 79, 42, 27, 28, 4]
abbrev dktX0_tries_2 : List UInt8 := dkwX0_tries_2 ++ dktX0_tries_3
def dkwX0_tries_1 : List UInt8 := [181, 1, 16, 42, 180, 0, 64, 3, 42, 180, 0, 67, 3, 27, 184, 0, 74, 177, 3, 54, 4, 21, 4, 27]
abbrev dktX0_tries_1 : List UInt8 := dkwX0_tries_1 ++ dktX0_tries_2
def dkwX0_tries_0 : List UInt8 := [28, 27, 160, 0, 40, 42, 27, 182, 1, 13, 54, 4, 21, 4, 42, 180, 1, 16, 162, 0, 23, 42, 21, 4]
abbrev dktX0_tries_0 : List UInt8 := dkwX0_tries_0 ++ dktX0_tries_1
theorem dksX0_tries_0 : cX0_tries.data.toList.drop 0 = dktX0_tries_0 := by decide +kernel
theorem dksX0_tries_1 : cX0_tries.data.toList.drop 24 = dktX0_tries_1 := dk_seg dksX0_tries_0 24 rfl rfl
theorem dksX0_tries_2 : cX0_tries.data.toList.drop 48 = dktX0_tries_2 := dk_seg dksX0_tries_1 24 rfl rfl
theorem dksX0_tries_3 : cX0_tries.data.toList.drop 72 = dktX0_tries_3 := dk_seg dksX0_tries_2 24 rfl rfl
theorem dX0_tries_0 : decode cX0_tries 0 = .ok (.iload_n 2, 1) := dk_28 (dk_at dksX0_tries_0 0 rfl rfl)
theorem dX0_tries_1 : decode cX0_tries 1 = .ok (.iload_n 1, 1) := dk_27 (dk_at dksX0_tries_0 1 rfl rfl)
theorem dX0_tries_2 : decode cX0_tries 2 = .ok (.if_icmp .ne 40, 3) := dk_160 0 40 (dk_at dksX0_tries_0 2 rfl rfl)
theorem dX0_tries_5 : decode cX0_tries 5 = .ok (.aload_n 0, 1) := dk_42 (dk_at dksX0_tries_0 5 rfl rfl)
theorem dX0_tries_6 : decode cX0_tries 6 = .ok (.iload_n 1, 1) := dk_27 (dk_at dksX0_tries_0 6 rfl rfl)
theorem dX0_tries_7 : decode cX0_tries 7 = .ok (.invokevirtual 269, 3) := dk_182 1 13 (dk_at dksX0_tries_0 7 rfl rfl)
theorem dX0_tries_10 : decode cX0_tries 10 = .ok (.istore 4, 2) := dk_54 4 (dk_at dksX0_tries_0 10 rfl rfl)
theorem dX0_tries_12 : decode cX0_tries 12 = .ok (.iload 4, 2) := dk_21 4 (dk_at dksX0_tries_0 12 rfl rfl)
theorem dX0_tries_14 : decode cX0_tries 14 = .ok (.aload_n 0, 1) := dk_42 (dk_at dksX0_tries_0 14 rfl rfl)
theorem dX0_tries_15 : decode cX0_tries 15 = .ok (.getfield 272, 3) := dk_180 1 16 (dk_at dksX0_tries_0 15 rfl rfl)
theorem dX0_tries_18 : decode cX0_tries 18 = .ok (.if_icmp .ge 23, 3) := dk_162 0 23 (dk_at dksX0_tries_0 18 rfl rfl)
theorem dX0_tries_21 : decode cX0_tries 21 = .ok (.aload_n 0, 1) := dk_42 (dk_at dksX0_tries_0 21 rfl rfl)
theorem dX0_tries_22 : decode cX0_tries 22 = .ok (.iload 4, 2) := dk_21 4 (dk_at dksX0_tries_0 22 rfl rfl)
theorem dX0_tries_24 : decode cX0_tries 24 = .ok (.putfield 272, 3) := dk_181 1 16 (dk_at dksX0_tries_1 0 rfl rfl)
theorem dX0_tries_27 : decode cX0_tries 27 = .ok (.aload_n 0, 1) := dk_42 (dk_at dksX0_tries_1 3 rfl rfl)
theorem dX0_tries_28 : decode cX0_tries 28 = .ok (.getfield 64, 3) := dk_180 0 64 (dk_at dksX0_tries_1 4 rfl rfl)
theorem dX0_tries_31 : decode cX0_tries 31 = .ok (.iconst 0, 1) := dk_3 (dk_at dksX0_tries_1 7 rfl rfl)
theorem dX0_tries_32 : decode cX0_tries 32 = .ok (.aload_n 0, 1) := dk_42 (dk_at dksX0_tries_1 8 rfl rfl)
theorem dX0_tries_33 : decode cX0_tries 33 = .ok (.getfield 67, 3) := dk_180 0 67 (dk_at dksX0_tries_1 9 rfl rfl)
theorem dX0_tries_36 : decode cX0_tries 36 = .ok (.iconst 0, 1) := dk_3 (dk_at dksX0_tries_1 12 rfl rfl)
theorem dX0_tries_37 : decode cX0_tries 37 = .ok (.iload_n 1, 1) := dk_27 (dk_at dksX0_tries_1 13 rfl rfl)
theorem dX0_tries_38 : decode cX0_tries 38 = .ok (.invokestatic 74, 3) := dk_184 0 74 (dk_at dksX0_tries_1 14 rfl rfl)
theorem dX0_tries_41 : decode cX0_tries 41 = .ok (.return_, 1) := dk_177 (dk_at dksX0_tries_1 17 rfl rfl)
theorem dX0_tries_42 : decode cX0_tries 42 = .ok (.iconst 0, 1) := dk_3 (dk_at dksX0_tries_1 18 rfl rfl)
theorem dX0_tries_43 : decode cX0_tries 43 = .ok (.istore 4, 2) := dk_54 4 (dk_at dksX0_tries_1 19 rfl rfl)
theorem dX0_tries_45 : decode cX0_tries 45 = .ok (.iload 4, 2) := dk_21 4 (dk_at dksX0_tries_1 21 rfl rfl)
theorem dX0_tries_47 : decode cX0_tries 47 = .ok (.iload_n 1, 1) := dk_27 (dk_at dksX0_tries_1 23 rfl rfl)
theorem dX0_tries_48 : decode cX0_tries 48 = .ok (.if_icmp .ge 40, 3) := dk_162 0 40 (dk_at dksX0_tries_2 0 rfl rfl)
theorem dX0_tries_51 : decode cX0_tries 51 = .ok (.iload_n 3, 1) := dk_29 (dk_at dksX0_tries_2 3 rfl rfl)
theorem dX0_tries_52 : decode cX0_tries 52 = .ok (.iload 4, 2) := dk_21 4 (dk_at dksX0_tries_2 4 rfl rfl)
theorem dX0_tries_54 : decode cX0_tries 54 = .ok (.ishr, 1) := dk_122 (dk_at dksX0_tries_2 6 rfl rfl)
theorem dX0_tries_55 : decode cX0_tries 55 = .ok (.iconst 1, 1) := dk_4 (dk_at dksX0_tries_2 7 rfl rfl)
theorem dX0_tries_56 : decode cX0_tries 56 = .ok (.iand, 1) := dk_126 (dk_at dksX0_tries_2 8 rfl rfl)
theorem dX0_tries_57 : decode cX0_tries 57 = .ok (.ifCond .ne 25, 3) := dk_154 0 25 (dk_at dksX0_tries_2 9 rfl rfl)
theorem dX0_tries_60 : decode cX0_tries 60 = .ok (.aload_n 0, 1) := dk_42 (dk_at dksX0_tries_2 12 rfl rfl)
theorem dX0_tries_61 : decode cX0_tries 61 = .ok (.getfield 64, 3) := dk_180 0 64 (dk_at dksX0_tries_2 13 rfl rfl)
theorem dX0_tries_64 : decode cX0_tries 64 = .ok (.iload_n 2, 1) := dk_28 (dk_at dksX0_tries_2 16 rfl rfl)
theorem dX0_tries_65 : decode cX0_tries 65 = .ok (.iload 4, 2) := dk_21 4 (dk_at dksX0_tries_2 17 rfl rfl)
theorem dX0_tries_67 : decode cX0_tries 67 = .ok (.iastore, 1) := dk_79 (dk_at dksX0_tries_2 19 rfl rfl)
theorem dX0_tries_68 : decode cX0_tries 68 = .ok (.aload_n 0, 1) := dk_42 (dk_at dksX0_tries_2 20 rfl rfl)
theorem dX0_tries_69 : decode cX0_tries 69 = .ok (.iload_n 1, 1) := dk_27 (dk_at dksX0_tries_2 21 rfl rfl)
theorem dX0_tries_70 : decode cX0_tries 70 = .ok (.iload_n 2, 1) := dk_28 (dk_at dksX0_tries_2 22 rfl rfl)
theorem dX0_tries_71 : decode cX0_tries 71 = .ok (.iconst 1, 1) := dk_4 (dk_at dksX0_tries_2 23 rfl rfl)
theorem dX0_tries_72 : decode cX0_tries 72 = .ok (.iadd, 1) := dk_96 (dk_at dksX0_tries_3 0 rfl rfl)
theorem dX0_tries_73 : decode cX0_tries 73 = .ok (.iload_n 3, 1) := dk_29 (dk_at dksX0_tries_3 1 rfl rfl)
theorem dX0_tries_74 : decode cX0_tries 74 = .ok (.iconst 1, 1) := dk_4 (dk_at dksX0_tries_3 2 rfl rfl)
theorem dX0_tries_75 : decode cX0_tries 75 = .ok (.iload 4, 2) := dk_21 4 (dk_at dksX0_tries_3 3 rfl rfl)
theorem dX0_tries_77 : decode cX0_tries 77 = .ok (.ishl, 1) := dk_120 (dk_at dksX0_tries_3 5 rfl rfl)
theorem dX0_tries_78 : decode cX0_tries 78 = .ok (.ior, 1) := dk_128 (dk_at dksX0_tries_3 6 rfl rfl)
theorem dX0_tries_79 : decode cX0_tries 79 = .ok (.invokevirtual 275, 3) := dk_182 1 19 (dk_at dksX0_tries_3 7 rfl rfl)
theorem dX0_tries_82 : decode cX0_tries 82 = .ok (.iinc 4 1, 3) := dk_132 4 1 (dk_at dksX0_tries_3 10 rfl rfl)
theorem dX0_tries_85 : decode cX0_tries 85 = .ok (.goto (-40), 3) := dk_167 255 216 (dk_at dksX0_tries_3 13 rfl rfl)
theorem dX0_tries_88 : decode cX0_tries 88 = .ok (.return_, 1) := dk_177 (dk_at dksX0_tries_3 16 rfl rfl)
abbrev cX0_longestBy : ByteArray := prog_1_method_30_code
def yX0_longestBy : MethodName := ⟨RX0, "longestBy", "(I)I"⟩
def dkwX0_longestBy_4 : List UInt8 := [172]
abbrev dktX0_longestBy_4 : List UInt8 := dkwX0_longestBy_4 ++ []
def dkwX0_longestBy_3 : List UInt8 := [29, 28, 100, 46, 96, 46, 182, 0, 118, 54, 4, 132, 3, 1, 167, 255, 206, 42, 180, 0, 35, 182, 1, 10]
abbrev dktX0_longestBy_3 : List UInt8 := dkwX0_longestBy_3 ++ dktX0_longestBy_4
def dkwX0_longestBy_2 : List UInt8 := [180, 0, 35, 42, 180, 0, 31, 180, 0, 141, 29, 28, 162, 0, 7, 29, 167, 0, 13, 28, 42, 180, 0, 64]
abbrev dktX0_longestBy_2 : List UInt8 := dkwX0_longestBy_2 ++ dktX0_longestBy_3
def dkwX0_longestBy_1 : List UInt8 := [42, 180, 0, 31, 180, 0, 121, 27, 100, 61, 3, 62, 29, 42, 180, 0, 31, 180, 0, 121, 162, 0, 45, 42]
abbrev dktX0_longestBy_1 : List UInt8 := dkwX0_longestBy_1 ++ dktX0_longestBy_2
def dkwX0_longestBy_0 : List UInt8 := [42, 180, 0, 35, 3, 181, 0, 121, 42, 180, 0, 35, 3, 181, 1, 9, 42, 180, 0, 35, 3, 181, 0, 146]
abbrev dktX0_longestBy_0 : List UInt8 := dkwX0_longestBy_0 ++ dktX0_longestBy_1
theorem dksX0_longestBy_0 : cX0_longestBy.data.toList.drop 0 = dktX0_longestBy_0 := by decide +kernel
theorem dksX0_longestBy_1 : cX0_longestBy.data.toList.drop 24 = dktX0_longestBy_1 := dk_seg dksX0_longestBy_0 24 rfl rfl
theorem dksX0_longestBy_2 : cX0_longestBy.data.toList.drop 48 = dktX0_longestBy_2 := dk_seg dksX0_longestBy_1 24 rfl rfl
theorem dksX0_longestBy_3 : cX0_longestBy.data.toList.drop 72 = dktX0_longestBy_3 := dk_seg dksX0_longestBy_2 24 rfl rfl
theorem dksX0_longestBy_4 : cX0_longestBy.data.toList.drop 96 = dktX0_longestBy_4 := dk_seg dksX0_longestBy_3 24 rfl rfl
theorem dX0_longestBy_0 : decode cX0_longestBy 0 = .ok (.aload_n 0, 1) := dk_42 (dk_at dksX0_longestBy_0 0 rfl rfl)
theorem dX0_longestBy_1 : decode cX0_longestBy 1 = .ok (.getfield 35, 3) := dk_180 0 35 (dk_at dksX0_longestBy_0 1 rfl rfl)
theorem dX0_longestBy_4 : decode cX0_longestBy 4 = .ok (.iconst 0, 1) := dk_3 (dk_at dksX0_longestBy_0 4 rfl rfl)
theorem dX0_longestBy_5 : decode cX0_longestBy 5 = .ok (.putfield 121, 3) := dk_181 0 121 (dk_at dksX0_longestBy_0 5 rfl rfl)
theorem dX0_longestBy_8 : decode cX0_longestBy 8 = .ok (.aload_n 0, 1) := dk_42 (dk_at dksX0_longestBy_0 8 rfl rfl)
theorem dX0_longestBy_9 : decode cX0_longestBy 9 = .ok (.getfield 35, 3) := dk_180 0 35 (dk_at dksX0_longestBy_0 9 rfl rfl)
theorem dX0_longestBy_12 : decode cX0_longestBy 12 = .ok (.iconst 0, 1) := dk_3 (dk_at dksX0_longestBy_0 12 rfl rfl)
theorem dX0_longestBy_13 : decode cX0_longestBy 13 = .ok (.putfield 265, 3) := dk_181 1 9 (dk_at dksX0_longestBy_0 13 rfl rfl)
theorem dX0_longestBy_16 : decode cX0_longestBy 16 = .ok (.aload_n 0, 1) := dk_42 (dk_at dksX0_longestBy_0 16 rfl rfl)
theorem dX0_longestBy_17 : decode cX0_longestBy 17 = .ok (.getfield 35, 3) := dk_180 0 35 (dk_at dksX0_longestBy_0 17 rfl rfl)
theorem dX0_longestBy_20 : decode cX0_longestBy 20 = .ok (.iconst 0, 1) := dk_3 (dk_at dksX0_longestBy_0 20 rfl rfl)
theorem dX0_longestBy_21 : decode cX0_longestBy 21 = .ok (.putfield 146, 3) := dk_181 0 146 (dk_at dksX0_longestBy_0 21 rfl rfl)
theorem dX0_longestBy_24 : decode cX0_longestBy 24 = .ok (.aload_n 0, 1) := dk_42 (dk_at dksX0_longestBy_1 0 rfl rfl)
theorem dX0_longestBy_25 : decode cX0_longestBy 25 = .ok (.getfield 31, 3) := dk_180 0 31 (dk_at dksX0_longestBy_1 1 rfl rfl)
theorem dX0_longestBy_28 : decode cX0_longestBy 28 = .ok (.getfield 121, 3) := dk_180 0 121 (dk_at dksX0_longestBy_1 4 rfl rfl)
theorem dX0_longestBy_31 : decode cX0_longestBy 31 = .ok (.iload_n 1, 1) := dk_27 (dk_at dksX0_longestBy_1 7 rfl rfl)
theorem dX0_longestBy_32 : decode cX0_longestBy 32 = .ok (.isub, 1) := dk_100 (dk_at dksX0_longestBy_1 8 rfl rfl)
theorem dX0_longestBy_33 : decode cX0_longestBy 33 = .ok (.istore_n 2, 1) := dk_61 (dk_at dksX0_longestBy_1 9 rfl rfl)
theorem dX0_longestBy_34 : decode cX0_longestBy 34 = .ok (.iconst 0, 1) := dk_3 (dk_at dksX0_longestBy_1 10 rfl rfl)
theorem dX0_longestBy_35 : decode cX0_longestBy 35 = .ok (.istore_n 3, 1) := dk_62 (dk_at dksX0_longestBy_1 11 rfl rfl)
theorem dX0_longestBy_36 : decode cX0_longestBy 36 = .ok (.iload_n 3, 1) := dk_29 (dk_at dksX0_longestBy_1 12 rfl rfl)
theorem dX0_longestBy_37 : decode cX0_longestBy 37 = .ok (.aload_n 0, 1) := dk_42 (dk_at dksX0_longestBy_1 13 rfl rfl)
theorem dX0_longestBy_38 : decode cX0_longestBy 38 = .ok (.getfield 31, 3) := dk_180 0 31 (dk_at dksX0_longestBy_1 14 rfl rfl)
theorem dX0_longestBy_41 : decode cX0_longestBy 41 = .ok (.getfield 121, 3) := dk_180 0 121 (dk_at dksX0_longestBy_1 17 rfl rfl)
theorem dX0_longestBy_44 : decode cX0_longestBy 44 = .ok (.if_icmp .ge 45, 3) := dk_162 0 45 (dk_at dksX0_longestBy_1 20 rfl rfl)
theorem dX0_longestBy_47 : decode cX0_longestBy 47 = .ok (.aload_n 0, 1) := dk_42 (dk_at dksX0_longestBy_1 23 rfl rfl)
theorem dX0_longestBy_48 : decode cX0_longestBy 48 = .ok (.getfield 35, 3) := dk_180 0 35 (dk_at dksX0_longestBy_2 0 rfl rfl)
theorem dX0_longestBy_51 : decode cX0_longestBy 51 = .ok (.aload_n 0, 1) := dk_42 (dk_at dksX0_longestBy_2 3 rfl rfl)
theorem dX0_longestBy_52 : decode cX0_longestBy 52 = .ok (.getfield 31, 3) := dk_180 0 31 (dk_at dksX0_longestBy_2 4 rfl rfl)
theorem dX0_longestBy_55 : decode cX0_longestBy 55 = .ok (.getfield 141, 3) := dk_180 0 141 (dk_at dksX0_longestBy_2 7 rfl rfl)
theorem dX0_longestBy_58 : decode cX0_longestBy 58 = .ok (.iload_n 3, 1) := dk_29 (dk_at dksX0_longestBy_2 10 rfl rfl)
theorem dX0_longestBy_59 : decode cX0_longestBy 59 = .ok (.iload_n 2, 1) := dk_28 (dk_at dksX0_longestBy_2 11 rfl rfl)
theorem dX0_longestBy_60 : decode cX0_longestBy 60 = .ok (.if_icmp .ge 7, 3) := dk_162 0 7 (dk_at dksX0_longestBy_2 12 rfl rfl)
theorem dX0_longestBy_63 : decode cX0_longestBy 63 = .ok (.iload_n 3, 1) := dk_29 (dk_at dksX0_longestBy_2 15 rfl rfl)
theorem dX0_longestBy_64 : decode cX0_longestBy 64 = .ok (.goto 13, 3) := dk_167 0 13 (dk_at dksX0_longestBy_2 16 rfl rfl)
theorem dX0_longestBy_67 : decode cX0_longestBy 67 = .ok (.iload_n 2, 1) := dk_28 (dk_at dksX0_longestBy_2 19 rfl rfl)
theorem dX0_longestBy_68 : decode cX0_longestBy 68 = .ok (.aload_n 0, 1) := dk_42 (dk_at dksX0_longestBy_2 20 rfl rfl)
theorem dX0_longestBy_69 : decode cX0_longestBy 69 = .ok (.getfield 64, 3) := dk_180 0 64 (dk_at dksX0_longestBy_2 21 rfl rfl)
theorem dX0_longestBy_72 : decode cX0_longestBy 72 = .ok (.iload_n 3, 1) := dk_29 (dk_at dksX0_longestBy_3 0 rfl rfl)
theorem dX0_longestBy_73 : decode cX0_longestBy 73 = .ok (.iload_n 2, 1) := dk_28 (dk_at dksX0_longestBy_3 1 rfl rfl)
theorem dX0_longestBy_74 : decode cX0_longestBy 74 = .ok (.isub, 1) := dk_100 (dk_at dksX0_longestBy_3 2 rfl rfl)
theorem dX0_longestBy_75 : decode cX0_longestBy 75 = .ok (.iaload, 1) := dk_46 (dk_at dksX0_longestBy_3 3 rfl rfl)
theorem dX0_longestBy_76 : decode cX0_longestBy 76 = .ok (.iadd, 1) := dk_96 (dk_at dksX0_longestBy_3 4 rfl rfl)
theorem dX0_longestBy_77 : decode cX0_longestBy 77 = .ok (.iaload, 1) := dk_46 (dk_at dksX0_longestBy_3 5 rfl rfl)
theorem dX0_longestBy_78 : decode cX0_longestBy 78 = .ok (.invokevirtual 118, 3) := dk_182 0 118 (dk_at dksX0_longestBy_3 6 rfl rfl)
theorem dX0_longestBy_81 : decode cX0_longestBy 81 = .ok (.istore 4, 2) := dk_54 4 (dk_at dksX0_longestBy_3 9 rfl rfl)
theorem dX0_longestBy_83 : decode cX0_longestBy 83 = .ok (.iinc 3 1, 3) := dk_132 3 1 (dk_at dksX0_longestBy_3 11 rfl rfl)
theorem dX0_longestBy_86 : decode cX0_longestBy 86 = .ok (.goto (-50), 3) := dk_167 255 206 (dk_at dksX0_longestBy_3 14 rfl rfl)
theorem dX0_longestBy_89 : decode cX0_longestBy 89 = .ok (.aload_n 0, 1) := dk_42 (dk_at dksX0_longestBy_3 17 rfl rfl)
theorem dX0_longestBy_90 : decode cX0_longestBy 90 = .ok (.getfield 35, 3) := dk_180 0 35 (dk_at dksX0_longestBy_3 18 rfl rfl)
theorem dX0_longestBy_93 : decode cX0_longestBy 93 = .ok (.invokevirtual 266, 3) := dk_182 1 10 (dk_at dksX0_longestBy_3 21 rfl rfl)
theorem dX0_longestBy_96 : decode cX0_longestBy 96 = .ok (.ireturn, 1) := dk_172 (dk_at dksX0_longestBy_4 0 rfl rfl)
abbrev cX0_weight : ByteArray := prog_1_method_33_code
def yX0_weight : MethodName := ⟨RX0, "weight", "(I)I"⟩
def dkwX0_weight_3 : List UInt8 := [184, 0, 84, 153, 0, 8, 21, 4, 167, 0, 5, 18, 230, 172, 58, 4, 18, 230, 172]
abbrev dktX0_weight_3 : List UInt8 := dkwX0_weight_3 ++ []
def dkwX0_weight_2 : List UInt8 := [61, 132, 4, 1, 167, 255, 211, 28, 27, 184, 1, 24, 54, 4, 21, 4, 19, 1, 30, 19, 1, 31]
abbrev dktX0_weight_2 : List UInt8 := dkwX0_weight_2 ++ dktX0_weight_3
def dkwX0_weight_1 : List UInt8 := [180, 0, 137, 21, 4, 51, 153, 0, 7, 4, 167, 0, 4, 2, 96, 62, 28, 29, 21, 4, 4, 96, 104, 96]
abbrev dktX0_weight_1 : List UInt8 := dkwX0_weight_1 ++ dktX0_weight_2
def dkwX0_weight_0 : List UInt8 := [3, 61, 2, 62, 3, 54, 4, 21, 4, 42, 180, 0, 31, 182, 0, 127, 162, 0, 39, 29, 42, 180, 0, 31]
abbrev dktX0_weight_0 : List UInt8 := dkwX0_weight_0 ++ dktX0_weight_1
theorem dksX0_weight_0 : cX0_weight.data.toList.drop 0 = dktX0_weight_0 := by decide +kernel
theorem dksX0_weight_1 : cX0_weight.data.toList.drop 24 = dktX0_weight_1 := dk_seg dksX0_weight_0 24 rfl rfl
theorem dksX0_weight_2 : cX0_weight.data.toList.drop 48 = dktX0_weight_2 := dk_seg dksX0_weight_1 24 rfl rfl
theorem dksX0_weight_3 : cX0_weight.data.toList.drop 70 = dktX0_weight_3 := dk_seg dksX0_weight_2 22 rfl rfl
theorem dX0_weight_0 : decode cX0_weight 0 = .ok (.iconst 0, 1) := dk_3 (dk_at dksX0_weight_0 0 rfl rfl)
theorem dX0_weight_1 : decode cX0_weight 1 = .ok (.istore_n 2, 1) := dk_61 (dk_at dksX0_weight_0 1 rfl rfl)
theorem dX0_weight_2 : decode cX0_weight 2 = .ok (.iconst (-1), 1) := dk_2 (dk_at dksX0_weight_0 2 rfl rfl)
theorem dX0_weight_3 : decode cX0_weight 3 = .ok (.istore_n 3, 1) := dk_62 (dk_at dksX0_weight_0 3 rfl rfl)
theorem dX0_weight_4 : decode cX0_weight 4 = .ok (.iconst 0, 1) := dk_3 (dk_at dksX0_weight_0 4 rfl rfl)
theorem dX0_weight_5 : decode cX0_weight 5 = .ok (.istore 4, 2) := dk_54 4 (dk_at dksX0_weight_0 5 rfl rfl)
theorem dX0_weight_7 : decode cX0_weight 7 = .ok (.iload 4, 2) := dk_21 4 (dk_at dksX0_weight_0 7 rfl rfl)
theorem dX0_weight_9 : decode cX0_weight 9 = .ok (.aload_n 0, 1) := dk_42 (dk_at dksX0_weight_0 9 rfl rfl)
theorem dX0_weight_10 : decode cX0_weight 10 = .ok (.getfield 31, 3) := dk_180 0 31 (dk_at dksX0_weight_0 10 rfl rfl)
theorem dX0_weight_13 : decode cX0_weight 13 = .ok (.invokevirtual 127, 3) := dk_182 0 127 (dk_at dksX0_weight_0 13 rfl rfl)
theorem dX0_weight_16 : decode cX0_weight 16 = .ok (.if_icmp .ge 39, 3) := dk_162 0 39 (dk_at dksX0_weight_0 16 rfl rfl)
theorem dX0_weight_19 : decode cX0_weight 19 = .ok (.iload_n 3, 1) := dk_29 (dk_at dksX0_weight_0 19 rfl rfl)
theorem dX0_weight_20 : decode cX0_weight 20 = .ok (.aload_n 0, 1) := dk_42 (dk_at dksX0_weight_0 20 rfl rfl)
theorem dX0_weight_21 : decode cX0_weight 21 = .ok (.getfield 31, 3) := dk_180 0 31 (dk_at dksX0_weight_0 21 rfl rfl)
theorem dX0_weight_24 : decode cX0_weight 24 = .ok (.getfield 137, 3) := dk_180 0 137 (dk_at dksX0_weight_1 0 rfl rfl)
theorem dX0_weight_27 : decode cX0_weight 27 = .ok (.iload 4, 2) := dk_21 4 (dk_at dksX0_weight_1 3 rfl rfl)
theorem dX0_weight_29 : decode cX0_weight 29 = .ok (.baload, 1) := dk_51 (dk_at dksX0_weight_1 5 rfl rfl)
theorem dX0_weight_30 : decode cX0_weight 30 = .ok (.ifCond .eq 7, 3) := dk_153 0 7 (dk_at dksX0_weight_1 6 rfl rfl)
theorem dX0_weight_33 : decode cX0_weight 33 = .ok (.iconst 1, 1) := dk_4 (dk_at dksX0_weight_1 9 rfl rfl)
theorem dX0_weight_34 : decode cX0_weight 34 = .ok (.goto 4, 3) := dk_167 0 4 (dk_at dksX0_weight_1 10 rfl rfl)
theorem dX0_weight_37 : decode cX0_weight 37 = .ok (.iconst (-1), 1) := dk_2 (dk_at dksX0_weight_1 13 rfl rfl)
theorem dX0_weight_38 : decode cX0_weight 38 = .ok (.iadd, 1) := dk_96 (dk_at dksX0_weight_1 14 rfl rfl)
theorem dX0_weight_39 : decode cX0_weight 39 = .ok (.istore_n 3, 1) := dk_62 (dk_at dksX0_weight_1 15 rfl rfl)
theorem dX0_weight_40 : decode cX0_weight 40 = .ok (.iload_n 2, 1) := dk_28 (dk_at dksX0_weight_1 16 rfl rfl)
theorem dX0_weight_41 : decode cX0_weight 41 = .ok (.iload_n 3, 1) := dk_29 (dk_at dksX0_weight_1 17 rfl rfl)
theorem dX0_weight_42 : decode cX0_weight 42 = .ok (.iload 4, 2) := dk_21 4 (dk_at dksX0_weight_1 18 rfl rfl)
theorem dX0_weight_44 : decode cX0_weight 44 = .ok (.iconst 1, 1) := dk_4 (dk_at dksX0_weight_1 20 rfl rfl)
theorem dX0_weight_45 : decode cX0_weight 45 = .ok (.iadd, 1) := dk_96 (dk_at dksX0_weight_1 21 rfl rfl)
theorem dX0_weight_46 : decode cX0_weight 46 = .ok (.imul, 1) := dk_104 (dk_at dksX0_weight_1 22 rfl rfl)
theorem dX0_weight_47 : decode cX0_weight 47 = .ok (.iadd, 1) := dk_96 (dk_at dksX0_weight_1 23 rfl rfl)
theorem dX0_weight_48 : decode cX0_weight 48 = .ok (.istore_n 2, 1) := dk_61 (dk_at dksX0_weight_2 0 rfl rfl)
theorem dX0_weight_49 : decode cX0_weight 49 = .ok (.iinc 4 1, 3) := dk_132 4 1 (dk_at dksX0_weight_2 1 rfl rfl)
theorem dX0_weight_52 : decode cX0_weight 52 = .ok (.goto (-45), 3) := dk_167 255 211 (dk_at dksX0_weight_2 4 rfl rfl)
theorem dX0_weight_55 : decode cX0_weight 55 = .ok (.iload_n 2, 1) := dk_28 (dk_at dksX0_weight_2 7 rfl rfl)
theorem dX0_weight_56 : decode cX0_weight 56 = .ok (.iload_n 1, 1) := dk_27 (dk_at dksX0_weight_2 8 rfl rfl)
theorem dX0_weight_57 : decode cX0_weight 57 = .ok (.invokestatic 280, 3) := dk_184 1 24 (dk_at dksX0_weight_2 9 rfl rfl)
theorem dX0_weight_60 : decode cX0_weight 60 = .ok (.istore 4, 2) := dk_54 4 (dk_at dksX0_weight_2 12 rfl rfl)
theorem dX0_weight_62 : decode cX0_weight 62 = .ok (.iload 4, 2) := dk_21 4 (dk_at dksX0_weight_2 14 rfl rfl)
theorem dX0_weight_64 : decode cX0_weight 64 = .ok (.ldc_w 286, 3) := dk_19 1 30 (dk_at dksX0_weight_2 16 rfl rfl)
theorem dX0_weight_67 : decode cX0_weight 67 = .ok (.ldc_w 287, 3) := dk_19 1 31 (dk_at dksX0_weight_2 19 rfl rfl)
theorem dX0_weight_70 : decode cX0_weight 70 = .ok (.invokestatic 84, 3) := dk_184 0 84 (dk_at dksX0_weight_3 0 rfl rfl)
theorem dX0_weight_73 : decode cX0_weight 73 = .ok (.ifCond .eq 8, 3) := dk_153 0 8 (dk_at dksX0_weight_3 3 rfl rfl)
theorem dX0_weight_76 : decode cX0_weight 76 = .ok (.iload 4, 2) := dk_21 4 (dk_at dksX0_weight_3 6 rfl rfl)
theorem dX0_weight_78 : decode cX0_weight 78 = .ok (.goto 5, 3) := dk_167 0 5 (dk_at dksX0_weight_3 8 rfl rfl)
theorem dX0_weight_81 : decode cX0_weight 81 = .ok (.ldc 230, 2) := dk_18 230 (dk_at dksX0_weight_3 11 rfl rfl)
theorem dX0_weight_83 : decode cX0_weight 83 = .ok (.ireturn, 1) := dk_172 (dk_at dksX0_weight_3 13 rfl rfl)
theorem dX0_weight_84 : decode cX0_weight 84 = .ok (.astore 4, 2) := dk_58 4 (dk_at dksX0_weight_3 14 rfl rfl)
theorem dX0_weight_86 : decode cX0_weight 86 = .ok (.ldc 230, 2) := dk_18 230 (dk_at dksX0_weight_3 16 rfl rfl)
theorem dX0_weight_88 : decode cX0_weight 88 = .ok (.ireturn, 1) := dk_172 (dk_at dksX0_weight_3 18 rfl rfl)
abbrev cX0_keep : ByteArray := prog_1_method_34_code
def yX0_keep : MethodName := ⟨RX0, "keep", "(I)I"⟩
def dkwX0_keep_1 : List UInt8 := [42, 180, 0, 31, 182, 0, 80, 83, 42, 180, 0, 31, 180, 0, 121, 172]
abbrev dktX0_keep_1 : List UInt8 := dkwX0_keep_1 ++ []
def dkwX0_keep_0 : List UInt8 := [27, 3, 4, 184, 0, 84, 154, 0, 5, 2, 172, 42, 180, 0, 42, 27, 187, 0, 26, 89, 42, 183, 0, 28]
abbrev dktX0_keep_0 : List UInt8 := dkwX0_keep_0 ++ dktX0_keep_1
theorem dksX0_keep_0 : cX0_keep.data.toList.drop 0 = dktX0_keep_0 := by decide +kernel
theorem dksX0_keep_1 : cX0_keep.data.toList.drop 24 = dktX0_keep_1 := dk_seg dksX0_keep_0 24 rfl rfl
theorem dX0_keep_0 : decode cX0_keep 0 = .ok (.iload_n 1, 1) := dk_27 (dk_at dksX0_keep_0 0 rfl rfl)
theorem dX0_keep_1 : decode cX0_keep 1 = .ok (.iconst 0, 1) := dk_3 (dk_at dksX0_keep_0 1 rfl rfl)
theorem dX0_keep_2 : decode cX0_keep 2 = .ok (.iconst 1, 1) := dk_4 (dk_at dksX0_keep_0 2 rfl rfl)
theorem dX0_keep_3 : decode cX0_keep 3 = .ok (.invokestatic 84, 3) := dk_184 0 84 (dk_at dksX0_keep_0 3 rfl rfl)
theorem dX0_keep_6 : decode cX0_keep 6 = .ok (.ifCond .ne 5, 3) := dk_154 0 5 (dk_at dksX0_keep_0 6 rfl rfl)
theorem dX0_keep_9 : decode cX0_keep 9 = .ok (.iconst (-1), 1) := dk_2 (dk_at dksX0_keep_0 9 rfl rfl)
theorem dX0_keep_10 : decode cX0_keep 10 = .ok (.ireturn, 1) := dk_172 (dk_at dksX0_keep_0 10 rfl rfl)
theorem dX0_keep_11 : decode cX0_keep 11 = .ok (.aload_n 0, 1) := dk_42 (dk_at dksX0_keep_0 11 rfl rfl)
theorem dX0_keep_12 : decode cX0_keep 12 = .ok (.getfield 42, 3) := dk_180 0 42 (dk_at dksX0_keep_0 12 rfl rfl)
theorem dX0_keep_15 : decode cX0_keep 15 = .ok (.iload_n 1, 1) := dk_27 (dk_at dksX0_keep_0 15 rfl rfl)
theorem dX0_keep_16 : decode cX0_keep 16 = .ok (.new 26, 3) := dk_187 0 26 (dk_at dksX0_keep_0 16 rfl rfl)
theorem dX0_keep_19 : decode cX0_keep 19 = .ok (.dup, 1) := dk_89 (dk_at dksX0_keep_0 19 rfl rfl)
theorem dX0_keep_20 : decode cX0_keep 20 = .ok (.aload_n 0, 1) := dk_42 (dk_at dksX0_keep_0 20 rfl rfl)
theorem dX0_keep_21 : decode cX0_keep 21 = .ok (.invokespecial 28, 3) := dk_183 0 28 (dk_at dksX0_keep_0 21 rfl rfl)
theorem dX0_keep_24 : decode cX0_keep 24 = .ok (.aload_n 0, 1) := dk_42 (dk_at dksX0_keep_1 0 rfl rfl)
theorem dX0_keep_25 : decode cX0_keep 25 = .ok (.getfield 31, 3) := dk_180 0 31 (dk_at dksX0_keep_1 1 rfl rfl)
theorem dX0_keep_28 : decode cX0_keep 28 = .ok (.invokevirtual 80, 3) := dk_182 0 80 (dk_at dksX0_keep_1 4 rfl rfl)
theorem dX0_keep_31 : decode cX0_keep 31 = .ok (.aastore, 1) := dk_83 (dk_at dksX0_keep_1 7 rfl rfl)
theorem dX0_keep_32 : decode cX0_keep 32 = .ok (.aload_n 0, 1) := dk_42 (dk_at dksX0_keep_1 8 rfl rfl)
theorem dX0_keep_33 : decode cX0_keep 33 = .ok (.getfield 31, 3) := dk_180 0 31 (dk_at dksX0_keep_1 9 rfl rfl)
theorem dX0_keep_36 : decode cX0_keep 36 = .ok (.getfield 121, 3) := dk_180 0 121 (dk_at dksX0_keep_1 12 rfl rfl)
theorem dX0_keep_39 : decode cX0_keep 39 = .ok (.ireturn, 1) := dk_172 (dk_at dksX0_keep_1 15 rfl rfl)
abbrev cX0_back : ByteArray := prog_1_method_35_code
def yX0_back : MethodName := ⟨RX0, "back", "(I)I"⟩
def dkwX0_back_2 : List UInt8 := [181, 0, 70, 42, 180, 0, 31, 180, 0, 121, 172]
abbrev dktX0_back_2 : List UInt8 := dkwX0_back_2 ++ []
def dkwX0_back_1 : List UInt8 := [187, 0, 26, 89, 42, 183, 0, 28, 42, 180, 0, 42, 27, 50, 182, 0, 80, 181, 0, 31, 42, 3]
abbrev dktX0_back_1 : List UInt8 := dkwX0_back_1 ++ dktX0_back_2
def dkwX0_back_0 : List UInt8 := [27, 3, 4, 184, 0, 84, 154, 0, 5, 2, 172, 42, 180, 0, 42, 27, 50, 199, 0, 6, 16, 254, 172, 42]
abbrev dktX0_back_0 : List UInt8 := dkwX0_back_0 ++ dktX0_back_1
theorem dksX0_back_0 : cX0_back.data.toList.drop 0 = dktX0_back_0 := by decide +kernel
theorem dksX0_back_1 : cX0_back.data.toList.drop 24 = dktX0_back_1 := dk_seg dksX0_back_0 24 rfl rfl
theorem dksX0_back_2 : cX0_back.data.toList.drop 46 = dktX0_back_2 := dk_seg dksX0_back_1 22 rfl rfl
theorem dX0_back_0 : decode cX0_back 0 = .ok (.iload_n 1, 1) := dk_27 (dk_at dksX0_back_0 0 rfl rfl)
theorem dX0_back_1 : decode cX0_back 1 = .ok (.iconst 0, 1) := dk_3 (dk_at dksX0_back_0 1 rfl rfl)
theorem dX0_back_2 : decode cX0_back 2 = .ok (.iconst 1, 1) := dk_4 (dk_at dksX0_back_0 2 rfl rfl)
theorem dX0_back_3 : decode cX0_back 3 = .ok (.invokestatic 84, 3) := dk_184 0 84 (dk_at dksX0_back_0 3 rfl rfl)
theorem dX0_back_6 : decode cX0_back 6 = .ok (.ifCond .ne 5, 3) := dk_154 0 5 (dk_at dksX0_back_0 6 rfl rfl)
theorem dX0_back_9 : decode cX0_back 9 = .ok (.iconst (-1), 1) := dk_2 (dk_at dksX0_back_0 9 rfl rfl)
theorem dX0_back_10 : decode cX0_back 10 = .ok (.ireturn, 1) := dk_172 (dk_at dksX0_back_0 10 rfl rfl)
theorem dX0_back_11 : decode cX0_back 11 = .ok (.aload_n 0, 1) := dk_42 (dk_at dksX0_back_0 11 rfl rfl)
theorem dX0_back_12 : decode cX0_back 12 = .ok (.getfield 42, 3) := dk_180 0 42 (dk_at dksX0_back_0 12 rfl rfl)
theorem dX0_back_15 : decode cX0_back 15 = .ok (.iload_n 1, 1) := dk_27 (dk_at dksX0_back_0 15 rfl rfl)
theorem dX0_back_16 : decode cX0_back 16 = .ok (.aaload, 1) := dk_50 (dk_at dksX0_back_0 16 rfl rfl)
theorem dX0_back_17 : decode cX0_back 17 = .ok (.ifnonnull 6, 3) := dk_199 0 6 (dk_at dksX0_back_0 17 rfl rfl)
theorem dX0_back_20 : decode cX0_back 20 = .ok (.bipush (-2), 2) := dk_16 254 (dk_at dksX0_back_0 20 rfl rfl)
theorem dX0_back_22 : decode cX0_back 22 = .ok (.ireturn, 1) := dk_172 (dk_at dksX0_back_0 22 rfl rfl)
theorem dX0_back_23 : decode cX0_back 23 = .ok (.aload_n 0, 1) := dk_42 (dk_at dksX0_back_0 23 rfl rfl)
theorem dX0_back_24 : decode cX0_back 24 = .ok (.new 26, 3) := dk_187 0 26 (dk_at dksX0_back_1 0 rfl rfl)
theorem dX0_back_27 : decode cX0_back 27 = .ok (.dup, 1) := dk_89 (dk_at dksX0_back_1 3 rfl rfl)
theorem dX0_back_28 : decode cX0_back 28 = .ok (.aload_n 0, 1) := dk_42 (dk_at dksX0_back_1 4 rfl rfl)
theorem dX0_back_29 : decode cX0_back 29 = .ok (.invokespecial 28, 3) := dk_183 0 28 (dk_at dksX0_back_1 5 rfl rfl)
theorem dX0_back_32 : decode cX0_back 32 = .ok (.aload_n 0, 1) := dk_42 (dk_at dksX0_back_1 8 rfl rfl)
theorem dX0_back_33 : decode cX0_back 33 = .ok (.getfield 42, 3) := dk_180 0 42 (dk_at dksX0_back_1 9 rfl rfl)
theorem dX0_back_36 : decode cX0_back 36 = .ok (.iload_n 1, 1) := dk_27 (dk_at dksX0_back_1 12 rfl rfl)
theorem dX0_back_37 : decode cX0_back 37 = .ok (.aaload, 1) := dk_50 (dk_at dksX0_back_1 13 rfl rfl)
theorem dX0_back_38 : decode cX0_back 38 = .ok (.invokevirtual 80, 3) := dk_182 0 80 (dk_at dksX0_back_1 14 rfl rfl)
theorem dX0_back_41 : decode cX0_back 41 = .ok (.putfield 31, 3) := dk_181 0 31 (dk_at dksX0_back_1 17 rfl rfl)
theorem dX0_back_44 : decode cX0_back 44 = .ok (.aload_n 0, 1) := dk_42 (dk_at dksX0_back_1 20 rfl rfl)
theorem dX0_back_45 : decode cX0_back 45 = .ok (.iconst 0, 1) := dk_3 (dk_at dksX0_back_1 21 rfl rfl)
theorem dX0_back_46 : decode cX0_back 46 = .ok (.putfield 70, 3) := dk_181 0 70 (dk_at dksX0_back_2 0 rfl rfl)
theorem dX0_back_49 : decode cX0_back 49 = .ok (.aload_n 0, 1) := dk_42 (dk_at dksX0_back_2 3 rfl rfl)
theorem dX0_back_50 : decode cX0_back 50 = .ok (.getfield 31, 3) := dk_180 0 31 (dk_at dksX0_back_2 4 rfl rfl)
theorem dX0_back_53 : decode cX0_back 53 = .ok (.getfield 121, 3) := dk_180 0 121 (dk_at dksX0_back_2 7 rfl rfl)
theorem dX0_back_56 : decode cX0_back 56 = .ok (.ireturn, 1) := dk_172 (dk_at dksX0_back_2 10 rfl rfl)
abbrev cX0_count : ByteArray := prog_1_method_38_code
def yX0_count : MethodName := ⟨RX0, "count", "(I)I"⟩
def dkwX0_count_4 : List UInt8 := [172, 42, 180, 0, 88, 172, 42, 180, 0, 70, 172, 2, 172]
abbrev dktX0_count_4 : List UInt8 := dkwX0_count_4 ++ []
def dkwX0_count_3 : List UInt8 := [42, 3, 182, 1, 37, 172, 42, 4, 182, 1, 37, 172, 42, 180, 0, 31, 182, 1, 10, 172, 42, 182, 1, 41]
abbrev dktX0_count_3 : List UInt8 := dkwX0_count_3 ++ dktX0_count_4
def dkwX0_count_2 : List UInt8 := [42, 180, 0, 31, 180, 0, 121, 172, 42, 180, 0, 31, 180, 1, 9, 153, 0, 7, 4, 167, 0, 4, 3, 172]
abbrev dktX0_count_2 : List UInt8 := dkwX0_count_2 ++ dktX0_count_3
def dkwX0_count_1 : List UInt8 := [170, 0, 0, 0, 0, 0, 106, 0, 0, 0, 0, 0, 0, 0, 7, 0, 0, 0, 47, 0, 0, 0, 55, 0, 0, 0, 71, 0, 0, 0, 77, 0, 0, 0, 83, 0, 0, 0, 91, 0, 0, 0, 96, 0, 0, 0, 101]
abbrev dktX0_count_1 : List UInt8 := dkwX0_count_1 ++ dktX0_count_2
def dkwX0_count_0 : List UInt8 := [27]
abbrev dktX0_count_0 : List UInt8 := dkwX0_count_0 ++ dktX0_count_1
theorem dksX0_count_0 : cX0_count.data.toList.drop 0 = dktX0_count_0 := by decide +kernel
theorem dksX0_count_1 : cX0_count.data.toList.drop 1 = dktX0_count_1 := dk_seg dksX0_count_0 1 rfl rfl
theorem dksX0_count_2 : cX0_count.data.toList.drop 48 = dktX0_count_2 := dk_seg dksX0_count_1 47 rfl rfl
theorem dksX0_count_3 : cX0_count.data.toList.drop 72 = dktX0_count_3 := dk_seg dksX0_count_2 24 rfl rfl
theorem dksX0_count_4 : cX0_count.data.toList.drop 96 = dktX0_count_4 := dk_seg dksX0_count_3 24 rfl rfl
theorem dX0_count_0 : decode cX0_count 0 = .ok (.iload_n 1, 1) := dk_27 (dk_at dksX0_count_0 0 rfl rfl)
theorem dX0_count_1 : decode cX0_count 1 = .ok (.tableswitch 106 0 7 #[47, 55, 71, 77, 83, 91, 96, 101], 47) := by decide +kernel
theorem dX0_count_48 : decode cX0_count 48 = .ok (.aload_n 0, 1) := dk_42 (dk_at dksX0_count_2 0 rfl rfl)
theorem dX0_count_49 : decode cX0_count 49 = .ok (.getfield 31, 3) := dk_180 0 31 (dk_at dksX0_count_2 1 rfl rfl)
theorem dX0_count_52 : decode cX0_count 52 = .ok (.getfield 121, 3) := dk_180 0 121 (dk_at dksX0_count_2 4 rfl rfl)
theorem dX0_count_55 : decode cX0_count 55 = .ok (.ireturn, 1) := dk_172 (dk_at dksX0_count_2 7 rfl rfl)
theorem dX0_count_56 : decode cX0_count 56 = .ok (.aload_n 0, 1) := dk_42 (dk_at dksX0_count_2 8 rfl rfl)
theorem dX0_count_57 : decode cX0_count 57 = .ok (.getfield 31, 3) := dk_180 0 31 (dk_at dksX0_count_2 9 rfl rfl)
theorem dX0_count_60 : decode cX0_count 60 = .ok (.getfield 265, 3) := dk_180 1 9 (dk_at dksX0_count_2 12 rfl rfl)
theorem dX0_count_63 : decode cX0_count 63 = .ok (.ifCond .eq 7, 3) := dk_153 0 7 (dk_at dksX0_count_2 15 rfl rfl)
theorem dX0_count_66 : decode cX0_count 66 = .ok (.iconst 1, 1) := dk_4 (dk_at dksX0_count_2 18 rfl rfl)
theorem dX0_count_67 : decode cX0_count 67 = .ok (.goto 4, 3) := dk_167 0 4 (dk_at dksX0_count_2 19 rfl rfl)
theorem dX0_count_70 : decode cX0_count 70 = .ok (.iconst 0, 1) := dk_3 (dk_at dksX0_count_2 22 rfl rfl)
theorem dX0_count_71 : decode cX0_count 71 = .ok (.ireturn, 1) := dk_172 (dk_at dksX0_count_2 23 rfl rfl)
theorem dX0_count_72 : decode cX0_count 72 = .ok (.aload_n 0, 1) := dk_42 (dk_at dksX0_count_3 0 rfl rfl)
theorem dX0_count_73 : decode cX0_count 73 = .ok (.iconst 0, 1) := dk_3 (dk_at dksX0_count_3 1 rfl rfl)
theorem dX0_count_74 : decode cX0_count 74 = .ok (.invokevirtual 293, 3) := dk_182 1 37 (dk_at dksX0_count_3 2 rfl rfl)
theorem dX0_count_77 : decode cX0_count 77 = .ok (.ireturn, 1) := dk_172 (dk_at dksX0_count_3 5 rfl rfl)
theorem dX0_count_78 : decode cX0_count 78 = .ok (.aload_n 0, 1) := dk_42 (dk_at dksX0_count_3 6 rfl rfl)
theorem dX0_count_79 : decode cX0_count 79 = .ok (.iconst 1, 1) := dk_4 (dk_at dksX0_count_3 7 rfl rfl)
theorem dX0_count_80 : decode cX0_count 80 = .ok (.invokevirtual 293, 3) := dk_182 1 37 (dk_at dksX0_count_3 8 rfl rfl)
theorem dX0_count_83 : decode cX0_count 83 = .ok (.ireturn, 1) := dk_172 (dk_at dksX0_count_3 11 rfl rfl)
theorem dX0_count_84 : decode cX0_count 84 = .ok (.aload_n 0, 1) := dk_42 (dk_at dksX0_count_3 12 rfl rfl)
theorem dX0_count_85 : decode cX0_count 85 = .ok (.getfield 31, 3) := dk_180 0 31 (dk_at dksX0_count_3 13 rfl rfl)
theorem dX0_count_88 : decode cX0_count 88 = .ok (.invokevirtual 266, 3) := dk_182 1 10 (dk_at dksX0_count_3 16 rfl rfl)
theorem dX0_count_91 : decode cX0_count 91 = .ok (.ireturn, 1) := dk_172 (dk_at dksX0_count_3 19 rfl rfl)
theorem dX0_count_92 : decode cX0_count 92 = .ok (.aload_n 0, 1) := dk_42 (dk_at dksX0_count_3 20 rfl rfl)
theorem dX0_count_93 : decode cX0_count 93 = .ok (.invokevirtual 297, 3) := dk_182 1 41 (dk_at dksX0_count_3 21 rfl rfl)
theorem dX0_count_96 : decode cX0_count 96 = .ok (.ireturn, 1) := dk_172 (dk_at dksX0_count_4 0 rfl rfl)
theorem dX0_count_97 : decode cX0_count 97 = .ok (.aload_n 0, 1) := dk_42 (dk_at dksX0_count_4 1 rfl rfl)
theorem dX0_count_98 : decode cX0_count 98 = .ok (.getfield 88, 3) := dk_180 0 88 (dk_at dksX0_count_4 2 rfl rfl)
theorem dX0_count_101 : decode cX0_count 101 = .ok (.ireturn, 1) := dk_172 (dk_at dksX0_count_4 5 rfl rfl)
theorem dX0_count_102 : decode cX0_count 102 = .ok (.aload_n 0, 1) := dk_42 (dk_at dksX0_count_4 6 rfl rfl)
theorem dX0_count_103 : decode cX0_count 103 = .ok (.getfield 70, 3) := dk_180 0 70 (dk_at dksX0_count_4 7 rfl rfl)
theorem dX0_count_106 : decode cX0_count 106 = .ok (.ireturn, 1) := dk_172 (dk_at dksX0_count_4 10 rfl rfl)
theorem dX0_count_107 : decode cX0_count 107 = .ok (.iconst (-1), 1) := dk_2 (dk_at dksX0_count_4 11 rfl rfl)
theorem dX0_count_108 : decode cX0_count 108 = .ok (.ireturn, 1) := dk_172 (dk_at dksX0_count_4 12 rfl rfl)
abbrev cX0_bitsBy : ByteArray := prog_1_method_36_code
def yX0_bitsBy : MethodName := ⟨RX0, "bitsBy", "(Z)I"⟩
def dkwX0_bitsBy_2 : List UInt8 := [167, 0, 4, 3, 96, 61, 132, 3, 1, 167, 255, 203, 28, 172]
abbrev dktX0_bitsBy_2 : List UInt8 := dkwX0_bitsBy_2 ++ []
def dkwX0_bitsBy_1 : List UInt8 := [180, 1, 34, 29, 51, 153, 0, 22, 167, 0, 15, 42, 180, 0, 31, 180, 0, 137, 29, 51, 153, 0, 7, 4]
abbrev dktX0_bitsBy_1 : List UInt8 := dkwX0_bitsBy_1 ++ dktX0_bitsBy_2
def dkwX0_bitsBy_0 : List UInt8 := [3, 61, 3, 62, 29, 42, 180, 0, 31, 182, 0, 127, 162, 0, 48, 28, 27, 153, 0, 18, 42, 180, 0, 31]
abbrev dktX0_bitsBy_0 : List UInt8 := dkwX0_bitsBy_0 ++ dktX0_bitsBy_1
theorem dksX0_bitsBy_0 : cX0_bitsBy.data.toList.drop 0 = dktX0_bitsBy_0 := by decide +kernel
theorem dksX0_bitsBy_1 : cX0_bitsBy.data.toList.drop 24 = dktX0_bitsBy_1 := dk_seg dksX0_bitsBy_0 24 rfl rfl
theorem dksX0_bitsBy_2 : cX0_bitsBy.data.toList.drop 48 = dktX0_bitsBy_2 := dk_seg dksX0_bitsBy_1 24 rfl rfl
theorem dX0_bitsBy_0 : decode cX0_bitsBy 0 = .ok (.iconst 0, 1) := dk_3 (dk_at dksX0_bitsBy_0 0 rfl rfl)
theorem dX0_bitsBy_1 : decode cX0_bitsBy 1 = .ok (.istore_n 2, 1) := dk_61 (dk_at dksX0_bitsBy_0 1 rfl rfl)
theorem dX0_bitsBy_2 : decode cX0_bitsBy 2 = .ok (.iconst 0, 1) := dk_3 (dk_at dksX0_bitsBy_0 2 rfl rfl)
theorem dX0_bitsBy_3 : decode cX0_bitsBy 3 = .ok (.istore_n 3, 1) := dk_62 (dk_at dksX0_bitsBy_0 3 rfl rfl)
theorem dX0_bitsBy_4 : decode cX0_bitsBy 4 = .ok (.iload_n 3, 1) := dk_29 (dk_at dksX0_bitsBy_0 4 rfl rfl)
theorem dX0_bitsBy_5 : decode cX0_bitsBy 5 = .ok (.aload_n 0, 1) := dk_42 (dk_at dksX0_bitsBy_0 5 rfl rfl)
theorem dX0_bitsBy_6 : decode cX0_bitsBy 6 = .ok (.getfield 31, 3) := dk_180 0 31 (dk_at dksX0_bitsBy_0 6 rfl rfl)
theorem dX0_bitsBy_9 : decode cX0_bitsBy 9 = .ok (.invokevirtual 127, 3) := dk_182 0 127 (dk_at dksX0_bitsBy_0 9 rfl rfl)
theorem dX0_bitsBy_12 : decode cX0_bitsBy 12 = .ok (.if_icmp .ge 48, 3) := dk_162 0 48 (dk_at dksX0_bitsBy_0 12 rfl rfl)
theorem dX0_bitsBy_15 : decode cX0_bitsBy 15 = .ok (.iload_n 2, 1) := dk_28 (dk_at dksX0_bitsBy_0 15 rfl rfl)
theorem dX0_bitsBy_16 : decode cX0_bitsBy 16 = .ok (.iload_n 1, 1) := dk_27 (dk_at dksX0_bitsBy_0 16 rfl rfl)
theorem dX0_bitsBy_17 : decode cX0_bitsBy 17 = .ok (.ifCond .eq 18, 3) := dk_153 0 18 (dk_at dksX0_bitsBy_0 17 rfl rfl)
theorem dX0_bitsBy_20 : decode cX0_bitsBy 20 = .ok (.aload_n 0, 1) := dk_42 (dk_at dksX0_bitsBy_0 20 rfl rfl)
theorem dX0_bitsBy_21 : decode cX0_bitsBy 21 = .ok (.getfield 31, 3) := dk_180 0 31 (dk_at dksX0_bitsBy_0 21 rfl rfl)
theorem dX0_bitsBy_24 : decode cX0_bitsBy 24 = .ok (.getfield 290, 3) := dk_180 1 34 (dk_at dksX0_bitsBy_1 0 rfl rfl)
theorem dX0_bitsBy_27 : decode cX0_bitsBy 27 = .ok (.iload_n 3, 1) := dk_29 (dk_at dksX0_bitsBy_1 3 rfl rfl)
theorem dX0_bitsBy_28 : decode cX0_bitsBy 28 = .ok (.baload, 1) := dk_51 (dk_at dksX0_bitsBy_1 4 rfl rfl)
theorem dX0_bitsBy_29 : decode cX0_bitsBy 29 = .ok (.ifCond .eq 22, 3) := dk_153 0 22 (dk_at dksX0_bitsBy_1 5 rfl rfl)
theorem dX0_bitsBy_32 : decode cX0_bitsBy 32 = .ok (.goto 15, 3) := dk_167 0 15 (dk_at dksX0_bitsBy_1 8 rfl rfl)
theorem dX0_bitsBy_35 : decode cX0_bitsBy 35 = .ok (.aload_n 0, 1) := dk_42 (dk_at dksX0_bitsBy_1 11 rfl rfl)
theorem dX0_bitsBy_36 : decode cX0_bitsBy 36 = .ok (.getfield 31, 3) := dk_180 0 31 (dk_at dksX0_bitsBy_1 12 rfl rfl)
theorem dX0_bitsBy_39 : decode cX0_bitsBy 39 = .ok (.getfield 137, 3) := dk_180 0 137 (dk_at dksX0_bitsBy_1 15 rfl rfl)
theorem dX0_bitsBy_42 : decode cX0_bitsBy 42 = .ok (.iload_n 3, 1) := dk_29 (dk_at dksX0_bitsBy_1 18 rfl rfl)
theorem dX0_bitsBy_43 : decode cX0_bitsBy 43 = .ok (.baload, 1) := dk_51 (dk_at dksX0_bitsBy_1 19 rfl rfl)
theorem dX0_bitsBy_44 : decode cX0_bitsBy 44 = .ok (.ifCond .eq 7, 3) := dk_153 0 7 (dk_at dksX0_bitsBy_1 20 rfl rfl)
theorem dX0_bitsBy_47 : decode cX0_bitsBy 47 = .ok (.iconst 1, 1) := dk_4 (dk_at dksX0_bitsBy_1 23 rfl rfl)
theorem dX0_bitsBy_48 : decode cX0_bitsBy 48 = .ok (.goto 4, 3) := dk_167 0 4 (dk_at dksX0_bitsBy_2 0 rfl rfl)
theorem dX0_bitsBy_51 : decode cX0_bitsBy 51 = .ok (.iconst 0, 1) := dk_3 (dk_at dksX0_bitsBy_2 3 rfl rfl)
theorem dX0_bitsBy_52 : decode cX0_bitsBy 52 = .ok (.iadd, 1) := dk_96 (dk_at dksX0_bitsBy_2 4 rfl rfl)
theorem dX0_bitsBy_53 : decode cX0_bitsBy 53 = .ok (.istore_n 2, 1) := dk_61 (dk_at dksX0_bitsBy_2 5 rfl rfl)
theorem dX0_bitsBy_54 : decode cX0_bitsBy 54 = .ok (.iinc 3 1, 3) := dk_132 3 1 (dk_at dksX0_bitsBy_2 6 rfl rfl)
theorem dX0_bitsBy_57 : decode cX0_bitsBy 57 = .ok (.goto (-53), 3) := dk_167 255 203 (dk_at dksX0_bitsBy_2 9 rfl rfl)
theorem dX0_bitsBy_60 : decode cX0_bitsBy 60 = .ok (.iload_n 2, 1) := dk_28 (dk_at dksX0_bitsBy_2 12 rfl rfl)
theorem dX0_bitsBy_61 : decode cX0_bitsBy 61 = .ok (.ireturn, 1) := dk_172 (dk_at dksX0_bitsBy_2 13 rfl rfl)
abbrev cX0_marksSent : ByteArray := prog_1_method_37_code
def yX0_marksSent : MethodName := ⟨RX0, "marksSent", "()I"⟩
def dkwX0_marksSent_1 : List UInt8 := [46, 16, 31, 161, 0, 7, 4, 167, 0, 4, 3, 96, 60, 132, 2, 1, 167, 255, 220, 27, 172]
abbrev dktX0_marksSent_1 : List UInt8 := dkwX0_marksSent_1 ++ []
def dkwX0_marksSent_0 : List UInt8 := [3, 60, 3, 61, 28, 42, 180, 0, 31, 180, 0, 121, 162, 0, 31, 27, 42, 180, 0, 31, 180, 0, 141, 28]
abbrev dktX0_marksSent_0 : List UInt8 := dkwX0_marksSent_0 ++ dktX0_marksSent_1
theorem dksX0_marksSent_0 : cX0_marksSent.data.toList.drop 0 = dktX0_marksSent_0 := by decide +kernel
theorem dksX0_marksSent_1 : cX0_marksSent.data.toList.drop 24 = dktX0_marksSent_1 := dk_seg dksX0_marksSent_0 24 rfl rfl
theorem dX0_marksSent_0 : decode cX0_marksSent 0 = .ok (.iconst 0, 1) := dk_3 (dk_at dksX0_marksSent_0 0 rfl rfl)
theorem dX0_marksSent_1 : decode cX0_marksSent 1 = .ok (.istore_n 1, 1) := dk_60 (dk_at dksX0_marksSent_0 1 rfl rfl)
theorem dX0_marksSent_2 : decode cX0_marksSent 2 = .ok (.iconst 0, 1) := dk_3 (dk_at dksX0_marksSent_0 2 rfl rfl)
theorem dX0_marksSent_3 : decode cX0_marksSent 3 = .ok (.istore_n 2, 1) := dk_61 (dk_at dksX0_marksSent_0 3 rfl rfl)
theorem dX0_marksSent_4 : decode cX0_marksSent 4 = .ok (.iload_n 2, 1) := dk_28 (dk_at dksX0_marksSent_0 4 rfl rfl)
theorem dX0_marksSent_5 : decode cX0_marksSent 5 = .ok (.aload_n 0, 1) := dk_42 (dk_at dksX0_marksSent_0 5 rfl rfl)
theorem dX0_marksSent_6 : decode cX0_marksSent 6 = .ok (.getfield 31, 3) := dk_180 0 31 (dk_at dksX0_marksSent_0 6 rfl rfl)
theorem dX0_marksSent_9 : decode cX0_marksSent 9 = .ok (.getfield 121, 3) := dk_180 0 121 (dk_at dksX0_marksSent_0 9 rfl rfl)
theorem dX0_marksSent_12 : decode cX0_marksSent 12 = .ok (.if_icmp .ge 31, 3) := dk_162 0 31 (dk_at dksX0_marksSent_0 12 rfl rfl)
theorem dX0_marksSent_15 : decode cX0_marksSent 15 = .ok (.iload_n 1, 1) := dk_27 (dk_at dksX0_marksSent_0 15 rfl rfl)
theorem dX0_marksSent_16 : decode cX0_marksSent 16 = .ok (.aload_n 0, 1) := dk_42 (dk_at dksX0_marksSent_0 16 rfl rfl)
theorem dX0_marksSent_17 : decode cX0_marksSent 17 = .ok (.getfield 31, 3) := dk_180 0 31 (dk_at dksX0_marksSent_0 17 rfl rfl)
theorem dX0_marksSent_20 : decode cX0_marksSent 20 = .ok (.getfield 141, 3) := dk_180 0 141 (dk_at dksX0_marksSent_0 20 rfl rfl)
theorem dX0_marksSent_23 : decode cX0_marksSent 23 = .ok (.iload_n 2, 1) := dk_28 (dk_at dksX0_marksSent_0 23 rfl rfl)
theorem dX0_marksSent_24 : decode cX0_marksSent 24 = .ok (.iaload, 1) := dk_46 (dk_at dksX0_marksSent_1 0 rfl rfl)
theorem dX0_marksSent_25 : decode cX0_marksSent 25 = .ok (.bipush 31, 2) := dk_16 31 (dk_at dksX0_marksSent_1 1 rfl rfl)
theorem dX0_marksSent_27 : decode cX0_marksSent 27 = .ok (.if_icmp .lt 7, 3) := dk_161 0 7 (dk_at dksX0_marksSent_1 3 rfl rfl)
theorem dX0_marksSent_30 : decode cX0_marksSent 30 = .ok (.iconst 1, 1) := dk_4 (dk_at dksX0_marksSent_1 6 rfl rfl)
theorem dX0_marksSent_31 : decode cX0_marksSent 31 = .ok (.goto 4, 3) := dk_167 0 4 (dk_at dksX0_marksSent_1 7 rfl rfl)
theorem dX0_marksSent_34 : decode cX0_marksSent 34 = .ok (.iconst 0, 1) := dk_3 (dk_at dksX0_marksSent_1 10 rfl rfl)
theorem dX0_marksSent_35 : decode cX0_marksSent 35 = .ok (.iadd, 1) := dk_96 (dk_at dksX0_marksSent_1 11 rfl rfl)
theorem dX0_marksSent_36 : decode cX0_marksSent 36 = .ok (.istore_n 1, 1) := dk_60 (dk_at dksX0_marksSent_1 12 rfl rfl)
theorem dX0_marksSent_37 : decode cX0_marksSent 37 = .ok (.iinc 2 1, 3) := dk_132 2 1 (dk_at dksX0_marksSent_1 13 rfl rfl)
theorem dX0_marksSent_40 : decode cX0_marksSent 40 = .ok (.goto (-36), 3) := dk_167 255 220 (dk_at dksX0_marksSent_1 16 rfl rfl)
theorem dX0_marksSent_43 : decode cX0_marksSent 43 = .ok (.iload_n 1, 1) := dk_27 (dk_at dksX0_marksSent_1 19 rfl rfl)
theorem dX0_marksSent_44 : decode cX0_marksSent 44 = .ok (.ireturn, 1) := dk_172 (dk_at dksX0_marksSent_1 20 rfl rfl)
theorem q53 : (Jvm.Cond.initialized "EvenWords") ∈ lw_all := lw_g (lw_at lw_m1 1 rfl) rfl
theorem q94 : (Jvm.Cond.instantiable "EvenWords" (15 : Nat)) ∈ lw_all := lw_g (lw_at lw_m1 42 rfl) rfl
theorem q96 : (Jvm.Cond.instanceMethod ({ cls := "EvenWords", name := "<init>", desc := "()V" } : Jvm.MethodName)) ∈ lw_all := lw_g (lw_at lw_m1 44 rfl) rfl
theorem q97 : (Jvm.Cond.code ({ cls := "EvenWords", name := "<init>", desc := "()V" } : Jvm.MethodName) prog_1_method_4_code (5 : Nat) (Option.none : Option Jvm.ClassFile.FieldType)) ∈ lw_all := lw_g (lw_at lw_m1 45 rfl) rfl
theorem q98 : (Jvm.Cond.methodLink "EvenWords" (13 : Nat) ({ cls := "java/lang/Object", name := "<init>", desc := "()V" } : Jvm.MethodName)) ∈ lw_all := lw_g (lw_at lw_m1 46 rfl) rfl
theorem q101 : (Jvm.Cond.methodLink "EvenWords" (7 : Nat) ({ cls := "java/lang/Integer", name := "bitCount", desc := "(I)I" } : Jvm.MethodName)) ∈ lw_all := lw_g (lw_at lw_m1 49 rfl) rfl
theorem q107 : (Jvm.Cond.methodLink "EvenWords" (22 : Nat) ({ cls := "EvenWords", name := "formOf", desc := "(IZ)I" } : Jvm.MethodName)) ∈ lw_all := lw_g (lw_at lw_m1 55 rfl) rfl
theorem q108 : (Jvm.Cond.privateMethod ({ cls := "EvenWords", name := "formOf", desc := "(IZ)I" } : Jvm.MethodName)) ∈ lw_tbl := lw_at lw_m1 56 rfl
theorem q109 : (Jvm.Cond.instanceMethod ({ cls := "EvenWords", name := "formOf", desc := "(IZ)I" } : Jvm.MethodName)) ∈ lw_all := lw_g (lw_at lw_m1 57 rfl) rfl
theorem q110 : (Jvm.Cond.code ({ cls := "EvenWords", name := "formOf", desc := "(IZ)I" } : Jvm.MethodName) prog_1_method_2_code (3 : Nat) (Option.some Jvm.ClassFile.FieldType.int)) ∈ lw_all := lw_g (lw_at lw_m1 58 rfl) rfl
theorem q111 : (Jvm.Cond.classLink "EvenWords" (26 : Nat) "EvenWords$Wire") ∈ lw_all := lw_g (lw_at lw_m1 59 rfl) rfl
theorem q113 : (Jvm.Cond.methodLinkNest "EvenWords" (28 : Nat) ({ cls := "EvenWords$Wire", name := "<init>", desc := "(LEvenWords;)V" } : Jvm.MethodName) "EvenWords") ∈ lw_tbl := lw_at lw_m1 61 rfl
theorem q119 : (Jvm.Cond.fieldLinkNest "EvenWords" (121 : Nat) "EvenWords$Wire" "words" "I" "EvenWords") ∈ lw_tbl := lw_at lw_m1 67 rfl
theorem q121 : (Jvm.Cond.fieldLinkNest "EvenWords" (141 : Nat) "EvenWords$Wire" "sent" "[I" "EvenWords") ∈ lw_tbl := lw_at lw_m1 69 rfl
theorem q124 : (Jvm.Cond.fieldLinkNest "EvenWords" (137 : Nat) "EvenWords$Wire" "bits" "[Z" "EvenWords") ∈ lw_tbl := lw_at lw_m1 72 rfl
theorem q126 : (Jvm.Cond.fieldLinkNest "EvenWords" (290 : Nat) "EvenWords$Wire" "turned" "[Z" "EvenWords") ∈ lw_tbl := lw_at lw_m1 74 rfl
theorem q128 : (Jvm.Cond.fieldLinkNest "EvenWords" (265 : Nat) "EvenWords$Wire" "isAbove" "Z" "EvenWords") ∈ lw_tbl := lw_at lw_m1 76 rfl
theorem q130 : (Jvm.Cond.fieldLinkNest "EvenWords" (149 : Nat) "EvenWords$Wire" "marks" "[I" "EvenWords") ∈ lw_tbl := lw_at lw_m1 78 rfl
theorem q132 : (Jvm.Cond.fieldLinkNest "EvenWords" (146 : Nat) "EvenWords$Wire" "recent" "I" "EvenWords") ∈ lw_tbl := lw_at lw_m1 80 rfl
theorem q154 : (Jvm.Cond.classLink "EvenWords" (49 : Nat) "EvenWords$Sort") ∈ lw_all := lw_g (lw_at lw_m1 102 rfl) rfl
theorem q156 : (Jvm.Cond.privateMethod ({ cls := "EvenWords", name := "lambda$new$0", desc := "(LEvenWords$Piece;)Z" } : Jvm.MethodName)) ∈ lw_tbl := lw_at lw_m1 104 rfl
theorem q157 : (Jvm.Cond.instanceMethod ({ cls := "EvenWords", name := "lambda$new$0", desc := "(LEvenWords$Piece;)Z" } : Jvm.MethodName)) ∈ lw_all := lw_g (lw_at lw_m1 105 rfl) rfl
theorem q158 : (Jvm.Cond.code ({ cls := "EvenWords", name := "lambda$new$0", desc := "(LEvenWords$Piece;)Z" } : Jvm.MethodName) prog_1_method_42_code (2 : Nat) (Option.some Jvm.ClassFile.FieldType.boolean)) ∈ lw_all := lw_g (lw_at lw_m1 106 rfl) rfl
theorem q159 : (Jvm.Cond.privateMethod ({ cls := "EvenWords", name := "lambda$new$1", desc := "(LEvenWords$Piece;)Z" } : Jvm.MethodName)) ∈ lw_tbl := lw_at lw_m1 107 rfl
theorem q160 : (Jvm.Cond.instanceMethod ({ cls := "EvenWords", name := "lambda$new$1", desc := "(LEvenWords$Piece;)Z" } : Jvm.MethodName)) ∈ lw_all := lw_g (lw_at lw_m1 108 rfl) rfl
theorem q161 : (Jvm.Cond.code ({ cls := "EvenWords", name := "lambda$new$1", desc := "(LEvenWords$Piece;)Z" } : Jvm.MethodName) prog_1_method_41_code (2 : Nat) (Option.some Jvm.ClassFile.FieldType.boolean)) ∈ lw_all := lw_g (lw_at lw_m1 109 rfl) rfl
theorem q162 : (Jvm.Cond.static ({ cls := "EvenWords", name := "lambda$new$2", desc := "(LEvenWords$Piece;)Z" } : Jvm.MethodName)) ∈ lw_all := lw_g (lw_at lw_m1 110 rfl) rfl
theorem q163 : (Jvm.Cond.code ({ cls := "EvenWords", name := "lambda$new$2", desc := "(LEvenWords$Piece;)Z" } : Jvm.MethodName) prog_1_method_40_code (1 : Nat) (Option.some Jvm.ClassFile.FieldType.boolean)) ∈ lw_all := lw_g (lw_at lw_m1 111 rfl) rfl
theorem q164 : (Jvm.Cond.static ({ cls := "EvenWords", name := "lambda$new$3", desc := "(LEvenWords$Piece;)Z" } : Jvm.MethodName)) ∈ lw_all := lw_g (lw_at lw_m1 112 rfl) rfl
theorem q165 : (Jvm.Cond.code ({ cls := "EvenWords", name := "lambda$new$3", desc := "(LEvenWords$Piece;)Z" } : Jvm.MethodName) prog_1_method_39_code (1 : Nat) (Option.some Jvm.ClassFile.FieldType.boolean)) ∈ lw_all := lw_g (lw_at lw_m1 113 rfl) rfl
theorem q166 : (Jvm.Cond.fieldLink "EvenWords" (3 : Nat) "EvenWords" "forms" "[I") ∈ lw_all := lw_g (lw_at lw_m1 114 rfl) rfl
theorem q167 : (Jvm.Cond.fieldLink "EvenWords" (19 : Nat) "EvenWords" "meaning" "[I") ∈ lw_all := lw_g (lw_at lw_m1 115 rfl) rfl
theorem q168 : (Jvm.Cond.fieldLink "EvenWords" (31 : Nat) "EvenWords" "now" "LEvenWords$Wire;") ∈ lw_all := lw_g (lw_at lw_m1 116 rfl) rfl
theorem q170 : (Jvm.Cond.fieldLink "EvenWords" (35 : Nat) "EvenWords" "trial" "LEvenWords$Wire;") ∈ lw_all := lw_g (lw_at lw_m1 118 rfl) rfl
theorem q171 : (Jvm.Cond.fieldLink "EvenWords" (38 : Nat) "EvenWords" "done" "[LEvenWords$Wire;") ∈ lw_all := lw_g (lw_at lw_m1 119 rfl) rfl
theorem q172 : (Jvm.Cond.fieldLink "EvenWords" (70 : Nat) "EvenWords" "doneMany" "I") ∈ lw_all := lw_g (lw_at lw_m1 120 rfl) rfl
theorem q173 : (Jvm.Cond.fieldLink "EvenWords" (42 : Nat) "EvenWords" "kept" "[LEvenWords$Wire;") ∈ lw_all := lw_g (lw_at lw_m1 121 rfl) rfl
theorem q175 : (Jvm.Cond.fieldLink "EvenWords" (45 : Nat) "EvenWords" "text" "[B") ∈ lw_all := lw_g (lw_at lw_m1 123 rfl) rfl
theorem q177 : (Jvm.Cond.fieldLink "EvenWords" (88 : Nat) "EvenWords" "typed" "I") ∈ lw_all := lw_g (lw_at lw_m1 125 rfl) rfl
theorem q178 : (Jvm.Cond.fieldLink "EvenWords" (60 : Nat) "EvenWords" "sorts" "[LEvenWords$Sort;") ∈ lw_all := lw_g (lw_at lw_m1 126 rfl) rfl
theorem q179 : (Jvm.Cond.fieldLink "EvenWords" (213 : Nat) "EvenWords" "blamed" "I") ∈ lw_all := lw_g (lw_at lw_m1 127 rfl) rfl
theorem q180 : (Jvm.Cond.fieldLink "EvenWords" (216 : Nat) "EvenWords" "lowest" "I") ∈ lw_all := lw_g (lw_at lw_m1 128 rfl) rfl
theorem q181 : (Jvm.Cond.fieldLink "EvenWords" (64 : Nat) "EvenWords" "order" "[I") ∈ lw_all := lw_g (lw_at lw_m1 129 rfl) rfl
theorem q182 : (Jvm.Cond.fieldLink "EvenWords" (67 : Nat) "EvenWords" "best" "[I") ∈ lw_all := lw_g (lw_at lw_m1 130 rfl) rfl
theorem q183 : (Jvm.Cond.fieldLink "EvenWords" (272 : Nat) "EvenWords" "least" "I") ∈ lw_all := lw_g (lw_at lw_m1 131 rfl) rfl
theorem q184 : (Jvm.Cond.laysFinal "EvenWords" "EvenWords" "forms" "[I") ∈ lw_all := lw_g (lw_at lw_m1 132 rfl) rfl
theorem q185 : (Jvm.Cond.soleField "EvenWords" "forms") ∈ lw_all := lw_g (lw_at lw_m1 133 rfl) rfl
theorem q186 : (Jvm.Cond.laysFinal "EvenWords" "EvenWords" "meaning" "[I") ∈ lw_all := lw_g (lw_at lw_m1 134 rfl) rfl
theorem q187 : (Jvm.Cond.soleField "EvenWords" "meaning") ∈ lw_all := lw_g (lw_at lw_m1 135 rfl) rfl
theorem q188 : (Jvm.Cond.lays "EvenWords" "EvenWords" "now" "LEvenWords$Wire;") ∈ lw_all := lw_g (lw_at lw_m1 136 rfl) rfl
theorem q189 : (Jvm.Cond.soleField "EvenWords" "now") ∈ lw_all := lw_g (lw_at lw_m1 137 rfl) rfl
theorem q190 : (Jvm.Cond.laysFinal "EvenWords" "EvenWords" "trial" "LEvenWords$Wire;") ∈ lw_all := lw_g (lw_at lw_m1 138 rfl) rfl
theorem q191 : (Jvm.Cond.soleField "EvenWords" "trial") ∈ lw_all := lw_g (lw_at lw_m1 139 rfl) rfl
theorem q192 : (Jvm.Cond.laysFinal "EvenWords" "EvenWords" "done" "[LEvenWords$Wire;") ∈ lw_all := lw_g (lw_at lw_m1 140 rfl) rfl
theorem q193 : (Jvm.Cond.soleField "EvenWords" "done") ∈ lw_all := lw_g (lw_at lw_m1 141 rfl) rfl
theorem q194 : (Jvm.Cond.lays "EvenWords" "EvenWords" "doneMany" "I") ∈ lw_all := lw_g (lw_at lw_m1 142 rfl) rfl
theorem q195 : (Jvm.Cond.soleField "EvenWords" "doneMany") ∈ lw_all := lw_g (lw_at lw_m1 143 rfl) rfl
theorem q196 : (Jvm.Cond.laysFinal "EvenWords" "EvenWords" "kept" "[LEvenWords$Wire;") ∈ lw_all := lw_g (lw_at lw_m1 144 rfl) rfl
theorem q197 : (Jvm.Cond.soleField "EvenWords" "kept") ∈ lw_all := lw_g (lw_at lw_m1 145 rfl) rfl
theorem q198 : (Jvm.Cond.laysFinal "EvenWords" "EvenWords" "text" "[B") ∈ lw_all := lw_g (lw_at lw_m1 146 rfl) rfl
theorem q199 : (Jvm.Cond.soleField "EvenWords" "text") ∈ lw_all := lw_g (lw_at lw_m1 147 rfl) rfl
theorem q200 : (Jvm.Cond.lays "EvenWords" "EvenWords" "typed" "I") ∈ lw_all := lw_g (lw_at lw_m1 148 rfl) rfl
theorem q201 : (Jvm.Cond.soleField "EvenWords" "typed") ∈ lw_all := lw_g (lw_at lw_m1 149 rfl) rfl
theorem q202 : (Jvm.Cond.laysFinal "EvenWords" "EvenWords" "sorts" "[LEvenWords$Sort;") ∈ lw_all := lw_g (lw_at lw_m1 150 rfl) rfl
theorem q203 : (Jvm.Cond.soleField "EvenWords" "sorts") ∈ lw_all := lw_g (lw_at lw_m1 151 rfl) rfl
theorem q204 : (Jvm.Cond.lays "EvenWords" "EvenWords" "blamed" "I") ∈ lw_all := lw_g (lw_at lw_m1 152 rfl) rfl
theorem q205 : (Jvm.Cond.soleField "EvenWords" "blamed") ∈ lw_all := lw_g (lw_at lw_m1 153 rfl) rfl
theorem q206 : (Jvm.Cond.lays "EvenWords" "EvenWords" "lowest" "I") ∈ lw_all := lw_g (lw_at lw_m1 154 rfl) rfl
theorem q207 : (Jvm.Cond.soleField "EvenWords" "lowest") ∈ lw_all := lw_g (lw_at lw_m1 155 rfl) rfl
theorem q208 : (Jvm.Cond.laysFinal "EvenWords" "EvenWords" "order" "[I") ∈ lw_all := lw_g (lw_at lw_m1 156 rfl) rfl
theorem q209 : (Jvm.Cond.soleField "EvenWords" "order") ∈ lw_all := lw_g (lw_at lw_m1 157 rfl) rfl
theorem q210 : (Jvm.Cond.laysFinal "EvenWords" "EvenWords" "best" "[I") ∈ lw_all := lw_g (lw_at lw_m1 158 rfl) rfl
theorem q211 : (Jvm.Cond.soleField "EvenWords" "best") ∈ lw_all := lw_g (lw_at lw_m1 159 rfl) rfl
theorem q212 : (Jvm.Cond.lays "EvenWords" "EvenWords" "least" "I") ∈ lw_all := lw_g (lw_at lw_m1 160 rfl) rfl
theorem q213 : (Jvm.Cond.soleField "EvenWords" "least") ∈ lw_all := lw_g (lw_at lw_m1 161 rfl) rfl
theorem q214 : (Jvm.Cond.superclass "EvenWords" "java/lang/Object") ∈ lw_all := lw_g (lw_at lw_m1 162 rfl) rfl
theorem q217 : (Jvm.Cond.instanceMethod ({ cls := "EvenWords", name := "type", desc := "(I)I" } : Jvm.MethodName)) ∈ lw_all := lw_g (lw_at lw_m1 165 rfl) rfl
theorem q218 : (Jvm.Cond.selects "EvenWords" ({ cls := "EvenWords", name := "type", desc := "(I)I" } : Jvm.MethodName) ({ cls := "EvenWords", name := "type", desc := "(I)I" } : Jvm.MethodName)) ∈ lw_all := lw_g (lw_at lw_m1 166 rfl) rfl
theorem q219 : (Jvm.Cond.code ({ cls := "EvenWords", name := "type", desc := "(I)I" } : Jvm.MethodName) prog_1_method_6_code (2 : Nat) (Option.some Jvm.ClassFile.FieldType.int)) ∈ lw_all := lw_g (lw_at lw_m1 167 rfl) rfl
theorem q220 : (Jvm.Cond.methodLink "EvenWords" (84 : Nat) ({ cls := "EvenWords", name := "in", desc := "(III)Z" } : Jvm.MethodName)) ∈ lw_all := lw_g (lw_at lw_m1 168 rfl) rfl
theorem q221 : (Jvm.Cond.static ({ cls := "EvenWords", name := "in", desc := "(III)Z" } : Jvm.MethodName)) ∈ lw_all := lw_g (lw_at lw_m1 169 rfl) rfl
theorem q222 : (Jvm.Cond.code ({ cls := "EvenWords", name := "in", desc := "(III)Z" } : Jvm.MethodName) prog_1_method_1_code (3 : Nat) (Option.some Jvm.ClassFile.FieldType.boolean)) ∈ lw_all := lw_g (lw_at lw_m1 170 rfl) rfl
theorem q224 : (Jvm.Cond.instanceMethod ({ cls := "EvenWords", name := "clear", desc := "()I" } : Jvm.MethodName)) ∈ lw_all := lw_g (lw_at lw_m1 172 rfl) rfl
theorem q225 : (Jvm.Cond.selects "EvenWords" ({ cls := "EvenWords", name := "clear", desc := "()I" } : Jvm.MethodName) ({ cls := "EvenWords", name := "clear", desc := "()I" } : Jvm.MethodName)) ∈ lw_all := lw_g (lw_at lw_m1 173 rfl) rfl
theorem q226 : (Jvm.Cond.code ({ cls := "EvenWords", name := "clear", desc := "()I" } : Jvm.MethodName) prog_1_method_7_code (2 : Nat) (Option.some Jvm.ClassFile.FieldType.int)) ∈ lw_all := lw_g (lw_at lw_m1 174 rfl) rfl
theorem q228 : (Jvm.Cond.instanceMethod ({ cls := "EvenWords", name := "tells", desc := "()I" } : Jvm.MethodName)) ∈ lw_all := lw_g (lw_at lw_m1 176 rfl) rfl
theorem q229 : (Jvm.Cond.selects "EvenWords" ({ cls := "EvenWords", name := "tells", desc := "()I" } : Jvm.MethodName) ({ cls := "EvenWords", name := "tells", desc := "()I" } : Jvm.MethodName)) ∈ lw_all := lw_g (lw_at lw_m1 177 rfl) rfl
theorem q230 : (Jvm.Cond.codeWith ({ cls := "EvenWords", name := "tells", desc := "()I" } : Jvm.MethodName) prog_1_method_8_code (3 : Nat) (Option.some Jvm.ClassFile.FieldType.int) [((0 : Nat), (12 : Nat), (15 : Nat), (98 : Nat))]) ∈ lw_all := lw_g (lw_at lw_m1 178 rfl) rfl
theorem q231 : (Jvm.Cond.classLink "EvenWords" (98 : Nat) "EvenWords$Unsent") ∈ lw_all := lw_g (lw_at lw_m1 179 rfl) rfl
theorem q232 : (Jvm.Cond.classLink "EvenWords" (91 : Nat) "EvenWords$Reader") ∈ lw_all := lw_g (lw_at lw_m1 180 rfl) rfl
theorem q234 : (Jvm.Cond.methodLinkNest "EvenWords" (93 : Nat) ({ cls := "EvenWords$Reader", name := "<init>", desc := "(LEvenWords;)V" } : Jvm.MethodName) "EvenWords") ∈ lw_tbl := lw_at lw_m1 182 rfl
theorem q243 : (Jvm.Cond.fieldLinkNest "EvenWords" (115 : Nat) "EvenWords$Reader" "items" "[I" "EvenWords") ∈ lw_tbl := lw_at lw_m1 191 rfl
theorem q245 : (Jvm.Cond.fieldLinkNest "EvenWords" (112 : Nat) "EvenWords$Reader" "many" "I" "EvenWords") ∈ lw_tbl := lw_at lw_m1 193 rfl
theorem q262 : (Jvm.Cond.methodLink "EvenWords" (94 : Nat) ({ cls := "EvenWords$Reader", name := "read", desc := "()LEvenWords$Reader;" } : Jvm.MethodName)) ∈ lw_all := lw_g (lw_at lw_m1 210 rfl) rfl
theorem q336 : (Jvm.Cond.fieldLinkNest "EvenWords" (106 : Nat) "EvenWords$Amiss" "at" "I" "EvenWords") ∈ lw_tbl := lw_at lw_m2 44 rfl
theorem q372 : (Jvm.Cond.methodLink "EvenWords" (100 : Nat) ({ cls := "EvenWords$Unsent", name := "getCause", desc := "()Ljava/lang/Throwable;" } : Jvm.MethodName)) ∈ lw_all := lw_g (lw_at lw_m2 80 rfl) rfl
theorem q378 : (Jvm.Cond.classLink "EvenWords" (104 : Nat) "EvenWords$Amiss") ∈ lw_all := lw_g (lw_at lw_m2 86 rfl) rfl
theorem q379 : (Jvm.Cond.methodLink "EvenWords" (109 : Nat) ({ cls := "EvenWords", name := "notes", desc := "()V" } : Jvm.MethodName)) ∈ lw_all := lw_g (lw_at lw_m2 87 rfl) rfl
theorem q380 : (Jvm.Cond.privateMethod ({ cls := "EvenWords", name := "notes", desc := "()V" } : Jvm.MethodName)) ∈ lw_tbl := lw_at lw_m2 88 rfl
theorem q381 : (Jvm.Cond.instanceMethod ({ cls := "EvenWords", name := "notes", desc := "()V" } : Jvm.MethodName)) ∈ lw_all := lw_g (lw_at lw_m2 89 rfl) rfl
theorem q382 : (Jvm.Cond.code ({ cls := "EvenWords", name := "notes", desc := "()V" } : Jvm.MethodName) prog_1_method_5_code (1 : Nat) (Option.none : Option Jvm.ClassFile.FieldType)) ∈ lw_all := lw_g (lw_at lw_m2 90 rfl) rfl
theorem q383 : (Jvm.Cond.methodLink "EvenWords" (74 : Nat) ({ cls := "java/lang/System", name := "arraycopy", desc := "(Ljava/lang/Object;ILjava/lang/Object;II)V" } : Jvm.MethodName)) ∈ lw_all := lw_g (lw_at lw_m2 91 rfl) rfl
theorem q386 : (Jvm.Cond.methodLink "EvenWords" (80 : Nat) ({ cls := "EvenWords$Wire", name := "as", desc := "(LEvenWords$Wire;)LEvenWords$Wire;" } : Jvm.MethodName)) ∈ lw_all := lw_g (lw_at lw_m2 94 rfl) rfl
theorem q391 : (Jvm.Cond.methodLink "EvenWords" (118 : Nat) ({ cls := "EvenWords$Wire", name := "sends", desc := "(I)I" } : Jvm.MethodName)) ∈ lw_all := lw_g (lw_at lw_m2 99 rfl) rfl
theorem q401 : (Jvm.Cond.static ({ cls := "EvenWords", name := "isAbove", desc := "(IZ)Z" } : Jvm.MethodName)) ∈ lw_all := lw_g (lw_at lw_m2 109 rfl) rfl
theorem q402 : (Jvm.Cond.code ({ cls := "EvenWords", name := "isAbove", desc := "(IZ)Z" } : Jvm.MethodName) prog_1_method_3_code (3 : Nat) (Option.some Jvm.ClassFile.FieldType.boolean)) ∈ lw_all := lw_g (lw_at lw_m2 110 rfl) rfl
theorem q408 : (Jvm.Cond.instanceMethod ({ cls := "EvenWords", name := "sends", desc := "(I)I" } : Jvm.MethodName)) ∈ lw_all := lw_g (lw_at lw_m2 116 rfl) rfl
theorem q409 : (Jvm.Cond.selects "EvenWords" ({ cls := "EvenWords", name := "sends", desc := "(I)I" } : Jvm.MethodName) ({ cls := "EvenWords", name := "sends", desc := "(I)I" } : Jvm.MethodName)) ∈ lw_all := lw_g (lw_at lw_m2 117 rfl) rfl
theorem q410 : (Jvm.Cond.code ({ cls := "EvenWords", name := "sends", desc := "(I)I" } : Jvm.MethodName) prog_1_method_10_code (2 : Nat) (Option.some Jvm.ClassFile.FieldType.int)) ∈ lw_all := lw_g (lw_at lw_m2 118 rfl) rfl
theorem q411 : (Jvm.Cond.methodLink "EvenWords" (124 : Nat) ({ cls := "EvenWords", name := "sent", desc := "(I)I" } : Jvm.MethodName)) ∈ lw_all := lw_g (lw_at lw_m2 119 rfl) rfl
theorem q412 : (Jvm.Cond.privateMethod ({ cls := "EvenWords", name := "sent", desc := "(I)I" } : Jvm.MethodName)) ∈ lw_tbl := lw_at lw_m2 120 rfl
theorem q413 : (Jvm.Cond.instanceMethod ({ cls := "EvenWords", name := "sent", desc := "(I)I" } : Jvm.MethodName)) ∈ lw_all := lw_g (lw_at lw_m2 121 rfl) rfl
theorem q414 : (Jvm.Cond.code ({ cls := "EvenWords", name := "sent", desc := "(I)I" } : Jvm.MethodName) prog_1_method_9_code (2 : Nat) (Option.some Jvm.ClassFile.FieldType.int)) ∈ lw_all := lw_g (lw_at lw_m2 122 rfl) rfl
theorem q416 : (Jvm.Cond.instanceMethod ({ cls := "EvenWords", name := "marks", desc := "(I)I" } : Jvm.MethodName)) ∈ lw_all := lw_g (lw_at lw_m2 124 rfl) rfl
theorem q417 : (Jvm.Cond.selects "EvenWords" ({ cls := "EvenWords", name := "marks", desc := "(I)I" } : Jvm.MethodName) ({ cls := "EvenWords", name := "marks", desc := "(I)I" } : Jvm.MethodName)) ∈ lw_all := lw_g (lw_at lw_m2 125 rfl) rfl
theorem q418 : (Jvm.Cond.code ({ cls := "EvenWords", name := "marks", desc := "(I)I" } : Jvm.MethodName) prog_1_method_11_code (2 : Nat) (Option.some Jvm.ClassFile.FieldType.int)) ∈ lw_all := lw_g (lw_at lw_m2 126 rfl) rfl
theorem q420 : (Jvm.Cond.instanceMethod ({ cls := "EvenWords", name := "flips", desc := "(I)I" } : Jvm.MethodName)) ∈ lw_all := lw_g (lw_at lw_m2 128 rfl) rfl
theorem q421 : (Jvm.Cond.selects "EvenWords" ({ cls := "EvenWords", name := "flips", desc := "(I)I" } : Jvm.MethodName) ({ cls := "EvenWords", name := "flips", desc := "(I)I" } : Jvm.MethodName)) ∈ lw_all := lw_g (lw_at lw_m2 129 rfl) rfl
theorem q422 : (Jvm.Cond.code ({ cls := "EvenWords", name := "flips", desc := "(I)I" } : Jvm.MethodName) prog_1_method_13_code (2 : Nat) (Option.some Jvm.ClassFile.FieldType.int)) ∈ lw_all := lw_g (lw_at lw_m2 130 rfl) rfl
theorem q423 : (Jvm.Cond.methodLink "EvenWords" (130 : Nat) ({ cls := "EvenWords", name := "isBit", desc := "(I)Z" } : Jvm.MethodName)) ∈ lw_all := lw_g (lw_at lw_m2 131 rfl) rfl
theorem q424 : (Jvm.Cond.privateMethod ({ cls := "EvenWords", name := "isBit", desc := "(I)Z" } : Jvm.MethodName)) ∈ lw_tbl := lw_at lw_m2 132 rfl
theorem q425 : (Jvm.Cond.instanceMethod ({ cls := "EvenWords", name := "isBit", desc := "(I)Z" } : Jvm.MethodName)) ∈ lw_all := lw_g (lw_at lw_m2 133 rfl) rfl
theorem q426 : (Jvm.Cond.code ({ cls := "EvenWords", name := "isBit", desc := "(I)Z" } : Jvm.MethodName) prog_1_method_12_code (2 : Nat) (Option.some Jvm.ClassFile.FieldType.boolean)) ∈ lw_all := lw_g (lw_at lw_m2 134 rfl) rfl
theorem q427 : (Jvm.Cond.methodLink "EvenWords" (127 : Nat) ({ cls := "EvenWords$Wire", name := "many", desc := "()I" } : Jvm.MethodName)) ∈ lw_all := lw_g (lw_at lw_m2 135 rfl) rfl
theorem q428 : (Jvm.Cond.methodLink "EvenWords" (134 : Nat) ({ cls := "EvenWords$Wire", name := "turns", desc := "(I)I" } : Jvm.MethodName)) ∈ lw_all := lw_g (lw_at lw_m2 136 rfl) rfl
theorem q433 : (Jvm.Cond.instanceMethod ({ cls := "EvenWords", name := "clears", desc := "()I" } : Jvm.MethodName)) ∈ lw_all := lw_g (lw_at lw_m2 141 rfl) rfl
theorem q434 : (Jvm.Cond.selects "EvenWords" ({ cls := "EvenWords", name := "clears", desc := "()I" } : Jvm.MethodName) ({ cls := "EvenWords", name := "clears", desc := "()I" } : Jvm.MethodName)) ∈ lw_all := lw_g (lw_at lw_m2 142 rfl) rfl
theorem q435 : (Jvm.Cond.code ({ cls := "EvenWords", name := "clears", desc := "()I" } : Jvm.MethodName) prog_1_method_14_code (2 : Nat) (Option.some Jvm.ClassFile.FieldType.int)) ∈ lw_all := lw_g (lw_at lw_m2 143 rfl) rfl
theorem q437 : (Jvm.Cond.instanceMethod ({ cls := "EvenWords", name := "undo", desc := "()I" } : Jvm.MethodName)) ∈ lw_all := lw_g (lw_at lw_m2 145 rfl) rfl
theorem q438 : (Jvm.Cond.selects "EvenWords" ({ cls := "EvenWords", name := "undo", desc := "()I" } : Jvm.MethodName) ({ cls := "EvenWords", name := "undo", desc := "()I" } : Jvm.MethodName)) ∈ lw_all := lw_g (lw_at lw_m2 146 rfl) rfl
theorem q439 : (Jvm.Cond.code ({ cls := "EvenWords", name := "undo", desc := "()I" } : Jvm.MethodName) prog_1_method_15_code (1 : Nat) (Option.some Jvm.ClassFile.FieldType.int)) ∈ lw_all := lw_g (lw_at lw_m2 147 rfl) rfl
theorem q441 : (Jvm.Cond.instanceMethod ({ cls := "EvenWords", name := "form", desc := "(II)I" } : Jvm.MethodName)) ∈ lw_all := lw_g (lw_at lw_m2 149 rfl) rfl
theorem q442 : (Jvm.Cond.selects "EvenWords" ({ cls := "EvenWords", name := "form", desc := "(II)I" } : Jvm.MethodName) ({ cls := "EvenWords", name := "form", desc := "(II)I" } : Jvm.MethodName)) ∈ lw_all := lw_g (lw_at lw_m2 150 rfl) rfl
theorem q443 : (Jvm.Cond.code ({ cls := "EvenWords", name := "form", desc := "(II)I" } : Jvm.MethodName) prog_1_method_16_code (3 : Nat) (Option.some Jvm.ClassFile.FieldType.int)) ∈ lw_all := lw_g (lw_at lw_m2 151 rfl) rfl
theorem q445 : (Jvm.Cond.instanceMethod ({ cls := "EvenWords", name := "bit", desc := "(I)I" } : Jvm.MethodName)) ∈ lw_all := lw_g (lw_at lw_m2 153 rfl) rfl
theorem q446 : (Jvm.Cond.selects "EvenWords" ({ cls := "EvenWords", name := "bit", desc := "(I)I" } : Jvm.MethodName) ({ cls := "EvenWords", name := "bit", desc := "(I)I" } : Jvm.MethodName)) ∈ lw_all := lw_g (lw_at lw_m2 154 rfl) rfl
theorem q447 : (Jvm.Cond.code ({ cls := "EvenWords", name := "bit", desc := "(I)I" } : Jvm.MethodName) prog_1_method_17_code (2 : Nat) (Option.some Jvm.ClassFile.FieldType.int)) ∈ lw_all := lw_g (lw_at lw_m2 155 rfl) rfl
theorem q449 : (Jvm.Cond.instanceMethod ({ cls := "EvenWords", name := "word", desc := "(I)I" } : Jvm.MethodName)) ∈ lw_all := lw_g (lw_at lw_m2 157 rfl) rfl
theorem q450 : (Jvm.Cond.selects "EvenWords" ({ cls := "EvenWords", name := "word", desc := "(I)I" } : Jvm.MethodName) ({ cls := "EvenWords", name := "word", desc := "(I)I" } : Jvm.MethodName)) ∈ lw_all := lw_g (lw_at lw_m2 158 rfl) rfl
theorem q451 : (Jvm.Cond.code ({ cls := "EvenWords", name := "word", desc := "(I)I" } : Jvm.MethodName) prog_1_method_18_code (2 : Nat) (Option.some Jvm.ClassFile.FieldType.int)) ∈ lw_all := lw_g (lw_at lw_m2 159 rfl) rfl
theorem q453 : (Jvm.Cond.instanceMethod ({ cls := "EvenWords", name := "recent", desc := "(I)I" } : Jvm.MethodName)) ∈ lw_all := lw_g (lw_at lw_m2 161 rfl) rfl
theorem q454 : (Jvm.Cond.selects "EvenWords" ({ cls := "EvenWords", name := "recent", desc := "(I)I" } : Jvm.MethodName) ({ cls := "EvenWords", name := "recent", desc := "(I)I" } : Jvm.MethodName)) ∈ lw_all := lw_g (lw_at lw_m2 162 rfl) rfl
theorem q455 : (Jvm.Cond.code ({ cls := "EvenWords", name := "recent", desc := "(I)I" } : Jvm.MethodName) prog_1_method_19_code (6 : Nat) (Option.some Jvm.ClassFile.FieldType.int)) ∈ lw_all := lw_g (lw_at lw_m2 163 rfl) rfl
theorem q456 : (Jvm.Cond.classLink "EvenWords" (143 : Nat) "java/util/LinkedHashMap") ∈ lw_all := lw_g (lw_at lw_m2 164 rfl) rfl
theorem q458 : (Jvm.Cond.methodLink "EvenWords" (145 : Nat) ({ cls := "java/util/LinkedHashMap", name := "<init>", desc := "()V" } : Jvm.MethodName)) ∈ lw_all := lw_g (lw_at lw_m2 166 rfl) rfl
theorem q510 : (Jvm.Cond.methodLink "EvenWords" (152 : Nat) ({ cls := "java/lang/Integer", name := "valueOf", desc := "(I)Ljava/lang/Integer;" } : Jvm.MethodName)) ∈ lw_all := lw_g (lw_at lw_m2 218 rfl) rfl
theorem q530 : (Jvm.Cond.methodLink "EvenWords" (156 : Nat) ({ cls := "java/util/LinkedHashMap", name := "put", desc := "(Ljava/lang/Object;Ljava/lang/Object;)Ljava/lang/Object;" } : Jvm.MethodName)) ∈ lw_all := lw_g (lw_at lw_m2 238 rfl) rfl
theorem q543 : (Jvm.Cond.selects "EvenWords" ({ cls := "java/lang/Object", name := "hashCode", desc := "()I" } : Jvm.MethodName) ({ cls := "java/lang/Object", name := "hashCode", desc := "()I" } : Jvm.MethodName)) ∈ lw_all := lw_g (lw_at lw_m3 11 rfl) rfl
theorem q724 : (Jvm.Cond.selects "EvenWords" ({ cls := "java/lang/Object", name := "getClass", desc := "()Ljava/lang/Class;" } : Jvm.MethodName) ({ cls := "java/lang/Object", name := "getClass", desc := "()Ljava/lang/Class;" } : Jvm.MethodName)) ∈ lw_all := lw_g (lw_at lw_m3 192 rfl) rfl
theorem q948 : (Jvm.Cond.selects "EvenWords" ({ cls := "java/lang/Object", name := "equals", desc := "(Ljava/lang/Object;)Z" } : Jvm.MethodName) ({ cls := "java/lang/Object", name := "equals", desc := "(Ljava/lang/Object;)Z" } : Jvm.MethodName)) ∈ lw_all := lw_g (lw_at lw_m4 176 rfl) rfl
theorem q1055 : (Jvm.Cond.methodLink "EvenWords" (160 : Nat) ({ cls := "java/util/LinkedHashMap", name := "keySet", desc := "()Ljava/util/Set;" } : Jvm.MethodName)) ∈ lw_all := lw_g (lw_at lw_m5 43 rfl) rfl
theorem q1083 : (Jvm.Cond.interfaceEntry "EvenWords" (164 : Nat)) ∈ lw_tbl := lw_at lw_m5 71 rfl
theorem q1084 : (Jvm.Cond.methodLink "EvenWords" (164 : Nat) ({ cls := "java/util/Set", name := "iterator", desc := "()Ljava/util/Iterator;" } : Jvm.MethodName)) ∈ lw_all := lw_g (lw_at lw_m5 72 rfl) rfl
theorem q1118 : (Jvm.Cond.interfaceEntry "EvenWords" (170 : Nat)) ∈ lw_tbl := lw_at lw_m5 106 rfl
theorem q1119 : (Jvm.Cond.methodLink "EvenWords" (170 : Nat) ({ cls := "java/util/Iterator", name := "hasNext", desc := "()Z" } : Jvm.MethodName)) ∈ lw_all := lw_g (lw_at lw_m5 107 rfl) rfl
theorem q1135 : (Jvm.Cond.interfaceEntry "EvenWords" (176 : Nat)) ∈ lw_tbl := lw_at lw_m5 123 rfl
theorem q1136 : (Jvm.Cond.methodLink "EvenWords" (176 : Nat) ({ cls := "java/util/Iterator", name := "next", desc := "()Ljava/lang/Object;" } : Jvm.MethodName)) ∈ lw_all := lw_g (lw_at lw_m5 124 rfl) rfl
theorem q1160 : (Jvm.Cond.fieldLinkNest "EvenWords" (186 : Nat) "EvenWords$Piece" "word" "I" "EvenWords") ∈ lw_tbl := lw_at lw_m5 148 rfl
theorem q1162 : (Jvm.Cond.fieldLinkNest "EvenWords" (307 : Nat) "EvenWords$Piece" "wasAbove" "Z" "EvenWords") ∈ lw_tbl := lw_at lw_m5 150 rfl
theorem q1165 : (Jvm.Cond.fieldLinkNest "EvenWords" (195 : Nat) "EvenWords$Piece" "isAbove" "Z" "EvenWords") ∈ lw_tbl := lw_at lw_m5 153 rfl
theorem q1167 : (Jvm.Cond.fieldLinkNest "EvenWords" (304 : Nat) "EvenWords$Piece" "run" "I" "EvenWords") ∈ lw_tbl := lw_at lw_m5 155 rfl
theorem q1169 : (Jvm.Cond.fieldLinkNest "EvenWords" (300 : Nat) "EvenWords$Piece" "highest" "I" "EvenWords") ∈ lw_tbl := lw_at lw_m5 157 rfl
theorem q1171 : (Jvm.Cond.fieldLinkNest "EvenWords" (303 : Nat) "EvenWords$Piece" "lowest" "I" "EvenWords") ∈ lw_tbl := lw_at lw_m5 159 rfl
theorem q1203 : (Jvm.Cond.classLink "EvenWords" (8 : Nat) "java/lang/Integer") ∈ lw_all := lw_g (lw_at lw_m5 191 rfl) rfl
theorem q1204 : (Jvm.Cond.methodLink "EvenWords" (180 : Nat) ({ cls := "java/lang/Integer", name := "intValue", desc := "()I" } : Jvm.MethodName)) ∈ lw_all := lw_g (lw_at lw_m5 192 rfl) rfl
theorem q1206 : (Jvm.Cond.instanceMethod ({ cls := "EvenWords", name := "piece", desc := "(IIII)I" } : Jvm.MethodName)) ∈ lw_all := lw_g (lw_at lw_m5 194 rfl) rfl
theorem q1207 : (Jvm.Cond.selects "EvenWords" ({ cls := "EvenWords", name := "piece", desc := "(IIII)I" } : Jvm.MethodName) ({ cls := "EvenWords", name := "piece", desc := "(IIII)I" } : Jvm.MethodName)) ∈ lw_all := lw_g (lw_at lw_m5 195 rfl) rfl
theorem q1208 : (Jvm.Cond.code ({ cls := "EvenWords", name := "piece", desc := "(IIII)I" } : Jvm.MethodName) prog_1_method_23_code (8 : Nat) (Option.some Jvm.ClassFile.FieldType.int)) ∈ lw_all := lw_g (lw_at lw_m5 196 rfl) rfl
theorem q1209 : (Jvm.Cond.methodLink "EvenWords" (199 : Nat) ({ cls := "EvenWords", name := "isRead", desc := "(II)Z" } : Jvm.MethodName)) ∈ lw_all := lw_g (lw_at lw_m5 197 rfl) rfl
theorem q1210 : (Jvm.Cond.static ({ cls := "EvenWords", name := "isRead", desc := "(II)Z" } : Jvm.MethodName)) ∈ lw_all := lw_g (lw_at lw_m5 198 rfl) rfl
theorem q1211 : (Jvm.Cond.code ({ cls := "EvenWords", name := "isRead", desc := "(II)Z" } : Jvm.MethodName) prog_1_method_21_code (2 : Nat) (Option.some Jvm.ClassFile.FieldType.boolean)) ∈ lw_all := lw_g (lw_at lw_m5 199 rfl) rfl
theorem q1212 : (Jvm.Cond.classLink "EvenWords" (203 : Nat) "EvenWords$Read") ∈ lw_all := lw_g (lw_at lw_m5 200 rfl) rfl
theorem q1214 : (Jvm.Cond.methodLink "EvenWords" (205 : Nat) ({ cls := "EvenWords$Read", name := "<init>", desc := "(LEvenWords;LEvenWords$Wire;IZ)V" } : Jvm.MethodName)) ∈ lw_all := lw_g (lw_at lw_m5 202 rfl) rfl
theorem q1222 : (Jvm.Cond.fieldLinkNest "EvenWords" (219 : Nat) "EvenWords$Read" "from" "I" "EvenWords") ∈ lw_tbl := lw_at lw_m5 210 rfl
theorem q1225 : (Jvm.Cond.fieldLinkNest "EvenWords" (222 : Nat) "EvenWords$Read" "isAbove" "Z" "EvenWords") ∈ lw_tbl := lw_at lw_m5 213 rfl
theorem q1236 : (Jvm.Cond.methodLink "EvenWords" (208 : Nat) ({ cls := "EvenWords$Read", name := "iterator", desc := "()Ljava/util/Iterator;" } : Jvm.MethodName)) ∈ lw_all := lw_g (lw_at lw_m5 224 rfl) rfl
theorem q1262 : (Jvm.Cond.classLink "EvenWords" (187 : Nat) "EvenWords$Piece") ∈ lw_all := lw_g (lw_at lw_m6 10 rfl) rfl
theorem q1263 : (Jvm.Cond.methodLink "EvenWords" (209 : Nat) ({ cls := "EvenWords", name := "toldOf", desc := "(LEvenWords$Piece;I)I" } : Jvm.MethodName)) ∈ lw_all := lw_g (lw_at lw_m6 11 rfl) rfl
theorem q1264 : (Jvm.Cond.privateMethod ({ cls := "EvenWords", name := "toldOf", desc := "(LEvenWords$Piece;I)I" } : Jvm.MethodName)) ∈ lw_tbl := lw_at lw_m6 12 rfl
theorem q1265 : (Jvm.Cond.instanceMethod ({ cls := "EvenWords", name := "toldOf", desc := "(LEvenWords$Piece;I)I" } : Jvm.MethodName)) ∈ lw_all := lw_g (lw_at lw_m6 13 rfl) rfl
theorem q1266 : (Jvm.Cond.code ({ cls := "EvenWords", name := "toldOf", desc := "(LEvenWords$Piece;I)I" } : Jvm.MethodName) prog_1_method_22_code (3 : Nat) (Option.some Jvm.ClassFile.FieldType.int)) ∈ lw_all := lw_g (lw_at lw_m6 14 rfl) rfl
theorem q1267 : (Jvm.Cond.methodLink "EvenWords" (191 : Nat) ({ cls := "EvenWords", name := "breaches", desc := "(LEvenWords$Piece;)I" } : Jvm.MethodName)) ∈ lw_all := lw_g (lw_at lw_m6 15 rfl) rfl
theorem q1268 : (Jvm.Cond.privateMethod ({ cls := "EvenWords", name := "breaches", desc := "(LEvenWords$Piece;)I" } : Jvm.MethodName)) ∈ lw_tbl := lw_at lw_m6 16 rfl
theorem q1269 : (Jvm.Cond.instanceMethod ({ cls := "EvenWords", name := "breaches", desc := "(LEvenWords$Piece;)I" } : Jvm.MethodName)) ∈ lw_all := lw_g (lw_at lw_m6 17 rfl) rfl
theorem q1270 : (Jvm.Cond.code ({ cls := "EvenWords", name := "breaches", desc := "(LEvenWords$Piece;)I" } : Jvm.MethodName) prog_1_method_20_code (4 : Nat) (Option.some Jvm.ClassFile.FieldType.int)) ∈ lw_all := lw_g (lw_at lw_m6 18 rfl) rfl
theorem q1271 : (Jvm.Cond.interfaceEntry "EvenWords" (183 : Nat)) ∈ lw_tbl := lw_at lw_m6 19 rfl
theorem q1272 : (Jvm.Cond.methodLink "EvenWords" (183 : Nat) ({ cls := "EvenWords$Sort", name := "is", desc := "(LEvenWords$Piece;)Z" } : Jvm.MethodName)) ∈ lw_all := lw_g (lw_at lw_m6 20 rfl) rfl
theorem q1276 : (Jvm.Cond.instanceMethod ({ cls := "EvenWords", name := "read", desc := "(III)I" } : Jvm.MethodName)) ∈ lw_all := lw_g (lw_at lw_m6 24 rfl) rfl
theorem q1277 : (Jvm.Cond.selects "EvenWords" ({ cls := "EvenWords", name := "read", desc := "(III)I" } : Jvm.MethodName) ({ cls := "EvenWords", name := "read", desc := "(III)I" } : Jvm.MethodName)) ∈ lw_all := lw_g (lw_at lw_m6 25 rfl) rfl
theorem q1278 : (Jvm.Cond.code ({ cls := "EvenWords", name := "read", desc := "(III)I" } : Jvm.MethodName) prog_1_method_26_code (5 : Nat) (Option.some Jvm.ClassFile.FieldType.int)) ∈ lw_all := lw_g (lw_at lw_m6 26 rfl) rfl
theorem q1279 : (Jvm.Cond.constant "EvenWords" (230 : Nat) (-1000000 : Int32)) ∈ lw_all := lw_g (lw_at lw_m6 27 rfl) rfl
theorem q1280 : (Jvm.Cond.methodLink "EvenWords" (223 : Nat) ({ cls := "EvenWords$Read", name := "pieces", desc := "()I" } : Jvm.MethodName)) ∈ lw_all := lw_g (lw_at lw_m6 28 rfl) rfl
theorem q1286 : (Jvm.Cond.methodLink "EvenWords" (226 : Nat) ({ cls := "EvenWords$Read", name := "first", desc := "()I" } : Jvm.MethodName)) ∈ lw_all := lw_g (lw_at lw_m6 34 rfl) rfl
theorem q1297 : (Jvm.Cond.methodLink "EvenWords" (231 : Nat) ({ cls := "EvenWords$Read", name := "breached", desc := "()I" } : Jvm.MethodName)) ∈ lw_all := lw_g (lw_at lw_m6 45 rfl) rfl
theorem q1301 : (Jvm.Cond.methodLink "EvenWords" (234 : Nat) ({ cls := "EvenWords", name := "blames", desc := "(LEvenWords$Read;)V" } : Jvm.MethodName)) ∈ lw_all := lw_g (lw_at lw_m6 49 rfl) rfl
theorem q1302 : (Jvm.Cond.privateMethod ({ cls := "EvenWords", name := "blames", desc := "(LEvenWords$Read;)V" } : Jvm.MethodName)) ∈ lw_tbl := lw_at lw_m6 50 rfl
theorem q1303 : (Jvm.Cond.instanceMethod ({ cls := "EvenWords", name := "blames", desc := "(LEvenWords$Read;)V" } : Jvm.MethodName)) ∈ lw_all := lw_g (lw_at lw_m6 51 rfl) rfl
theorem q1304 : (Jvm.Cond.code ({ cls := "EvenWords", name := "blames", desc := "(LEvenWords$Read;)V" } : Jvm.MethodName) prog_1_method_24_code (4 : Nat) (Option.none : Option Jvm.ClassFile.FieldType)) ∈ lw_all := lw_g (lw_at lw_m6 52 rfl) rfl
theorem q1305 : (Jvm.Cond.methodLink "EvenWords" (238 : Nat) ({ cls := "EvenWords", name := "late", desc := "(LEvenWords$Read;)I" } : Jvm.MethodName)) ∈ lw_all := lw_g (lw_at lw_m6 53 rfl) rfl
theorem q1306 : (Jvm.Cond.privateMethod ({ cls := "EvenWords", name := "late", desc := "(LEvenWords$Read;)I" } : Jvm.MethodName)) ∈ lw_tbl := lw_at lw_m6 54 rfl
theorem q1307 : (Jvm.Cond.instanceMethod ({ cls := "EvenWords", name := "late", desc := "(LEvenWords$Read;)I" } : Jvm.MethodName)) ∈ lw_all := lw_g (lw_at lw_m6 55 rfl) rfl
theorem q1308 : (Jvm.Cond.code ({ cls := "EvenWords", name := "late", desc := "(LEvenWords$Read;)I" } : Jvm.MethodName) prog_1_method_25_code (3 : Nat) (Option.some Jvm.ClassFile.FieldType.int)) ∈ lw_all := lw_g (lw_at lw_m6 56 rfl) rfl
theorem q1309 : (Jvm.Cond.constant "EvenWords" (229 : Nat) (-2000000 : Int32)) ∈ lw_all := lw_g (lw_at lw_m6 57 rfl) rfl
theorem q1311 : (Jvm.Cond.instanceMethod ({ cls := "EvenWords", name := "cuts", desc := "(I)I" } : Jvm.MethodName)) ∈ lw_all := lw_g (lw_at lw_m6 59 rfl) rfl
theorem q1312 : (Jvm.Cond.selects "EvenWords" ({ cls := "EvenWords", name := "cuts", desc := "(I)I" } : Jvm.MethodName) ({ cls := "EvenWords", name := "cuts", desc := "(I)I" } : Jvm.MethodName)) ∈ lw_all := lw_g (lw_at lw_m6 60 rfl) rfl
theorem q1313 : (Jvm.Cond.code ({ cls := "EvenWords", name := "cuts", desc := "(I)I" } : Jvm.MethodName) prog_1_method_27_code (5 : Nat) (Option.some Jvm.ClassFile.FieldType.int)) ∈ lw_all := lw_g (lw_at lw_m6 61 rfl) rfl
theorem q1315 : (Jvm.Cond.instanceMethod ({ cls := "EvenWords", name := "level", desc := "(II)I" } : Jvm.MethodName)) ∈ lw_all := lw_g (lw_at lw_m6 63 rfl) rfl
theorem q1316 : (Jvm.Cond.selects "EvenWords" ({ cls := "EvenWords", name := "level", desc := "(II)I" } : Jvm.MethodName) ({ cls := "EvenWords", name := "level", desc := "(II)I" } : Jvm.MethodName)) ∈ lw_all := lw_g (lw_at lw_m6 64 rfl) rfl
theorem q1317 : (Jvm.Cond.code ({ cls := "EvenWords", name := "level", desc := "(II)I" } : Jvm.MethodName) prog_1_method_29_code (5 : Nat) (Option.some Jvm.ClassFile.FieldType.int)) ∈ lw_all := lw_g (lw_at lw_m6 65 rfl) rfl
theorem q1318 : (Jvm.Cond.methodLink "EvenWords" (255 : Nat) ({ cls := "EvenWords", name := "levels", desc := "()Ljava/util/TreeMap;" } : Jvm.MethodName)) ∈ lw_all := lw_g (lw_at lw_m6 66 rfl) rfl
theorem q1319 : (Jvm.Cond.privateMethod ({ cls := "EvenWords", name := "levels", desc := "()Ljava/util/TreeMap;" } : Jvm.MethodName)) ∈ lw_tbl := lw_at lw_m6 67 rfl
theorem q1320 : (Jvm.Cond.instanceMethod ({ cls := "EvenWords", name := "levels", desc := "()Ljava/util/TreeMap;" } : Jvm.MethodName)) ∈ lw_all := lw_g (lw_at lw_m6 68 rfl) rfl
theorem q1321 : (Jvm.Cond.code ({ cls := "EvenWords", name := "levels", desc := "()Ljava/util/TreeMap;" } : Jvm.MethodName) prog_1_method_28_code (5 : Nat) (Option.some (Jvm.ClassFile.FieldType.object "java/util/TreeMap"))) ∈ lw_all := lw_g (lw_at lw_m6 69 rfl) rfl
theorem q1322 : (Jvm.Cond.classLink "EvenWords" (242 : Nat) "java/util/TreeMap") ∈ lw_all := lw_g (lw_at lw_m6 70 rfl) rfl
theorem q1324 : (Jvm.Cond.classLink "EvenWords" (244 : Nat) "EvenWords$Rising") ∈ lw_all := lw_g (lw_at lw_m6 72 rfl) rfl
theorem q1326 : (Jvm.Cond.methodLinkNest "EvenWords" (246 : Nat) ({ cls := "EvenWords$Rising", name := "<init>", desc := "()V" } : Jvm.MethodName) "EvenWords") ∈ lw_tbl := lw_at lw_m6 74 rfl
theorem q1331 : (Jvm.Cond.methodLink "EvenWords" (247 : Nat) ({ cls := "java/util/TreeMap", name := "<init>", desc := "(Ljava/util/Comparator;)V" } : Jvm.MethodName)) ∈ lw_all := lw_g (lw_at lw_m6 79 rfl) rfl
theorem q1356 : (Jvm.Cond.methodLink "EvenWords" (250 : Nat) ({ cls := "java/util/TreeMap", name := "get", desc := "(Ljava/lang/Object;)Ljava/lang/Object;" } : Jvm.MethodName)) ∈ lw_all := lw_g (lw_at lw_m6 104 rfl) rfl
theorem q1390 : (Jvm.Cond.methodLink "EvenWords" (254 : Nat) ({ cls := "java/util/TreeMap", name := "put", desc := "(Ljava/lang/Object;Ljava/lang/Object;)Ljava/lang/Object;" } : Jvm.MethodName)) ∈ lw_all := lw_g (lw_at lw_m6 138 rfl) rfl
theorem q1466 : (Jvm.Cond.methodLink "EvenWords" (259 : Nat) ({ cls := "java/util/TreeMap", name := "ceilingKey", desc := "(Ljava/lang/Object;)Ljava/lang/Object;" } : Jvm.MethodName)) ∈ lw_all := lw_g (lw_at lw_m6 214 rfl) rfl
theorem q1477 : (Jvm.Cond.methodLink "EvenWords" (262 : Nat) ({ cls := "java/util/TreeMap", name := "floorKey", desc := "(Ljava/lang/Object;)Ljava/lang/Object;" } : Jvm.MethodName)) ∈ lw_all := lw_g (lw_at lw_m6 225 rfl) rfl
theorem q1486 : (Jvm.Cond.instanceMethod ({ cls := "EvenWords", name := "evenest", desc := "(II)I" } : Jvm.MethodName)) ∈ lw_all := lw_g (lw_at lw_m6 234 rfl) rfl
theorem q1487 : (Jvm.Cond.selects "EvenWords" ({ cls := "EvenWords", name := "evenest", desc := "(II)I" } : Jvm.MethodName) ({ cls := "EvenWords", name := "evenest", desc := "(II)I" } : Jvm.MethodName)) ∈ lw_all := lw_g (lw_at lw_m6 235 rfl) rfl
theorem q1488 : (Jvm.Cond.code ({ cls := "EvenWords", name := "evenest", desc := "(II)I" } : Jvm.MethodName) prog_1_method_32_code (3 : Nat) (Option.some Jvm.ClassFile.FieldType.int)) ∈ lw_all := lw_g (lw_at lw_m6 236 rfl) rfl
theorem q1489 : (Jvm.Cond.constant "EvenWords" (279 : Nat) (2147483647 : Int32)) ∈ lw_all := lw_g (lw_at lw_m6 237 rfl) rfl
theorem q1490 : (Jvm.Cond.methodLink "EvenWords" (275 : Nat) ({ cls := "EvenWords", name := "tries", desc := "(III)V" } : Jvm.MethodName)) ∈ lw_all := lw_g (lw_at lw_m6 238 rfl) rfl
theorem q1491 : (Jvm.Cond.privateMethod ({ cls := "EvenWords", name := "tries", desc := "(III)V" } : Jvm.MethodName)) ∈ lw_tbl := lw_at lw_m6 239 rfl
theorem q1492 : (Jvm.Cond.instanceMethod ({ cls := "EvenWords", name := "tries", desc := "(III)V" } : Jvm.MethodName)) ∈ lw_all := lw_g (lw_at lw_m7 0 rfl) rfl
theorem q1493 : (Jvm.Cond.code ({ cls := "EvenWords", name := "tries", desc := "(III)V" } : Jvm.MethodName) prog_1_method_31_code (5 : Nat) (Option.none : Option Jvm.ClassFile.FieldType)) ∈ lw_all := lw_g (lw_at lw_m7 1 rfl) rfl
theorem q1494 : (Jvm.Cond.methodLink "EvenWords" (269 : Nat) ({ cls := "EvenWords", name := "longestBy", desc := "(I)I" } : Jvm.MethodName)) ∈ lw_all := lw_g (lw_at lw_m7 2 rfl) rfl
theorem q1495 : (Jvm.Cond.privateMethod ({ cls := "EvenWords", name := "longestBy", desc := "(I)I" } : Jvm.MethodName)) ∈ lw_tbl := lw_at lw_m7 3 rfl
theorem q1496 : (Jvm.Cond.instanceMethod ({ cls := "EvenWords", name := "longestBy", desc := "(I)I" } : Jvm.MethodName)) ∈ lw_all := lw_g (lw_at lw_m7 4 rfl) rfl
theorem q1497 : (Jvm.Cond.code ({ cls := "EvenWords", name := "longestBy", desc := "(I)I" } : Jvm.MethodName) prog_1_method_30_code (5 : Nat) (Option.some Jvm.ClassFile.FieldType.int)) ∈ lw_all := lw_g (lw_at lw_m7 5 rfl) rfl
theorem q1498 : (Jvm.Cond.methodLink "EvenWords" (266 : Nat) ({ cls := "EvenWords$Wire", name := "longest", desc := "()I" } : Jvm.MethodName)) ∈ lw_all := lw_g (lw_at lw_m7 6 rfl) rfl
theorem q1504 : (Jvm.Cond.instanceMethod ({ cls := "EvenWords", name := "weight", desc := "(I)I" } : Jvm.MethodName)) ∈ lw_all := lw_g (lw_at lw_m7 12 rfl) rfl
theorem q1505 : (Jvm.Cond.selects "EvenWords" ({ cls := "EvenWords", name := "weight", desc := "(I)I" } : Jvm.MethodName) ({ cls := "EvenWords", name := "weight", desc := "(I)I" } : Jvm.MethodName)) ∈ lw_all := lw_g (lw_at lw_m7 13 rfl) rfl
theorem q1506 : (Jvm.Cond.codeWith ({ cls := "EvenWords", name := "weight", desc := "(I)I" } : Jvm.MethodName) prog_1_method_33_code (5 : Nat) (Option.some Jvm.ClassFile.FieldType.int) [((55 : Nat), (83 : Nat), (84 : Nat), (288 : Nat))]) ∈ lw_all := lw_g (lw_at lw_m7 14 rfl) rfl
theorem q1507 : (Jvm.Cond.classLink "EvenWords" (288 : Nat) "java/lang/ArithmeticException") ∈ lw_all := lw_g (lw_at lw_m7 15 rfl) rfl
theorem q1531 : (Jvm.Cond.methodLink "EvenWords" (280 : Nat) ({ cls := "java/lang/Math", name := "multiplyExact", desc := "(II)I" } : Jvm.MethodName)) ∈ lw_all := lw_g (lw_at lw_m7 39 rfl) rfl
theorem q1537 : (Jvm.Cond.constant "EvenWords" (286 : Nat) (-999999 : Int32)) ∈ lw_all := lw_g (lw_at lw_m7 45 rfl) rfl
theorem q1538 : (Jvm.Cond.constant "EvenWords" (287 : Nat) (999999 : Int32)) ∈ lw_all := lw_g (lw_at lw_m7 46 rfl) rfl
theorem q1540 : (Jvm.Cond.instanceMethod ({ cls := "EvenWords", name := "keep", desc := "(I)I" } : Jvm.MethodName)) ∈ lw_all := lw_g (lw_at lw_m7 48 rfl) rfl
theorem q1541 : (Jvm.Cond.selects "EvenWords" ({ cls := "EvenWords", name := "keep", desc := "(I)I" } : Jvm.MethodName) ({ cls := "EvenWords", name := "keep", desc := "(I)I" } : Jvm.MethodName)) ∈ lw_all := lw_g (lw_at lw_m7 49 rfl) rfl
theorem q1542 : (Jvm.Cond.code ({ cls := "EvenWords", name := "keep", desc := "(I)I" } : Jvm.MethodName) prog_1_method_34_code (2 : Nat) (Option.some Jvm.ClassFile.FieldType.int)) ∈ lw_all := lw_g (lw_at lw_m7 50 rfl) rfl
theorem q1544 : (Jvm.Cond.instanceMethod ({ cls := "EvenWords", name := "back", desc := "(I)I" } : Jvm.MethodName)) ∈ lw_all := lw_g (lw_at lw_m7 52 rfl) rfl
theorem q1545 : (Jvm.Cond.selects "EvenWords" ({ cls := "EvenWords", name := "back", desc := "(I)I" } : Jvm.MethodName) ({ cls := "EvenWords", name := "back", desc := "(I)I" } : Jvm.MethodName)) ∈ lw_all := lw_g (lw_at lw_m7 53 rfl) rfl
theorem q1546 : (Jvm.Cond.code ({ cls := "EvenWords", name := "back", desc := "(I)I" } : Jvm.MethodName) prog_1_method_35_code (2 : Nat) (Option.some Jvm.ClassFile.FieldType.int)) ∈ lw_all := lw_g (lw_at lw_m7 54 rfl) rfl
theorem q1548 : (Jvm.Cond.instanceMethod ({ cls := "EvenWords", name := "count", desc := "(I)I" } : Jvm.MethodName)) ∈ lw_all := lw_g (lw_at lw_m7 56 rfl) rfl
theorem q1549 : (Jvm.Cond.selects "EvenWords" ({ cls := "EvenWords", name := "count", desc := "(I)I" } : Jvm.MethodName) ({ cls := "EvenWords", name := "count", desc := "(I)I" } : Jvm.MethodName)) ∈ lw_all := lw_g (lw_at lw_m7 57 rfl) rfl
theorem q1550 : (Jvm.Cond.code ({ cls := "EvenWords", name := "count", desc := "(I)I" } : Jvm.MethodName) prog_1_method_38_code (2 : Nat) (Option.some Jvm.ClassFile.FieldType.int)) ∈ lw_all := lw_g (lw_at lw_m7 58 rfl) rfl
theorem q1551 : (Jvm.Cond.methodLink "EvenWords" (293 : Nat) ({ cls := "EvenWords", name := "bitsBy", desc := "(Z)I" } : Jvm.MethodName)) ∈ lw_all := lw_g (lw_at lw_m7 59 rfl) rfl
theorem q1552 : (Jvm.Cond.privateMethod ({ cls := "EvenWords", name := "bitsBy", desc := "(Z)I" } : Jvm.MethodName)) ∈ lw_tbl := lw_at lw_m7 60 rfl
theorem q1553 : (Jvm.Cond.instanceMethod ({ cls := "EvenWords", name := "bitsBy", desc := "(Z)I" } : Jvm.MethodName)) ∈ lw_all := lw_g (lw_at lw_m7 61 rfl) rfl
theorem q1554 : (Jvm.Cond.code ({ cls := "EvenWords", name := "bitsBy", desc := "(Z)I" } : Jvm.MethodName) prog_1_method_36_code (4 : Nat) (Option.some Jvm.ClassFile.FieldType.int)) ∈ lw_all := lw_g (lw_at lw_m7 62 rfl) rfl
theorem q1555 : (Jvm.Cond.methodLink "EvenWords" (297 : Nat) ({ cls := "EvenWords", name := "marksSent", desc := "()I" } : Jvm.MethodName)) ∈ lw_all := lw_g (lw_at lw_m7 63 rfl) rfl
theorem q1556 : (Jvm.Cond.privateMethod ({ cls := "EvenWords", name := "marksSent", desc := "()I" } : Jvm.MethodName)) ∈ lw_tbl := lw_at lw_m7 64 rfl
theorem q1557 : (Jvm.Cond.instanceMethod ({ cls := "EvenWords", name := "marksSent", desc := "()I" } : Jvm.MethodName)) ∈ lw_all := lw_g (lw_at lw_m7 65 rfl) rfl
theorem q1558 : (Jvm.Cond.code ({ cls := "EvenWords", name := "marksSent", desc := "()I" } : Jvm.MethodName) prog_1_method_37_code (3 : Nat) (Option.some Jvm.ClassFile.FieldType.int)) ∈ lw_all := lw_g (lw_at lw_m7 66 rfl) rfl
theorem q1867 : (Jvm.Cond.castable "EvenWords" "java/lang/Object") ∈ lw_tbl := lw_at lw_m8 135 rfl
theorem in_X0 : ∀ w ∈ wsX00, w ∈ lw_all := lw_in wsX00 [184, 186, 188, 190, 192, 194, 196, 198, 200, 202, 204, 206, 208, 210, 212] (by decide +kernel) (by decide +kernel)
