/-! EvenWords$Wire -/
set_option maxRecDepth 100000
def RX1 : String := "EvenWords$Wire"
def TX1 : u_T := fun k => match k with
  | 0 => ("EvenWords$Wire", "words", "I", false)
  | 1 => ("EvenWords$Wire", "sent", "[I", true)
  | 2 => ("EvenWords$Wire", "bits", "[Z", true)
  | 3 => ("EvenWords$Wire", "turned", "[Z", true)
  | 4 => ("EvenWords$Wire", "isAbove", "Z", false)
  | 5 => ("EvenWords$Wire", "marks", "[I", true)
  | 6 => ("EvenWords$Wire", "recent", "I", false)
  | _ => ("EvenWords$Wire", "this$0", "LEvenWords;", true)
def tyX1 : Nat → FieldType := fun k => match k with
  | 0 => .int
  | 1 => .array .int
  | 2 => .array .boolean
  | 3 => .array .boolean
  | 4 => .boolean
  | 5 => .array .int
  | 6 => .int
  | _ => .object "EvenWords"
abbrev wsX10 : List Cond := u_ws RX1 TX1 8
theorem nmX1 : ∀ a, a < 8 → ∀ b, b < 8 → a ≠ b → (TX1 a).2.1 ≠ (TX1 b).2.1 := by decide +kernel
theorem tyX1_ok : ∀ k, k < 8 → parseFieldDescriptor (TX1 k).2.2.1 = some (tyX1 k) := by decide +kernel
abbrev cX1_init : ByteArray := prog_10_method_1_code
def yX1_init : MethodName := ⟨RX1, "<init>", "(LEvenWords;)V"⟩
def dkwX1_init_1 : List UInt8 := [181, 0, 19, 42, 17, 0, 192, 188, 4, 181, 0, 23, 42, 6, 188, 10, 181, 0, 26, 177]
abbrev dktX1_init_1 : List UInt8 := dkwX1_init_1 ++ []
def dkwX1_init_0 : List UInt8 := [42, 43, 181, 0, 3, 42, 183, 0, 9, 42, 16, 32, 188, 10, 181, 0, 15, 42, 17, 0, 192, 188, 4]
abbrev dktX1_init_0 : List UInt8 := dkwX1_init_0 ++ dktX1_init_1
theorem dksX1_init_0 : cX1_init.data.toList.drop 0 = dktX1_init_0 := by decide +kernel
theorem dksX1_init_1 : cX1_init.data.toList.drop 23 = dktX1_init_1 := dk_seg dksX1_init_0 23 rfl rfl
theorem dX1_init_0 : decode cX1_init 0 = .ok (.aload_n 0, 1) := dk_42 (dk_at dksX1_init_0 0 rfl rfl)
theorem dX1_init_1 : decode cX1_init 1 = .ok (.aload_n 1, 1) := dk_43 (dk_at dksX1_init_0 1 rfl rfl)
theorem dX1_init_2 : decode cX1_init 2 = .ok (.putfield 3, 3) := dk_181 0 3 (dk_at dksX1_init_0 2 rfl rfl)
theorem dX1_init_5 : decode cX1_init 5 = .ok (.aload_n 0, 1) := dk_42 (dk_at dksX1_init_0 5 rfl rfl)
theorem dX1_init_6 : decode cX1_init 6 = .ok (.invokespecial 9, 3) := dk_183 0 9 (dk_at dksX1_init_0 6 rfl rfl)
theorem dX1_init_9 : decode cX1_init 9 = .ok (.aload_n 0, 1) := dk_42 (dk_at dksX1_init_0 9 rfl rfl)
theorem dX1_init_10 : decode cX1_init 10 = .ok (.bipush 32, 2) := dk_16 32 (dk_at dksX1_init_0 10 rfl rfl)
theorem dX1_init_12 : decode cX1_init 12 = .ok (.newarray .int, 2) := dk_188_10 (dk_at dksX1_init_0 12 rfl rfl)
theorem dX1_init_14 : decode cX1_init 14 = .ok (.putfield 15, 3) := dk_181 0 15 (dk_at dksX1_init_0 14 rfl rfl)
theorem dX1_init_17 : decode cX1_init 17 = .ok (.aload_n 0, 1) := dk_42 (dk_at dksX1_init_0 17 rfl rfl)
theorem dX1_init_18 : decode cX1_init 18 = .ok (.sipush 192, 3) := dk_17 0 192 (dk_at dksX1_init_0 18 rfl rfl)
theorem dX1_init_21 : decode cX1_init 21 = .ok (.newarray .boolean, 2) := dk_188_4 (dk_at dksX1_init_0 21 rfl rfl)
theorem dX1_init_23 : decode cX1_init 23 = .ok (.putfield 19, 3) := dk_181 0 19 (dk_at dksX1_init_1 0 rfl rfl)
theorem dX1_init_26 : decode cX1_init 26 = .ok (.aload_n 0, 1) := dk_42 (dk_at dksX1_init_1 3 rfl rfl)
theorem dX1_init_27 : decode cX1_init 27 = .ok (.sipush 192, 3) := dk_17 0 192 (dk_at dksX1_init_1 4 rfl rfl)
theorem dX1_init_30 : decode cX1_init 30 = .ok (.newarray .boolean, 2) := dk_188_4 (dk_at dksX1_init_1 7 rfl rfl)
theorem dX1_init_32 : decode cX1_init 32 = .ok (.putfield 23, 3) := dk_181 0 23 (dk_at dksX1_init_1 9 rfl rfl)
theorem dX1_init_35 : decode cX1_init 35 = .ok (.aload_n 0, 1) := dk_42 (dk_at dksX1_init_1 12 rfl rfl)
theorem dX1_init_36 : decode cX1_init 36 = .ok (.iconst 3, 1) := dk_6 (dk_at dksX1_init_1 13 rfl rfl)
theorem dX1_init_37 : decode cX1_init 37 = .ok (.newarray .int, 2) := dk_188_10 (dk_at dksX1_init_1 14 rfl rfl)
theorem dX1_init_39 : decode cX1_init 39 = .ok (.putfield 26, 3) := dk_181 0 26 (dk_at dksX1_init_1 16 rfl rfl)
theorem dX1_init_42 : decode cX1_init 42 = .ok (.return_, 1) := dk_177 (dk_at dksX1_init_1 19 rfl rfl)
abbrev cX1_as : ByteArray := prog_10_method_2_code
def yX1_as : MethodName := ⟨RX1, "as", "(LEvenWords$Wire;)LEvenWords$Wire;"⟩
def dkwX1_as_3 : List UInt8 := [3, 6, 184, 0, 33, 42, 43, 180, 0, 43, 181, 0, 43, 42, 176]
abbrev dktX1_as_3 : List UInt8 := dkwX1_as_3 ++ []
def dkwX1_as_2 : List UInt8 := [3, 17, 0, 192, 184, 0, 33, 42, 43, 180, 0, 39, 181, 0, 39, 43, 180, 0, 26, 3, 42, 180, 0, 26]
abbrev dktX1_as_2 : List UInt8 := dkwX1_as_2 ++ dktX1_as_3
def dkwX1_as_1 : List UInt8 := [180, 0, 19, 3, 42, 180, 0, 19, 3, 17, 0, 192, 184, 0, 33, 43, 180, 0, 23, 3, 42, 180, 0, 23]
abbrev dktX1_as_1 : List UInt8 := dkwX1_as_1 ++ dktX1_as_2
def dkwX1_as_0 : List UInt8 := [42, 43, 180, 0, 29, 181, 0, 29, 43, 180, 0, 15, 3, 42, 180, 0, 15, 3, 16, 32, 184, 0, 33, 43]
abbrev dktX1_as_0 : List UInt8 := dkwX1_as_0 ++ dktX1_as_1
theorem dksX1_as_0 : cX1_as.data.toList.drop 0 = dktX1_as_0 := by decide +kernel
theorem dksX1_as_1 : cX1_as.data.toList.drop 24 = dktX1_as_1 := dk_seg dksX1_as_0 24 rfl rfl
theorem dksX1_as_2 : cX1_as.data.toList.drop 48 = dktX1_as_2 := dk_seg dksX1_as_1 24 rfl rfl
theorem dksX1_as_3 : cX1_as.data.toList.drop 72 = dktX1_as_3 := dk_seg dksX1_as_2 24 rfl rfl
theorem dX1_as_0 : decode cX1_as 0 = .ok (.aload_n 0, 1) := dk_42 (dk_at dksX1_as_0 0 rfl rfl)
theorem dX1_as_1 : decode cX1_as 1 = .ok (.aload_n 1, 1) := dk_43 (dk_at dksX1_as_0 1 rfl rfl)
theorem dX1_as_2 : decode cX1_as 2 = .ok (.getfield 29, 3) := dk_180 0 29 (dk_at dksX1_as_0 2 rfl rfl)
theorem dX1_as_5 : decode cX1_as 5 = .ok (.putfield 29, 3) := dk_181 0 29 (dk_at dksX1_as_0 5 rfl rfl)
theorem dX1_as_8 : decode cX1_as 8 = .ok (.aload_n 1, 1) := dk_43 (dk_at dksX1_as_0 8 rfl rfl)
theorem dX1_as_9 : decode cX1_as 9 = .ok (.getfield 15, 3) := dk_180 0 15 (dk_at dksX1_as_0 9 rfl rfl)
theorem dX1_as_12 : decode cX1_as 12 = .ok (.iconst 0, 1) := dk_3 (dk_at dksX1_as_0 12 rfl rfl)
theorem dX1_as_13 : decode cX1_as 13 = .ok (.aload_n 0, 1) := dk_42 (dk_at dksX1_as_0 13 rfl rfl)
theorem dX1_as_14 : decode cX1_as 14 = .ok (.getfield 15, 3) := dk_180 0 15 (dk_at dksX1_as_0 14 rfl rfl)
theorem dX1_as_17 : decode cX1_as 17 = .ok (.iconst 0, 1) := dk_3 (dk_at dksX1_as_0 17 rfl rfl)
theorem dX1_as_18 : decode cX1_as 18 = .ok (.bipush 32, 2) := dk_16 32 (dk_at dksX1_as_0 18 rfl rfl)
theorem dX1_as_20 : decode cX1_as 20 = .ok (.invokestatic 33, 3) := dk_184 0 33 (dk_at dksX1_as_0 20 rfl rfl)
theorem dX1_as_23 : decode cX1_as 23 = .ok (.aload_n 1, 1) := dk_43 (dk_at dksX1_as_0 23 rfl rfl)
theorem dX1_as_24 : decode cX1_as 24 = .ok (.getfield 19, 3) := dk_180 0 19 (dk_at dksX1_as_1 0 rfl rfl)
theorem dX1_as_27 : decode cX1_as 27 = .ok (.iconst 0, 1) := dk_3 (dk_at dksX1_as_1 3 rfl rfl)
theorem dX1_as_28 : decode cX1_as 28 = .ok (.aload_n 0, 1) := dk_42 (dk_at dksX1_as_1 4 rfl rfl)
theorem dX1_as_29 : decode cX1_as 29 = .ok (.getfield 19, 3) := dk_180 0 19 (dk_at dksX1_as_1 5 rfl rfl)
theorem dX1_as_32 : decode cX1_as 32 = .ok (.iconst 0, 1) := dk_3 (dk_at dksX1_as_1 8 rfl rfl)
theorem dX1_as_33 : decode cX1_as 33 = .ok (.sipush 192, 3) := dk_17 0 192 (dk_at dksX1_as_1 9 rfl rfl)
theorem dX1_as_36 : decode cX1_as 36 = .ok (.invokestatic 33, 3) := dk_184 0 33 (dk_at dksX1_as_1 12 rfl rfl)
theorem dX1_as_39 : decode cX1_as 39 = .ok (.aload_n 1, 1) := dk_43 (dk_at dksX1_as_1 15 rfl rfl)
theorem dX1_as_40 : decode cX1_as 40 = .ok (.getfield 23, 3) := dk_180 0 23 (dk_at dksX1_as_1 16 rfl rfl)
theorem dX1_as_43 : decode cX1_as 43 = .ok (.iconst 0, 1) := dk_3 (dk_at dksX1_as_1 19 rfl rfl)
theorem dX1_as_44 : decode cX1_as 44 = .ok (.aload_n 0, 1) := dk_42 (dk_at dksX1_as_1 20 rfl rfl)
theorem dX1_as_45 : decode cX1_as 45 = .ok (.getfield 23, 3) := dk_180 0 23 (dk_at dksX1_as_1 21 rfl rfl)
theorem dX1_as_48 : decode cX1_as 48 = .ok (.iconst 0, 1) := dk_3 (dk_at dksX1_as_2 0 rfl rfl)
theorem dX1_as_49 : decode cX1_as 49 = .ok (.sipush 192, 3) := dk_17 0 192 (dk_at dksX1_as_2 1 rfl rfl)
theorem dX1_as_52 : decode cX1_as 52 = .ok (.invokestatic 33, 3) := dk_184 0 33 (dk_at dksX1_as_2 4 rfl rfl)
theorem dX1_as_55 : decode cX1_as 55 = .ok (.aload_n 0, 1) := dk_42 (dk_at dksX1_as_2 7 rfl rfl)
theorem dX1_as_56 : decode cX1_as 56 = .ok (.aload_n 1, 1) := dk_43 (dk_at dksX1_as_2 8 rfl rfl)
theorem dX1_as_57 : decode cX1_as 57 = .ok (.getfield 39, 3) := dk_180 0 39 (dk_at dksX1_as_2 9 rfl rfl)
theorem dX1_as_60 : decode cX1_as 60 = .ok (.putfield 39, 3) := dk_181 0 39 (dk_at dksX1_as_2 12 rfl rfl)
theorem dX1_as_63 : decode cX1_as 63 = .ok (.aload_n 1, 1) := dk_43 (dk_at dksX1_as_2 15 rfl rfl)
theorem dX1_as_64 : decode cX1_as 64 = .ok (.getfield 26, 3) := dk_180 0 26 (dk_at dksX1_as_2 16 rfl rfl)
theorem dX1_as_67 : decode cX1_as 67 = .ok (.iconst 0, 1) := dk_3 (dk_at dksX1_as_2 19 rfl rfl)
theorem dX1_as_68 : decode cX1_as 68 = .ok (.aload_n 0, 1) := dk_42 (dk_at dksX1_as_2 20 rfl rfl)
theorem dX1_as_69 : decode cX1_as 69 = .ok (.getfield 26, 3) := dk_180 0 26 (dk_at dksX1_as_2 21 rfl rfl)
theorem dX1_as_72 : decode cX1_as 72 = .ok (.iconst 0, 1) := dk_3 (dk_at dksX1_as_3 0 rfl rfl)
theorem dX1_as_73 : decode cX1_as 73 = .ok (.iconst 3, 1) := dk_6 (dk_at dksX1_as_3 1 rfl rfl)
theorem dX1_as_74 : decode cX1_as 74 = .ok (.invokestatic 33, 3) := dk_184 0 33 (dk_at dksX1_as_3 2 rfl rfl)
theorem dX1_as_77 : decode cX1_as 77 = .ok (.aload_n 0, 1) := dk_42 (dk_at dksX1_as_3 5 rfl rfl)
theorem dX1_as_78 : decode cX1_as 78 = .ok (.aload_n 1, 1) := dk_43 (dk_at dksX1_as_3 6 rfl rfl)
theorem dX1_as_79 : decode cX1_as 79 = .ok (.getfield 43, 3) := dk_180 0 43 (dk_at dksX1_as_3 7 rfl rfl)
theorem dX1_as_82 : decode cX1_as 82 = .ok (.putfield 43, 3) := dk_181 0 43 (dk_at dksX1_as_3 10 rfl rfl)
theorem dX1_as_85 : decode cX1_as 85 = .ok (.aload_n 0, 1) := dk_42 (dk_at dksX1_as_3 13 rfl rfl)
theorem dX1_as_86 : decode cX1_as 86 = .ok (.areturn, 1) := dk_176 (dk_at dksX1_as_3 14 rfl rfl)
abbrev cX1_sends : ByteArray := prog_10_method_5_code
def yX1_sends : MethodName := ⟨RX1, "sends", "(I)I"⟩
def dkwX1_sends_4 : List UInt8 := [184, 0, 54, 181, 0, 39, 27, 16, 31, 161, 0, 11, 42, 27, 16, 31, 100, 182, 0, 57, 28, 172]
abbrev dktX1_sends_4 : List UInt8 := dkwX1_sends_4 ++ []
def dkwX1_sends_3 : List UInt8 := [42, 180, 0, 29, 27, 79, 42, 89, 180, 0, 29, 4, 96, 181, 0, 29, 42, 28, 42, 180, 0, 39]
abbrev dktX1_sends_3 : List UInt8 := dkwX1_sends_3 ++ dktX1_sends_4
def dkwX1_sends_2 : List UInt8 := [3, 84, 42, 180, 0, 23, 42, 182, 0, 50, 29, 96, 3, 84, 132, 3, 1, 167, 255, 208, 42, 180, 0, 15]
abbrev dktX1_sends_2 : List UInt8 := dkwX1_sends_2 ++ dktX1_sends_3
def dkwX1_sends_1 : List UInt8 := [180, 0, 19, 42, 182, 0, 50, 29, 96, 28, 8, 29, 100, 122, 4, 126, 4, 160, 0, 7, 4, 167, 0, 4]
abbrev dktX1_sends_1 : List UInt8 := dkwX1_sends_1 ++ dktX1_sends_2
def dkwX1_sends_0 : List UInt8 := [42, 180, 0, 3, 27, 42, 180, 0, 39, 182, 0, 46, 61, 3, 62, 29, 16, 6, 162, 0, 48, 42]
abbrev dktX1_sends_0 : List UInt8 := dkwX1_sends_0 ++ dktX1_sends_1
theorem dksX1_sends_0 : cX1_sends.data.toList.drop 0 = dktX1_sends_0 := by decide +kernel
theorem dksX1_sends_1 : cX1_sends.data.toList.drop 22 = dktX1_sends_1 := dk_seg dksX1_sends_0 22 rfl rfl
theorem dksX1_sends_2 : cX1_sends.data.toList.drop 46 = dktX1_sends_2 := dk_seg dksX1_sends_1 24 rfl rfl
theorem dksX1_sends_3 : cX1_sends.data.toList.drop 70 = dktX1_sends_3 := dk_seg dksX1_sends_2 24 rfl rfl
theorem dksX1_sends_4 : cX1_sends.data.toList.drop 92 = dktX1_sends_4 := dk_seg dksX1_sends_3 22 rfl rfl
theorem dX1_sends_0 : decode cX1_sends 0 = .ok (.aload_n 0, 1) := dk_42 (dk_at dksX1_sends_0 0 rfl rfl)
theorem dX1_sends_1 : decode cX1_sends 1 = .ok (.getfield 3, 3) := dk_180 0 3 (dk_at dksX1_sends_0 1 rfl rfl)
theorem dX1_sends_4 : decode cX1_sends 4 = .ok (.iload_n 1, 1) := dk_27 (dk_at dksX1_sends_0 4 rfl rfl)
theorem dX1_sends_5 : decode cX1_sends 5 = .ok (.aload_n 0, 1) := dk_42 (dk_at dksX1_sends_0 5 rfl rfl)
theorem dX1_sends_6 : decode cX1_sends 6 = .ok (.getfield 39, 3) := dk_180 0 39 (dk_at dksX1_sends_0 6 rfl rfl)
theorem dX1_sends_9 : decode cX1_sends 9 = .ok (.invokevirtual 46, 3) := dk_182 0 46 (dk_at dksX1_sends_0 9 rfl rfl)
theorem dX1_sends_12 : decode cX1_sends 12 = .ok (.istore_n 2, 1) := dk_61 (dk_at dksX1_sends_0 12 rfl rfl)
theorem dX1_sends_13 : decode cX1_sends 13 = .ok (.iconst 0, 1) := dk_3 (dk_at dksX1_sends_0 13 rfl rfl)
theorem dX1_sends_14 : decode cX1_sends 14 = .ok (.istore_n 3, 1) := dk_62 (dk_at dksX1_sends_0 14 rfl rfl)
theorem dX1_sends_15 : decode cX1_sends 15 = .ok (.iload_n 3, 1) := dk_29 (dk_at dksX1_sends_0 15 rfl rfl)
theorem dX1_sends_16 : decode cX1_sends 16 = .ok (.bipush 6, 2) := dk_16 6 (dk_at dksX1_sends_0 16 rfl rfl)
theorem dX1_sends_18 : decode cX1_sends 18 = .ok (.if_icmp .ge 48, 3) := dk_162 0 48 (dk_at dksX1_sends_0 18 rfl rfl)
theorem dX1_sends_21 : decode cX1_sends 21 = .ok (.aload_n 0, 1) := dk_42 (dk_at dksX1_sends_0 21 rfl rfl)
theorem dX1_sends_22 : decode cX1_sends 22 = .ok (.getfield 19, 3) := dk_180 0 19 (dk_at dksX1_sends_1 0 rfl rfl)
theorem dX1_sends_25 : decode cX1_sends 25 = .ok (.aload_n 0, 1) := dk_42 (dk_at dksX1_sends_1 3 rfl rfl)
theorem dX1_sends_26 : decode cX1_sends 26 = .ok (.invokevirtual 50, 3) := dk_182 0 50 (dk_at dksX1_sends_1 4 rfl rfl)
theorem dX1_sends_29 : decode cX1_sends 29 = .ok (.iload_n 3, 1) := dk_29 (dk_at dksX1_sends_1 7 rfl rfl)
theorem dX1_sends_30 : decode cX1_sends 30 = .ok (.iadd, 1) := dk_96 (dk_at dksX1_sends_1 8 rfl rfl)
theorem dX1_sends_31 : decode cX1_sends 31 = .ok (.iload_n 2, 1) := dk_28 (dk_at dksX1_sends_1 9 rfl rfl)
theorem dX1_sends_32 : decode cX1_sends 32 = .ok (.iconst 5, 1) := dk_8 (dk_at dksX1_sends_1 10 rfl rfl)
theorem dX1_sends_33 : decode cX1_sends 33 = .ok (.iload_n 3, 1) := dk_29 (dk_at dksX1_sends_1 11 rfl rfl)
theorem dX1_sends_34 : decode cX1_sends 34 = .ok (.isub, 1) := dk_100 (dk_at dksX1_sends_1 12 rfl rfl)
theorem dX1_sends_35 : decode cX1_sends 35 = .ok (.ishr, 1) := dk_122 (dk_at dksX1_sends_1 13 rfl rfl)
theorem dX1_sends_36 : decode cX1_sends 36 = .ok (.iconst 1, 1) := dk_4 (dk_at dksX1_sends_1 14 rfl rfl)
theorem dX1_sends_37 : decode cX1_sends 37 = .ok (.iand, 1) := dk_126 (dk_at dksX1_sends_1 15 rfl rfl)
theorem dX1_sends_38 : decode cX1_sends 38 = .ok (.iconst 1, 1) := dk_4 (dk_at dksX1_sends_1 16 rfl rfl)
theorem dX1_sends_39 : decode cX1_sends 39 = .ok (.if_icmp .ne 7, 3) := dk_160 0 7 (dk_at dksX1_sends_1 17 rfl rfl)
theorem dX1_sends_42 : decode cX1_sends 42 = .ok (.iconst 1, 1) := dk_4 (dk_at dksX1_sends_1 20 rfl rfl)
theorem dX1_sends_43 : decode cX1_sends 43 = .ok (.goto 4, 3) := dk_167 0 4 (dk_at dksX1_sends_1 21 rfl rfl)
theorem dX1_sends_46 : decode cX1_sends 46 = .ok (.iconst 0, 1) := dk_3 (dk_at dksX1_sends_2 0 rfl rfl)
theorem dX1_sends_47 : decode cX1_sends 47 = .ok (.bastore, 1) := dk_84 (dk_at dksX1_sends_2 1 rfl rfl)
theorem dX1_sends_48 : decode cX1_sends 48 = .ok (.aload_n 0, 1) := dk_42 (dk_at dksX1_sends_2 2 rfl rfl)
theorem dX1_sends_49 : decode cX1_sends 49 = .ok (.getfield 23, 3) := dk_180 0 23 (dk_at dksX1_sends_2 3 rfl rfl)
theorem dX1_sends_52 : decode cX1_sends 52 = .ok (.aload_n 0, 1) := dk_42 (dk_at dksX1_sends_2 6 rfl rfl)
theorem dX1_sends_53 : decode cX1_sends 53 = .ok (.invokevirtual 50, 3) := dk_182 0 50 (dk_at dksX1_sends_2 7 rfl rfl)
theorem dX1_sends_56 : decode cX1_sends 56 = .ok (.iload_n 3, 1) := dk_29 (dk_at dksX1_sends_2 10 rfl rfl)
theorem dX1_sends_57 : decode cX1_sends 57 = .ok (.iadd, 1) := dk_96 (dk_at dksX1_sends_2 11 rfl rfl)
theorem dX1_sends_58 : decode cX1_sends 58 = .ok (.iconst 0, 1) := dk_3 (dk_at dksX1_sends_2 12 rfl rfl)
theorem dX1_sends_59 : decode cX1_sends 59 = .ok (.bastore, 1) := dk_84 (dk_at dksX1_sends_2 13 rfl rfl)
theorem dX1_sends_60 : decode cX1_sends 60 = .ok (.iinc 3 1, 3) := dk_132 3 1 (dk_at dksX1_sends_2 14 rfl rfl)
theorem dX1_sends_63 : decode cX1_sends 63 = .ok (.goto (-48), 3) := dk_167 255 208 (dk_at dksX1_sends_2 17 rfl rfl)
theorem dX1_sends_66 : decode cX1_sends 66 = .ok (.aload_n 0, 1) := dk_42 (dk_at dksX1_sends_2 20 rfl rfl)
theorem dX1_sends_67 : decode cX1_sends 67 = .ok (.getfield 15, 3) := dk_180 0 15 (dk_at dksX1_sends_2 21 rfl rfl)
theorem dX1_sends_70 : decode cX1_sends 70 = .ok (.aload_n 0, 1) := dk_42 (dk_at dksX1_sends_3 0 rfl rfl)
theorem dX1_sends_71 : decode cX1_sends 71 = .ok (.getfield 29, 3) := dk_180 0 29 (dk_at dksX1_sends_3 1 rfl rfl)
theorem dX1_sends_74 : decode cX1_sends 74 = .ok (.iload_n 1, 1) := dk_27 (dk_at dksX1_sends_3 4 rfl rfl)
theorem dX1_sends_75 : decode cX1_sends 75 = .ok (.iastore, 1) := dk_79 (dk_at dksX1_sends_3 5 rfl rfl)
theorem dX1_sends_76 : decode cX1_sends 76 = .ok (.aload_n 0, 1) := dk_42 (dk_at dksX1_sends_3 6 rfl rfl)
theorem dX1_sends_77 : decode cX1_sends 77 = .ok (.dup, 1) := dk_89 (dk_at dksX1_sends_3 7 rfl rfl)
theorem dX1_sends_78 : decode cX1_sends 78 = .ok (.getfield 29, 3) := dk_180 0 29 (dk_at dksX1_sends_3 8 rfl rfl)
theorem dX1_sends_81 : decode cX1_sends 81 = .ok (.iconst 1, 1) := dk_4 (dk_at dksX1_sends_3 11 rfl rfl)
theorem dX1_sends_82 : decode cX1_sends 82 = .ok (.iadd, 1) := dk_96 (dk_at dksX1_sends_3 12 rfl rfl)
theorem dX1_sends_83 : decode cX1_sends 83 = .ok (.putfield 29, 3) := dk_181 0 29 (dk_at dksX1_sends_3 13 rfl rfl)
theorem dX1_sends_86 : decode cX1_sends 86 = .ok (.aload_n 0, 1) := dk_42 (dk_at dksX1_sends_3 16 rfl rfl)
theorem dX1_sends_87 : decode cX1_sends 87 = .ok (.iload_n 2, 1) := dk_28 (dk_at dksX1_sends_3 17 rfl rfl)
theorem dX1_sends_88 : decode cX1_sends 88 = .ok (.aload_n 0, 1) := dk_42 (dk_at dksX1_sends_3 18 rfl rfl)
theorem dX1_sends_89 : decode cX1_sends 89 = .ok (.getfield 39, 3) := dk_180 0 39 (dk_at dksX1_sends_3 19 rfl rfl)
theorem dX1_sends_92 : decode cX1_sends 92 = .ok (.invokestatic 54, 3) := dk_184 0 54 (dk_at dksX1_sends_4 0 rfl rfl)
theorem dX1_sends_95 : decode cX1_sends 95 = .ok (.putfield 39, 3) := dk_181 0 39 (dk_at dksX1_sends_4 3 rfl rfl)
theorem dX1_sends_98 : decode cX1_sends 98 = .ok (.iload_n 1, 1) := dk_27 (dk_at dksX1_sends_4 6 rfl rfl)
theorem dX1_sends_99 : decode cX1_sends 99 = .ok (.bipush 31, 2) := dk_16 31 (dk_at dksX1_sends_4 7 rfl rfl)
theorem dX1_sends_101 : decode cX1_sends 101 = .ok (.if_icmp .lt 11, 3) := dk_161 0 11 (dk_at dksX1_sends_4 9 rfl rfl)
theorem dX1_sends_104 : decode cX1_sends 104 = .ok (.aload_n 0, 1) := dk_42 (dk_at dksX1_sends_4 12 rfl rfl)
theorem dX1_sends_105 : decode cX1_sends 105 = .ok (.iload_n 1, 1) := dk_27 (dk_at dksX1_sends_4 13 rfl rfl)
theorem dX1_sends_106 : decode cX1_sends 106 = .ok (.bipush 31, 2) := dk_16 31 (dk_at dksX1_sends_4 14 rfl rfl)
theorem dX1_sends_108 : decode cX1_sends 108 = .ok (.isub, 1) := dk_100 (dk_at dksX1_sends_4 16 rfl rfl)
theorem dX1_sends_109 : decode cX1_sends 109 = .ok (.invokevirtual 57, 3) := dk_182 0 57 (dk_at dksX1_sends_4 17 rfl rfl)
theorem dX1_sends_112 : decode cX1_sends 112 = .ok (.iload_n 2, 1) := dk_28 (dk_at dksX1_sends_4 20 rfl rfl)
theorem dX1_sends_113 : decode cX1_sends 113 = .ok (.ireturn, 1) := dk_172 (dk_at dksX1_sends_4 21 rfl rfl)
abbrev cX1_many : ByteArray := prog_10_method_3_code
def yX1_many : MethodName := ⟨RX1, "many", "()I"⟩
def dkwX1_many_0 : List UInt8 := [16, 6, 42, 180, 0, 29, 104, 172]
abbrev dktX1_many_0 : List UInt8 := dkwX1_many_0 ++ []
theorem dksX1_many_0 : cX1_many.data.toList.drop 0 = dktX1_many_0 := by decide +kernel
theorem dX1_many_0 : decode cX1_many 0 = .ok (.bipush 6, 2) := dk_16 6 (dk_at dksX1_many_0 0 rfl rfl)
theorem dX1_many_2 : decode cX1_many 2 = .ok (.aload_n 0, 1) := dk_42 (dk_at dksX1_many_0 2 rfl rfl)
theorem dX1_many_3 : decode cX1_many 3 = .ok (.getfield 29, 3) := dk_180 0 29 (dk_at dksX1_many_0 3 rfl rfl)
theorem dX1_many_6 : decode cX1_many 6 = .ok (.imul, 1) := dk_104 (dk_at dksX1_many_0 6 rfl rfl)
theorem dX1_many_7 : decode cX1_many 7 = .ok (.ireturn, 1) := dk_172 (dk_at dksX1_many_0 7 rfl rfl)
abbrev cX1_remembers : ByteArray := prog_10_method_4_code
def yX1_remembers : MethodName := ⟨RX1, "remembers", "(I)V"⟩
def dkwX1_remembers_4 : List UInt8 := [42, 180, 0, 26, 3, 5, 184, 0, 33, 42, 89, 180, 0, 43, 4, 100, 181, 0, 43, 177]
abbrev dktX1_remembers_4 : List UInt8 := dkwX1_remembers_4 ++ []
def dkwX1_remembers_3 : List UInt8 := [180, 0, 26, 42, 180, 0, 43, 4, 100, 27, 79, 42, 180, 0, 43, 5, 164, 0, 27, 42, 180, 0, 26, 4]
abbrev dktX1_remembers_3 : List UInt8 := dkwX1_remembers_3 ++ dktX1_remembers_4
def dkwX1_remembers_2 : List UInt8 := [181, 0, 43, 42, 180, 0, 26, 28, 4, 96, 42, 180, 0, 26, 28, 5, 28, 100, 184, 0, 33, 42]
abbrev dktX1_remembers_2 : List UInt8 := dkwX1_remembers_2 ++ dktX1_remembers_3
def dkwX1_remembers_1 : List UInt8 := [167, 255, 235, 42, 89, 180, 0, 43, 28, 42, 180, 0, 43, 160, 0, 7, 4, 167, 0, 4, 3, 96]
abbrev dktX1_remembers_1 : List UInt8 := dkwX1_remembers_1 ++ dktX1_remembers_2
def dkwX1_remembers_0 : List UInt8 := [3, 61, 28, 42, 180, 0, 43, 162, 0, 19, 42, 180, 0, 26, 28, 46, 27, 159, 0, 9, 132, 2, 1]
abbrev dktX1_remembers_0 : List UInt8 := dkwX1_remembers_0 ++ dktX1_remembers_1
theorem dksX1_remembers_0 : cX1_remembers.data.toList.drop 0 = dktX1_remembers_0 := by decide +kernel
theorem dksX1_remembers_1 : cX1_remembers.data.toList.drop 23 = dktX1_remembers_1 := dk_seg dksX1_remembers_0 23 rfl rfl
theorem dksX1_remembers_2 : cX1_remembers.data.toList.drop 45 = dktX1_remembers_2 := dk_seg dksX1_remembers_1 22 rfl rfl
theorem dksX1_remembers_3 : cX1_remembers.data.toList.drop 67 = dktX1_remembers_3 := dk_seg dksX1_remembers_2 22 rfl rfl
theorem dksX1_remembers_4 : cX1_remembers.data.toList.drop 91 = dktX1_remembers_4 := dk_seg dksX1_remembers_3 24 rfl rfl
theorem dX1_remembers_0 : decode cX1_remembers 0 = .ok (.iconst 0, 1) := dk_3 (dk_at dksX1_remembers_0 0 rfl rfl)
theorem dX1_remembers_1 : decode cX1_remembers 1 = .ok (.istore_n 2, 1) := dk_61 (dk_at dksX1_remembers_0 1 rfl rfl)
theorem dX1_remembers_2 : decode cX1_remembers 2 = .ok (.iload_n 2, 1) := dk_28 (dk_at dksX1_remembers_0 2 rfl rfl)
theorem dX1_remembers_3 : decode cX1_remembers 3 = .ok (.aload_n 0, 1) := dk_42 (dk_at dksX1_remembers_0 3 rfl rfl)
theorem dX1_remembers_4 : decode cX1_remembers 4 = .ok (.getfield 43, 3) := dk_180 0 43 (dk_at dksX1_remembers_0 4 rfl rfl)
theorem dX1_remembers_7 : decode cX1_remembers 7 = .ok (.if_icmp .ge 19, 3) := dk_162 0 19 (dk_at dksX1_remembers_0 7 rfl rfl)
theorem dX1_remembers_10 : decode cX1_remembers 10 = .ok (.aload_n 0, 1) := dk_42 (dk_at dksX1_remembers_0 10 rfl rfl)
theorem dX1_remembers_11 : decode cX1_remembers 11 = .ok (.getfield 26, 3) := dk_180 0 26 (dk_at dksX1_remembers_0 11 rfl rfl)
theorem dX1_remembers_14 : decode cX1_remembers 14 = .ok (.iload_n 2, 1) := dk_28 (dk_at dksX1_remembers_0 14 rfl rfl)
theorem dX1_remembers_15 : decode cX1_remembers 15 = .ok (.iaload, 1) := dk_46 (dk_at dksX1_remembers_0 15 rfl rfl)
theorem dX1_remembers_16 : decode cX1_remembers 16 = .ok (.iload_n 1, 1) := dk_27 (dk_at dksX1_remembers_0 16 rfl rfl)
theorem dX1_remembers_17 : decode cX1_remembers 17 = .ok (.if_icmp .eq 9, 3) := dk_159 0 9 (dk_at dksX1_remembers_0 17 rfl rfl)
theorem dX1_remembers_20 : decode cX1_remembers 20 = .ok (.iinc 2 1, 3) := dk_132 2 1 (dk_at dksX1_remembers_0 20 rfl rfl)
theorem dX1_remembers_23 : decode cX1_remembers 23 = .ok (.goto (-21), 3) := dk_167 255 235 (dk_at dksX1_remembers_1 0 rfl rfl)
theorem dX1_remembers_26 : decode cX1_remembers 26 = .ok (.aload_n 0, 1) := dk_42 (dk_at dksX1_remembers_1 3 rfl rfl)
theorem dX1_remembers_27 : decode cX1_remembers 27 = .ok (.dup, 1) := dk_89 (dk_at dksX1_remembers_1 4 rfl rfl)
theorem dX1_remembers_28 : decode cX1_remembers 28 = .ok (.getfield 43, 3) := dk_180 0 43 (dk_at dksX1_remembers_1 5 rfl rfl)
theorem dX1_remembers_31 : decode cX1_remembers 31 = .ok (.iload_n 2, 1) := dk_28 (dk_at dksX1_remembers_1 8 rfl rfl)
theorem dX1_remembers_32 : decode cX1_remembers 32 = .ok (.aload_n 0, 1) := dk_42 (dk_at dksX1_remembers_1 9 rfl rfl)
theorem dX1_remembers_33 : decode cX1_remembers 33 = .ok (.getfield 43, 3) := dk_180 0 43 (dk_at dksX1_remembers_1 10 rfl rfl)
theorem dX1_remembers_36 : decode cX1_remembers 36 = .ok (.if_icmp .ne 7, 3) := dk_160 0 7 (dk_at dksX1_remembers_1 13 rfl rfl)
theorem dX1_remembers_39 : decode cX1_remembers 39 = .ok (.iconst 1, 1) := dk_4 (dk_at dksX1_remembers_1 16 rfl rfl)
theorem dX1_remembers_40 : decode cX1_remembers 40 = .ok (.goto 4, 3) := dk_167 0 4 (dk_at dksX1_remembers_1 17 rfl rfl)
theorem dX1_remembers_43 : decode cX1_remembers 43 = .ok (.iconst 0, 1) := dk_3 (dk_at dksX1_remembers_1 20 rfl rfl)
theorem dX1_remembers_44 : decode cX1_remembers 44 = .ok (.iadd, 1) := dk_96 (dk_at dksX1_remembers_1 21 rfl rfl)
theorem dX1_remembers_45 : decode cX1_remembers 45 = .ok (.putfield 43, 3) := dk_181 0 43 (dk_at dksX1_remembers_2 0 rfl rfl)
theorem dX1_remembers_48 : decode cX1_remembers 48 = .ok (.aload_n 0, 1) := dk_42 (dk_at dksX1_remembers_2 3 rfl rfl)
theorem dX1_remembers_49 : decode cX1_remembers 49 = .ok (.getfield 26, 3) := dk_180 0 26 (dk_at dksX1_remembers_2 4 rfl rfl)
theorem dX1_remembers_52 : decode cX1_remembers 52 = .ok (.iload_n 2, 1) := dk_28 (dk_at dksX1_remembers_2 7 rfl rfl)
theorem dX1_remembers_53 : decode cX1_remembers 53 = .ok (.iconst 1, 1) := dk_4 (dk_at dksX1_remembers_2 8 rfl rfl)
theorem dX1_remembers_54 : decode cX1_remembers 54 = .ok (.iadd, 1) := dk_96 (dk_at dksX1_remembers_2 9 rfl rfl)
theorem dX1_remembers_55 : decode cX1_remembers 55 = .ok (.aload_n 0, 1) := dk_42 (dk_at dksX1_remembers_2 10 rfl rfl)
theorem dX1_remembers_56 : decode cX1_remembers 56 = .ok (.getfield 26, 3) := dk_180 0 26 (dk_at dksX1_remembers_2 11 rfl rfl)
theorem dX1_remembers_59 : decode cX1_remembers 59 = .ok (.iload_n 2, 1) := dk_28 (dk_at dksX1_remembers_2 14 rfl rfl)
theorem dX1_remembers_60 : decode cX1_remembers 60 = .ok (.iconst 2, 1) := dk_5 (dk_at dksX1_remembers_2 15 rfl rfl)
theorem dX1_remembers_61 : decode cX1_remembers 61 = .ok (.iload_n 2, 1) := dk_28 (dk_at dksX1_remembers_2 16 rfl rfl)
theorem dX1_remembers_62 : decode cX1_remembers 62 = .ok (.isub, 1) := dk_100 (dk_at dksX1_remembers_2 17 rfl rfl)
theorem dX1_remembers_63 : decode cX1_remembers 63 = .ok (.invokestatic 33, 3) := dk_184 0 33 (dk_at dksX1_remembers_2 18 rfl rfl)
theorem dX1_remembers_66 : decode cX1_remembers 66 = .ok (.aload_n 0, 1) := dk_42 (dk_at dksX1_remembers_2 21 rfl rfl)
theorem dX1_remembers_67 : decode cX1_remembers 67 = .ok (.getfield 26, 3) := dk_180 0 26 (dk_at dksX1_remembers_3 0 rfl rfl)
theorem dX1_remembers_70 : decode cX1_remembers 70 = .ok (.aload_n 0, 1) := dk_42 (dk_at dksX1_remembers_3 3 rfl rfl)
theorem dX1_remembers_71 : decode cX1_remembers 71 = .ok (.getfield 43, 3) := dk_180 0 43 (dk_at dksX1_remembers_3 4 rfl rfl)
theorem dX1_remembers_74 : decode cX1_remembers 74 = .ok (.iconst 1, 1) := dk_4 (dk_at dksX1_remembers_3 7 rfl rfl)
theorem dX1_remembers_75 : decode cX1_remembers 75 = .ok (.isub, 1) := dk_100 (dk_at dksX1_remembers_3 8 rfl rfl)
theorem dX1_remembers_76 : decode cX1_remembers 76 = .ok (.iload_n 1, 1) := dk_27 (dk_at dksX1_remembers_3 9 rfl rfl)
theorem dX1_remembers_77 : decode cX1_remembers 77 = .ok (.iastore, 1) := dk_79 (dk_at dksX1_remembers_3 10 rfl rfl)
theorem dX1_remembers_78 : decode cX1_remembers 78 = .ok (.aload_n 0, 1) := dk_42 (dk_at dksX1_remembers_3 11 rfl rfl)
theorem dX1_remembers_79 : decode cX1_remembers 79 = .ok (.getfield 43, 3) := dk_180 0 43 (dk_at dksX1_remembers_3 12 rfl rfl)
theorem dX1_remembers_82 : decode cX1_remembers 82 = .ok (.iconst 2, 1) := dk_5 (dk_at dksX1_remembers_3 15 rfl rfl)
theorem dX1_remembers_83 : decode cX1_remembers 83 = .ok (.if_icmp .le 27, 3) := dk_164 0 27 (dk_at dksX1_remembers_3 16 rfl rfl)
theorem dX1_remembers_86 : decode cX1_remembers 86 = .ok (.aload_n 0, 1) := dk_42 (dk_at dksX1_remembers_3 19 rfl rfl)
theorem dX1_remembers_87 : decode cX1_remembers 87 = .ok (.getfield 26, 3) := dk_180 0 26 (dk_at dksX1_remembers_3 20 rfl rfl)
theorem dX1_remembers_90 : decode cX1_remembers 90 = .ok (.iconst 1, 1) := dk_4 (dk_at dksX1_remembers_3 23 rfl rfl)
theorem dX1_remembers_91 : decode cX1_remembers 91 = .ok (.aload_n 0, 1) := dk_42 (dk_at dksX1_remembers_4 0 rfl rfl)
theorem dX1_remembers_92 : decode cX1_remembers 92 = .ok (.getfield 26, 3) := dk_180 0 26 (dk_at dksX1_remembers_4 1 rfl rfl)
theorem dX1_remembers_95 : decode cX1_remembers 95 = .ok (.iconst 0, 1) := dk_3 (dk_at dksX1_remembers_4 4 rfl rfl)
theorem dX1_remembers_96 : decode cX1_remembers 96 = .ok (.iconst 2, 1) := dk_5 (dk_at dksX1_remembers_4 5 rfl rfl)
theorem dX1_remembers_97 : decode cX1_remembers 97 = .ok (.invokestatic 33, 3) := dk_184 0 33 (dk_at dksX1_remembers_4 6 rfl rfl)
theorem dX1_remembers_100 : decode cX1_remembers 100 = .ok (.aload_n 0, 1) := dk_42 (dk_at dksX1_remembers_4 9 rfl rfl)
theorem dX1_remembers_101 : decode cX1_remembers 101 = .ok (.dup, 1) := dk_89 (dk_at dksX1_remembers_4 10 rfl rfl)
theorem dX1_remembers_102 : decode cX1_remembers 102 = .ok (.getfield 43, 3) := dk_180 0 43 (dk_at dksX1_remembers_4 11 rfl rfl)
theorem dX1_remembers_105 : decode cX1_remembers 105 = .ok (.iconst 1, 1) := dk_4 (dk_at dksX1_remembers_4 14 rfl rfl)
theorem dX1_remembers_106 : decode cX1_remembers 106 = .ok (.isub, 1) := dk_100 (dk_at dksX1_remembers_4 15 rfl rfl)
theorem dX1_remembers_107 : decode cX1_remembers 107 = .ok (.putfield 43, 3) := dk_181 0 43 (dk_at dksX1_remembers_4 16 rfl rfl)
theorem dX1_remembers_110 : decode cX1_remembers 110 = .ok (.return_, 1) := dk_177 (dk_at dksX1_remembers_4 19 rfl rfl)
abbrev cX1_turns : ByteArray := prog_10_method_6_code
def yX1_turns : MethodName := ⟨RX1, "turns", "(I)I"⟩
def dkwX1_turns_2 : List UInt8 := [153, 0, 7, 4, 167, 0, 4, 3, 172]
abbrev dktX1_turns_2 : List UInt8 := dkwX1_turns_2 ++ []
def dkwX1_turns_1 : List UInt8 := [27, 42, 180, 0, 23, 27, 51, 154, 0, 7, 4, 167, 0, 4, 3, 84, 42, 180, 0, 19, 27, 51]
abbrev dktX1_turns_1 : List UInt8 := dkwX1_turns_1 ++ dktX1_turns_2
def dkwX1_turns_0 : List UInt8 := [42, 180, 0, 19, 27, 42, 180, 0, 19, 27, 51, 154, 0, 7, 4, 167, 0, 4, 3, 84, 42, 180, 0, 23]
abbrev dktX1_turns_0 : List UInt8 := dkwX1_turns_0 ++ dktX1_turns_1
theorem dksX1_turns_0 : cX1_turns.data.toList.drop 0 = dktX1_turns_0 := by decide +kernel
theorem dksX1_turns_1 : cX1_turns.data.toList.drop 24 = dktX1_turns_1 := dk_seg dksX1_turns_0 24 rfl rfl
theorem dksX1_turns_2 : cX1_turns.data.toList.drop 46 = dktX1_turns_2 := dk_seg dksX1_turns_1 22 rfl rfl
theorem dX1_turns_0 : decode cX1_turns 0 = .ok (.aload_n 0, 1) := dk_42 (dk_at dksX1_turns_0 0 rfl rfl)
theorem dX1_turns_1 : decode cX1_turns 1 = .ok (.getfield 19, 3) := dk_180 0 19 (dk_at dksX1_turns_0 1 rfl rfl)
theorem dX1_turns_4 : decode cX1_turns 4 = .ok (.iload_n 1, 1) := dk_27 (dk_at dksX1_turns_0 4 rfl rfl)
theorem dX1_turns_5 : decode cX1_turns 5 = .ok (.aload_n 0, 1) := dk_42 (dk_at dksX1_turns_0 5 rfl rfl)
theorem dX1_turns_6 : decode cX1_turns 6 = .ok (.getfield 19, 3) := dk_180 0 19 (dk_at dksX1_turns_0 6 rfl rfl)
theorem dX1_turns_9 : decode cX1_turns 9 = .ok (.iload_n 1, 1) := dk_27 (dk_at dksX1_turns_0 9 rfl rfl)
theorem dX1_turns_10 : decode cX1_turns 10 = .ok (.baload, 1) := dk_51 (dk_at dksX1_turns_0 10 rfl rfl)
theorem dX1_turns_11 : decode cX1_turns 11 = .ok (.ifCond .ne 7, 3) := dk_154 0 7 (dk_at dksX1_turns_0 11 rfl rfl)
theorem dX1_turns_14 : decode cX1_turns 14 = .ok (.iconst 1, 1) := dk_4 (dk_at dksX1_turns_0 14 rfl rfl)
theorem dX1_turns_15 : decode cX1_turns 15 = .ok (.goto 4, 3) := dk_167 0 4 (dk_at dksX1_turns_0 15 rfl rfl)
theorem dX1_turns_18 : decode cX1_turns 18 = .ok (.iconst 0, 1) := dk_3 (dk_at dksX1_turns_0 18 rfl rfl)
theorem dX1_turns_19 : decode cX1_turns 19 = .ok (.bastore, 1) := dk_84 (dk_at dksX1_turns_0 19 rfl rfl)
theorem dX1_turns_20 : decode cX1_turns 20 = .ok (.aload_n 0, 1) := dk_42 (dk_at dksX1_turns_0 20 rfl rfl)
theorem dX1_turns_21 : decode cX1_turns 21 = .ok (.getfield 23, 3) := dk_180 0 23 (dk_at dksX1_turns_0 21 rfl rfl)
theorem dX1_turns_24 : decode cX1_turns 24 = .ok (.iload_n 1, 1) := dk_27 (dk_at dksX1_turns_1 0 rfl rfl)
theorem dX1_turns_25 : decode cX1_turns 25 = .ok (.aload_n 0, 1) := dk_42 (dk_at dksX1_turns_1 1 rfl rfl)
theorem dX1_turns_26 : decode cX1_turns 26 = .ok (.getfield 23, 3) := dk_180 0 23 (dk_at dksX1_turns_1 2 rfl rfl)
theorem dX1_turns_29 : decode cX1_turns 29 = .ok (.iload_n 1, 1) := dk_27 (dk_at dksX1_turns_1 5 rfl rfl)
theorem dX1_turns_30 : decode cX1_turns 30 = .ok (.baload, 1) := dk_51 (dk_at dksX1_turns_1 6 rfl rfl)
theorem dX1_turns_31 : decode cX1_turns 31 = .ok (.ifCond .ne 7, 3) := dk_154 0 7 (dk_at dksX1_turns_1 7 rfl rfl)
theorem dX1_turns_34 : decode cX1_turns 34 = .ok (.iconst 1, 1) := dk_4 (dk_at dksX1_turns_1 10 rfl rfl)
theorem dX1_turns_35 : decode cX1_turns 35 = .ok (.goto 4, 3) := dk_167 0 4 (dk_at dksX1_turns_1 11 rfl rfl)
theorem dX1_turns_38 : decode cX1_turns 38 = .ok (.iconst 0, 1) := dk_3 (dk_at dksX1_turns_1 14 rfl rfl)
theorem dX1_turns_39 : decode cX1_turns 39 = .ok (.bastore, 1) := dk_84 (dk_at dksX1_turns_1 15 rfl rfl)
theorem dX1_turns_40 : decode cX1_turns 40 = .ok (.aload_n 0, 1) := dk_42 (dk_at dksX1_turns_1 16 rfl rfl)
theorem dX1_turns_41 : decode cX1_turns 41 = .ok (.getfield 19, 3) := dk_180 0 19 (dk_at dksX1_turns_1 17 rfl rfl)
theorem dX1_turns_44 : decode cX1_turns 44 = .ok (.iload_n 1, 1) := dk_27 (dk_at dksX1_turns_1 20 rfl rfl)
theorem dX1_turns_45 : decode cX1_turns 45 = .ok (.baload, 1) := dk_51 (dk_at dksX1_turns_1 21 rfl rfl)
theorem dX1_turns_46 : decode cX1_turns 46 = .ok (.ifCond .eq 7, 3) := dk_153 0 7 (dk_at dksX1_turns_2 0 rfl rfl)
theorem dX1_turns_49 : decode cX1_turns 49 = .ok (.iconst 1, 1) := dk_4 (dk_at dksX1_turns_2 3 rfl rfl)
theorem dX1_turns_50 : decode cX1_turns 50 = .ok (.goto 4, 3) := dk_167 0 4 (dk_at dksX1_turns_2 4 rfl rfl)
theorem dX1_turns_53 : decode cX1_turns 53 = .ok (.iconst 0, 1) := dk_3 (dk_at dksX1_turns_2 7 rfl rfl)
theorem dX1_turns_54 : decode cX1_turns 54 = .ok (.ireturn, 1) := dk_172 (dk_at dksX1_turns_2 8 rfl rfl)
abbrev cX1_longest : ByteArray := prog_10_method_7_code
def yX1_longest : MethodName := ⟨RX1, "longest", "()I"⟩
def dkwX1_longest_2 : List UInt8 := [60, 132, 3, 1, 167, 255, 210, 27, 172]
abbrev dktX1_longest_2 : List UInt8 := dkwX1_longest_2 ++ []
def dkwX1_longest_1 : List UInt8 := [42, 180, 0, 19, 29, 4, 100, 51, 160, 0, 9, 28, 4, 96, 167, 0, 4, 4, 61, 27, 28, 184, 0, 61]
abbrev dktX1_longest_1 : List UInt8 := dkwX1_longest_1 ++ dktX1_longest_2
def dkwX1_longest_0 : List UInt8 := [3, 60, 3, 61, 3, 62, 29, 42, 182, 0, 50, 162, 0, 44, 29, 158, 0, 26, 42, 180, 0, 19, 29, 51]
abbrev dktX1_longest_0 : List UInt8 := dkwX1_longest_0 ++ dktX1_longest_1
theorem dksX1_longest_0 : cX1_longest.data.toList.drop 0 = dktX1_longest_0 := by decide +kernel
theorem dksX1_longest_1 : cX1_longest.data.toList.drop 24 = dktX1_longest_1 := dk_seg dksX1_longest_0 24 rfl rfl
theorem dksX1_longest_2 : cX1_longest.data.toList.drop 48 = dktX1_longest_2 := dk_seg dksX1_longest_1 24 rfl rfl
theorem dX1_longest_0 : decode cX1_longest 0 = .ok (.iconst 0, 1) := dk_3 (dk_at dksX1_longest_0 0 rfl rfl)
theorem dX1_longest_1 : decode cX1_longest 1 = .ok (.istore_n 1, 1) := dk_60 (dk_at dksX1_longest_0 1 rfl rfl)
theorem dX1_longest_2 : decode cX1_longest 2 = .ok (.iconst 0, 1) := dk_3 (dk_at dksX1_longest_0 2 rfl rfl)
theorem dX1_longest_3 : decode cX1_longest 3 = .ok (.istore_n 2, 1) := dk_61 (dk_at dksX1_longest_0 3 rfl rfl)
theorem dX1_longest_4 : decode cX1_longest 4 = .ok (.iconst 0, 1) := dk_3 (dk_at dksX1_longest_0 4 rfl rfl)
theorem dX1_longest_5 : decode cX1_longest 5 = .ok (.istore_n 3, 1) := dk_62 (dk_at dksX1_longest_0 5 rfl rfl)
theorem dX1_longest_6 : decode cX1_longest 6 = .ok (.iload_n 3, 1) := dk_29 (dk_at dksX1_longest_0 6 rfl rfl)
theorem dX1_longest_7 : decode cX1_longest 7 = .ok (.aload_n 0, 1) := dk_42 (dk_at dksX1_longest_0 7 rfl rfl)
theorem dX1_longest_8 : decode cX1_longest 8 = .ok (.invokevirtual 50, 3) := dk_182 0 50 (dk_at dksX1_longest_0 8 rfl rfl)
theorem dX1_longest_11 : decode cX1_longest 11 = .ok (.if_icmp .ge 44, 3) := dk_162 0 44 (dk_at dksX1_longest_0 11 rfl rfl)
theorem dX1_longest_14 : decode cX1_longest 14 = .ok (.iload_n 3, 1) := dk_29 (dk_at dksX1_longest_0 14 rfl rfl)
theorem dX1_longest_15 : decode cX1_longest 15 = .ok (.ifCond .le 26, 3) := dk_158 0 26 (dk_at dksX1_longest_0 15 rfl rfl)
theorem dX1_longest_18 : decode cX1_longest 18 = .ok (.aload_n 0, 1) := dk_42 (dk_at dksX1_longest_0 18 rfl rfl)
theorem dX1_longest_19 : decode cX1_longest 19 = .ok (.getfield 19, 3) := dk_180 0 19 (dk_at dksX1_longest_0 19 rfl rfl)
theorem dX1_longest_22 : decode cX1_longest 22 = .ok (.iload_n 3, 1) := dk_29 (dk_at dksX1_longest_0 22 rfl rfl)
theorem dX1_longest_23 : decode cX1_longest 23 = .ok (.baload, 1) := dk_51 (dk_at dksX1_longest_0 23 rfl rfl)
theorem dX1_longest_24 : decode cX1_longest 24 = .ok (.aload_n 0, 1) := dk_42 (dk_at dksX1_longest_1 0 rfl rfl)
theorem dX1_longest_25 : decode cX1_longest 25 = .ok (.getfield 19, 3) := dk_180 0 19 (dk_at dksX1_longest_1 1 rfl rfl)
theorem dX1_longest_28 : decode cX1_longest 28 = .ok (.iload_n 3, 1) := dk_29 (dk_at dksX1_longest_1 4 rfl rfl)
theorem dX1_longest_29 : decode cX1_longest 29 = .ok (.iconst 1, 1) := dk_4 (dk_at dksX1_longest_1 5 rfl rfl)
theorem dX1_longest_30 : decode cX1_longest 30 = .ok (.isub, 1) := dk_100 (dk_at dksX1_longest_1 6 rfl rfl)
theorem dX1_longest_31 : decode cX1_longest 31 = .ok (.baload, 1) := dk_51 (dk_at dksX1_longest_1 7 rfl rfl)
theorem dX1_longest_32 : decode cX1_longest 32 = .ok (.if_icmp .ne 9, 3) := dk_160 0 9 (dk_at dksX1_longest_1 8 rfl rfl)
theorem dX1_longest_35 : decode cX1_longest 35 = .ok (.iload_n 2, 1) := dk_28 (dk_at dksX1_longest_1 11 rfl rfl)
theorem dX1_longest_36 : decode cX1_longest 36 = .ok (.iconst 1, 1) := dk_4 (dk_at dksX1_longest_1 12 rfl rfl)
theorem dX1_longest_37 : decode cX1_longest 37 = .ok (.iadd, 1) := dk_96 (dk_at dksX1_longest_1 13 rfl rfl)
theorem dX1_longest_38 : decode cX1_longest 38 = .ok (.goto 4, 3) := dk_167 0 4 (dk_at dksX1_longest_1 14 rfl rfl)
theorem dX1_longest_41 : decode cX1_longest 41 = .ok (.iconst 1, 1) := dk_4 (dk_at dksX1_longest_1 17 rfl rfl)
theorem dX1_longest_42 : decode cX1_longest 42 = .ok (.istore_n 2, 1) := dk_61 (dk_at dksX1_longest_1 18 rfl rfl)
theorem dX1_longest_43 : decode cX1_longest 43 = .ok (.iload_n 1, 1) := dk_27 (dk_at dksX1_longest_1 19 rfl rfl)
theorem dX1_longest_44 : decode cX1_longest 44 = .ok (.iload_n 2, 1) := dk_28 (dk_at dksX1_longest_1 20 rfl rfl)
theorem dX1_longest_45 : decode cX1_longest 45 = .ok (.invokestatic 61, 3) := dk_184 0 61 (dk_at dksX1_longest_1 21 rfl rfl)
theorem dX1_longest_48 : decode cX1_longest 48 = .ok (.istore_n 1, 1) := dk_60 (dk_at dksX1_longest_2 0 rfl rfl)
theorem dX1_longest_49 : decode cX1_longest 49 = .ok (.iinc 3 1, 3) := dk_132 3 1 (dk_at dksX1_longest_2 1 rfl rfl)
theorem dX1_longest_52 : decode cX1_longest 52 = .ok (.goto (-46), 3) := dk_167 255 210 (dk_at dksX1_longest_2 4 rfl rfl)
theorem dX1_longest_55 : decode cX1_longest 55 = .ok (.iload_n 1, 1) := dk_27 (dk_at dksX1_longest_2 7 rfl rfl)
theorem dX1_longest_56 : decode cX1_longest 56 = .ok (.ireturn, 1) := dk_172 (dk_at dksX1_longest_2 8 rfl rfl)
theorem q56 : (Jvm.Cond.initialized "EvenWords$Wire") ∈ lw_all := lw_g (lw_at lw_m1 4 rfl) rfl
theorem q112 : (Jvm.Cond.instantiable "EvenWords$Wire" (8 : Nat)) ∈ lw_all := lw_g (lw_at lw_m1 60 rfl) rfl
theorem q114 : (Jvm.Cond.instanceMethod ({ cls := "EvenWords$Wire", name := "<init>", desc := "(LEvenWords;)V" } : Jvm.MethodName)) ∈ lw_all := lw_g (lw_at lw_m1 62 rfl) rfl
theorem q115 : (Jvm.Cond.code ({ cls := "EvenWords$Wire", name := "<init>", desc := "(LEvenWords;)V" } : Jvm.MethodName) prog_10_method_1_code (2 : Nat) (Option.none : Option Jvm.ClassFile.FieldType)) ∈ lw_all := lw_g (lw_at lw_m1 63 rfl) rfl
theorem q116 : (Jvm.Cond.methodLink "EvenWords$Wire" (9 : Nat) ({ cls := "java/lang/Object", name := "<init>", desc := "()V" } : Jvm.MethodName)) ∈ lw_all := lw_g (lw_at lw_m1 64 rfl) rfl
theorem q117 : (Jvm.Cond.fieldLink "EvenWords$Wire" (29 : Nat) "EvenWords$Wire" "words" "I") ∈ lw_all := lw_g (lw_at lw_m1 65 rfl) rfl
theorem q120 : (Jvm.Cond.fieldLink "EvenWords$Wire" (15 : Nat) "EvenWords$Wire" "sent" "[I") ∈ lw_all := lw_g (lw_at lw_m1 68 rfl) rfl
theorem q122 : (Jvm.Cond.fieldLink "EvenWords$Wire" (19 : Nat) "EvenWords$Wire" "bits" "[Z") ∈ lw_all := lw_g (lw_at lw_m1 70 rfl) rfl
theorem q125 : (Jvm.Cond.fieldLink "EvenWords$Wire" (23 : Nat) "EvenWords$Wire" "turned" "[Z") ∈ lw_all := lw_g (lw_at lw_m1 73 rfl) rfl
theorem q127 : (Jvm.Cond.fieldLink "EvenWords$Wire" (39 : Nat) "EvenWords$Wire" "isAbove" "Z") ∈ lw_all := lw_g (lw_at lw_m1 75 rfl) rfl
theorem q129 : (Jvm.Cond.fieldLink "EvenWords$Wire" (26 : Nat) "EvenWords$Wire" "marks" "[I") ∈ lw_all := lw_g (lw_at lw_m1 77 rfl) rfl
theorem q131 : (Jvm.Cond.fieldLink "EvenWords$Wire" (43 : Nat) "EvenWords$Wire" "recent" "I") ∈ lw_all := lw_g (lw_at lw_m1 79 rfl) rfl
theorem q133 : (Jvm.Cond.fieldLink "EvenWords$Wire" (3 : Nat) "EvenWords$Wire" "this$0" "LEvenWords;") ∈ lw_all := lw_g (lw_at lw_m1 81 rfl) rfl
theorem q134 : (Jvm.Cond.lays "EvenWords$Wire" "EvenWords$Wire" "words" "I") ∈ lw_all := lw_g (lw_at lw_m1 82 rfl) rfl
theorem q135 : (Jvm.Cond.soleField "EvenWords$Wire" "words") ∈ lw_all := lw_g (lw_at lw_m1 83 rfl) rfl
theorem q136 : (Jvm.Cond.laysFinal "EvenWords$Wire" "EvenWords$Wire" "sent" "[I") ∈ lw_all := lw_g (lw_at lw_m1 84 rfl) rfl
theorem q137 : (Jvm.Cond.soleField "EvenWords$Wire" "sent") ∈ lw_all := lw_g (lw_at lw_m1 85 rfl) rfl
theorem q138 : (Jvm.Cond.laysFinal "EvenWords$Wire" "EvenWords$Wire" "bits" "[Z") ∈ lw_all := lw_g (lw_at lw_m1 86 rfl) rfl
theorem q139 : (Jvm.Cond.soleField "EvenWords$Wire" "bits") ∈ lw_all := lw_g (lw_at lw_m1 87 rfl) rfl
theorem q140 : (Jvm.Cond.laysFinal "EvenWords$Wire" "EvenWords$Wire" "turned" "[Z") ∈ lw_all := lw_g (lw_at lw_m1 88 rfl) rfl
theorem q141 : (Jvm.Cond.soleField "EvenWords$Wire" "turned") ∈ lw_all := lw_g (lw_at lw_m1 89 rfl) rfl
theorem q142 : (Jvm.Cond.lays "EvenWords$Wire" "EvenWords$Wire" "isAbove" "Z") ∈ lw_all := lw_g (lw_at lw_m1 90 rfl) rfl
theorem q143 : (Jvm.Cond.soleField "EvenWords$Wire" "isAbove") ∈ lw_all := lw_g (lw_at lw_m1 91 rfl) rfl
theorem q144 : (Jvm.Cond.laysFinal "EvenWords$Wire" "EvenWords$Wire" "marks" "[I") ∈ lw_all := lw_g (lw_at lw_m1 92 rfl) rfl
theorem q145 : (Jvm.Cond.soleField "EvenWords$Wire" "marks") ∈ lw_all := lw_g (lw_at lw_m1 93 rfl) rfl
theorem q146 : (Jvm.Cond.lays "EvenWords$Wire" "EvenWords$Wire" "recent" "I") ∈ lw_all := lw_g (lw_at lw_m1 94 rfl) rfl
theorem q147 : (Jvm.Cond.soleField "EvenWords$Wire" "recent") ∈ lw_all := lw_g (lw_at lw_m1 95 rfl) rfl
theorem q148 : (Jvm.Cond.laysFinal "EvenWords$Wire" "EvenWords$Wire" "this$0" "LEvenWords;") ∈ lw_all := lw_g (lw_at lw_m1 96 rfl) rfl
theorem q149 : (Jvm.Cond.soleField "EvenWords$Wire" "this$0") ∈ lw_all := lw_g (lw_at lw_m1 97 rfl) rfl
theorem q150 : (Jvm.Cond.superclass "EvenWords$Wire" "java/lang/Object") ∈ lw_all := lw_g (lw_at lw_m1 98 rfl) rfl
theorem q387 : (Jvm.Cond.instanceMethod ({ cls := "EvenWords$Wire", name := "as", desc := "(LEvenWords$Wire;)LEvenWords$Wire;" } : Jvm.MethodName)) ∈ lw_all := lw_g (lw_at lw_m2 95 rfl) rfl
theorem q388 : (Jvm.Cond.selects "EvenWords$Wire" ({ cls := "EvenWords$Wire", name := "as", desc := "(LEvenWords$Wire;)LEvenWords$Wire;" } : Jvm.MethodName) ({ cls := "EvenWords$Wire", name := "as", desc := "(LEvenWords$Wire;)LEvenWords$Wire;" } : Jvm.MethodName)) ∈ lw_all := lw_g (lw_at lw_m2 96 rfl) rfl
theorem q389 : (Jvm.Cond.code ({ cls := "EvenWords$Wire", name := "as", desc := "(LEvenWords$Wire;)LEvenWords$Wire;" } : Jvm.MethodName) prog_10_method_2_code (2 : Nat) (Option.some (Jvm.ClassFile.FieldType.object "EvenWords$Wire"))) ∈ lw_all := lw_g (lw_at lw_m2 97 rfl) rfl
theorem q390 : (Jvm.Cond.methodLink "EvenWords$Wire" (33 : Nat) ({ cls := "java/lang/System", name := "arraycopy", desc := "(Ljava/lang/Object;ILjava/lang/Object;II)V" } : Jvm.MethodName)) ∈ lw_all := lw_g (lw_at lw_m2 98 rfl) rfl
theorem q392 : (Jvm.Cond.instanceMethod ({ cls := "EvenWords$Wire", name := "sends", desc := "(I)I" } : Jvm.MethodName)) ∈ lw_all := lw_g (lw_at lw_m2 100 rfl) rfl
theorem q393 : (Jvm.Cond.selects "EvenWords$Wire" ({ cls := "EvenWords$Wire", name := "sends", desc := "(I)I" } : Jvm.MethodName) ({ cls := "EvenWords$Wire", name := "sends", desc := "(I)I" } : Jvm.MethodName)) ∈ lw_all := lw_g (lw_at lw_m2 101 rfl) rfl
theorem q394 : (Jvm.Cond.code ({ cls := "EvenWords$Wire", name := "sends", desc := "(I)I" } : Jvm.MethodName) prog_10_method_5_code (4 : Nat) (Option.some Jvm.ClassFile.FieldType.int)) ∈ lw_all := lw_g (lw_at lw_m2 102 rfl) rfl
theorem q395 : (Jvm.Cond.methodLinkNest "EvenWords$Wire" (46 : Nat) ({ cls := "EvenWords", name := "formOf", desc := "(IZ)I" } : Jvm.MethodName) "EvenWords") ∈ lw_tbl := lw_at lw_m2 103 rfl
theorem q396 : (Jvm.Cond.methodLink "EvenWords$Wire" (50 : Nat) ({ cls := "EvenWords$Wire", name := "many", desc := "()I" } : Jvm.MethodName)) ∈ lw_all := lw_g (lw_at lw_m2 104 rfl) rfl
theorem q397 : (Jvm.Cond.instanceMethod ({ cls := "EvenWords$Wire", name := "many", desc := "()I" } : Jvm.MethodName)) ∈ lw_all := lw_g (lw_at lw_m2 105 rfl) rfl
theorem q398 : (Jvm.Cond.selects "EvenWords$Wire" ({ cls := "EvenWords$Wire", name := "many", desc := "()I" } : Jvm.MethodName) ({ cls := "EvenWords$Wire", name := "many", desc := "()I" } : Jvm.MethodName)) ∈ lw_all := lw_g (lw_at lw_m2 106 rfl) rfl
theorem q399 : (Jvm.Cond.code ({ cls := "EvenWords$Wire", name := "many", desc := "()I" } : Jvm.MethodName) prog_10_method_3_code (1 : Nat) (Option.some Jvm.ClassFile.FieldType.int)) ∈ lw_all := lw_g (lw_at lw_m2 107 rfl) rfl
theorem q400 : (Jvm.Cond.methodLinkNest "EvenWords$Wire" (54 : Nat) ({ cls := "EvenWords", name := "isAbove", desc := "(IZ)Z" } : Jvm.MethodName) "EvenWords") ∈ lw_tbl := lw_at lw_m2 108 rfl
theorem q403 : (Jvm.Cond.methodLink "EvenWords$Wire" (57 : Nat) ({ cls := "EvenWords$Wire", name := "remembers", desc := "(I)V" } : Jvm.MethodName)) ∈ lw_all := lw_g (lw_at lw_m2 111 rfl) rfl
theorem q404 : (Jvm.Cond.privateMethod ({ cls := "EvenWords$Wire", name := "remembers", desc := "(I)V" } : Jvm.MethodName)) ∈ lw_tbl := lw_at lw_m2 112 rfl
theorem q405 : (Jvm.Cond.instanceMethod ({ cls := "EvenWords$Wire", name := "remembers", desc := "(I)V" } : Jvm.MethodName)) ∈ lw_all := lw_g (lw_at lw_m2 113 rfl) rfl
theorem q406 : (Jvm.Cond.code ({ cls := "EvenWords$Wire", name := "remembers", desc := "(I)V" } : Jvm.MethodName) prog_10_method_4_code (3 : Nat) (Option.none : Option Jvm.ClassFile.FieldType)) ∈ lw_all := lw_g (lw_at lw_m2 114 rfl) rfl
theorem q429 : (Jvm.Cond.instanceMethod ({ cls := "EvenWords$Wire", name := "turns", desc := "(I)I" } : Jvm.MethodName)) ∈ lw_all := lw_g (lw_at lw_m2 137 rfl) rfl
theorem q430 : (Jvm.Cond.selects "EvenWords$Wire" ({ cls := "EvenWords$Wire", name := "turns", desc := "(I)I" } : Jvm.MethodName) ({ cls := "EvenWords$Wire", name := "turns", desc := "(I)I" } : Jvm.MethodName)) ∈ lw_all := lw_g (lw_at lw_m2 138 rfl) rfl
theorem q431 : (Jvm.Cond.code ({ cls := "EvenWords$Wire", name := "turns", desc := "(I)I" } : Jvm.MethodName) prog_10_method_6_code (2 : Nat) (Option.some Jvm.ClassFile.FieldType.int)) ∈ lw_all := lw_g (lw_at lw_m2 139 rfl) rfl
theorem q551 : (Jvm.Cond.selects "EvenWords$Wire" ({ cls := "java/lang/Object", name := "hashCode", desc := "()I" } : Jvm.MethodName) ({ cls := "java/lang/Object", name := "hashCode", desc := "()I" } : Jvm.MethodName)) ∈ lw_all := lw_g (lw_at lw_m3 19 rfl) rfl
theorem q732 : (Jvm.Cond.selects "EvenWords$Wire" ({ cls := "java/lang/Object", name := "getClass", desc := "()Ljava/lang/Class;" } : Jvm.MethodName) ({ cls := "java/lang/Object", name := "getClass", desc := "()Ljava/lang/Class;" } : Jvm.MethodName)) ∈ lw_all := lw_g (lw_at lw_m3 200 rfl) rfl
theorem q956 : (Jvm.Cond.selects "EvenWords$Wire" ({ cls := "java/lang/Object", name := "equals", desc := "(Ljava/lang/Object;)Z" } : Jvm.MethodName) ({ cls := "java/lang/Object", name := "equals", desc := "(Ljava/lang/Object;)Z" } : Jvm.MethodName)) ∈ lw_all := lw_g (lw_at lw_m4 184 rfl) rfl
theorem q1499 : (Jvm.Cond.instanceMethod ({ cls := "EvenWords$Wire", name := "longest", desc := "()I" } : Jvm.MethodName)) ∈ lw_all := lw_g (lw_at lw_m7 7 rfl) rfl
theorem q1500 : (Jvm.Cond.selects "EvenWords$Wire" ({ cls := "EvenWords$Wire", name := "longest", desc := "()I" } : Jvm.MethodName) ({ cls := "EvenWords$Wire", name := "longest", desc := "()I" } : Jvm.MethodName)) ∈ lw_all := lw_g (lw_at lw_m7 8 rfl) rfl
theorem q1501 : (Jvm.Cond.code ({ cls := "EvenWords$Wire", name := "longest", desc := "()I" } : Jvm.MethodName) prog_10_method_7_code (4 : Nat) (Option.some Jvm.ClassFile.FieldType.int)) ∈ lw_all := lw_g (lw_at lw_m7 9 rfl) rfl
theorem q1502 : (Jvm.Cond.methodLink "EvenWords$Wire" (61 : Nat) ({ cls := "java/lang/Math", name := "max", desc := "(II)I" } : Jvm.MethodName)) ∈ lw_all := lw_g (lw_at lw_m7 10 rfl) rfl
theorem q1868 : (Jvm.Cond.castable "EvenWords$Wire" "java/lang/Object") ∈ lw_tbl := lw_at lw_m8 136 rfl
theorem in_X1 : ∀ w ∈ wsX10, w ∈ lw_all := lw_in wsX10 [134, 136, 138, 140, 142, 144, 146, 148] (by decide +kernel) (by decide +kernel)

/-! EvenWords$Reader -/
set_option maxRecDepth 100000
def RX3 : String := "EvenWords$Reader"
def TX3 : u_T := fun k => match k with
  | 0 => ("EvenWords$Reader", "at", "I", false)
  | 1 => ("EvenWords$Reader", "start", "I", false)
  | 2 => ("EvenWords$Reader", "letter", "I", false)
  | 3 => ("EvenWords$Reader", "value", "I", false)
  | 4 => ("EvenWords$Reader", "items", "[I", true)
  | 5 => ("EvenWords$Reader", "many", "I", false)
  | _ => ("EvenWords$Reader", "this$0", "LEvenWords;", true)
def tyX3 : Nat → FieldType := fun k => match k with
  | 0 => .int
  | 1 => .int
  | 2 => .int
  | 3 => .int
  | 4 => .array .int
  | 5 => .int
  | _ => .object "EvenWords"
abbrev wsX30 : List Cond := u_ws RX3 TX3 7
theorem nmX3 : ∀ a, a < 7 → ∀ b, b < 7 → a ≠ b → (TX3 a).2.1 ≠ (TX3 b).2.1 := by decide +kernel
theorem tyX3_ok : ∀ k, k < 7 → parseFieldDescriptor (TX3 k).2.2.1 = some (tyX3 k) := by decide +kernel
abbrev cX3_init : ByteArray := prog_6_method_1_code
def yX3_init : MethodName := ⟨RX3, "<init>", "(LEvenWords;)V"⟩
def dkwX3_init_0 : List UInt8 := [42, 43, 181, 0, 3, 42, 183, 0, 9, 42, 16, 120, 188, 10, 181, 0, 15, 177]
abbrev dktX3_init_0 : List UInt8 := dkwX3_init_0 ++ []
theorem dksX3_init_0 : cX3_init.data.toList.drop 0 = dktX3_init_0 := by decide +kernel
theorem dX3_init_0 : decode cX3_init 0 = .ok (.aload_n 0, 1) := dk_42 (dk_at dksX3_init_0 0 rfl rfl)
theorem dX3_init_1 : decode cX3_init 1 = .ok (.aload_n 1, 1) := dk_43 (dk_at dksX3_init_0 1 rfl rfl)
theorem dX3_init_2 : decode cX3_init 2 = .ok (.putfield 3, 3) := dk_181 0 3 (dk_at dksX3_init_0 2 rfl rfl)
theorem dX3_init_5 : decode cX3_init 5 = .ok (.aload_n 0, 1) := dk_42 (dk_at dksX3_init_0 5 rfl rfl)
theorem dX3_init_6 : decode cX3_init 6 = .ok (.invokespecial 9, 3) := dk_183 0 9 (dk_at dksX3_init_0 6 rfl rfl)
theorem dX3_init_9 : decode cX3_init 9 = .ok (.aload_n 0, 1) := dk_42 (dk_at dksX3_init_0 9 rfl rfl)
theorem dX3_init_10 : decode cX3_init 10 = .ok (.bipush 120, 2) := dk_16 120 (dk_at dksX3_init_0 10 rfl rfl)
theorem dX3_init_12 : decode cX3_init 12 = .ok (.newarray .int, 2) := dk_188_10 (dk_at dksX3_init_0 12 rfl rfl)
theorem dX3_init_14 : decode cX3_init 14 = .ok (.putfield 15, 3) := dk_181 0 15 (dk_at dksX3_init_0 14 rfl rfl)
theorem dX3_init_17 : decode cX3_init 17 = .ok (.return_, 1) := dk_177 (dk_at dksX3_init_0 17 rfl rfl)
abbrev cX3_read : ByteArray := prog_6_method_6_code
def yX3_read : MethodName := ⟨RX3, "read", "()LEvenWords$Reader;"⟩
def dkwX3_read_1 : List UInt8 := [180, 0, 80, 42, 180, 0, 65, 96, 16, 32, 164, 0, 12, 187, 0, 71, 89, 1, 183, 0, 73, 191, 42, 176]
abbrev dktX3_read_1 : List UInt8 := dkwX3_read_1 ++ []
def dkwX3_read_0 : List UInt8 := [42, 182, 0, 68, 167, 0, 13, 76, 187, 0, 71, 89, 43, 183, 0, 73, 191, 42, 180, 0, 3, 180, 0, 76]
abbrev dktX3_read_0 : List UInt8 := dkwX3_read_0 ++ dktX3_read_1
theorem dksX3_read_0 : cX3_read.data.toList.drop 0 = dktX3_read_0 := by decide +kernel
theorem dksX3_read_1 : cX3_read.data.toList.drop 24 = dktX3_read_1 := dk_seg dksX3_read_0 24 rfl rfl
theorem dX3_read_0 : decode cX3_read 0 = .ok (.aload_n 0, 1) := dk_42 (dk_at dksX3_read_0 0 rfl rfl)
theorem dX3_read_1 : decode cX3_read 1 = .ok (.invokevirtual 68, 3) := dk_182 0 68 (dk_at dksX3_read_0 1 rfl rfl)
theorem dX3_read_4 : decode cX3_read 4 = .ok (.goto 13, 3) := dk_167 0 13 (dk_at dksX3_read_0 4 rfl rfl)
theorem dX3_read_7 : decode cX3_read 7 = .ok (.astore_n 1, 1) := dk_76 (dk_at dksX3_read_0 7 rfl rfl)
theorem dX3_read_8 : decode cX3_read 8 = .ok (.new 71, 3) := dk_187 0 71 (dk_at dksX3_read_0 8 rfl rfl)
theorem dX3_read_11 : decode cX3_read 11 = .ok (.dup, 1) := dk_89 (dk_at dksX3_read_0 11 rfl rfl)
theorem dX3_read_12 : decode cX3_read 12 = .ok (.aload_n 1, 1) := dk_43 (dk_at dksX3_read_0 12 rfl rfl)
theorem dX3_read_13 : decode cX3_read 13 = .ok (.invokespecial 73, 3) := dk_183 0 73 (dk_at dksX3_read_0 13 rfl rfl)
theorem dX3_read_16 : decode cX3_read 16 = .ok (.athrow, 1) := dk_191 (dk_at dksX3_read_0 16 rfl rfl)
theorem dX3_read_17 : decode cX3_read 17 = .ok (.aload_n 0, 1) := dk_42 (dk_at dksX3_read_0 17 rfl rfl)
theorem dX3_read_18 : decode cX3_read 18 = .ok (.getfield 3, 3) := dk_180 0 3 (dk_at dksX3_read_0 18 rfl rfl)
theorem dX3_read_21 : decode cX3_read 21 = .ok (.getfield 76, 3) := dk_180 0 76 (dk_at dksX3_read_0 21 rfl rfl)
theorem dX3_read_24 : decode cX3_read 24 = .ok (.getfield 80, 3) := dk_180 0 80 (dk_at dksX3_read_1 0 rfl rfl)
theorem dX3_read_27 : decode cX3_read 27 = .ok (.aload_n 0, 1) := dk_42 (dk_at dksX3_read_1 3 rfl rfl)
theorem dX3_read_28 : decode cX3_read 28 = .ok (.getfield 65, 3) := dk_180 0 65 (dk_at dksX3_read_1 4 rfl rfl)
theorem dX3_read_31 : decode cX3_read 31 = .ok (.iadd, 1) := dk_96 (dk_at dksX3_read_1 7 rfl rfl)
theorem dX3_read_32 : decode cX3_read 32 = .ok (.bipush 32, 2) := dk_16 32 (dk_at dksX3_read_1 8 rfl rfl)
theorem dX3_read_34 : decode cX3_read 34 = .ok (.if_icmp .le 12, 3) := dk_164 0 12 (dk_at dksX3_read_1 10 rfl rfl)
theorem dX3_read_37 : decode cX3_read 37 = .ok (.new 71, 3) := dk_187 0 71 (dk_at dksX3_read_1 13 rfl rfl)
theorem dX3_read_40 : decode cX3_read 40 = .ok (.dup, 1) := dk_89 (dk_at dksX3_read_1 16 rfl rfl)
theorem dX3_read_41 : decode cX3_read 41 = .ok (.aconst_null, 1) := dk_1 (dk_at dksX3_read_1 17 rfl rfl)
theorem dX3_read_42 : decode cX3_read 42 = .ok (.invokespecial 73, 3) := dk_183 0 73 (dk_at dksX3_read_1 18 rfl rfl)
theorem dX3_read_45 : decode cX3_read 45 = .ok (.athrow, 1) := dk_191 (dk_at dksX3_read_1 21 rfl rfl)
theorem dX3_read_46 : decode cX3_read 46 = .ok (.aload_n 0, 1) := dk_42 (dk_at dksX3_read_1 22 rfl rfl)
theorem dX3_read_47 : decode cX3_read 47 = .ok (.areturn, 1) := dk_176 (dk_at dksX3_read_1 23 rfl rfl)
abbrev cX3_all : ByteArray := prog_6_method_5_code
def yX3_all : MethodName := ⟨RX3, "all", "()V"⟩
def dkwX3_all_5 : List UInt8 := [156, 255, 141, 177]
abbrev dktX3_all_5 : List UInt8 := dkwX3_all_5 ++ []
def dkwX3_all_4 : List UInt8 := [16, 31, 28, 96, 167, 0, 4, 28, 79, 42, 89, 180, 0, 65, 4, 96, 181, 0, 65, 42, 180, 0, 37]
abbrev dktX3_all_4 : List UInt8 := dkwX3_all_4 ++ dktX3_all_5
def dkwX3_all_3 : List UInt8 := [160, 0, 7, 4, 167, 0, 4, 3, 182, 0, 61, 87, 42, 180, 0, 15, 42, 180, 0, 65, 27, 153, 0, 10]
abbrev dktX3_all_3 : List UInt8 := dkwX3_all_3 ++ dktX3_all_4
def dkwX3_all_2 : List UInt8 := [27, 153, 0, 7, 5, 167, 0, 5, 16, 30, 184, 0, 43, 182, 0, 61, 61, 42, 42, 180, 0, 37, 16, 59]
abbrev dktX3_all_2 : List UInt8 := dkwX3_all_2 ++ dktX3_all_3
def dkwX3_all_1 : List UInt8 := [42, 180, 0, 37, 16, 100, 160, 0, 7, 4, 167, 0, 4, 3, 182, 0, 61, 87, 42, 42, 180, 0, 40, 3]
abbrev dktX3_all_1 : List UInt8 := dkwX3_all_1 ++ dktX3_all_2
def dkwX3_all_0 : List UInt8 := [42, 182, 0, 58, 42, 180, 0, 37, 16, 107, 160, 0, 7, 4, 167, 0, 4, 3, 60, 42, 27, 154, 0, 12]
abbrev dktX3_all_0 : List UInt8 := dkwX3_all_0 ++ dktX3_all_1
theorem dksX3_all_0 : cX3_all.data.toList.drop 0 = dktX3_all_0 := by decide +kernel
theorem dksX3_all_1 : cX3_all.data.toList.drop 24 = dktX3_all_1 := dk_seg dksX3_all_0 24 rfl rfl
theorem dksX3_all_2 : cX3_all.data.toList.drop 48 = dktX3_all_2 := dk_seg dksX3_all_1 24 rfl rfl
theorem dksX3_all_3 : cX3_all.data.toList.drop 72 = dktX3_all_3 := dk_seg dksX3_all_2 24 rfl rfl
theorem dksX3_all_4 : cX3_all.data.toList.drop 96 = dktX3_all_4 := dk_seg dksX3_all_3 24 rfl rfl
theorem dksX3_all_5 : cX3_all.data.toList.drop 119 = dktX3_all_5 := dk_seg dksX3_all_4 23 rfl rfl
theorem dX3_all_0 : decode cX3_all 0 = .ok (.aload_n 0, 1) := dk_42 (dk_at dksX3_all_0 0 rfl rfl)
theorem dX3_all_1 : decode cX3_all 1 = .ok (.invokevirtual 58, 3) := dk_182 0 58 (dk_at dksX3_all_0 1 rfl rfl)
theorem dX3_all_4 : decode cX3_all 4 = .ok (.aload_n 0, 1) := dk_42 (dk_at dksX3_all_0 4 rfl rfl)
theorem dX3_all_5 : decode cX3_all 5 = .ok (.getfield 37, 3) := dk_180 0 37 (dk_at dksX3_all_0 5 rfl rfl)
theorem dX3_all_8 : decode cX3_all 8 = .ok (.bipush 107, 2) := dk_16 107 (dk_at dksX3_all_0 8 rfl rfl)
theorem dX3_all_10 : decode cX3_all 10 = .ok (.if_icmp .ne 7, 3) := dk_160 0 7 (dk_at dksX3_all_0 10 rfl rfl)
theorem dX3_all_13 : decode cX3_all 13 = .ok (.iconst 1, 1) := dk_4 (dk_at dksX3_all_0 13 rfl rfl)
theorem dX3_all_14 : decode cX3_all 14 = .ok (.goto 4, 3) := dk_167 0 4 (dk_at dksX3_all_0 14 rfl rfl)
theorem dX3_all_17 : decode cX3_all 17 = .ok (.iconst 0, 1) := dk_3 (dk_at dksX3_all_0 17 rfl rfl)
theorem dX3_all_18 : decode cX3_all 18 = .ok (.istore_n 1, 1) := dk_60 (dk_at dksX3_all_0 18 rfl rfl)
theorem dX3_all_19 : decode cX3_all 19 = .ok (.aload_n 0, 1) := dk_42 (dk_at dksX3_all_0 19 rfl rfl)
theorem dX3_all_20 : decode cX3_all 20 = .ok (.iload_n 1, 1) := dk_27 (dk_at dksX3_all_0 20 rfl rfl)
theorem dX3_all_21 : decode cX3_all 21 = .ok (.ifCond .ne 12, 3) := dk_154 0 12 (dk_at dksX3_all_0 21 rfl rfl)
theorem dX3_all_24 : decode cX3_all 24 = .ok (.aload_n 0, 1) := dk_42 (dk_at dksX3_all_1 0 rfl rfl)
theorem dX3_all_25 : decode cX3_all 25 = .ok (.getfield 37, 3) := dk_180 0 37 (dk_at dksX3_all_1 1 rfl rfl)
theorem dX3_all_28 : decode cX3_all 28 = .ok (.bipush 100, 2) := dk_16 100 (dk_at dksX3_all_1 4 rfl rfl)
theorem dX3_all_30 : decode cX3_all 30 = .ok (.if_icmp .ne 7, 3) := dk_160 0 7 (dk_at dksX3_all_1 6 rfl rfl)
theorem dX3_all_33 : decode cX3_all 33 = .ok (.iconst 1, 1) := dk_4 (dk_at dksX3_all_1 9 rfl rfl)
theorem dX3_all_34 : decode cX3_all 34 = .ok (.goto 4, 3) := dk_167 0 4 (dk_at dksX3_all_1 10 rfl rfl)
theorem dX3_all_37 : decode cX3_all 37 = .ok (.iconst 0, 1) := dk_3 (dk_at dksX3_all_1 13 rfl rfl)
theorem dX3_all_38 : decode cX3_all 38 = .ok (.invokevirtual 61, 3) := dk_182 0 61 (dk_at dksX3_all_1 14 rfl rfl)
theorem dX3_all_41 : decode cX3_all 41 = .ok (.pop, 1) := dk_87 (dk_at dksX3_all_1 17 rfl rfl)
theorem dX3_all_42 : decode cX3_all 42 = .ok (.aload_n 0, 1) := dk_42 (dk_at dksX3_all_1 18 rfl rfl)
theorem dX3_all_43 : decode cX3_all 43 = .ok (.aload_n 0, 1) := dk_42 (dk_at dksX3_all_1 19 rfl rfl)
theorem dX3_all_44 : decode cX3_all 44 = .ok (.getfield 40, 3) := dk_180 0 40 (dk_at dksX3_all_1 20 rfl rfl)
theorem dX3_all_47 : decode cX3_all 47 = .ok (.iconst 0, 1) := dk_3 (dk_at dksX3_all_1 23 rfl rfl)
theorem dX3_all_48 : decode cX3_all 48 = .ok (.iload_n 1, 1) := dk_27 (dk_at dksX3_all_2 0 rfl rfl)
theorem dX3_all_49 : decode cX3_all 49 = .ok (.ifCond .eq 7, 3) := dk_153 0 7 (dk_at dksX3_all_2 1 rfl rfl)
theorem dX3_all_52 : decode cX3_all 52 = .ok (.iconst 2, 1) := dk_5 (dk_at dksX3_all_2 4 rfl rfl)
theorem dX3_all_53 : decode cX3_all 53 = .ok (.goto 5, 3) := dk_167 0 5 (dk_at dksX3_all_2 5 rfl rfl)
theorem dX3_all_56 : decode cX3_all 56 = .ok (.bipush 30, 2) := dk_16 30 (dk_at dksX3_all_2 8 rfl rfl)
theorem dX3_all_58 : decode cX3_all 58 = .ok (.invokestatic 43, 3) := dk_184 0 43 (dk_at dksX3_all_2 10 rfl rfl)
theorem dX3_all_61 : decode cX3_all 61 = .ok (.invokevirtual 61, 3) := dk_182 0 61 (dk_at dksX3_all_2 13 rfl rfl)
theorem dX3_all_64 : decode cX3_all 64 = .ok (.istore_n 2, 1) := dk_61 (dk_at dksX3_all_2 16 rfl rfl)
theorem dX3_all_65 : decode cX3_all 65 = .ok (.aload_n 0, 1) := dk_42 (dk_at dksX3_all_2 17 rfl rfl)
theorem dX3_all_66 : decode cX3_all 66 = .ok (.aload_n 0, 1) := dk_42 (dk_at dksX3_all_2 18 rfl rfl)
theorem dX3_all_67 : decode cX3_all 67 = .ok (.getfield 37, 3) := dk_180 0 37 (dk_at dksX3_all_2 19 rfl rfl)
theorem dX3_all_70 : decode cX3_all 70 = .ok (.bipush 59, 2) := dk_16 59 (dk_at dksX3_all_2 22 rfl rfl)
theorem dX3_all_72 : decode cX3_all 72 = .ok (.if_icmp .ne 7, 3) := dk_160 0 7 (dk_at dksX3_all_3 0 rfl rfl)
theorem dX3_all_75 : decode cX3_all 75 = .ok (.iconst 1, 1) := dk_4 (dk_at dksX3_all_3 3 rfl rfl)
theorem dX3_all_76 : decode cX3_all 76 = .ok (.goto 4, 3) := dk_167 0 4 (dk_at dksX3_all_3 4 rfl rfl)
theorem dX3_all_79 : decode cX3_all 79 = .ok (.iconst 0, 1) := dk_3 (dk_at dksX3_all_3 7 rfl rfl)
theorem dX3_all_80 : decode cX3_all 80 = .ok (.invokevirtual 61, 3) := dk_182 0 61 (dk_at dksX3_all_3 8 rfl rfl)
theorem dX3_all_83 : decode cX3_all 83 = .ok (.pop, 1) := dk_87 (dk_at dksX3_all_3 11 rfl rfl)
theorem dX3_all_84 : decode cX3_all 84 = .ok (.aload_n 0, 1) := dk_42 (dk_at dksX3_all_3 12 rfl rfl)
theorem dX3_all_85 : decode cX3_all 85 = .ok (.getfield 15, 3) := dk_180 0 15 (dk_at dksX3_all_3 13 rfl rfl)
theorem dX3_all_88 : decode cX3_all 88 = .ok (.aload_n 0, 1) := dk_42 (dk_at dksX3_all_3 16 rfl rfl)
theorem dX3_all_89 : decode cX3_all 89 = .ok (.getfield 65, 3) := dk_180 0 65 (dk_at dksX3_all_3 17 rfl rfl)
theorem dX3_all_92 : decode cX3_all 92 = .ok (.iload_n 1, 1) := dk_27 (dk_at dksX3_all_3 20 rfl rfl)
theorem dX3_all_93 : decode cX3_all 93 = .ok (.ifCond .eq 10, 3) := dk_153 0 10 (dk_at dksX3_all_3 21 rfl rfl)
theorem dX3_all_96 : decode cX3_all 96 = .ok (.bipush 31, 2) := dk_16 31 (dk_at dksX3_all_4 0 rfl rfl)
theorem dX3_all_98 : decode cX3_all 98 = .ok (.iload_n 2, 1) := dk_28 (dk_at dksX3_all_4 2 rfl rfl)
theorem dX3_all_99 : decode cX3_all 99 = .ok (.iadd, 1) := dk_96 (dk_at dksX3_all_4 3 rfl rfl)
theorem dX3_all_100 : decode cX3_all 100 = .ok (.goto 4, 3) := dk_167 0 4 (dk_at dksX3_all_4 4 rfl rfl)
theorem dX3_all_103 : decode cX3_all 103 = .ok (.iload_n 2, 1) := dk_28 (dk_at dksX3_all_4 7 rfl rfl)
theorem dX3_all_104 : decode cX3_all 104 = .ok (.iastore, 1) := dk_79 (dk_at dksX3_all_4 8 rfl rfl)
theorem dX3_all_105 : decode cX3_all 105 = .ok (.aload_n 0, 1) := dk_42 (dk_at dksX3_all_4 9 rfl rfl)
theorem dX3_all_106 : decode cX3_all 106 = .ok (.dup, 1) := dk_89 (dk_at dksX3_all_4 10 rfl rfl)
theorem dX3_all_107 : decode cX3_all 107 = .ok (.getfield 65, 3) := dk_180 0 65 (dk_at dksX3_all_4 11 rfl rfl)
theorem dX3_all_110 : decode cX3_all 110 = .ok (.iconst 1, 1) := dk_4 (dk_at dksX3_all_4 14 rfl rfl)
theorem dX3_all_111 : decode cX3_all 111 = .ok (.iadd, 1) := dk_96 (dk_at dksX3_all_4 15 rfl rfl)
theorem dX3_all_112 : decode cX3_all 112 = .ok (.putfield 65, 3) := dk_181 0 65 (dk_at dksX3_all_4 16 rfl rfl)
theorem dX3_all_115 : decode cX3_all 115 = .ok (.aload_n 0, 1) := dk_42 (dk_at dksX3_all_4 19 rfl rfl)
theorem dX3_all_116 : decode cX3_all 116 = .ok (.getfield 37, 3) := dk_180 0 37 (dk_at dksX3_all_4 20 rfl rfl)
theorem dX3_all_119 : decode cX3_all 119 = .ok (.ifCond .ge (-115), 3) := dk_156 255 141 (dk_at dksX3_all_5 0 rfl rfl)
theorem dX3_all_122 : decode cX3_all 122 = .ok (.return_, 1) := dk_177 (dk_at dksX3_all_5 3 rfl rfl)
abbrev cX3_step : ByteArray := prog_6_method_3_code
def yX3_step : MethodName := ⟨RX3, "step", "()V"⟩
def dkwX3_step_7 : List UInt8 := [181, 0, 19, 177]
abbrev dktX3_step_7 : List UInt8 := dkwX3_step_7 ++ []
def dkwX3_step_6 : List UInt8 := [181, 0, 40, 167, 0, 24, 42, 89, 180, 0, 19, 42, 180, 0, 37, 155, 0, 7, 4, 167, 0, 4, 3, 96]
abbrev dktX3_step_6 : List UInt8 := dkwX3_step_6 ++ dktX3_step_7
def dkwX3_step_5 : List UInt8 := [160, 0, 16, 42, 180, 0, 19, 42, 180, 0, 34, 100, 4, 160, 0, 7, 27, 167, 0, 5, 16, 247]
abbrev dktX3_step_5 : List UInt8 := dkwX3_step_5 ++ dktX3_step_6
def dkwX3_step_4 : List UInt8 := [180, 0, 19, 4, 96, 181, 0, 19, 167, 255, 214, 42, 27, 16, 100, 162, 0, 29, 42, 180, 0, 37, 16, 48]
abbrev dktX3_step_4 : List UInt8 := dkwX3_step_4 ++ dktX3_step_5
def dkwX3_step_3 : List UInt8 := [153, 0, 34, 16, 100, 16, 10, 27, 104, 42, 182, 0, 30, 96, 16, 48, 100, 184, 0, 47, 60, 42, 89]
abbrev dktX3_step_3 : List UInt8 := dkwX3_step_3 ++ dktX3_step_4
def dkwX3_step_2 : List UInt8 := [16, 48, 16, 57, 184, 0, 43, 153, 0, 91, 3, 60, 42, 182, 0, 30, 16, 48, 16, 57, 184, 0, 43]
abbrev dktX3_step_2 : List UInt8 := dkwX3_step_2 ++ dktX3_step_3
def dkwX3_step_1 : List UInt8 := [180, 0, 19, 181, 0, 34, 42, 42, 182, 0, 30, 181, 0, 37, 42, 16, 247, 181, 0, 40, 42, 180, 0, 37]
abbrev dktX3_step_1 : List UInt8 := dkwX3_step_1 ++ dktX3_step_2
def dkwX3_step_0 : List UInt8 := [42, 182, 0, 30, 16, 32, 160, 0, 16, 42, 89, 180, 0, 19, 4, 96, 181, 0, 19, 167, 255, 237, 42, 42]
abbrev dktX3_step_0 : List UInt8 := dkwX3_step_0 ++ dktX3_step_1
theorem dksX3_step_0 : cX3_step.data.toList.drop 0 = dktX3_step_0 := by decide +kernel
theorem dksX3_step_1 : cX3_step.data.toList.drop 24 = dktX3_step_1 := dk_seg dksX3_step_0 24 rfl rfl
theorem dksX3_step_2 : cX3_step.data.toList.drop 48 = dktX3_step_2 := dk_seg dksX3_step_1 24 rfl rfl
theorem dksX3_step_3 : cX3_step.data.toList.drop 71 = dktX3_step_3 := dk_seg dksX3_step_2 23 rfl rfl
theorem dksX3_step_4 : cX3_step.data.toList.drop 94 = dktX3_step_4 := dk_seg dksX3_step_3 23 rfl rfl
theorem dksX3_step_5 : cX3_step.data.toList.drop 118 = dktX3_step_5 := dk_seg dksX3_step_4 24 rfl rfl
theorem dksX3_step_6 : cX3_step.data.toList.drop 140 = dktX3_step_6 := dk_seg dksX3_step_5 22 rfl rfl
theorem dksX3_step_7 : cX3_step.data.toList.drop 164 = dktX3_step_7 := dk_seg dksX3_step_6 24 rfl rfl
theorem dX3_step_0 : decode cX3_step 0 = .ok (.aload_n 0, 1) := dk_42 (dk_at dksX3_step_0 0 rfl rfl)
theorem dX3_step_1 : decode cX3_step 1 = .ok (.invokevirtual 30, 3) := dk_182 0 30 (dk_at dksX3_step_0 1 rfl rfl)
theorem dX3_step_4 : decode cX3_step 4 = .ok (.bipush 32, 2) := dk_16 32 (dk_at dksX3_step_0 4 rfl rfl)
theorem dX3_step_6 : decode cX3_step 6 = .ok (.if_icmp .ne 16, 3) := dk_160 0 16 (dk_at dksX3_step_0 6 rfl rfl)
theorem dX3_step_9 : decode cX3_step 9 = .ok (.aload_n 0, 1) := dk_42 (dk_at dksX3_step_0 9 rfl rfl)
theorem dX3_step_10 : decode cX3_step 10 = .ok (.dup, 1) := dk_89 (dk_at dksX3_step_0 10 rfl rfl)
theorem dX3_step_11 : decode cX3_step 11 = .ok (.getfield 19, 3) := dk_180 0 19 (dk_at dksX3_step_0 11 rfl rfl)
theorem dX3_step_14 : decode cX3_step 14 = .ok (.iconst 1, 1) := dk_4 (dk_at dksX3_step_0 14 rfl rfl)
theorem dX3_step_15 : decode cX3_step 15 = .ok (.iadd, 1) := dk_96 (dk_at dksX3_step_0 15 rfl rfl)
theorem dX3_step_16 : decode cX3_step 16 = .ok (.putfield 19, 3) := dk_181 0 19 (dk_at dksX3_step_0 16 rfl rfl)
theorem dX3_step_19 : decode cX3_step 19 = .ok (.goto (-19), 3) := dk_167 255 237 (dk_at dksX3_step_0 19 rfl rfl)
theorem dX3_step_22 : decode cX3_step 22 = .ok (.aload_n 0, 1) := dk_42 (dk_at dksX3_step_0 22 rfl rfl)
theorem dX3_step_23 : decode cX3_step 23 = .ok (.aload_n 0, 1) := dk_42 (dk_at dksX3_step_0 23 rfl rfl)
theorem dX3_step_24 : decode cX3_step 24 = .ok (.getfield 19, 3) := dk_180 0 19 (dk_at dksX3_step_1 0 rfl rfl)
theorem dX3_step_27 : decode cX3_step 27 = .ok (.putfield 34, 3) := dk_181 0 34 (dk_at dksX3_step_1 3 rfl rfl)
theorem dX3_step_30 : decode cX3_step 30 = .ok (.aload_n 0, 1) := dk_42 (dk_at dksX3_step_1 6 rfl rfl)
theorem dX3_step_31 : decode cX3_step 31 = .ok (.aload_n 0, 1) := dk_42 (dk_at dksX3_step_1 7 rfl rfl)
theorem dX3_step_32 : decode cX3_step 32 = .ok (.invokevirtual 30, 3) := dk_182 0 30 (dk_at dksX3_step_1 8 rfl rfl)
theorem dX3_step_35 : decode cX3_step 35 = .ok (.putfield 37, 3) := dk_181 0 37 (dk_at dksX3_step_1 11 rfl rfl)
theorem dX3_step_38 : decode cX3_step 38 = .ok (.aload_n 0, 1) := dk_42 (dk_at dksX3_step_1 14 rfl rfl)
theorem dX3_step_39 : decode cX3_step 39 = .ok (.bipush (-9), 2) := dk_16 247 (dk_at dksX3_step_1 15 rfl rfl)
theorem dX3_step_41 : decode cX3_step 41 = .ok (.putfield 40, 3) := dk_181 0 40 (dk_at dksX3_step_1 17 rfl rfl)
theorem dX3_step_44 : decode cX3_step 44 = .ok (.aload_n 0, 1) := dk_42 (dk_at dksX3_step_1 20 rfl rfl)
theorem dX3_step_45 : decode cX3_step 45 = .ok (.getfield 37, 3) := dk_180 0 37 (dk_at dksX3_step_1 21 rfl rfl)
theorem dX3_step_48 : decode cX3_step 48 = .ok (.bipush 48, 2) := dk_16 48 (dk_at dksX3_step_2 0 rfl rfl)
theorem dX3_step_50 : decode cX3_step 50 = .ok (.bipush 57, 2) := dk_16 57 (dk_at dksX3_step_2 2 rfl rfl)
theorem dX3_step_52 : decode cX3_step 52 = .ok (.invokestatic 43, 3) := dk_184 0 43 (dk_at dksX3_step_2 4 rfl rfl)
theorem dX3_step_55 : decode cX3_step 55 = .ok (.ifCond .eq 91, 3) := dk_153 0 91 (dk_at dksX3_step_2 7 rfl rfl)
theorem dX3_step_58 : decode cX3_step 58 = .ok (.iconst 0, 1) := dk_3 (dk_at dksX3_step_2 10 rfl rfl)
theorem dX3_step_59 : decode cX3_step 59 = .ok (.istore_n 1, 1) := dk_60 (dk_at dksX3_step_2 11 rfl rfl)
theorem dX3_step_60 : decode cX3_step 60 = .ok (.aload_n 0, 1) := dk_42 (dk_at dksX3_step_2 12 rfl rfl)
theorem dX3_step_61 : decode cX3_step 61 = .ok (.invokevirtual 30, 3) := dk_182 0 30 (dk_at dksX3_step_2 13 rfl rfl)
theorem dX3_step_64 : decode cX3_step 64 = .ok (.bipush 48, 2) := dk_16 48 (dk_at dksX3_step_2 16 rfl rfl)
theorem dX3_step_66 : decode cX3_step 66 = .ok (.bipush 57, 2) := dk_16 57 (dk_at dksX3_step_2 18 rfl rfl)
theorem dX3_step_68 : decode cX3_step 68 = .ok (.invokestatic 43, 3) := dk_184 0 43 (dk_at dksX3_step_2 20 rfl rfl)
theorem dX3_step_71 : decode cX3_step 71 = .ok (.ifCond .eq 34, 3) := dk_153 0 34 (dk_at dksX3_step_3 0 rfl rfl)
theorem dX3_step_74 : decode cX3_step 74 = .ok (.bipush 100, 2) := dk_16 100 (dk_at dksX3_step_3 3 rfl rfl)
theorem dX3_step_76 : decode cX3_step 76 = .ok (.bipush 10, 2) := dk_16 10 (dk_at dksX3_step_3 5 rfl rfl)
theorem dX3_step_78 : decode cX3_step 78 = .ok (.iload_n 1, 1) := dk_27 (dk_at dksX3_step_3 7 rfl rfl)
theorem dX3_step_79 : decode cX3_step 79 = .ok (.imul, 1) := dk_104 (dk_at dksX3_step_3 8 rfl rfl)
theorem dX3_step_80 : decode cX3_step 80 = .ok (.aload_n 0, 1) := dk_42 (dk_at dksX3_step_3 9 rfl rfl)
theorem dX3_step_81 : decode cX3_step 81 = .ok (.invokevirtual 30, 3) := dk_182 0 30 (dk_at dksX3_step_3 10 rfl rfl)
theorem dX3_step_84 : decode cX3_step 84 = .ok (.iadd, 1) := dk_96 (dk_at dksX3_step_3 13 rfl rfl)
theorem dX3_step_85 : decode cX3_step 85 = .ok (.bipush 48, 2) := dk_16 48 (dk_at dksX3_step_3 14 rfl rfl)
theorem dX3_step_87 : decode cX3_step 87 = .ok (.isub, 1) := dk_100 (dk_at dksX3_step_3 16 rfl rfl)
theorem dX3_step_88 : decode cX3_step 88 = .ok (.invokestatic 47, 3) := dk_184 0 47 (dk_at dksX3_step_3 17 rfl rfl)
theorem dX3_step_91 : decode cX3_step 91 = .ok (.istore_n 1, 1) := dk_60 (dk_at dksX3_step_3 20 rfl rfl)
theorem dX3_step_92 : decode cX3_step 92 = .ok (.aload_n 0, 1) := dk_42 (dk_at dksX3_step_3 21 rfl rfl)
theorem dX3_step_93 : decode cX3_step 93 = .ok (.dup, 1) := dk_89 (dk_at dksX3_step_3 22 rfl rfl)
theorem dX3_step_94 : decode cX3_step 94 = .ok (.getfield 19, 3) := dk_180 0 19 (dk_at dksX3_step_4 0 rfl rfl)
theorem dX3_step_97 : decode cX3_step 97 = .ok (.iconst 1, 1) := dk_4 (dk_at dksX3_step_4 3 rfl rfl)
theorem dX3_step_98 : decode cX3_step 98 = .ok (.iadd, 1) := dk_96 (dk_at dksX3_step_4 4 rfl rfl)
theorem dX3_step_99 : decode cX3_step 99 = .ok (.putfield 19, 3) := dk_181 0 19 (dk_at dksX3_step_4 5 rfl rfl)
theorem dX3_step_102 : decode cX3_step 102 = .ok (.goto (-42), 3) := dk_167 255 214 (dk_at dksX3_step_4 8 rfl rfl)
theorem dX3_step_105 : decode cX3_step 105 = .ok (.aload_n 0, 1) := dk_42 (dk_at dksX3_step_4 11 rfl rfl)
theorem dX3_step_106 : decode cX3_step 106 = .ok (.iload_n 1, 1) := dk_27 (dk_at dksX3_step_4 12 rfl rfl)
theorem dX3_step_107 : decode cX3_step 107 = .ok (.bipush 100, 2) := dk_16 100 (dk_at dksX3_step_4 13 rfl rfl)
theorem dX3_step_109 : decode cX3_step 109 = .ok (.if_icmp .ge 29, 3) := dk_162 0 29 (dk_at dksX3_step_4 15 rfl rfl)
theorem dX3_step_112 : decode cX3_step 112 = .ok (.aload_n 0, 1) := dk_42 (dk_at dksX3_step_4 18 rfl rfl)
theorem dX3_step_113 : decode cX3_step 113 = .ok (.getfield 37, 3) := dk_180 0 37 (dk_at dksX3_step_4 19 rfl rfl)
theorem dX3_step_116 : decode cX3_step 116 = .ok (.bipush 48, 2) := dk_16 48 (dk_at dksX3_step_4 22 rfl rfl)
theorem dX3_step_118 : decode cX3_step 118 = .ok (.if_icmp .ne 16, 3) := dk_160 0 16 (dk_at dksX3_step_5 0 rfl rfl)
theorem dX3_step_121 : decode cX3_step 121 = .ok (.aload_n 0, 1) := dk_42 (dk_at dksX3_step_5 3 rfl rfl)
theorem dX3_step_122 : decode cX3_step 122 = .ok (.getfield 19, 3) := dk_180 0 19 (dk_at dksX3_step_5 4 rfl rfl)
theorem dX3_step_125 : decode cX3_step 125 = .ok (.aload_n 0, 1) := dk_42 (dk_at dksX3_step_5 7 rfl rfl)
theorem dX3_step_126 : decode cX3_step 126 = .ok (.getfield 34, 3) := dk_180 0 34 (dk_at dksX3_step_5 8 rfl rfl)
theorem dX3_step_129 : decode cX3_step 129 = .ok (.isub, 1) := dk_100 (dk_at dksX3_step_5 11 rfl rfl)
theorem dX3_step_130 : decode cX3_step 130 = .ok (.iconst 1, 1) := dk_4 (dk_at dksX3_step_5 12 rfl rfl)
theorem dX3_step_131 : decode cX3_step 131 = .ok (.if_icmp .ne 7, 3) := dk_160 0 7 (dk_at dksX3_step_5 13 rfl rfl)
theorem dX3_step_134 : decode cX3_step 134 = .ok (.iload_n 1, 1) := dk_27 (dk_at dksX3_step_5 16 rfl rfl)
theorem dX3_step_135 : decode cX3_step 135 = .ok (.goto 5, 3) := dk_167 0 5 (dk_at dksX3_step_5 17 rfl rfl)
theorem dX3_step_138 : decode cX3_step 138 = .ok (.bipush (-9), 2) := dk_16 247 (dk_at dksX3_step_5 20 rfl rfl)
theorem dX3_step_140 : decode cX3_step 140 = .ok (.putfield 40, 3) := dk_181 0 40 (dk_at dksX3_step_6 0 rfl rfl)
theorem dX3_step_143 : decode cX3_step 143 = .ok (.goto 24, 3) := dk_167 0 24 (dk_at dksX3_step_6 3 rfl rfl)
theorem dX3_step_146 : decode cX3_step 146 = .ok (.aload_n 0, 1) := dk_42 (dk_at dksX3_step_6 6 rfl rfl)
theorem dX3_step_147 : decode cX3_step 147 = .ok (.dup, 1) := dk_89 (dk_at dksX3_step_6 7 rfl rfl)
theorem dX3_step_148 : decode cX3_step 148 = .ok (.getfield 19, 3) := dk_180 0 19 (dk_at dksX3_step_6 8 rfl rfl)
theorem dX3_step_151 : decode cX3_step 151 = .ok (.aload_n 0, 1) := dk_42 (dk_at dksX3_step_6 11 rfl rfl)
theorem dX3_step_152 : decode cX3_step 152 = .ok (.getfield 37, 3) := dk_180 0 37 (dk_at dksX3_step_6 12 rfl rfl)
theorem dX3_step_155 : decode cX3_step 155 = .ok (.ifCond .lt 7, 3) := dk_155 0 7 (dk_at dksX3_step_6 15 rfl rfl)
theorem dX3_step_158 : decode cX3_step 158 = .ok (.iconst 1, 1) := dk_4 (dk_at dksX3_step_6 18 rfl rfl)
theorem dX3_step_159 : decode cX3_step 159 = .ok (.goto 4, 3) := dk_167 0 4 (dk_at dksX3_step_6 19 rfl rfl)
theorem dX3_step_162 : decode cX3_step 162 = .ok (.iconst 0, 1) := dk_3 (dk_at dksX3_step_6 22 rfl rfl)
theorem dX3_step_163 : decode cX3_step 163 = .ok (.iadd, 1) := dk_96 (dk_at dksX3_step_6 23 rfl rfl)
theorem dX3_step_164 : decode cX3_step 164 = .ok (.putfield 19, 3) := dk_181 0 19 (dk_at dksX3_step_7 0 rfl rfl)
theorem dX3_step_167 : decode cX3_step 167 = .ok (.return_, 1) := dk_177 (dk_at dksX3_step_7 3 rfl rfl)
abbrev cX3_here : ByteArray := prog_6_method_2_code
def yX3_here : MethodName := ⟨RX3, "here", "()I"⟩
def dkwX3_here_1 : List UInt8 := [180, 0, 19, 51, 17, 0, 255, 126, 167, 0, 4, 2, 172]
abbrev dktX3_here_1 : List UInt8 := dkwX3_here_1 ++ []
def dkwX3_here_0 : List UInt8 := [42, 180, 0, 19, 42, 180, 0, 3, 180, 0, 23, 162, 0, 22, 42, 180, 0, 3, 180, 0, 26, 42]
abbrev dktX3_here_0 : List UInt8 := dkwX3_here_0 ++ dktX3_here_1
theorem dksX3_here_0 : cX3_here.data.toList.drop 0 = dktX3_here_0 := by decide +kernel
theorem dksX3_here_1 : cX3_here.data.toList.drop 22 = dktX3_here_1 := dk_seg dksX3_here_0 22 rfl rfl
theorem dX3_here_0 : decode cX3_here 0 = .ok (.aload_n 0, 1) := dk_42 (dk_at dksX3_here_0 0 rfl rfl)
theorem dX3_here_1 : decode cX3_here 1 = .ok (.getfield 19, 3) := dk_180 0 19 (dk_at dksX3_here_0 1 rfl rfl)
theorem dX3_here_4 : decode cX3_here 4 = .ok (.aload_n 0, 1) := dk_42 (dk_at dksX3_here_0 4 rfl rfl)
theorem dX3_here_5 : decode cX3_here 5 = .ok (.getfield 3, 3) := dk_180 0 3 (dk_at dksX3_here_0 5 rfl rfl)
theorem dX3_here_8 : decode cX3_here 8 = .ok (.getfield 23, 3) := dk_180 0 23 (dk_at dksX3_here_0 8 rfl rfl)
theorem dX3_here_11 : decode cX3_here 11 = .ok (.if_icmp .ge 22, 3) := dk_162 0 22 (dk_at dksX3_here_0 11 rfl rfl)
theorem dX3_here_14 : decode cX3_here 14 = .ok (.aload_n 0, 1) := dk_42 (dk_at dksX3_here_0 14 rfl rfl)
theorem dX3_here_15 : decode cX3_here 15 = .ok (.getfield 3, 3) := dk_180 0 3 (dk_at dksX3_here_0 15 rfl rfl)
theorem dX3_here_18 : decode cX3_here 18 = .ok (.getfield 26, 3) := dk_180 0 26 (dk_at dksX3_here_0 18 rfl rfl)
theorem dX3_here_21 : decode cX3_here 21 = .ok (.aload_n 0, 1) := dk_42 (dk_at dksX3_here_0 21 rfl rfl)
theorem dX3_here_22 : decode cX3_here 22 = .ok (.getfield 19, 3) := dk_180 0 19 (dk_at dksX3_here_1 0 rfl rfl)
theorem dX3_here_25 : decode cX3_here 25 = .ok (.baload, 1) := dk_51 (dk_at dksX3_here_1 3 rfl rfl)
theorem dX3_here_26 : decode cX3_here 26 = .ok (.sipush 255, 3) := dk_17 0 255 (dk_at dksX3_here_1 4 rfl rfl)
theorem dX3_here_29 : decode cX3_here 29 = .ok (.iand, 1) := dk_126 (dk_at dksX3_here_1 7 rfl rfl)
theorem dX3_here_30 : decode cX3_here 30 = .ok (.goto 4, 3) := dk_167 0 4 (dk_at dksX3_here_1 8 rfl rfl)
theorem dX3_here_33 : decode cX3_here 33 = .ok (.iconst (-1), 1) := dk_2 (dk_at dksX3_here_1 11 rfl rfl)
theorem dX3_here_34 : decode cX3_here 34 = .ok (.ireturn, 1) := dk_172 (dk_at dksX3_here_1 12 rfl rfl)
abbrev cX3_due : ByteArray := prog_6_method_4_code
def yX3_due : MethodName := ⟨RX3, "due", "(Z)I"⟩
def dkwX3_due_1 : List UInt8 := [182, 0, 58, 28, 172]
abbrev dktX3_due_1 : List UInt8 := dkwX3_due_1 ++ []
def dkwX3_due_0 : List UInt8 := [27, 154, 0, 15, 187, 0, 53, 89, 42, 180, 0, 34, 183, 0, 55, 191, 42, 180, 0, 40, 61, 42]
abbrev dktX3_due_0 : List UInt8 := dkwX3_due_0 ++ dktX3_due_1
theorem dksX3_due_0 : cX3_due.data.toList.drop 0 = dktX3_due_0 := by decide +kernel
theorem dksX3_due_1 : cX3_due.data.toList.drop 22 = dktX3_due_1 := dk_seg dksX3_due_0 22 rfl rfl
theorem dX3_due_0 : decode cX3_due 0 = .ok (.iload_n 1, 1) := dk_27 (dk_at dksX3_due_0 0 rfl rfl)
theorem dX3_due_1 : decode cX3_due 1 = .ok (.ifCond .ne 15, 3) := dk_154 0 15 (dk_at dksX3_due_0 1 rfl rfl)
theorem dX3_due_4 : decode cX3_due 4 = .ok (.new 53, 3) := dk_187 0 53 (dk_at dksX3_due_0 4 rfl rfl)
theorem dX3_due_7 : decode cX3_due 7 = .ok (.dup, 1) := dk_89 (dk_at dksX3_due_0 7 rfl rfl)
theorem dX3_due_8 : decode cX3_due 8 = .ok (.aload_n 0, 1) := dk_42 (dk_at dksX3_due_0 8 rfl rfl)
theorem dX3_due_9 : decode cX3_due 9 = .ok (.getfield 34, 3) := dk_180 0 34 (dk_at dksX3_due_0 9 rfl rfl)
theorem dX3_due_12 : decode cX3_due 12 = .ok (.invokespecial 55, 3) := dk_183 0 55 (dk_at dksX3_due_0 12 rfl rfl)
theorem dX3_due_15 : decode cX3_due 15 = .ok (.athrow, 1) := dk_191 (dk_at dksX3_due_0 15 rfl rfl)
theorem dX3_due_16 : decode cX3_due 16 = .ok (.aload_n 0, 1) := dk_42 (dk_at dksX3_due_0 16 rfl rfl)
theorem dX3_due_17 : decode cX3_due 17 = .ok (.getfield 40, 3) := dk_180 0 40 (dk_at dksX3_due_0 17 rfl rfl)
theorem dX3_due_20 : decode cX3_due 20 = .ok (.istore_n 2, 1) := dk_61 (dk_at dksX3_due_0 20 rfl rfl)
theorem dX3_due_21 : decode cX3_due 21 = .ok (.aload_n 0, 1) := dk_42 (dk_at dksX3_due_0 21 rfl rfl)
theorem dX3_due_22 : decode cX3_due 22 = .ok (.invokevirtual 58, 3) := dk_182 0 58 (dk_at dksX3_due_1 0 rfl rfl)
theorem dX3_due_25 : decode cX3_due 25 = .ok (.iload_n 2, 1) := dk_28 (dk_at dksX3_due_1 3 rfl rfl)
theorem dX3_due_26 : decode cX3_due 26 = .ok (.ireturn, 1) := dk_172 (dk_at dksX3_due_1 4 rfl rfl)
theorem q58 : (Jvm.Cond.initialized "EvenWords$Reader") ∈ lw_all := lw_g (lw_at lw_m1 6 rfl) rfl
theorem q118 : (Jvm.Cond.fieldLinkNest "EvenWords$Reader" (80 : Nat) "EvenWords$Wire" "words" "I" "EvenWords") ∈ lw_tbl := lw_at lw_m1 66 rfl
theorem q169 : (Jvm.Cond.fieldLinkNest "EvenWords$Reader" (76 : Nat) "EvenWords" "now" "LEvenWords$Wire;" "EvenWords") ∈ lw_tbl := lw_at lw_m1 117 rfl
theorem q174 : (Jvm.Cond.fieldLinkNest "EvenWords$Reader" (26 : Nat) "EvenWords" "text" "[B" "EvenWords") ∈ lw_tbl := lw_at lw_m1 122 rfl
theorem q176 : (Jvm.Cond.fieldLinkNest "EvenWords$Reader" (23 : Nat) "EvenWords" "typed" "I" "EvenWords") ∈ lw_tbl := lw_at lw_m1 124 rfl
theorem q233 : (Jvm.Cond.instantiable "EvenWords$Reader" (7 : Nat)) ∈ lw_all := lw_g (lw_at lw_m1 181 rfl) rfl
theorem q235 : (Jvm.Cond.instanceMethod ({ cls := "EvenWords$Reader", name := "<init>", desc := "(LEvenWords;)V" } : Jvm.MethodName)) ∈ lw_all := lw_g (lw_at lw_m1 183 rfl) rfl
theorem q236 : (Jvm.Cond.code ({ cls := "EvenWords$Reader", name := "<init>", desc := "(LEvenWords;)V" } : Jvm.MethodName) prog_6_method_1_code (2 : Nat) (Option.none : Option Jvm.ClassFile.FieldType)) ∈ lw_all := lw_g (lw_at lw_m1 184 rfl) rfl
theorem q237 : (Jvm.Cond.methodLink "EvenWords$Reader" (9 : Nat) ({ cls := "java/lang/Object", name := "<init>", desc := "()V" } : Jvm.MethodName)) ∈ lw_all := lw_g (lw_at lw_m1 185 rfl) rfl
theorem q238 : (Jvm.Cond.fieldLink "EvenWords$Reader" (19 : Nat) "EvenWords$Reader" "at" "I") ∈ lw_all := lw_g (lw_at lw_m1 186 rfl) rfl
theorem q239 : (Jvm.Cond.fieldLink "EvenWords$Reader" (34 : Nat) "EvenWords$Reader" "start" "I") ∈ lw_all := lw_g (lw_at lw_m1 187 rfl) rfl
theorem q240 : (Jvm.Cond.fieldLink "EvenWords$Reader" (37 : Nat) "EvenWords$Reader" "letter" "I") ∈ lw_all := lw_g (lw_at lw_m1 188 rfl) rfl
theorem q241 : (Jvm.Cond.fieldLink "EvenWords$Reader" (40 : Nat) "EvenWords$Reader" "value" "I") ∈ lw_all := lw_g (lw_at lw_m1 189 rfl) rfl
theorem q242 : (Jvm.Cond.fieldLink "EvenWords$Reader" (15 : Nat) "EvenWords$Reader" "items" "[I") ∈ lw_all := lw_g (lw_at lw_m1 190 rfl) rfl
theorem q244 : (Jvm.Cond.fieldLink "EvenWords$Reader" (65 : Nat) "EvenWords$Reader" "many" "I") ∈ lw_all := lw_g (lw_at lw_m1 192 rfl) rfl
theorem q246 : (Jvm.Cond.fieldLink "EvenWords$Reader" (3 : Nat) "EvenWords$Reader" "this$0" "LEvenWords;") ∈ lw_all := lw_g (lw_at lw_m1 194 rfl) rfl
theorem q247 : (Jvm.Cond.lays "EvenWords$Reader" "EvenWords$Reader" "at" "I") ∈ lw_all := lw_g (lw_at lw_m1 195 rfl) rfl
theorem q248 : (Jvm.Cond.soleField "EvenWords$Reader" "at") ∈ lw_all := lw_g (lw_at lw_m1 196 rfl) rfl
theorem q249 : (Jvm.Cond.lays "EvenWords$Reader" "EvenWords$Reader" "start" "I") ∈ lw_all := lw_g (lw_at lw_m1 197 rfl) rfl
theorem q250 : (Jvm.Cond.soleField "EvenWords$Reader" "start") ∈ lw_all := lw_g (lw_at lw_m1 198 rfl) rfl
theorem q251 : (Jvm.Cond.lays "EvenWords$Reader" "EvenWords$Reader" "letter" "I") ∈ lw_all := lw_g (lw_at lw_m1 199 rfl) rfl
theorem q252 : (Jvm.Cond.soleField "EvenWords$Reader" "letter") ∈ lw_all := lw_g (lw_at lw_m1 200 rfl) rfl
theorem q253 : (Jvm.Cond.lays "EvenWords$Reader" "EvenWords$Reader" "value" "I") ∈ lw_all := lw_g (lw_at lw_m1 201 rfl) rfl
theorem q254 : (Jvm.Cond.soleField "EvenWords$Reader" "value") ∈ lw_all := lw_g (lw_at lw_m1 202 rfl) rfl
theorem q255 : (Jvm.Cond.laysFinal "EvenWords$Reader" "EvenWords$Reader" "items" "[I") ∈ lw_all := lw_g (lw_at lw_m1 203 rfl) rfl
theorem q256 : (Jvm.Cond.soleField "EvenWords$Reader" "items") ∈ lw_all := lw_g (lw_at lw_m1 204 rfl) rfl
theorem q257 : (Jvm.Cond.lays "EvenWords$Reader" "EvenWords$Reader" "many" "I") ∈ lw_all := lw_g (lw_at lw_m1 205 rfl) rfl
theorem q258 : (Jvm.Cond.soleField "EvenWords$Reader" "many") ∈ lw_all := lw_g (lw_at lw_m1 206 rfl) rfl
theorem q259 : (Jvm.Cond.laysFinal "EvenWords$Reader" "EvenWords$Reader" "this$0" "LEvenWords;") ∈ lw_all := lw_g (lw_at lw_m1 207 rfl) rfl
theorem q260 : (Jvm.Cond.soleField "EvenWords$Reader" "this$0") ∈ lw_all := lw_g (lw_at lw_m1 208 rfl) rfl
theorem q261 : (Jvm.Cond.superclass "EvenWords$Reader" "java/lang/Object") ∈ lw_all := lw_g (lw_at lw_m1 209 rfl) rfl
theorem q263 : (Jvm.Cond.instanceMethod ({ cls := "EvenWords$Reader", name := "read", desc := "()LEvenWords$Reader;" } : Jvm.MethodName)) ∈ lw_all := lw_g (lw_at lw_m1 211 rfl) rfl
theorem q264 : (Jvm.Cond.selects "EvenWords$Reader" ({ cls := "EvenWords$Reader", name := "read", desc := "()LEvenWords$Reader;" } : Jvm.MethodName) ({ cls := "EvenWords$Reader", name := "read", desc := "()LEvenWords$Reader;" } : Jvm.MethodName)) ∈ lw_all := lw_g (lw_at lw_m1 212 rfl) rfl
theorem q265 : (Jvm.Cond.codeWith ({ cls := "EvenWords$Reader", name := "read", desc := "()LEvenWords$Reader;" } : Jvm.MethodName) prog_6_method_6_code (2 : Nat) (Option.some (Jvm.ClassFile.FieldType.object "EvenWords$Reader")) [((0 : Nat), (4 : Nat), (7 : Nat), (53 : Nat))]) ∈ lw_all := lw_g (lw_at lw_m1 213 rfl) rfl
theorem q266 : (Jvm.Cond.classLink "EvenWords$Reader" (53 : Nat) "EvenWords$Amiss") ∈ lw_all := lw_g (lw_at lw_m1 214 rfl) rfl
theorem q267 : (Jvm.Cond.methodLink "EvenWords$Reader" (68 : Nat) ({ cls := "EvenWords$Reader", name := "all", desc := "()V" } : Jvm.MethodName)) ∈ lw_all := lw_g (lw_at lw_m1 215 rfl) rfl
theorem q268 : (Jvm.Cond.privateMethod ({ cls := "EvenWords$Reader", name := "all", desc := "()V" } : Jvm.MethodName)) ∈ lw_tbl := lw_at lw_m1 216 rfl
theorem q269 : (Jvm.Cond.instanceMethod ({ cls := "EvenWords$Reader", name := "all", desc := "()V" } : Jvm.MethodName)) ∈ lw_all := lw_g (lw_at lw_m1 217 rfl) rfl
theorem q270 : (Jvm.Cond.code ({ cls := "EvenWords$Reader", name := "all", desc := "()V" } : Jvm.MethodName) prog_6_method_5_code (3 : Nat) (Option.none : Option Jvm.ClassFile.FieldType)) ∈ lw_all := lw_g (lw_at lw_m1 218 rfl) rfl
theorem q271 : (Jvm.Cond.methodLink "EvenWords$Reader" (58 : Nat) ({ cls := "EvenWords$Reader", name := "step", desc := "()V" } : Jvm.MethodName)) ∈ lw_all := lw_g (lw_at lw_m1 219 rfl) rfl
theorem q272 : (Jvm.Cond.privateMethod ({ cls := "EvenWords$Reader", name := "step", desc := "()V" } : Jvm.MethodName)) ∈ lw_tbl := lw_at lw_m1 220 rfl
theorem q273 : (Jvm.Cond.instanceMethod ({ cls := "EvenWords$Reader", name := "step", desc := "()V" } : Jvm.MethodName)) ∈ lw_all := lw_g (lw_at lw_m1 221 rfl) rfl
theorem q274 : (Jvm.Cond.code ({ cls := "EvenWords$Reader", name := "step", desc := "()V" } : Jvm.MethodName) prog_6_method_3_code (2 : Nat) (Option.none : Option Jvm.ClassFile.FieldType)) ∈ lw_all := lw_g (lw_at lw_m1 222 rfl) rfl
theorem q275 : (Jvm.Cond.methodLink "EvenWords$Reader" (30 : Nat) ({ cls := "EvenWords$Reader", name := "here", desc := "()I" } : Jvm.MethodName)) ∈ lw_all := lw_g (lw_at lw_m1 223 rfl) rfl
theorem q276 : (Jvm.Cond.privateMethod ({ cls := "EvenWords$Reader", name := "here", desc := "()I" } : Jvm.MethodName)) ∈ lw_tbl := lw_at lw_m1 224 rfl
theorem q277 : (Jvm.Cond.instanceMethod ({ cls := "EvenWords$Reader", name := "here", desc := "()I" } : Jvm.MethodName)) ∈ lw_all := lw_g (lw_at lw_m1 225 rfl) rfl
theorem q278 : (Jvm.Cond.code ({ cls := "EvenWords$Reader", name := "here", desc := "()I" } : Jvm.MethodName) prog_6_method_2_code (1 : Nat) (Option.some Jvm.ClassFile.FieldType.int)) ∈ lw_all := lw_g (lw_at lw_m1 226 rfl) rfl
theorem q279 : (Jvm.Cond.methodLinkNest "EvenWords$Reader" (43 : Nat) ({ cls := "EvenWords", name := "in", desc := "(III)Z" } : Jvm.MethodName) "EvenWords") ∈ lw_tbl := lw_at lw_m1 227 rfl
theorem q280 : (Jvm.Cond.methodLink "EvenWords$Reader" (47 : Nat) ({ cls := "java/lang/Math", name := "min", desc := "(II)I" } : Jvm.MethodName)) ∈ lw_all := lw_g (lw_at lw_m1 228 rfl) rfl
theorem q283 : (Jvm.Cond.methodLink "EvenWords$Reader" (61 : Nat) ({ cls := "EvenWords$Reader", name := "due", desc := "(Z)I" } : Jvm.MethodName)) ∈ lw_all := lw_g (lw_at lw_m1 231 rfl) rfl
theorem q284 : (Jvm.Cond.privateMethod ({ cls := "EvenWords$Reader", name := "due", desc := "(Z)I" } : Jvm.MethodName)) ∈ lw_tbl := lw_at lw_m1 232 rfl
theorem q285 : (Jvm.Cond.instanceMethod ({ cls := "EvenWords$Reader", name := "due", desc := "(Z)I" } : Jvm.MethodName)) ∈ lw_all := lw_g (lw_at lw_m1 233 rfl) rfl
theorem q286 : (Jvm.Cond.code ({ cls := "EvenWords$Reader", name := "due", desc := "(Z)I" } : Jvm.MethodName) prog_6_method_4_code (3 : Nat) (Option.some Jvm.ClassFile.FieldType.int)) ∈ lw_all := lw_g (lw_at lw_m1 234 rfl) rfl
theorem q325 : (Jvm.Cond.methodLink "EvenWords$Reader" (55 : Nat) ({ cls := "EvenWords$Amiss", name := "<init>", desc := "(I)V" } : Jvm.MethodName)) ∈ lw_all := lw_g (lw_at lw_m2 33 rfl) rfl
theorem q352 : (Jvm.Cond.classLink "EvenWords$Reader" (71 : Nat) "EvenWords$Unsent") ∈ lw_all := lw_g (lw_at lw_m2 60 rfl) rfl
theorem q361 : (Jvm.Cond.methodLink "EvenWords$Reader" (73 : Nat) ({ cls := "EvenWords$Unsent", name := "<init>", desc := "(LEvenWords$Amiss;)V" } : Jvm.MethodName)) ∈ lw_all := lw_g (lw_at lw_m2 69 rfl) rfl
theorem q548 : (Jvm.Cond.selects "EvenWords$Reader" ({ cls := "java/lang/Object", name := "hashCode", desc := "()I" } : Jvm.MethodName) ({ cls := "java/lang/Object", name := "hashCode", desc := "()I" } : Jvm.MethodName)) ∈ lw_all := lw_g (lw_at lw_m3 16 rfl) rfl
theorem q729 : (Jvm.Cond.selects "EvenWords$Reader" ({ cls := "java/lang/Object", name := "getClass", desc := "()Ljava/lang/Class;" } : Jvm.MethodName) ({ cls := "java/lang/Object", name := "getClass", desc := "()Ljava/lang/Class;" } : Jvm.MethodName)) ∈ lw_all := lw_g (lw_at lw_m3 197 rfl) rfl
theorem q953 : (Jvm.Cond.selects "EvenWords$Reader" ({ cls := "java/lang/Object", name := "equals", desc := "(Ljava/lang/Object;)Z" } : Jvm.MethodName) ({ cls := "java/lang/Object", name := "equals", desc := "(Ljava/lang/Object;)Z" } : Jvm.MethodName)) ∈ lw_all := lw_g (lw_at lw_m4 181 rfl) rfl
theorem q1870 : (Jvm.Cond.castable "EvenWords$Reader" "java/lang/Object") ∈ lw_tbl := lw_at lw_m8 138 rfl
theorem in_X3 : ∀ w ∈ wsX30, w ∈ lw_all := lw_in wsX30 [247, 249, 251, 253, 255, 257, 259] (by decide +kernel) (by decide +kernel)

/-! EvenWords$Amiss -/
set_option maxRecDepth 100000
def RX4 : String := "EvenWords$Amiss"
def TX4 : u_T := fun k => match k with
  | 0 => ("java/lang/Throwable", "cause", "Ljava/lang/Throwable;", false)
  | 1 => ("java/lang/Throwable", "stackTrace", "[Ljava/lang/StackTraceElement;", false)
  | 2 => ("java/lang/Throwable", "suppressedExceptions", "Ljava/util/List;", false)
  | 3 => ("java/lang/Throwable", "detailMessage", "Ljava/lang/String;", false)
  | 4 => ("java/lang/Throwable", "backtrace", "Ljava/lang/Object;", false)
  | 5 => ("java/lang/Throwable", "depth", "I", false)
  | _ => ("EvenWords$Amiss", "at", "I", true)
def tyX4 : Nat → FieldType := fun k => match k with
  | 0 => .object "java/lang/Throwable"
  | 1 => .array (.object "java/lang/StackTraceElement")
  | 2 => .object "java/util/List"
  | 3 => .object "java/lang/String"
  | 4 => .object "java/lang/Object"
  | 5 => .int
  | _ => .int
abbrev wsX40 : List Cond := u_ws RX4 TX4 7
theorem nmX4 : ∀ a, a < 7 → ∀ b, b < 7 → a ≠ b → (TX4 a).2.1 ≠ (TX4 b).2.1 := by decide +kernel
theorem tyX4_ok : ∀ k, k < 7 → parseFieldDescriptor (TX4 k).2.2.1 = some (tyX4 k) := by decide +kernel
abbrev cX4_init : ByteArray := prog_2_method_1_code
def yX4_init : MethodName := ⟨RX4, "<init>", "(I)V"⟩
def dkwX4_init_0 : List UInt8 := [42, 18, 1, 183, 0, 3, 42, 27, 181, 0, 9, 177]
abbrev dktX4_init_0 : List UInt8 := dkwX4_init_0 ++ []
theorem dksX4_init_0 : cX4_init.data.toList.drop 0 = dktX4_init_0 := by decide +kernel
theorem dX4_init_0 : decode cX4_init 0 = .ok (.aload_n 0, 1) := dk_42 (dk_at dksX4_init_0 0 rfl rfl)
theorem dX4_init_1 : decode cX4_init 1 = .ok (.ldc 1, 2) := dk_18 1 (dk_at dksX4_init_0 1 rfl rfl)
theorem dX4_init_3 : decode cX4_init 3 = .ok (.invokespecial 3, 3) := dk_183 0 3 (dk_at dksX4_init_0 3 rfl rfl)
theorem dX4_init_6 : decode cX4_init 6 = .ok (.aload_n 0, 1) := dk_42 (dk_at dksX4_init_0 6 rfl rfl)
theorem dX4_init_7 : decode cX4_init 7 = .ok (.iload_n 1, 1) := dk_27 (dk_at dksX4_init_0 7 rfl rfl)
theorem dX4_init_8 : decode cX4_init 8 = .ok (.putfield 9, 3) := dk_181 0 9 (dk_at dksX4_init_0 8 rfl rfl)
theorem dX4_init_11 : decode cX4_init 11 = .ok (.return_, 1) := dk_177 (dk_at dksX4_init_0 11 rfl rfl)
theorem q62 : (Jvm.Cond.initialized "EvenWords$Amiss") ∈ lw_all := lw_g (lw_at lw_m1 10 rfl) rfl
theorem q287 : (Jvm.Cond.instantiable "EvenWords$Amiss" (7 : Nat)) ∈ lw_all := lw_g (lw_at lw_m1 235 rfl) rfl
theorem q288 : (Jvm.Cond.castable "EvenWords$Amiss" "EvenWords$Amiss") ∈ lw_tbl := lw_at lw_m1 236 rfl
theorem q293 : (Jvm.Cond.selects "EvenWords$Amiss" ({ cls := "java/lang/Throwable", name := "fillInStackTrace", desc := "(I)Ljava/lang/Throwable;" } : Jvm.MethodName) ({ cls := "java/lang/Throwable", name := "fillInStackTrace", desc := "(I)Ljava/lang/Throwable;" } : Jvm.MethodName)) ∈ lw_all := lw_g (lw_at lw_m2 1 rfl) rfl
theorem q294 : (Jvm.Cond.selects "EvenWords$Amiss" ({ cls := "java/lang/Throwable", name := "fillInStackTrace", desc := "()Ljava/lang/Throwable;" } : Jvm.MethodName) ({ cls := "java/lang/Throwable", name := "fillInStackTrace", desc := "()Ljava/lang/Throwable;" } : Jvm.MethodName)) ∈ lw_all := lw_g (lw_at lw_m2 2 rfl) rfl
theorem q295 : (Jvm.Cond.lays "EvenWords$Amiss" "java/lang/Throwable" "cause" "Ljava/lang/Throwable;") ∈ lw_all := lw_g (lw_at lw_m2 3 rfl) rfl
theorem q297 : (Jvm.Cond.lays "EvenWords$Amiss" "java/lang/Throwable" "stackTrace" "[Ljava/lang/StackTraceElement;") ∈ lw_all := lw_g (lw_at lw_m2 5 rfl) rfl
theorem q299 : (Jvm.Cond.lays "EvenWords$Amiss" "java/lang/Throwable" "suppressedExceptions" "Ljava/util/List;") ∈ lw_all := lw_g (lw_at lw_m2 7 rfl) rfl
theorem q301 : (Jvm.Cond.lays "EvenWords$Amiss" "java/lang/Throwable" "detailMessage" "Ljava/lang/String;") ∈ lw_all := lw_g (lw_at lw_m2 9 rfl) rfl
theorem q303 : (Jvm.Cond.lays "EvenWords$Amiss" "java/lang/Throwable" "backtrace" "Ljava/lang/Object;") ∈ lw_all := lw_g (lw_at lw_m2 11 rfl) rfl
theorem q326 : (Jvm.Cond.instanceMethod ({ cls := "EvenWords$Amiss", name := "<init>", desc := "(I)V" } : Jvm.MethodName)) ∈ lw_all := lw_g (lw_at lw_m2 34 rfl) rfl
theorem q327 : (Jvm.Cond.code ({ cls := "EvenWords$Amiss", name := "<init>", desc := "(I)V" } : Jvm.MethodName) prog_2_method_1_code (2 : Nat) (Option.none : Option Jvm.ClassFile.FieldType)) ∈ lw_all := lw_g (lw_at lw_m2 35 rfl) rfl
theorem q328 : (Jvm.Cond.stringRef "EvenWords$Amiss" (1 : Nat) "a token that cannot stand here") ∈ lw_tbl := lw_at lw_m2 36 rfl
theorem q329 : (Jvm.Cond.methodLink "EvenWords$Amiss" (3 : Nat) ({ cls := "java/lang/Exception", name := "<init>", desc := "(Ljava/lang/String;)V" } : Jvm.MethodName)) ∈ lw_all := lw_g (lw_at lw_m2 37 rfl) rfl
theorem q335 : (Jvm.Cond.fieldLink "EvenWords$Amiss" (9 : Nat) "EvenWords$Amiss" "at" "I") ∈ lw_all := lw_g (lw_at lw_m2 43 rfl) rfl
theorem q342 : (Jvm.Cond.laysFinal "EvenWords$Amiss" "EvenWords$Amiss" "at" "I") ∈ lw_all := lw_g (lw_at lw_m2 50 rfl) rfl
theorem q343 : (Jvm.Cond.soleField "EvenWords$Amiss" "at") ∈ lw_all := lw_g (lw_at lw_m2 51 rfl) rfl
theorem q348 : (Jvm.Cond.lays "EvenWords$Amiss" "java/lang/Throwable" "depth" "I") ∈ lw_all := lw_g (lw_at lw_m2 56 rfl) rfl
theorem q351 : (Jvm.Cond.superclass "EvenWords$Amiss" "java/lang/Exception") ∈ lw_all := lw_g (lw_at lw_m2 59 rfl) rfl
theorem q544 : (Jvm.Cond.selects "EvenWords$Amiss" ({ cls := "java/lang/Object", name := "hashCode", desc := "()I" } : Jvm.MethodName) ({ cls := "java/lang/Object", name := "hashCode", desc := "()I" } : Jvm.MethodName)) ∈ lw_all := lw_g (lw_at lw_m3 12 rfl) rfl
theorem q725 : (Jvm.Cond.selects "EvenWords$Amiss" ({ cls := "java/lang/Object", name := "getClass", desc := "()Ljava/lang/Class;" } : Jvm.MethodName) ({ cls := "java/lang/Object", name := "getClass", desc := "()Ljava/lang/Class;" } : Jvm.MethodName)) ∈ lw_all := lw_g (lw_at lw_m3 193 rfl) rfl
theorem q949 : (Jvm.Cond.selects "EvenWords$Amiss" ({ cls := "java/lang/Object", name := "equals", desc := "(Ljava/lang/Object;)Z" } : Jvm.MethodName) ({ cls := "java/lang/Object", name := "equals", desc := "(Ljava/lang/Object;)Z" } : Jvm.MethodName)) ∈ lw_all := lw_g (lw_at lw_m4 177 rfl) rfl
theorem q1871 : (Jvm.Cond.castable "EvenWords$Amiss" "java/lang/Object") ∈ lw_tbl := lw_at lw_m8 139 rfl
theorem in_X4 : ∀ w ∈ wsX40, w ∈ lw_all := lw_in wsX40 [295, 297, 299, 301, 303, 348, 342] (by decide +kernel) (by decide +kernel)

/-! EvenWords$Unsent -/
set_option maxRecDepth 100000
def RX5 : String := "EvenWords$Unsent"
def TX5 : u_T := fun k => match k with
  | 0 => ("java/lang/Throwable", "cause", "Ljava/lang/Throwable;", false)
  | 1 => ("java/lang/Throwable", "stackTrace", "[Ljava/lang/StackTraceElement;", false)
  | 2 => ("java/lang/Throwable", "suppressedExceptions", "Ljava/util/List;", false)
  | 3 => ("java/lang/Throwable", "detailMessage", "Ljava/lang/String;", false)
  | 4 => ("java/lang/Throwable", "backtrace", "Ljava/lang/Object;", false)
  | _ => ("java/lang/Throwable", "depth", "I", false)
def tyX5 : Nat → FieldType := fun k => match k with
  | 0 => .object "java/lang/Throwable"
  | 1 => .array (.object "java/lang/StackTraceElement")
  | 2 => .object "java/util/List"
  | 3 => .object "java/lang/String"
  | 4 => .object "java/lang/Object"
  | _ => .int
abbrev wsX50 : List Cond := u_ws RX5 TX5 6
theorem nmX5 : ∀ a, a < 6 → ∀ b, b < 6 → a ≠ b → (TX5 a).2.1 ≠ (TX5 b).2.1 := by decide +kernel
theorem tyX5_ok : ∀ k, k < 6 → parseFieldDescriptor (TX5 k).2.2.1 = some (tyX5 k) := by decide +kernel
abbrev cX5_init : ByteArray := prog_9_method_1_code
def yX5_init : MethodName := ⟨RX5, "<init>", "(LEvenWords$Amiss;)V"⟩
def dkwX5_init_0 : List UInt8 := [42, 1, 43, 183, 0, 1, 177]
abbrev dktX5_init_0 : List UInt8 := dkwX5_init_0 ++ []
theorem dksX5_init_0 : cX5_init.data.toList.drop 0 = dktX5_init_0 := by decide +kernel
theorem dX5_init_0 : decode cX5_init 0 = .ok (.aload_n 0, 1) := dk_42 (dk_at dksX5_init_0 0 rfl rfl)
theorem dX5_init_1 : decode cX5_init 1 = .ok (.aconst_null, 1) := dk_1 (dk_at dksX5_init_0 1 rfl rfl)
theorem dX5_init_2 : decode cX5_init 2 = .ok (.aload_n 1, 1) := dk_43 (dk_at dksX5_init_0 2 rfl rfl)
theorem dX5_init_3 : decode cX5_init 3 = .ok (.invokespecial 1, 3) := dk_183 0 1 (dk_at dksX5_init_0 3 rfl rfl)
theorem dX5_init_6 : decode cX5_init 6 = .ok (.return_, 1) := dk_177 (dk_at dksX5_init_0 6 rfl rfl)
theorem q63 : (Jvm.Cond.initialized "EvenWords$Unsent") ∈ lw_all := lw_g (lw_at lw_m1 11 rfl) rfl
theorem q317 : (Jvm.Cond.selects "EvenWords$Unsent" ({ cls := "java/lang/Throwable", name := "fillInStackTrace", desc := "()Ljava/lang/Throwable;" } : Jvm.MethodName) ({ cls := "java/lang/Throwable", name := "fillInStackTrace", desc := "()Ljava/lang/Throwable;" } : Jvm.MethodName)) ∈ lw_all := lw_g (lw_at lw_m2 25 rfl) rfl
theorem q353 : (Jvm.Cond.instantiable "EvenWords$Unsent" (6 : Nat)) ∈ lw_all := lw_g (lw_at lw_m2 61 rfl) rfl
theorem q354 : (Jvm.Cond.castable "EvenWords$Unsent" "EvenWords$Unsent") ∈ lw_tbl := lw_at lw_m2 62 rfl
theorem q355 : (Jvm.Cond.selects "EvenWords$Unsent" ({ cls := "java/lang/Throwable", name := "fillInStackTrace", desc := "(I)Ljava/lang/Throwable;" } : Jvm.MethodName) ({ cls := "java/lang/Throwable", name := "fillInStackTrace", desc := "(I)Ljava/lang/Throwable;" } : Jvm.MethodName)) ∈ lw_all := lw_g (lw_at lw_m2 63 rfl) rfl
theorem q356 : (Jvm.Cond.lays "EvenWords$Unsent" "java/lang/Throwable" "cause" "Ljava/lang/Throwable;") ∈ lw_all := lw_g (lw_at lw_m2 64 rfl) rfl
theorem q357 : (Jvm.Cond.lays "EvenWords$Unsent" "java/lang/Throwable" "stackTrace" "[Ljava/lang/StackTraceElement;") ∈ lw_all := lw_g (lw_at lw_m2 65 rfl) rfl
theorem q358 : (Jvm.Cond.lays "EvenWords$Unsent" "java/lang/Throwable" "suppressedExceptions" "Ljava/util/List;") ∈ lw_all := lw_g (lw_at lw_m2 66 rfl) rfl
theorem q359 : (Jvm.Cond.lays "EvenWords$Unsent" "java/lang/Throwable" "detailMessage" "Ljava/lang/String;") ∈ lw_all := lw_g (lw_at lw_m2 67 rfl) rfl
theorem q360 : (Jvm.Cond.lays "EvenWords$Unsent" "java/lang/Throwable" "backtrace" "Ljava/lang/Object;") ∈ lw_all := lw_g (lw_at lw_m2 68 rfl) rfl
theorem q362 : (Jvm.Cond.instanceMethod ({ cls := "EvenWords$Unsent", name := "<init>", desc := "(LEvenWords$Amiss;)V" } : Jvm.MethodName)) ∈ lw_all := lw_g (lw_at lw_m2 70 rfl) rfl
theorem q363 : (Jvm.Cond.code ({ cls := "EvenWords$Unsent", name := "<init>", desc := "(LEvenWords$Amiss;)V" } : Jvm.MethodName) prog_9_method_1_code (2 : Nat) (Option.none : Option Jvm.ClassFile.FieldType)) ∈ lw_all := lw_g (lw_at lw_m2 71 rfl) rfl
theorem q364 : (Jvm.Cond.methodLink "EvenWords$Unsent" (1 : Nat) ({ cls := "java/lang/Exception", name := "<init>", desc := "(Ljava/lang/String;Ljava/lang/Throwable;)V" } : Jvm.MethodName)) ∈ lw_all := lw_g (lw_at lw_m2 72 rfl) rfl
theorem q370 : (Jvm.Cond.lays "EvenWords$Unsent" "java/lang/Throwable" "depth" "I") ∈ lw_all := lw_g (lw_at lw_m2 78 rfl) rfl
theorem q371 : (Jvm.Cond.superclass "EvenWords$Unsent" "java/lang/Exception") ∈ lw_all := lw_g (lw_at lw_m2 79 rfl) rfl
theorem q373 : (Jvm.Cond.sameMethod "EvenWords$Unsent" "java/lang/Throwable" "getCause" "()Ljava/lang/Throwable;") ∈ lw_all := lw_g (lw_at lw_m2 81 rfl) rfl
theorem q375 : (Jvm.Cond.selects "EvenWords$Unsent" ({ cls := "EvenWords$Unsent", name := "getCause", desc := "()Ljava/lang/Throwable;" } : Jvm.MethodName) ({ cls := "java/lang/Throwable", name := "getCause", desc := "()Ljava/lang/Throwable;" } : Jvm.MethodName)) ∈ lw_all := lw_g (lw_at lw_m2 83 rfl) rfl
theorem q550 : (Jvm.Cond.selects "EvenWords$Unsent" ({ cls := "java/lang/Object", name := "hashCode", desc := "()I" } : Jvm.MethodName) ({ cls := "java/lang/Object", name := "hashCode", desc := "()I" } : Jvm.MethodName)) ∈ lw_all := lw_g (lw_at lw_m3 18 rfl) rfl
theorem q731 : (Jvm.Cond.selects "EvenWords$Unsent" ({ cls := "java/lang/Object", name := "getClass", desc := "()Ljava/lang/Class;" } : Jvm.MethodName) ({ cls := "java/lang/Object", name := "getClass", desc := "()Ljava/lang/Class;" } : Jvm.MethodName)) ∈ lw_all := lw_g (lw_at lw_m3 199 rfl) rfl
theorem q955 : (Jvm.Cond.selects "EvenWords$Unsent" ({ cls := "java/lang/Object", name := "equals", desc := "(Ljava/lang/Object;)Z" } : Jvm.MethodName) ({ cls := "java/lang/Object", name := "equals", desc := "(Ljava/lang/Object;)Z" } : Jvm.MethodName)) ∈ lw_all := lw_g (lw_at lw_m4 183 rfl) rfl
theorem q1872 : (Jvm.Cond.castable "EvenWords$Unsent" "java/lang/Object") ∈ lw_tbl := lw_at lw_m8 140 rfl
theorem in_X5 : ∀ w ∈ wsX50, w ∈ lw_all := lw_in wsX50 [356, 357, 358, 359, 360, 370] (by decide +kernel) (by decide +kernel)

/-! EvenWords$Piece -/
set_option maxRecDepth 100000
def RX6 : String := "EvenWords$Piece"
def TX6 : u_T := fun k => match k with
  | 0 => ("EvenWords$Piece", "word", "I", true)
  | 1 => ("EvenWords$Piece", "wasAbove", "Z", true)
  | 2 => ("EvenWords$Piece", "isAbove", "Z", true)
  | 3 => ("EvenWords$Piece", "run", "I", true)
  | 4 => ("EvenWords$Piece", "highest", "I", true)
  | _ => ("EvenWords$Piece", "lowest", "I", true)
def tyX6 : Nat → FieldType := fun k => match k with
  | 0 => .int
  | 1 => .boolean
  | 2 => .boolean
  | 3 => .int
  | 4 => .int
  | _ => .int
abbrev wsX60 : List Cond := u_ws RX6 TX6 6
theorem nmX6 : ∀ a, a < 6 → ∀ b, b < 6 → a ≠ b → (TX6 a).2.1 ≠ (TX6 b).2.1 := by decide +kernel
theorem tyX6_ok : ∀ k, k < 6 → parseFieldDescriptor (TX6 k).2.2.1 = some (tyX6 k) := by decide +kernel
abbrev cX6_init : ByteArray := prog_3_method_1_code
def yX6_init : MethodName := ⟨RX6, "<init>", "(IZIII)V"⟩
def dkwX6_init_1 : List UInt8 := [29, 181, 0, 25, 42, 21, 4, 181, 0, 28, 42, 21, 5, 181, 0, 31, 177]
abbrev dktX6_init_1 : List UInt8 := dkwX6_init_1 ++ []
def dkwX6_init_0 : List UInt8 := [42, 183, 0, 1, 42, 27, 181, 0, 7, 42, 28, 181, 0, 13, 42, 27, 28, 184, 0, 17, 181, 0, 23, 42]
abbrev dktX6_init_0 : List UInt8 := dkwX6_init_0 ++ dktX6_init_1
theorem dksX6_init_0 : cX6_init.data.toList.drop 0 = dktX6_init_0 := by decide +kernel
theorem dksX6_init_1 : cX6_init.data.toList.drop 24 = dktX6_init_1 := dk_seg dksX6_init_0 24 rfl rfl
theorem dX6_init_0 : decode cX6_init 0 = .ok (.aload_n 0, 1) := dk_42 (dk_at dksX6_init_0 0 rfl rfl)
theorem dX6_init_1 : decode cX6_init 1 = .ok (.invokespecial 1, 3) := dk_183 0 1 (dk_at dksX6_init_0 1 rfl rfl)
theorem dX6_init_4 : decode cX6_init 4 = .ok (.aload_n 0, 1) := dk_42 (dk_at dksX6_init_0 4 rfl rfl)
theorem dX6_init_5 : decode cX6_init 5 = .ok (.iload_n 1, 1) := dk_27 (dk_at dksX6_init_0 5 rfl rfl)
theorem dX6_init_6 : decode cX6_init 6 = .ok (.putfield 7, 3) := dk_181 0 7 (dk_at dksX6_init_0 6 rfl rfl)
theorem dX6_init_9 : decode cX6_init 9 = .ok (.aload_n 0, 1) := dk_42 (dk_at dksX6_init_0 9 rfl rfl)
theorem dX6_init_10 : decode cX6_init 10 = .ok (.iload_n 2, 1) := dk_28 (dk_at dksX6_init_0 10 rfl rfl)
theorem dX6_init_11 : decode cX6_init 11 = .ok (.putfield 13, 3) := dk_181 0 13 (dk_at dksX6_init_0 11 rfl rfl)
theorem dX6_init_14 : decode cX6_init 14 = .ok (.aload_n 0, 1) := dk_42 (dk_at dksX6_init_0 14 rfl rfl)
theorem dX6_init_15 : decode cX6_init 15 = .ok (.iload_n 1, 1) := dk_27 (dk_at dksX6_init_0 15 rfl rfl)
theorem dX6_init_16 : decode cX6_init 16 = .ok (.iload_n 2, 1) := dk_28 (dk_at dksX6_init_0 16 rfl rfl)
theorem dX6_init_17 : decode cX6_init 17 = .ok (.invokestatic 17, 3) := dk_184 0 17 (dk_at dksX6_init_0 17 rfl rfl)
theorem dX6_init_20 : decode cX6_init 20 = .ok (.putfield 23, 3) := dk_181 0 23 (dk_at dksX6_init_0 20 rfl rfl)
theorem dX6_init_23 : decode cX6_init 23 = .ok (.aload_n 0, 1) := dk_42 (dk_at dksX6_init_0 23 rfl rfl)
theorem dX6_init_24 : decode cX6_init 24 = .ok (.iload_n 3, 1) := dk_29 (dk_at dksX6_init_1 0 rfl rfl)
theorem dX6_init_25 : decode cX6_init 25 = .ok (.putfield 25, 3) := dk_181 0 25 (dk_at dksX6_init_1 1 rfl rfl)
theorem dX6_init_28 : decode cX6_init 28 = .ok (.aload_n 0, 1) := dk_42 (dk_at dksX6_init_1 4 rfl rfl)
theorem dX6_init_29 : decode cX6_init 29 = .ok (.iload 4, 2) := dk_21 4 (dk_at dksX6_init_1 5 rfl rfl)
theorem dX6_init_31 : decode cX6_init 31 = .ok (.putfield 28, 3) := dk_181 0 28 (dk_at dksX6_init_1 7 rfl rfl)
theorem dX6_init_34 : decode cX6_init 34 = .ok (.aload_n 0, 1) := dk_42 (dk_at dksX6_init_1 10 rfl rfl)
theorem dX6_init_35 : decode cX6_init 35 = .ok (.iload 5, 2) := dk_21 5 (dk_at dksX6_init_1 11 rfl rfl)
theorem dX6_init_37 : decode cX6_init 37 = .ok (.putfield 31, 3) := dk_181 0 31 (dk_at dksX6_init_1 13 rfl rfl)
theorem dX6_init_40 : decode cX6_init 40 = .ok (.return_, 1) := dk_177 (dk_at dksX6_init_1 16 rfl rfl)
theorem q84 : (Jvm.Cond.initialized "EvenWords$Piece") ∈ lw_all := lw_g (lw_at lw_m1 32 rfl) rfl
theorem q545 : (Jvm.Cond.selects "EvenWords$Piece" ({ cls := "java/lang/Object", name := "hashCode", desc := "()I" } : Jvm.MethodName) ({ cls := "java/lang/Object", name := "hashCode", desc := "()I" } : Jvm.MethodName)) ∈ lw_all := lw_g (lw_at lw_m3 13 rfl) rfl
theorem q726 : (Jvm.Cond.selects "EvenWords$Piece" ({ cls := "java/lang/Object", name := "getClass", desc := "()Ljava/lang/Class;" } : Jvm.MethodName) ({ cls := "java/lang/Object", name := "getClass", desc := "()Ljava/lang/Class;" } : Jvm.MethodName)) ∈ lw_all := lw_g (lw_at lw_m3 194 rfl) rfl
theorem q950 : (Jvm.Cond.selects "EvenWords$Piece" ({ cls := "java/lang/Object", name := "equals", desc := "(Ljava/lang/Object;)Z" } : Jvm.MethodName) ({ cls := "java/lang/Object", name := "equals", desc := "(Ljava/lang/Object;)Z" } : Jvm.MethodName)) ∈ lw_all := lw_g (lw_at lw_m4 178 rfl) rfl
theorem q1153 : (Jvm.Cond.instantiable "EvenWords$Piece" (6 : Nat)) ∈ lw_all := lw_g (lw_at lw_m5 141 rfl) rfl
theorem q1155 : (Jvm.Cond.instanceMethod ({ cls := "EvenWords$Piece", name := "<init>", desc := "(IZIII)V" } : Jvm.MethodName)) ∈ lw_all := lw_g (lw_at lw_m5 143 rfl) rfl
theorem q1156 : (Jvm.Cond.code ({ cls := "EvenWords$Piece", name := "<init>", desc := "(IZIII)V" } : Jvm.MethodName) prog_3_method_1_code (6 : Nat) (Option.none : Option Jvm.ClassFile.FieldType)) ∈ lw_all := lw_g (lw_at lw_m5 144 rfl) rfl
theorem q1157 : (Jvm.Cond.methodLink "EvenWords$Piece" (1 : Nat) ({ cls := "java/lang/Object", name := "<init>", desc := "()V" } : Jvm.MethodName)) ∈ lw_all := lw_g (lw_at lw_m5 145 rfl) rfl
theorem q1158 : (Jvm.Cond.methodLinkNest "EvenWords$Piece" (17 : Nat) ({ cls := "EvenWords", name := "isAbove", desc := "(IZ)Z" } : Jvm.MethodName) "EvenWords") ∈ lw_tbl := lw_at lw_m5 146 rfl
theorem q1159 : (Jvm.Cond.fieldLink "EvenWords$Piece" (7 : Nat) "EvenWords$Piece" "word" "I") ∈ lw_all := lw_g (lw_at lw_m5 147 rfl) rfl
theorem q1161 : (Jvm.Cond.fieldLink "EvenWords$Piece" (13 : Nat) "EvenWords$Piece" "wasAbove" "Z") ∈ lw_all := lw_g (lw_at lw_m5 149 rfl) rfl
theorem q1163 : (Jvm.Cond.fieldLink "EvenWords$Piece" (23 : Nat) "EvenWords$Piece" "isAbove" "Z") ∈ lw_all := lw_g (lw_at lw_m5 151 rfl) rfl
theorem q1166 : (Jvm.Cond.fieldLink "EvenWords$Piece" (25 : Nat) "EvenWords$Piece" "run" "I") ∈ lw_all := lw_g (lw_at lw_m5 154 rfl) rfl
theorem q1168 : (Jvm.Cond.fieldLink "EvenWords$Piece" (28 : Nat) "EvenWords$Piece" "highest" "I") ∈ lw_all := lw_g (lw_at lw_m5 156 rfl) rfl
theorem q1170 : (Jvm.Cond.fieldLink "EvenWords$Piece" (31 : Nat) "EvenWords$Piece" "lowest" "I") ∈ lw_all := lw_g (lw_at lw_m5 158 rfl) rfl
theorem q1172 : (Jvm.Cond.laysFinal "EvenWords$Piece" "EvenWords$Piece" "word" "I") ∈ lw_all := lw_g (lw_at lw_m5 160 rfl) rfl
theorem q1173 : (Jvm.Cond.soleField "EvenWords$Piece" "word") ∈ lw_all := lw_g (lw_at lw_m5 161 rfl) rfl
theorem q1174 : (Jvm.Cond.laysFinal "EvenWords$Piece" "EvenWords$Piece" "wasAbove" "Z") ∈ lw_all := lw_g (lw_at lw_m5 162 rfl) rfl
theorem q1175 : (Jvm.Cond.soleField "EvenWords$Piece" "wasAbove") ∈ lw_all := lw_g (lw_at lw_m5 163 rfl) rfl
theorem q1176 : (Jvm.Cond.laysFinal "EvenWords$Piece" "EvenWords$Piece" "isAbove" "Z") ∈ lw_all := lw_g (lw_at lw_m5 164 rfl) rfl
theorem q1177 : (Jvm.Cond.soleField "EvenWords$Piece" "isAbove") ∈ lw_all := lw_g (lw_at lw_m5 165 rfl) rfl
theorem q1178 : (Jvm.Cond.laysFinal "EvenWords$Piece" "EvenWords$Piece" "run" "I") ∈ lw_all := lw_g (lw_at lw_m5 166 rfl) rfl
theorem q1179 : (Jvm.Cond.soleField "EvenWords$Piece" "run") ∈ lw_all := lw_g (lw_at lw_m5 167 rfl) rfl
theorem q1180 : (Jvm.Cond.laysFinal "EvenWords$Piece" "EvenWords$Piece" "highest" "I") ∈ lw_all := lw_g (lw_at lw_m5 168 rfl) rfl
theorem q1181 : (Jvm.Cond.soleField "EvenWords$Piece" "highest") ∈ lw_all := lw_g (lw_at lw_m5 169 rfl) rfl
theorem q1182 : (Jvm.Cond.laysFinal "EvenWords$Piece" "EvenWords$Piece" "lowest" "I") ∈ lw_all := lw_g (lw_at lw_m5 170 rfl) rfl
theorem q1183 : (Jvm.Cond.soleField "EvenWords$Piece" "lowest") ∈ lw_all := lw_g (lw_at lw_m5 171 rfl) rfl
theorem q1184 : (Jvm.Cond.superclass "EvenWords$Piece" "java/lang/Object") ∈ lw_all := lw_g (lw_at lw_m5 172 rfl) rfl
theorem q1884 : (Jvm.Cond.castable "EvenWords$Piece" "java/lang/Object") ∈ lw_tbl := lw_at lw_m8 152 rfl
theorem in_X6 : ∀ w ∈ wsX60, w ∈ lw_all := lw_in wsX60 [1172, 1174, 1176, 1178, 1180, 1182] (by decide +kernel) (by decide +kernel)

/-! EvenWords$Read -/
set_option maxRecDepth 100000
def RX7 : String := "EvenWords$Read"
def TX7 : u_T := fun k => match k with
  | 0 => ("EvenWords$Read", "of", "LEvenWords$Wire;", true)
  | 1 => ("EvenWords$Read", "from", "I", true)
  | 2 => ("EvenWords$Read", "isAbove", "Z", true)
  | _ => ("EvenWords$Read", "this$0", "LEvenWords;", true)
def tyX7 : Nat → FieldType := fun k => match k with
  | 0 => .object "EvenWords$Wire"
  | 1 => .int
  | 2 => .boolean
  | _ => .object "EvenWords"
abbrev wsX70 : List Cond := u_ws RX7 TX7 4
theorem nmX7 : ∀ a, a < 4 → ∀ b, b < 4 → a ≠ b → (TX7 a).2.1 ≠ (TX7 b).2.1 := by decide +kernel
theorem tyX7_ok : ∀ k, k < 4 → parseFieldDescriptor (TX7 k).2.2.1 = some (tyX7 k) := by decide +kernel
abbrev cX7_init : ByteArray := prog_4_method_1_code
def yX7_init : MethodName := ⟨RX7, "<init>", "(LEvenWords;LEvenWords$Wire;IZ)V"⟩
def dkwX7_init_1 : List UInt8 := [181, 0, 23, 177]
abbrev dktX7_init_1 : List UInt8 := dkwX7_init_1 ++ []
def dkwX7_init_0 : List UInt8 := [42, 43, 181, 0, 3, 42, 183, 0, 9, 42, 44, 181, 0, 15, 42, 29, 181, 0, 19, 42, 21, 4]
abbrev dktX7_init_0 : List UInt8 := dkwX7_init_0 ++ dktX7_init_1
theorem dksX7_init_0 : cX7_init.data.toList.drop 0 = dktX7_init_0 := by decide +kernel
theorem dksX7_init_1 : cX7_init.data.toList.drop 22 = dktX7_init_1 := dk_seg dksX7_init_0 22 rfl rfl
theorem dX7_init_0 : decode cX7_init 0 = .ok (.aload_n 0, 1) := dk_42 (dk_at dksX7_init_0 0 rfl rfl)
theorem dX7_init_1 : decode cX7_init 1 = .ok (.aload_n 1, 1) := dk_43 (dk_at dksX7_init_0 1 rfl rfl)
theorem dX7_init_2 : decode cX7_init 2 = .ok (.putfield 3, 3) := dk_181 0 3 (dk_at dksX7_init_0 2 rfl rfl)
theorem dX7_init_5 : decode cX7_init 5 = .ok (.aload_n 0, 1) := dk_42 (dk_at dksX7_init_0 5 rfl rfl)
theorem dX7_init_6 : decode cX7_init 6 = .ok (.invokespecial 9, 3) := dk_183 0 9 (dk_at dksX7_init_0 6 rfl rfl)
theorem dX7_init_9 : decode cX7_init 9 = .ok (.aload_n 0, 1) := dk_42 (dk_at dksX7_init_0 9 rfl rfl)
theorem dX7_init_10 : decode cX7_init 10 = .ok (.aload_n 2, 1) := dk_44 (dk_at dksX7_init_0 10 rfl rfl)
theorem dX7_init_11 : decode cX7_init 11 = .ok (.putfield 15, 3) := dk_181 0 15 (dk_at dksX7_init_0 11 rfl rfl)
theorem dX7_init_14 : decode cX7_init 14 = .ok (.aload_n 0, 1) := dk_42 (dk_at dksX7_init_0 14 rfl rfl)
theorem dX7_init_15 : decode cX7_init 15 = .ok (.iload_n 3, 1) := dk_29 (dk_at dksX7_init_0 15 rfl rfl)
theorem dX7_init_16 : decode cX7_init 16 = .ok (.putfield 19, 3) := dk_181 0 19 (dk_at dksX7_init_0 16 rfl rfl)
theorem dX7_init_19 : decode cX7_init 19 = .ok (.aload_n 0, 1) := dk_42 (dk_at dksX7_init_0 19 rfl rfl)
theorem dX7_init_20 : decode cX7_init 20 = .ok (.iload 4, 2) := dk_21 4 (dk_at dksX7_init_0 20 rfl rfl)
theorem dX7_init_22 : decode cX7_init 22 = .ok (.putfield 23, 3) := dk_181 0 23 (dk_at dksX7_init_1 0 rfl rfl)
theorem dX7_init_25 : decode cX7_init 25 = .ok (.return_, 1) := dk_177 (dk_at dksX7_init_1 3 rfl rfl)
abbrev cX7_iterator : ByteArray := prog_4_method_3_code
def yX7_iterator : MethodName := ⟨RX7, "iterator", "()Ljava/util/Iterator;"⟩
def dkwX7_iterator_0 : List UInt8 := [187, 0, 39, 89, 42, 183, 0, 41, 176]
abbrev dktX7_iterator_0 : List UInt8 := dkwX7_iterator_0 ++ []
theorem dksX7_iterator_0 : cX7_iterator.data.toList.drop 0 = dktX7_iterator_0 := by decide +kernel
theorem dX7_iterator_0 : decode cX7_iterator 0 = .ok (.new 39, 3) := dk_187 0 39 (dk_at dksX7_iterator_0 0 rfl rfl)
theorem dX7_iterator_3 : decode cX7_iterator 3 = .ok (.dup, 1) := dk_89 (dk_at dksX7_iterator_0 3 rfl rfl)
theorem dX7_iterator_4 : decode cX7_iterator 4 = .ok (.aload_n 0, 1) := dk_42 (dk_at dksX7_iterator_0 4 rfl rfl)
theorem dX7_iterator_5 : decode cX7_iterator 5 = .ok (.invokespecial 41, 3) := dk_183 0 41 (dk_at dksX7_iterator_0 5 rfl rfl)
theorem dX7_iterator_8 : decode cX7_iterator 8 = .ok (.areturn, 1) := dk_176 (dk_at dksX7_iterator_0 8 rfl rfl)
abbrev cX7_pieces : ByteArray := prog_4_method_2_code
def yX7_pieces : MethodName := ⟨RX7, "pieces", "()I"⟩
def dkwX7_pieces_0 : List UInt8 := [3, 42, 180, 0, 15, 182, 0, 27, 42, 180, 0, 19, 100, 184, 0, 33, 16, 6, 108, 172]
abbrev dktX7_pieces_0 : List UInt8 := dkwX7_pieces_0 ++ []
theorem dksX7_pieces_0 : cX7_pieces.data.toList.drop 0 = dktX7_pieces_0 := by decide +kernel
theorem dX7_pieces_0 : decode cX7_pieces 0 = .ok (.iconst 0, 1) := dk_3 (dk_at dksX7_pieces_0 0 rfl rfl)
theorem dX7_pieces_1 : decode cX7_pieces 1 = .ok (.aload_n 0, 1) := dk_42 (dk_at dksX7_pieces_0 1 rfl rfl)
theorem dX7_pieces_2 : decode cX7_pieces 2 = .ok (.getfield 15, 3) := dk_180 0 15 (dk_at dksX7_pieces_0 2 rfl rfl)
theorem dX7_pieces_5 : decode cX7_pieces 5 = .ok (.invokevirtual 27, 3) := dk_182 0 27 (dk_at dksX7_pieces_0 5 rfl rfl)
theorem dX7_pieces_8 : decode cX7_pieces 8 = .ok (.aload_n 0, 1) := dk_42 (dk_at dksX7_pieces_0 8 rfl rfl)
theorem dX7_pieces_9 : decode cX7_pieces 9 = .ok (.getfield 19, 3) := dk_180 0 19 (dk_at dksX7_pieces_0 9 rfl rfl)
theorem dX7_pieces_12 : decode cX7_pieces 12 = .ok (.isub, 1) := dk_100 (dk_at dksX7_pieces_0 12 rfl rfl)
theorem dX7_pieces_13 : decode cX7_pieces 13 = .ok (.invokestatic 33, 3) := dk_184 0 33 (dk_at dksX7_pieces_0 13 rfl rfl)
theorem dX7_pieces_16 : decode cX7_pieces 16 = .ok (.bipush 6, 2) := dk_16 6 (dk_at dksX7_pieces_0 16 rfl rfl)
theorem dX7_pieces_18 : decode cX7_pieces 18 = .ok (.idiv, 1) := dk_108 (dk_at dksX7_pieces_0 18 rfl rfl)
theorem dX7_pieces_19 : decode cX7_pieces 19 = .ok (.ireturn, 1) := dk_172 (dk_at dksX7_pieces_0 19 rfl rfl)
abbrev cX7_first : ByteArray := prog_4_method_4_code
def yX7_first : MethodName := ⟨RX7, "first", "()I"⟩
def dkwX7_first_2 : List UInt8 := [16, 247, 172]
abbrev dktX7_first_2 : List UInt8 := dkwX7_first_2 ++ []
def dkwX7_first_1 : List UInt8 := [192, 0, 58, 78, 42, 180, 0, 3, 45, 182, 0, 60, 153, 0, 5, 27, 172, 132, 1, 1, 167, 255, 221]
abbrev dktX7_first_1 : List UInt8 := dkwX7_first_1 ++ dktX7_first_2
def dkwX7_first_0 : List UInt8 := [3, 60, 42, 182, 0, 44, 77, 44, 185, 0, 48, 1, 0, 153, 0, 32, 44, 185, 0, 54, 1, 0]
abbrev dktX7_first_0 : List UInt8 := dkwX7_first_0 ++ dktX7_first_1
theorem dksX7_first_0 : cX7_first.data.toList.drop 0 = dktX7_first_0 := by decide +kernel
theorem dksX7_first_1 : cX7_first.data.toList.drop 22 = dktX7_first_1 := dk_seg dksX7_first_0 22 rfl rfl
theorem dksX7_first_2 : cX7_first.data.toList.drop 45 = dktX7_first_2 := dk_seg dksX7_first_1 23 rfl rfl
theorem dX7_first_0 : decode cX7_first 0 = .ok (.iconst 0, 1) := dk_3 (dk_at dksX7_first_0 0 rfl rfl)
theorem dX7_first_1 : decode cX7_first 1 = .ok (.istore_n 1, 1) := dk_60 (dk_at dksX7_first_0 1 rfl rfl)
theorem dX7_first_2 : decode cX7_first 2 = .ok (.aload_n 0, 1) := dk_42 (dk_at dksX7_first_0 2 rfl rfl)
theorem dX7_first_3 : decode cX7_first 3 = .ok (.invokevirtual 44, 3) := dk_182 0 44 (dk_at dksX7_first_0 3 rfl rfl)
theorem dX7_first_6 : decode cX7_first 6 = .ok (.astore_n 2, 1) := dk_77 (dk_at dksX7_first_0 6 rfl rfl)
theorem dX7_first_7 : decode cX7_first 7 = .ok (.aload_n 2, 1) := dk_44 (dk_at dksX7_first_0 7 rfl rfl)
theorem dX7_first_8 : decode cX7_first 8 = .ok (.invokeinterface 48 1, 5) := by decide +kernel
theorem dX7_first_13 : decode cX7_first 13 = .ok (.ifCond .eq 32, 3) := dk_153 0 32 (dk_at dksX7_first_0 13 rfl rfl)
theorem dX7_first_16 : decode cX7_first 16 = .ok (.aload_n 2, 1) := dk_44 (dk_at dksX7_first_0 16 rfl rfl)
theorem dX7_first_17 : decode cX7_first 17 = .ok (.invokeinterface 54 1, 5) := by decide +kernel
theorem dX7_first_22 : decode cX7_first 22 = .ok (.checkcast 58, 3) := dk_192 0 58 (dk_at dksX7_first_1 0 rfl rfl)
theorem dX7_first_25 : decode cX7_first 25 = .ok (.astore_n 3, 1) := dk_78 (dk_at dksX7_first_1 3 rfl rfl)
theorem dX7_first_26 : decode cX7_first 26 = .ok (.aload_n 0, 1) := dk_42 (dk_at dksX7_first_1 4 rfl rfl)
theorem dX7_first_27 : decode cX7_first 27 = .ok (.getfield 3, 3) := dk_180 0 3 (dk_at dksX7_first_1 5 rfl rfl)
theorem dX7_first_30 : decode cX7_first 30 = .ok (.aload_n 3, 1) := dk_45 (dk_at dksX7_first_1 8 rfl rfl)
theorem dX7_first_31 : decode cX7_first 31 = .ok (.invokevirtual 60, 3) := dk_182 0 60 (dk_at dksX7_first_1 9 rfl rfl)
theorem dX7_first_34 : decode cX7_first 34 = .ok (.ifCond .eq 5, 3) := dk_153 0 5 (dk_at dksX7_first_1 12 rfl rfl)
theorem dX7_first_37 : decode cX7_first 37 = .ok (.iload_n 1, 1) := dk_27 (dk_at dksX7_first_1 15 rfl rfl)
theorem dX7_first_38 : decode cX7_first 38 = .ok (.ireturn, 1) := dk_172 (dk_at dksX7_first_1 16 rfl rfl)
theorem dX7_first_39 : decode cX7_first 39 = .ok (.iinc 1 1, 3) := dk_132 1 1 (dk_at dksX7_first_1 17 rfl rfl)
theorem dX7_first_42 : decode cX7_first 42 = .ok (.goto (-35), 3) := dk_167 255 221 (dk_at dksX7_first_1 20 rfl rfl)
theorem dX7_first_45 : decode cX7_first 45 = .ok (.bipush (-9), 2) := dk_16 247 (dk_at dksX7_first_2 0 rfl rfl)
theorem dX7_first_47 : decode cX7_first 47 = .ok (.ireturn, 1) := dk_172 (dk_at dksX7_first_2 2 rfl rfl)
abbrev cX7_breached : ByteArray := prog_4_method_5_code
def yX7_breached : MethodName := ⟨RX7, "breached", "()I"⟩
def dkwX7_breached_2 : List UInt8 := [167, 255, 218, 27, 172]
abbrev dktX7_breached_2 : List UInt8 := dkwX7_breached_2 ++ []
def dkwX7_breached_1 : List UInt8 := [192, 0, 58, 78, 27, 42, 180, 0, 3, 45, 182, 0, 60, 153, 0, 7, 4, 167, 0, 4, 3, 96, 60]
abbrev dktX7_breached_1 : List UInt8 := dkwX7_breached_1 ++ dktX7_breached_2
def dkwX7_breached_0 : List UInt8 := [3, 60, 42, 182, 0, 44, 77, 44, 185, 0, 48, 1, 0, 153, 0, 35, 44, 185, 0, 54, 1, 0]
abbrev dktX7_breached_0 : List UInt8 := dkwX7_breached_0 ++ dktX7_breached_1
theorem dksX7_breached_0 : cX7_breached.data.toList.drop 0 = dktX7_breached_0 := by decide +kernel
theorem dksX7_breached_1 : cX7_breached.data.toList.drop 22 = dktX7_breached_1 := dk_seg dksX7_breached_0 22 rfl rfl
theorem dksX7_breached_2 : cX7_breached.data.toList.drop 45 = dktX7_breached_2 := dk_seg dksX7_breached_1 23 rfl rfl
theorem dX7_breached_0 : decode cX7_breached 0 = .ok (.iconst 0, 1) := dk_3 (dk_at dksX7_breached_0 0 rfl rfl)
theorem dX7_breached_1 : decode cX7_breached 1 = .ok (.istore_n 1, 1) := dk_60 (dk_at dksX7_breached_0 1 rfl rfl)
theorem dX7_breached_2 : decode cX7_breached 2 = .ok (.aload_n 0, 1) := dk_42 (dk_at dksX7_breached_0 2 rfl rfl)
theorem dX7_breached_3 : decode cX7_breached 3 = .ok (.invokevirtual 44, 3) := dk_182 0 44 (dk_at dksX7_breached_0 3 rfl rfl)
theorem dX7_breached_6 : decode cX7_breached 6 = .ok (.astore_n 2, 1) := dk_77 (dk_at dksX7_breached_0 6 rfl rfl)
theorem dX7_breached_7 : decode cX7_breached 7 = .ok (.aload_n 2, 1) := dk_44 (dk_at dksX7_breached_0 7 rfl rfl)
theorem dX7_breached_8 : decode cX7_breached 8 = .ok (.invokeinterface 48 1, 5) := by decide +kernel
theorem dX7_breached_13 : decode cX7_breached 13 = .ok (.ifCond .eq 35, 3) := dk_153 0 35 (dk_at dksX7_breached_0 13 rfl rfl)
theorem dX7_breached_16 : decode cX7_breached 16 = .ok (.aload_n 2, 1) := dk_44 (dk_at dksX7_breached_0 16 rfl rfl)
theorem dX7_breached_17 : decode cX7_breached 17 = .ok (.invokeinterface 54 1, 5) := by decide +kernel
theorem dX7_breached_22 : decode cX7_breached 22 = .ok (.checkcast 58, 3) := dk_192 0 58 (dk_at dksX7_breached_1 0 rfl rfl)
theorem dX7_breached_25 : decode cX7_breached 25 = .ok (.astore_n 3, 1) := dk_78 (dk_at dksX7_breached_1 3 rfl rfl)
theorem dX7_breached_26 : decode cX7_breached 26 = .ok (.iload_n 1, 1) := dk_27 (dk_at dksX7_breached_1 4 rfl rfl)
theorem dX7_breached_27 : decode cX7_breached 27 = .ok (.aload_n 0, 1) := dk_42 (dk_at dksX7_breached_1 5 rfl rfl)
theorem dX7_breached_28 : decode cX7_breached 28 = .ok (.getfield 3, 3) := dk_180 0 3 (dk_at dksX7_breached_1 6 rfl rfl)
theorem dX7_breached_31 : decode cX7_breached 31 = .ok (.aload_n 3, 1) := dk_45 (dk_at dksX7_breached_1 9 rfl rfl)
theorem dX7_breached_32 : decode cX7_breached 32 = .ok (.invokevirtual 60, 3) := dk_182 0 60 (dk_at dksX7_breached_1 10 rfl rfl)
theorem dX7_breached_35 : decode cX7_breached 35 = .ok (.ifCond .eq 7, 3) := dk_153 0 7 (dk_at dksX7_breached_1 13 rfl rfl)
theorem dX7_breached_38 : decode cX7_breached 38 = .ok (.iconst 1, 1) := dk_4 (dk_at dksX7_breached_1 16 rfl rfl)
theorem dX7_breached_39 : decode cX7_breached 39 = .ok (.goto 4, 3) := dk_167 0 4 (dk_at dksX7_breached_1 17 rfl rfl)
theorem dX7_breached_42 : decode cX7_breached 42 = .ok (.iconst 0, 1) := dk_3 (dk_at dksX7_breached_1 20 rfl rfl)
theorem dX7_breached_43 : decode cX7_breached 43 = .ok (.iadd, 1) := dk_96 (dk_at dksX7_breached_1 21 rfl rfl)
theorem dX7_breached_44 : decode cX7_breached 44 = .ok (.istore_n 1, 1) := dk_60 (dk_at dksX7_breached_1 22 rfl rfl)
theorem dX7_breached_45 : decode cX7_breached 45 = .ok (.goto (-38), 3) := dk_167 255 218 (dk_at dksX7_breached_2 0 rfl rfl)
theorem dX7_breached_48 : decode cX7_breached 48 = .ok (.iload_n 1, 1) := dk_27 (dk_at dksX7_breached_2 3 rfl rfl)
theorem dX7_breached_49 : decode cX7_breached 49 = .ok (.ireturn, 1) := dk_172 (dk_at dksX7_breached_2 4 rfl rfl)
theorem q85 : (Jvm.Cond.initialized "EvenWords$Read") ∈ lw_all := lw_g (lw_at lw_m1 33 rfl) rfl
theorem q546 : (Jvm.Cond.selects "EvenWords$Read" ({ cls := "java/lang/Object", name := "hashCode", desc := "()I" } : Jvm.MethodName) ({ cls := "java/lang/Object", name := "hashCode", desc := "()I" } : Jvm.MethodName)) ∈ lw_all := lw_g (lw_at lw_m3 14 rfl) rfl
theorem q727 : (Jvm.Cond.selects "EvenWords$Read" ({ cls := "java/lang/Object", name := "getClass", desc := "()Ljava/lang/Class;" } : Jvm.MethodName) ({ cls := "java/lang/Object", name := "getClass", desc := "()Ljava/lang/Class;" } : Jvm.MethodName)) ∈ lw_all := lw_g (lw_at lw_m3 195 rfl) rfl
theorem q951 : (Jvm.Cond.selects "EvenWords$Read" ({ cls := "java/lang/Object", name := "equals", desc := "(Ljava/lang/Object;)Z" } : Jvm.MethodName) ({ cls := "java/lang/Object", name := "equals", desc := "(Ljava/lang/Object;)Z" } : Jvm.MethodName)) ∈ lw_all := lw_g (lw_at lw_m4 179 rfl) rfl
theorem q1213 : (Jvm.Cond.instantiable "EvenWords$Read" (4 : Nat)) ∈ lw_all := lw_g (lw_at lw_m5 201 rfl) rfl
theorem q1215 : (Jvm.Cond.instanceMethod ({ cls := "EvenWords$Read", name := "<init>", desc := "(LEvenWords;LEvenWords$Wire;IZ)V" } : Jvm.MethodName)) ∈ lw_all := lw_g (lw_at lw_m5 203 rfl) rfl
theorem q1216 : (Jvm.Cond.code ({ cls := "EvenWords$Read", name := "<init>", desc := "(LEvenWords;LEvenWords$Wire;IZ)V" } : Jvm.MethodName) prog_4_method_1_code (5 : Nat) (Option.none : Option Jvm.ClassFile.FieldType)) ∈ lw_all := lw_g (lw_at lw_m5 204 rfl) rfl
theorem q1217 : (Jvm.Cond.methodLink "EvenWords$Read" (9 : Nat) ({ cls := "java/lang/Object", name := "<init>", desc := "()V" } : Jvm.MethodName)) ∈ lw_all := lw_g (lw_at lw_m5 205 rfl) rfl
theorem q1218 : (Jvm.Cond.fieldLink "EvenWords$Read" (15 : Nat) "EvenWords$Read" "of" "LEvenWords$Wire;") ∈ lw_all := lw_g (lw_at lw_m5 206 rfl) rfl
theorem q1221 : (Jvm.Cond.fieldLink "EvenWords$Read" (19 : Nat) "EvenWords$Read" "from" "I") ∈ lw_all := lw_g (lw_at lw_m5 209 rfl) rfl
theorem q1223 : (Jvm.Cond.fieldLink "EvenWords$Read" (23 : Nat) "EvenWords$Read" "isAbove" "Z") ∈ lw_all := lw_g (lw_at lw_m5 211 rfl) rfl
theorem q1226 : (Jvm.Cond.fieldLink "EvenWords$Read" (3 : Nat) "EvenWords$Read" "this$0" "LEvenWords;") ∈ lw_all := lw_g (lw_at lw_m5 214 rfl) rfl
theorem q1227 : (Jvm.Cond.laysFinal "EvenWords$Read" "EvenWords$Read" "of" "LEvenWords$Wire;") ∈ lw_all := lw_g (lw_at lw_m5 215 rfl) rfl
theorem q1228 : (Jvm.Cond.soleField "EvenWords$Read" "of") ∈ lw_all := lw_g (lw_at lw_m5 216 rfl) rfl
theorem q1229 : (Jvm.Cond.laysFinal "EvenWords$Read" "EvenWords$Read" "from" "I") ∈ lw_all := lw_g (lw_at lw_m5 217 rfl) rfl
theorem q1230 : (Jvm.Cond.soleField "EvenWords$Read" "from") ∈ lw_all := lw_g (lw_at lw_m5 218 rfl) rfl
theorem q1231 : (Jvm.Cond.laysFinal "EvenWords$Read" "EvenWords$Read" "isAbove" "Z") ∈ lw_all := lw_g (lw_at lw_m5 219 rfl) rfl
theorem q1232 : (Jvm.Cond.soleField "EvenWords$Read" "isAbove") ∈ lw_all := lw_g (lw_at lw_m5 220 rfl) rfl
theorem q1233 : (Jvm.Cond.laysFinal "EvenWords$Read" "EvenWords$Read" "this$0" "LEvenWords;") ∈ lw_all := lw_g (lw_at lw_m5 221 rfl) rfl
theorem q1234 : (Jvm.Cond.soleField "EvenWords$Read" "this$0") ∈ lw_all := lw_g (lw_at lw_m5 222 rfl) rfl
theorem q1235 : (Jvm.Cond.superclass "EvenWords$Read" "java/lang/Object") ∈ lw_all := lw_g (lw_at lw_m5 223 rfl) rfl
theorem q1237 : (Jvm.Cond.instanceMethod ({ cls := "EvenWords$Read", name := "iterator", desc := "()Ljava/util/Iterator;" } : Jvm.MethodName)) ∈ lw_all := lw_g (lw_at lw_m5 225 rfl) rfl
theorem q1238 : (Jvm.Cond.selects "EvenWords$Read" ({ cls := "EvenWords$Read", name := "iterator", desc := "()Ljava/util/Iterator;" } : Jvm.MethodName) ({ cls := "EvenWords$Read", name := "iterator", desc := "()Ljava/util/Iterator;" } : Jvm.MethodName)) ∈ lw_all := lw_g (lw_at lw_m5 226 rfl) rfl
theorem q1239 : (Jvm.Cond.code ({ cls := "EvenWords$Read", name := "iterator", desc := "()Ljava/util/Iterator;" } : Jvm.MethodName) prog_4_method_3_code (1 : Nat) (Option.some (Jvm.ClassFile.FieldType.object "java/util/Iterator"))) ∈ lw_all := lw_g (lw_at lw_m5 227 rfl) rfl
theorem q1240 : (Jvm.Cond.classLink "EvenWords$Read" (39 : Nat) "EvenWords$Read$1") ∈ lw_all := lw_g (lw_at lw_m5 228 rfl) rfl
theorem q1242 : (Jvm.Cond.methodLink "EvenWords$Read" (41 : Nat) ({ cls := "EvenWords$Read$1", name := "<init>", desc := "(LEvenWords$Read;)V" } : Jvm.MethodName)) ∈ lw_all := lw_g (lw_at lw_m5 230 rfl) rfl
theorem q1281 : (Jvm.Cond.instanceMethod ({ cls := "EvenWords$Read", name := "pieces", desc := "()I" } : Jvm.MethodName)) ∈ lw_all := lw_g (lw_at lw_m6 29 rfl) rfl
theorem q1282 : (Jvm.Cond.selects "EvenWords$Read" ({ cls := "EvenWords$Read", name := "pieces", desc := "()I" } : Jvm.MethodName) ({ cls := "EvenWords$Read", name := "pieces", desc := "()I" } : Jvm.MethodName)) ∈ lw_all := lw_g (lw_at lw_m6 30 rfl) rfl
theorem q1283 : (Jvm.Cond.code ({ cls := "EvenWords$Read", name := "pieces", desc := "()I" } : Jvm.MethodName) prog_4_method_2_code (1 : Nat) (Option.some Jvm.ClassFile.FieldType.int)) ∈ lw_all := lw_g (lw_at lw_m6 31 rfl) rfl
theorem q1284 : (Jvm.Cond.methodLink "EvenWords$Read" (27 : Nat) ({ cls := "EvenWords$Wire", name := "many", desc := "()I" } : Jvm.MethodName)) ∈ lw_all := lw_g (lw_at lw_m6 32 rfl) rfl
theorem q1285 : (Jvm.Cond.methodLink "EvenWords$Read" (33 : Nat) ({ cls := "java/lang/Math", name := "max", desc := "(II)I" } : Jvm.MethodName)) ∈ lw_all := lw_g (lw_at lw_m6 33 rfl) rfl
theorem q1287 : (Jvm.Cond.instanceMethod ({ cls := "EvenWords$Read", name := "first", desc := "()I" } : Jvm.MethodName)) ∈ lw_all := lw_g (lw_at lw_m6 35 rfl) rfl
theorem q1288 : (Jvm.Cond.selects "EvenWords$Read" ({ cls := "EvenWords$Read", name := "first", desc := "()I" } : Jvm.MethodName) ({ cls := "EvenWords$Read", name := "first", desc := "()I" } : Jvm.MethodName)) ∈ lw_all := lw_g (lw_at lw_m6 36 rfl) rfl
theorem q1289 : (Jvm.Cond.code ({ cls := "EvenWords$Read", name := "first", desc := "()I" } : Jvm.MethodName) prog_4_method_4_code (4 : Nat) (Option.some Jvm.ClassFile.FieldType.int)) ∈ lw_all := lw_g (lw_at lw_m6 37 rfl) rfl
theorem q1290 : (Jvm.Cond.methodLink "EvenWords$Read" (44 : Nat) ({ cls := "EvenWords$Read", name := "iterator", desc := "()Ljava/util/Iterator;" } : Jvm.MethodName)) ∈ lw_all := lw_g (lw_at lw_m6 38 rfl) rfl
theorem q1291 : (Jvm.Cond.interfaceEntry "EvenWords$Read" (48 : Nat)) ∈ lw_tbl := lw_at lw_m6 39 rfl
theorem q1292 : (Jvm.Cond.methodLink "EvenWords$Read" (48 : Nat) ({ cls := "java/util/Iterator", name := "hasNext", desc := "()Z" } : Jvm.MethodName)) ∈ lw_all := lw_g (lw_at lw_m6 40 rfl) rfl
theorem q1293 : (Jvm.Cond.interfaceEntry "EvenWords$Read" (54 : Nat)) ∈ lw_tbl := lw_at lw_m6 41 rfl
theorem q1294 : (Jvm.Cond.methodLink "EvenWords$Read" (54 : Nat) ({ cls := "java/util/Iterator", name := "next", desc := "()Ljava/lang/Object;" } : Jvm.MethodName)) ∈ lw_all := lw_g (lw_at lw_m6 42 rfl) rfl
theorem q1295 : (Jvm.Cond.classLink "EvenWords$Read" (58 : Nat) "EvenWords$Piece") ∈ lw_all := lw_g (lw_at lw_m6 43 rfl) rfl
theorem q1296 : (Jvm.Cond.methodLinkNest "EvenWords$Read" (60 : Nat) ({ cls := "EvenWords", name := "breaches", desc := "(LEvenWords$Piece;)I" } : Jvm.MethodName) "EvenWords") ∈ lw_tbl := lw_at lw_m6 44 rfl
theorem q1298 : (Jvm.Cond.instanceMethod ({ cls := "EvenWords$Read", name := "breached", desc := "()I" } : Jvm.MethodName)) ∈ lw_all := lw_g (lw_at lw_m6 46 rfl) rfl
theorem q1299 : (Jvm.Cond.selects "EvenWords$Read" ({ cls := "EvenWords$Read", name := "breached", desc := "()I" } : Jvm.MethodName) ({ cls := "EvenWords$Read", name := "breached", desc := "()I" } : Jvm.MethodName)) ∈ lw_all := lw_g (lw_at lw_m6 47 rfl) rfl
theorem q1300 : (Jvm.Cond.code ({ cls := "EvenWords$Read", name := "breached", desc := "()I" } : Jvm.MethodName) prog_4_method_5_code (4 : Nat) (Option.some Jvm.ClassFile.FieldType.int)) ∈ lw_all := lw_g (lw_at lw_m6 48 rfl) rfl
theorem q1882 : (Jvm.Cond.castable "EvenWords$Read" "java/lang/Object") ∈ lw_tbl := lw_at lw_m8 150 rfl
theorem in_X7 : ∀ w ∈ wsX70, w ∈ lw_all := lw_in wsX70 [1227, 1229, 1231, 1233] (by decide +kernel) (by decide +kernel)

/-! EvenWords$Read$1 -/
set_option maxRecDepth 100000
def RX8 : String := "EvenWords$Read$1"
def TX8 : u_T := fun k => match k with
  | 0 => ("EvenWords$Read$1", "at", "I", false)
  | 1 => ("EvenWords$Read$1", "above", "Z", false)
  | 2 => ("EvenWords$Read$1", "level", "I", false)
  | 3 => ("EvenWords$Read$1", "run", "I", false)
  | _ => ("EvenWords$Read$1", "this$1", "LEvenWords$Read;", true)
def tyX8 : Nat → FieldType := fun k => match k with
  | 0 => .int
  | 1 => .boolean
  | 2 => .int
  | 3 => .int
  | _ => .object "EvenWords$Read"
abbrev wsX80 : List Cond := u_ws RX8 TX8 5
theorem nmX8 : ∀ a, a < 5 → ∀ b, b < 5 → a ≠ b → (TX8 a).2.1 ≠ (TX8 b).2.1 := by decide +kernel
theorem tyX8_ok : ∀ k, k < 5 → parseFieldDescriptor (TX8 k).2.2.1 = some (tyX8 k) := by decide +kernel
abbrev cX8_hasNext : ByteArray := prog_5_method_2_code
def yX8_hasNext : MethodName := ⟨RX8, "hasNext", "()Z"⟩
def dkwX8_hasNext_1 : List UInt8 := [3, 172]
abbrev dktX8_hasNext_1 : List UInt8 := dkwX8_hasNext_1 ++ []
def dkwX8_hasNext_0 : List UInt8 := [42, 180, 0, 21, 16, 6, 96, 42, 180, 0, 3, 180, 0, 34, 182, 0, 38, 163, 0, 7, 4, 167, 0, 4]
abbrev dktX8_hasNext_0 : List UInt8 := dkwX8_hasNext_0 ++ dktX8_hasNext_1
theorem dksX8_hasNext_0 : cX8_hasNext.data.toList.drop 0 = dktX8_hasNext_0 := by decide +kernel
theorem dksX8_hasNext_1 : cX8_hasNext.data.toList.drop 24 = dktX8_hasNext_1 := dk_seg dksX8_hasNext_0 24 rfl rfl
theorem dX8_hasNext_0 : decode cX8_hasNext 0 = .ok (.aload_n 0, 1) := dk_42 (dk_at dksX8_hasNext_0 0 rfl rfl)
theorem dX8_hasNext_1 : decode cX8_hasNext 1 = .ok (.getfield 21, 3) := dk_180 0 21 (dk_at dksX8_hasNext_0 1 rfl rfl)
theorem dX8_hasNext_4 : decode cX8_hasNext 4 = .ok (.bipush 6, 2) := dk_16 6 (dk_at dksX8_hasNext_0 4 rfl rfl)
theorem dX8_hasNext_6 : decode cX8_hasNext 6 = .ok (.iadd, 1) := dk_96 (dk_at dksX8_hasNext_0 6 rfl rfl)
theorem dX8_hasNext_7 : decode cX8_hasNext 7 = .ok (.aload_n 0, 1) := dk_42 (dk_at dksX8_hasNext_0 7 rfl rfl)
theorem dX8_hasNext_8 : decode cX8_hasNext 8 = .ok (.getfield 3, 3) := dk_180 0 3 (dk_at dksX8_hasNext_0 8 rfl rfl)
theorem dX8_hasNext_11 : decode cX8_hasNext 11 = .ok (.getfield 34, 3) := dk_180 0 34 (dk_at dksX8_hasNext_0 11 rfl rfl)
theorem dX8_hasNext_14 : decode cX8_hasNext 14 = .ok (.invokevirtual 38, 3) := dk_182 0 38 (dk_at dksX8_hasNext_0 14 rfl rfl)
theorem dX8_hasNext_17 : decode cX8_hasNext 17 = .ok (.if_icmp .gt 7, 3) := dk_163 0 7 (dk_at dksX8_hasNext_0 17 rfl rfl)
theorem dX8_hasNext_20 : decode cX8_hasNext 20 = .ok (.iconst 1, 1) := dk_4 (dk_at dksX8_hasNext_0 20 rfl rfl)
theorem dX8_hasNext_21 : decode cX8_hasNext 21 = .ok (.goto 4, 3) := dk_167 0 4 (dk_at dksX8_hasNext_0 21 rfl rfl)
theorem dX8_hasNext_24 : decode cX8_hasNext 24 = .ok (.iconst 0, 1) := dk_3 (dk_at dksX8_hasNext_1 0 rfl rfl)
theorem dX8_hasNext_25 : decode cX8_hasNext 25 = .ok (.ireturn, 1) := dk_172 (dk_at dksX8_hasNext_1 1 rfl rfl)
abbrev cX8_next : ByteArray := prog_5_method_4_code
def yX8_next : MethodName := ⟨RX8, "next", "()Ljava/lang/Object;"⟩
theorem dX8_next_0 : decode cX8_next 0 = .ok (.aload_n 0, 1) := by decide +kernel
theorem dX8_next_1 : decode cX8_next 1 = .ok (.invokevirtual 66, 3) := by decide +kernel
theorem dX8_next_4 : decode cX8_next 4 = .ok (.areturn, 1) := by decide +kernel
abbrev cX8_next_2 : ByteArray := prog_5_method_3_code
def yX8_next_2 : MethodName := ⟨RX8, "next", "()LEvenWords$Piece;"⟩
def dkwX8_next_2_9 : List UInt8 := [183, 0, 62, 58, 5, 42, 25, 5, 180, 0, 65, 181, 0, 28, 25, 5, 176]
abbrev dktX8_next_2_9 : List UInt8 := dkwX8_next_2_9 ++ []
def dkwX8_next_2_8 : List UInt8 := [96, 181, 0, 21, 132, 5, 1, 167, 255, 82, 187, 0, 60, 89, 27, 42, 180, 0, 28, 28, 29, 21, 4]
abbrev dktX8_next_2_8 : List UInt8 := dkwX8_next_2_8 ++ dktX8_next_2_9
def dkwX8_next_2_7 : List UInt8 := [42, 180, 0, 31, 167, 0, 12, 21, 4, 42, 180, 0, 31, 184, 0, 57, 54, 4, 42, 89, 180, 0, 21, 4]
abbrev dktX8_next_2_7 : List UInt8 := dkwX8_next_2_7 ++ dktX8_next_2_8
def dkwX8_next_2_6 : List UInt8 := [154, 0, 10, 42, 180, 0, 31, 167, 0, 11, 29, 42, 180, 0, 31, 184, 0, 51, 62, 21, 5, 154, 0, 10]
abbrev dktX8_next_2_6 : List UInt8 := dkwX8_next_2_6 ++ dktX8_next_2_7
def dkwX8_next_2_5 : List UInt8 := [180, 0, 48, 4, 96, 167, 0, 4, 4, 181, 0, 48, 28, 42, 180, 0, 48, 184, 0, 51, 61, 21, 5]
abbrev dktX8_next_2_5 : List UInt8 := dkwX8_next_2_5 ++ dktX8_next_2_6
def dkwX8_next_2_4 : List UInt8 := [180, 0, 3, 180, 0, 34, 180, 0, 44, 42, 180, 0, 21, 4, 100, 51, 21, 6, 160, 0, 12, 42]
abbrev dktX8_next_2_4 : List UInt8 := dkwX8_next_2_4 ++ dktX8_next_2_5
def dkwX8_next_2_3 : List UInt8 := [167, 0, 4, 2, 96, 181, 0, 31, 42, 42, 180, 0, 21, 42, 180, 0, 3, 180, 0, 15, 164, 0, 34, 42]
abbrev dktX8_next_2_3 : List UInt8 := dkwX8_next_2_3 ++ dktX8_next_2_4
def dkwX8_next_2_2 : List UInt8 := [21, 6, 153, 0, 7, 4, 167, 0, 4, 3, 96, 60, 42, 89, 180, 0, 31, 21, 6, 153, 0, 7, 4]
abbrev dktX8_next_2_2 : List UInt8 := dkwX8_next_2_2 ++ dktX8_next_2_3
def dkwX8_next_2_1 : List UInt8 := [162, 0, 173, 42, 180, 0, 3, 180, 0, 34, 180, 0, 44, 42, 180, 0, 21, 51, 54, 6, 5, 27, 104]
abbrev dktX8_next_2_1 : List UInt8 := dkwX8_next_2_1 ++ dktX8_next_2_2
def dkwX8_next_2_0 : List UInt8 := [3, 60, 3, 61, 42, 180, 0, 31, 62, 42, 180, 0, 31, 54, 4, 3, 54, 5, 21, 5, 16, 6]
abbrev dktX8_next_2_0 : List UInt8 := dkwX8_next_2_0 ++ dktX8_next_2_1
theorem dksX8_next_2_0 : cX8_next_2.data.toList.drop 0 = dktX8_next_2_0 := by decide +kernel
theorem dksX8_next_2_1 : cX8_next_2.data.toList.drop 22 = dktX8_next_2_1 := dk_seg dksX8_next_2_0 22 rfl rfl
theorem dksX8_next_2_2 : cX8_next_2.data.toList.drop 45 = dktX8_next_2_2 := dk_seg dksX8_next_2_1 23 rfl rfl
theorem dksX8_next_2_3 : cX8_next_2.data.toList.drop 68 = dktX8_next_2_3 := dk_seg dksX8_next_2_2 23 rfl rfl
theorem dksX8_next_2_4 : cX8_next_2.data.toList.drop 92 = dktX8_next_2_4 := dk_seg dksX8_next_2_3 24 rfl rfl
theorem dksX8_next_2_5 : cX8_next_2.data.toList.drop 114 = dktX8_next_2_5 := dk_seg dksX8_next_2_4 22 rfl rfl
theorem dksX8_next_2_6 : cX8_next_2.data.toList.drop 137 = dktX8_next_2_6 := dk_seg dksX8_next_2_5 23 rfl rfl
theorem dksX8_next_2_7 : cX8_next_2.data.toList.drop 161 = dktX8_next_2_7 := dk_seg dksX8_next_2_6 24 rfl rfl
theorem dksX8_next_2_8 : cX8_next_2.data.toList.drop 185 = dktX8_next_2_8 := dk_seg dksX8_next_2_7 24 rfl rfl
theorem dksX8_next_2_9 : cX8_next_2.data.toList.drop 208 = dktX8_next_2_9 := dk_seg dksX8_next_2_8 23 rfl rfl
theorem dX8_next_2_0 : decode cX8_next_2 0 = .ok (.iconst 0, 1) := dk_3 (dk_at dksX8_next_2_0 0 rfl rfl)
theorem dX8_next_2_1 : decode cX8_next_2 1 = .ok (.istore_n 1, 1) := dk_60 (dk_at dksX8_next_2_0 1 rfl rfl)
theorem dX8_next_2_2 : decode cX8_next_2 2 = .ok (.iconst 0, 1) := dk_3 (dk_at dksX8_next_2_0 2 rfl rfl)
theorem dX8_next_2_3 : decode cX8_next_2 3 = .ok (.istore_n 2, 1) := dk_61 (dk_at dksX8_next_2_0 3 rfl rfl)
theorem dX8_next_2_4 : decode cX8_next_2 4 = .ok (.aload_n 0, 1) := dk_42 (dk_at dksX8_next_2_0 4 rfl rfl)
theorem dX8_next_2_5 : decode cX8_next_2 5 = .ok (.getfield 31, 3) := dk_180 0 31 (dk_at dksX8_next_2_0 5 rfl rfl)
theorem dX8_next_2_8 : decode cX8_next_2 8 = .ok (.istore_n 3, 1) := dk_62 (dk_at dksX8_next_2_0 8 rfl rfl)
theorem dX8_next_2_9 : decode cX8_next_2 9 = .ok (.aload_n 0, 1) := dk_42 (dk_at dksX8_next_2_0 9 rfl rfl)
theorem dX8_next_2_10 : decode cX8_next_2 10 = .ok (.getfield 31, 3) := dk_180 0 31 (dk_at dksX8_next_2_0 10 rfl rfl)
theorem dX8_next_2_13 : decode cX8_next_2 13 = .ok (.istore 4, 2) := dk_54 4 (dk_at dksX8_next_2_0 13 rfl rfl)
theorem dX8_next_2_15 : decode cX8_next_2 15 = .ok (.iconst 0, 1) := dk_3 (dk_at dksX8_next_2_0 15 rfl rfl)
theorem dX8_next_2_16 : decode cX8_next_2 16 = .ok (.istore 5, 2) := dk_54 5 (dk_at dksX8_next_2_0 16 rfl rfl)
theorem dX8_next_2_18 : decode cX8_next_2 18 = .ok (.iload 5, 2) := dk_21 5 (dk_at dksX8_next_2_0 18 rfl rfl)
theorem dX8_next_2_20 : decode cX8_next_2 20 = .ok (.bipush 6, 2) := dk_16 6 (dk_at dksX8_next_2_0 20 rfl rfl)
theorem dX8_next_2_22 : decode cX8_next_2 22 = .ok (.if_icmp .ge 173, 3) := dk_162 0 173 (dk_at dksX8_next_2_1 0 rfl rfl)
theorem dX8_next_2_25 : decode cX8_next_2 25 = .ok (.aload_n 0, 1) := dk_42 (dk_at dksX8_next_2_1 3 rfl rfl)
theorem dX8_next_2_26 : decode cX8_next_2 26 = .ok (.getfield 3, 3) := dk_180 0 3 (dk_at dksX8_next_2_1 4 rfl rfl)
theorem dX8_next_2_29 : decode cX8_next_2 29 = .ok (.getfield 34, 3) := dk_180 0 34 (dk_at dksX8_next_2_1 7 rfl rfl)
theorem dX8_next_2_32 : decode cX8_next_2 32 = .ok (.getfield 44, 3) := dk_180 0 44 (dk_at dksX8_next_2_1 10 rfl rfl)
theorem dX8_next_2_35 : decode cX8_next_2 35 = .ok (.aload_n 0, 1) := dk_42 (dk_at dksX8_next_2_1 13 rfl rfl)
theorem dX8_next_2_36 : decode cX8_next_2 36 = .ok (.getfield 21, 3) := dk_180 0 21 (dk_at dksX8_next_2_1 14 rfl rfl)
theorem dX8_next_2_39 : decode cX8_next_2 39 = .ok (.baload, 1) := dk_51 (dk_at dksX8_next_2_1 17 rfl rfl)
theorem dX8_next_2_40 : decode cX8_next_2 40 = .ok (.istore 6, 2) := dk_54 6 (dk_at dksX8_next_2_1 18 rfl rfl)
theorem dX8_next_2_42 : decode cX8_next_2 42 = .ok (.iconst 2, 1) := dk_5 (dk_at dksX8_next_2_1 20 rfl rfl)
theorem dX8_next_2_43 : decode cX8_next_2 43 = .ok (.iload_n 1, 1) := dk_27 (dk_at dksX8_next_2_1 21 rfl rfl)
theorem dX8_next_2_44 : decode cX8_next_2 44 = .ok (.imul, 1) := dk_104 (dk_at dksX8_next_2_1 22 rfl rfl)
theorem dX8_next_2_45 : decode cX8_next_2 45 = .ok (.iload 6, 2) := dk_21 6 (dk_at dksX8_next_2_2 0 rfl rfl)
theorem dX8_next_2_47 : decode cX8_next_2 47 = .ok (.ifCond .eq 7, 3) := dk_153 0 7 (dk_at dksX8_next_2_2 2 rfl rfl)
theorem dX8_next_2_50 : decode cX8_next_2 50 = .ok (.iconst 1, 1) := dk_4 (dk_at dksX8_next_2_2 5 rfl rfl)
theorem dX8_next_2_51 : decode cX8_next_2 51 = .ok (.goto 4, 3) := dk_167 0 4 (dk_at dksX8_next_2_2 6 rfl rfl)
theorem dX8_next_2_54 : decode cX8_next_2 54 = .ok (.iconst 0, 1) := dk_3 (dk_at dksX8_next_2_2 9 rfl rfl)
theorem dX8_next_2_55 : decode cX8_next_2 55 = .ok (.iadd, 1) := dk_96 (dk_at dksX8_next_2_2 10 rfl rfl)
theorem dX8_next_2_56 : decode cX8_next_2 56 = .ok (.istore_n 1, 1) := dk_60 (dk_at dksX8_next_2_2 11 rfl rfl)
theorem dX8_next_2_57 : decode cX8_next_2 57 = .ok (.aload_n 0, 1) := dk_42 (dk_at dksX8_next_2_2 12 rfl rfl)
theorem dX8_next_2_58 : decode cX8_next_2 58 = .ok (.dup, 1) := dk_89 (dk_at dksX8_next_2_2 13 rfl rfl)
theorem dX8_next_2_59 : decode cX8_next_2 59 = .ok (.getfield 31, 3) := dk_180 0 31 (dk_at dksX8_next_2_2 14 rfl rfl)
theorem dX8_next_2_62 : decode cX8_next_2 62 = .ok (.iload 6, 2) := dk_21 6 (dk_at dksX8_next_2_2 17 rfl rfl)
theorem dX8_next_2_64 : decode cX8_next_2 64 = .ok (.ifCond .eq 7, 3) := dk_153 0 7 (dk_at dksX8_next_2_2 19 rfl rfl)
theorem dX8_next_2_67 : decode cX8_next_2 67 = .ok (.iconst 1, 1) := dk_4 (dk_at dksX8_next_2_2 22 rfl rfl)
theorem dX8_next_2_68 : decode cX8_next_2 68 = .ok (.goto 4, 3) := dk_167 0 4 (dk_at dksX8_next_2_3 0 rfl rfl)
theorem dX8_next_2_71 : decode cX8_next_2 71 = .ok (.iconst (-1), 1) := dk_2 (dk_at dksX8_next_2_3 3 rfl rfl)
theorem dX8_next_2_72 : decode cX8_next_2 72 = .ok (.iadd, 1) := dk_96 (dk_at dksX8_next_2_3 4 rfl rfl)
theorem dX8_next_2_73 : decode cX8_next_2 73 = .ok (.putfield 31, 3) := dk_181 0 31 (dk_at dksX8_next_2_3 5 rfl rfl)
theorem dX8_next_2_76 : decode cX8_next_2 76 = .ok (.aload_n 0, 1) := dk_42 (dk_at dksX8_next_2_3 8 rfl rfl)
theorem dX8_next_2_77 : decode cX8_next_2 77 = .ok (.aload_n 0, 1) := dk_42 (dk_at dksX8_next_2_3 9 rfl rfl)
theorem dX8_next_2_78 : decode cX8_next_2 78 = .ok (.getfield 21, 3) := dk_180 0 21 (dk_at dksX8_next_2_3 10 rfl rfl)
theorem dX8_next_2_81 : decode cX8_next_2 81 = .ok (.aload_n 0, 1) := dk_42 (dk_at dksX8_next_2_3 13 rfl rfl)
theorem dX8_next_2_82 : decode cX8_next_2 82 = .ok (.getfield 3, 3) := dk_180 0 3 (dk_at dksX8_next_2_3 14 rfl rfl)
theorem dX8_next_2_85 : decode cX8_next_2 85 = .ok (.getfield 15, 3) := dk_180 0 15 (dk_at dksX8_next_2_3 17 rfl rfl)
theorem dX8_next_2_88 : decode cX8_next_2 88 = .ok (.if_icmp .le 34, 3) := dk_164 0 34 (dk_at dksX8_next_2_3 20 rfl rfl)
theorem dX8_next_2_91 : decode cX8_next_2 91 = .ok (.aload_n 0, 1) := dk_42 (dk_at dksX8_next_2_3 23 rfl rfl)
theorem dX8_next_2_92 : decode cX8_next_2 92 = .ok (.getfield 3, 3) := dk_180 0 3 (dk_at dksX8_next_2_4 0 rfl rfl)
theorem dX8_next_2_95 : decode cX8_next_2 95 = .ok (.getfield 34, 3) := dk_180 0 34 (dk_at dksX8_next_2_4 3 rfl rfl)
theorem dX8_next_2_98 : decode cX8_next_2 98 = .ok (.getfield 44, 3) := dk_180 0 44 (dk_at dksX8_next_2_4 6 rfl rfl)
theorem dX8_next_2_101 : decode cX8_next_2 101 = .ok (.aload_n 0, 1) := dk_42 (dk_at dksX8_next_2_4 9 rfl rfl)
theorem dX8_next_2_102 : decode cX8_next_2 102 = .ok (.getfield 21, 3) := dk_180 0 21 (dk_at dksX8_next_2_4 10 rfl rfl)
theorem dX8_next_2_105 : decode cX8_next_2 105 = .ok (.iconst 1, 1) := dk_4 (dk_at dksX8_next_2_4 13 rfl rfl)
theorem dX8_next_2_106 : decode cX8_next_2 106 = .ok (.isub, 1) := dk_100 (dk_at dksX8_next_2_4 14 rfl rfl)
theorem dX8_next_2_107 : decode cX8_next_2 107 = .ok (.baload, 1) := dk_51 (dk_at dksX8_next_2_4 15 rfl rfl)
theorem dX8_next_2_108 : decode cX8_next_2 108 = .ok (.iload 6, 2) := dk_21 6 (dk_at dksX8_next_2_4 16 rfl rfl)
theorem dX8_next_2_110 : decode cX8_next_2 110 = .ok (.if_icmp .ne 12, 3) := dk_160 0 12 (dk_at dksX8_next_2_4 18 rfl rfl)
theorem dX8_next_2_113 : decode cX8_next_2 113 = .ok (.aload_n 0, 1) := dk_42 (dk_at dksX8_next_2_4 21 rfl rfl)
theorem dX8_next_2_114 : decode cX8_next_2 114 = .ok (.getfield 48, 3) := dk_180 0 48 (dk_at dksX8_next_2_5 0 rfl rfl)
theorem dX8_next_2_117 : decode cX8_next_2 117 = .ok (.iconst 1, 1) := dk_4 (dk_at dksX8_next_2_5 3 rfl rfl)
theorem dX8_next_2_118 : decode cX8_next_2 118 = .ok (.iadd, 1) := dk_96 (dk_at dksX8_next_2_5 4 rfl rfl)
theorem dX8_next_2_119 : decode cX8_next_2 119 = .ok (.goto 4, 3) := dk_167 0 4 (dk_at dksX8_next_2_5 5 rfl rfl)
theorem dX8_next_2_122 : decode cX8_next_2 122 = .ok (.iconst 1, 1) := dk_4 (dk_at dksX8_next_2_5 8 rfl rfl)
theorem dX8_next_2_123 : decode cX8_next_2 123 = .ok (.putfield 48, 3) := dk_181 0 48 (dk_at dksX8_next_2_5 9 rfl rfl)
theorem dX8_next_2_126 : decode cX8_next_2 126 = .ok (.iload_n 2, 1) := dk_28 (dk_at dksX8_next_2_5 12 rfl rfl)
theorem dX8_next_2_127 : decode cX8_next_2 127 = .ok (.aload_n 0, 1) := dk_42 (dk_at dksX8_next_2_5 13 rfl rfl)
theorem dX8_next_2_128 : decode cX8_next_2 128 = .ok (.getfield 48, 3) := dk_180 0 48 (dk_at dksX8_next_2_5 14 rfl rfl)
theorem dX8_next_2_131 : decode cX8_next_2 131 = .ok (.invokestatic 51, 3) := dk_184 0 51 (dk_at dksX8_next_2_5 17 rfl rfl)
theorem dX8_next_2_134 : decode cX8_next_2 134 = .ok (.istore_n 2, 1) := dk_61 (dk_at dksX8_next_2_5 20 rfl rfl)
theorem dX8_next_2_135 : decode cX8_next_2 135 = .ok (.iload 5, 2) := dk_21 5 (dk_at dksX8_next_2_5 21 rfl rfl)
theorem dX8_next_2_137 : decode cX8_next_2 137 = .ok (.ifCond .ne 10, 3) := dk_154 0 10 (dk_at dksX8_next_2_6 0 rfl rfl)
theorem dX8_next_2_140 : decode cX8_next_2 140 = .ok (.aload_n 0, 1) := dk_42 (dk_at dksX8_next_2_6 3 rfl rfl)
theorem dX8_next_2_141 : decode cX8_next_2 141 = .ok (.getfield 31, 3) := dk_180 0 31 (dk_at dksX8_next_2_6 4 rfl rfl)
theorem dX8_next_2_144 : decode cX8_next_2 144 = .ok (.goto 11, 3) := dk_167 0 11 (dk_at dksX8_next_2_6 7 rfl rfl)
theorem dX8_next_2_147 : decode cX8_next_2 147 = .ok (.iload_n 3, 1) := dk_29 (dk_at dksX8_next_2_6 10 rfl rfl)
theorem dX8_next_2_148 : decode cX8_next_2 148 = .ok (.aload_n 0, 1) := dk_42 (dk_at dksX8_next_2_6 11 rfl rfl)
theorem dX8_next_2_149 : decode cX8_next_2 149 = .ok (.getfield 31, 3) := dk_180 0 31 (dk_at dksX8_next_2_6 12 rfl rfl)
theorem dX8_next_2_152 : decode cX8_next_2 152 = .ok (.invokestatic 51, 3) := dk_184 0 51 (dk_at dksX8_next_2_6 15 rfl rfl)
theorem dX8_next_2_155 : decode cX8_next_2 155 = .ok (.istore_n 3, 1) := dk_62 (dk_at dksX8_next_2_6 18 rfl rfl)
theorem dX8_next_2_156 : decode cX8_next_2 156 = .ok (.iload 5, 2) := dk_21 5 (dk_at dksX8_next_2_6 19 rfl rfl)
theorem dX8_next_2_158 : decode cX8_next_2 158 = .ok (.ifCond .ne 10, 3) := dk_154 0 10 (dk_at dksX8_next_2_6 21 rfl rfl)
theorem dX8_next_2_161 : decode cX8_next_2 161 = .ok (.aload_n 0, 1) := dk_42 (dk_at dksX8_next_2_7 0 rfl rfl)
theorem dX8_next_2_162 : decode cX8_next_2 162 = .ok (.getfield 31, 3) := dk_180 0 31 (dk_at dksX8_next_2_7 1 rfl rfl)
theorem dX8_next_2_165 : decode cX8_next_2 165 = .ok (.goto 12, 3) := dk_167 0 12 (dk_at dksX8_next_2_7 4 rfl rfl)
theorem dX8_next_2_168 : decode cX8_next_2 168 = .ok (.iload 4, 2) := dk_21 4 (dk_at dksX8_next_2_7 7 rfl rfl)
theorem dX8_next_2_170 : decode cX8_next_2 170 = .ok (.aload_n 0, 1) := dk_42 (dk_at dksX8_next_2_7 9 rfl rfl)
theorem dX8_next_2_171 : decode cX8_next_2 171 = .ok (.getfield 31, 3) := dk_180 0 31 (dk_at dksX8_next_2_7 10 rfl rfl)
theorem dX8_next_2_174 : decode cX8_next_2 174 = .ok (.invokestatic 57, 3) := dk_184 0 57 (dk_at dksX8_next_2_7 13 rfl rfl)
theorem dX8_next_2_177 : decode cX8_next_2 177 = .ok (.istore 4, 2) := dk_54 4 (dk_at dksX8_next_2_7 16 rfl rfl)
theorem dX8_next_2_179 : decode cX8_next_2 179 = .ok (.aload_n 0, 1) := dk_42 (dk_at dksX8_next_2_7 18 rfl rfl)
theorem dX8_next_2_180 : decode cX8_next_2 180 = .ok (.dup, 1) := dk_89 (dk_at dksX8_next_2_7 19 rfl rfl)
theorem dX8_next_2_181 : decode cX8_next_2 181 = .ok (.getfield 21, 3) := dk_180 0 21 (dk_at dksX8_next_2_7 20 rfl rfl)
theorem dX8_next_2_184 : decode cX8_next_2 184 = .ok (.iconst 1, 1) := dk_4 (dk_at dksX8_next_2_7 23 rfl rfl)
theorem dX8_next_2_185 : decode cX8_next_2 185 = .ok (.iadd, 1) := dk_96 (dk_at dksX8_next_2_8 0 rfl rfl)
theorem dX8_next_2_186 : decode cX8_next_2 186 = .ok (.putfield 21, 3) := dk_181 0 21 (dk_at dksX8_next_2_8 1 rfl rfl)
theorem dX8_next_2_189 : decode cX8_next_2 189 = .ok (.iinc 5 1, 3) := dk_132 5 1 (dk_at dksX8_next_2_8 4 rfl rfl)
theorem dX8_next_2_192 : decode cX8_next_2 192 = .ok (.goto (-174), 3) := dk_167 255 82 (dk_at dksX8_next_2_8 7 rfl rfl)
theorem dX8_next_2_195 : decode cX8_next_2 195 = .ok (.new 60, 3) := dk_187 0 60 (dk_at dksX8_next_2_8 10 rfl rfl)
theorem dX8_next_2_198 : decode cX8_next_2 198 = .ok (.dup, 1) := dk_89 (dk_at dksX8_next_2_8 13 rfl rfl)
theorem dX8_next_2_199 : decode cX8_next_2 199 = .ok (.iload_n 1, 1) := dk_27 (dk_at dksX8_next_2_8 14 rfl rfl)
theorem dX8_next_2_200 : decode cX8_next_2 200 = .ok (.aload_n 0, 1) := dk_42 (dk_at dksX8_next_2_8 15 rfl rfl)
theorem dX8_next_2_201 : decode cX8_next_2 201 = .ok (.getfield 28, 3) := dk_180 0 28 (dk_at dksX8_next_2_8 16 rfl rfl)
theorem dX8_next_2_204 : decode cX8_next_2 204 = .ok (.iload_n 2, 1) := dk_28 (dk_at dksX8_next_2_8 19 rfl rfl)
theorem dX8_next_2_205 : decode cX8_next_2 205 = .ok (.iload_n 3, 1) := dk_29 (dk_at dksX8_next_2_8 20 rfl rfl)
theorem dX8_next_2_206 : decode cX8_next_2 206 = .ok (.iload 4, 2) := dk_21 4 (dk_at dksX8_next_2_8 21 rfl rfl)
theorem dX8_next_2_208 : decode cX8_next_2 208 = .ok (.invokespecial 62, 3) := dk_183 0 62 (dk_at dksX8_next_2_9 0 rfl rfl)
theorem dX8_next_2_211 : decode cX8_next_2 211 = .ok (.astore 5, 2) := dk_58 5 (dk_at dksX8_next_2_9 3 rfl rfl)
theorem dX8_next_2_213 : decode cX8_next_2 213 = .ok (.aload_n 0, 1) := dk_42 (dk_at dksX8_next_2_9 5 rfl rfl)
theorem dX8_next_2_214 : decode cX8_next_2 214 = .ok (.aload 5, 2) := dk_25 5 (dk_at dksX8_next_2_9 6 rfl rfl)
theorem dX8_next_2_216 : decode cX8_next_2 216 = .ok (.getfield 65, 3) := dk_180 0 65 (dk_at dksX8_next_2_9 8 rfl rfl)
theorem dX8_next_2_219 : decode cX8_next_2 219 = .ok (.putfield 28, 3) := dk_181 0 28 (dk_at dksX8_next_2_9 11 rfl rfl)
theorem dX8_next_2_222 : decode cX8_next_2 222 = .ok (.aload 5, 2) := dk_25 5 (dk_at dksX8_next_2_9 14 rfl rfl)
theorem dX8_next_2_224 : decode cX8_next_2 224 = .ok (.areturn, 1) := dk_176 (dk_at dksX8_next_2_9 16 rfl rfl)
abbrev cX8_init : ByteArray := prog_5_method_1_code
def yX8_init : MethodName := ⟨RX8, "<init>", "(LEvenWords$Read;)V"⟩
def dkwX8_init_2 : List UInt8 := [2, 181, 0, 31, 177]
abbrev dktX8_init_2 : List UInt8 := dkwX8_init_2 ++ []
def dkwX8_init_1 : List UInt8 := [180, 0, 3, 180, 0, 24, 181, 0, 28, 42, 42, 180, 0, 3, 180, 0, 24, 153, 0, 7, 4, 167, 0, 4]
abbrev dktX8_init_1 : List UInt8 := dkwX8_init_1 ++ dktX8_init_2
def dkwX8_init_0 : List UInt8 := [42, 43, 181, 0, 3, 42, 183, 0, 9, 42, 42, 180, 0, 3, 180, 0, 15, 181, 0, 21, 42, 42]
abbrev dktX8_init_0 : List UInt8 := dkwX8_init_0 ++ dktX8_init_1
theorem dksX8_init_0 : cX8_init.data.toList.drop 0 = dktX8_init_0 := by decide +kernel
theorem dksX8_init_1 : cX8_init.data.toList.drop 22 = dktX8_init_1 := dk_seg dksX8_init_0 22 rfl rfl
theorem dksX8_init_2 : cX8_init.data.toList.drop 46 = dktX8_init_2 := dk_seg dksX8_init_1 24 rfl rfl
theorem dX8_init_0 : decode cX8_init 0 = .ok (.aload_n 0, 1) := dk_42 (dk_at dksX8_init_0 0 rfl rfl)
theorem dX8_init_1 : decode cX8_init 1 = .ok (.aload_n 1, 1) := dk_43 (dk_at dksX8_init_0 1 rfl rfl)
theorem dX8_init_2 : decode cX8_init 2 = .ok (.putfield 3, 3) := dk_181 0 3 (dk_at dksX8_init_0 2 rfl rfl)
theorem dX8_init_5 : decode cX8_init 5 = .ok (.aload_n 0, 1) := dk_42 (dk_at dksX8_init_0 5 rfl rfl)
theorem dX8_init_6 : decode cX8_init 6 = .ok (.invokespecial 9, 3) := dk_183 0 9 (dk_at dksX8_init_0 6 rfl rfl)
theorem dX8_init_9 : decode cX8_init 9 = .ok (.aload_n 0, 1) := dk_42 (dk_at dksX8_init_0 9 rfl rfl)
theorem dX8_init_10 : decode cX8_init 10 = .ok (.aload_n 0, 1) := dk_42 (dk_at dksX8_init_0 10 rfl rfl)
theorem dX8_init_11 : decode cX8_init 11 = .ok (.getfield 3, 3) := dk_180 0 3 (dk_at dksX8_init_0 11 rfl rfl)
theorem dX8_init_14 : decode cX8_init 14 = .ok (.getfield 15, 3) := dk_180 0 15 (dk_at dksX8_init_0 14 rfl rfl)
theorem dX8_init_17 : decode cX8_init 17 = .ok (.putfield 21, 3) := dk_181 0 21 (dk_at dksX8_init_0 17 rfl rfl)
theorem dX8_init_20 : decode cX8_init 20 = .ok (.aload_n 0, 1) := dk_42 (dk_at dksX8_init_0 20 rfl rfl)
theorem dX8_init_21 : decode cX8_init 21 = .ok (.aload_n 0, 1) := dk_42 (dk_at dksX8_init_0 21 rfl rfl)
theorem dX8_init_22 : decode cX8_init 22 = .ok (.getfield 3, 3) := dk_180 0 3 (dk_at dksX8_init_1 0 rfl rfl)
theorem dX8_init_25 : decode cX8_init 25 = .ok (.getfield 24, 3) := dk_180 0 24 (dk_at dksX8_init_1 3 rfl rfl)
theorem dX8_init_28 : decode cX8_init 28 = .ok (.putfield 28, 3) := dk_181 0 28 (dk_at dksX8_init_1 6 rfl rfl)
theorem dX8_init_31 : decode cX8_init 31 = .ok (.aload_n 0, 1) := dk_42 (dk_at dksX8_init_1 9 rfl rfl)
theorem dX8_init_32 : decode cX8_init 32 = .ok (.aload_n 0, 1) := dk_42 (dk_at dksX8_init_1 10 rfl rfl)
theorem dX8_init_33 : decode cX8_init 33 = .ok (.getfield 3, 3) := dk_180 0 3 (dk_at dksX8_init_1 11 rfl rfl)
theorem dX8_init_36 : decode cX8_init 36 = .ok (.getfield 24, 3) := dk_180 0 24 (dk_at dksX8_init_1 14 rfl rfl)
theorem dX8_init_39 : decode cX8_init 39 = .ok (.ifCond .eq 7, 3) := dk_153 0 7 (dk_at dksX8_init_1 17 rfl rfl)
theorem dX8_init_42 : decode cX8_init 42 = .ok (.iconst 1, 1) := dk_4 (dk_at dksX8_init_1 20 rfl rfl)
theorem dX8_init_43 : decode cX8_init 43 = .ok (.goto 4, 3) := dk_167 0 4 (dk_at dksX8_init_1 21 rfl rfl)
theorem dX8_init_46 : decode cX8_init 46 = .ok (.iconst (-1), 1) := dk_2 (dk_at dksX8_init_2 0 rfl rfl)
theorem dX8_init_47 : decode cX8_init 47 = .ok (.putfield 31, 3) := dk_181 0 31 (dk_at dksX8_init_2 1 rfl rfl)
theorem dX8_init_50 : decode cX8_init 50 = .ok (.return_, 1) := dk_177 (dk_at dksX8_init_2 4 rfl rfl)
theorem q86 : (Jvm.Cond.initialized "EvenWords$Read$1") ∈ lw_all := lw_g (lw_at lw_m1 34 rfl) rfl
theorem q123 : (Jvm.Cond.fieldLinkNest "EvenWords$Read$1" (44 : Nat) "EvenWords$Wire" "bits" "[Z" "EvenWords") ∈ lw_tbl := lw_at lw_m1 71 rfl
theorem q547 : (Jvm.Cond.selects "EvenWords$Read$1" ({ cls := "java/lang/Object", name := "hashCode", desc := "()I" } : Jvm.MethodName) ({ cls := "java/lang/Object", name := "hashCode", desc := "()I" } : Jvm.MethodName)) ∈ lw_all := lw_g (lw_at lw_m3 15 rfl) rfl
theorem q728 : (Jvm.Cond.selects "EvenWords$Read$1" ({ cls := "java/lang/Object", name := "getClass", desc := "()Ljava/lang/Class;" } : Jvm.MethodName) ({ cls := "java/lang/Object", name := "getClass", desc := "()Ljava/lang/Class;" } : Jvm.MethodName)) ∈ lw_all := lw_g (lw_at lw_m3 196 rfl) rfl
theorem q952 : (Jvm.Cond.selects "EvenWords$Read$1" ({ cls := "java/lang/Object", name := "equals", desc := "(Ljava/lang/Object;)Z" } : Jvm.MethodName) ({ cls := "java/lang/Object", name := "equals", desc := "(Ljava/lang/Object;)Z" } : Jvm.MethodName)) ∈ lw_all := lw_g (lw_at lw_m4 180 rfl) rfl
theorem q1122 : (Jvm.Cond.castable "EvenWords$Read$1" "java/util/Iterator") ∈ lw_tbl := lw_at lw_m5 110 rfl
theorem q1123 : (Jvm.Cond.selects "EvenWords$Read$1" ({ cls := "java/util/Iterator", name := "hasNext", desc := "()Z" } : Jvm.MethodName) ({ cls := "EvenWords$Read$1", name := "hasNext", desc := "()Z" } : Jvm.MethodName)) ∈ lw_all := lw_g (lw_at lw_m5 111 rfl) rfl
theorem q1124 : (Jvm.Cond.unhidden "EvenWords$Read$1" "hasNext" "()Z") ∈ lw_tbl := lw_at lw_m5 112 rfl
theorem q1125 : (Jvm.Cond.instanceMethod ({ cls := "EvenWords$Read$1", name := "hasNext", desc := "()Z" } : Jvm.MethodName)) ∈ lw_all := lw_g (lw_at lw_m5 113 rfl) rfl
theorem q1126 : (Jvm.Cond.publicMethod ({ cls := "EvenWords$Read$1", name := "hasNext", desc := "()Z" } : Jvm.MethodName)) ∈ lw_tbl := lw_at lw_m5 114 rfl
theorem q1127 : (Jvm.Cond.code ({ cls := "EvenWords$Read$1", name := "hasNext", desc := "()Z" } : Jvm.MethodName) prog_5_method_2_code (1 : Nat) (Option.some Jvm.ClassFile.FieldType.boolean)) ∈ lw_all := lw_g (lw_at lw_m5 115 rfl) rfl
theorem q1128 : (Jvm.Cond.methodLink "EvenWords$Read$1" (38 : Nat) ({ cls := "EvenWords$Wire", name := "many", desc := "()I" } : Jvm.MethodName)) ∈ lw_all := lw_g (lw_at lw_m5 116 rfl) rfl
theorem q1139 : (Jvm.Cond.selects "EvenWords$Read$1" ({ cls := "java/util/Iterator", name := "next", desc := "()Ljava/lang/Object;" } : Jvm.MethodName) ({ cls := "EvenWords$Read$1", name := "next", desc := "()Ljava/lang/Object;" } : Jvm.MethodName)) ∈ lw_all := lw_g (lw_at lw_m5 127 rfl) rfl
theorem q1140 : (Jvm.Cond.unhidden "EvenWords$Read$1" "next" "()Ljava/lang/Object;") ∈ lw_tbl := lw_at lw_m5 128 rfl
theorem q1141 : (Jvm.Cond.instanceMethod ({ cls := "EvenWords$Read$1", name := "next", desc := "()Ljava/lang/Object;" } : Jvm.MethodName)) ∈ lw_all := lw_g (lw_at lw_m5 129 rfl) rfl
theorem q1142 : (Jvm.Cond.publicMethod ({ cls := "EvenWords$Read$1", name := "next", desc := "()Ljava/lang/Object;" } : Jvm.MethodName)) ∈ lw_tbl := lw_at lw_m5 130 rfl
theorem q1143 : (Jvm.Cond.code ({ cls := "EvenWords$Read$1", name := "next", desc := "()Ljava/lang/Object;" } : Jvm.MethodName) prog_5_method_4_code (1 : Nat) (Option.some (Jvm.ClassFile.FieldType.object "java/lang/Object"))) ∈ lw_all := lw_g (lw_at lw_m5 131 rfl) rfl
theorem q1144 : (Jvm.Cond.methodLink "EvenWords$Read$1" (66 : Nat) ({ cls := "EvenWords$Read$1", name := "next", desc := "()LEvenWords$Piece;" } : Jvm.MethodName)) ∈ lw_all := lw_g (lw_at lw_m5 132 rfl) rfl
theorem q1145 : (Jvm.Cond.instanceMethod ({ cls := "EvenWords$Read$1", name := "next", desc := "()LEvenWords$Piece;" } : Jvm.MethodName)) ∈ lw_all := lw_g (lw_at lw_m5 133 rfl) rfl
theorem q1146 : (Jvm.Cond.selects "EvenWords$Read$1" ({ cls := "EvenWords$Read$1", name := "next", desc := "()LEvenWords$Piece;" } : Jvm.MethodName) ({ cls := "EvenWords$Read$1", name := "next", desc := "()LEvenWords$Piece;" } : Jvm.MethodName)) ∈ lw_all := lw_g (lw_at lw_m5 134 rfl) rfl
theorem q1147 : (Jvm.Cond.code ({ cls := "EvenWords$Read$1", name := "next", desc := "()LEvenWords$Piece;" } : Jvm.MethodName) prog_5_method_3_code (7 : Nat) (Option.some (Jvm.ClassFile.FieldType.object "EvenWords$Piece"))) ∈ lw_all := lw_g (lw_at lw_m5 135 rfl) rfl
theorem q1148 : (Jvm.Cond.methodLink "EvenWords$Read$1" (51 : Nat) ({ cls := "java/lang/Math", name := "max", desc := "(II)I" } : Jvm.MethodName)) ∈ lw_all := lw_g (lw_at lw_m5 136 rfl) rfl
theorem q1151 : (Jvm.Cond.methodLink "EvenWords$Read$1" (57 : Nat) ({ cls := "java/lang/Math", name := "min", desc := "(II)I" } : Jvm.MethodName)) ∈ lw_all := lw_g (lw_at lw_m5 139 rfl) rfl
theorem q1152 : (Jvm.Cond.classLink "EvenWords$Read$1" (60 : Nat) "EvenWords$Piece") ∈ lw_all := lw_g (lw_at lw_m5 140 rfl) rfl
theorem q1154 : (Jvm.Cond.methodLink "EvenWords$Read$1" (62 : Nat) ({ cls := "EvenWords$Piece", name := "<init>", desc := "(IZIII)V" } : Jvm.MethodName)) ∈ lw_all := lw_g (lw_at lw_m5 142 rfl) rfl
theorem q1164 : (Jvm.Cond.fieldLinkNest "EvenWords$Read$1" (65 : Nat) "EvenWords$Piece" "isAbove" "Z" "EvenWords") ∈ lw_tbl := lw_at lw_m5 152 rfl
theorem q1219 : (Jvm.Cond.fieldLinkNest "EvenWords$Read$1" (34 : Nat) "EvenWords$Read" "of" "LEvenWords$Wire;" "EvenWords") ∈ lw_tbl := lw_at lw_m5 207 rfl
theorem q1220 : (Jvm.Cond.fieldLinkNest "EvenWords$Read$1" (15 : Nat) "EvenWords$Read" "from" "I" "EvenWords") ∈ lw_tbl := lw_at lw_m5 208 rfl
theorem q1224 : (Jvm.Cond.fieldLinkNest "EvenWords$Read$1" (24 : Nat) "EvenWords$Read" "isAbove" "Z" "EvenWords") ∈ lw_tbl := lw_at lw_m5 212 rfl
theorem q1241 : (Jvm.Cond.instantiable "EvenWords$Read$1" (5 : Nat)) ∈ lw_all := lw_g (lw_at lw_m5 229 rfl) rfl
theorem q1243 : (Jvm.Cond.instanceMethod ({ cls := "EvenWords$Read$1", name := "<init>", desc := "(LEvenWords$Read;)V" } : Jvm.MethodName)) ∈ lw_all := lw_g (lw_at lw_m5 231 rfl) rfl
theorem q1244 : (Jvm.Cond.code ({ cls := "EvenWords$Read$1", name := "<init>", desc := "(LEvenWords$Read;)V" } : Jvm.MethodName) prog_5_method_1_code (2 : Nat) (Option.none : Option Jvm.ClassFile.FieldType)) ∈ lw_all := lw_g (lw_at lw_m5 232 rfl) rfl
theorem q1245 : (Jvm.Cond.methodLink "EvenWords$Read$1" (9 : Nat) ({ cls := "java/lang/Object", name := "<init>", desc := "()V" } : Jvm.MethodName)) ∈ lw_all := lw_g (lw_at lw_m5 233 rfl) rfl
theorem q1246 : (Jvm.Cond.fieldLink "EvenWords$Read$1" (21 : Nat) "EvenWords$Read$1" "at" "I") ∈ lw_all := lw_g (lw_at lw_m5 234 rfl) rfl
theorem q1247 : (Jvm.Cond.fieldLink "EvenWords$Read$1" (28 : Nat) "EvenWords$Read$1" "above" "Z") ∈ lw_all := lw_g (lw_at lw_m5 235 rfl) rfl
theorem q1248 : (Jvm.Cond.fieldLink "EvenWords$Read$1" (31 : Nat) "EvenWords$Read$1" "level" "I") ∈ lw_all := lw_g (lw_at lw_m5 236 rfl) rfl
theorem q1249 : (Jvm.Cond.fieldLink "EvenWords$Read$1" (48 : Nat) "EvenWords$Read$1" "run" "I") ∈ lw_all := lw_g (lw_at lw_m5 237 rfl) rfl
theorem q1250 : (Jvm.Cond.fieldLink "EvenWords$Read$1" (3 : Nat) "EvenWords$Read$1" "this$1" "LEvenWords$Read;") ∈ lw_all := lw_g (lw_at lw_m5 238 rfl) rfl
theorem q1251 : (Jvm.Cond.lays "EvenWords$Read$1" "EvenWords$Read$1" "at" "I") ∈ lw_all := lw_g (lw_at lw_m5 239 rfl) rfl
theorem q1252 : (Jvm.Cond.soleField "EvenWords$Read$1" "at") ∈ lw_all := lw_g (lw_at lw_m6 0 rfl) rfl
theorem q1253 : (Jvm.Cond.lays "EvenWords$Read$1" "EvenWords$Read$1" "above" "Z") ∈ lw_all := lw_g (lw_at lw_m6 1 rfl) rfl
theorem q1254 : (Jvm.Cond.soleField "EvenWords$Read$1" "above") ∈ lw_all := lw_g (lw_at lw_m6 2 rfl) rfl
theorem q1255 : (Jvm.Cond.lays "EvenWords$Read$1" "EvenWords$Read$1" "level" "I") ∈ lw_all := lw_g (lw_at lw_m6 3 rfl) rfl
theorem q1256 : (Jvm.Cond.soleField "EvenWords$Read$1" "level") ∈ lw_all := lw_g (lw_at lw_m6 4 rfl) rfl
theorem q1257 : (Jvm.Cond.lays "EvenWords$Read$1" "EvenWords$Read$1" "run" "I") ∈ lw_all := lw_g (lw_at lw_m6 5 rfl) rfl
theorem q1258 : (Jvm.Cond.soleField "EvenWords$Read$1" "run") ∈ lw_all := lw_g (lw_at lw_m6 6 rfl) rfl
theorem q1259 : (Jvm.Cond.laysFinal "EvenWords$Read$1" "EvenWords$Read$1" "this$1" "LEvenWords$Read;") ∈ lw_all := lw_g (lw_at lw_m6 7 rfl) rfl
theorem q1260 : (Jvm.Cond.soleField "EvenWords$Read$1" "this$1") ∈ lw_all := lw_g (lw_at lw_m6 8 rfl) rfl
theorem q1261 : (Jvm.Cond.superclass "EvenWords$Read$1" "java/lang/Object") ∈ lw_all := lw_g (lw_at lw_m6 9 rfl) rfl
theorem q1883 : (Jvm.Cond.castable "EvenWords$Read$1" "java/lang/Object") ∈ lw_tbl := lw_at lw_m8 151 rfl
theorem in_X8 : ∀ w ∈ wsX80, w ∈ lw_all := lw_in wsX80 [1251, 1253, 1255, 1257, 1259] (by decide +kernel) (by decide +kernel)

/-! EvenWords$Rising -/
set_option maxRecDepth 100000
def RX9 : String := "EvenWords$Rising"
abbrev cX9_init : ByteArray := prog_7_method_1_code
def yX9_init : MethodName := ⟨RX9, "<init>", "()V"⟩
theorem dX9_init_0 : decode cX9_init 0 = .ok (.aload_n 0, 1) := by decide +kernel
theorem dX9_init_1 : decode cX9_init 1 = .ok (.invokespecial 1, 3) := by decide +kernel
theorem dX9_init_4 : decode cX9_init 4 = .ok (.return_, 1) := by decide +kernel
abbrev cX9_compare : ByteArray := prog_7_method_3_code
def yX9_compare : MethodName := ⟨RX9, "compare", "(Ljava/lang/Object;Ljava/lang/Object;)I"⟩
def dkwX9_compare_0 : List UInt8 := [42, 43, 192, 0, 8, 44, 192, 0, 8, 182, 0, 13, 172]
abbrev dktX9_compare_0 : List UInt8 := dkwX9_compare_0 ++ []
theorem dksX9_compare_0 : cX9_compare.data.toList.drop 0 = dktX9_compare_0 := by decide +kernel
theorem dX9_compare_0 : decode cX9_compare 0 = .ok (.aload_n 0, 1) := dk_42 (dk_at dksX9_compare_0 0 rfl rfl)
theorem dX9_compare_1 : decode cX9_compare 1 = .ok (.aload_n 1, 1) := dk_43 (dk_at dksX9_compare_0 1 rfl rfl)
theorem dX9_compare_2 : decode cX9_compare 2 = .ok (.checkcast 8, 3) := dk_192 0 8 (dk_at dksX9_compare_0 2 rfl rfl)
theorem dX9_compare_5 : decode cX9_compare 5 = .ok (.aload_n 2, 1) := dk_44 (dk_at dksX9_compare_0 5 rfl rfl)
theorem dX9_compare_6 : decode cX9_compare 6 = .ok (.checkcast 8, 3) := dk_192 0 8 (dk_at dksX9_compare_0 6 rfl rfl)
theorem dX9_compare_9 : decode cX9_compare 9 = .ok (.invokevirtual 13, 3) := dk_182 0 13 (dk_at dksX9_compare_0 9 rfl rfl)
theorem dX9_compare_12 : decode cX9_compare 12 = .ok (.ireturn, 1) := dk_172 (dk_at dksX9_compare_0 12 rfl rfl)
abbrev cX9_compare_2 : ByteArray := prog_7_method_2_code
def yX9_compare_2 : MethodName := ⟨RX9, "compare", "(Ljava/lang/Integer;Ljava/lang/Integer;)I"⟩
def dkwX9_compare_2_1 : List UInt8 := [164, 0, 7, 4, 167, 0, 4, 3, 172]
abbrev dktX9_compare_2_1 : List UInt8 := dkwX9_compare_2_1 ++ []
def dkwX9_compare_2_0 : List UInt8 := [43, 182, 0, 7, 44, 182, 0, 7, 162, 0, 7, 2, 167, 0, 19, 43, 182, 0, 7, 44, 182, 0, 7]
abbrev dktX9_compare_2_0 : List UInt8 := dkwX9_compare_2_0 ++ dktX9_compare_2_1
theorem dksX9_compare_2_0 : cX9_compare_2.data.toList.drop 0 = dktX9_compare_2_0 := by decide +kernel
theorem dksX9_compare_2_1 : cX9_compare_2.data.toList.drop 23 = dktX9_compare_2_1 := dk_seg dksX9_compare_2_0 23 rfl rfl
theorem dX9_compare_2_0 : decode cX9_compare_2 0 = .ok (.aload_n 1, 1) := dk_43 (dk_at dksX9_compare_2_0 0 rfl rfl)
theorem dX9_compare_2_1 : decode cX9_compare_2 1 = .ok (.invokevirtual 7, 3) := dk_182 0 7 (dk_at dksX9_compare_2_0 1 rfl rfl)
theorem dX9_compare_2_4 : decode cX9_compare_2 4 = .ok (.aload_n 2, 1) := dk_44 (dk_at dksX9_compare_2_0 4 rfl rfl)
theorem dX9_compare_2_5 : decode cX9_compare_2 5 = .ok (.invokevirtual 7, 3) := dk_182 0 7 (dk_at dksX9_compare_2_0 5 rfl rfl)
theorem dX9_compare_2_8 : decode cX9_compare_2 8 = .ok (.if_icmp .ge 7, 3) := dk_162 0 7 (dk_at dksX9_compare_2_0 8 rfl rfl)
theorem dX9_compare_2_11 : decode cX9_compare_2 11 = .ok (.iconst (-1), 1) := dk_2 (dk_at dksX9_compare_2_0 11 rfl rfl)
theorem dX9_compare_2_12 : decode cX9_compare_2 12 = .ok (.goto 19, 3) := dk_167 0 19 (dk_at dksX9_compare_2_0 12 rfl rfl)
theorem dX9_compare_2_15 : decode cX9_compare_2 15 = .ok (.aload_n 1, 1) := dk_43 (dk_at dksX9_compare_2_0 15 rfl rfl)
theorem dX9_compare_2_16 : decode cX9_compare_2 16 = .ok (.invokevirtual 7, 3) := dk_182 0 7 (dk_at dksX9_compare_2_0 16 rfl rfl)
theorem dX9_compare_2_19 : decode cX9_compare_2 19 = .ok (.aload_n 2, 1) := dk_44 (dk_at dksX9_compare_2_0 19 rfl rfl)
theorem dX9_compare_2_20 : decode cX9_compare_2 20 = .ok (.invokevirtual 7, 3) := dk_182 0 7 (dk_at dksX9_compare_2_0 20 rfl rfl)
theorem dX9_compare_2_23 : decode cX9_compare_2 23 = .ok (.if_icmp .le 7, 3) := dk_164 0 7 (dk_at dksX9_compare_2_1 0 rfl rfl)
theorem dX9_compare_2_26 : decode cX9_compare_2 26 = .ok (.iconst 1, 1) := dk_4 (dk_at dksX9_compare_2_1 3 rfl rfl)
theorem dX9_compare_2_27 : decode cX9_compare_2 27 = .ok (.goto 4, 3) := dk_167 0 4 (dk_at dksX9_compare_2_1 4 rfl rfl)
theorem dX9_compare_2_30 : decode cX9_compare_2 30 = .ok (.iconst 0, 1) := dk_3 (dk_at dksX9_compare_2_1 7 rfl rfl)
theorem dX9_compare_2_31 : decode cX9_compare_2 31 = .ok (.ireturn, 1) := dk_172 (dk_at dksX9_compare_2_1 8 rfl rfl)
theorem q88 : (Jvm.Cond.initialized "EvenWords$Rising") ∈ lw_all := lw_g (lw_at lw_m1 36 rfl) rfl
theorem q549 : (Jvm.Cond.selects "EvenWords$Rising" ({ cls := "java/lang/Object", name := "hashCode", desc := "()I" } : Jvm.MethodName) ({ cls := "java/lang/Object", name := "hashCode", desc := "()I" } : Jvm.MethodName)) ∈ lw_all := lw_g (lw_at lw_m3 17 rfl) rfl
theorem q730 : (Jvm.Cond.selects "EvenWords$Rising" ({ cls := "java/lang/Object", name := "getClass", desc := "()Ljava/lang/Class;" } : Jvm.MethodName) ({ cls := "java/lang/Object", name := "getClass", desc := "()Ljava/lang/Class;" } : Jvm.MethodName)) ∈ lw_all := lw_g (lw_at lw_m3 198 rfl) rfl
theorem q954 : (Jvm.Cond.selects "EvenWords$Rising" ({ cls := "java/lang/Object", name := "equals", desc := "(Ljava/lang/Object;)Z" } : Jvm.MethodName) ({ cls := "java/lang/Object", name := "equals", desc := "(Ljava/lang/Object;)Z" } : Jvm.MethodName)) ∈ lw_all := lw_g (lw_at lw_m4 182 rfl) rfl
theorem q1325 : (Jvm.Cond.instantiable "EvenWords$Rising" (0 : Nat)) ∈ lw_all := lw_g (lw_at lw_m6 73 rfl) rfl
theorem q1327 : (Jvm.Cond.instanceMethod ({ cls := "EvenWords$Rising", name := "<init>", desc := "()V" } : Jvm.MethodName)) ∈ lw_all := lw_g (lw_at lw_m6 75 rfl) rfl
theorem q1328 : (Jvm.Cond.code ({ cls := "EvenWords$Rising", name := "<init>", desc := "()V" } : Jvm.MethodName) prog_7_method_1_code (1 : Nat) (Option.none : Option Jvm.ClassFile.FieldType)) ∈ lw_all := lw_g (lw_at lw_m6 76 rfl) rfl
theorem q1329 : (Jvm.Cond.methodLink "EvenWords$Rising" (1 : Nat) ({ cls := "java/lang/Object", name := "<init>", desc := "()V" } : Jvm.MethodName)) ∈ lw_all := lw_g (lw_at lw_m6 77 rfl) rfl
theorem q1330 : (Jvm.Cond.superclass "EvenWords$Rising" "java/lang/Object") ∈ lw_all := lw_g (lw_at lw_m6 78 rfl) rfl
theorem q1372 : (Jvm.Cond.castable "EvenWords$Rising" "java/util/Comparator") ∈ lw_tbl := lw_at lw_m6 120 rfl
theorem q1373 : (Jvm.Cond.selects "EvenWords$Rising" ({ cls := "java/util/Comparator", name := "compare", desc := "(Ljava/lang/Object;Ljava/lang/Object;)I" } : Jvm.MethodName) ({ cls := "EvenWords$Rising", name := "compare", desc := "(Ljava/lang/Object;Ljava/lang/Object;)I" } : Jvm.MethodName)) ∈ lw_all := lw_g (lw_at lw_m6 121 rfl) rfl
theorem q1374 : (Jvm.Cond.unhidden "EvenWords$Rising" "compare" "(Ljava/lang/Object;Ljava/lang/Object;)I") ∈ lw_tbl := lw_at lw_m6 122 rfl
theorem q1375 : (Jvm.Cond.instanceMethod ({ cls := "EvenWords$Rising", name := "compare", desc := "(Ljava/lang/Object;Ljava/lang/Object;)I" } : Jvm.MethodName)) ∈ lw_all := lw_g (lw_at lw_m6 123 rfl) rfl
theorem q1376 : (Jvm.Cond.publicMethod ({ cls := "EvenWords$Rising", name := "compare", desc := "(Ljava/lang/Object;Ljava/lang/Object;)I" } : Jvm.MethodName)) ∈ lw_tbl := lw_at lw_m6 124 rfl
theorem q1377 : (Jvm.Cond.code ({ cls := "EvenWords$Rising", name := "compare", desc := "(Ljava/lang/Object;Ljava/lang/Object;)I" } : Jvm.MethodName) prog_7_method_3_code (3 : Nat) (Option.some Jvm.ClassFile.FieldType.int)) ∈ lw_all := lw_g (lw_at lw_m6 125 rfl) rfl
theorem q1378 : (Jvm.Cond.classLink "EvenWords$Rising" (8 : Nat) "java/lang/Integer") ∈ lw_all := lw_g (lw_at lw_m6 126 rfl) rfl
theorem q1379 : (Jvm.Cond.methodLink "EvenWords$Rising" (13 : Nat) ({ cls := "EvenWords$Rising", name := "compare", desc := "(Ljava/lang/Integer;Ljava/lang/Integer;)I" } : Jvm.MethodName)) ∈ lw_all := lw_g (lw_at lw_m6 127 rfl) rfl
theorem q1380 : (Jvm.Cond.instanceMethod ({ cls := "EvenWords$Rising", name := "compare", desc := "(Ljava/lang/Integer;Ljava/lang/Integer;)I" } : Jvm.MethodName)) ∈ lw_all := lw_g (lw_at lw_m6 128 rfl) rfl
theorem q1381 : (Jvm.Cond.selects "EvenWords$Rising" ({ cls := "EvenWords$Rising", name := "compare", desc := "(Ljava/lang/Integer;Ljava/lang/Integer;)I" } : Jvm.MethodName) ({ cls := "EvenWords$Rising", name := "compare", desc := "(Ljava/lang/Integer;Ljava/lang/Integer;)I" } : Jvm.MethodName)) ∈ lw_all := lw_g (lw_at lw_m6 129 rfl) rfl
theorem q1382 : (Jvm.Cond.code ({ cls := "EvenWords$Rising", name := "compare", desc := "(Ljava/lang/Integer;Ljava/lang/Integer;)I" } : Jvm.MethodName) prog_7_method_2_code (3 : Nat) (Option.some Jvm.ClassFile.FieldType.int)) ∈ lw_all := lw_g (lw_at lw_m6 130 rfl) rfl
theorem q1383 : (Jvm.Cond.methodLink "EvenWords$Rising" (7 : Nat) ({ cls := "java/lang/Integer", name := "intValue", desc := "()I" } : Jvm.MethodName)) ∈ lw_all := lw_g (lw_at lw_m6 131 rfl) rfl
theorem q1886 : (Jvm.Cond.castable "EvenWords$Rising" "java/lang/Object") ∈ lw_tbl := lw_at lw_m8 154 rfl
