/-! java/math/BigInteger -/
set_option maxRecDepth 100000
def RJ16 : String := "java/math/BigInteger"
def TJ16 : u_T := fun k => match k with
  | 0 => ("java/math/BigInteger", "signum", "I", true)
  | 1 => ("java/math/BigInteger", "mag", "[I", true)
  | 2 => ("java/math/BigInteger", "bitCountPlusOne", "I", false)
  | 3 => ("java/math/BigInteger", "bitLengthPlusOne", "I", false)
  | 4 => ("java/math/BigInteger", "lowestSetBitPlusTwo", "I", false)
  | _ => ("java/math/BigInteger", "firstNonzeroIntNumPlusTwo", "I", false)
def tyJ16 : Nat → FieldType := fun k => match k with
  | 0 => .int
  | 1 => .array .int
  | 2 => .int
  | 3 => .int
  | 4 => .int
  | _ => .int
abbrev wsJ160 : List Cond := u_ws RJ16 TJ16 6
theorem nmJ16 : ∀ a, a < 6 → ∀ b, b < 6 → a ≠ b → (TJ16 a).2.1 ≠ (TJ16 b).2.1 := by decide +kernel
theorem tyJ16_ok : ∀ k, k < 6 → parseFieldDescriptor (TJ16 k).2.2.1 = some (tyJ16 k) := by decide +kernel
abbrev cJ16_valueOf : ByteArray := prog_33_method_29_code
def yJ16_valueOf : MethodName := ⟨RJ16, "valueOf", "(J)Ljava/math/BigInteger;"⟩
def dkwJ16_valueOf_2 : List UInt8 := [30, 117, 136, 50, 176, 187, 0, 23, 89, 30, 183, 1, 100, 176]
abbrev dktJ16_valueOf_2 : List UInt8 := dkwJ16_valueOf_2 ++ []
def dkwJ16_valueOf_1 : List UInt8 := [178, 1, 91, 30, 136, 50, 176, 30, 9, 148, 156, 0, 19, 30, 20, 1, 95, 148, 155, 0, 11, 178, 1, 97]
abbrev dktJ16_valueOf_1 : List UInt8 := dkwJ16_valueOf_1 ++ dktJ16_valueOf_2
def dkwJ16_valueOf_0 : List UInt8 := [30, 9, 148, 154, 0, 7, 178, 0, 22, 176, 30, 9, 148, 158, 0, 18, 30, 20, 1, 89, 148, 157, 0, 10]
abbrev dktJ16_valueOf_0 : List UInt8 := dkwJ16_valueOf_0 ++ dktJ16_valueOf_1
theorem dksJ16_valueOf_0 : cJ16_valueOf.data.toList.drop 0 = dktJ16_valueOf_0 := by decide +kernel
theorem dksJ16_valueOf_1 : cJ16_valueOf.data.toList.drop 24 = dktJ16_valueOf_1 := dk_seg dksJ16_valueOf_0 24 rfl rfl
theorem dksJ16_valueOf_2 : cJ16_valueOf.data.toList.drop 48 = dktJ16_valueOf_2 := dk_seg dksJ16_valueOf_1 24 rfl rfl
theorem dJ16_valueOf_0 : decode cJ16_valueOf 0 = .ok (.lload_n 0, 1) := dk_30 (dk_at dksJ16_valueOf_0 0 rfl rfl)
theorem dJ16_valueOf_1 : decode cJ16_valueOf 1 = .ok (.lconst 0, 1) := dk_9 (dk_at dksJ16_valueOf_0 1 rfl rfl)
theorem dJ16_valueOf_2 : decode cJ16_valueOf 2 = .ok (.lcmp, 1) := dk_148 (dk_at dksJ16_valueOf_0 2 rfl rfl)
theorem dJ16_valueOf_3 : decode cJ16_valueOf 3 = .ok (.ifCond .ne 7, 3) := dk_154 0 7 (dk_at dksJ16_valueOf_0 3 rfl rfl)
theorem dJ16_valueOf_6 : decode cJ16_valueOf 6 = .ok (.getstatic 22, 3) := dk_178 0 22 (dk_at dksJ16_valueOf_0 6 rfl rfl)
theorem dJ16_valueOf_9 : decode cJ16_valueOf 9 = .ok (.areturn, 1) := dk_176 (dk_at dksJ16_valueOf_0 9 rfl rfl)
theorem dJ16_valueOf_10 : decode cJ16_valueOf 10 = .ok (.lload_n 0, 1) := dk_30 (dk_at dksJ16_valueOf_0 10 rfl rfl)
theorem dJ16_valueOf_11 : decode cJ16_valueOf 11 = .ok (.lconst 0, 1) := dk_9 (dk_at dksJ16_valueOf_0 11 rfl rfl)
theorem dJ16_valueOf_12 : decode cJ16_valueOf 12 = .ok (.lcmp, 1) := dk_148 (dk_at dksJ16_valueOf_0 12 rfl rfl)
theorem dJ16_valueOf_13 : decode cJ16_valueOf 13 = .ok (.ifCond .le 18, 3) := dk_158 0 18 (dk_at dksJ16_valueOf_0 13 rfl rfl)
theorem dJ16_valueOf_16 : decode cJ16_valueOf 16 = .ok (.lload_n 0, 1) := dk_30 (dk_at dksJ16_valueOf_0 16 rfl rfl)
theorem dJ16_valueOf_17 : decode cJ16_valueOf 17 = .ok (.ldc2_w 345, 3) := dk_20 1 89 (dk_at dksJ16_valueOf_0 17 rfl rfl)
theorem dJ16_valueOf_20 : decode cJ16_valueOf 20 = .ok (.lcmp, 1) := dk_148 (dk_at dksJ16_valueOf_0 20 rfl rfl)
theorem dJ16_valueOf_21 : decode cJ16_valueOf 21 = .ok (.ifCond .gt 10, 3) := dk_157 0 10 (dk_at dksJ16_valueOf_0 21 rfl rfl)
theorem dJ16_valueOf_24 : decode cJ16_valueOf 24 = .ok (.getstatic 347, 3) := dk_178 1 91 (dk_at dksJ16_valueOf_1 0 rfl rfl)
theorem dJ16_valueOf_27 : decode cJ16_valueOf 27 = .ok (.lload_n 0, 1) := dk_30 (dk_at dksJ16_valueOf_1 3 rfl rfl)
theorem dJ16_valueOf_28 : decode cJ16_valueOf 28 = .ok (.l2i, 1) := dk_136 (dk_at dksJ16_valueOf_1 4 rfl rfl)
theorem dJ16_valueOf_29 : decode cJ16_valueOf 29 = .ok (.aaload, 1) := dk_50 (dk_at dksJ16_valueOf_1 5 rfl rfl)
theorem dJ16_valueOf_30 : decode cJ16_valueOf 30 = .ok (.areturn, 1) := dk_176 (dk_at dksJ16_valueOf_1 6 rfl rfl)
theorem dJ16_valueOf_31 : decode cJ16_valueOf 31 = .ok (.lload_n 0, 1) := dk_30 (dk_at dksJ16_valueOf_1 7 rfl rfl)
theorem dJ16_valueOf_32 : decode cJ16_valueOf 32 = .ok (.lconst 0, 1) := dk_9 (dk_at dksJ16_valueOf_1 8 rfl rfl)
theorem dJ16_valueOf_33 : decode cJ16_valueOf 33 = .ok (.lcmp, 1) := dk_148 (dk_at dksJ16_valueOf_1 9 rfl rfl)
theorem dJ16_valueOf_34 : decode cJ16_valueOf 34 = .ok (.ifCond .ge 19, 3) := dk_156 0 19 (dk_at dksJ16_valueOf_1 10 rfl rfl)
theorem dJ16_valueOf_37 : decode cJ16_valueOf 37 = .ok (.lload_n 0, 1) := dk_30 (dk_at dksJ16_valueOf_1 13 rfl rfl)
theorem dJ16_valueOf_38 : decode cJ16_valueOf 38 = .ok (.ldc2_w 351, 3) := dk_20 1 95 (dk_at dksJ16_valueOf_1 14 rfl rfl)
theorem dJ16_valueOf_41 : decode cJ16_valueOf 41 = .ok (.lcmp, 1) := dk_148 (dk_at dksJ16_valueOf_1 17 rfl rfl)
theorem dJ16_valueOf_42 : decode cJ16_valueOf 42 = .ok (.ifCond .lt 11, 3) := dk_155 0 11 (dk_at dksJ16_valueOf_1 18 rfl rfl)
theorem dJ16_valueOf_45 : decode cJ16_valueOf 45 = .ok (.getstatic 353, 3) := dk_178 1 97 (dk_at dksJ16_valueOf_1 21 rfl rfl)
theorem dJ16_valueOf_48 : decode cJ16_valueOf 48 = .ok (.lload_n 0, 1) := dk_30 (dk_at dksJ16_valueOf_2 0 rfl rfl)
theorem dJ16_valueOf_49 : decode cJ16_valueOf 49 = .ok (.lneg, 1) := dk_117 (dk_at dksJ16_valueOf_2 1 rfl rfl)
theorem dJ16_valueOf_50 : decode cJ16_valueOf 50 = .ok (.l2i, 1) := dk_136 (dk_at dksJ16_valueOf_2 2 rfl rfl)
theorem dJ16_valueOf_51 : decode cJ16_valueOf 51 = .ok (.aaload, 1) := dk_50 (dk_at dksJ16_valueOf_2 3 rfl rfl)
theorem dJ16_valueOf_52 : decode cJ16_valueOf 52 = .ok (.areturn, 1) := dk_176 (dk_at dksJ16_valueOf_2 4 rfl rfl)
theorem dJ16_valueOf_53 : decode cJ16_valueOf 53 = .ok (.new 23, 3) := dk_187 0 23 (dk_at dksJ16_valueOf_2 5 rfl rfl)
theorem dJ16_valueOf_56 : decode cJ16_valueOf 56 = .ok (.dup, 1) := dk_89 (dk_at dksJ16_valueOf_2 8 rfl rfl)
theorem dJ16_valueOf_57 : decode cJ16_valueOf 57 = .ok (.lload_n 0, 1) := dk_30 (dk_at dksJ16_valueOf_2 9 rfl rfl)
theorem dJ16_valueOf_58 : decode cJ16_valueOf 58 = .ok (.invokespecial 356, 3) := dk_183 1 100 (dk_at dksJ16_valueOf_2 10 rfl rfl)
theorem dJ16_valueOf_61 : decode cJ16_valueOf 61 = .ok (.areturn, 1) := dk_176 (dk_at dksJ16_valueOf_2 13 rfl rfl)
abbrev cJ16_init : ByteArray := prog_33_method_30_code
def yJ16_init : MethodName := ⟨RJ16, "<init>", "(J)V"⟩
def dkwJ16_init_3 : List UInt8 := [180, 0, 28, 4, 31, 136, 79, 177]
abbrev dktJ16_init_3 : List UInt8 := dkwJ16_init_3 ++ []
def dkwJ16_init_2 : List UInt8 := [3, 31, 136, 79, 167, 0, 25, 42, 5, 188, 10, 181, 0, 28, 42, 180, 0, 28, 3, 29, 79, 42]
abbrev dktJ16_init_2 : List UInt8 := dkwJ16_init_2 ++ dktJ16_init_3
def dkwJ16_init_1 : List UInt8 := [181, 0, 32, 31, 16, 32, 125, 136, 62, 29, 154, 0, 21, 42, 4, 188, 10, 181, 0, 28, 42, 180, 0, 28]
abbrev dktJ16_init_1 : List UInt8 := dkwJ16_init_1 ++ dktJ16_init_2
def dkwJ16_init_0 : List UInt8 := [42, 183, 0, 3, 31, 9, 148, 156, 0, 14, 31, 117, 64, 42, 2, 181, 0, 32, 167, 0, 8, 42, 4]
abbrev dktJ16_init_0 : List UInt8 := dkwJ16_init_0 ++ dktJ16_init_1
theorem dksJ16_init_0 : cJ16_init.data.toList.drop 0 = dktJ16_init_0 := by decide +kernel
theorem dksJ16_init_1 : cJ16_init.data.toList.drop 23 = dktJ16_init_1 := dk_seg dksJ16_init_0 23 rfl rfl
theorem dksJ16_init_2 : cJ16_init.data.toList.drop 47 = dktJ16_init_2 := dk_seg dksJ16_init_1 24 rfl rfl
theorem dksJ16_init_3 : cJ16_init.data.toList.drop 69 = dktJ16_init_3 := dk_seg dksJ16_init_2 22 rfl rfl
theorem dJ16_init_0 : decode cJ16_init 0 = .ok (.aload_n 0, 1) := dk_42 (dk_at dksJ16_init_0 0 rfl rfl)
theorem dJ16_init_1 : decode cJ16_init 1 = .ok (.invokespecial 3, 3) := dk_183 0 3 (dk_at dksJ16_init_0 1 rfl rfl)
theorem dJ16_init_4 : decode cJ16_init 4 = .ok (.lload_n 1, 1) := dk_31 (dk_at dksJ16_init_0 4 rfl rfl)
theorem dJ16_init_5 : decode cJ16_init 5 = .ok (.lconst 0, 1) := dk_9 (dk_at dksJ16_init_0 5 rfl rfl)
theorem dJ16_init_6 : decode cJ16_init 6 = .ok (.lcmp, 1) := dk_148 (dk_at dksJ16_init_0 6 rfl rfl)
theorem dJ16_init_7 : decode cJ16_init 7 = .ok (.ifCond .ge 14, 3) := dk_156 0 14 (dk_at dksJ16_init_0 7 rfl rfl)
theorem dJ16_init_10 : decode cJ16_init 10 = .ok (.lload_n 1, 1) := dk_31 (dk_at dksJ16_init_0 10 rfl rfl)
theorem dJ16_init_11 : decode cJ16_init 11 = .ok (.lneg, 1) := dk_117 (dk_at dksJ16_init_0 11 rfl rfl)
theorem dJ16_init_12 : decode cJ16_init 12 = .ok (.lstore_n 1, 1) := dk_64 (dk_at dksJ16_init_0 12 rfl rfl)
theorem dJ16_init_13 : decode cJ16_init 13 = .ok (.aload_n 0, 1) := dk_42 (dk_at dksJ16_init_0 13 rfl rfl)
theorem dJ16_init_14 : decode cJ16_init 14 = .ok (.iconst (-1), 1) := dk_2 (dk_at dksJ16_init_0 14 rfl rfl)
theorem dJ16_init_15 : decode cJ16_init 15 = .ok (.putfield 32, 3) := dk_181 0 32 (dk_at dksJ16_init_0 15 rfl rfl)
theorem dJ16_init_18 : decode cJ16_init 18 = .ok (.goto 8, 3) := dk_167 0 8 (dk_at dksJ16_init_0 18 rfl rfl)
theorem dJ16_init_21 : decode cJ16_init 21 = .ok (.aload_n 0, 1) := dk_42 (dk_at dksJ16_init_0 21 rfl rfl)
theorem dJ16_init_22 : decode cJ16_init 22 = .ok (.iconst 1, 1) := dk_4 (dk_at dksJ16_init_0 22 rfl rfl)
theorem dJ16_init_23 : decode cJ16_init 23 = .ok (.putfield 32, 3) := dk_181 0 32 (dk_at dksJ16_init_1 0 rfl rfl)
theorem dJ16_init_26 : decode cJ16_init 26 = .ok (.lload_n 1, 1) := dk_31 (dk_at dksJ16_init_1 3 rfl rfl)
theorem dJ16_init_27 : decode cJ16_init 27 = .ok (.bipush 32, 2) := dk_16 32 (dk_at dksJ16_init_1 4 rfl rfl)
theorem dJ16_init_29 : decode cJ16_init 29 = .ok (.lushr, 1) := dk_125 (dk_at dksJ16_init_1 6 rfl rfl)
theorem dJ16_init_30 : decode cJ16_init 30 = .ok (.l2i, 1) := dk_136 (dk_at dksJ16_init_1 7 rfl rfl)
theorem dJ16_init_31 : decode cJ16_init 31 = .ok (.istore_n 3, 1) := dk_62 (dk_at dksJ16_init_1 8 rfl rfl)
theorem dJ16_init_32 : decode cJ16_init 32 = .ok (.iload_n 3, 1) := dk_29 (dk_at dksJ16_init_1 9 rfl rfl)
theorem dJ16_init_33 : decode cJ16_init 33 = .ok (.ifCond .ne 21, 3) := dk_154 0 21 (dk_at dksJ16_init_1 10 rfl rfl)
theorem dJ16_init_36 : decode cJ16_init 36 = .ok (.aload_n 0, 1) := dk_42 (dk_at dksJ16_init_1 13 rfl rfl)
theorem dJ16_init_37 : decode cJ16_init 37 = .ok (.iconst 1, 1) := dk_4 (dk_at dksJ16_init_1 14 rfl rfl)
theorem dJ16_init_38 : decode cJ16_init 38 = .ok (.newarray .int, 2) := dk_188_10 (dk_at dksJ16_init_1 15 rfl rfl)
theorem dJ16_init_40 : decode cJ16_init 40 = .ok (.putfield 28, 3) := dk_181 0 28 (dk_at dksJ16_init_1 17 rfl rfl)
theorem dJ16_init_43 : decode cJ16_init 43 = .ok (.aload_n 0, 1) := dk_42 (dk_at dksJ16_init_1 20 rfl rfl)
theorem dJ16_init_44 : decode cJ16_init 44 = .ok (.getfield 28, 3) := dk_180 0 28 (dk_at dksJ16_init_1 21 rfl rfl)
theorem dJ16_init_47 : decode cJ16_init 47 = .ok (.iconst 0, 1) := dk_3 (dk_at dksJ16_init_2 0 rfl rfl)
theorem dJ16_init_48 : decode cJ16_init 48 = .ok (.lload_n 1, 1) := dk_31 (dk_at dksJ16_init_2 1 rfl rfl)
theorem dJ16_init_49 : decode cJ16_init 49 = .ok (.l2i, 1) := dk_136 (dk_at dksJ16_init_2 2 rfl rfl)
theorem dJ16_init_50 : decode cJ16_init 50 = .ok (.iastore, 1) := dk_79 (dk_at dksJ16_init_2 3 rfl rfl)
theorem dJ16_init_51 : decode cJ16_init 51 = .ok (.goto 25, 3) := dk_167 0 25 (dk_at dksJ16_init_2 4 rfl rfl)
theorem dJ16_init_54 : decode cJ16_init 54 = .ok (.aload_n 0, 1) := dk_42 (dk_at dksJ16_init_2 7 rfl rfl)
theorem dJ16_init_55 : decode cJ16_init 55 = .ok (.iconst 2, 1) := dk_5 (dk_at dksJ16_init_2 8 rfl rfl)
theorem dJ16_init_56 : decode cJ16_init 56 = .ok (.newarray .int, 2) := dk_188_10 (dk_at dksJ16_init_2 9 rfl rfl)
theorem dJ16_init_58 : decode cJ16_init 58 = .ok (.putfield 28, 3) := dk_181 0 28 (dk_at dksJ16_init_2 11 rfl rfl)
theorem dJ16_init_61 : decode cJ16_init 61 = .ok (.aload_n 0, 1) := dk_42 (dk_at dksJ16_init_2 14 rfl rfl)
theorem dJ16_init_62 : decode cJ16_init 62 = .ok (.getfield 28, 3) := dk_180 0 28 (dk_at dksJ16_init_2 15 rfl rfl)
theorem dJ16_init_65 : decode cJ16_init 65 = .ok (.iconst 0, 1) := dk_3 (dk_at dksJ16_init_2 18 rfl rfl)
theorem dJ16_init_66 : decode cJ16_init 66 = .ok (.iload_n 3, 1) := dk_29 (dk_at dksJ16_init_2 19 rfl rfl)
theorem dJ16_init_67 : decode cJ16_init 67 = .ok (.iastore, 1) := dk_79 (dk_at dksJ16_init_2 20 rfl rfl)
theorem dJ16_init_68 : decode cJ16_init 68 = .ok (.aload_n 0, 1) := dk_42 (dk_at dksJ16_init_2 21 rfl rfl)
theorem dJ16_init_69 : decode cJ16_init 69 = .ok (.getfield 28, 3) := dk_180 0 28 (dk_at dksJ16_init_3 0 rfl rfl)
theorem dJ16_init_72 : decode cJ16_init 72 = .ok (.iconst 1, 1) := dk_4 (dk_at dksJ16_init_3 3 rfl rfl)
theorem dJ16_init_73 : decode cJ16_init 73 = .ok (.lload_n 1, 1) := dk_31 (dk_at dksJ16_init_3 4 rfl rfl)
theorem dJ16_init_74 : decode cJ16_init 74 = .ok (.l2i, 1) := dk_136 (dk_at dksJ16_init_3 5 rfl rfl)
theorem dJ16_init_75 : decode cJ16_init 75 = .ok (.iastore, 1) := dk_79 (dk_at dksJ16_init_3 6 rfl rfl)
theorem dJ16_init_76 : decode cJ16_init 76 = .ok (.return_, 1) := dk_177 (dk_at dksJ16_init_3 7 rfl rfl)
abbrev cJ16_shiftLeft : ByteArray := prog_33_method_101_code
def yJ16_shiftLeft : MethodName := ⟨RJ16, "shiftLeft", "(I)Ljava/math/BigInteger;"⟩
def dkwJ16_shiftLeft_1 : List UInt8 := [184, 1, 173, 42, 180, 0, 32, 183, 0, 175, 176, 27, 154, 0, 5, 42, 176, 42, 27, 116, 182, 2, 215, 176]
abbrev dktJ16_shiftLeft_1 : List UInt8 := dkwJ16_shiftLeft_1 ++ []
def dkwJ16_shiftLeft_0 : List UInt8 := [42, 180, 0, 32, 154, 0, 7, 178, 0, 22, 176, 27, 158, 0, 23, 187, 0, 23, 89, 42, 180, 0, 28, 27]
abbrev dktJ16_shiftLeft_0 : List UInt8 := dkwJ16_shiftLeft_0 ++ dktJ16_shiftLeft_1
theorem dksJ16_shiftLeft_0 : cJ16_shiftLeft.data.toList.drop 0 = dktJ16_shiftLeft_0 := by decide +kernel
theorem dksJ16_shiftLeft_1 : cJ16_shiftLeft.data.toList.drop 24 = dktJ16_shiftLeft_1 := dk_seg dksJ16_shiftLeft_0 24 rfl rfl
theorem dJ16_shiftLeft_0 : decode cJ16_shiftLeft 0 = .ok (.aload_n 0, 1) := dk_42 (dk_at dksJ16_shiftLeft_0 0 rfl rfl)
theorem dJ16_shiftLeft_1 : decode cJ16_shiftLeft 1 = .ok (.getfield 32, 3) := dk_180 0 32 (dk_at dksJ16_shiftLeft_0 1 rfl rfl)
theorem dJ16_shiftLeft_4 : decode cJ16_shiftLeft 4 = .ok (.ifCond .ne 7, 3) := dk_154 0 7 (dk_at dksJ16_shiftLeft_0 4 rfl rfl)
theorem dJ16_shiftLeft_7 : decode cJ16_shiftLeft 7 = .ok (.getstatic 22, 3) := dk_178 0 22 (dk_at dksJ16_shiftLeft_0 7 rfl rfl)
theorem dJ16_shiftLeft_10 : decode cJ16_shiftLeft 10 = .ok (.areturn, 1) := dk_176 (dk_at dksJ16_shiftLeft_0 10 rfl rfl)
theorem dJ16_shiftLeft_11 : decode cJ16_shiftLeft 11 = .ok (.iload_n 1, 1) := dk_27 (dk_at dksJ16_shiftLeft_0 11 rfl rfl)
theorem dJ16_shiftLeft_12 : decode cJ16_shiftLeft 12 = .ok (.ifCond .le 23, 3) := dk_158 0 23 (dk_at dksJ16_shiftLeft_0 12 rfl rfl)
theorem dJ16_shiftLeft_15 : decode cJ16_shiftLeft 15 = .ok (.new 23, 3) := dk_187 0 23 (dk_at dksJ16_shiftLeft_0 15 rfl rfl)
theorem dJ16_shiftLeft_18 : decode cJ16_shiftLeft 18 = .ok (.dup, 1) := dk_89 (dk_at dksJ16_shiftLeft_0 18 rfl rfl)
theorem dJ16_shiftLeft_19 : decode cJ16_shiftLeft 19 = .ok (.aload_n 0, 1) := dk_42 (dk_at dksJ16_shiftLeft_0 19 rfl rfl)
theorem dJ16_shiftLeft_20 : decode cJ16_shiftLeft 20 = .ok (.getfield 28, 3) := dk_180 0 28 (dk_at dksJ16_shiftLeft_0 20 rfl rfl)
theorem dJ16_shiftLeft_23 : decode cJ16_shiftLeft 23 = .ok (.iload_n 1, 1) := dk_27 (dk_at dksJ16_shiftLeft_0 23 rfl rfl)
theorem dJ16_shiftLeft_24 : decode cJ16_shiftLeft 24 = .ok (.invokestatic 429, 3) := dk_184 1 173 (dk_at dksJ16_shiftLeft_1 0 rfl rfl)
theorem dJ16_shiftLeft_27 : decode cJ16_shiftLeft 27 = .ok (.aload_n 0, 1) := dk_42 (dk_at dksJ16_shiftLeft_1 3 rfl rfl)
theorem dJ16_shiftLeft_28 : decode cJ16_shiftLeft 28 = .ok (.getfield 32, 3) := dk_180 0 32 (dk_at dksJ16_shiftLeft_1 4 rfl rfl)
theorem dJ16_shiftLeft_31 : decode cJ16_shiftLeft 31 = .ok (.invokespecial 175, 3) := dk_183 0 175 (dk_at dksJ16_shiftLeft_1 7 rfl rfl)
theorem dJ16_shiftLeft_34 : decode cJ16_shiftLeft 34 = .ok (.areturn, 1) := dk_176 (dk_at dksJ16_shiftLeft_1 10 rfl rfl)
theorem dJ16_shiftLeft_35 : decode cJ16_shiftLeft 35 = .ok (.iload_n 1, 1) := dk_27 (dk_at dksJ16_shiftLeft_1 11 rfl rfl)
theorem dJ16_shiftLeft_36 : decode cJ16_shiftLeft 36 = .ok (.ifCond .ne 5, 3) := dk_154 0 5 (dk_at dksJ16_shiftLeft_1 12 rfl rfl)
theorem dJ16_shiftLeft_39 : decode cJ16_shiftLeft 39 = .ok (.aload_n 0, 1) := dk_42 (dk_at dksJ16_shiftLeft_1 15 rfl rfl)
theorem dJ16_shiftLeft_40 : decode cJ16_shiftLeft 40 = .ok (.areturn, 1) := dk_176 (dk_at dksJ16_shiftLeft_1 16 rfl rfl)
theorem dJ16_shiftLeft_41 : decode cJ16_shiftLeft 41 = .ok (.aload_n 0, 1) := dk_42 (dk_at dksJ16_shiftLeft_1 17 rfl rfl)
theorem dJ16_shiftLeft_42 : decode cJ16_shiftLeft 42 = .ok (.iload_n 1, 1) := dk_27 (dk_at dksJ16_shiftLeft_1 18 rfl rfl)
theorem dJ16_shiftLeft_43 : decode cJ16_shiftLeft 43 = .ok (.ineg, 1) := dk_116 (dk_at dksJ16_shiftLeft_1 19 rfl rfl)
theorem dJ16_shiftLeft_44 : decode cJ16_shiftLeft 44 = .ok (.invokevirtual 727, 3) := dk_182 2 215 (dk_at dksJ16_shiftLeft_1 20 rfl rfl)
theorem dJ16_shiftLeft_47 : decode cJ16_shiftLeft 47 = .ok (.areturn, 1) := dk_176 (dk_at dksJ16_shiftLeft_1 23 rfl rfl)
abbrev cJ16_shiftLeft_2 : ByteArray := prog_33_method_102_code
def yJ16_shiftLeft_2 : MethodName := ⟨RJ16, "shiftLeft", "([II)[I"⟩
def dkwJ16_shiftLeft_2_6 : List UInt8 := [21, 6, 96, 42, 21, 9, 46, 29, 120, 79, 25, 5, 176]
abbrev dktJ16_shiftLeft_2_6 : List UInt8 := dkwJ16_shiftLeft_2_6 ++ []
def dkwJ16_shiftLeft_2_5 : List UInt8 := [4, 96, 25, 5, 190, 184, 2, 99, 87, 25, 5, 42, 21, 6, 29, 21, 9, 184, 2, 106, 25, 5, 21, 9]
abbrev dktJ16_shiftLeft_2_5 : List UInt8 := dkwJ16_shiftLeft_2_5 ++ dktJ16_shiftLeft_2_6
def dkwJ16_shiftLeft_2_4 : List UInt8 := [21, 4, 4, 100, 54, 9, 3, 21, 9, 4, 96, 42, 190, 184, 2, 99, 87, 21, 6, 21, 9, 21, 6, 96]
abbrev dktJ16_shiftLeft_2_4 : List UInt8 := dkwJ16_shiftLeft_2_4 ++ dktJ16_shiftLeft_2_5
def dkwJ16_shiftLeft_2_3 : List UInt8 := [58, 5, 25, 5, 21, 6, 132, 6, 1, 21, 8, 79, 167, 0, 11, 21, 4, 28, 96, 188, 10, 58, 5]
abbrev dktJ16_shiftLeft_2_3 : List UInt8 := dkwJ16_shiftLeft_2_3 ++ dktJ16_shiftLeft_2_4
def dkwJ16_shiftLeft_2_2 : List UInt8 := [54, 7, 42, 3, 46, 21, 7, 124, 54, 8, 21, 8, 153, 0, 26, 21, 4, 28, 96, 4, 96, 188, 10]
abbrev dktJ16_shiftLeft_2_2 : List UInt8 := dkwJ16_shiftLeft_2_2 ++ dktJ16_shiftLeft_2_3
def dkwJ16_shiftLeft_2_1 : List UInt8 := [188, 10, 58, 5, 42, 3, 25, 5, 3, 21, 4, 184, 1, 132, 167, 0, 114, 3, 54, 6, 16, 32, 29, 100]
abbrev dktJ16_shiftLeft_2_1 : List UInt8 := dkwJ16_shiftLeft_2_1 ++ dktJ16_shiftLeft_2_2
def dkwJ16_shiftLeft_2_0 : List UInt8 := [27, 8, 124, 61, 27, 16, 31, 126, 62, 42, 190, 54, 4, 1, 58, 5, 29, 154, 0, 24, 21, 4, 28, 96]
abbrev dktJ16_shiftLeft_2_0 : List UInt8 := dkwJ16_shiftLeft_2_0 ++ dktJ16_shiftLeft_2_1
theorem dksJ16_shiftLeft_2_0 : cJ16_shiftLeft_2.data.toList.drop 0 = dktJ16_shiftLeft_2_0 := by decide +kernel
theorem dksJ16_shiftLeft_2_1 : cJ16_shiftLeft_2.data.toList.drop 24 = dktJ16_shiftLeft_2_1 := dk_seg dksJ16_shiftLeft_2_0 24 rfl rfl
theorem dksJ16_shiftLeft_2_2 : cJ16_shiftLeft_2.data.toList.drop 48 = dktJ16_shiftLeft_2_2 := dk_seg dksJ16_shiftLeft_2_1 24 rfl rfl
theorem dksJ16_shiftLeft_2_3 : cJ16_shiftLeft_2.data.toList.drop 71 = dktJ16_shiftLeft_2_3 := dk_seg dksJ16_shiftLeft_2_2 23 rfl rfl
theorem dksJ16_shiftLeft_2_4 : cJ16_shiftLeft_2.data.toList.drop 94 = dktJ16_shiftLeft_2_4 := dk_seg dksJ16_shiftLeft_2_3 23 rfl rfl
theorem dksJ16_shiftLeft_2_5 : cJ16_shiftLeft_2.data.toList.drop 118 = dktJ16_shiftLeft_2_5 := dk_seg dksJ16_shiftLeft_2_4 24 rfl rfl
theorem dksJ16_shiftLeft_2_6 : cJ16_shiftLeft_2.data.toList.drop 142 = dktJ16_shiftLeft_2_6 := dk_seg dksJ16_shiftLeft_2_5 24 rfl rfl
theorem dJ16_shiftLeft_2_0 : decode cJ16_shiftLeft_2 0 = .ok (.iload_n 1, 1) := dk_27 (dk_at dksJ16_shiftLeft_2_0 0 rfl rfl)
theorem dJ16_shiftLeft_2_1 : decode cJ16_shiftLeft_2 1 = .ok (.iconst 5, 1) := dk_8 (dk_at dksJ16_shiftLeft_2_0 1 rfl rfl)
theorem dJ16_shiftLeft_2_2 : decode cJ16_shiftLeft_2 2 = .ok (.iushr, 1) := dk_124 (dk_at dksJ16_shiftLeft_2_0 2 rfl rfl)
theorem dJ16_shiftLeft_2_3 : decode cJ16_shiftLeft_2 3 = .ok (.istore_n 2, 1) := dk_61 (dk_at dksJ16_shiftLeft_2_0 3 rfl rfl)
theorem dJ16_shiftLeft_2_4 : decode cJ16_shiftLeft_2 4 = .ok (.iload_n 1, 1) := dk_27 (dk_at dksJ16_shiftLeft_2_0 4 rfl rfl)
theorem dJ16_shiftLeft_2_5 : decode cJ16_shiftLeft_2 5 = .ok (.bipush 31, 2) := dk_16 31 (dk_at dksJ16_shiftLeft_2_0 5 rfl rfl)
theorem dJ16_shiftLeft_2_7 : decode cJ16_shiftLeft_2 7 = .ok (.iand, 1) := dk_126 (dk_at dksJ16_shiftLeft_2_0 7 rfl rfl)
theorem dJ16_shiftLeft_2_8 : decode cJ16_shiftLeft_2 8 = .ok (.istore_n 3, 1) := dk_62 (dk_at dksJ16_shiftLeft_2_0 8 rfl rfl)
theorem dJ16_shiftLeft_2_9 : decode cJ16_shiftLeft_2 9 = .ok (.aload_n 0, 1) := dk_42 (dk_at dksJ16_shiftLeft_2_0 9 rfl rfl)
theorem dJ16_shiftLeft_2_10 : decode cJ16_shiftLeft_2 10 = .ok (.arraylength, 1) := dk_190 (dk_at dksJ16_shiftLeft_2_0 10 rfl rfl)
theorem dJ16_shiftLeft_2_11 : decode cJ16_shiftLeft_2 11 = .ok (.istore 4, 2) := dk_54 4 (dk_at dksJ16_shiftLeft_2_0 11 rfl rfl)
theorem dJ16_shiftLeft_2_13 : decode cJ16_shiftLeft_2 13 = .ok (.aconst_null, 1) := dk_1 (dk_at dksJ16_shiftLeft_2_0 13 rfl rfl)
theorem dJ16_shiftLeft_2_14 : decode cJ16_shiftLeft_2 14 = .ok (.astore 5, 2) := dk_58 5 (dk_at dksJ16_shiftLeft_2_0 14 rfl rfl)
theorem dJ16_shiftLeft_2_16 : decode cJ16_shiftLeft_2 16 = .ok (.iload_n 3, 1) := dk_29 (dk_at dksJ16_shiftLeft_2_0 16 rfl rfl)
theorem dJ16_shiftLeft_2_17 : decode cJ16_shiftLeft_2 17 = .ok (.ifCond .ne 24, 3) := dk_154 0 24 (dk_at dksJ16_shiftLeft_2_0 17 rfl rfl)
theorem dJ16_shiftLeft_2_20 : decode cJ16_shiftLeft_2 20 = .ok (.iload 4, 2) := dk_21 4 (dk_at dksJ16_shiftLeft_2_0 20 rfl rfl)
theorem dJ16_shiftLeft_2_22 : decode cJ16_shiftLeft_2 22 = .ok (.iload_n 2, 1) := dk_28 (dk_at dksJ16_shiftLeft_2_0 22 rfl rfl)
theorem dJ16_shiftLeft_2_23 : decode cJ16_shiftLeft_2 23 = .ok (.iadd, 1) := dk_96 (dk_at dksJ16_shiftLeft_2_0 23 rfl rfl)
theorem dJ16_shiftLeft_2_24 : decode cJ16_shiftLeft_2 24 = .ok (.newarray .int, 2) := dk_188_10 (dk_at dksJ16_shiftLeft_2_1 0 rfl rfl)
theorem dJ16_shiftLeft_2_26 : decode cJ16_shiftLeft_2 26 = .ok (.astore 5, 2) := dk_58 5 (dk_at dksJ16_shiftLeft_2_1 2 rfl rfl)
theorem dJ16_shiftLeft_2_28 : decode cJ16_shiftLeft_2 28 = .ok (.aload_n 0, 1) := dk_42 (dk_at dksJ16_shiftLeft_2_1 4 rfl rfl)
theorem dJ16_shiftLeft_2_29 : decode cJ16_shiftLeft_2 29 = .ok (.iconst 0, 1) := dk_3 (dk_at dksJ16_shiftLeft_2_1 5 rfl rfl)
theorem dJ16_shiftLeft_2_30 : decode cJ16_shiftLeft_2 30 = .ok (.aload 5, 2) := dk_25 5 (dk_at dksJ16_shiftLeft_2_1 6 rfl rfl)
theorem dJ16_shiftLeft_2_32 : decode cJ16_shiftLeft_2 32 = .ok (.iconst 0, 1) := dk_3 (dk_at dksJ16_shiftLeft_2_1 8 rfl rfl)
theorem dJ16_shiftLeft_2_33 : decode cJ16_shiftLeft_2 33 = .ok (.iload 4, 2) := dk_21 4 (dk_at dksJ16_shiftLeft_2_1 9 rfl rfl)
theorem dJ16_shiftLeft_2_35 : decode cJ16_shiftLeft_2 35 = .ok (.invokestatic 388, 3) := dk_184 1 132 (dk_at dksJ16_shiftLeft_2_1 11 rfl rfl)
theorem dJ16_shiftLeft_2_38 : decode cJ16_shiftLeft_2 38 = .ok (.goto 114, 3) := dk_167 0 114 (dk_at dksJ16_shiftLeft_2_1 14 rfl rfl)
theorem dJ16_shiftLeft_2_41 : decode cJ16_shiftLeft_2 41 = .ok (.iconst 0, 1) := dk_3 (dk_at dksJ16_shiftLeft_2_1 17 rfl rfl)
theorem dJ16_shiftLeft_2_42 : decode cJ16_shiftLeft_2 42 = .ok (.istore 6, 2) := dk_54 6 (dk_at dksJ16_shiftLeft_2_1 18 rfl rfl)
theorem dJ16_shiftLeft_2_44 : decode cJ16_shiftLeft_2 44 = .ok (.bipush 32, 2) := dk_16 32 (dk_at dksJ16_shiftLeft_2_1 20 rfl rfl)
theorem dJ16_shiftLeft_2_46 : decode cJ16_shiftLeft_2 46 = .ok (.iload_n 3, 1) := dk_29 (dk_at dksJ16_shiftLeft_2_1 22 rfl rfl)
theorem dJ16_shiftLeft_2_47 : decode cJ16_shiftLeft_2 47 = .ok (.isub, 1) := dk_100 (dk_at dksJ16_shiftLeft_2_1 23 rfl rfl)
theorem dJ16_shiftLeft_2_48 : decode cJ16_shiftLeft_2 48 = .ok (.istore 7, 2) := dk_54 7 (dk_at dksJ16_shiftLeft_2_2 0 rfl rfl)
theorem dJ16_shiftLeft_2_50 : decode cJ16_shiftLeft_2 50 = .ok (.aload_n 0, 1) := dk_42 (dk_at dksJ16_shiftLeft_2_2 2 rfl rfl)
theorem dJ16_shiftLeft_2_51 : decode cJ16_shiftLeft_2 51 = .ok (.iconst 0, 1) := dk_3 (dk_at dksJ16_shiftLeft_2_2 3 rfl rfl)
theorem dJ16_shiftLeft_2_52 : decode cJ16_shiftLeft_2 52 = .ok (.iaload, 1) := dk_46 (dk_at dksJ16_shiftLeft_2_2 4 rfl rfl)
theorem dJ16_shiftLeft_2_53 : decode cJ16_shiftLeft_2 53 = .ok (.iload 7, 2) := dk_21 7 (dk_at dksJ16_shiftLeft_2_2 5 rfl rfl)
theorem dJ16_shiftLeft_2_55 : decode cJ16_shiftLeft_2 55 = .ok (.iushr, 1) := dk_124 (dk_at dksJ16_shiftLeft_2_2 7 rfl rfl)
theorem dJ16_shiftLeft_2_56 : decode cJ16_shiftLeft_2 56 = .ok (.istore 8, 2) := dk_54 8 (dk_at dksJ16_shiftLeft_2_2 8 rfl rfl)
theorem dJ16_shiftLeft_2_58 : decode cJ16_shiftLeft_2 58 = .ok (.iload 8, 2) := dk_21 8 (dk_at dksJ16_shiftLeft_2_2 10 rfl rfl)
theorem dJ16_shiftLeft_2_60 : decode cJ16_shiftLeft_2 60 = .ok (.ifCond .eq 26, 3) := dk_153 0 26 (dk_at dksJ16_shiftLeft_2_2 12 rfl rfl)
theorem dJ16_shiftLeft_2_63 : decode cJ16_shiftLeft_2 63 = .ok (.iload 4, 2) := dk_21 4 (dk_at dksJ16_shiftLeft_2_2 15 rfl rfl)
theorem dJ16_shiftLeft_2_65 : decode cJ16_shiftLeft_2 65 = .ok (.iload_n 2, 1) := dk_28 (dk_at dksJ16_shiftLeft_2_2 17 rfl rfl)
theorem dJ16_shiftLeft_2_66 : decode cJ16_shiftLeft_2 66 = .ok (.iadd, 1) := dk_96 (dk_at dksJ16_shiftLeft_2_2 18 rfl rfl)
theorem dJ16_shiftLeft_2_67 : decode cJ16_shiftLeft_2 67 = .ok (.iconst 1, 1) := dk_4 (dk_at dksJ16_shiftLeft_2_2 19 rfl rfl)
theorem dJ16_shiftLeft_2_68 : decode cJ16_shiftLeft_2 68 = .ok (.iadd, 1) := dk_96 (dk_at dksJ16_shiftLeft_2_2 20 rfl rfl)
theorem dJ16_shiftLeft_2_69 : decode cJ16_shiftLeft_2 69 = .ok (.newarray .int, 2) := dk_188_10 (dk_at dksJ16_shiftLeft_2_2 21 rfl rfl)
theorem dJ16_shiftLeft_2_71 : decode cJ16_shiftLeft_2 71 = .ok (.astore 5, 2) := dk_58 5 (dk_at dksJ16_shiftLeft_2_3 0 rfl rfl)
theorem dJ16_shiftLeft_2_73 : decode cJ16_shiftLeft_2 73 = .ok (.aload 5, 2) := dk_25 5 (dk_at dksJ16_shiftLeft_2_3 2 rfl rfl)
theorem dJ16_shiftLeft_2_75 : decode cJ16_shiftLeft_2 75 = .ok (.iload 6, 2) := dk_21 6 (dk_at dksJ16_shiftLeft_2_3 4 rfl rfl)
theorem dJ16_shiftLeft_2_77 : decode cJ16_shiftLeft_2 77 = .ok (.iinc 6 1, 3) := dk_132 6 1 (dk_at dksJ16_shiftLeft_2_3 6 rfl rfl)
theorem dJ16_shiftLeft_2_80 : decode cJ16_shiftLeft_2 80 = .ok (.iload 8, 2) := dk_21 8 (dk_at dksJ16_shiftLeft_2_3 9 rfl rfl)
theorem dJ16_shiftLeft_2_82 : decode cJ16_shiftLeft_2 82 = .ok (.iastore, 1) := dk_79 (dk_at dksJ16_shiftLeft_2_3 11 rfl rfl)
theorem dJ16_shiftLeft_2_83 : decode cJ16_shiftLeft_2 83 = .ok (.goto 11, 3) := dk_167 0 11 (dk_at dksJ16_shiftLeft_2_3 12 rfl rfl)
theorem dJ16_shiftLeft_2_86 : decode cJ16_shiftLeft_2 86 = .ok (.iload 4, 2) := dk_21 4 (dk_at dksJ16_shiftLeft_2_3 15 rfl rfl)
theorem dJ16_shiftLeft_2_88 : decode cJ16_shiftLeft_2 88 = .ok (.iload_n 2, 1) := dk_28 (dk_at dksJ16_shiftLeft_2_3 17 rfl rfl)
theorem dJ16_shiftLeft_2_89 : decode cJ16_shiftLeft_2 89 = .ok (.iadd, 1) := dk_96 (dk_at dksJ16_shiftLeft_2_3 18 rfl rfl)
theorem dJ16_shiftLeft_2_90 : decode cJ16_shiftLeft_2 90 = .ok (.newarray .int, 2) := dk_188_10 (dk_at dksJ16_shiftLeft_2_3 19 rfl rfl)
theorem dJ16_shiftLeft_2_92 : decode cJ16_shiftLeft_2 92 = .ok (.astore 5, 2) := dk_58 5 (dk_at dksJ16_shiftLeft_2_3 21 rfl rfl)
theorem dJ16_shiftLeft_2_94 : decode cJ16_shiftLeft_2 94 = .ok (.iload 4, 2) := dk_21 4 (dk_at dksJ16_shiftLeft_2_4 0 rfl rfl)
theorem dJ16_shiftLeft_2_96 : decode cJ16_shiftLeft_2 96 = .ok (.iconst 1, 1) := dk_4 (dk_at dksJ16_shiftLeft_2_4 2 rfl rfl)
theorem dJ16_shiftLeft_2_97 : decode cJ16_shiftLeft_2 97 = .ok (.isub, 1) := dk_100 (dk_at dksJ16_shiftLeft_2_4 3 rfl rfl)
theorem dJ16_shiftLeft_2_98 : decode cJ16_shiftLeft_2 98 = .ok (.istore 9, 2) := dk_54 9 (dk_at dksJ16_shiftLeft_2_4 4 rfl rfl)
theorem dJ16_shiftLeft_2_100 : decode cJ16_shiftLeft_2 100 = .ok (.iconst 0, 1) := dk_3 (dk_at dksJ16_shiftLeft_2_4 6 rfl rfl)
theorem dJ16_shiftLeft_2_101 : decode cJ16_shiftLeft_2 101 = .ok (.iload 9, 2) := dk_21 9 (dk_at dksJ16_shiftLeft_2_4 7 rfl rfl)
theorem dJ16_shiftLeft_2_103 : decode cJ16_shiftLeft_2 103 = .ok (.iconst 1, 1) := dk_4 (dk_at dksJ16_shiftLeft_2_4 9 rfl rfl)
theorem dJ16_shiftLeft_2_104 : decode cJ16_shiftLeft_2 104 = .ok (.iadd, 1) := dk_96 (dk_at dksJ16_shiftLeft_2_4 10 rfl rfl)
theorem dJ16_shiftLeft_2_105 : decode cJ16_shiftLeft_2 105 = .ok (.aload_n 0, 1) := dk_42 (dk_at dksJ16_shiftLeft_2_4 11 rfl rfl)
theorem dJ16_shiftLeft_2_106 : decode cJ16_shiftLeft_2 106 = .ok (.arraylength, 1) := dk_190 (dk_at dksJ16_shiftLeft_2_4 12 rfl rfl)
theorem dJ16_shiftLeft_2_107 : decode cJ16_shiftLeft_2 107 = .ok (.invokestatic 611, 3) := dk_184 2 99 (dk_at dksJ16_shiftLeft_2_4 13 rfl rfl)
theorem dJ16_shiftLeft_2_110 : decode cJ16_shiftLeft_2 110 = .ok (.pop, 1) := dk_87 (dk_at dksJ16_shiftLeft_2_4 16 rfl rfl)
theorem dJ16_shiftLeft_2_111 : decode cJ16_shiftLeft_2 111 = .ok (.iload 6, 2) := dk_21 6 (dk_at dksJ16_shiftLeft_2_4 17 rfl rfl)
theorem dJ16_shiftLeft_2_113 : decode cJ16_shiftLeft_2 113 = .ok (.iload 9, 2) := dk_21 9 (dk_at dksJ16_shiftLeft_2_4 19 rfl rfl)
theorem dJ16_shiftLeft_2_115 : decode cJ16_shiftLeft_2 115 = .ok (.iload 6, 2) := dk_21 6 (dk_at dksJ16_shiftLeft_2_4 21 rfl rfl)
theorem dJ16_shiftLeft_2_117 : decode cJ16_shiftLeft_2 117 = .ok (.iadd, 1) := dk_96 (dk_at dksJ16_shiftLeft_2_4 23 rfl rfl)
theorem dJ16_shiftLeft_2_118 : decode cJ16_shiftLeft_2 118 = .ok (.iconst 1, 1) := dk_4 (dk_at dksJ16_shiftLeft_2_5 0 rfl rfl)
theorem dJ16_shiftLeft_2_119 : decode cJ16_shiftLeft_2 119 = .ok (.iadd, 1) := dk_96 (dk_at dksJ16_shiftLeft_2_5 1 rfl rfl)
theorem dJ16_shiftLeft_2_120 : decode cJ16_shiftLeft_2 120 = .ok (.aload 5, 2) := dk_25 5 (dk_at dksJ16_shiftLeft_2_5 2 rfl rfl)
theorem dJ16_shiftLeft_2_122 : decode cJ16_shiftLeft_2 122 = .ok (.arraylength, 1) := dk_190 (dk_at dksJ16_shiftLeft_2_5 4 rfl rfl)
theorem dJ16_shiftLeft_2_123 : decode cJ16_shiftLeft_2 123 = .ok (.invokestatic 611, 3) := dk_184 2 99 (dk_at dksJ16_shiftLeft_2_5 5 rfl rfl)
theorem dJ16_shiftLeft_2_126 : decode cJ16_shiftLeft_2 126 = .ok (.pop, 1) := dk_87 (dk_at dksJ16_shiftLeft_2_5 8 rfl rfl)
theorem dJ16_shiftLeft_2_127 : decode cJ16_shiftLeft_2 127 = .ok (.aload 5, 2) := dk_25 5 (dk_at dksJ16_shiftLeft_2_5 9 rfl rfl)
theorem dJ16_shiftLeft_2_129 : decode cJ16_shiftLeft_2 129 = .ok (.aload_n 0, 1) := dk_42 (dk_at dksJ16_shiftLeft_2_5 11 rfl rfl)
theorem dJ16_shiftLeft_2_130 : decode cJ16_shiftLeft_2 130 = .ok (.iload 6, 2) := dk_21 6 (dk_at dksJ16_shiftLeft_2_5 12 rfl rfl)
theorem dJ16_shiftLeft_2_132 : decode cJ16_shiftLeft_2 132 = .ok (.iload_n 3, 1) := dk_29 (dk_at dksJ16_shiftLeft_2_5 14 rfl rfl)
theorem dJ16_shiftLeft_2_133 : decode cJ16_shiftLeft_2 133 = .ok (.iload 9, 2) := dk_21 9 (dk_at dksJ16_shiftLeft_2_5 15 rfl rfl)
theorem dJ16_shiftLeft_2_135 : decode cJ16_shiftLeft_2 135 = .ok (.invokestatic 618, 3) := dk_184 2 106 (dk_at dksJ16_shiftLeft_2_5 17 rfl rfl)
theorem dJ16_shiftLeft_2_138 : decode cJ16_shiftLeft_2 138 = .ok (.aload 5, 2) := dk_25 5 (dk_at dksJ16_shiftLeft_2_5 20 rfl rfl)
theorem dJ16_shiftLeft_2_140 : decode cJ16_shiftLeft_2 140 = .ok (.iload 9, 2) := dk_21 9 (dk_at dksJ16_shiftLeft_2_5 22 rfl rfl)
theorem dJ16_shiftLeft_2_142 : decode cJ16_shiftLeft_2 142 = .ok (.iload 6, 2) := dk_21 6 (dk_at dksJ16_shiftLeft_2_6 0 rfl rfl)
theorem dJ16_shiftLeft_2_144 : decode cJ16_shiftLeft_2 144 = .ok (.iadd, 1) := dk_96 (dk_at dksJ16_shiftLeft_2_6 2 rfl rfl)
theorem dJ16_shiftLeft_2_145 : decode cJ16_shiftLeft_2 145 = .ok (.aload_n 0, 1) := dk_42 (dk_at dksJ16_shiftLeft_2_6 3 rfl rfl)
theorem dJ16_shiftLeft_2_146 : decode cJ16_shiftLeft_2 146 = .ok (.iload 9, 2) := dk_21 9 (dk_at dksJ16_shiftLeft_2_6 4 rfl rfl)
theorem dJ16_shiftLeft_2_148 : decode cJ16_shiftLeft_2 148 = .ok (.iaload, 1) := dk_46 (dk_at dksJ16_shiftLeft_2_6 6 rfl rfl)
theorem dJ16_shiftLeft_2_149 : decode cJ16_shiftLeft_2 149 = .ok (.iload_n 3, 1) := dk_29 (dk_at dksJ16_shiftLeft_2_6 7 rfl rfl)
theorem dJ16_shiftLeft_2_150 : decode cJ16_shiftLeft_2 150 = .ok (.ishl, 1) := dk_120 (dk_at dksJ16_shiftLeft_2_6 8 rfl rfl)
theorem dJ16_shiftLeft_2_151 : decode cJ16_shiftLeft_2 151 = .ok (.iastore, 1) := dk_79 (dk_at dksJ16_shiftLeft_2_6 9 rfl rfl)
theorem dJ16_shiftLeft_2_152 : decode cJ16_shiftLeft_2 152 = .ok (.aload 5, 2) := dk_25 5 (dk_at dksJ16_shiftLeft_2_6 10 rfl rfl)
theorem dJ16_shiftLeft_2_154 : decode cJ16_shiftLeft_2 154 = .ok (.areturn, 1) := dk_176 (dk_at dksJ16_shiftLeft_2_6 12 rfl rfl)
abbrev cJ16_shiftLeftImplWorker : ByteArray := prog_33_method_103_code
def yJ16_shiftLeftImplWorker : MethodName := ⟨RJ16, "shiftLeftImplWorker", "([I[IIII)V"⟩
def dkwJ16_shiftLeftImplWorker_1 : List UInt8 := [132, 6, 1, 46, 29, 120, 43, 21, 6, 46, 21, 5, 124, 128, 79, 167, 255, 226, 177]
abbrev dktJ16_shiftLeftImplWorker_1 : List UInt8 := dkwJ16_shiftLeftImplWorker_1 ++ []
def dkwJ16_shiftLeftImplWorker_0 : List UInt8 := [16, 32, 29, 100, 54, 5, 3, 54, 6, 21, 6, 21, 4, 162, 0, 29, 42, 28, 132, 2, 1, 43, 21, 6]
abbrev dktJ16_shiftLeftImplWorker_0 : List UInt8 := dkwJ16_shiftLeftImplWorker_0 ++ dktJ16_shiftLeftImplWorker_1
theorem dksJ16_shiftLeftImplWorker_0 : cJ16_shiftLeftImplWorker.data.toList.drop 0 = dktJ16_shiftLeftImplWorker_0 := by decide +kernel
theorem dksJ16_shiftLeftImplWorker_1 : cJ16_shiftLeftImplWorker.data.toList.drop 24 = dktJ16_shiftLeftImplWorker_1 := dk_seg dksJ16_shiftLeftImplWorker_0 24 rfl rfl
theorem dJ16_shiftLeftImplWorker_0 : decode cJ16_shiftLeftImplWorker 0 = .ok (.bipush 32, 2) := dk_16 32 (dk_at dksJ16_shiftLeftImplWorker_0 0 rfl rfl)
theorem dJ16_shiftLeftImplWorker_2 : decode cJ16_shiftLeftImplWorker 2 = .ok (.iload_n 3, 1) := dk_29 (dk_at dksJ16_shiftLeftImplWorker_0 2 rfl rfl)
theorem dJ16_shiftLeftImplWorker_3 : decode cJ16_shiftLeftImplWorker 3 = .ok (.isub, 1) := dk_100 (dk_at dksJ16_shiftLeftImplWorker_0 3 rfl rfl)
theorem dJ16_shiftLeftImplWorker_4 : decode cJ16_shiftLeftImplWorker 4 = .ok (.istore 5, 2) := dk_54 5 (dk_at dksJ16_shiftLeftImplWorker_0 4 rfl rfl)
theorem dJ16_shiftLeftImplWorker_6 : decode cJ16_shiftLeftImplWorker 6 = .ok (.iconst 0, 1) := dk_3 (dk_at dksJ16_shiftLeftImplWorker_0 6 rfl rfl)
theorem dJ16_shiftLeftImplWorker_7 : decode cJ16_shiftLeftImplWorker 7 = .ok (.istore 6, 2) := dk_54 6 (dk_at dksJ16_shiftLeftImplWorker_0 7 rfl rfl)
theorem dJ16_shiftLeftImplWorker_9 : decode cJ16_shiftLeftImplWorker 9 = .ok (.iload 6, 2) := dk_21 6 (dk_at dksJ16_shiftLeftImplWorker_0 9 rfl rfl)
theorem dJ16_shiftLeftImplWorker_11 : decode cJ16_shiftLeftImplWorker 11 = .ok (.iload 4, 2) := dk_21 4 (dk_at dksJ16_shiftLeftImplWorker_0 11 rfl rfl)
theorem dJ16_shiftLeftImplWorker_13 : decode cJ16_shiftLeftImplWorker 13 = .ok (.if_icmp .ge 29, 3) := dk_162 0 29 (dk_at dksJ16_shiftLeftImplWorker_0 13 rfl rfl)
theorem dJ16_shiftLeftImplWorker_16 : decode cJ16_shiftLeftImplWorker 16 = .ok (.aload_n 0, 1) := dk_42 (dk_at dksJ16_shiftLeftImplWorker_0 16 rfl rfl)
theorem dJ16_shiftLeftImplWorker_17 : decode cJ16_shiftLeftImplWorker 17 = .ok (.iload_n 2, 1) := dk_28 (dk_at dksJ16_shiftLeftImplWorker_0 17 rfl rfl)
theorem dJ16_shiftLeftImplWorker_18 : decode cJ16_shiftLeftImplWorker 18 = .ok (.iinc 2 1, 3) := dk_132 2 1 (dk_at dksJ16_shiftLeftImplWorker_0 18 rfl rfl)
theorem dJ16_shiftLeftImplWorker_21 : decode cJ16_shiftLeftImplWorker 21 = .ok (.aload_n 1, 1) := dk_43 (dk_at dksJ16_shiftLeftImplWorker_0 21 rfl rfl)
theorem dJ16_shiftLeftImplWorker_22 : decode cJ16_shiftLeftImplWorker 22 = .ok (.iload 6, 2) := dk_21 6 (dk_at dksJ16_shiftLeftImplWorker_0 22 rfl rfl)
theorem dJ16_shiftLeftImplWorker_24 : decode cJ16_shiftLeftImplWorker 24 = .ok (.iinc 6 1, 3) := dk_132 6 1 (dk_at dksJ16_shiftLeftImplWorker_1 0 rfl rfl)
theorem dJ16_shiftLeftImplWorker_27 : decode cJ16_shiftLeftImplWorker 27 = .ok (.iaload, 1) := dk_46 (dk_at dksJ16_shiftLeftImplWorker_1 3 rfl rfl)
theorem dJ16_shiftLeftImplWorker_28 : decode cJ16_shiftLeftImplWorker 28 = .ok (.iload_n 3, 1) := dk_29 (dk_at dksJ16_shiftLeftImplWorker_1 4 rfl rfl)
theorem dJ16_shiftLeftImplWorker_29 : decode cJ16_shiftLeftImplWorker 29 = .ok (.ishl, 1) := dk_120 (dk_at dksJ16_shiftLeftImplWorker_1 5 rfl rfl)
theorem dJ16_shiftLeftImplWorker_30 : decode cJ16_shiftLeftImplWorker 30 = .ok (.aload_n 1, 1) := dk_43 (dk_at dksJ16_shiftLeftImplWorker_1 6 rfl rfl)
theorem dJ16_shiftLeftImplWorker_31 : decode cJ16_shiftLeftImplWorker 31 = .ok (.iload 6, 2) := dk_21 6 (dk_at dksJ16_shiftLeftImplWorker_1 7 rfl rfl)
theorem dJ16_shiftLeftImplWorker_33 : decode cJ16_shiftLeftImplWorker 33 = .ok (.iaload, 1) := dk_46 (dk_at dksJ16_shiftLeftImplWorker_1 9 rfl rfl)
theorem dJ16_shiftLeftImplWorker_34 : decode cJ16_shiftLeftImplWorker 34 = .ok (.iload 5, 2) := dk_21 5 (dk_at dksJ16_shiftLeftImplWorker_1 10 rfl rfl)
theorem dJ16_shiftLeftImplWorker_36 : decode cJ16_shiftLeftImplWorker 36 = .ok (.iushr, 1) := dk_124 (dk_at dksJ16_shiftLeftImplWorker_1 12 rfl rfl)
theorem dJ16_shiftLeftImplWorker_37 : decode cJ16_shiftLeftImplWorker 37 = .ok (.ior, 1) := dk_128 (dk_at dksJ16_shiftLeftImplWorker_1 13 rfl rfl)
theorem dJ16_shiftLeftImplWorker_38 : decode cJ16_shiftLeftImplWorker 38 = .ok (.iastore, 1) := dk_79 (dk_at dksJ16_shiftLeftImplWorker_1 14 rfl rfl)
theorem dJ16_shiftLeftImplWorker_39 : decode cJ16_shiftLeftImplWorker 39 = .ok (.goto (-30), 3) := dk_167 255 226 (dk_at dksJ16_shiftLeftImplWorker_1 15 rfl rfl)
theorem dJ16_shiftLeftImplWorker_42 : decode cJ16_shiftLeftImplWorker 42 = .ok (.return_, 1) := dk_177 (dk_at dksJ16_shiftLeftImplWorker_1 18 rfl rfl)
abbrev cJ16_init_2 : ByteArray := prog_33_method_25_code
def yJ16_init_2 : MethodName := ⟨RJ16, "<init>", "([II)V"⟩
def dkwJ16_init_2_1 : List UInt8 := [180, 0, 28, 190, 18, 43, 161, 0, 7, 42, 182, 0, 44, 177]
abbrev dktJ16_init_2_1 : List UInt8 := dkwJ16_init_2_1 ++ []
def dkwJ16_init_2_0 : List UInt8 := [42, 183, 0, 3, 42, 43, 190, 154, 0, 7, 3, 167, 0, 4, 28, 181, 0, 32, 42, 43, 181, 0, 28, 42]
abbrev dktJ16_init_2_0 : List UInt8 := dkwJ16_init_2_0 ++ dktJ16_init_2_1
theorem dksJ16_init_2_0 : cJ16_init_2.data.toList.drop 0 = dktJ16_init_2_0 := by decide +kernel
theorem dksJ16_init_2_1 : cJ16_init_2.data.toList.drop 24 = dktJ16_init_2_1 := dk_seg dksJ16_init_2_0 24 rfl rfl
theorem dJ16_init_2_0 : decode cJ16_init_2 0 = .ok (.aload_n 0, 1) := dk_42 (dk_at dksJ16_init_2_0 0 rfl rfl)
theorem dJ16_init_2_1 : decode cJ16_init_2 1 = .ok (.invokespecial 3, 3) := dk_183 0 3 (dk_at dksJ16_init_2_0 1 rfl rfl)
theorem dJ16_init_2_4 : decode cJ16_init_2 4 = .ok (.aload_n 0, 1) := dk_42 (dk_at dksJ16_init_2_0 4 rfl rfl)
theorem dJ16_init_2_5 : decode cJ16_init_2 5 = .ok (.aload_n 1, 1) := dk_43 (dk_at dksJ16_init_2_0 5 rfl rfl)
theorem dJ16_init_2_6 : decode cJ16_init_2 6 = .ok (.arraylength, 1) := dk_190 (dk_at dksJ16_init_2_0 6 rfl rfl)
theorem dJ16_init_2_7 : decode cJ16_init_2 7 = .ok (.ifCond .ne 7, 3) := dk_154 0 7 (dk_at dksJ16_init_2_0 7 rfl rfl)
theorem dJ16_init_2_10 : decode cJ16_init_2 10 = .ok (.iconst 0, 1) := dk_3 (dk_at dksJ16_init_2_0 10 rfl rfl)
theorem dJ16_init_2_11 : decode cJ16_init_2 11 = .ok (.goto 4, 3) := dk_167 0 4 (dk_at dksJ16_init_2_0 11 rfl rfl)
theorem dJ16_init_2_14 : decode cJ16_init_2 14 = .ok (.iload_n 2, 1) := dk_28 (dk_at dksJ16_init_2_0 14 rfl rfl)
theorem dJ16_init_2_15 : decode cJ16_init_2 15 = .ok (.putfield 32, 3) := dk_181 0 32 (dk_at dksJ16_init_2_0 15 rfl rfl)
theorem dJ16_init_2_18 : decode cJ16_init_2 18 = .ok (.aload_n 0, 1) := dk_42 (dk_at dksJ16_init_2_0 18 rfl rfl)
theorem dJ16_init_2_19 : decode cJ16_init_2 19 = .ok (.aload_n 1, 1) := dk_43 (dk_at dksJ16_init_2_0 19 rfl rfl)
theorem dJ16_init_2_20 : decode cJ16_init_2 20 = .ok (.putfield 28, 3) := dk_181 0 28 (dk_at dksJ16_init_2_0 20 rfl rfl)
theorem dJ16_init_2_23 : decode cJ16_init_2 23 = .ok (.aload_n 0, 1) := dk_42 (dk_at dksJ16_init_2_0 23 rfl rfl)
theorem dJ16_init_2_24 : decode cJ16_init_2 24 = .ok (.getfield 28, 3) := dk_180 0 28 (dk_at dksJ16_init_2_1 0 rfl rfl)
theorem dJ16_init_2_27 : decode cJ16_init_2 27 = .ok (.arraylength, 1) := dk_190 (dk_at dksJ16_init_2_1 3 rfl rfl)
theorem dJ16_init_2_28 : decode cJ16_init_2 28 = .ok (.ldc 43, 2) := dk_18 43 (dk_at dksJ16_init_2_1 4 rfl rfl)
theorem dJ16_init_2_30 : decode cJ16_init_2 30 = .ok (.if_icmp .lt 7, 3) := dk_161 0 7 (dk_at dksJ16_init_2_1 6 rfl rfl)
theorem dJ16_init_2_33 : decode cJ16_init_2 33 = .ok (.aload_n 0, 1) := dk_42 (dk_at dksJ16_init_2_1 9 rfl rfl)
theorem dJ16_init_2_34 : decode cJ16_init_2 34 = .ok (.invokevirtual 44, 3) := dk_182 0 44 (dk_at dksJ16_init_2_1 10 rfl rfl)
theorem dJ16_init_2_37 : decode cJ16_init_2 37 = .ok (.return_, 1) := dk_177 (dk_at dksJ16_init_2_1 13 rfl rfl)
abbrev cJ16_checkRange : ByteArray := prog_33_method_27_code
def yJ16_checkRange : MethodName := ⟨RJ16, "checkRange", "()V"⟩
def dkwJ16_checkRange_1 : List UInt8 := [3, 46, 156, 0, 6, 184, 0, 101, 177]
abbrev dktJ16_checkRange_1 : List UInt8 := dkwJ16_checkRange_1 ++ []
def dkwJ16_checkRange_0 : List UInt8 := [42, 180, 0, 28, 190, 18, 43, 163, 0, 22, 42, 180, 0, 28, 190, 18, 43, 160, 0, 15, 42, 180, 0, 28]
abbrev dktJ16_checkRange_0 : List UInt8 := dkwJ16_checkRange_0 ++ dktJ16_checkRange_1
theorem dksJ16_checkRange_0 : cJ16_checkRange.data.toList.drop 0 = dktJ16_checkRange_0 := by decide +kernel
theorem dksJ16_checkRange_1 : cJ16_checkRange.data.toList.drop 24 = dktJ16_checkRange_1 := dk_seg dksJ16_checkRange_0 24 rfl rfl
theorem dJ16_checkRange_0 : decode cJ16_checkRange 0 = .ok (.aload_n 0, 1) := dk_42 (dk_at dksJ16_checkRange_0 0 rfl rfl)
theorem dJ16_checkRange_1 : decode cJ16_checkRange 1 = .ok (.getfield 28, 3) := dk_180 0 28 (dk_at dksJ16_checkRange_0 1 rfl rfl)
theorem dJ16_checkRange_4 : decode cJ16_checkRange 4 = .ok (.arraylength, 1) := dk_190 (dk_at dksJ16_checkRange_0 4 rfl rfl)
theorem dJ16_checkRange_5 : decode cJ16_checkRange 5 = .ok (.ldc 43, 2) := dk_18 43 (dk_at dksJ16_checkRange_0 5 rfl rfl)
theorem dJ16_checkRange_7 : decode cJ16_checkRange 7 = .ok (.if_icmp .gt 22, 3) := dk_163 0 22 (dk_at dksJ16_checkRange_0 7 rfl rfl)
theorem dJ16_checkRange_10 : decode cJ16_checkRange 10 = .ok (.aload_n 0, 1) := dk_42 (dk_at dksJ16_checkRange_0 10 rfl rfl)
theorem dJ16_checkRange_11 : decode cJ16_checkRange 11 = .ok (.getfield 28, 3) := dk_180 0 28 (dk_at dksJ16_checkRange_0 11 rfl rfl)
theorem dJ16_checkRange_14 : decode cJ16_checkRange 14 = .ok (.arraylength, 1) := dk_190 (dk_at dksJ16_checkRange_0 14 rfl rfl)
theorem dJ16_checkRange_15 : decode cJ16_checkRange 15 = .ok (.ldc 43, 2) := dk_18 43 (dk_at dksJ16_checkRange_0 15 rfl rfl)
theorem dJ16_checkRange_17 : decode cJ16_checkRange 17 = .ok (.if_icmp .ne 15, 3) := dk_160 0 15 (dk_at dksJ16_checkRange_0 17 rfl rfl)
theorem dJ16_checkRange_20 : decode cJ16_checkRange 20 = .ok (.aload_n 0, 1) := dk_42 (dk_at dksJ16_checkRange_0 20 rfl rfl)
theorem dJ16_checkRange_21 : decode cJ16_checkRange 21 = .ok (.getfield 28, 3) := dk_180 0 28 (dk_at dksJ16_checkRange_0 21 rfl rfl)
theorem dJ16_checkRange_24 : decode cJ16_checkRange 24 = .ok (.iconst 0, 1) := dk_3 (dk_at dksJ16_checkRange_1 0 rfl rfl)
theorem dJ16_checkRange_25 : decode cJ16_checkRange 25 = .ok (.iaload, 1) := dk_46 (dk_at dksJ16_checkRange_1 1 rfl rfl)
theorem dJ16_checkRange_26 : decode cJ16_checkRange 26 = .ok (.ifCond .ge 6, 3) := dk_156 0 6 (dk_at dksJ16_checkRange_1 2 rfl rfl)
theorem dJ16_checkRange_29 : decode cJ16_checkRange 29 = .ok (.invokestatic 101, 3) := dk_184 0 101 (dk_at dksJ16_checkRange_1 5 rfl rfl)
theorem dJ16_checkRange_32 : decode cJ16_checkRange 32 = .ok (.return_, 1) := dk_177 (dk_at dksJ16_checkRange_1 8 rfl rfl)
abbrev cJ16_shiftRightImpl : ByteArray := prog_33_method_105_code
def yJ16_shiftRightImpl : MethodName := ⟨RJ16, "shiftRightImpl", "(I)Ljava/math/BigInteger;"⟩
def dkwJ16_shiftRightImpl_12 : List UInt8 := [25, 5, 42, 180, 0, 32, 183, 0, 175, 176]
abbrev dktJ16_shiftRightImpl_12 : List UInt8 := dkwJ16_shiftRightImpl_12 ++ []
def dkwJ16_shiftRightImpl_11 : List UInt8 := [167, 0, 4, 3, 54, 6, 21, 6, 153, 0, 11, 42, 25, 5, 182, 2, 218, 58, 5, 187, 0, 23, 89]
abbrev dktJ16_shiftRightImpl_11 : List UInt8 := dkwJ16_shiftRightImpl_11 ++ dktJ16_shiftRightImpl_12
def dkwJ16_shiftRightImpl_10 : List UInt8 := [153, 0, 29, 42, 180, 0, 28, 21, 4, 28, 100, 4, 100, 46, 16, 32, 29, 100, 120, 153, 0, 7, 4]
abbrev dktJ16_shiftRightImpl_10 : List UInt8 := dkwJ16_shiftRightImpl_10 ++ dktJ16_shiftRightImpl_11
def dkwJ16_shiftRightImpl_9 : List UInt8 := [153, 0, 7, 4, 167, 0, 4, 3, 54, 6, 132, 7, 255, 167, 255, 224, 21, 6, 154, 0, 33, 29]
abbrev dktJ16_shiftRightImpl_9 : List UInt8 := dkwJ16_shiftRightImpl_9 ++ dktJ16_shiftRightImpl_10
def dkwJ16_shiftRightImpl_8 : List UInt8 := [100, 54, 8, 21, 7, 21, 8, 161, 0, 31, 21, 6, 154, 0, 26, 42, 180, 0, 28, 21, 7, 46]
abbrev dktJ16_shiftRightImpl_8 : List UInt8 := dkwJ16_shiftRightImpl_8 ++ dktJ16_shiftRightImpl_9
def dkwJ16_shiftRightImpl_7 : List UInt8 := [21, 8, 184, 2, 102, 42, 180, 0, 32, 156, 0, 101, 3, 54, 6, 21, 4, 4, 100, 54, 7, 21, 4, 28]
abbrev dktJ16_shiftRightImpl_7 : List UInt8 := dkwJ16_shiftRightImpl_7 ++ dktJ16_shiftRightImpl_8
def dkwJ16_shiftRightImpl_6 : List UInt8 := [21, 6, 21, 8, 21, 6, 96, 25, 5, 190, 184, 2, 99, 87, 25, 5, 42, 180, 0, 28, 21, 6, 29]
abbrev dktJ16_shiftRightImpl_6 : List UInt8 := dkwJ16_shiftRightImpl_6 ++ dktJ16_shiftRightImpl_7
def dkwJ16_shiftRightImpl_5 : List UInt8 := [58, 5, 21, 4, 28, 100, 4, 100, 54, 8, 3, 21, 8, 4, 96, 42, 180, 0, 28, 190, 184, 2, 99, 87]
abbrev dktJ16_shiftRightImpl_5 : List UInt8 := dkwJ16_shiftRightImpl_5 ++ dktJ16_shiftRightImpl_6
def dkwJ16_shiftRightImpl_4 : List UInt8 := [58, 5, 25, 5, 21, 6, 132, 6, 1, 21, 7, 79, 167, 0, 13, 21, 4, 28, 100, 4, 100, 188, 10]
abbrev dktJ16_shiftRightImpl_4 : List UInt8 := dkwJ16_shiftRightImpl_4 ++ dktJ16_shiftRightImpl_5
def dkwJ16_shiftRightImpl_3 : List UInt8 := [54, 6, 42, 180, 0, 28, 3, 46, 29, 124, 54, 7, 21, 7, 153, 0, 24, 21, 4, 28, 100, 188, 10]
abbrev dktJ16_shiftRightImpl_3 : List UInt8 := dkwJ16_shiftRightImpl_3 ++ dktJ16_shiftRightImpl_4
def dkwJ16_shiftRightImpl_2 : List UInt8 := [154, 0, 23, 21, 4, 28, 100, 54, 6, 42, 180, 0, 28, 21, 6, 184, 2, 178, 58, 5, 167, 0, 102, 3]
abbrev dktJ16_shiftRightImpl_2 : List UInt8 := dkwJ16_shiftRightImpl_2 ++ dktJ16_shiftRightImpl_3
def dkwJ16_shiftRightImpl_1 : List UInt8 := [161, 0, 22, 42, 180, 0, 32, 155, 0, 9, 178, 0, 22, 167, 0, 8, 178, 1, 97, 4, 50, 176, 29]
abbrev dktJ16_shiftRightImpl_1 : List UInt8 := dkwJ16_shiftRightImpl_1 ++ dktJ16_shiftRightImpl_2
def dkwJ16_shiftRightImpl_0 : List UInt8 := [27, 8, 124, 61, 27, 16, 31, 126, 62, 42, 180, 0, 28, 190, 54, 4, 1, 58, 5, 28, 21, 4]
abbrev dktJ16_shiftRightImpl_0 : List UInt8 := dkwJ16_shiftRightImpl_0 ++ dktJ16_shiftRightImpl_1
theorem dksJ16_shiftRightImpl_0 : cJ16_shiftRightImpl.data.toList.drop 0 = dktJ16_shiftRightImpl_0 := by decide +kernel
theorem dksJ16_shiftRightImpl_1 : cJ16_shiftRightImpl.data.toList.drop 22 = dktJ16_shiftRightImpl_1 := dk_seg dksJ16_shiftRightImpl_0 22 rfl rfl
theorem dksJ16_shiftRightImpl_2 : cJ16_shiftRightImpl.data.toList.drop 45 = dktJ16_shiftRightImpl_2 := dk_seg dksJ16_shiftRightImpl_1 23 rfl rfl
theorem dksJ16_shiftRightImpl_3 : cJ16_shiftRightImpl.data.toList.drop 69 = dktJ16_shiftRightImpl_3 := dk_seg dksJ16_shiftRightImpl_2 24 rfl rfl
theorem dksJ16_shiftRightImpl_4 : cJ16_shiftRightImpl.data.toList.drop 92 = dktJ16_shiftRightImpl_4 := dk_seg dksJ16_shiftRightImpl_3 23 rfl rfl
theorem dksJ16_shiftRightImpl_5 : cJ16_shiftRightImpl.data.toList.drop 115 = dktJ16_shiftRightImpl_5 := dk_seg dksJ16_shiftRightImpl_4 23 rfl rfl
theorem dksJ16_shiftRightImpl_6 : cJ16_shiftRightImpl.data.toList.drop 139 = dktJ16_shiftRightImpl_6 := dk_seg dksJ16_shiftRightImpl_5 24 rfl rfl
theorem dksJ16_shiftRightImpl_7 : cJ16_shiftRightImpl.data.toList.drop 162 = dktJ16_shiftRightImpl_7 := dk_seg dksJ16_shiftRightImpl_6 23 rfl rfl
theorem dksJ16_shiftRightImpl_8 : cJ16_shiftRightImpl.data.toList.drop 186 = dktJ16_shiftRightImpl_8 := dk_seg dksJ16_shiftRightImpl_7 24 rfl rfl
theorem dksJ16_shiftRightImpl_9 : cJ16_shiftRightImpl.data.toList.drop 208 = dktJ16_shiftRightImpl_9 := dk_seg dksJ16_shiftRightImpl_8 22 rfl rfl
theorem dksJ16_shiftRightImpl_10 : cJ16_shiftRightImpl.data.toList.drop 230 = dktJ16_shiftRightImpl_10 := dk_seg dksJ16_shiftRightImpl_9 22 rfl rfl
theorem dksJ16_shiftRightImpl_11 : cJ16_shiftRightImpl.data.toList.drop 253 = dktJ16_shiftRightImpl_11 := dk_seg dksJ16_shiftRightImpl_10 23 rfl rfl
theorem dksJ16_shiftRightImpl_12 : cJ16_shiftRightImpl.data.toList.drop 276 = dktJ16_shiftRightImpl_12 := dk_seg dksJ16_shiftRightImpl_11 23 rfl rfl
theorem dJ16_shiftRightImpl_0 : decode cJ16_shiftRightImpl 0 = .ok (.iload_n 1, 1) := dk_27 (dk_at dksJ16_shiftRightImpl_0 0 rfl rfl)
theorem dJ16_shiftRightImpl_1 : decode cJ16_shiftRightImpl 1 = .ok (.iconst 5, 1) := dk_8 (dk_at dksJ16_shiftRightImpl_0 1 rfl rfl)
theorem dJ16_shiftRightImpl_2 : decode cJ16_shiftRightImpl 2 = .ok (.iushr, 1) := dk_124 (dk_at dksJ16_shiftRightImpl_0 2 rfl rfl)
theorem dJ16_shiftRightImpl_3 : decode cJ16_shiftRightImpl 3 = .ok (.istore_n 2, 1) := dk_61 (dk_at dksJ16_shiftRightImpl_0 3 rfl rfl)
theorem dJ16_shiftRightImpl_4 : decode cJ16_shiftRightImpl 4 = .ok (.iload_n 1, 1) := dk_27 (dk_at dksJ16_shiftRightImpl_0 4 rfl rfl)
theorem dJ16_shiftRightImpl_5 : decode cJ16_shiftRightImpl 5 = .ok (.bipush 31, 2) := dk_16 31 (dk_at dksJ16_shiftRightImpl_0 5 rfl rfl)
theorem dJ16_shiftRightImpl_7 : decode cJ16_shiftRightImpl 7 = .ok (.iand, 1) := dk_126 (dk_at dksJ16_shiftRightImpl_0 7 rfl rfl)
theorem dJ16_shiftRightImpl_8 : decode cJ16_shiftRightImpl 8 = .ok (.istore_n 3, 1) := dk_62 (dk_at dksJ16_shiftRightImpl_0 8 rfl rfl)
theorem dJ16_shiftRightImpl_9 : decode cJ16_shiftRightImpl 9 = .ok (.aload_n 0, 1) := dk_42 (dk_at dksJ16_shiftRightImpl_0 9 rfl rfl)
theorem dJ16_shiftRightImpl_10 : decode cJ16_shiftRightImpl 10 = .ok (.getfield 28, 3) := dk_180 0 28 (dk_at dksJ16_shiftRightImpl_0 10 rfl rfl)
theorem dJ16_shiftRightImpl_13 : decode cJ16_shiftRightImpl 13 = .ok (.arraylength, 1) := dk_190 (dk_at dksJ16_shiftRightImpl_0 13 rfl rfl)
theorem dJ16_shiftRightImpl_14 : decode cJ16_shiftRightImpl 14 = .ok (.istore 4, 2) := dk_54 4 (dk_at dksJ16_shiftRightImpl_0 14 rfl rfl)
theorem dJ16_shiftRightImpl_16 : decode cJ16_shiftRightImpl 16 = .ok (.aconst_null, 1) := dk_1 (dk_at dksJ16_shiftRightImpl_0 16 rfl rfl)
theorem dJ16_shiftRightImpl_17 : decode cJ16_shiftRightImpl 17 = .ok (.astore 5, 2) := dk_58 5 (dk_at dksJ16_shiftRightImpl_0 17 rfl rfl)
theorem dJ16_shiftRightImpl_19 : decode cJ16_shiftRightImpl 19 = .ok (.iload_n 2, 1) := dk_28 (dk_at dksJ16_shiftRightImpl_0 19 rfl rfl)
theorem dJ16_shiftRightImpl_20 : decode cJ16_shiftRightImpl 20 = .ok (.iload 4, 2) := dk_21 4 (dk_at dksJ16_shiftRightImpl_0 20 rfl rfl)
theorem dJ16_shiftRightImpl_22 : decode cJ16_shiftRightImpl 22 = .ok (.if_icmp .lt 22, 3) := dk_161 0 22 (dk_at dksJ16_shiftRightImpl_1 0 rfl rfl)
theorem dJ16_shiftRightImpl_25 : decode cJ16_shiftRightImpl 25 = .ok (.aload_n 0, 1) := dk_42 (dk_at dksJ16_shiftRightImpl_1 3 rfl rfl)
theorem dJ16_shiftRightImpl_26 : decode cJ16_shiftRightImpl 26 = .ok (.getfield 32, 3) := dk_180 0 32 (dk_at dksJ16_shiftRightImpl_1 4 rfl rfl)
theorem dJ16_shiftRightImpl_29 : decode cJ16_shiftRightImpl 29 = .ok (.ifCond .lt 9, 3) := dk_155 0 9 (dk_at dksJ16_shiftRightImpl_1 7 rfl rfl)
theorem dJ16_shiftRightImpl_32 : decode cJ16_shiftRightImpl 32 = .ok (.getstatic 22, 3) := dk_178 0 22 (dk_at dksJ16_shiftRightImpl_1 10 rfl rfl)
theorem dJ16_shiftRightImpl_35 : decode cJ16_shiftRightImpl 35 = .ok (.goto 8, 3) := dk_167 0 8 (dk_at dksJ16_shiftRightImpl_1 13 rfl rfl)
theorem dJ16_shiftRightImpl_38 : decode cJ16_shiftRightImpl 38 = .ok (.getstatic 353, 3) := dk_178 1 97 (dk_at dksJ16_shiftRightImpl_1 16 rfl rfl)
theorem dJ16_shiftRightImpl_41 : decode cJ16_shiftRightImpl 41 = .ok (.iconst 1, 1) := dk_4 (dk_at dksJ16_shiftRightImpl_1 19 rfl rfl)
theorem dJ16_shiftRightImpl_42 : decode cJ16_shiftRightImpl 42 = .ok (.aaload, 1) := dk_50 (dk_at dksJ16_shiftRightImpl_1 20 rfl rfl)
theorem dJ16_shiftRightImpl_43 : decode cJ16_shiftRightImpl 43 = .ok (.areturn, 1) := dk_176 (dk_at dksJ16_shiftRightImpl_1 21 rfl rfl)
theorem dJ16_shiftRightImpl_44 : decode cJ16_shiftRightImpl 44 = .ok (.iload_n 3, 1) := dk_29 (dk_at dksJ16_shiftRightImpl_1 22 rfl rfl)
theorem dJ16_shiftRightImpl_45 : decode cJ16_shiftRightImpl 45 = .ok (.ifCond .ne 23, 3) := dk_154 0 23 (dk_at dksJ16_shiftRightImpl_2 0 rfl rfl)
theorem dJ16_shiftRightImpl_48 : decode cJ16_shiftRightImpl 48 = .ok (.iload 4, 2) := dk_21 4 (dk_at dksJ16_shiftRightImpl_2 3 rfl rfl)
theorem dJ16_shiftRightImpl_50 : decode cJ16_shiftRightImpl 50 = .ok (.iload_n 2, 1) := dk_28 (dk_at dksJ16_shiftRightImpl_2 5 rfl rfl)
theorem dJ16_shiftRightImpl_51 : decode cJ16_shiftRightImpl 51 = .ok (.isub, 1) := dk_100 (dk_at dksJ16_shiftRightImpl_2 6 rfl rfl)
theorem dJ16_shiftRightImpl_52 : decode cJ16_shiftRightImpl 52 = .ok (.istore 6, 2) := dk_54 6 (dk_at dksJ16_shiftRightImpl_2 7 rfl rfl)
theorem dJ16_shiftRightImpl_54 : decode cJ16_shiftRightImpl 54 = .ok (.aload_n 0, 1) := dk_42 (dk_at dksJ16_shiftRightImpl_2 9 rfl rfl)
theorem dJ16_shiftRightImpl_55 : decode cJ16_shiftRightImpl 55 = .ok (.getfield 28, 3) := dk_180 0 28 (dk_at dksJ16_shiftRightImpl_2 10 rfl rfl)
theorem dJ16_shiftRightImpl_58 : decode cJ16_shiftRightImpl 58 = .ok (.iload 6, 2) := dk_21 6 (dk_at dksJ16_shiftRightImpl_2 13 rfl rfl)
theorem dJ16_shiftRightImpl_60 : decode cJ16_shiftRightImpl 60 = .ok (.invokestatic 690, 3) := dk_184 2 178 (dk_at dksJ16_shiftRightImpl_2 15 rfl rfl)
theorem dJ16_shiftRightImpl_63 : decode cJ16_shiftRightImpl 63 = .ok (.astore 5, 2) := dk_58 5 (dk_at dksJ16_shiftRightImpl_2 18 rfl rfl)
theorem dJ16_shiftRightImpl_65 : decode cJ16_shiftRightImpl 65 = .ok (.goto 102, 3) := dk_167 0 102 (dk_at dksJ16_shiftRightImpl_2 20 rfl rfl)
theorem dJ16_shiftRightImpl_68 : decode cJ16_shiftRightImpl 68 = .ok (.iconst 0, 1) := dk_3 (dk_at dksJ16_shiftRightImpl_2 23 rfl rfl)
theorem dJ16_shiftRightImpl_69 : decode cJ16_shiftRightImpl 69 = .ok (.istore 6, 2) := dk_54 6 (dk_at dksJ16_shiftRightImpl_3 0 rfl rfl)
theorem dJ16_shiftRightImpl_71 : decode cJ16_shiftRightImpl 71 = .ok (.aload_n 0, 1) := dk_42 (dk_at dksJ16_shiftRightImpl_3 2 rfl rfl)
theorem dJ16_shiftRightImpl_72 : decode cJ16_shiftRightImpl 72 = .ok (.getfield 28, 3) := dk_180 0 28 (dk_at dksJ16_shiftRightImpl_3 3 rfl rfl)
theorem dJ16_shiftRightImpl_75 : decode cJ16_shiftRightImpl 75 = .ok (.iconst 0, 1) := dk_3 (dk_at dksJ16_shiftRightImpl_3 6 rfl rfl)
theorem dJ16_shiftRightImpl_76 : decode cJ16_shiftRightImpl 76 = .ok (.iaload, 1) := dk_46 (dk_at dksJ16_shiftRightImpl_3 7 rfl rfl)
theorem dJ16_shiftRightImpl_77 : decode cJ16_shiftRightImpl 77 = .ok (.iload_n 3, 1) := dk_29 (dk_at dksJ16_shiftRightImpl_3 8 rfl rfl)
theorem dJ16_shiftRightImpl_78 : decode cJ16_shiftRightImpl 78 = .ok (.iushr, 1) := dk_124 (dk_at dksJ16_shiftRightImpl_3 9 rfl rfl)
theorem dJ16_shiftRightImpl_79 : decode cJ16_shiftRightImpl 79 = .ok (.istore 7, 2) := dk_54 7 (dk_at dksJ16_shiftRightImpl_3 10 rfl rfl)
theorem dJ16_shiftRightImpl_81 : decode cJ16_shiftRightImpl 81 = .ok (.iload 7, 2) := dk_21 7 (dk_at dksJ16_shiftRightImpl_3 12 rfl rfl)
theorem dJ16_shiftRightImpl_83 : decode cJ16_shiftRightImpl 83 = .ok (.ifCond .eq 24, 3) := dk_153 0 24 (dk_at dksJ16_shiftRightImpl_3 14 rfl rfl)
theorem dJ16_shiftRightImpl_86 : decode cJ16_shiftRightImpl 86 = .ok (.iload 4, 2) := dk_21 4 (dk_at dksJ16_shiftRightImpl_3 17 rfl rfl)
theorem dJ16_shiftRightImpl_88 : decode cJ16_shiftRightImpl 88 = .ok (.iload_n 2, 1) := dk_28 (dk_at dksJ16_shiftRightImpl_3 19 rfl rfl)
theorem dJ16_shiftRightImpl_89 : decode cJ16_shiftRightImpl 89 = .ok (.isub, 1) := dk_100 (dk_at dksJ16_shiftRightImpl_3 20 rfl rfl)
theorem dJ16_shiftRightImpl_90 : decode cJ16_shiftRightImpl 90 = .ok (.newarray .int, 2) := dk_188_10 (dk_at dksJ16_shiftRightImpl_3 21 rfl rfl)
theorem dJ16_shiftRightImpl_92 : decode cJ16_shiftRightImpl 92 = .ok (.astore 5, 2) := dk_58 5 (dk_at dksJ16_shiftRightImpl_4 0 rfl rfl)
theorem dJ16_shiftRightImpl_94 : decode cJ16_shiftRightImpl 94 = .ok (.aload 5, 2) := dk_25 5 (dk_at dksJ16_shiftRightImpl_4 2 rfl rfl)
theorem dJ16_shiftRightImpl_96 : decode cJ16_shiftRightImpl 96 = .ok (.iload 6, 2) := dk_21 6 (dk_at dksJ16_shiftRightImpl_4 4 rfl rfl)
theorem dJ16_shiftRightImpl_98 : decode cJ16_shiftRightImpl 98 = .ok (.iinc 6 1, 3) := dk_132 6 1 (dk_at dksJ16_shiftRightImpl_4 6 rfl rfl)
theorem dJ16_shiftRightImpl_101 : decode cJ16_shiftRightImpl 101 = .ok (.iload 7, 2) := dk_21 7 (dk_at dksJ16_shiftRightImpl_4 9 rfl rfl)
theorem dJ16_shiftRightImpl_103 : decode cJ16_shiftRightImpl 103 = .ok (.iastore, 1) := dk_79 (dk_at dksJ16_shiftRightImpl_4 11 rfl rfl)
theorem dJ16_shiftRightImpl_104 : decode cJ16_shiftRightImpl 104 = .ok (.goto 13, 3) := dk_167 0 13 (dk_at dksJ16_shiftRightImpl_4 12 rfl rfl)
theorem dJ16_shiftRightImpl_107 : decode cJ16_shiftRightImpl 107 = .ok (.iload 4, 2) := dk_21 4 (dk_at dksJ16_shiftRightImpl_4 15 rfl rfl)
theorem dJ16_shiftRightImpl_109 : decode cJ16_shiftRightImpl 109 = .ok (.iload_n 2, 1) := dk_28 (dk_at dksJ16_shiftRightImpl_4 17 rfl rfl)
theorem dJ16_shiftRightImpl_110 : decode cJ16_shiftRightImpl 110 = .ok (.isub, 1) := dk_100 (dk_at dksJ16_shiftRightImpl_4 18 rfl rfl)
theorem dJ16_shiftRightImpl_111 : decode cJ16_shiftRightImpl 111 = .ok (.iconst 1, 1) := dk_4 (dk_at dksJ16_shiftRightImpl_4 19 rfl rfl)
theorem dJ16_shiftRightImpl_112 : decode cJ16_shiftRightImpl 112 = .ok (.isub, 1) := dk_100 (dk_at dksJ16_shiftRightImpl_4 20 rfl rfl)
theorem dJ16_shiftRightImpl_113 : decode cJ16_shiftRightImpl 113 = .ok (.newarray .int, 2) := dk_188_10 (dk_at dksJ16_shiftRightImpl_4 21 rfl rfl)
theorem dJ16_shiftRightImpl_115 : decode cJ16_shiftRightImpl 115 = .ok (.astore 5, 2) := dk_58 5 (dk_at dksJ16_shiftRightImpl_5 0 rfl rfl)
theorem dJ16_shiftRightImpl_117 : decode cJ16_shiftRightImpl 117 = .ok (.iload 4, 2) := dk_21 4 (dk_at dksJ16_shiftRightImpl_5 2 rfl rfl)
theorem dJ16_shiftRightImpl_119 : decode cJ16_shiftRightImpl 119 = .ok (.iload_n 2, 1) := dk_28 (dk_at dksJ16_shiftRightImpl_5 4 rfl rfl)
theorem dJ16_shiftRightImpl_120 : decode cJ16_shiftRightImpl 120 = .ok (.isub, 1) := dk_100 (dk_at dksJ16_shiftRightImpl_5 5 rfl rfl)
theorem dJ16_shiftRightImpl_121 : decode cJ16_shiftRightImpl 121 = .ok (.iconst 1, 1) := dk_4 (dk_at dksJ16_shiftRightImpl_5 6 rfl rfl)
theorem dJ16_shiftRightImpl_122 : decode cJ16_shiftRightImpl 122 = .ok (.isub, 1) := dk_100 (dk_at dksJ16_shiftRightImpl_5 7 rfl rfl)
theorem dJ16_shiftRightImpl_123 : decode cJ16_shiftRightImpl 123 = .ok (.istore 8, 2) := dk_54 8 (dk_at dksJ16_shiftRightImpl_5 8 rfl rfl)
theorem dJ16_shiftRightImpl_125 : decode cJ16_shiftRightImpl 125 = .ok (.iconst 0, 1) := dk_3 (dk_at dksJ16_shiftRightImpl_5 10 rfl rfl)
theorem dJ16_shiftRightImpl_126 : decode cJ16_shiftRightImpl 126 = .ok (.iload 8, 2) := dk_21 8 (dk_at dksJ16_shiftRightImpl_5 11 rfl rfl)
theorem dJ16_shiftRightImpl_128 : decode cJ16_shiftRightImpl 128 = .ok (.iconst 1, 1) := dk_4 (dk_at dksJ16_shiftRightImpl_5 13 rfl rfl)
theorem dJ16_shiftRightImpl_129 : decode cJ16_shiftRightImpl 129 = .ok (.iadd, 1) := dk_96 (dk_at dksJ16_shiftRightImpl_5 14 rfl rfl)
theorem dJ16_shiftRightImpl_130 : decode cJ16_shiftRightImpl 130 = .ok (.aload_n 0, 1) := dk_42 (dk_at dksJ16_shiftRightImpl_5 15 rfl rfl)
theorem dJ16_shiftRightImpl_131 : decode cJ16_shiftRightImpl 131 = .ok (.getfield 28, 3) := dk_180 0 28 (dk_at dksJ16_shiftRightImpl_5 16 rfl rfl)
theorem dJ16_shiftRightImpl_134 : decode cJ16_shiftRightImpl 134 = .ok (.arraylength, 1) := dk_190 (dk_at dksJ16_shiftRightImpl_5 19 rfl rfl)
theorem dJ16_shiftRightImpl_135 : decode cJ16_shiftRightImpl 135 = .ok (.invokestatic 611, 3) := dk_184 2 99 (dk_at dksJ16_shiftRightImpl_5 20 rfl rfl)
theorem dJ16_shiftRightImpl_138 : decode cJ16_shiftRightImpl 138 = .ok (.pop, 1) := dk_87 (dk_at dksJ16_shiftRightImpl_5 23 rfl rfl)
theorem dJ16_shiftRightImpl_139 : decode cJ16_shiftRightImpl 139 = .ok (.iload 6, 2) := dk_21 6 (dk_at dksJ16_shiftRightImpl_6 0 rfl rfl)
theorem dJ16_shiftRightImpl_141 : decode cJ16_shiftRightImpl 141 = .ok (.iload 8, 2) := dk_21 8 (dk_at dksJ16_shiftRightImpl_6 2 rfl rfl)
theorem dJ16_shiftRightImpl_143 : decode cJ16_shiftRightImpl 143 = .ok (.iload 6, 2) := dk_21 6 (dk_at dksJ16_shiftRightImpl_6 4 rfl rfl)
theorem dJ16_shiftRightImpl_145 : decode cJ16_shiftRightImpl 145 = .ok (.iadd, 1) := dk_96 (dk_at dksJ16_shiftRightImpl_6 6 rfl rfl)
theorem dJ16_shiftRightImpl_146 : decode cJ16_shiftRightImpl 146 = .ok (.aload 5, 2) := dk_25 5 (dk_at dksJ16_shiftRightImpl_6 7 rfl rfl)
theorem dJ16_shiftRightImpl_148 : decode cJ16_shiftRightImpl 148 = .ok (.arraylength, 1) := dk_190 (dk_at dksJ16_shiftRightImpl_6 9 rfl rfl)
theorem dJ16_shiftRightImpl_149 : decode cJ16_shiftRightImpl 149 = .ok (.invokestatic 611, 3) := dk_184 2 99 (dk_at dksJ16_shiftRightImpl_6 10 rfl rfl)
theorem dJ16_shiftRightImpl_152 : decode cJ16_shiftRightImpl 152 = .ok (.pop, 1) := dk_87 (dk_at dksJ16_shiftRightImpl_6 13 rfl rfl)
theorem dJ16_shiftRightImpl_153 : decode cJ16_shiftRightImpl 153 = .ok (.aload 5, 2) := dk_25 5 (dk_at dksJ16_shiftRightImpl_6 14 rfl rfl)
theorem dJ16_shiftRightImpl_155 : decode cJ16_shiftRightImpl 155 = .ok (.aload_n 0, 1) := dk_42 (dk_at dksJ16_shiftRightImpl_6 16 rfl rfl)
theorem dJ16_shiftRightImpl_156 : decode cJ16_shiftRightImpl 156 = .ok (.getfield 28, 3) := dk_180 0 28 (dk_at dksJ16_shiftRightImpl_6 17 rfl rfl)
theorem dJ16_shiftRightImpl_159 : decode cJ16_shiftRightImpl 159 = .ok (.iload 6, 2) := dk_21 6 (dk_at dksJ16_shiftRightImpl_6 20 rfl rfl)
theorem dJ16_shiftRightImpl_161 : decode cJ16_shiftRightImpl 161 = .ok (.iload_n 3, 1) := dk_29 (dk_at dksJ16_shiftRightImpl_6 22 rfl rfl)
theorem dJ16_shiftRightImpl_162 : decode cJ16_shiftRightImpl 162 = .ok (.iload 8, 2) := dk_21 8 (dk_at dksJ16_shiftRightImpl_7 0 rfl rfl)
theorem dJ16_shiftRightImpl_164 : decode cJ16_shiftRightImpl 164 = .ok (.invokestatic 614, 3) := dk_184 2 102 (dk_at dksJ16_shiftRightImpl_7 2 rfl rfl)
theorem dJ16_shiftRightImpl_167 : decode cJ16_shiftRightImpl 167 = .ok (.aload_n 0, 1) := dk_42 (dk_at dksJ16_shiftRightImpl_7 5 rfl rfl)
theorem dJ16_shiftRightImpl_168 : decode cJ16_shiftRightImpl 168 = .ok (.getfield 32, 3) := dk_180 0 32 (dk_at dksJ16_shiftRightImpl_7 6 rfl rfl)
theorem dJ16_shiftRightImpl_171 : decode cJ16_shiftRightImpl 171 = .ok (.ifCond .ge 101, 3) := dk_156 0 101 (dk_at dksJ16_shiftRightImpl_7 9 rfl rfl)
theorem dJ16_shiftRightImpl_174 : decode cJ16_shiftRightImpl 174 = .ok (.iconst 0, 1) := dk_3 (dk_at dksJ16_shiftRightImpl_7 12 rfl rfl)
theorem dJ16_shiftRightImpl_175 : decode cJ16_shiftRightImpl 175 = .ok (.istore 6, 2) := dk_54 6 (dk_at dksJ16_shiftRightImpl_7 13 rfl rfl)
theorem dJ16_shiftRightImpl_177 : decode cJ16_shiftRightImpl 177 = .ok (.iload 4, 2) := dk_21 4 (dk_at dksJ16_shiftRightImpl_7 15 rfl rfl)
theorem dJ16_shiftRightImpl_179 : decode cJ16_shiftRightImpl 179 = .ok (.iconst 1, 1) := dk_4 (dk_at dksJ16_shiftRightImpl_7 17 rfl rfl)
theorem dJ16_shiftRightImpl_180 : decode cJ16_shiftRightImpl 180 = .ok (.isub, 1) := dk_100 (dk_at dksJ16_shiftRightImpl_7 18 rfl rfl)
theorem dJ16_shiftRightImpl_181 : decode cJ16_shiftRightImpl 181 = .ok (.istore 7, 2) := dk_54 7 (dk_at dksJ16_shiftRightImpl_7 19 rfl rfl)
theorem dJ16_shiftRightImpl_183 : decode cJ16_shiftRightImpl 183 = .ok (.iload 4, 2) := dk_21 4 (dk_at dksJ16_shiftRightImpl_7 21 rfl rfl)
theorem dJ16_shiftRightImpl_185 : decode cJ16_shiftRightImpl 185 = .ok (.iload_n 2, 1) := dk_28 (dk_at dksJ16_shiftRightImpl_7 23 rfl rfl)
theorem dJ16_shiftRightImpl_186 : decode cJ16_shiftRightImpl 186 = .ok (.isub, 1) := dk_100 (dk_at dksJ16_shiftRightImpl_8 0 rfl rfl)
theorem dJ16_shiftRightImpl_187 : decode cJ16_shiftRightImpl 187 = .ok (.istore 8, 2) := dk_54 8 (dk_at dksJ16_shiftRightImpl_8 1 rfl rfl)
theorem dJ16_shiftRightImpl_189 : decode cJ16_shiftRightImpl 189 = .ok (.iload 7, 2) := dk_21 7 (dk_at dksJ16_shiftRightImpl_8 3 rfl rfl)
theorem dJ16_shiftRightImpl_191 : decode cJ16_shiftRightImpl 191 = .ok (.iload 8, 2) := dk_21 8 (dk_at dksJ16_shiftRightImpl_8 5 rfl rfl)
theorem dJ16_shiftRightImpl_193 : decode cJ16_shiftRightImpl 193 = .ok (.if_icmp .lt 31, 3) := dk_161 0 31 (dk_at dksJ16_shiftRightImpl_8 7 rfl rfl)
theorem dJ16_shiftRightImpl_196 : decode cJ16_shiftRightImpl 196 = .ok (.iload 6, 2) := dk_21 6 (dk_at dksJ16_shiftRightImpl_8 10 rfl rfl)
theorem dJ16_shiftRightImpl_198 : decode cJ16_shiftRightImpl 198 = .ok (.ifCond .ne 26, 3) := dk_154 0 26 (dk_at dksJ16_shiftRightImpl_8 12 rfl rfl)
theorem dJ16_shiftRightImpl_201 : decode cJ16_shiftRightImpl 201 = .ok (.aload_n 0, 1) := dk_42 (dk_at dksJ16_shiftRightImpl_8 15 rfl rfl)
theorem dJ16_shiftRightImpl_202 : decode cJ16_shiftRightImpl 202 = .ok (.getfield 28, 3) := dk_180 0 28 (dk_at dksJ16_shiftRightImpl_8 16 rfl rfl)
theorem dJ16_shiftRightImpl_205 : decode cJ16_shiftRightImpl 205 = .ok (.iload 7, 2) := dk_21 7 (dk_at dksJ16_shiftRightImpl_8 19 rfl rfl)
theorem dJ16_shiftRightImpl_207 : decode cJ16_shiftRightImpl 207 = .ok (.iaload, 1) := dk_46 (dk_at dksJ16_shiftRightImpl_8 21 rfl rfl)
theorem dJ16_shiftRightImpl_208 : decode cJ16_shiftRightImpl 208 = .ok (.ifCond .eq 7, 3) := dk_153 0 7 (dk_at dksJ16_shiftRightImpl_9 0 rfl rfl)
theorem dJ16_shiftRightImpl_211 : decode cJ16_shiftRightImpl 211 = .ok (.iconst 1, 1) := dk_4 (dk_at dksJ16_shiftRightImpl_9 3 rfl rfl)
theorem dJ16_shiftRightImpl_212 : decode cJ16_shiftRightImpl 212 = .ok (.goto 4, 3) := dk_167 0 4 (dk_at dksJ16_shiftRightImpl_9 4 rfl rfl)
theorem dJ16_shiftRightImpl_215 : decode cJ16_shiftRightImpl 215 = .ok (.iconst 0, 1) := dk_3 (dk_at dksJ16_shiftRightImpl_9 7 rfl rfl)
theorem dJ16_shiftRightImpl_216 : decode cJ16_shiftRightImpl 216 = .ok (.istore 6, 2) := dk_54 6 (dk_at dksJ16_shiftRightImpl_9 8 rfl rfl)
theorem dJ16_shiftRightImpl_218 : decode cJ16_shiftRightImpl 218 = .ok (.iinc 7 (-1), 3) := dk_132 7 255 (dk_at dksJ16_shiftRightImpl_9 10 rfl rfl)
theorem dJ16_shiftRightImpl_221 : decode cJ16_shiftRightImpl 221 = .ok (.goto (-32), 3) := dk_167 255 224 (dk_at dksJ16_shiftRightImpl_9 13 rfl rfl)
theorem dJ16_shiftRightImpl_224 : decode cJ16_shiftRightImpl 224 = .ok (.iload 6, 2) := dk_21 6 (dk_at dksJ16_shiftRightImpl_9 16 rfl rfl)
theorem dJ16_shiftRightImpl_226 : decode cJ16_shiftRightImpl 226 = .ok (.ifCond .ne 33, 3) := dk_154 0 33 (dk_at dksJ16_shiftRightImpl_9 18 rfl rfl)
theorem dJ16_shiftRightImpl_229 : decode cJ16_shiftRightImpl 229 = .ok (.iload_n 3, 1) := dk_29 (dk_at dksJ16_shiftRightImpl_9 21 rfl rfl)
theorem dJ16_shiftRightImpl_230 : decode cJ16_shiftRightImpl 230 = .ok (.ifCond .eq 29, 3) := dk_153 0 29 (dk_at dksJ16_shiftRightImpl_10 0 rfl rfl)
theorem dJ16_shiftRightImpl_233 : decode cJ16_shiftRightImpl 233 = .ok (.aload_n 0, 1) := dk_42 (dk_at dksJ16_shiftRightImpl_10 3 rfl rfl)
theorem dJ16_shiftRightImpl_234 : decode cJ16_shiftRightImpl 234 = .ok (.getfield 28, 3) := dk_180 0 28 (dk_at dksJ16_shiftRightImpl_10 4 rfl rfl)
theorem dJ16_shiftRightImpl_237 : decode cJ16_shiftRightImpl 237 = .ok (.iload 4, 2) := dk_21 4 (dk_at dksJ16_shiftRightImpl_10 7 rfl rfl)
theorem dJ16_shiftRightImpl_239 : decode cJ16_shiftRightImpl 239 = .ok (.iload_n 2, 1) := dk_28 (dk_at dksJ16_shiftRightImpl_10 9 rfl rfl)
theorem dJ16_shiftRightImpl_240 : decode cJ16_shiftRightImpl 240 = .ok (.isub, 1) := dk_100 (dk_at dksJ16_shiftRightImpl_10 10 rfl rfl)
theorem dJ16_shiftRightImpl_241 : decode cJ16_shiftRightImpl 241 = .ok (.iconst 1, 1) := dk_4 (dk_at dksJ16_shiftRightImpl_10 11 rfl rfl)
theorem dJ16_shiftRightImpl_242 : decode cJ16_shiftRightImpl 242 = .ok (.isub, 1) := dk_100 (dk_at dksJ16_shiftRightImpl_10 12 rfl rfl)
theorem dJ16_shiftRightImpl_243 : decode cJ16_shiftRightImpl 243 = .ok (.iaload, 1) := dk_46 (dk_at dksJ16_shiftRightImpl_10 13 rfl rfl)
theorem dJ16_shiftRightImpl_244 : decode cJ16_shiftRightImpl 244 = .ok (.bipush 32, 2) := dk_16 32 (dk_at dksJ16_shiftRightImpl_10 14 rfl rfl)
theorem dJ16_shiftRightImpl_246 : decode cJ16_shiftRightImpl 246 = .ok (.iload_n 3, 1) := dk_29 (dk_at dksJ16_shiftRightImpl_10 16 rfl rfl)
theorem dJ16_shiftRightImpl_247 : decode cJ16_shiftRightImpl 247 = .ok (.isub, 1) := dk_100 (dk_at dksJ16_shiftRightImpl_10 17 rfl rfl)
theorem dJ16_shiftRightImpl_248 : decode cJ16_shiftRightImpl 248 = .ok (.ishl, 1) := dk_120 (dk_at dksJ16_shiftRightImpl_10 18 rfl rfl)
theorem dJ16_shiftRightImpl_249 : decode cJ16_shiftRightImpl 249 = .ok (.ifCond .eq 7, 3) := dk_153 0 7 (dk_at dksJ16_shiftRightImpl_10 19 rfl rfl)
theorem dJ16_shiftRightImpl_252 : decode cJ16_shiftRightImpl 252 = .ok (.iconst 1, 1) := dk_4 (dk_at dksJ16_shiftRightImpl_10 22 rfl rfl)
theorem dJ16_shiftRightImpl_253 : decode cJ16_shiftRightImpl 253 = .ok (.goto 4, 3) := dk_167 0 4 (dk_at dksJ16_shiftRightImpl_11 0 rfl rfl)
theorem dJ16_shiftRightImpl_256 : decode cJ16_shiftRightImpl 256 = .ok (.iconst 0, 1) := dk_3 (dk_at dksJ16_shiftRightImpl_11 3 rfl rfl)
theorem dJ16_shiftRightImpl_257 : decode cJ16_shiftRightImpl 257 = .ok (.istore 6, 2) := dk_54 6 (dk_at dksJ16_shiftRightImpl_11 4 rfl rfl)
theorem dJ16_shiftRightImpl_259 : decode cJ16_shiftRightImpl 259 = .ok (.iload 6, 2) := dk_21 6 (dk_at dksJ16_shiftRightImpl_11 6 rfl rfl)
theorem dJ16_shiftRightImpl_261 : decode cJ16_shiftRightImpl 261 = .ok (.ifCond .eq 11, 3) := dk_153 0 11 (dk_at dksJ16_shiftRightImpl_11 8 rfl rfl)
theorem dJ16_shiftRightImpl_264 : decode cJ16_shiftRightImpl 264 = .ok (.aload_n 0, 1) := dk_42 (dk_at dksJ16_shiftRightImpl_11 11 rfl rfl)
theorem dJ16_shiftRightImpl_265 : decode cJ16_shiftRightImpl 265 = .ok (.aload 5, 2) := dk_25 5 (dk_at dksJ16_shiftRightImpl_11 12 rfl rfl)
theorem dJ16_shiftRightImpl_267 : decode cJ16_shiftRightImpl 267 = .ok (.invokevirtual 730, 3) := dk_182 2 218 (dk_at dksJ16_shiftRightImpl_11 14 rfl rfl)
theorem dJ16_shiftRightImpl_270 : decode cJ16_shiftRightImpl 270 = .ok (.astore 5, 2) := dk_58 5 (dk_at dksJ16_shiftRightImpl_11 17 rfl rfl)
theorem dJ16_shiftRightImpl_272 : decode cJ16_shiftRightImpl 272 = .ok (.new 23, 3) := dk_187 0 23 (dk_at dksJ16_shiftRightImpl_11 19 rfl rfl)
theorem dJ16_shiftRightImpl_275 : decode cJ16_shiftRightImpl 275 = .ok (.dup, 1) := dk_89 (dk_at dksJ16_shiftRightImpl_11 22 rfl rfl)
theorem dJ16_shiftRightImpl_276 : decode cJ16_shiftRightImpl 276 = .ok (.aload 5, 2) := dk_25 5 (dk_at dksJ16_shiftRightImpl_12 0 rfl rfl)
theorem dJ16_shiftRightImpl_278 : decode cJ16_shiftRightImpl 278 = .ok (.aload_n 0, 1) := dk_42 (dk_at dksJ16_shiftRightImpl_12 2 rfl rfl)
theorem dJ16_shiftRightImpl_279 : decode cJ16_shiftRightImpl 279 = .ok (.getfield 32, 3) := dk_180 0 32 (dk_at dksJ16_shiftRightImpl_12 3 rfl rfl)
theorem dJ16_shiftRightImpl_282 : decode cJ16_shiftRightImpl 282 = .ok (.invokespecial 175, 3) := dk_183 0 175 (dk_at dksJ16_shiftRightImpl_12 6 rfl rfl)
theorem dJ16_shiftRightImpl_285 : decode cJ16_shiftRightImpl 285 = .ok (.areturn, 1) := dk_176 (dk_at dksJ16_shiftRightImpl_12 9 rfl rfl)
abbrev cJ16_shiftRightImplWorker : ByteArray := prog_33_method_106_code
def yJ16_shiftRightImplWorker : MethodName := ⟨RJ16, "shiftRightImplWorker", "([I[IIII)V"⟩
def dkwJ16_shiftRightImplWorker_2 : List UInt8 := [21, 6, 46, 21, 5, 120, 128, 79, 167, 255, 226, 177]
abbrev dktJ16_shiftRightImplWorker_2 : List UInt8 := dkwJ16_shiftRightImplWorker_2 ++ []
def dkwJ16_shiftRightImplWorker_1 : List UInt8 := [54, 7, 21, 7, 28, 161, 0, 30, 42, 21, 7, 132, 7, 255, 43, 21, 6, 132, 6, 255, 46, 29, 124, 43]
abbrev dktJ16_shiftRightImplWorker_1 : List UInt8 := dkwJ16_shiftRightImplWorker_1 ++ dktJ16_shiftRightImplWorker_2
def dkwJ16_shiftRightImplWorker_0 : List UInt8 := [16, 32, 29, 100, 54, 5, 21, 4, 54, 6, 28, 154, 0, 10, 21, 4, 4, 100, 167, 0, 5, 21, 4]
abbrev dktJ16_shiftRightImplWorker_0 : List UInt8 := dkwJ16_shiftRightImplWorker_0 ++ dktJ16_shiftRightImplWorker_1
theorem dksJ16_shiftRightImplWorker_0 : cJ16_shiftRightImplWorker.data.toList.drop 0 = dktJ16_shiftRightImplWorker_0 := by decide +kernel
theorem dksJ16_shiftRightImplWorker_1 : cJ16_shiftRightImplWorker.data.toList.drop 23 = dktJ16_shiftRightImplWorker_1 := dk_seg dksJ16_shiftRightImplWorker_0 23 rfl rfl
theorem dksJ16_shiftRightImplWorker_2 : cJ16_shiftRightImplWorker.data.toList.drop 47 = dktJ16_shiftRightImplWorker_2 := dk_seg dksJ16_shiftRightImplWorker_1 24 rfl rfl
theorem dJ16_shiftRightImplWorker_0 : decode cJ16_shiftRightImplWorker 0 = .ok (.bipush 32, 2) := dk_16 32 (dk_at dksJ16_shiftRightImplWorker_0 0 rfl rfl)
theorem dJ16_shiftRightImplWorker_2 : decode cJ16_shiftRightImplWorker 2 = .ok (.iload_n 3, 1) := dk_29 (dk_at dksJ16_shiftRightImplWorker_0 2 rfl rfl)
theorem dJ16_shiftRightImplWorker_3 : decode cJ16_shiftRightImplWorker 3 = .ok (.isub, 1) := dk_100 (dk_at dksJ16_shiftRightImplWorker_0 3 rfl rfl)
theorem dJ16_shiftRightImplWorker_4 : decode cJ16_shiftRightImplWorker 4 = .ok (.istore 5, 2) := dk_54 5 (dk_at dksJ16_shiftRightImplWorker_0 4 rfl rfl)
theorem dJ16_shiftRightImplWorker_6 : decode cJ16_shiftRightImplWorker 6 = .ok (.iload 4, 2) := dk_21 4 (dk_at dksJ16_shiftRightImplWorker_0 6 rfl rfl)
theorem dJ16_shiftRightImplWorker_8 : decode cJ16_shiftRightImplWorker 8 = .ok (.istore 6, 2) := dk_54 6 (dk_at dksJ16_shiftRightImplWorker_0 8 rfl rfl)
theorem dJ16_shiftRightImplWorker_10 : decode cJ16_shiftRightImplWorker 10 = .ok (.iload_n 2, 1) := dk_28 (dk_at dksJ16_shiftRightImplWorker_0 10 rfl rfl)
theorem dJ16_shiftRightImplWorker_11 : decode cJ16_shiftRightImplWorker 11 = .ok (.ifCond .ne 10, 3) := dk_154 0 10 (dk_at dksJ16_shiftRightImplWorker_0 11 rfl rfl)
theorem dJ16_shiftRightImplWorker_14 : decode cJ16_shiftRightImplWorker 14 = .ok (.iload 4, 2) := dk_21 4 (dk_at dksJ16_shiftRightImplWorker_0 14 rfl rfl)
theorem dJ16_shiftRightImplWorker_16 : decode cJ16_shiftRightImplWorker 16 = .ok (.iconst 1, 1) := dk_4 (dk_at dksJ16_shiftRightImplWorker_0 16 rfl rfl)
theorem dJ16_shiftRightImplWorker_17 : decode cJ16_shiftRightImplWorker 17 = .ok (.isub, 1) := dk_100 (dk_at dksJ16_shiftRightImplWorker_0 17 rfl rfl)
theorem dJ16_shiftRightImplWorker_18 : decode cJ16_shiftRightImplWorker 18 = .ok (.goto 5, 3) := dk_167 0 5 (dk_at dksJ16_shiftRightImplWorker_0 18 rfl rfl)
theorem dJ16_shiftRightImplWorker_21 : decode cJ16_shiftRightImplWorker 21 = .ok (.iload 4, 2) := dk_21 4 (dk_at dksJ16_shiftRightImplWorker_0 21 rfl rfl)
theorem dJ16_shiftRightImplWorker_23 : decode cJ16_shiftRightImplWorker 23 = .ok (.istore 7, 2) := dk_54 7 (dk_at dksJ16_shiftRightImplWorker_1 0 rfl rfl)
theorem dJ16_shiftRightImplWorker_25 : decode cJ16_shiftRightImplWorker 25 = .ok (.iload 7, 2) := dk_21 7 (dk_at dksJ16_shiftRightImplWorker_1 2 rfl rfl)
theorem dJ16_shiftRightImplWorker_27 : decode cJ16_shiftRightImplWorker 27 = .ok (.iload_n 2, 1) := dk_28 (dk_at dksJ16_shiftRightImplWorker_1 4 rfl rfl)
theorem dJ16_shiftRightImplWorker_28 : decode cJ16_shiftRightImplWorker 28 = .ok (.if_icmp .lt 30, 3) := dk_161 0 30 (dk_at dksJ16_shiftRightImplWorker_1 5 rfl rfl)
theorem dJ16_shiftRightImplWorker_31 : decode cJ16_shiftRightImplWorker 31 = .ok (.aload_n 0, 1) := dk_42 (dk_at dksJ16_shiftRightImplWorker_1 8 rfl rfl)
theorem dJ16_shiftRightImplWorker_32 : decode cJ16_shiftRightImplWorker 32 = .ok (.iload 7, 2) := dk_21 7 (dk_at dksJ16_shiftRightImplWorker_1 9 rfl rfl)
theorem dJ16_shiftRightImplWorker_34 : decode cJ16_shiftRightImplWorker 34 = .ok (.iinc 7 (-1), 3) := dk_132 7 255 (dk_at dksJ16_shiftRightImplWorker_1 11 rfl rfl)
theorem dJ16_shiftRightImplWorker_37 : decode cJ16_shiftRightImplWorker 37 = .ok (.aload_n 1, 1) := dk_43 (dk_at dksJ16_shiftRightImplWorker_1 14 rfl rfl)
theorem dJ16_shiftRightImplWorker_38 : decode cJ16_shiftRightImplWorker 38 = .ok (.iload 6, 2) := dk_21 6 (dk_at dksJ16_shiftRightImplWorker_1 15 rfl rfl)
theorem dJ16_shiftRightImplWorker_40 : decode cJ16_shiftRightImplWorker 40 = .ok (.iinc 6 (-1), 3) := dk_132 6 255 (dk_at dksJ16_shiftRightImplWorker_1 17 rfl rfl)
theorem dJ16_shiftRightImplWorker_43 : decode cJ16_shiftRightImplWorker 43 = .ok (.iaload, 1) := dk_46 (dk_at dksJ16_shiftRightImplWorker_1 20 rfl rfl)
theorem dJ16_shiftRightImplWorker_44 : decode cJ16_shiftRightImplWorker 44 = .ok (.iload_n 3, 1) := dk_29 (dk_at dksJ16_shiftRightImplWorker_1 21 rfl rfl)
theorem dJ16_shiftRightImplWorker_45 : decode cJ16_shiftRightImplWorker 45 = .ok (.iushr, 1) := dk_124 (dk_at dksJ16_shiftRightImplWorker_1 22 rfl rfl)
theorem dJ16_shiftRightImplWorker_46 : decode cJ16_shiftRightImplWorker 46 = .ok (.aload_n 1, 1) := dk_43 (dk_at dksJ16_shiftRightImplWorker_1 23 rfl rfl)
theorem dJ16_shiftRightImplWorker_47 : decode cJ16_shiftRightImplWorker 47 = .ok (.iload 6, 2) := dk_21 6 (dk_at dksJ16_shiftRightImplWorker_2 0 rfl rfl)
theorem dJ16_shiftRightImplWorker_49 : decode cJ16_shiftRightImplWorker 49 = .ok (.iaload, 1) := dk_46 (dk_at dksJ16_shiftRightImplWorker_2 2 rfl rfl)
theorem dJ16_shiftRightImplWorker_50 : decode cJ16_shiftRightImplWorker 50 = .ok (.iload 5, 2) := dk_21 5 (dk_at dksJ16_shiftRightImplWorker_2 3 rfl rfl)
theorem dJ16_shiftRightImplWorker_52 : decode cJ16_shiftRightImplWorker 52 = .ok (.ishl, 1) := dk_120 (dk_at dksJ16_shiftRightImplWorker_2 5 rfl rfl)
theorem dJ16_shiftRightImplWorker_53 : decode cJ16_shiftRightImplWorker 53 = .ok (.ior, 1) := dk_128 (dk_at dksJ16_shiftRightImplWorker_2 6 rfl rfl)
theorem dJ16_shiftRightImplWorker_54 : decode cJ16_shiftRightImplWorker 54 = .ok (.iastore, 1) := dk_79 (dk_at dksJ16_shiftRightImplWorker_2 7 rfl rfl)
theorem dJ16_shiftRightImplWorker_55 : decode cJ16_shiftRightImplWorker 55 = .ok (.goto (-30), 3) := dk_167 255 226 (dk_at dksJ16_shiftRightImplWorker_2 8 rfl rfl)
theorem dJ16_shiftRightImplWorker_58 : decode cJ16_shiftRightImplWorker 58 = .ok (.return_, 1) := dk_177 (dk_at dksJ16_shiftRightImplWorker_2 11 rfl rfl)
abbrev cJ16_javaIncrement : ByteArray := prog_33_method_107_code
def yJ16_javaIncrement : MethodName := ⟨RJ16, "javaIncrement", "([I)[I"⟩
def dkwJ16_javaIncrement_1 : List UInt8 := [132, 3, 255, 167, 255, 236, 28, 154, 0, 14, 43, 190, 4, 96, 188, 10, 76, 43, 3, 4, 79, 43, 176]
abbrev dktJ16_javaIncrement_1 : List UInt8 := dkwJ16_javaIncrement_1 ++ []
def dkwJ16_javaIncrement_0 : List UInt8 := [3, 61, 43, 190, 4, 100, 62, 29, 155, 0, 22, 28, 154, 0, 18, 43, 29, 92, 46, 4, 96, 91, 79, 61]
abbrev dktJ16_javaIncrement_0 : List UInt8 := dkwJ16_javaIncrement_0 ++ dktJ16_javaIncrement_1
theorem dksJ16_javaIncrement_0 : cJ16_javaIncrement.data.toList.drop 0 = dktJ16_javaIncrement_0 := by decide +kernel
theorem dksJ16_javaIncrement_1 : cJ16_javaIncrement.data.toList.drop 24 = dktJ16_javaIncrement_1 := dk_seg dksJ16_javaIncrement_0 24 rfl rfl
theorem dJ16_javaIncrement_0 : decode cJ16_javaIncrement 0 = .ok (.iconst 0, 1) := dk_3 (dk_at dksJ16_javaIncrement_0 0 rfl rfl)
theorem dJ16_javaIncrement_1 : decode cJ16_javaIncrement 1 = .ok (.istore_n 2, 1) := dk_61 (dk_at dksJ16_javaIncrement_0 1 rfl rfl)
theorem dJ16_javaIncrement_2 : decode cJ16_javaIncrement 2 = .ok (.aload_n 1, 1) := dk_43 (dk_at dksJ16_javaIncrement_0 2 rfl rfl)
theorem dJ16_javaIncrement_3 : decode cJ16_javaIncrement 3 = .ok (.arraylength, 1) := dk_190 (dk_at dksJ16_javaIncrement_0 3 rfl rfl)
theorem dJ16_javaIncrement_4 : decode cJ16_javaIncrement 4 = .ok (.iconst 1, 1) := dk_4 (dk_at dksJ16_javaIncrement_0 4 rfl rfl)
theorem dJ16_javaIncrement_5 : decode cJ16_javaIncrement 5 = .ok (.isub, 1) := dk_100 (dk_at dksJ16_javaIncrement_0 5 rfl rfl)
theorem dJ16_javaIncrement_6 : decode cJ16_javaIncrement 6 = .ok (.istore_n 3, 1) := dk_62 (dk_at dksJ16_javaIncrement_0 6 rfl rfl)
theorem dJ16_javaIncrement_7 : decode cJ16_javaIncrement 7 = .ok (.iload_n 3, 1) := dk_29 (dk_at dksJ16_javaIncrement_0 7 rfl rfl)
theorem dJ16_javaIncrement_8 : decode cJ16_javaIncrement 8 = .ok (.ifCond .lt 22, 3) := dk_155 0 22 (dk_at dksJ16_javaIncrement_0 8 rfl rfl)
theorem dJ16_javaIncrement_11 : decode cJ16_javaIncrement 11 = .ok (.iload_n 2, 1) := dk_28 (dk_at dksJ16_javaIncrement_0 11 rfl rfl)
theorem dJ16_javaIncrement_12 : decode cJ16_javaIncrement 12 = .ok (.ifCond .ne 18, 3) := dk_154 0 18 (dk_at dksJ16_javaIncrement_0 12 rfl rfl)
theorem dJ16_javaIncrement_15 : decode cJ16_javaIncrement 15 = .ok (.aload_n 1, 1) := dk_43 (dk_at dksJ16_javaIncrement_0 15 rfl rfl)
theorem dJ16_javaIncrement_16 : decode cJ16_javaIncrement 16 = .ok (.iload_n 3, 1) := dk_29 (dk_at dksJ16_javaIncrement_0 16 rfl rfl)
theorem dJ16_javaIncrement_17 : decode cJ16_javaIncrement 17 = .ok (.dup2, 1) := dk_92 (dk_at dksJ16_javaIncrement_0 17 rfl rfl)
theorem dJ16_javaIncrement_18 : decode cJ16_javaIncrement 18 = .ok (.iaload, 1) := dk_46 (dk_at dksJ16_javaIncrement_0 18 rfl rfl)
theorem dJ16_javaIncrement_19 : decode cJ16_javaIncrement 19 = .ok (.iconst 1, 1) := dk_4 (dk_at dksJ16_javaIncrement_0 19 rfl rfl)
theorem dJ16_javaIncrement_20 : decode cJ16_javaIncrement 20 = .ok (.iadd, 1) := dk_96 (dk_at dksJ16_javaIncrement_0 20 rfl rfl)
theorem dJ16_javaIncrement_21 : decode cJ16_javaIncrement 21 = .ok (.dup_x2, 1) := dk_91 (dk_at dksJ16_javaIncrement_0 21 rfl rfl)
theorem dJ16_javaIncrement_22 : decode cJ16_javaIncrement 22 = .ok (.iastore, 1) := dk_79 (dk_at dksJ16_javaIncrement_0 22 rfl rfl)
theorem dJ16_javaIncrement_23 : decode cJ16_javaIncrement 23 = .ok (.istore_n 2, 1) := dk_61 (dk_at dksJ16_javaIncrement_0 23 rfl rfl)
theorem dJ16_javaIncrement_24 : decode cJ16_javaIncrement 24 = .ok (.iinc 3 (-1), 3) := dk_132 3 255 (dk_at dksJ16_javaIncrement_1 0 rfl rfl)
theorem dJ16_javaIncrement_27 : decode cJ16_javaIncrement 27 = .ok (.goto (-20), 3) := dk_167 255 236 (dk_at dksJ16_javaIncrement_1 3 rfl rfl)
theorem dJ16_javaIncrement_30 : decode cJ16_javaIncrement 30 = .ok (.iload_n 2, 1) := dk_28 (dk_at dksJ16_javaIncrement_1 6 rfl rfl)
theorem dJ16_javaIncrement_31 : decode cJ16_javaIncrement 31 = .ok (.ifCond .ne 14, 3) := dk_154 0 14 (dk_at dksJ16_javaIncrement_1 7 rfl rfl)
theorem dJ16_javaIncrement_34 : decode cJ16_javaIncrement 34 = .ok (.aload_n 1, 1) := dk_43 (dk_at dksJ16_javaIncrement_1 10 rfl rfl)
theorem dJ16_javaIncrement_35 : decode cJ16_javaIncrement 35 = .ok (.arraylength, 1) := dk_190 (dk_at dksJ16_javaIncrement_1 11 rfl rfl)
theorem dJ16_javaIncrement_36 : decode cJ16_javaIncrement 36 = .ok (.iconst 1, 1) := dk_4 (dk_at dksJ16_javaIncrement_1 12 rfl rfl)
theorem dJ16_javaIncrement_37 : decode cJ16_javaIncrement 37 = .ok (.iadd, 1) := dk_96 (dk_at dksJ16_javaIncrement_1 13 rfl rfl)
theorem dJ16_javaIncrement_38 : decode cJ16_javaIncrement 38 = .ok (.newarray .int, 2) := dk_188_10 (dk_at dksJ16_javaIncrement_1 14 rfl rfl)
theorem dJ16_javaIncrement_40 : decode cJ16_javaIncrement 40 = .ok (.astore_n 1, 1) := dk_76 (dk_at dksJ16_javaIncrement_1 16 rfl rfl)
theorem dJ16_javaIncrement_41 : decode cJ16_javaIncrement 41 = .ok (.aload_n 1, 1) := dk_43 (dk_at dksJ16_javaIncrement_1 17 rfl rfl)
theorem dJ16_javaIncrement_42 : decode cJ16_javaIncrement 42 = .ok (.iconst 0, 1) := dk_3 (dk_at dksJ16_javaIncrement_1 18 rfl rfl)
theorem dJ16_javaIncrement_43 : decode cJ16_javaIncrement 43 = .ok (.iconst 1, 1) := dk_4 (dk_at dksJ16_javaIncrement_1 19 rfl rfl)
theorem dJ16_javaIncrement_44 : decode cJ16_javaIncrement 44 = .ok (.iastore, 1) := dk_79 (dk_at dksJ16_javaIncrement_1 20 rfl rfl)
theorem dJ16_javaIncrement_45 : decode cJ16_javaIncrement 45 = .ok (.aload_n 1, 1) := dk_43 (dk_at dksJ16_javaIncrement_1 21 rfl rfl)
theorem dJ16_javaIncrement_46 : decode cJ16_javaIncrement 46 = .ok (.areturn, 1) := dk_176 (dk_at dksJ16_javaIncrement_1 22 rfl rfl)
abbrev cJ16_multiply : ByteArray := prog_33_method_40_code
def yJ16_multiply : MethodName := ⟨RJ16, "multiply", "(Ljava/math/BigInteger;)Ljava/math/BigInteger;"⟩
def dkwJ16_multiply_0 : List UInt8 := [42, 43, 3, 3, 3, 182, 1, 141, 176]
abbrev dktJ16_multiply_0 : List UInt8 := dkwJ16_multiply_0 ++ []
theorem dksJ16_multiply_0 : cJ16_multiply.data.toList.drop 0 = dktJ16_multiply_0 := by decide +kernel
theorem dJ16_multiply_0 : decode cJ16_multiply 0 = .ok (.aload_n 0, 1) := dk_42 (dk_at dksJ16_multiply_0 0 rfl rfl)
theorem dJ16_multiply_1 : decode cJ16_multiply 1 = .ok (.aload_n 1, 1) := dk_43 (dk_at dksJ16_multiply_0 1 rfl rfl)
theorem dJ16_multiply_2 : decode cJ16_multiply 2 = .ok (.iconst 0, 1) := dk_3 (dk_at dksJ16_multiply_0 2 rfl rfl)
theorem dJ16_multiply_3 : decode cJ16_multiply 3 = .ok (.iconst 0, 1) := dk_3 (dk_at dksJ16_multiply_0 3 rfl rfl)
theorem dJ16_multiply_4 : decode cJ16_multiply 4 = .ok (.iconst 0, 1) := dk_3 (dk_at dksJ16_multiply_0 4 rfl rfl)
theorem dJ16_multiply_5 : decode cJ16_multiply 5 = .ok (.invokevirtual 397, 3) := dk_182 1 141 (dk_at dksJ16_multiply_0 5 rfl rfl)
theorem dJ16_multiply_8 : decode cJ16_multiply 8 = .ok (.areturn, 1) := dk_176 (dk_at dksJ16_multiply_0 8 rfl rfl)
abbrev cJ16_multiply_2 : ByteArray := prog_33_method_42_code
def yJ16_multiply_2 : MethodName := ⟨RJ16, "multiply", "(Ljava/math/BigInteger;ZZI)Ljava/math/BigInteger;"⟩
def dkwJ16_multiply_2_10 : List UInt8 := [43, 29, 21, 4, 184, 1, 163, 176]
abbrev dktJ16_multiply_2_10 : List UInt8 := dkwJ16_multiply_2_10 ++ []
def dkwJ16_multiply_2_9 : List UInt8 := [180, 0, 28, 43, 180, 0, 28, 190, 184, 1, 158, 133, 97, 20, 1, 161, 148, 158, 0, 6, 184, 0, 101, 42]
abbrev dktJ16_multiply_2_9 : List UInt8 := dkwJ16_multiply_2_9 ++ dktJ16_multiply_2_10
def dkwJ16_multiply_2_8 : List UInt8 := [184, 1, 155, 176, 28, 154, 0, 40, 42, 180, 0, 28, 42, 180, 0, 28, 190, 184, 1, 158, 133, 43]
abbrev dktJ16_multiply_2_8 : List UInt8 := dkwJ16_multiply_2_8 ++ dktJ16_multiply_2_9
def dkwJ16_multiply_2_7 : List UInt8 := [21, 7, 183, 0, 175, 176, 21, 5, 17, 0, 240, 162, 0, 17, 21, 6, 17, 0, 240, 162, 0, 9, 42, 43]
abbrev dktJ16_multiply_2_7 : List UInt8 := dkwJ16_multiply_2_7 ++ dktJ16_multiply_2_8
def dkwJ16_multiply_2_6 : List UInt8 := [180, 0, 28, 21, 6, 1, 184, 1, 151, 58, 8, 25, 8, 184, 0, 53, 58, 8, 187, 0, 23, 89, 25, 8]
abbrev dktJ16_multiply_2_6 : List UInt8 := dkwJ16_multiply_2_6 ++ dktJ16_multiply_2_7
def dkwJ16_multiply_2_5 : List UInt8 := [43, 180, 0, 28, 42, 180, 0, 28, 3, 46, 21, 7, 184, 1, 147, 176, 42, 180, 0, 28, 21, 5, 43]
abbrev dktJ16_multiply_2_5 : List UInt8 := dkwJ16_multiply_2_5 ++ dktJ16_multiply_2_6
def dkwJ16_multiply_2_4 : List UInt8 := [180, 0, 28, 43, 180, 0, 28, 3, 46, 21, 7, 184, 1, 147, 176, 42, 180, 0, 28, 190, 4, 160, 0, 19]
abbrev dktJ16_multiply_2_4 : List UInt8 := dkwJ16_multiply_2_4 ++ dktJ16_multiply_2_5
def dkwJ16_multiply_2_3 : List UInt8 := [43, 180, 0, 32, 160, 0, 7, 4, 167, 0, 4, 2, 54, 7, 43, 180, 0, 28, 190, 4, 160, 0, 19, 42]
abbrev dktJ16_multiply_2_3 : List UInt8 := dkwJ16_multiply_2_3 ++ dktJ16_multiply_2_4
def dkwJ16_multiply_2_2 : List UInt8 := [180, 0, 28, 190, 54, 6, 21, 5, 16, 80, 161, 0, 10, 21, 6, 16, 80, 162, 0, 108, 42, 180, 0, 32]
abbrev dktJ16_multiply_2_2 : List UInt8 := dkwJ16_multiply_2_2 ++ dktJ16_multiply_2_3
def dkwJ16_multiply_2_1 : List UInt8 := [54, 5, 43, 42, 166, 0, 19, 21, 5, 16, 20, 164, 0, 12, 42, 4, 29, 21, 4, 182, 1, 144, 176, 43]
abbrev dktJ16_multiply_2_1 : List UInt8 := dkwJ16_multiply_2_1 ++ dktJ16_multiply_2_2
def dkwJ16_multiply_2_0 : List UInt8 := [43, 180, 0, 32, 153, 0, 10, 42, 180, 0, 32, 154, 0, 7, 178, 0, 22, 176, 42, 180, 0, 28, 190]
abbrev dktJ16_multiply_2_0 : List UInt8 := dkwJ16_multiply_2_0 ++ dktJ16_multiply_2_1
theorem dksJ16_multiply_2_0 : cJ16_multiply_2.data.toList.drop 0 = dktJ16_multiply_2_0 := by decide +kernel
theorem dksJ16_multiply_2_1 : cJ16_multiply_2.data.toList.drop 23 = dktJ16_multiply_2_1 := dk_seg dksJ16_multiply_2_0 23 rfl rfl
theorem dksJ16_multiply_2_2 : cJ16_multiply_2.data.toList.drop 47 = dktJ16_multiply_2_2 := dk_seg dksJ16_multiply_2_1 24 rfl rfl
theorem dksJ16_multiply_2_3 : cJ16_multiply_2.data.toList.drop 71 = dktJ16_multiply_2_3 := dk_seg dksJ16_multiply_2_2 24 rfl rfl
theorem dksJ16_multiply_2_4 : cJ16_multiply_2.data.toList.drop 95 = dktJ16_multiply_2_4 := dk_seg dksJ16_multiply_2_3 24 rfl rfl
theorem dksJ16_multiply_2_5 : cJ16_multiply_2.data.toList.drop 119 = dktJ16_multiply_2_5 := dk_seg dksJ16_multiply_2_4 24 rfl rfl
theorem dksJ16_multiply_2_6 : cJ16_multiply_2.data.toList.drop 142 = dktJ16_multiply_2_6 := dk_seg dksJ16_multiply_2_5 23 rfl rfl
theorem dksJ16_multiply_2_7 : cJ16_multiply_2.data.toList.drop 166 = dktJ16_multiply_2_7 := dk_seg dksJ16_multiply_2_6 24 rfl rfl
theorem dksJ16_multiply_2_8 : cJ16_multiply_2.data.toList.drop 190 = dktJ16_multiply_2_8 := dk_seg dksJ16_multiply_2_7 24 rfl rfl
theorem dksJ16_multiply_2_9 : cJ16_multiply_2.data.toList.drop 212 = dktJ16_multiply_2_9 := dk_seg dksJ16_multiply_2_8 22 rfl rfl
theorem dksJ16_multiply_2_10 : cJ16_multiply_2.data.toList.drop 236 = dktJ16_multiply_2_10 := dk_seg dksJ16_multiply_2_9 24 rfl rfl
theorem dJ16_multiply_2_0 : decode cJ16_multiply_2 0 = .ok (.aload_n 1, 1) := dk_43 (dk_at dksJ16_multiply_2_0 0 rfl rfl)
theorem dJ16_multiply_2_1 : decode cJ16_multiply_2 1 = .ok (.getfield 32, 3) := dk_180 0 32 (dk_at dksJ16_multiply_2_0 1 rfl rfl)
theorem dJ16_multiply_2_4 : decode cJ16_multiply_2 4 = .ok (.ifCond .eq 10, 3) := dk_153 0 10 (dk_at dksJ16_multiply_2_0 4 rfl rfl)
theorem dJ16_multiply_2_7 : decode cJ16_multiply_2 7 = .ok (.aload_n 0, 1) := dk_42 (dk_at dksJ16_multiply_2_0 7 rfl rfl)
theorem dJ16_multiply_2_8 : decode cJ16_multiply_2 8 = .ok (.getfield 32, 3) := dk_180 0 32 (dk_at dksJ16_multiply_2_0 8 rfl rfl)
theorem dJ16_multiply_2_11 : decode cJ16_multiply_2 11 = .ok (.ifCond .ne 7, 3) := dk_154 0 7 (dk_at dksJ16_multiply_2_0 11 rfl rfl)
theorem dJ16_multiply_2_14 : decode cJ16_multiply_2 14 = .ok (.getstatic 22, 3) := dk_178 0 22 (dk_at dksJ16_multiply_2_0 14 rfl rfl)
theorem dJ16_multiply_2_17 : decode cJ16_multiply_2 17 = .ok (.areturn, 1) := dk_176 (dk_at dksJ16_multiply_2_0 17 rfl rfl)
theorem dJ16_multiply_2_18 : decode cJ16_multiply_2 18 = .ok (.aload_n 0, 1) := dk_42 (dk_at dksJ16_multiply_2_0 18 rfl rfl)
theorem dJ16_multiply_2_19 : decode cJ16_multiply_2 19 = .ok (.getfield 28, 3) := dk_180 0 28 (dk_at dksJ16_multiply_2_0 19 rfl rfl)
theorem dJ16_multiply_2_22 : decode cJ16_multiply_2 22 = .ok (.arraylength, 1) := dk_190 (dk_at dksJ16_multiply_2_0 22 rfl rfl)
theorem dJ16_multiply_2_23 : decode cJ16_multiply_2 23 = .ok (.istore 5, 2) := dk_54 5 (dk_at dksJ16_multiply_2_1 0 rfl rfl)
theorem dJ16_multiply_2_25 : decode cJ16_multiply_2 25 = .ok (.aload_n 1, 1) := dk_43 (dk_at dksJ16_multiply_2_1 2 rfl rfl)
theorem dJ16_multiply_2_26 : decode cJ16_multiply_2 26 = .ok (.aload_n 0, 1) := dk_42 (dk_at dksJ16_multiply_2_1 3 rfl rfl)
theorem dJ16_multiply_2_27 : decode cJ16_multiply_2 27 = .ok (.if_acmp .ne 19, 3) := dk_166 0 19 (dk_at dksJ16_multiply_2_1 4 rfl rfl)
theorem dJ16_multiply_2_30 : decode cJ16_multiply_2 30 = .ok (.iload 5, 2) := dk_21 5 (dk_at dksJ16_multiply_2_1 7 rfl rfl)
theorem dJ16_multiply_2_32 : decode cJ16_multiply_2 32 = .ok (.bipush 20, 2) := dk_16 20 (dk_at dksJ16_multiply_2_1 9 rfl rfl)
theorem dJ16_multiply_2_34 : decode cJ16_multiply_2 34 = .ok (.if_icmp .le 12, 3) := dk_164 0 12 (dk_at dksJ16_multiply_2_1 11 rfl rfl)
theorem dJ16_multiply_2_37 : decode cJ16_multiply_2 37 = .ok (.aload_n 0, 1) := dk_42 (dk_at dksJ16_multiply_2_1 14 rfl rfl)
theorem dJ16_multiply_2_38 : decode cJ16_multiply_2 38 = .ok (.iconst 1, 1) := dk_4 (dk_at dksJ16_multiply_2_1 15 rfl rfl)
theorem dJ16_multiply_2_39 : decode cJ16_multiply_2 39 = .ok (.iload_n 3, 1) := dk_29 (dk_at dksJ16_multiply_2_1 16 rfl rfl)
theorem dJ16_multiply_2_40 : decode cJ16_multiply_2 40 = .ok (.iload 4, 2) := dk_21 4 (dk_at dksJ16_multiply_2_1 17 rfl rfl)
theorem dJ16_multiply_2_42 : decode cJ16_multiply_2 42 = .ok (.invokevirtual 400, 3) := dk_182 1 144 (dk_at dksJ16_multiply_2_1 19 rfl rfl)
theorem dJ16_multiply_2_45 : decode cJ16_multiply_2 45 = .ok (.areturn, 1) := dk_176 (dk_at dksJ16_multiply_2_1 22 rfl rfl)
theorem dJ16_multiply_2_46 : decode cJ16_multiply_2 46 = .ok (.aload_n 1, 1) := dk_43 (dk_at dksJ16_multiply_2_1 23 rfl rfl)
theorem dJ16_multiply_2_47 : decode cJ16_multiply_2 47 = .ok (.getfield 28, 3) := dk_180 0 28 (dk_at dksJ16_multiply_2_2 0 rfl rfl)
theorem dJ16_multiply_2_50 : decode cJ16_multiply_2 50 = .ok (.arraylength, 1) := dk_190 (dk_at dksJ16_multiply_2_2 3 rfl rfl)
theorem dJ16_multiply_2_51 : decode cJ16_multiply_2 51 = .ok (.istore 6, 2) := dk_54 6 (dk_at dksJ16_multiply_2_2 4 rfl rfl)
theorem dJ16_multiply_2_53 : decode cJ16_multiply_2 53 = .ok (.iload 5, 2) := dk_21 5 (dk_at dksJ16_multiply_2_2 6 rfl rfl)
theorem dJ16_multiply_2_55 : decode cJ16_multiply_2 55 = .ok (.bipush 80, 2) := dk_16 80 (dk_at dksJ16_multiply_2_2 8 rfl rfl)
theorem dJ16_multiply_2_57 : decode cJ16_multiply_2 57 = .ok (.if_icmp .lt 10, 3) := dk_161 0 10 (dk_at dksJ16_multiply_2_2 10 rfl rfl)
theorem dJ16_multiply_2_60 : decode cJ16_multiply_2 60 = .ok (.iload 6, 2) := dk_21 6 (dk_at dksJ16_multiply_2_2 13 rfl rfl)
theorem dJ16_multiply_2_62 : decode cJ16_multiply_2 62 = .ok (.bipush 80, 2) := dk_16 80 (dk_at dksJ16_multiply_2_2 15 rfl rfl)
theorem dJ16_multiply_2_64 : decode cJ16_multiply_2 64 = .ok (.if_icmp .ge 108, 3) := dk_162 0 108 (dk_at dksJ16_multiply_2_2 17 rfl rfl)
theorem dJ16_multiply_2_67 : decode cJ16_multiply_2 67 = .ok (.aload_n 0, 1) := dk_42 (dk_at dksJ16_multiply_2_2 20 rfl rfl)
theorem dJ16_multiply_2_68 : decode cJ16_multiply_2 68 = .ok (.getfield 32, 3) := dk_180 0 32 (dk_at dksJ16_multiply_2_2 21 rfl rfl)
theorem dJ16_multiply_2_71 : decode cJ16_multiply_2 71 = .ok (.aload_n 1, 1) := dk_43 (dk_at dksJ16_multiply_2_3 0 rfl rfl)
theorem dJ16_multiply_2_72 : decode cJ16_multiply_2 72 = .ok (.getfield 32, 3) := dk_180 0 32 (dk_at dksJ16_multiply_2_3 1 rfl rfl)
theorem dJ16_multiply_2_75 : decode cJ16_multiply_2 75 = .ok (.if_icmp .ne 7, 3) := dk_160 0 7 (dk_at dksJ16_multiply_2_3 4 rfl rfl)
theorem dJ16_multiply_2_78 : decode cJ16_multiply_2 78 = .ok (.iconst 1, 1) := dk_4 (dk_at dksJ16_multiply_2_3 7 rfl rfl)
theorem dJ16_multiply_2_79 : decode cJ16_multiply_2 79 = .ok (.goto 4, 3) := dk_167 0 4 (dk_at dksJ16_multiply_2_3 8 rfl rfl)
theorem dJ16_multiply_2_82 : decode cJ16_multiply_2 82 = .ok (.iconst (-1), 1) := dk_2 (dk_at dksJ16_multiply_2_3 11 rfl rfl)
theorem dJ16_multiply_2_83 : decode cJ16_multiply_2 83 = .ok (.istore 7, 2) := dk_54 7 (dk_at dksJ16_multiply_2_3 12 rfl rfl)
theorem dJ16_multiply_2_85 : decode cJ16_multiply_2 85 = .ok (.aload_n 1, 1) := dk_43 (dk_at dksJ16_multiply_2_3 14 rfl rfl)
theorem dJ16_multiply_2_86 : decode cJ16_multiply_2 86 = .ok (.getfield 28, 3) := dk_180 0 28 (dk_at dksJ16_multiply_2_3 15 rfl rfl)
theorem dJ16_multiply_2_89 : decode cJ16_multiply_2 89 = .ok (.arraylength, 1) := dk_190 (dk_at dksJ16_multiply_2_3 18 rfl rfl)
theorem dJ16_multiply_2_90 : decode cJ16_multiply_2 90 = .ok (.iconst 1, 1) := dk_4 (dk_at dksJ16_multiply_2_3 19 rfl rfl)
theorem dJ16_multiply_2_91 : decode cJ16_multiply_2 91 = .ok (.if_icmp .ne 19, 3) := dk_160 0 19 (dk_at dksJ16_multiply_2_3 20 rfl rfl)
theorem dJ16_multiply_2_94 : decode cJ16_multiply_2 94 = .ok (.aload_n 0, 1) := dk_42 (dk_at dksJ16_multiply_2_3 23 rfl rfl)
theorem dJ16_multiply_2_95 : decode cJ16_multiply_2 95 = .ok (.getfield 28, 3) := dk_180 0 28 (dk_at dksJ16_multiply_2_4 0 rfl rfl)
theorem dJ16_multiply_2_98 : decode cJ16_multiply_2 98 = .ok (.aload_n 1, 1) := dk_43 (dk_at dksJ16_multiply_2_4 3 rfl rfl)
theorem dJ16_multiply_2_99 : decode cJ16_multiply_2 99 = .ok (.getfield 28, 3) := dk_180 0 28 (dk_at dksJ16_multiply_2_4 4 rfl rfl)
theorem dJ16_multiply_2_102 : decode cJ16_multiply_2 102 = .ok (.iconst 0, 1) := dk_3 (dk_at dksJ16_multiply_2_4 7 rfl rfl)
theorem dJ16_multiply_2_103 : decode cJ16_multiply_2 103 = .ok (.iaload, 1) := dk_46 (dk_at dksJ16_multiply_2_4 8 rfl rfl)
theorem dJ16_multiply_2_104 : decode cJ16_multiply_2 104 = .ok (.iload 7, 2) := dk_21 7 (dk_at dksJ16_multiply_2_4 9 rfl rfl)
theorem dJ16_multiply_2_106 : decode cJ16_multiply_2 106 = .ok (.invokestatic 403, 3) := dk_184 1 147 (dk_at dksJ16_multiply_2_4 11 rfl rfl)
theorem dJ16_multiply_2_109 : decode cJ16_multiply_2 109 = .ok (.areturn, 1) := dk_176 (dk_at dksJ16_multiply_2_4 14 rfl rfl)
theorem dJ16_multiply_2_110 : decode cJ16_multiply_2 110 = .ok (.aload_n 0, 1) := dk_42 (dk_at dksJ16_multiply_2_4 15 rfl rfl)
theorem dJ16_multiply_2_111 : decode cJ16_multiply_2 111 = .ok (.getfield 28, 3) := dk_180 0 28 (dk_at dksJ16_multiply_2_4 16 rfl rfl)
theorem dJ16_multiply_2_114 : decode cJ16_multiply_2 114 = .ok (.arraylength, 1) := dk_190 (dk_at dksJ16_multiply_2_4 19 rfl rfl)
theorem dJ16_multiply_2_115 : decode cJ16_multiply_2 115 = .ok (.iconst 1, 1) := dk_4 (dk_at dksJ16_multiply_2_4 20 rfl rfl)
theorem dJ16_multiply_2_116 : decode cJ16_multiply_2 116 = .ok (.if_icmp .ne 19, 3) := dk_160 0 19 (dk_at dksJ16_multiply_2_4 21 rfl rfl)
theorem dJ16_multiply_2_119 : decode cJ16_multiply_2 119 = .ok (.aload_n 1, 1) := dk_43 (dk_at dksJ16_multiply_2_5 0 rfl rfl)
theorem dJ16_multiply_2_120 : decode cJ16_multiply_2 120 = .ok (.getfield 28, 3) := dk_180 0 28 (dk_at dksJ16_multiply_2_5 1 rfl rfl)
theorem dJ16_multiply_2_123 : decode cJ16_multiply_2 123 = .ok (.aload_n 0, 1) := dk_42 (dk_at dksJ16_multiply_2_5 4 rfl rfl)
theorem dJ16_multiply_2_124 : decode cJ16_multiply_2 124 = .ok (.getfield 28, 3) := dk_180 0 28 (dk_at dksJ16_multiply_2_5 5 rfl rfl)
theorem dJ16_multiply_2_127 : decode cJ16_multiply_2 127 = .ok (.iconst 0, 1) := dk_3 (dk_at dksJ16_multiply_2_5 8 rfl rfl)
theorem dJ16_multiply_2_128 : decode cJ16_multiply_2 128 = .ok (.iaload, 1) := dk_46 (dk_at dksJ16_multiply_2_5 9 rfl rfl)
theorem dJ16_multiply_2_129 : decode cJ16_multiply_2 129 = .ok (.iload 7, 2) := dk_21 7 (dk_at dksJ16_multiply_2_5 10 rfl rfl)
theorem dJ16_multiply_2_131 : decode cJ16_multiply_2 131 = .ok (.invokestatic 403, 3) := dk_184 1 147 (dk_at dksJ16_multiply_2_5 12 rfl rfl)
theorem dJ16_multiply_2_134 : decode cJ16_multiply_2 134 = .ok (.areturn, 1) := dk_176 (dk_at dksJ16_multiply_2_5 15 rfl rfl)
theorem dJ16_multiply_2_135 : decode cJ16_multiply_2 135 = .ok (.aload_n 0, 1) := dk_42 (dk_at dksJ16_multiply_2_5 16 rfl rfl)
theorem dJ16_multiply_2_136 : decode cJ16_multiply_2 136 = .ok (.getfield 28, 3) := dk_180 0 28 (dk_at dksJ16_multiply_2_5 17 rfl rfl)
theorem dJ16_multiply_2_139 : decode cJ16_multiply_2 139 = .ok (.iload 5, 2) := dk_21 5 (dk_at dksJ16_multiply_2_5 20 rfl rfl)
theorem dJ16_multiply_2_141 : decode cJ16_multiply_2 141 = .ok (.aload_n 1, 1) := dk_43 (dk_at dksJ16_multiply_2_5 22 rfl rfl)
theorem dJ16_multiply_2_142 : decode cJ16_multiply_2 142 = .ok (.getfield 28, 3) := dk_180 0 28 (dk_at dksJ16_multiply_2_6 0 rfl rfl)
theorem dJ16_multiply_2_145 : decode cJ16_multiply_2 145 = .ok (.iload 6, 2) := dk_21 6 (dk_at dksJ16_multiply_2_6 3 rfl rfl)
theorem dJ16_multiply_2_147 : decode cJ16_multiply_2 147 = .ok (.aconst_null, 1) := dk_1 (dk_at dksJ16_multiply_2_6 5 rfl rfl)
theorem dJ16_multiply_2_148 : decode cJ16_multiply_2 148 = .ok (.invokestatic 407, 3) := dk_184 1 151 (dk_at dksJ16_multiply_2_6 6 rfl rfl)
theorem dJ16_multiply_2_151 : decode cJ16_multiply_2 151 = .ok (.astore 8, 2) := dk_58 8 (dk_at dksJ16_multiply_2_6 9 rfl rfl)
theorem dJ16_multiply_2_153 : decode cJ16_multiply_2 153 = .ok (.aload 8, 2) := dk_25 8 (dk_at dksJ16_multiply_2_6 11 rfl rfl)
theorem dJ16_multiply_2_155 : decode cJ16_multiply_2 155 = .ok (.invokestatic 53, 3) := dk_184 0 53 (dk_at dksJ16_multiply_2_6 13 rfl rfl)
theorem dJ16_multiply_2_158 : decode cJ16_multiply_2 158 = .ok (.astore 8, 2) := dk_58 8 (dk_at dksJ16_multiply_2_6 16 rfl rfl)
theorem dJ16_multiply_2_160 : decode cJ16_multiply_2 160 = .ok (.new 23, 3) := dk_187 0 23 (dk_at dksJ16_multiply_2_6 18 rfl rfl)
theorem dJ16_multiply_2_163 : decode cJ16_multiply_2 163 = .ok (.dup, 1) := dk_89 (dk_at dksJ16_multiply_2_6 21 rfl rfl)
theorem dJ16_multiply_2_164 : decode cJ16_multiply_2 164 = .ok (.aload 8, 2) := dk_25 8 (dk_at dksJ16_multiply_2_6 22 rfl rfl)
theorem dJ16_multiply_2_166 : decode cJ16_multiply_2 166 = .ok (.iload 7, 2) := dk_21 7 (dk_at dksJ16_multiply_2_7 0 rfl rfl)
theorem dJ16_multiply_2_168 : decode cJ16_multiply_2 168 = .ok (.invokespecial 175, 3) := dk_183 0 175 (dk_at dksJ16_multiply_2_7 2 rfl rfl)
theorem dJ16_multiply_2_171 : decode cJ16_multiply_2 171 = .ok (.areturn, 1) := dk_176 (dk_at dksJ16_multiply_2_7 5 rfl rfl)
theorem dJ16_multiply_2_172 : decode cJ16_multiply_2 172 = .ok (.iload 5, 2) := dk_21 5 (dk_at dksJ16_multiply_2_7 6 rfl rfl)
theorem dJ16_multiply_2_174 : decode cJ16_multiply_2 174 = .ok (.sipush 240, 3) := dk_17 0 240 (dk_at dksJ16_multiply_2_7 8 rfl rfl)
theorem dJ16_multiply_2_177 : decode cJ16_multiply_2 177 = .ok (.if_icmp .ge 17, 3) := dk_162 0 17 (dk_at dksJ16_multiply_2_7 11 rfl rfl)
theorem dJ16_multiply_2_180 : decode cJ16_multiply_2 180 = .ok (.iload 6, 2) := dk_21 6 (dk_at dksJ16_multiply_2_7 14 rfl rfl)
theorem dJ16_multiply_2_182 : decode cJ16_multiply_2 182 = .ok (.sipush 240, 3) := dk_17 0 240 (dk_at dksJ16_multiply_2_7 16 rfl rfl)
theorem dJ16_multiply_2_185 : decode cJ16_multiply_2 185 = .ok (.if_icmp .ge 9, 3) := dk_162 0 9 (dk_at dksJ16_multiply_2_7 19 rfl rfl)
theorem dJ16_multiply_2_188 : decode cJ16_multiply_2 188 = .ok (.aload_n 0, 1) := dk_42 (dk_at dksJ16_multiply_2_7 22 rfl rfl)
theorem dJ16_multiply_2_189 : decode cJ16_multiply_2 189 = .ok (.aload_n 1, 1) := dk_43 (dk_at dksJ16_multiply_2_7 23 rfl rfl)
theorem dJ16_multiply_2_190 : decode cJ16_multiply_2 190 = .ok (.invokestatic 411, 3) := dk_184 1 155 (dk_at dksJ16_multiply_2_8 0 rfl rfl)
theorem dJ16_multiply_2_193 : decode cJ16_multiply_2 193 = .ok (.areturn, 1) := dk_176 (dk_at dksJ16_multiply_2_8 3 rfl rfl)
theorem dJ16_multiply_2_194 : decode cJ16_multiply_2 194 = .ok (.iload_n 2, 1) := dk_28 (dk_at dksJ16_multiply_2_8 4 rfl rfl)
theorem dJ16_multiply_2_195 : decode cJ16_multiply_2 195 = .ok (.ifCond .ne 40, 3) := dk_154 0 40 (dk_at dksJ16_multiply_2_8 5 rfl rfl)
theorem dJ16_multiply_2_198 : decode cJ16_multiply_2 198 = .ok (.aload_n 0, 1) := dk_42 (dk_at dksJ16_multiply_2_8 8 rfl rfl)
theorem dJ16_multiply_2_199 : decode cJ16_multiply_2 199 = .ok (.getfield 28, 3) := dk_180 0 28 (dk_at dksJ16_multiply_2_8 9 rfl rfl)
theorem dJ16_multiply_2_202 : decode cJ16_multiply_2 202 = .ok (.aload_n 0, 1) := dk_42 (dk_at dksJ16_multiply_2_8 12 rfl rfl)
theorem dJ16_multiply_2_203 : decode cJ16_multiply_2 203 = .ok (.getfield 28, 3) := dk_180 0 28 (dk_at dksJ16_multiply_2_8 13 rfl rfl)
theorem dJ16_multiply_2_206 : decode cJ16_multiply_2 206 = .ok (.arraylength, 1) := dk_190 (dk_at dksJ16_multiply_2_8 16 rfl rfl)
theorem dJ16_multiply_2_207 : decode cJ16_multiply_2 207 = .ok (.invokestatic 414, 3) := dk_184 1 158 (dk_at dksJ16_multiply_2_8 17 rfl rfl)
theorem dJ16_multiply_2_210 : decode cJ16_multiply_2 210 = .ok (.i2l, 1) := dk_133 (dk_at dksJ16_multiply_2_8 20 rfl rfl)
theorem dJ16_multiply_2_211 : decode cJ16_multiply_2 211 = .ok (.aload_n 1, 1) := dk_43 (dk_at dksJ16_multiply_2_8 21 rfl rfl)
theorem dJ16_multiply_2_212 : decode cJ16_multiply_2 212 = .ok (.getfield 28, 3) := dk_180 0 28 (dk_at dksJ16_multiply_2_9 0 rfl rfl)
theorem dJ16_multiply_2_215 : decode cJ16_multiply_2 215 = .ok (.aload_n 1, 1) := dk_43 (dk_at dksJ16_multiply_2_9 3 rfl rfl)
theorem dJ16_multiply_2_216 : decode cJ16_multiply_2 216 = .ok (.getfield 28, 3) := dk_180 0 28 (dk_at dksJ16_multiply_2_9 4 rfl rfl)
theorem dJ16_multiply_2_219 : decode cJ16_multiply_2 219 = .ok (.arraylength, 1) := dk_190 (dk_at dksJ16_multiply_2_9 7 rfl rfl)
theorem dJ16_multiply_2_220 : decode cJ16_multiply_2 220 = .ok (.invokestatic 414, 3) := dk_184 1 158 (dk_at dksJ16_multiply_2_9 8 rfl rfl)
theorem dJ16_multiply_2_223 : decode cJ16_multiply_2 223 = .ok (.i2l, 1) := dk_133 (dk_at dksJ16_multiply_2_9 11 rfl rfl)
theorem dJ16_multiply_2_224 : decode cJ16_multiply_2 224 = .ok (.ladd, 1) := dk_97 (dk_at dksJ16_multiply_2_9 12 rfl rfl)
theorem dJ16_multiply_2_225 : decode cJ16_multiply_2 225 = .ok (.ldc2_w 417, 3) := dk_20 1 161 (dk_at dksJ16_multiply_2_9 13 rfl rfl)
theorem dJ16_multiply_2_228 : decode cJ16_multiply_2 228 = .ok (.lcmp, 1) := dk_148 (dk_at dksJ16_multiply_2_9 16 rfl rfl)
theorem dJ16_multiply_2_229 : decode cJ16_multiply_2 229 = .ok (.ifCond .le 6, 3) := dk_158 0 6 (dk_at dksJ16_multiply_2_9 17 rfl rfl)
theorem dJ16_multiply_2_232 : decode cJ16_multiply_2 232 = .ok (.invokestatic 101, 3) := dk_184 0 101 (dk_at dksJ16_multiply_2_9 20 rfl rfl)
theorem dJ16_multiply_2_235 : decode cJ16_multiply_2 235 = .ok (.aload_n 0, 1) := dk_42 (dk_at dksJ16_multiply_2_9 23 rfl rfl)
theorem dJ16_multiply_2_236 : decode cJ16_multiply_2 236 = .ok (.aload_n 1, 1) := dk_43 (dk_at dksJ16_multiply_2_10 0 rfl rfl)
theorem dJ16_multiply_2_237 : decode cJ16_multiply_2 237 = .ok (.iload_n 3, 1) := dk_29 (dk_at dksJ16_multiply_2_10 1 rfl rfl)
theorem dJ16_multiply_2_238 : decode cJ16_multiply_2 238 = .ok (.iload 4, 2) := dk_21 4 (dk_at dksJ16_multiply_2_10 2 rfl rfl)
theorem dJ16_multiply_2_240 : decode cJ16_multiply_2 240 = .ok (.invokestatic 419, 3) := dk_184 1 163 (dk_at dksJ16_multiply_2_10 4 rfl rfl)
theorem dJ16_multiply_2_243 : decode cJ16_multiply_2 243 = .ok (.areturn, 1) := dk_176 (dk_at dksJ16_multiply_2_10 7 rfl rfl)
abbrev cJ16_trustedStripLeadingZeroInts : ByteArray := prog_33_method_140_code
def yJ16_trustedStripLeadingZeroInts : MethodName := ⟨RJ16, "trustedStripLeadingZeroInts", "([I)[I"⟩
def dkwJ16_trustedStripLeadingZeroInts_1 : List UInt8 := [154, 0, 7, 42, 167, 0, 9, 42, 28, 27, 184, 1, 177, 176]
abbrev dktJ16_trustedStripLeadingZeroInts_1 : List UInt8 := dkwJ16_trustedStripLeadingZeroInts_1 ++ []
def dkwJ16_trustedStripLeadingZeroInts_0 : List UInt8 := [42, 190, 60, 3, 61, 28, 27, 162, 0, 15, 42, 28, 46, 154, 0, 9, 132, 2, 1, 167, 255, 242, 28]
abbrev dktJ16_trustedStripLeadingZeroInts_0 : List UInt8 := dkwJ16_trustedStripLeadingZeroInts_0 ++ dktJ16_trustedStripLeadingZeroInts_1
theorem dksJ16_trustedStripLeadingZeroInts_0 : cJ16_trustedStripLeadingZeroInts.data.toList.drop 0 = dktJ16_trustedStripLeadingZeroInts_0 := by decide +kernel
theorem dksJ16_trustedStripLeadingZeroInts_1 : cJ16_trustedStripLeadingZeroInts.data.toList.drop 23 = dktJ16_trustedStripLeadingZeroInts_1 := dk_seg dksJ16_trustedStripLeadingZeroInts_0 23 rfl rfl
theorem dJ16_trustedStripLeadingZeroInts_0 : decode cJ16_trustedStripLeadingZeroInts 0 = .ok (.aload_n 0, 1) := dk_42 (dk_at dksJ16_trustedStripLeadingZeroInts_0 0 rfl rfl)
theorem dJ16_trustedStripLeadingZeroInts_1 : decode cJ16_trustedStripLeadingZeroInts 1 = .ok (.arraylength, 1) := dk_190 (dk_at dksJ16_trustedStripLeadingZeroInts_0 1 rfl rfl)
theorem dJ16_trustedStripLeadingZeroInts_2 : decode cJ16_trustedStripLeadingZeroInts 2 = .ok (.istore_n 1, 1) := dk_60 (dk_at dksJ16_trustedStripLeadingZeroInts_0 2 rfl rfl)
theorem dJ16_trustedStripLeadingZeroInts_3 : decode cJ16_trustedStripLeadingZeroInts 3 = .ok (.iconst 0, 1) := dk_3 (dk_at dksJ16_trustedStripLeadingZeroInts_0 3 rfl rfl)
theorem dJ16_trustedStripLeadingZeroInts_4 : decode cJ16_trustedStripLeadingZeroInts 4 = .ok (.istore_n 2, 1) := dk_61 (dk_at dksJ16_trustedStripLeadingZeroInts_0 4 rfl rfl)
theorem dJ16_trustedStripLeadingZeroInts_5 : decode cJ16_trustedStripLeadingZeroInts 5 = .ok (.iload_n 2, 1) := dk_28 (dk_at dksJ16_trustedStripLeadingZeroInts_0 5 rfl rfl)
theorem dJ16_trustedStripLeadingZeroInts_6 : decode cJ16_trustedStripLeadingZeroInts 6 = .ok (.iload_n 1, 1) := dk_27 (dk_at dksJ16_trustedStripLeadingZeroInts_0 6 rfl rfl)
theorem dJ16_trustedStripLeadingZeroInts_7 : decode cJ16_trustedStripLeadingZeroInts 7 = .ok (.if_icmp .ge 15, 3) := dk_162 0 15 (dk_at dksJ16_trustedStripLeadingZeroInts_0 7 rfl rfl)
theorem dJ16_trustedStripLeadingZeroInts_10 : decode cJ16_trustedStripLeadingZeroInts 10 = .ok (.aload_n 0, 1) := dk_42 (dk_at dksJ16_trustedStripLeadingZeroInts_0 10 rfl rfl)
theorem dJ16_trustedStripLeadingZeroInts_11 : decode cJ16_trustedStripLeadingZeroInts 11 = .ok (.iload_n 2, 1) := dk_28 (dk_at dksJ16_trustedStripLeadingZeroInts_0 11 rfl rfl)
theorem dJ16_trustedStripLeadingZeroInts_12 : decode cJ16_trustedStripLeadingZeroInts 12 = .ok (.iaload, 1) := dk_46 (dk_at dksJ16_trustedStripLeadingZeroInts_0 12 rfl rfl)
theorem dJ16_trustedStripLeadingZeroInts_13 : decode cJ16_trustedStripLeadingZeroInts 13 = .ok (.ifCond .ne 9, 3) := dk_154 0 9 (dk_at dksJ16_trustedStripLeadingZeroInts_0 13 rfl rfl)
theorem dJ16_trustedStripLeadingZeroInts_16 : decode cJ16_trustedStripLeadingZeroInts 16 = .ok (.iinc 2 1, 3) := dk_132 2 1 (dk_at dksJ16_trustedStripLeadingZeroInts_0 16 rfl rfl)
theorem dJ16_trustedStripLeadingZeroInts_19 : decode cJ16_trustedStripLeadingZeroInts 19 = .ok (.goto (-14), 3) := dk_167 255 242 (dk_at dksJ16_trustedStripLeadingZeroInts_0 19 rfl rfl)
theorem dJ16_trustedStripLeadingZeroInts_22 : decode cJ16_trustedStripLeadingZeroInts 22 = .ok (.iload_n 2, 1) := dk_28 (dk_at dksJ16_trustedStripLeadingZeroInts_0 22 rfl rfl)
theorem dJ16_trustedStripLeadingZeroInts_23 : decode cJ16_trustedStripLeadingZeroInts 23 = .ok (.ifCond .ne 7, 3) := dk_154 0 7 (dk_at dksJ16_trustedStripLeadingZeroInts_1 0 rfl rfl)
theorem dJ16_trustedStripLeadingZeroInts_26 : decode cJ16_trustedStripLeadingZeroInts 26 = .ok (.aload_n 0, 1) := dk_42 (dk_at dksJ16_trustedStripLeadingZeroInts_1 3 rfl rfl)
theorem dJ16_trustedStripLeadingZeroInts_27 : decode cJ16_trustedStripLeadingZeroInts 27 = .ok (.goto 9, 3) := dk_167 0 9 (dk_at dksJ16_trustedStripLeadingZeroInts_1 4 rfl rfl)
theorem dJ16_trustedStripLeadingZeroInts_30 : decode cJ16_trustedStripLeadingZeroInts 30 = .ok (.aload_n 0, 1) := dk_42 (dk_at dksJ16_trustedStripLeadingZeroInts_1 7 rfl rfl)
theorem dJ16_trustedStripLeadingZeroInts_31 : decode cJ16_trustedStripLeadingZeroInts 31 = .ok (.iload_n 2, 1) := dk_28 (dk_at dksJ16_trustedStripLeadingZeroInts_1 8 rfl rfl)
theorem dJ16_trustedStripLeadingZeroInts_32 : decode cJ16_trustedStripLeadingZeroInts 32 = .ok (.iload_n 1, 1) := dk_27 (dk_at dksJ16_trustedStripLeadingZeroInts_1 9 rfl rfl)
theorem dJ16_trustedStripLeadingZeroInts_33 : decode cJ16_trustedStripLeadingZeroInts 33 = .ok (.invokestatic 433, 3) := dk_184 1 177 (dk_at dksJ16_trustedStripLeadingZeroInts_1 10 rfl rfl)
theorem dJ16_trustedStripLeadingZeroInts_36 : decode cJ16_trustedStripLeadingZeroInts 36 = .ok (.areturn, 1) := dk_176 (dk_at dksJ16_trustedStripLeadingZeroInts_1 13 rfl rfl)
abbrev cJ16_abs : ByteArray := prog_33_method_79_code
def yJ16_abs : MethodName := ⟨RJ16, "abs", "()Ljava/math/BigInteger;"⟩
def dkwJ16_abs_0 : List UInt8 := [42, 180, 0, 32, 155, 0, 7, 42, 167, 0, 7, 42, 182, 1, 138, 176]
abbrev dktJ16_abs_0 : List UInt8 := dkwJ16_abs_0 ++ []
theorem dksJ16_abs_0 : cJ16_abs.data.toList.drop 0 = dktJ16_abs_0 := by decide +kernel
theorem dJ16_abs_0 : decode cJ16_abs 0 = .ok (.aload_n 0, 1) := dk_42 (dk_at dksJ16_abs_0 0 rfl rfl)
theorem dJ16_abs_1 : decode cJ16_abs 1 = .ok (.getfield 32, 3) := dk_180 0 32 (dk_at dksJ16_abs_0 1 rfl rfl)
theorem dJ16_abs_4 : decode cJ16_abs 4 = .ok (.ifCond .lt 7, 3) := dk_155 0 7 (dk_at dksJ16_abs_0 4 rfl rfl)
theorem dJ16_abs_7 : decode cJ16_abs 7 = .ok (.aload_n 0, 1) := dk_42 (dk_at dksJ16_abs_0 7 rfl rfl)
theorem dJ16_abs_8 : decode cJ16_abs 8 = .ok (.goto 7, 3) := dk_167 0 7 (dk_at dksJ16_abs_0 8 rfl rfl)
theorem dJ16_abs_11 : decode cJ16_abs 11 = .ok (.aload_n 0, 1) := dk_42 (dk_at dksJ16_abs_0 11 rfl rfl)
theorem dJ16_abs_12 : decode cJ16_abs 12 = .ok (.invokevirtual 394, 3) := dk_182 1 138 (dk_at dksJ16_abs_0 12 rfl rfl)
theorem dJ16_abs_15 : decode cJ16_abs 15 = .ok (.areturn, 1) := dk_176 (dk_at dksJ16_abs_0 15 rfl rfl)
abbrev cJ16_negate : ByteArray := prog_33_method_80_code
def yJ16_negate : MethodName := ⟨RJ16, "negate", "()Ljava/math/BigInteger;"⟩
def dkwJ16_negate_0 : List UInt8 := [187, 0, 23, 89, 42, 180, 0, 28, 42, 180, 0, 32, 116, 183, 0, 175, 176]
abbrev dktJ16_negate_0 : List UInt8 := dkwJ16_negate_0 ++ []
theorem dksJ16_negate_0 : cJ16_negate.data.toList.drop 0 = dktJ16_negate_0 := by decide +kernel
theorem dJ16_negate_0 : decode cJ16_negate 0 = .ok (.new 23, 3) := dk_187 0 23 (dk_at dksJ16_negate_0 0 rfl rfl)
theorem dJ16_negate_3 : decode cJ16_negate 3 = .ok (.dup, 1) := dk_89 (dk_at dksJ16_negate_0 3 rfl rfl)
theorem dJ16_negate_4 : decode cJ16_negate 4 = .ok (.aload_n 0, 1) := dk_42 (dk_at dksJ16_negate_0 4 rfl rfl)
theorem dJ16_negate_5 : decode cJ16_negate 5 = .ok (.getfield 28, 3) := dk_180 0 28 (dk_at dksJ16_negate_0 5 rfl rfl)
theorem dJ16_negate_8 : decode cJ16_negate 8 = .ok (.aload_n 0, 1) := dk_42 (dk_at dksJ16_negate_0 8 rfl rfl)
theorem dJ16_negate_9 : decode cJ16_negate 9 = .ok (.getfield 32, 3) := dk_180 0 32 (dk_at dksJ16_negate_0 9 rfl rfl)
theorem dJ16_negate_12 : decode cJ16_negate 12 = .ok (.ineg, 1) := dk_116 (dk_at dksJ16_negate_0 12 rfl rfl)
theorem dJ16_negate_13 : decode cJ16_negate 13 = .ok (.invokespecial 175, 3) := dk_183 0 175 (dk_at dksJ16_negate_0 13 rfl rfl)
theorem dJ16_negate_16 : decode cJ16_negate 16 = .ok (.areturn, 1) := dk_176 (dk_at dksJ16_negate_0 16 rfl rfl)
abbrev cJ16_add : ByteArray := prog_33_method_32_code
def yJ16_add : MethodName := ⟨RJ16, "add", "(Ljava/math/BigInteger;)Ljava/math/BigInteger;"⟩
def dkwJ16_add_5 : List UInt8 := [160, 0, 7, 4, 167, 0, 4, 2, 183, 0, 175, 176]
abbrev dktJ16_add_5 : List UInt8 := dkwJ16_add_5 ++ []
def dkwJ16_add_4 : List UInt8 := [180, 0, 28, 184, 1, 112, 78, 45, 184, 0, 53, 78, 187, 0, 23, 89, 45, 28, 42, 180, 0, 32]
abbrev dktJ16_add_4 : List UInt8 := dkwJ16_add_4 ++ dktJ16_add_5
def dkwJ16_add_3 : List UInt8 := [158, 0, 17, 42, 180, 0, 28, 43, 180, 0, 28, 184, 1, 112, 167, 0, 14, 43, 180, 0, 28, 42]
abbrev dktJ16_add_3 : List UInt8 := dkwJ16_add_3 ++ dktJ16_add_4
def dkwJ16_add_2 : List UInt8 := [180, 0, 32, 183, 0, 175, 176, 42, 43, 182, 1, 109, 61, 28, 154, 0, 7, 178, 0, 22, 176, 28]
abbrev dktJ16_add_2 : List UInt8 := dkwJ16_add_2 ++ dktJ16_add_3
def dkwJ16_add_1 : List UInt8 := [180, 0, 32, 160, 0, 26, 187, 0, 23, 89, 42, 180, 0, 28, 43, 180, 0, 28, 184, 1, 106, 42]
abbrev dktJ16_add_1 : List UInt8 := dkwJ16_add_1 ++ dktJ16_add_2
def dkwJ16_add_0 : List UInt8 := [43, 180, 0, 32, 154, 0, 5, 42, 176, 42, 180, 0, 32, 154, 0, 5, 43, 176, 43, 180, 0, 32, 42]
abbrev dktJ16_add_0 : List UInt8 := dkwJ16_add_0 ++ dktJ16_add_1
theorem dksJ16_add_0 : cJ16_add.data.toList.drop 0 = dktJ16_add_0 := by decide +kernel
theorem dksJ16_add_1 : cJ16_add.data.toList.drop 23 = dktJ16_add_1 := dk_seg dksJ16_add_0 23 rfl rfl
theorem dksJ16_add_2 : cJ16_add.data.toList.drop 45 = dktJ16_add_2 := dk_seg dksJ16_add_1 22 rfl rfl
theorem dksJ16_add_3 : cJ16_add.data.toList.drop 67 = dktJ16_add_3 := dk_seg dksJ16_add_2 22 rfl rfl
theorem dksJ16_add_4 : cJ16_add.data.toList.drop 89 = dktJ16_add_4 := dk_seg dksJ16_add_3 22 rfl rfl
theorem dksJ16_add_5 : cJ16_add.data.toList.drop 111 = dktJ16_add_5 := dk_seg dksJ16_add_4 22 rfl rfl
theorem dJ16_add_0 : decode cJ16_add 0 = .ok (.aload_n 1, 1) := dk_43 (dk_at dksJ16_add_0 0 rfl rfl)
theorem dJ16_add_1 : decode cJ16_add 1 = .ok (.getfield 32, 3) := dk_180 0 32 (dk_at dksJ16_add_0 1 rfl rfl)
theorem dJ16_add_4 : decode cJ16_add 4 = .ok (.ifCond .ne 5, 3) := dk_154 0 5 (dk_at dksJ16_add_0 4 rfl rfl)
theorem dJ16_add_7 : decode cJ16_add 7 = .ok (.aload_n 0, 1) := dk_42 (dk_at dksJ16_add_0 7 rfl rfl)
theorem dJ16_add_8 : decode cJ16_add 8 = .ok (.areturn, 1) := dk_176 (dk_at dksJ16_add_0 8 rfl rfl)
theorem dJ16_add_9 : decode cJ16_add 9 = .ok (.aload_n 0, 1) := dk_42 (dk_at dksJ16_add_0 9 rfl rfl)
theorem dJ16_add_10 : decode cJ16_add 10 = .ok (.getfield 32, 3) := dk_180 0 32 (dk_at dksJ16_add_0 10 rfl rfl)
theorem dJ16_add_13 : decode cJ16_add 13 = .ok (.ifCond .ne 5, 3) := dk_154 0 5 (dk_at dksJ16_add_0 13 rfl rfl)
theorem dJ16_add_16 : decode cJ16_add 16 = .ok (.aload_n 1, 1) := dk_43 (dk_at dksJ16_add_0 16 rfl rfl)
theorem dJ16_add_17 : decode cJ16_add 17 = .ok (.areturn, 1) := dk_176 (dk_at dksJ16_add_0 17 rfl rfl)
theorem dJ16_add_18 : decode cJ16_add 18 = .ok (.aload_n 1, 1) := dk_43 (dk_at dksJ16_add_0 18 rfl rfl)
theorem dJ16_add_19 : decode cJ16_add 19 = .ok (.getfield 32, 3) := dk_180 0 32 (dk_at dksJ16_add_0 19 rfl rfl)
theorem dJ16_add_22 : decode cJ16_add 22 = .ok (.aload_n 0, 1) := dk_42 (dk_at dksJ16_add_0 22 rfl rfl)
theorem dJ16_add_23 : decode cJ16_add 23 = .ok (.getfield 32, 3) := dk_180 0 32 (dk_at dksJ16_add_1 0 rfl rfl)
theorem dJ16_add_26 : decode cJ16_add 26 = .ok (.if_icmp .ne 26, 3) := dk_160 0 26 (dk_at dksJ16_add_1 3 rfl rfl)
theorem dJ16_add_29 : decode cJ16_add 29 = .ok (.new 23, 3) := dk_187 0 23 (dk_at dksJ16_add_1 6 rfl rfl)
theorem dJ16_add_32 : decode cJ16_add 32 = .ok (.dup, 1) := dk_89 (dk_at dksJ16_add_1 9 rfl rfl)
theorem dJ16_add_33 : decode cJ16_add 33 = .ok (.aload_n 0, 1) := dk_42 (dk_at dksJ16_add_1 10 rfl rfl)
theorem dJ16_add_34 : decode cJ16_add 34 = .ok (.getfield 28, 3) := dk_180 0 28 (dk_at dksJ16_add_1 11 rfl rfl)
theorem dJ16_add_37 : decode cJ16_add 37 = .ok (.aload_n 1, 1) := dk_43 (dk_at dksJ16_add_1 14 rfl rfl)
theorem dJ16_add_38 : decode cJ16_add 38 = .ok (.getfield 28, 3) := dk_180 0 28 (dk_at dksJ16_add_1 15 rfl rfl)
theorem dJ16_add_41 : decode cJ16_add 41 = .ok (.invokestatic 362, 3) := dk_184 1 106 (dk_at dksJ16_add_1 18 rfl rfl)
theorem dJ16_add_44 : decode cJ16_add 44 = .ok (.aload_n 0, 1) := dk_42 (dk_at dksJ16_add_1 21 rfl rfl)
theorem dJ16_add_45 : decode cJ16_add 45 = .ok (.getfield 32, 3) := dk_180 0 32 (dk_at dksJ16_add_2 0 rfl rfl)
theorem dJ16_add_48 : decode cJ16_add 48 = .ok (.invokespecial 175, 3) := dk_183 0 175 (dk_at dksJ16_add_2 3 rfl rfl)
theorem dJ16_add_51 : decode cJ16_add 51 = .ok (.areturn, 1) := dk_176 (dk_at dksJ16_add_2 6 rfl rfl)
theorem dJ16_add_52 : decode cJ16_add 52 = .ok (.aload_n 0, 1) := dk_42 (dk_at dksJ16_add_2 7 rfl rfl)
theorem dJ16_add_53 : decode cJ16_add 53 = .ok (.aload_n 1, 1) := dk_43 (dk_at dksJ16_add_2 8 rfl rfl)
theorem dJ16_add_54 : decode cJ16_add 54 = .ok (.invokevirtual 365, 3) := dk_182 1 109 (dk_at dksJ16_add_2 9 rfl rfl)
theorem dJ16_add_57 : decode cJ16_add 57 = .ok (.istore_n 2, 1) := dk_61 (dk_at dksJ16_add_2 12 rfl rfl)
theorem dJ16_add_58 : decode cJ16_add 58 = .ok (.iload_n 2, 1) := dk_28 (dk_at dksJ16_add_2 13 rfl rfl)
theorem dJ16_add_59 : decode cJ16_add 59 = .ok (.ifCond .ne 7, 3) := dk_154 0 7 (dk_at dksJ16_add_2 14 rfl rfl)
theorem dJ16_add_62 : decode cJ16_add 62 = .ok (.getstatic 22, 3) := dk_178 0 22 (dk_at dksJ16_add_2 17 rfl rfl)
theorem dJ16_add_65 : decode cJ16_add 65 = .ok (.areturn, 1) := dk_176 (dk_at dksJ16_add_2 20 rfl rfl)
theorem dJ16_add_66 : decode cJ16_add 66 = .ok (.iload_n 2, 1) := dk_28 (dk_at dksJ16_add_2 21 rfl rfl)
theorem dJ16_add_67 : decode cJ16_add 67 = .ok (.ifCond .le 17, 3) := dk_158 0 17 (dk_at dksJ16_add_3 0 rfl rfl)
theorem dJ16_add_70 : decode cJ16_add 70 = .ok (.aload_n 0, 1) := dk_42 (dk_at dksJ16_add_3 3 rfl rfl)
theorem dJ16_add_71 : decode cJ16_add 71 = .ok (.getfield 28, 3) := dk_180 0 28 (dk_at dksJ16_add_3 4 rfl rfl)
theorem dJ16_add_74 : decode cJ16_add 74 = .ok (.aload_n 1, 1) := dk_43 (dk_at dksJ16_add_3 7 rfl rfl)
theorem dJ16_add_75 : decode cJ16_add 75 = .ok (.getfield 28, 3) := dk_180 0 28 (dk_at dksJ16_add_3 8 rfl rfl)
theorem dJ16_add_78 : decode cJ16_add 78 = .ok (.invokestatic 368, 3) := dk_184 1 112 (dk_at dksJ16_add_3 11 rfl rfl)
theorem dJ16_add_81 : decode cJ16_add 81 = .ok (.goto 14, 3) := dk_167 0 14 (dk_at dksJ16_add_3 14 rfl rfl)
theorem dJ16_add_84 : decode cJ16_add 84 = .ok (.aload_n 1, 1) := dk_43 (dk_at dksJ16_add_3 17 rfl rfl)
theorem dJ16_add_85 : decode cJ16_add 85 = .ok (.getfield 28, 3) := dk_180 0 28 (dk_at dksJ16_add_3 18 rfl rfl)
theorem dJ16_add_88 : decode cJ16_add 88 = .ok (.aload_n 0, 1) := dk_42 (dk_at dksJ16_add_3 21 rfl rfl)
theorem dJ16_add_89 : decode cJ16_add 89 = .ok (.getfield 28, 3) := dk_180 0 28 (dk_at dksJ16_add_4 0 rfl rfl)
theorem dJ16_add_92 : decode cJ16_add 92 = .ok (.invokestatic 368, 3) := dk_184 1 112 (dk_at dksJ16_add_4 3 rfl rfl)
theorem dJ16_add_95 : decode cJ16_add 95 = .ok (.astore_n 3, 1) := dk_78 (dk_at dksJ16_add_4 6 rfl rfl)
theorem dJ16_add_96 : decode cJ16_add 96 = .ok (.aload_n 3, 1) := dk_45 (dk_at dksJ16_add_4 7 rfl rfl)
theorem dJ16_add_97 : decode cJ16_add 97 = .ok (.invokestatic 53, 3) := dk_184 0 53 (dk_at dksJ16_add_4 8 rfl rfl)
theorem dJ16_add_100 : decode cJ16_add 100 = .ok (.astore_n 3, 1) := dk_78 (dk_at dksJ16_add_4 11 rfl rfl)
theorem dJ16_add_101 : decode cJ16_add 101 = .ok (.new 23, 3) := dk_187 0 23 (dk_at dksJ16_add_4 12 rfl rfl)
theorem dJ16_add_104 : decode cJ16_add 104 = .ok (.dup, 1) := dk_89 (dk_at dksJ16_add_4 15 rfl rfl)
theorem dJ16_add_105 : decode cJ16_add 105 = .ok (.aload_n 3, 1) := dk_45 (dk_at dksJ16_add_4 16 rfl rfl)
theorem dJ16_add_106 : decode cJ16_add 106 = .ok (.iload_n 2, 1) := dk_28 (dk_at dksJ16_add_4 17 rfl rfl)
theorem dJ16_add_107 : decode cJ16_add 107 = .ok (.aload_n 0, 1) := dk_42 (dk_at dksJ16_add_4 18 rfl rfl)
theorem dJ16_add_108 : decode cJ16_add 108 = .ok (.getfield 32, 3) := dk_180 0 32 (dk_at dksJ16_add_4 19 rfl rfl)
theorem dJ16_add_111 : decode cJ16_add 111 = .ok (.if_icmp .ne 7, 3) := dk_160 0 7 (dk_at dksJ16_add_5 0 rfl rfl)
theorem dJ16_add_114 : decode cJ16_add 114 = .ok (.iconst 1, 1) := dk_4 (dk_at dksJ16_add_5 3 rfl rfl)
theorem dJ16_add_115 : decode cJ16_add 115 = .ok (.goto 4, 3) := dk_167 0 4 (dk_at dksJ16_add_5 4 rfl rfl)
theorem dJ16_add_118 : decode cJ16_add 118 = .ok (.iconst (-1), 1) := dk_2 (dk_at dksJ16_add_5 7 rfl rfl)
theorem dJ16_add_119 : decode cJ16_add 119 = .ok (.invokespecial 175, 3) := dk_183 0 175 (dk_at dksJ16_add_5 8 rfl rfl)
theorem dJ16_add_122 : decode cJ16_add 122 = .ok (.areturn, 1) := dk_176 (dk_at dksJ16_add_5 11 rfl rfl)
abbrev cJ16_add_2 : ByteArray := prog_33_method_35_code
def yJ16_add_2 : MethodName := ⟨RJ16, "add", "([I[I)[I"⟩
def dkwJ16_add_2_9 : List UInt8 := [25, 8, 176, 25, 4, 176]
abbrev dktJ16_add_2_9 : List UInt8 := dkwJ16_add_2_9 ++ []
def dkwJ16_add_2_8 : List UInt8 := [4, 96, 188, 10, 58, 8, 25, 4, 3, 25, 8, 4, 25, 4, 190, 184, 1, 132, 25, 8, 3, 4, 79]
abbrev dktJ16_add_2_8 : List UInt8 := dkwJ16_add_2_8 ++ dktJ16_add_2_9
def dkwJ16_add_2_7 : List UInt8 := [158, 0, 16, 25, 4, 132, 2, 255, 28, 42, 28, 46, 79, 167, 255, 242, 21, 7, 153, 0, 32, 25, 4, 190]
abbrev dktJ16_add_2_7 : List UInt8 := dkwJ16_add_2_7 ++ dktJ16_add_2_8
def dkwJ16_add_2_6 : List UInt8 := [28, 42, 28, 46, 4, 96, 91, 79, 154, 0, 7, 4, 167, 0, 4, 3, 54, 7, 167, 255, 224, 28]
abbrev dktJ16_add_2_6 : List UInt8 := dkwJ16_add_2_6 ++ dktJ16_add_2_7
def dkwJ16_add_2_5 : List UInt8 := [153, 0, 7, 4, 167, 0, 4, 3, 54, 7, 28, 158, 0, 34, 21, 7, 153, 0, 29, 25, 4, 132, 2, 255]
abbrev dktJ16_add_2_5 : List UInt8 := dkwJ16_add_2_5 ++ dktJ16_add_2_6
def dkwJ16_add_2_4 : List UInt8 := [16, 32, 125, 97, 55, 5, 25, 4, 28, 22, 5, 136, 79, 167, 255, 214, 22, 5, 16, 32, 125, 9, 148]
abbrev dktJ16_add_2_4 : List UInt8 := dkwJ16_add_2_4 ++ dktJ16_add_2_5
def dkwJ16_add_2_3 : List UInt8 := [132, 2, 255, 28, 46, 133, 20, 0, 130, 127, 43, 132, 3, 255, 29, 46, 133, 20, 0, 130, 127, 97, 22, 5]
abbrev dktJ16_add_2_3 : List UInt8 := dkwJ16_add_2_3 ++ dktJ16_add_2_4
def dkwJ16_add_2_2 : List UInt8 := [20, 0, 130, 127, 97, 55, 5, 25, 4, 28, 22, 5, 136, 79, 167, 0, 48, 29, 158, 0, 44, 42]
abbrev dktJ16_add_2_2 : List UInt8 := dkwJ16_add_2_2 ++ dktJ16_add_2_3
def dkwJ16_add_2_1 : List UInt8 := [9, 55, 5, 29, 4, 160, 0, 35, 42, 132, 2, 255, 28, 46, 133, 20, 0, 130, 127, 43, 3, 46, 133]
abbrev dktJ16_add_2_1 : List UInt8 := dkwJ16_add_2_1 ++ dktJ16_add_2_2
def dkwJ16_add_2_0 : List UInt8 := [42, 190, 43, 190, 162, 0, 9, 42, 77, 43, 75, 44, 76, 42, 190, 61, 43, 190, 62, 28, 188, 10, 58, 4]
abbrev dktJ16_add_2_0 : List UInt8 := dkwJ16_add_2_0 ++ dktJ16_add_2_1
theorem dksJ16_add_2_0 : cJ16_add_2.data.toList.drop 0 = dktJ16_add_2_0 := by decide +kernel
theorem dksJ16_add_2_1 : cJ16_add_2.data.toList.drop 24 = dktJ16_add_2_1 := dk_seg dksJ16_add_2_0 24 rfl rfl
theorem dksJ16_add_2_2 : cJ16_add_2.data.toList.drop 47 = dktJ16_add_2_2 := dk_seg dksJ16_add_2_1 23 rfl rfl
theorem dksJ16_add_2_3 : cJ16_add_2.data.toList.drop 69 = dktJ16_add_2_3 := dk_seg dksJ16_add_2_2 22 rfl rfl
theorem dksJ16_add_2_4 : cJ16_add_2.data.toList.drop 93 = dktJ16_add_2_4 := dk_seg dksJ16_add_2_3 24 rfl rfl
theorem dksJ16_add_2_5 : cJ16_add_2.data.toList.drop 116 = dktJ16_add_2_5 := dk_seg dksJ16_add_2_4 23 rfl rfl
theorem dksJ16_add_2_6 : cJ16_add_2.data.toList.drop 140 = dktJ16_add_2_6 := dk_seg dksJ16_add_2_5 24 rfl rfl
theorem dksJ16_add_2_7 : cJ16_add_2.data.toList.drop 162 = dktJ16_add_2_7 := dk_seg dksJ16_add_2_6 22 rfl rfl
theorem dksJ16_add_2_8 : cJ16_add_2.data.toList.drop 186 = dktJ16_add_2_8 := dk_seg dksJ16_add_2_7 24 rfl rfl
theorem dksJ16_add_2_9 : cJ16_add_2.data.toList.drop 209 = dktJ16_add_2_9 := dk_seg dksJ16_add_2_8 23 rfl rfl
theorem dJ16_add_2_0 : decode cJ16_add_2 0 = .ok (.aload_n 0, 1) := dk_42 (dk_at dksJ16_add_2_0 0 rfl rfl)
theorem dJ16_add_2_1 : decode cJ16_add_2 1 = .ok (.arraylength, 1) := dk_190 (dk_at dksJ16_add_2_0 1 rfl rfl)
theorem dJ16_add_2_2 : decode cJ16_add_2 2 = .ok (.aload_n 1, 1) := dk_43 (dk_at dksJ16_add_2_0 2 rfl rfl)
theorem dJ16_add_2_3 : decode cJ16_add_2 3 = .ok (.arraylength, 1) := dk_190 (dk_at dksJ16_add_2_0 3 rfl rfl)
theorem dJ16_add_2_4 : decode cJ16_add_2 4 = .ok (.if_icmp .ge 9, 3) := dk_162 0 9 (dk_at dksJ16_add_2_0 4 rfl rfl)
theorem dJ16_add_2_7 : decode cJ16_add_2 7 = .ok (.aload_n 0, 1) := dk_42 (dk_at dksJ16_add_2_0 7 rfl rfl)
theorem dJ16_add_2_8 : decode cJ16_add_2 8 = .ok (.astore_n 2, 1) := dk_77 (dk_at dksJ16_add_2_0 8 rfl rfl)
theorem dJ16_add_2_9 : decode cJ16_add_2 9 = .ok (.aload_n 1, 1) := dk_43 (dk_at dksJ16_add_2_0 9 rfl rfl)
theorem dJ16_add_2_10 : decode cJ16_add_2 10 = .ok (.astore_n 0, 1) := dk_75 (dk_at dksJ16_add_2_0 10 rfl rfl)
theorem dJ16_add_2_11 : decode cJ16_add_2 11 = .ok (.aload_n 2, 1) := dk_44 (dk_at dksJ16_add_2_0 11 rfl rfl)
theorem dJ16_add_2_12 : decode cJ16_add_2 12 = .ok (.astore_n 1, 1) := dk_76 (dk_at dksJ16_add_2_0 12 rfl rfl)
theorem dJ16_add_2_13 : decode cJ16_add_2 13 = .ok (.aload_n 0, 1) := dk_42 (dk_at dksJ16_add_2_0 13 rfl rfl)
theorem dJ16_add_2_14 : decode cJ16_add_2 14 = .ok (.arraylength, 1) := dk_190 (dk_at dksJ16_add_2_0 14 rfl rfl)
theorem dJ16_add_2_15 : decode cJ16_add_2 15 = .ok (.istore_n 2, 1) := dk_61 (dk_at dksJ16_add_2_0 15 rfl rfl)
theorem dJ16_add_2_16 : decode cJ16_add_2 16 = .ok (.aload_n 1, 1) := dk_43 (dk_at dksJ16_add_2_0 16 rfl rfl)
theorem dJ16_add_2_17 : decode cJ16_add_2 17 = .ok (.arraylength, 1) := dk_190 (dk_at dksJ16_add_2_0 17 rfl rfl)
theorem dJ16_add_2_18 : decode cJ16_add_2 18 = .ok (.istore_n 3, 1) := dk_62 (dk_at dksJ16_add_2_0 18 rfl rfl)
theorem dJ16_add_2_19 : decode cJ16_add_2 19 = .ok (.iload_n 2, 1) := dk_28 (dk_at dksJ16_add_2_0 19 rfl rfl)
theorem dJ16_add_2_20 : decode cJ16_add_2 20 = .ok (.newarray .int, 2) := dk_188_10 (dk_at dksJ16_add_2_0 20 rfl rfl)
theorem dJ16_add_2_22 : decode cJ16_add_2 22 = .ok (.astore 4, 2) := dk_58 4 (dk_at dksJ16_add_2_0 22 rfl rfl)
theorem dJ16_add_2_24 : decode cJ16_add_2 24 = .ok (.lconst 0, 1) := dk_9 (dk_at dksJ16_add_2_1 0 rfl rfl)
theorem dJ16_add_2_25 : decode cJ16_add_2 25 = .ok (.lstore 5, 2) := dk_55 5 (dk_at dksJ16_add_2_1 1 rfl rfl)
theorem dJ16_add_2_27 : decode cJ16_add_2 27 = .ok (.iload_n 3, 1) := dk_29 (dk_at dksJ16_add_2_1 3 rfl rfl)
theorem dJ16_add_2_28 : decode cJ16_add_2 28 = .ok (.iconst 1, 1) := dk_4 (dk_at dksJ16_add_2_1 4 rfl rfl)
theorem dJ16_add_2_29 : decode cJ16_add_2 29 = .ok (.if_icmp .ne 35, 3) := dk_160 0 35 (dk_at dksJ16_add_2_1 5 rfl rfl)
theorem dJ16_add_2_32 : decode cJ16_add_2 32 = .ok (.aload_n 0, 1) := dk_42 (dk_at dksJ16_add_2_1 8 rfl rfl)
theorem dJ16_add_2_33 : decode cJ16_add_2 33 = .ok (.iinc 2 (-1), 3) := dk_132 2 255 (dk_at dksJ16_add_2_1 9 rfl rfl)
theorem dJ16_add_2_36 : decode cJ16_add_2 36 = .ok (.iload_n 2, 1) := dk_28 (dk_at dksJ16_add_2_1 12 rfl rfl)
theorem dJ16_add_2_37 : decode cJ16_add_2 37 = .ok (.iaload, 1) := dk_46 (dk_at dksJ16_add_2_1 13 rfl rfl)
theorem dJ16_add_2_38 : decode cJ16_add_2 38 = .ok (.i2l, 1) := dk_133 (dk_at dksJ16_add_2_1 14 rfl rfl)
theorem dJ16_add_2_39 : decode cJ16_add_2 39 = .ok (.ldc2_w 130, 3) := dk_20 0 130 (dk_at dksJ16_add_2_1 15 rfl rfl)
theorem dJ16_add_2_42 : decode cJ16_add_2 42 = .ok (.land, 1) := dk_127 (dk_at dksJ16_add_2_1 18 rfl rfl)
theorem dJ16_add_2_43 : decode cJ16_add_2 43 = .ok (.aload_n 1, 1) := dk_43 (dk_at dksJ16_add_2_1 19 rfl rfl)
theorem dJ16_add_2_44 : decode cJ16_add_2 44 = .ok (.iconst 0, 1) := dk_3 (dk_at dksJ16_add_2_1 20 rfl rfl)
theorem dJ16_add_2_45 : decode cJ16_add_2 45 = .ok (.iaload, 1) := dk_46 (dk_at dksJ16_add_2_1 21 rfl rfl)
theorem dJ16_add_2_46 : decode cJ16_add_2 46 = .ok (.i2l, 1) := dk_133 (dk_at dksJ16_add_2_1 22 rfl rfl)
theorem dJ16_add_2_47 : decode cJ16_add_2 47 = .ok (.ldc2_w 130, 3) := dk_20 0 130 (dk_at dksJ16_add_2_2 0 rfl rfl)
theorem dJ16_add_2_50 : decode cJ16_add_2 50 = .ok (.land, 1) := dk_127 (dk_at dksJ16_add_2_2 3 rfl rfl)
theorem dJ16_add_2_51 : decode cJ16_add_2 51 = .ok (.ladd, 1) := dk_97 (dk_at dksJ16_add_2_2 4 rfl rfl)
theorem dJ16_add_2_52 : decode cJ16_add_2 52 = .ok (.lstore 5, 2) := dk_55 5 (dk_at dksJ16_add_2_2 5 rfl rfl)
theorem dJ16_add_2_54 : decode cJ16_add_2 54 = .ok (.aload 4, 2) := dk_25 4 (dk_at dksJ16_add_2_2 7 rfl rfl)
theorem dJ16_add_2_56 : decode cJ16_add_2 56 = .ok (.iload_n 2, 1) := dk_28 (dk_at dksJ16_add_2_2 9 rfl rfl)
theorem dJ16_add_2_57 : decode cJ16_add_2 57 = .ok (.lload 5, 2) := dk_22 5 (dk_at dksJ16_add_2_2 10 rfl rfl)
theorem dJ16_add_2_59 : decode cJ16_add_2 59 = .ok (.l2i, 1) := dk_136 (dk_at dksJ16_add_2_2 12 rfl rfl)
theorem dJ16_add_2_60 : decode cJ16_add_2 60 = .ok (.iastore, 1) := dk_79 (dk_at dksJ16_add_2_2 13 rfl rfl)
theorem dJ16_add_2_61 : decode cJ16_add_2 61 = .ok (.goto 48, 3) := dk_167 0 48 (dk_at dksJ16_add_2_2 14 rfl rfl)
theorem dJ16_add_2_64 : decode cJ16_add_2 64 = .ok (.iload_n 3, 1) := dk_29 (dk_at dksJ16_add_2_2 17 rfl rfl)
theorem dJ16_add_2_65 : decode cJ16_add_2 65 = .ok (.ifCond .le 44, 3) := dk_158 0 44 (dk_at dksJ16_add_2_2 18 rfl rfl)
theorem dJ16_add_2_68 : decode cJ16_add_2 68 = .ok (.aload_n 0, 1) := dk_42 (dk_at dksJ16_add_2_2 21 rfl rfl)
theorem dJ16_add_2_69 : decode cJ16_add_2 69 = .ok (.iinc 2 (-1), 3) := dk_132 2 255 (dk_at dksJ16_add_2_3 0 rfl rfl)
theorem dJ16_add_2_72 : decode cJ16_add_2 72 = .ok (.iload_n 2, 1) := dk_28 (dk_at dksJ16_add_2_3 3 rfl rfl)
theorem dJ16_add_2_73 : decode cJ16_add_2 73 = .ok (.iaload, 1) := dk_46 (dk_at dksJ16_add_2_3 4 rfl rfl)
theorem dJ16_add_2_74 : decode cJ16_add_2 74 = .ok (.i2l, 1) := dk_133 (dk_at dksJ16_add_2_3 5 rfl rfl)
theorem dJ16_add_2_75 : decode cJ16_add_2 75 = .ok (.ldc2_w 130, 3) := dk_20 0 130 (dk_at dksJ16_add_2_3 6 rfl rfl)
theorem dJ16_add_2_78 : decode cJ16_add_2 78 = .ok (.land, 1) := dk_127 (dk_at dksJ16_add_2_3 9 rfl rfl)
theorem dJ16_add_2_79 : decode cJ16_add_2 79 = .ok (.aload_n 1, 1) := dk_43 (dk_at dksJ16_add_2_3 10 rfl rfl)
theorem dJ16_add_2_80 : decode cJ16_add_2 80 = .ok (.iinc 3 (-1), 3) := dk_132 3 255 (dk_at dksJ16_add_2_3 11 rfl rfl)
theorem dJ16_add_2_83 : decode cJ16_add_2 83 = .ok (.iload_n 3, 1) := dk_29 (dk_at dksJ16_add_2_3 14 rfl rfl)
theorem dJ16_add_2_84 : decode cJ16_add_2 84 = .ok (.iaload, 1) := dk_46 (dk_at dksJ16_add_2_3 15 rfl rfl)
theorem dJ16_add_2_85 : decode cJ16_add_2 85 = .ok (.i2l, 1) := dk_133 (dk_at dksJ16_add_2_3 16 rfl rfl)
theorem dJ16_add_2_86 : decode cJ16_add_2 86 = .ok (.ldc2_w 130, 3) := dk_20 0 130 (dk_at dksJ16_add_2_3 17 rfl rfl)
theorem dJ16_add_2_89 : decode cJ16_add_2 89 = .ok (.land, 1) := dk_127 (dk_at dksJ16_add_2_3 20 rfl rfl)
theorem dJ16_add_2_90 : decode cJ16_add_2 90 = .ok (.ladd, 1) := dk_97 (dk_at dksJ16_add_2_3 21 rfl rfl)
theorem dJ16_add_2_91 : decode cJ16_add_2 91 = .ok (.lload 5, 2) := dk_22 5 (dk_at dksJ16_add_2_3 22 rfl rfl)
theorem dJ16_add_2_93 : decode cJ16_add_2 93 = .ok (.bipush 32, 2) := dk_16 32 (dk_at dksJ16_add_2_4 0 rfl rfl)
theorem dJ16_add_2_95 : decode cJ16_add_2 95 = .ok (.lushr, 1) := dk_125 (dk_at dksJ16_add_2_4 2 rfl rfl)
theorem dJ16_add_2_96 : decode cJ16_add_2 96 = .ok (.ladd, 1) := dk_97 (dk_at dksJ16_add_2_4 3 rfl rfl)
theorem dJ16_add_2_97 : decode cJ16_add_2 97 = .ok (.lstore 5, 2) := dk_55 5 (dk_at dksJ16_add_2_4 4 rfl rfl)
theorem dJ16_add_2_99 : decode cJ16_add_2 99 = .ok (.aload 4, 2) := dk_25 4 (dk_at dksJ16_add_2_4 6 rfl rfl)
theorem dJ16_add_2_101 : decode cJ16_add_2 101 = .ok (.iload_n 2, 1) := dk_28 (dk_at dksJ16_add_2_4 8 rfl rfl)
theorem dJ16_add_2_102 : decode cJ16_add_2 102 = .ok (.lload 5, 2) := dk_22 5 (dk_at dksJ16_add_2_4 9 rfl rfl)
theorem dJ16_add_2_104 : decode cJ16_add_2 104 = .ok (.l2i, 1) := dk_136 (dk_at dksJ16_add_2_4 11 rfl rfl)
theorem dJ16_add_2_105 : decode cJ16_add_2 105 = .ok (.iastore, 1) := dk_79 (dk_at dksJ16_add_2_4 12 rfl rfl)
theorem dJ16_add_2_106 : decode cJ16_add_2 106 = .ok (.goto (-42), 3) := dk_167 255 214 (dk_at dksJ16_add_2_4 13 rfl rfl)
theorem dJ16_add_2_109 : decode cJ16_add_2 109 = .ok (.lload 5, 2) := dk_22 5 (dk_at dksJ16_add_2_4 16 rfl rfl)
theorem dJ16_add_2_111 : decode cJ16_add_2 111 = .ok (.bipush 32, 2) := dk_16 32 (dk_at dksJ16_add_2_4 18 rfl rfl)
theorem dJ16_add_2_113 : decode cJ16_add_2 113 = .ok (.lushr, 1) := dk_125 (dk_at dksJ16_add_2_4 20 rfl rfl)
theorem dJ16_add_2_114 : decode cJ16_add_2 114 = .ok (.lconst 0, 1) := dk_9 (dk_at dksJ16_add_2_4 21 rfl rfl)
theorem dJ16_add_2_115 : decode cJ16_add_2 115 = .ok (.lcmp, 1) := dk_148 (dk_at dksJ16_add_2_4 22 rfl rfl)
theorem dJ16_add_2_116 : decode cJ16_add_2 116 = .ok (.ifCond .eq 7, 3) := dk_153 0 7 (dk_at dksJ16_add_2_5 0 rfl rfl)
theorem dJ16_add_2_119 : decode cJ16_add_2 119 = .ok (.iconst 1, 1) := dk_4 (dk_at dksJ16_add_2_5 3 rfl rfl)
theorem dJ16_add_2_120 : decode cJ16_add_2 120 = .ok (.goto 4, 3) := dk_167 0 4 (dk_at dksJ16_add_2_5 4 rfl rfl)
theorem dJ16_add_2_123 : decode cJ16_add_2 123 = .ok (.iconst 0, 1) := dk_3 (dk_at dksJ16_add_2_5 7 rfl rfl)
theorem dJ16_add_2_124 : decode cJ16_add_2 124 = .ok (.istore 7, 2) := dk_54 7 (dk_at dksJ16_add_2_5 8 rfl rfl)
theorem dJ16_add_2_126 : decode cJ16_add_2 126 = .ok (.iload_n 2, 1) := dk_28 (dk_at dksJ16_add_2_5 10 rfl rfl)
theorem dJ16_add_2_127 : decode cJ16_add_2 127 = .ok (.ifCond .le 34, 3) := dk_158 0 34 (dk_at dksJ16_add_2_5 11 rfl rfl)
theorem dJ16_add_2_130 : decode cJ16_add_2 130 = .ok (.iload 7, 2) := dk_21 7 (dk_at dksJ16_add_2_5 14 rfl rfl)
theorem dJ16_add_2_132 : decode cJ16_add_2 132 = .ok (.ifCond .eq 29, 3) := dk_153 0 29 (dk_at dksJ16_add_2_5 16 rfl rfl)
theorem dJ16_add_2_135 : decode cJ16_add_2 135 = .ok (.aload 4, 2) := dk_25 4 (dk_at dksJ16_add_2_5 19 rfl rfl)
theorem dJ16_add_2_137 : decode cJ16_add_2 137 = .ok (.iinc 2 (-1), 3) := dk_132 2 255 (dk_at dksJ16_add_2_5 21 rfl rfl)
theorem dJ16_add_2_140 : decode cJ16_add_2 140 = .ok (.iload_n 2, 1) := dk_28 (dk_at dksJ16_add_2_6 0 rfl rfl)
theorem dJ16_add_2_141 : decode cJ16_add_2 141 = .ok (.aload_n 0, 1) := dk_42 (dk_at dksJ16_add_2_6 1 rfl rfl)
theorem dJ16_add_2_142 : decode cJ16_add_2 142 = .ok (.iload_n 2, 1) := dk_28 (dk_at dksJ16_add_2_6 2 rfl rfl)
theorem dJ16_add_2_143 : decode cJ16_add_2 143 = .ok (.iaload, 1) := dk_46 (dk_at dksJ16_add_2_6 3 rfl rfl)
theorem dJ16_add_2_144 : decode cJ16_add_2 144 = .ok (.iconst 1, 1) := dk_4 (dk_at dksJ16_add_2_6 4 rfl rfl)
theorem dJ16_add_2_145 : decode cJ16_add_2 145 = .ok (.iadd, 1) := dk_96 (dk_at dksJ16_add_2_6 5 rfl rfl)
theorem dJ16_add_2_146 : decode cJ16_add_2 146 = .ok (.dup_x2, 1) := dk_91 (dk_at dksJ16_add_2_6 6 rfl rfl)
theorem dJ16_add_2_147 : decode cJ16_add_2 147 = .ok (.iastore, 1) := dk_79 (dk_at dksJ16_add_2_6 7 rfl rfl)
theorem dJ16_add_2_148 : decode cJ16_add_2 148 = .ok (.ifCond .ne 7, 3) := dk_154 0 7 (dk_at dksJ16_add_2_6 8 rfl rfl)
theorem dJ16_add_2_151 : decode cJ16_add_2 151 = .ok (.iconst 1, 1) := dk_4 (dk_at dksJ16_add_2_6 11 rfl rfl)
theorem dJ16_add_2_152 : decode cJ16_add_2 152 = .ok (.goto 4, 3) := dk_167 0 4 (dk_at dksJ16_add_2_6 12 rfl rfl)
theorem dJ16_add_2_155 : decode cJ16_add_2 155 = .ok (.iconst 0, 1) := dk_3 (dk_at dksJ16_add_2_6 15 rfl rfl)
theorem dJ16_add_2_156 : decode cJ16_add_2 156 = .ok (.istore 7, 2) := dk_54 7 (dk_at dksJ16_add_2_6 16 rfl rfl)
theorem dJ16_add_2_158 : decode cJ16_add_2 158 = .ok (.goto (-32), 3) := dk_167 255 224 (dk_at dksJ16_add_2_6 18 rfl rfl)
theorem dJ16_add_2_161 : decode cJ16_add_2 161 = .ok (.iload_n 2, 1) := dk_28 (dk_at dksJ16_add_2_6 21 rfl rfl)
theorem dJ16_add_2_162 : decode cJ16_add_2 162 = .ok (.ifCond .le 16, 3) := dk_158 0 16 (dk_at dksJ16_add_2_7 0 rfl rfl)
theorem dJ16_add_2_165 : decode cJ16_add_2 165 = .ok (.aload 4, 2) := dk_25 4 (dk_at dksJ16_add_2_7 3 rfl rfl)
theorem dJ16_add_2_167 : decode cJ16_add_2 167 = .ok (.iinc 2 (-1), 3) := dk_132 2 255 (dk_at dksJ16_add_2_7 5 rfl rfl)
theorem dJ16_add_2_170 : decode cJ16_add_2 170 = .ok (.iload_n 2, 1) := dk_28 (dk_at dksJ16_add_2_7 8 rfl rfl)
theorem dJ16_add_2_171 : decode cJ16_add_2 171 = .ok (.aload_n 0, 1) := dk_42 (dk_at dksJ16_add_2_7 9 rfl rfl)
theorem dJ16_add_2_172 : decode cJ16_add_2 172 = .ok (.iload_n 2, 1) := dk_28 (dk_at dksJ16_add_2_7 10 rfl rfl)
theorem dJ16_add_2_173 : decode cJ16_add_2 173 = .ok (.iaload, 1) := dk_46 (dk_at dksJ16_add_2_7 11 rfl rfl)
theorem dJ16_add_2_174 : decode cJ16_add_2 174 = .ok (.iastore, 1) := dk_79 (dk_at dksJ16_add_2_7 12 rfl rfl)
theorem dJ16_add_2_175 : decode cJ16_add_2 175 = .ok (.goto (-14), 3) := dk_167 255 242 (dk_at dksJ16_add_2_7 13 rfl rfl)
theorem dJ16_add_2_178 : decode cJ16_add_2 178 = .ok (.iload 7, 2) := dk_21 7 (dk_at dksJ16_add_2_7 16 rfl rfl)
theorem dJ16_add_2_180 : decode cJ16_add_2 180 = .ok (.ifCond .eq 32, 3) := dk_153 0 32 (dk_at dksJ16_add_2_7 18 rfl rfl)
theorem dJ16_add_2_183 : decode cJ16_add_2 183 = .ok (.aload 4, 2) := dk_25 4 (dk_at dksJ16_add_2_7 21 rfl rfl)
theorem dJ16_add_2_185 : decode cJ16_add_2 185 = .ok (.arraylength, 1) := dk_190 (dk_at dksJ16_add_2_7 23 rfl rfl)
theorem dJ16_add_2_186 : decode cJ16_add_2 186 = .ok (.iconst 1, 1) := dk_4 (dk_at dksJ16_add_2_8 0 rfl rfl)
theorem dJ16_add_2_187 : decode cJ16_add_2 187 = .ok (.iadd, 1) := dk_96 (dk_at dksJ16_add_2_8 1 rfl rfl)
theorem dJ16_add_2_188 : decode cJ16_add_2 188 = .ok (.newarray .int, 2) := dk_188_10 (dk_at dksJ16_add_2_8 2 rfl rfl)
theorem dJ16_add_2_190 : decode cJ16_add_2 190 = .ok (.astore 8, 2) := dk_58 8 (dk_at dksJ16_add_2_8 4 rfl rfl)
theorem dJ16_add_2_192 : decode cJ16_add_2 192 = .ok (.aload 4, 2) := dk_25 4 (dk_at dksJ16_add_2_8 6 rfl rfl)
theorem dJ16_add_2_194 : decode cJ16_add_2 194 = .ok (.iconst 0, 1) := dk_3 (dk_at dksJ16_add_2_8 8 rfl rfl)
theorem dJ16_add_2_195 : decode cJ16_add_2 195 = .ok (.aload 8, 2) := dk_25 8 (dk_at dksJ16_add_2_8 9 rfl rfl)
theorem dJ16_add_2_197 : decode cJ16_add_2 197 = .ok (.iconst 1, 1) := dk_4 (dk_at dksJ16_add_2_8 11 rfl rfl)
theorem dJ16_add_2_198 : decode cJ16_add_2 198 = .ok (.aload 4, 2) := dk_25 4 (dk_at dksJ16_add_2_8 12 rfl rfl)
theorem dJ16_add_2_200 : decode cJ16_add_2 200 = .ok (.arraylength, 1) := dk_190 (dk_at dksJ16_add_2_8 14 rfl rfl)
theorem dJ16_add_2_201 : decode cJ16_add_2 201 = .ok (.invokestatic 388, 3) := dk_184 1 132 (dk_at dksJ16_add_2_8 15 rfl rfl)
theorem dJ16_add_2_204 : decode cJ16_add_2 204 = .ok (.aload 8, 2) := dk_25 8 (dk_at dksJ16_add_2_8 18 rfl rfl)
theorem dJ16_add_2_206 : decode cJ16_add_2 206 = .ok (.iconst 0, 1) := dk_3 (dk_at dksJ16_add_2_8 20 rfl rfl)
theorem dJ16_add_2_207 : decode cJ16_add_2 207 = .ok (.iconst 1, 1) := dk_4 (dk_at dksJ16_add_2_8 21 rfl rfl)
theorem dJ16_add_2_208 : decode cJ16_add_2 208 = .ok (.iastore, 1) := dk_79 (dk_at dksJ16_add_2_8 22 rfl rfl)
theorem dJ16_add_2_209 : decode cJ16_add_2 209 = .ok (.aload 8, 2) := dk_25 8 (dk_at dksJ16_add_2_9 0 rfl rfl)
theorem dJ16_add_2_211 : decode cJ16_add_2 211 = .ok (.areturn, 1) := dk_176 (dk_at dksJ16_add_2_9 2 rfl rfl)
theorem dJ16_add_2_212 : decode cJ16_add_2 212 = .ok (.aload 4, 2) := dk_25 4 (dk_at dksJ16_add_2_9 3 rfl rfl)
theorem dJ16_add_2_214 : decode cJ16_add_2 214 = .ok (.areturn, 1) := dk_176 (dk_at dksJ16_add_2_9 5 rfl rfl)
abbrev cJ16_compareMagnitude : ByteArray := prog_33_method_122_code
def yJ16_compareMagnitude : MethodName := ⟨RJ16, "compareMagnitude", "(Ljava/math/BigInteger;)I"⟩
def dkwJ16_compareMagnitude_4 : List UInt8 := [167, 255, 203, 3, 172]
abbrev dktJ16_compareMagnitude_4 : List UInt8 := dkwJ16_compareMagnitude_4 ++ []
def dkwJ16_compareMagnitude_3 : List UInt8 := [20, 0, 130, 127, 21, 8, 133, 20, 0, 130, 127, 148, 156, 0, 7, 2, 167, 0, 4, 4, 172, 132, 6, 1]
abbrev dktJ16_compareMagnitude_3 : List UInt8 := dkwJ16_compareMagnitude_3 ++ dktJ16_compareMagnitude_4
def dkwJ16_compareMagnitude_2 : List UInt8 := [21, 6, 46, 54, 7, 25, 4, 21, 6, 46, 54, 8, 21, 7, 21, 8, 159, 0, 27, 21, 7, 133]
abbrev dktJ16_compareMagnitude_2 : List UInt8 := dkwJ16_compareMagnitude_2 ++ dktJ16_compareMagnitude_3
def dkwJ16_compareMagnitude_1 : List UInt8 := [162, 0, 5, 2, 172, 29, 21, 5, 164, 0, 5, 4, 172, 3, 54, 6, 21, 6, 29, 162, 0, 53, 44]
abbrev dktJ16_compareMagnitude_1 : List UInt8 := dkwJ16_compareMagnitude_1 ++ dktJ16_compareMagnitude_2
def dkwJ16_compareMagnitude_0 : List UInt8 := [42, 180, 0, 28, 77, 44, 190, 62, 43, 180, 0, 28, 58, 4, 25, 4, 190, 54, 5, 29, 21, 5]
abbrev dktJ16_compareMagnitude_0 : List UInt8 := dkwJ16_compareMagnitude_0 ++ dktJ16_compareMagnitude_1
theorem dksJ16_compareMagnitude_0 : cJ16_compareMagnitude.data.toList.drop 0 = dktJ16_compareMagnitude_0 := by decide +kernel
theorem dksJ16_compareMagnitude_1 : cJ16_compareMagnitude.data.toList.drop 22 = dktJ16_compareMagnitude_1 := dk_seg dksJ16_compareMagnitude_0 22 rfl rfl
theorem dksJ16_compareMagnitude_2 : cJ16_compareMagnitude.data.toList.drop 45 = dktJ16_compareMagnitude_2 := dk_seg dksJ16_compareMagnitude_1 23 rfl rfl
theorem dksJ16_compareMagnitude_3 : cJ16_compareMagnitude.data.toList.drop 67 = dktJ16_compareMagnitude_3 := dk_seg dksJ16_compareMagnitude_2 22 rfl rfl
theorem dksJ16_compareMagnitude_4 : cJ16_compareMagnitude.data.toList.drop 91 = dktJ16_compareMagnitude_4 := dk_seg dksJ16_compareMagnitude_3 24 rfl rfl
theorem dJ16_compareMagnitude_0 : decode cJ16_compareMagnitude 0 = .ok (.aload_n 0, 1) := dk_42 (dk_at dksJ16_compareMagnitude_0 0 rfl rfl)
theorem dJ16_compareMagnitude_1 : decode cJ16_compareMagnitude 1 = .ok (.getfield 28, 3) := dk_180 0 28 (dk_at dksJ16_compareMagnitude_0 1 rfl rfl)
theorem dJ16_compareMagnitude_4 : decode cJ16_compareMagnitude 4 = .ok (.astore_n 2, 1) := dk_77 (dk_at dksJ16_compareMagnitude_0 4 rfl rfl)
theorem dJ16_compareMagnitude_5 : decode cJ16_compareMagnitude 5 = .ok (.aload_n 2, 1) := dk_44 (dk_at dksJ16_compareMagnitude_0 5 rfl rfl)
theorem dJ16_compareMagnitude_6 : decode cJ16_compareMagnitude 6 = .ok (.arraylength, 1) := dk_190 (dk_at dksJ16_compareMagnitude_0 6 rfl rfl)
theorem dJ16_compareMagnitude_7 : decode cJ16_compareMagnitude 7 = .ok (.istore_n 3, 1) := dk_62 (dk_at dksJ16_compareMagnitude_0 7 rfl rfl)
theorem dJ16_compareMagnitude_8 : decode cJ16_compareMagnitude 8 = .ok (.aload_n 1, 1) := dk_43 (dk_at dksJ16_compareMagnitude_0 8 rfl rfl)
theorem dJ16_compareMagnitude_9 : decode cJ16_compareMagnitude 9 = .ok (.getfield 28, 3) := dk_180 0 28 (dk_at dksJ16_compareMagnitude_0 9 rfl rfl)
theorem dJ16_compareMagnitude_12 : decode cJ16_compareMagnitude 12 = .ok (.astore 4, 2) := dk_58 4 (dk_at dksJ16_compareMagnitude_0 12 rfl rfl)
theorem dJ16_compareMagnitude_14 : decode cJ16_compareMagnitude 14 = .ok (.aload 4, 2) := dk_25 4 (dk_at dksJ16_compareMagnitude_0 14 rfl rfl)
theorem dJ16_compareMagnitude_16 : decode cJ16_compareMagnitude 16 = .ok (.arraylength, 1) := dk_190 (dk_at dksJ16_compareMagnitude_0 16 rfl rfl)
theorem dJ16_compareMagnitude_17 : decode cJ16_compareMagnitude 17 = .ok (.istore 5, 2) := dk_54 5 (dk_at dksJ16_compareMagnitude_0 17 rfl rfl)
theorem dJ16_compareMagnitude_19 : decode cJ16_compareMagnitude 19 = .ok (.iload_n 3, 1) := dk_29 (dk_at dksJ16_compareMagnitude_0 19 rfl rfl)
theorem dJ16_compareMagnitude_20 : decode cJ16_compareMagnitude 20 = .ok (.iload 5, 2) := dk_21 5 (dk_at dksJ16_compareMagnitude_0 20 rfl rfl)
theorem dJ16_compareMagnitude_22 : decode cJ16_compareMagnitude 22 = .ok (.if_icmp .ge 5, 3) := dk_162 0 5 (dk_at dksJ16_compareMagnitude_1 0 rfl rfl)
theorem dJ16_compareMagnitude_25 : decode cJ16_compareMagnitude 25 = .ok (.iconst (-1), 1) := dk_2 (dk_at dksJ16_compareMagnitude_1 3 rfl rfl)
theorem dJ16_compareMagnitude_26 : decode cJ16_compareMagnitude 26 = .ok (.ireturn, 1) := dk_172 (dk_at dksJ16_compareMagnitude_1 4 rfl rfl)
theorem dJ16_compareMagnitude_27 : decode cJ16_compareMagnitude 27 = .ok (.iload_n 3, 1) := dk_29 (dk_at dksJ16_compareMagnitude_1 5 rfl rfl)
theorem dJ16_compareMagnitude_28 : decode cJ16_compareMagnitude 28 = .ok (.iload 5, 2) := dk_21 5 (dk_at dksJ16_compareMagnitude_1 6 rfl rfl)
theorem dJ16_compareMagnitude_30 : decode cJ16_compareMagnitude 30 = .ok (.if_icmp .le 5, 3) := dk_164 0 5 (dk_at dksJ16_compareMagnitude_1 8 rfl rfl)
theorem dJ16_compareMagnitude_33 : decode cJ16_compareMagnitude 33 = .ok (.iconst 1, 1) := dk_4 (dk_at dksJ16_compareMagnitude_1 11 rfl rfl)
theorem dJ16_compareMagnitude_34 : decode cJ16_compareMagnitude 34 = .ok (.ireturn, 1) := dk_172 (dk_at dksJ16_compareMagnitude_1 12 rfl rfl)
theorem dJ16_compareMagnitude_35 : decode cJ16_compareMagnitude 35 = .ok (.iconst 0, 1) := dk_3 (dk_at dksJ16_compareMagnitude_1 13 rfl rfl)
theorem dJ16_compareMagnitude_36 : decode cJ16_compareMagnitude 36 = .ok (.istore 6, 2) := dk_54 6 (dk_at dksJ16_compareMagnitude_1 14 rfl rfl)
theorem dJ16_compareMagnitude_38 : decode cJ16_compareMagnitude 38 = .ok (.iload 6, 2) := dk_21 6 (dk_at dksJ16_compareMagnitude_1 16 rfl rfl)
theorem dJ16_compareMagnitude_40 : decode cJ16_compareMagnitude 40 = .ok (.iload_n 3, 1) := dk_29 (dk_at dksJ16_compareMagnitude_1 18 rfl rfl)
theorem dJ16_compareMagnitude_41 : decode cJ16_compareMagnitude 41 = .ok (.if_icmp .ge 53, 3) := dk_162 0 53 (dk_at dksJ16_compareMagnitude_1 19 rfl rfl)
theorem dJ16_compareMagnitude_44 : decode cJ16_compareMagnitude 44 = .ok (.aload_n 2, 1) := dk_44 (dk_at dksJ16_compareMagnitude_1 22 rfl rfl)
theorem dJ16_compareMagnitude_45 : decode cJ16_compareMagnitude 45 = .ok (.iload 6, 2) := dk_21 6 (dk_at dksJ16_compareMagnitude_2 0 rfl rfl)
theorem dJ16_compareMagnitude_47 : decode cJ16_compareMagnitude 47 = .ok (.iaload, 1) := dk_46 (dk_at dksJ16_compareMagnitude_2 2 rfl rfl)
theorem dJ16_compareMagnitude_48 : decode cJ16_compareMagnitude 48 = .ok (.istore 7, 2) := dk_54 7 (dk_at dksJ16_compareMagnitude_2 3 rfl rfl)
theorem dJ16_compareMagnitude_50 : decode cJ16_compareMagnitude 50 = .ok (.aload 4, 2) := dk_25 4 (dk_at dksJ16_compareMagnitude_2 5 rfl rfl)
theorem dJ16_compareMagnitude_52 : decode cJ16_compareMagnitude 52 = .ok (.iload 6, 2) := dk_21 6 (dk_at dksJ16_compareMagnitude_2 7 rfl rfl)
theorem dJ16_compareMagnitude_54 : decode cJ16_compareMagnitude 54 = .ok (.iaload, 1) := dk_46 (dk_at dksJ16_compareMagnitude_2 9 rfl rfl)
theorem dJ16_compareMagnitude_55 : decode cJ16_compareMagnitude 55 = .ok (.istore 8, 2) := dk_54 8 (dk_at dksJ16_compareMagnitude_2 10 rfl rfl)
theorem dJ16_compareMagnitude_57 : decode cJ16_compareMagnitude 57 = .ok (.iload 7, 2) := dk_21 7 (dk_at dksJ16_compareMagnitude_2 12 rfl rfl)
theorem dJ16_compareMagnitude_59 : decode cJ16_compareMagnitude 59 = .ok (.iload 8, 2) := dk_21 8 (dk_at dksJ16_compareMagnitude_2 14 rfl rfl)
theorem dJ16_compareMagnitude_61 : decode cJ16_compareMagnitude 61 = .ok (.if_icmp .eq 27, 3) := dk_159 0 27 (dk_at dksJ16_compareMagnitude_2 16 rfl rfl)
theorem dJ16_compareMagnitude_64 : decode cJ16_compareMagnitude 64 = .ok (.iload 7, 2) := dk_21 7 (dk_at dksJ16_compareMagnitude_2 19 rfl rfl)
theorem dJ16_compareMagnitude_66 : decode cJ16_compareMagnitude 66 = .ok (.i2l, 1) := dk_133 (dk_at dksJ16_compareMagnitude_2 21 rfl rfl)
theorem dJ16_compareMagnitude_67 : decode cJ16_compareMagnitude 67 = .ok (.ldc2_w 130, 3) := dk_20 0 130 (dk_at dksJ16_compareMagnitude_3 0 rfl rfl)
theorem dJ16_compareMagnitude_70 : decode cJ16_compareMagnitude 70 = .ok (.land, 1) := dk_127 (dk_at dksJ16_compareMagnitude_3 3 rfl rfl)
theorem dJ16_compareMagnitude_71 : decode cJ16_compareMagnitude 71 = .ok (.iload 8, 2) := dk_21 8 (dk_at dksJ16_compareMagnitude_3 4 rfl rfl)
theorem dJ16_compareMagnitude_73 : decode cJ16_compareMagnitude 73 = .ok (.i2l, 1) := dk_133 (dk_at dksJ16_compareMagnitude_3 6 rfl rfl)
theorem dJ16_compareMagnitude_74 : decode cJ16_compareMagnitude 74 = .ok (.ldc2_w 130, 3) := dk_20 0 130 (dk_at dksJ16_compareMagnitude_3 7 rfl rfl)
theorem dJ16_compareMagnitude_77 : decode cJ16_compareMagnitude 77 = .ok (.land, 1) := dk_127 (dk_at dksJ16_compareMagnitude_3 10 rfl rfl)
theorem dJ16_compareMagnitude_78 : decode cJ16_compareMagnitude 78 = .ok (.lcmp, 1) := dk_148 (dk_at dksJ16_compareMagnitude_3 11 rfl rfl)
theorem dJ16_compareMagnitude_79 : decode cJ16_compareMagnitude 79 = .ok (.ifCond .ge 7, 3) := dk_156 0 7 (dk_at dksJ16_compareMagnitude_3 12 rfl rfl)
theorem dJ16_compareMagnitude_82 : decode cJ16_compareMagnitude 82 = .ok (.iconst (-1), 1) := dk_2 (dk_at dksJ16_compareMagnitude_3 15 rfl rfl)
theorem dJ16_compareMagnitude_83 : decode cJ16_compareMagnitude 83 = .ok (.goto 4, 3) := dk_167 0 4 (dk_at dksJ16_compareMagnitude_3 16 rfl rfl)
theorem dJ16_compareMagnitude_86 : decode cJ16_compareMagnitude 86 = .ok (.iconst 1, 1) := dk_4 (dk_at dksJ16_compareMagnitude_3 19 rfl rfl)
theorem dJ16_compareMagnitude_87 : decode cJ16_compareMagnitude 87 = .ok (.ireturn, 1) := dk_172 (dk_at dksJ16_compareMagnitude_3 20 rfl rfl)
theorem dJ16_compareMagnitude_88 : decode cJ16_compareMagnitude 88 = .ok (.iinc 6 1, 3) := dk_132 6 1 (dk_at dksJ16_compareMagnitude_3 21 rfl rfl)
theorem dJ16_compareMagnitude_91 : decode cJ16_compareMagnitude 91 = .ok (.goto (-53), 3) := dk_167 255 203 (dk_at dksJ16_compareMagnitude_4 0 rfl rfl)
theorem dJ16_compareMagnitude_94 : decode cJ16_compareMagnitude 94 = .ok (.iconst 0, 1) := dk_3 (dk_at dksJ16_compareMagnitude_4 3 rfl rfl)
theorem dJ16_compareMagnitude_95 : decode cJ16_compareMagnitude 95 = .ok (.ireturn, 1) := dk_172 (dk_at dksJ16_compareMagnitude_4 4 rfl rfl)
abbrev cJ16_subtract : ByteArray := prog_33_method_39_code
def yJ16_subtract : MethodName := ⟨RJ16, "subtract", "([I[I)[I"⟩
def dkwJ16_subtract_5 : List UInt8 := [132, 2, 255, 28, 42, 28, 46, 79, 167, 255, 243, 45, 176]
abbrev dktJ16_subtract_5 : List UInt8 := dkwJ16_subtract_5 ++ []
def dkwJ16_subtract_4 : List UInt8 := [100, 91, 79, 2, 160, 0, 7, 4, 167, 0, 4, 3, 54, 7, 167, 255, 224, 28, 158, 0, 15, 45]
abbrev dktJ16_subtract_4 : List UInt8 := dkwJ16_subtract_4 ++ dktJ16_subtract_5
def dkwJ16_subtract_3 : List UInt8 := [167, 0, 4, 3, 54, 7, 28, 158, 0, 34, 21, 7, 153, 0, 29, 45, 132, 2, 255, 28, 42, 28, 46, 4]
abbrev dktJ16_subtract_3 : List UInt8 := dkwJ16_subtract_3 ++ dktJ16_subtract_4
def dkwJ16_subtract_2 : List UInt8 := [97, 55, 5, 45, 28, 22, 5, 136, 79, 167, 255, 213, 22, 5, 16, 32, 123, 9, 148, 153, 0, 7, 4]
abbrev dktJ16_subtract_2 : List UInt8 := dkwJ16_subtract_2 ++ dktJ16_subtract_3
def dkwJ16_subtract_1 : List UInt8 := [46, 133, 20, 0, 130, 127, 43, 132, 4, 255, 21, 4, 46, 133, 20, 0, 130, 127, 101, 22, 5, 16, 32, 123]
abbrev dktJ16_subtract_1 : List UInt8 := dkwJ16_subtract_1 ++ dktJ16_subtract_2
def dkwJ16_subtract_0 : List UInt8 := [42, 190, 61, 28, 188, 10, 78, 43, 190, 54, 4, 9, 55, 5, 21, 4, 158, 0, 44, 42, 132, 2, 255, 28]
abbrev dktJ16_subtract_0 : List UInt8 := dkwJ16_subtract_0 ++ dktJ16_subtract_1
theorem dksJ16_subtract_0 : cJ16_subtract.data.toList.drop 0 = dktJ16_subtract_0 := by decide +kernel
theorem dksJ16_subtract_1 : cJ16_subtract.data.toList.drop 24 = dktJ16_subtract_1 := dk_seg dksJ16_subtract_0 24 rfl rfl
theorem dksJ16_subtract_2 : cJ16_subtract.data.toList.drop 48 = dktJ16_subtract_2 := dk_seg dksJ16_subtract_1 24 rfl rfl
theorem dksJ16_subtract_3 : cJ16_subtract.data.toList.drop 71 = dktJ16_subtract_3 := dk_seg dksJ16_subtract_2 23 rfl rfl
theorem dksJ16_subtract_4 : cJ16_subtract.data.toList.drop 95 = dktJ16_subtract_4 := dk_seg dksJ16_subtract_3 24 rfl rfl
theorem dksJ16_subtract_5 : cJ16_subtract.data.toList.drop 117 = dktJ16_subtract_5 := dk_seg dksJ16_subtract_4 22 rfl rfl
theorem dJ16_subtract_0 : decode cJ16_subtract 0 = .ok (.aload_n 0, 1) := dk_42 (dk_at dksJ16_subtract_0 0 rfl rfl)
theorem dJ16_subtract_1 : decode cJ16_subtract 1 = .ok (.arraylength, 1) := dk_190 (dk_at dksJ16_subtract_0 1 rfl rfl)
theorem dJ16_subtract_2 : decode cJ16_subtract 2 = .ok (.istore_n 2, 1) := dk_61 (dk_at dksJ16_subtract_0 2 rfl rfl)
theorem dJ16_subtract_3 : decode cJ16_subtract 3 = .ok (.iload_n 2, 1) := dk_28 (dk_at dksJ16_subtract_0 3 rfl rfl)
theorem dJ16_subtract_4 : decode cJ16_subtract 4 = .ok (.newarray .int, 2) := dk_188_10 (dk_at dksJ16_subtract_0 4 rfl rfl)
theorem dJ16_subtract_6 : decode cJ16_subtract 6 = .ok (.astore_n 3, 1) := dk_78 (dk_at dksJ16_subtract_0 6 rfl rfl)
theorem dJ16_subtract_7 : decode cJ16_subtract 7 = .ok (.aload_n 1, 1) := dk_43 (dk_at dksJ16_subtract_0 7 rfl rfl)
theorem dJ16_subtract_8 : decode cJ16_subtract 8 = .ok (.arraylength, 1) := dk_190 (dk_at dksJ16_subtract_0 8 rfl rfl)
theorem dJ16_subtract_9 : decode cJ16_subtract 9 = .ok (.istore 4, 2) := dk_54 4 (dk_at dksJ16_subtract_0 9 rfl rfl)
theorem dJ16_subtract_11 : decode cJ16_subtract 11 = .ok (.lconst 0, 1) := dk_9 (dk_at dksJ16_subtract_0 11 rfl rfl)
theorem dJ16_subtract_12 : decode cJ16_subtract 12 = .ok (.lstore 5, 2) := dk_55 5 (dk_at dksJ16_subtract_0 12 rfl rfl)
theorem dJ16_subtract_14 : decode cJ16_subtract 14 = .ok (.iload 4, 2) := dk_21 4 (dk_at dksJ16_subtract_0 14 rfl rfl)
theorem dJ16_subtract_16 : decode cJ16_subtract 16 = .ok (.ifCond .le 44, 3) := dk_158 0 44 (dk_at dksJ16_subtract_0 16 rfl rfl)
theorem dJ16_subtract_19 : decode cJ16_subtract 19 = .ok (.aload_n 0, 1) := dk_42 (dk_at dksJ16_subtract_0 19 rfl rfl)
theorem dJ16_subtract_20 : decode cJ16_subtract 20 = .ok (.iinc 2 (-1), 3) := dk_132 2 255 (dk_at dksJ16_subtract_0 20 rfl rfl)
theorem dJ16_subtract_23 : decode cJ16_subtract 23 = .ok (.iload_n 2, 1) := dk_28 (dk_at dksJ16_subtract_0 23 rfl rfl)
theorem dJ16_subtract_24 : decode cJ16_subtract 24 = .ok (.iaload, 1) := dk_46 (dk_at dksJ16_subtract_1 0 rfl rfl)
theorem dJ16_subtract_25 : decode cJ16_subtract 25 = .ok (.i2l, 1) := dk_133 (dk_at dksJ16_subtract_1 1 rfl rfl)
theorem dJ16_subtract_26 : decode cJ16_subtract 26 = .ok (.ldc2_w 130, 3) := dk_20 0 130 (dk_at dksJ16_subtract_1 2 rfl rfl)
theorem dJ16_subtract_29 : decode cJ16_subtract 29 = .ok (.land, 1) := dk_127 (dk_at dksJ16_subtract_1 5 rfl rfl)
theorem dJ16_subtract_30 : decode cJ16_subtract 30 = .ok (.aload_n 1, 1) := dk_43 (dk_at dksJ16_subtract_1 6 rfl rfl)
theorem dJ16_subtract_31 : decode cJ16_subtract 31 = .ok (.iinc 4 (-1), 3) := dk_132 4 255 (dk_at dksJ16_subtract_1 7 rfl rfl)
theorem dJ16_subtract_34 : decode cJ16_subtract 34 = .ok (.iload 4, 2) := dk_21 4 (dk_at dksJ16_subtract_1 10 rfl rfl)
theorem dJ16_subtract_36 : decode cJ16_subtract 36 = .ok (.iaload, 1) := dk_46 (dk_at dksJ16_subtract_1 12 rfl rfl)
theorem dJ16_subtract_37 : decode cJ16_subtract 37 = .ok (.i2l, 1) := dk_133 (dk_at dksJ16_subtract_1 13 rfl rfl)
theorem dJ16_subtract_38 : decode cJ16_subtract 38 = .ok (.ldc2_w 130, 3) := dk_20 0 130 (dk_at dksJ16_subtract_1 14 rfl rfl)
theorem dJ16_subtract_41 : decode cJ16_subtract 41 = .ok (.land, 1) := dk_127 (dk_at dksJ16_subtract_1 17 rfl rfl)
theorem dJ16_subtract_42 : decode cJ16_subtract 42 = .ok (.lsub, 1) := dk_101 (dk_at dksJ16_subtract_1 18 rfl rfl)
theorem dJ16_subtract_43 : decode cJ16_subtract 43 = .ok (.lload 5, 2) := dk_22 5 (dk_at dksJ16_subtract_1 19 rfl rfl)
theorem dJ16_subtract_45 : decode cJ16_subtract 45 = .ok (.bipush 32, 2) := dk_16 32 (dk_at dksJ16_subtract_1 21 rfl rfl)
theorem dJ16_subtract_47 : decode cJ16_subtract 47 = .ok (.lshr, 1) := dk_123 (dk_at dksJ16_subtract_1 23 rfl rfl)
theorem dJ16_subtract_48 : decode cJ16_subtract 48 = .ok (.ladd, 1) := dk_97 (dk_at dksJ16_subtract_2 0 rfl rfl)
theorem dJ16_subtract_49 : decode cJ16_subtract 49 = .ok (.lstore 5, 2) := dk_55 5 (dk_at dksJ16_subtract_2 1 rfl rfl)
theorem dJ16_subtract_51 : decode cJ16_subtract 51 = .ok (.aload_n 3, 1) := dk_45 (dk_at dksJ16_subtract_2 3 rfl rfl)
theorem dJ16_subtract_52 : decode cJ16_subtract 52 = .ok (.iload_n 2, 1) := dk_28 (dk_at dksJ16_subtract_2 4 rfl rfl)
theorem dJ16_subtract_53 : decode cJ16_subtract 53 = .ok (.lload 5, 2) := dk_22 5 (dk_at dksJ16_subtract_2 5 rfl rfl)
theorem dJ16_subtract_55 : decode cJ16_subtract 55 = .ok (.l2i, 1) := dk_136 (dk_at dksJ16_subtract_2 7 rfl rfl)
theorem dJ16_subtract_56 : decode cJ16_subtract 56 = .ok (.iastore, 1) := dk_79 (dk_at dksJ16_subtract_2 8 rfl rfl)
theorem dJ16_subtract_57 : decode cJ16_subtract 57 = .ok (.goto (-43), 3) := dk_167 255 213 (dk_at dksJ16_subtract_2 9 rfl rfl)
theorem dJ16_subtract_60 : decode cJ16_subtract 60 = .ok (.lload 5, 2) := dk_22 5 (dk_at dksJ16_subtract_2 12 rfl rfl)
theorem dJ16_subtract_62 : decode cJ16_subtract 62 = .ok (.bipush 32, 2) := dk_16 32 (dk_at dksJ16_subtract_2 14 rfl rfl)
theorem dJ16_subtract_64 : decode cJ16_subtract 64 = .ok (.lshr, 1) := dk_123 (dk_at dksJ16_subtract_2 16 rfl rfl)
theorem dJ16_subtract_65 : decode cJ16_subtract 65 = .ok (.lconst 0, 1) := dk_9 (dk_at dksJ16_subtract_2 17 rfl rfl)
theorem dJ16_subtract_66 : decode cJ16_subtract 66 = .ok (.lcmp, 1) := dk_148 (dk_at dksJ16_subtract_2 18 rfl rfl)
theorem dJ16_subtract_67 : decode cJ16_subtract 67 = .ok (.ifCond .eq 7, 3) := dk_153 0 7 (dk_at dksJ16_subtract_2 19 rfl rfl)
theorem dJ16_subtract_70 : decode cJ16_subtract 70 = .ok (.iconst 1, 1) := dk_4 (dk_at dksJ16_subtract_2 22 rfl rfl)
theorem dJ16_subtract_71 : decode cJ16_subtract 71 = .ok (.goto 4, 3) := dk_167 0 4 (dk_at dksJ16_subtract_3 0 rfl rfl)
theorem dJ16_subtract_74 : decode cJ16_subtract 74 = .ok (.iconst 0, 1) := dk_3 (dk_at dksJ16_subtract_3 3 rfl rfl)
theorem dJ16_subtract_75 : decode cJ16_subtract 75 = .ok (.istore 7, 2) := dk_54 7 (dk_at dksJ16_subtract_3 4 rfl rfl)
theorem dJ16_subtract_77 : decode cJ16_subtract 77 = .ok (.iload_n 2, 1) := dk_28 (dk_at dksJ16_subtract_3 6 rfl rfl)
theorem dJ16_subtract_78 : decode cJ16_subtract 78 = .ok (.ifCond .le 34, 3) := dk_158 0 34 (dk_at dksJ16_subtract_3 7 rfl rfl)
theorem dJ16_subtract_81 : decode cJ16_subtract 81 = .ok (.iload 7, 2) := dk_21 7 (dk_at dksJ16_subtract_3 10 rfl rfl)
theorem dJ16_subtract_83 : decode cJ16_subtract 83 = .ok (.ifCond .eq 29, 3) := dk_153 0 29 (dk_at dksJ16_subtract_3 12 rfl rfl)
theorem dJ16_subtract_86 : decode cJ16_subtract 86 = .ok (.aload_n 3, 1) := dk_45 (dk_at dksJ16_subtract_3 15 rfl rfl)
theorem dJ16_subtract_87 : decode cJ16_subtract 87 = .ok (.iinc 2 (-1), 3) := dk_132 2 255 (dk_at dksJ16_subtract_3 16 rfl rfl)
theorem dJ16_subtract_90 : decode cJ16_subtract 90 = .ok (.iload_n 2, 1) := dk_28 (dk_at dksJ16_subtract_3 19 rfl rfl)
theorem dJ16_subtract_91 : decode cJ16_subtract 91 = .ok (.aload_n 0, 1) := dk_42 (dk_at dksJ16_subtract_3 20 rfl rfl)
theorem dJ16_subtract_92 : decode cJ16_subtract 92 = .ok (.iload_n 2, 1) := dk_28 (dk_at dksJ16_subtract_3 21 rfl rfl)
theorem dJ16_subtract_93 : decode cJ16_subtract 93 = .ok (.iaload, 1) := dk_46 (dk_at dksJ16_subtract_3 22 rfl rfl)
theorem dJ16_subtract_94 : decode cJ16_subtract 94 = .ok (.iconst 1, 1) := dk_4 (dk_at dksJ16_subtract_3 23 rfl rfl)
theorem dJ16_subtract_95 : decode cJ16_subtract 95 = .ok (.isub, 1) := dk_100 (dk_at dksJ16_subtract_4 0 rfl rfl)
theorem dJ16_subtract_96 : decode cJ16_subtract 96 = .ok (.dup_x2, 1) := dk_91 (dk_at dksJ16_subtract_4 1 rfl rfl)
theorem dJ16_subtract_97 : decode cJ16_subtract 97 = .ok (.iastore, 1) := dk_79 (dk_at dksJ16_subtract_4 2 rfl rfl)
theorem dJ16_subtract_98 : decode cJ16_subtract 98 = .ok (.iconst (-1), 1) := dk_2 (dk_at dksJ16_subtract_4 3 rfl rfl)
theorem dJ16_subtract_99 : decode cJ16_subtract 99 = .ok (.if_icmp .ne 7, 3) := dk_160 0 7 (dk_at dksJ16_subtract_4 4 rfl rfl)
theorem dJ16_subtract_102 : decode cJ16_subtract 102 = .ok (.iconst 1, 1) := dk_4 (dk_at dksJ16_subtract_4 7 rfl rfl)
theorem dJ16_subtract_103 : decode cJ16_subtract 103 = .ok (.goto 4, 3) := dk_167 0 4 (dk_at dksJ16_subtract_4 8 rfl rfl)
theorem dJ16_subtract_106 : decode cJ16_subtract 106 = .ok (.iconst 0, 1) := dk_3 (dk_at dksJ16_subtract_4 11 rfl rfl)
theorem dJ16_subtract_107 : decode cJ16_subtract 107 = .ok (.istore 7, 2) := dk_54 7 (dk_at dksJ16_subtract_4 12 rfl rfl)
theorem dJ16_subtract_109 : decode cJ16_subtract 109 = .ok (.goto (-32), 3) := dk_167 255 224 (dk_at dksJ16_subtract_4 14 rfl rfl)
theorem dJ16_subtract_112 : decode cJ16_subtract 112 = .ok (.iload_n 2, 1) := dk_28 (dk_at dksJ16_subtract_4 17 rfl rfl)
theorem dJ16_subtract_113 : decode cJ16_subtract 113 = .ok (.ifCond .le 15, 3) := dk_158 0 15 (dk_at dksJ16_subtract_4 18 rfl rfl)
theorem dJ16_subtract_116 : decode cJ16_subtract 116 = .ok (.aload_n 3, 1) := dk_45 (dk_at dksJ16_subtract_4 21 rfl rfl)
theorem dJ16_subtract_117 : decode cJ16_subtract 117 = .ok (.iinc 2 (-1), 3) := dk_132 2 255 (dk_at dksJ16_subtract_5 0 rfl rfl)
theorem dJ16_subtract_120 : decode cJ16_subtract 120 = .ok (.iload_n 2, 1) := dk_28 (dk_at dksJ16_subtract_5 3 rfl rfl)
theorem dJ16_subtract_121 : decode cJ16_subtract 121 = .ok (.aload_n 0, 1) := dk_42 (dk_at dksJ16_subtract_5 4 rfl rfl)
theorem dJ16_subtract_122 : decode cJ16_subtract 122 = .ok (.iload_n 2, 1) := dk_28 (dk_at dksJ16_subtract_5 5 rfl rfl)
theorem dJ16_subtract_123 : decode cJ16_subtract 123 = .ok (.iaload, 1) := dk_46 (dk_at dksJ16_subtract_5 6 rfl rfl)
theorem dJ16_subtract_124 : decode cJ16_subtract 124 = .ok (.iastore, 1) := dk_79 (dk_at dksJ16_subtract_5 7 rfl rfl)
theorem dJ16_subtract_125 : decode cJ16_subtract 125 = .ok (.goto (-13), 3) := dk_167 255 243 (dk_at dksJ16_subtract_5 8 rfl rfl)
theorem dJ16_subtract_128 : decode cJ16_subtract 128 = .ok (.aload_n 3, 1) := dk_45 (dk_at dksJ16_subtract_5 11 rfl rfl)
theorem dJ16_subtract_129 : decode cJ16_subtract 129 = .ok (.areturn, 1) := dk_176 (dk_at dksJ16_subtract_5 12 rfl rfl)
abbrev cJ16_subtract_2 : ByteArray := prog_33_method_38_code
def yJ16_subtract_2 : MethodName := ⟨RJ16, "subtract", "(Ljava/math/BigInteger;)Ljava/math/BigInteger;"⟩
def dkwJ16_subtract_2_5 : List UInt8 := [160, 0, 7, 4, 167, 0, 4, 2, 183, 0, 175, 176]
abbrev dktJ16_subtract_2_5 : List UInt8 := dkwJ16_subtract_2_5 ++ []
def dkwJ16_subtract_2_4 : List UInt8 := [180, 0, 28, 184, 1, 112, 78, 45, 184, 0, 53, 78, 187, 0, 23, 89, 45, 28, 42, 180, 0, 32]
abbrev dktJ16_subtract_2_4 : List UInt8 := dkwJ16_subtract_2_4 ++ dktJ16_subtract_2_5
def dkwJ16_subtract_2_3 : List UInt8 := [176, 28, 158, 0, 17, 42, 180, 0, 28, 43, 180, 0, 28, 184, 1, 112, 167, 0, 14, 43, 180, 0, 28, 42]
abbrev dktJ16_subtract_2_3 : List UInt8 := dkwJ16_subtract_2_3 ++ dktJ16_subtract_2_4
def dkwJ16_subtract_2_2 : List UInt8 := [184, 1, 106, 42, 180, 0, 32, 183, 0, 175, 176, 42, 43, 182, 1, 109, 61, 28, 154, 0, 7, 178, 0, 22]
abbrev dktJ16_subtract_2_2 : List UInt8 := dkwJ16_subtract_2_2 ++ dktJ16_subtract_2_3
def dkwJ16_subtract_2_1 : List UInt8 := [180, 0, 32, 42, 180, 0, 32, 159, 0, 26, 187, 0, 23, 89, 42, 180, 0, 28, 43, 180, 0, 28]
abbrev dktJ16_subtract_2_1 : List UInt8 := dkwJ16_subtract_2_1 ++ dktJ16_subtract_2_2
def dkwJ16_subtract_2_0 : List UInt8 := [43, 180, 0, 32, 154, 0, 5, 42, 176, 42, 180, 0, 32, 154, 0, 8, 43, 182, 1, 138, 176, 43]
abbrev dktJ16_subtract_2_0 : List UInt8 := dkwJ16_subtract_2_0 ++ dktJ16_subtract_2_1
theorem dksJ16_subtract_2_0 : cJ16_subtract_2.data.toList.drop 0 = dktJ16_subtract_2_0 := by decide +kernel
theorem dksJ16_subtract_2_1 : cJ16_subtract_2.data.toList.drop 22 = dktJ16_subtract_2_1 := dk_seg dksJ16_subtract_2_0 22 rfl rfl
theorem dksJ16_subtract_2_2 : cJ16_subtract_2.data.toList.drop 44 = dktJ16_subtract_2_2 := dk_seg dksJ16_subtract_2_1 22 rfl rfl
theorem dksJ16_subtract_2_3 : cJ16_subtract_2.data.toList.drop 68 = dktJ16_subtract_2_3 := dk_seg dksJ16_subtract_2_2 24 rfl rfl
theorem dksJ16_subtract_2_4 : cJ16_subtract_2.data.toList.drop 92 = dktJ16_subtract_2_4 := dk_seg dksJ16_subtract_2_3 24 rfl rfl
theorem dksJ16_subtract_2_5 : cJ16_subtract_2.data.toList.drop 114 = dktJ16_subtract_2_5 := dk_seg dksJ16_subtract_2_4 22 rfl rfl
theorem dJ16_subtract_2_0 : decode cJ16_subtract_2 0 = .ok (.aload_n 1, 1) := dk_43 (dk_at dksJ16_subtract_2_0 0 rfl rfl)
theorem dJ16_subtract_2_1 : decode cJ16_subtract_2 1 = .ok (.getfield 32, 3) := dk_180 0 32 (dk_at dksJ16_subtract_2_0 1 rfl rfl)
theorem dJ16_subtract_2_4 : decode cJ16_subtract_2 4 = .ok (.ifCond .ne 5, 3) := dk_154 0 5 (dk_at dksJ16_subtract_2_0 4 rfl rfl)
theorem dJ16_subtract_2_7 : decode cJ16_subtract_2 7 = .ok (.aload_n 0, 1) := dk_42 (dk_at dksJ16_subtract_2_0 7 rfl rfl)
theorem dJ16_subtract_2_8 : decode cJ16_subtract_2 8 = .ok (.areturn, 1) := dk_176 (dk_at dksJ16_subtract_2_0 8 rfl rfl)
theorem dJ16_subtract_2_9 : decode cJ16_subtract_2 9 = .ok (.aload_n 0, 1) := dk_42 (dk_at dksJ16_subtract_2_0 9 rfl rfl)
theorem dJ16_subtract_2_10 : decode cJ16_subtract_2 10 = .ok (.getfield 32, 3) := dk_180 0 32 (dk_at dksJ16_subtract_2_0 10 rfl rfl)
theorem dJ16_subtract_2_13 : decode cJ16_subtract_2 13 = .ok (.ifCond .ne 8, 3) := dk_154 0 8 (dk_at dksJ16_subtract_2_0 13 rfl rfl)
theorem dJ16_subtract_2_16 : decode cJ16_subtract_2 16 = .ok (.aload_n 1, 1) := dk_43 (dk_at dksJ16_subtract_2_0 16 rfl rfl)
theorem dJ16_subtract_2_17 : decode cJ16_subtract_2 17 = .ok (.invokevirtual 394, 3) := dk_182 1 138 (dk_at dksJ16_subtract_2_0 17 rfl rfl)
theorem dJ16_subtract_2_20 : decode cJ16_subtract_2 20 = .ok (.areturn, 1) := dk_176 (dk_at dksJ16_subtract_2_0 20 rfl rfl)
theorem dJ16_subtract_2_21 : decode cJ16_subtract_2 21 = .ok (.aload_n 1, 1) := dk_43 (dk_at dksJ16_subtract_2_0 21 rfl rfl)
theorem dJ16_subtract_2_22 : decode cJ16_subtract_2 22 = .ok (.getfield 32, 3) := dk_180 0 32 (dk_at dksJ16_subtract_2_1 0 rfl rfl)
theorem dJ16_subtract_2_25 : decode cJ16_subtract_2 25 = .ok (.aload_n 0, 1) := dk_42 (dk_at dksJ16_subtract_2_1 3 rfl rfl)
theorem dJ16_subtract_2_26 : decode cJ16_subtract_2 26 = .ok (.getfield 32, 3) := dk_180 0 32 (dk_at dksJ16_subtract_2_1 4 rfl rfl)
theorem dJ16_subtract_2_29 : decode cJ16_subtract_2 29 = .ok (.if_icmp .eq 26, 3) := dk_159 0 26 (dk_at dksJ16_subtract_2_1 7 rfl rfl)
theorem dJ16_subtract_2_32 : decode cJ16_subtract_2 32 = .ok (.new 23, 3) := dk_187 0 23 (dk_at dksJ16_subtract_2_1 10 rfl rfl)
theorem dJ16_subtract_2_35 : decode cJ16_subtract_2 35 = .ok (.dup, 1) := dk_89 (dk_at dksJ16_subtract_2_1 13 rfl rfl)
theorem dJ16_subtract_2_36 : decode cJ16_subtract_2 36 = .ok (.aload_n 0, 1) := dk_42 (dk_at dksJ16_subtract_2_1 14 rfl rfl)
theorem dJ16_subtract_2_37 : decode cJ16_subtract_2 37 = .ok (.getfield 28, 3) := dk_180 0 28 (dk_at dksJ16_subtract_2_1 15 rfl rfl)
theorem dJ16_subtract_2_40 : decode cJ16_subtract_2 40 = .ok (.aload_n 1, 1) := dk_43 (dk_at dksJ16_subtract_2_1 18 rfl rfl)
theorem dJ16_subtract_2_41 : decode cJ16_subtract_2 41 = .ok (.getfield 28, 3) := dk_180 0 28 (dk_at dksJ16_subtract_2_1 19 rfl rfl)
theorem dJ16_subtract_2_44 : decode cJ16_subtract_2 44 = .ok (.invokestatic 362, 3) := dk_184 1 106 (dk_at dksJ16_subtract_2_2 0 rfl rfl)
theorem dJ16_subtract_2_47 : decode cJ16_subtract_2 47 = .ok (.aload_n 0, 1) := dk_42 (dk_at dksJ16_subtract_2_2 3 rfl rfl)
theorem dJ16_subtract_2_48 : decode cJ16_subtract_2 48 = .ok (.getfield 32, 3) := dk_180 0 32 (dk_at dksJ16_subtract_2_2 4 rfl rfl)
theorem dJ16_subtract_2_51 : decode cJ16_subtract_2 51 = .ok (.invokespecial 175, 3) := dk_183 0 175 (dk_at dksJ16_subtract_2_2 7 rfl rfl)
theorem dJ16_subtract_2_54 : decode cJ16_subtract_2 54 = .ok (.areturn, 1) := dk_176 (dk_at dksJ16_subtract_2_2 10 rfl rfl)
theorem dJ16_subtract_2_55 : decode cJ16_subtract_2 55 = .ok (.aload_n 0, 1) := dk_42 (dk_at dksJ16_subtract_2_2 11 rfl rfl)
theorem dJ16_subtract_2_56 : decode cJ16_subtract_2 56 = .ok (.aload_n 1, 1) := dk_43 (dk_at dksJ16_subtract_2_2 12 rfl rfl)
theorem dJ16_subtract_2_57 : decode cJ16_subtract_2 57 = .ok (.invokevirtual 365, 3) := dk_182 1 109 (dk_at dksJ16_subtract_2_2 13 rfl rfl)
theorem dJ16_subtract_2_60 : decode cJ16_subtract_2 60 = .ok (.istore_n 2, 1) := dk_61 (dk_at dksJ16_subtract_2_2 16 rfl rfl)
theorem dJ16_subtract_2_61 : decode cJ16_subtract_2 61 = .ok (.iload_n 2, 1) := dk_28 (dk_at dksJ16_subtract_2_2 17 rfl rfl)
theorem dJ16_subtract_2_62 : decode cJ16_subtract_2 62 = .ok (.ifCond .ne 7, 3) := dk_154 0 7 (dk_at dksJ16_subtract_2_2 18 rfl rfl)
theorem dJ16_subtract_2_65 : decode cJ16_subtract_2 65 = .ok (.getstatic 22, 3) := dk_178 0 22 (dk_at dksJ16_subtract_2_2 21 rfl rfl)
theorem dJ16_subtract_2_68 : decode cJ16_subtract_2 68 = .ok (.areturn, 1) := dk_176 (dk_at dksJ16_subtract_2_3 0 rfl rfl)
theorem dJ16_subtract_2_69 : decode cJ16_subtract_2 69 = .ok (.iload_n 2, 1) := dk_28 (dk_at dksJ16_subtract_2_3 1 rfl rfl)
theorem dJ16_subtract_2_70 : decode cJ16_subtract_2 70 = .ok (.ifCond .le 17, 3) := dk_158 0 17 (dk_at dksJ16_subtract_2_3 2 rfl rfl)
theorem dJ16_subtract_2_73 : decode cJ16_subtract_2 73 = .ok (.aload_n 0, 1) := dk_42 (dk_at dksJ16_subtract_2_3 5 rfl rfl)
theorem dJ16_subtract_2_74 : decode cJ16_subtract_2 74 = .ok (.getfield 28, 3) := dk_180 0 28 (dk_at dksJ16_subtract_2_3 6 rfl rfl)
theorem dJ16_subtract_2_77 : decode cJ16_subtract_2 77 = .ok (.aload_n 1, 1) := dk_43 (dk_at dksJ16_subtract_2_3 9 rfl rfl)
theorem dJ16_subtract_2_78 : decode cJ16_subtract_2 78 = .ok (.getfield 28, 3) := dk_180 0 28 (dk_at dksJ16_subtract_2_3 10 rfl rfl)
theorem dJ16_subtract_2_81 : decode cJ16_subtract_2 81 = .ok (.invokestatic 368, 3) := dk_184 1 112 (dk_at dksJ16_subtract_2_3 13 rfl rfl)
theorem dJ16_subtract_2_84 : decode cJ16_subtract_2 84 = .ok (.goto 14, 3) := dk_167 0 14 (dk_at dksJ16_subtract_2_3 16 rfl rfl)
theorem dJ16_subtract_2_87 : decode cJ16_subtract_2 87 = .ok (.aload_n 1, 1) := dk_43 (dk_at dksJ16_subtract_2_3 19 rfl rfl)
theorem dJ16_subtract_2_88 : decode cJ16_subtract_2 88 = .ok (.getfield 28, 3) := dk_180 0 28 (dk_at dksJ16_subtract_2_3 20 rfl rfl)
theorem dJ16_subtract_2_91 : decode cJ16_subtract_2 91 = .ok (.aload_n 0, 1) := dk_42 (dk_at dksJ16_subtract_2_3 23 rfl rfl)
theorem dJ16_subtract_2_92 : decode cJ16_subtract_2 92 = .ok (.getfield 28, 3) := dk_180 0 28 (dk_at dksJ16_subtract_2_4 0 rfl rfl)
theorem dJ16_subtract_2_95 : decode cJ16_subtract_2 95 = .ok (.invokestatic 368, 3) := dk_184 1 112 (dk_at dksJ16_subtract_2_4 3 rfl rfl)
theorem dJ16_subtract_2_98 : decode cJ16_subtract_2 98 = .ok (.astore_n 3, 1) := dk_78 (dk_at dksJ16_subtract_2_4 6 rfl rfl)
theorem dJ16_subtract_2_99 : decode cJ16_subtract_2 99 = .ok (.aload_n 3, 1) := dk_45 (dk_at dksJ16_subtract_2_4 7 rfl rfl)
theorem dJ16_subtract_2_100 : decode cJ16_subtract_2 100 = .ok (.invokestatic 53, 3) := dk_184 0 53 (dk_at dksJ16_subtract_2_4 8 rfl rfl)
theorem dJ16_subtract_2_103 : decode cJ16_subtract_2 103 = .ok (.astore_n 3, 1) := dk_78 (dk_at dksJ16_subtract_2_4 11 rfl rfl)
theorem dJ16_subtract_2_104 : decode cJ16_subtract_2 104 = .ok (.new 23, 3) := dk_187 0 23 (dk_at dksJ16_subtract_2_4 12 rfl rfl)
theorem dJ16_subtract_2_107 : decode cJ16_subtract_2 107 = .ok (.dup, 1) := dk_89 (dk_at dksJ16_subtract_2_4 15 rfl rfl)
theorem dJ16_subtract_2_108 : decode cJ16_subtract_2 108 = .ok (.aload_n 3, 1) := dk_45 (dk_at dksJ16_subtract_2_4 16 rfl rfl)
theorem dJ16_subtract_2_109 : decode cJ16_subtract_2 109 = .ok (.iload_n 2, 1) := dk_28 (dk_at dksJ16_subtract_2_4 17 rfl rfl)
theorem dJ16_subtract_2_110 : decode cJ16_subtract_2 110 = .ok (.aload_n 0, 1) := dk_42 (dk_at dksJ16_subtract_2_4 18 rfl rfl)
theorem dJ16_subtract_2_111 : decode cJ16_subtract_2 111 = .ok (.getfield 32, 3) := dk_180 0 32 (dk_at dksJ16_subtract_2_4 19 rfl rfl)
theorem dJ16_subtract_2_114 : decode cJ16_subtract_2 114 = .ok (.if_icmp .ne 7, 3) := dk_160 0 7 (dk_at dksJ16_subtract_2_5 0 rfl rfl)
theorem dJ16_subtract_2_117 : decode cJ16_subtract_2 117 = .ok (.iconst 1, 1) := dk_4 (dk_at dksJ16_subtract_2_5 3 rfl rfl)
theorem dJ16_subtract_2_118 : decode cJ16_subtract_2 118 = .ok (.goto 4, 3) := dk_167 0 4 (dk_at dksJ16_subtract_2_5 4 rfl rfl)
theorem dJ16_subtract_2_121 : decode cJ16_subtract_2 121 = .ok (.iconst (-1), 1) := dk_2 (dk_at dksJ16_subtract_2_5 7 rfl rfl)
theorem dJ16_subtract_2_122 : decode cJ16_subtract_2 122 = .ok (.invokespecial 175, 3) := dk_183 0 175 (dk_at dksJ16_subtract_2_5 8 rfl rfl)
theorem dJ16_subtract_2_125 : decode cJ16_subtract_2 125 = .ok (.areturn, 1) := dk_176 (dk_at dksJ16_subtract_2_5 11 rfl rfl)
abbrev cJ16_multiplyToLen : ByteArray := prog_33_method_45_code
def yJ16_multiplyToLen : MethodName := ⟨RJ16, "multiplyToLen", "([II[II[I)[I"⟩
def dkwJ16_multiplyToLen_0 : List UInt8 := [42, 27, 184, 1, 185, 44, 29, 184, 1, 185, 42, 27, 44, 29, 25, 4, 184, 1, 188, 176]
abbrev dktJ16_multiplyToLen_0 : List UInt8 := dkwJ16_multiplyToLen_0 ++ []
theorem dksJ16_multiplyToLen_0 : cJ16_multiplyToLen.data.toList.drop 0 = dktJ16_multiplyToLen_0 := by decide +kernel
theorem dJ16_multiplyToLen_0 : decode cJ16_multiplyToLen 0 = .ok (.aload_n 0, 1) := dk_42 (dk_at dksJ16_multiplyToLen_0 0 rfl rfl)
theorem dJ16_multiplyToLen_1 : decode cJ16_multiplyToLen 1 = .ok (.iload_n 1, 1) := dk_27 (dk_at dksJ16_multiplyToLen_0 1 rfl rfl)
theorem dJ16_multiplyToLen_2 : decode cJ16_multiplyToLen 2 = .ok (.invokestatic 441, 3) := dk_184 1 185 (dk_at dksJ16_multiplyToLen_0 2 rfl rfl)
theorem dJ16_multiplyToLen_5 : decode cJ16_multiplyToLen 5 = .ok (.aload_n 2, 1) := dk_44 (dk_at dksJ16_multiplyToLen_0 5 rfl rfl)
theorem dJ16_multiplyToLen_6 : decode cJ16_multiplyToLen 6 = .ok (.iload_n 3, 1) := dk_29 (dk_at dksJ16_multiplyToLen_0 6 rfl rfl)
theorem dJ16_multiplyToLen_7 : decode cJ16_multiplyToLen 7 = .ok (.invokestatic 441, 3) := dk_184 1 185 (dk_at dksJ16_multiplyToLen_0 7 rfl rfl)
theorem dJ16_multiplyToLen_10 : decode cJ16_multiplyToLen 10 = .ok (.aload_n 0, 1) := dk_42 (dk_at dksJ16_multiplyToLen_0 10 rfl rfl)
theorem dJ16_multiplyToLen_11 : decode cJ16_multiplyToLen 11 = .ok (.iload_n 1, 1) := dk_27 (dk_at dksJ16_multiplyToLen_0 11 rfl rfl)
theorem dJ16_multiplyToLen_12 : decode cJ16_multiplyToLen 12 = .ok (.aload_n 2, 1) := dk_44 (dk_at dksJ16_multiplyToLen_0 12 rfl rfl)
theorem dJ16_multiplyToLen_13 : decode cJ16_multiplyToLen 13 = .ok (.iload_n 3, 1) := dk_29 (dk_at dksJ16_multiplyToLen_0 13 rfl rfl)
theorem dJ16_multiplyToLen_14 : decode cJ16_multiplyToLen 14 = .ok (.aload 4, 2) := dk_25 4 (dk_at dksJ16_multiplyToLen_0 14 rfl rfl)
theorem dJ16_multiplyToLen_16 : decode cJ16_multiplyToLen 16 = .ok (.invokestatic 444, 3) := dk_184 1 188 (dk_at dksJ16_multiplyToLen_0 16 rfl rfl)
theorem dJ16_multiplyToLen_19 : decode cJ16_multiplyToLen 19 = .ok (.areturn, 1) := dk_176 (dk_at dksJ16_multiplyToLen_0 19 rfl rfl)
abbrev cJ16_multiplyToLenCheck : ByteArray := prog_33_method_47_code
def yJ16_multiplyToLenCheck : MethodName := ⟨RJ16, "multiplyToLenCheck", "([II)V"⟩
def dkwJ16_multiplyToLenCheck_1 : List UInt8 := [183, 1, 197, 191, 177]
abbrev dktJ16_multiplyToLenCheck_1 : List UInt8 := dkwJ16_multiplyToLenCheck_1 ++ []
def dkwJ16_multiplyToLenCheck_0 : List UInt8 := [27, 157, 0, 4, 177, 42, 184, 1, 191, 87, 27, 42, 190, 164, 0, 14, 187, 1, 195, 89, 27, 4, 100]
abbrev dktJ16_multiplyToLenCheck_0 : List UInt8 := dkwJ16_multiplyToLenCheck_0 ++ dktJ16_multiplyToLenCheck_1
theorem dksJ16_multiplyToLenCheck_0 : cJ16_multiplyToLenCheck.data.toList.drop 0 = dktJ16_multiplyToLenCheck_0 := by decide +kernel
theorem dksJ16_multiplyToLenCheck_1 : cJ16_multiplyToLenCheck.data.toList.drop 23 = dktJ16_multiplyToLenCheck_1 := dk_seg dksJ16_multiplyToLenCheck_0 23 rfl rfl
theorem dJ16_multiplyToLenCheck_0 : decode cJ16_multiplyToLenCheck 0 = .ok (.iload_n 1, 1) := dk_27 (dk_at dksJ16_multiplyToLenCheck_0 0 rfl rfl)
theorem dJ16_multiplyToLenCheck_1 : decode cJ16_multiplyToLenCheck 1 = .ok (.ifCond .gt 4, 3) := dk_157 0 4 (dk_at dksJ16_multiplyToLenCheck_0 1 rfl rfl)
theorem dJ16_multiplyToLenCheck_4 : decode cJ16_multiplyToLenCheck 4 = .ok (.return_, 1) := dk_177 (dk_at dksJ16_multiplyToLenCheck_0 4 rfl rfl)
theorem dJ16_multiplyToLenCheck_5 : decode cJ16_multiplyToLenCheck 5 = .ok (.aload_n 0, 1) := dk_42 (dk_at dksJ16_multiplyToLenCheck_0 5 rfl rfl)
theorem dJ16_multiplyToLenCheck_6 : decode cJ16_multiplyToLenCheck 6 = .ok (.invokestatic 447, 3) := dk_184 1 191 (dk_at dksJ16_multiplyToLenCheck_0 6 rfl rfl)
theorem dJ16_multiplyToLenCheck_9 : decode cJ16_multiplyToLenCheck 9 = .ok (.pop, 1) := dk_87 (dk_at dksJ16_multiplyToLenCheck_0 9 rfl rfl)
theorem dJ16_multiplyToLenCheck_10 : decode cJ16_multiplyToLenCheck 10 = .ok (.iload_n 1, 1) := dk_27 (dk_at dksJ16_multiplyToLenCheck_0 10 rfl rfl)
theorem dJ16_multiplyToLenCheck_11 : decode cJ16_multiplyToLenCheck 11 = .ok (.aload_n 0, 1) := dk_42 (dk_at dksJ16_multiplyToLenCheck_0 11 rfl rfl)
theorem dJ16_multiplyToLenCheck_12 : decode cJ16_multiplyToLenCheck 12 = .ok (.arraylength, 1) := dk_190 (dk_at dksJ16_multiplyToLenCheck_0 12 rfl rfl)
theorem dJ16_multiplyToLenCheck_13 : decode cJ16_multiplyToLenCheck 13 = .ok (.if_icmp .le 14, 3) := dk_164 0 14 (dk_at dksJ16_multiplyToLenCheck_0 13 rfl rfl)
theorem dJ16_multiplyToLenCheck_16 : decode cJ16_multiplyToLenCheck 16 = .ok (.new 451, 3) := dk_187 1 195 (dk_at dksJ16_multiplyToLenCheck_0 16 rfl rfl)
theorem dJ16_multiplyToLenCheck_19 : decode cJ16_multiplyToLenCheck 19 = .ok (.dup, 1) := dk_89 (dk_at dksJ16_multiplyToLenCheck_0 19 rfl rfl)
theorem dJ16_multiplyToLenCheck_20 : decode cJ16_multiplyToLenCheck 20 = .ok (.iload_n 1, 1) := dk_27 (dk_at dksJ16_multiplyToLenCheck_0 20 rfl rfl)
theorem dJ16_multiplyToLenCheck_21 : decode cJ16_multiplyToLenCheck 21 = .ok (.iconst 1, 1) := dk_4 (dk_at dksJ16_multiplyToLenCheck_0 21 rfl rfl)
theorem dJ16_multiplyToLenCheck_22 : decode cJ16_multiplyToLenCheck 22 = .ok (.isub, 1) := dk_100 (dk_at dksJ16_multiplyToLenCheck_0 22 rfl rfl)
theorem dJ16_multiplyToLenCheck_23 : decode cJ16_multiplyToLenCheck 23 = .ok (.invokespecial 453, 3) := dk_183 1 197 (dk_at dksJ16_multiplyToLenCheck_1 0 rfl rfl)
theorem dJ16_multiplyToLenCheck_26 : decode cJ16_multiplyToLenCheck 26 = .ok (.athrow, 1) := dk_191 (dk_at dksJ16_multiplyToLenCheck_1 3 rfl rfl)
theorem dJ16_multiplyToLenCheck_27 : decode cJ16_multiplyToLenCheck 27 = .ok (.return_, 1) := dk_177 (dk_at dksJ16_multiplyToLenCheck_1 4 rfl rfl)
abbrev cJ16_implMultiplyToLen : ByteArray := prog_33_method_46_code
def yJ16_implMultiplyToLen : MethodName := ⟨RJ16, "implMultiplyToLen", "([II[II[I)[I"⟩
def dkwJ16_implMultiplyToLen_9 : List UInt8 := [167, 255, 160, 25, 4, 176]
abbrev dktJ16_implMultiplyToLen_9 : List UInt8 := dkwJ16_implMultiplyToLen_9 ++ []
def dkwJ16_implMultiplyToLen_8 : List UInt8 := [55, 7, 132, 10, 255, 132, 11, 255, 167, 255, 195, 25, 4, 21, 9, 22, 7, 136, 79, 132, 9, 255]
abbrev dktJ16_implMultiplyToLen_8 : List UInt8 := dkwJ16_implMultiplyToLen_8 ++ dktJ16_implMultiplyToLen_9
def dkwJ16_implMultiplyToLen_7 : List UInt8 := [133, 20, 0, 130, 127, 97, 22, 7, 97, 55, 12, 25, 4, 21, 11, 22, 12, 136, 79, 22, 12, 16, 32, 125]
abbrev dktJ16_implMultiplyToLen_7 : List UInt8 := dkwJ16_implMultiplyToLen_7 ++ dktJ16_implMultiplyToLen_8
def dkwJ16_implMultiplyToLen_6 : List UInt8 := [44, 21, 10, 46, 133, 20, 0, 130, 127, 42, 21, 9, 46, 133, 20, 0, 130, 127, 105, 25, 4, 21, 11, 46]
abbrev dktJ16_implMultiplyToLen_6 : List UInt8 := dkwJ16_implMultiplyToLen_6 ++ dktJ16_implMultiplyToLen_7
def dkwJ16_implMultiplyToLen_5 : List UInt8 := [155, 0, 97, 9, 55, 7, 21, 6, 54, 10, 21, 6, 4, 96, 21, 9, 96, 54, 11, 21, 10, 155, 0, 62]
abbrev dktJ16_implMultiplyToLen_5 : List UInt8 := dkwJ16_implMultiplyToLen_5 ++ dktJ16_implMultiplyToLen_6
def dkwJ16_implMultiplyToLen_4 : List UInt8 := [132, 10, 255, 167, 255, 206, 25, 4, 21, 5, 22, 7, 136, 79, 21, 5, 4, 100, 54, 9, 21, 9]
abbrev dktJ16_implMultiplyToLen_4 : List UInt8 := dkwJ16_implMultiplyToLen_4 ++ dktJ16_implMultiplyToLen_5
def dkwJ16_implMultiplyToLen_3 : List UInt8 := [22, 7, 97, 55, 11, 25, 4, 21, 10, 22, 11, 136, 79, 22, 11, 16, 32, 125, 55, 7, 132, 9, 255]
abbrev dktJ16_implMultiplyToLen_3 : List UInt8 := dkwJ16_implMultiplyToLen_3 ++ dktJ16_implMultiplyToLen_4
def dkwJ16_implMultiplyToLen_2 : List UInt8 := [21, 9, 155, 0, 51, 44, 21, 9, 46, 133, 20, 0, 130, 127, 42, 21, 5, 46, 133, 20, 0, 130, 127, 105]
abbrev dktJ16_implMultiplyToLen_2 : List UInt8 := dkwJ16_implMultiplyToLen_2 ++ dktJ16_implMultiplyToLen_3
def dkwJ16_implMultiplyToLen_1 : List UInt8 := [27, 29, 96, 188, 10, 58, 4, 9, 55, 7, 21, 6, 54, 9, 21, 6, 4, 96, 21, 5, 96, 54, 10]
abbrev dktJ16_implMultiplyToLen_1 : List UInt8 := dkwJ16_implMultiplyToLen_1 ++ dktJ16_implMultiplyToLen_2
def dkwJ16_implMultiplyToLen_0 : List UInt8 := [27, 4, 100, 54, 5, 29, 4, 100, 54, 6, 25, 4, 198, 0, 12, 25, 4, 190, 27, 29, 96, 162, 0, 10]
abbrev dktJ16_implMultiplyToLen_0 : List UInt8 := dkwJ16_implMultiplyToLen_0 ++ dktJ16_implMultiplyToLen_1
theorem dksJ16_implMultiplyToLen_0 : cJ16_implMultiplyToLen.data.toList.drop 0 = dktJ16_implMultiplyToLen_0 := by decide +kernel
theorem dksJ16_implMultiplyToLen_1 : cJ16_implMultiplyToLen.data.toList.drop 24 = dktJ16_implMultiplyToLen_1 := dk_seg dksJ16_implMultiplyToLen_0 24 rfl rfl
theorem dksJ16_implMultiplyToLen_2 : cJ16_implMultiplyToLen.data.toList.drop 47 = dktJ16_implMultiplyToLen_2 := dk_seg dksJ16_implMultiplyToLen_1 23 rfl rfl
theorem dksJ16_implMultiplyToLen_3 : cJ16_implMultiplyToLen.data.toList.drop 71 = dktJ16_implMultiplyToLen_3 := dk_seg dksJ16_implMultiplyToLen_2 24 rfl rfl
theorem dksJ16_implMultiplyToLen_4 : cJ16_implMultiplyToLen.data.toList.drop 94 = dktJ16_implMultiplyToLen_4 := dk_seg dksJ16_implMultiplyToLen_3 23 rfl rfl
theorem dksJ16_implMultiplyToLen_5 : cJ16_implMultiplyToLen.data.toList.drop 116 = dktJ16_implMultiplyToLen_5 := dk_seg dksJ16_implMultiplyToLen_4 22 rfl rfl
theorem dksJ16_implMultiplyToLen_6 : cJ16_implMultiplyToLen.data.toList.drop 140 = dktJ16_implMultiplyToLen_6 := dk_seg dksJ16_implMultiplyToLen_5 24 rfl rfl
theorem dksJ16_implMultiplyToLen_7 : cJ16_implMultiplyToLen.data.toList.drop 164 = dktJ16_implMultiplyToLen_7 := dk_seg dksJ16_implMultiplyToLen_6 24 rfl rfl
theorem dksJ16_implMultiplyToLen_8 : cJ16_implMultiplyToLen.data.toList.drop 188 = dktJ16_implMultiplyToLen_8 := dk_seg dksJ16_implMultiplyToLen_7 24 rfl rfl
theorem dksJ16_implMultiplyToLen_9 : cJ16_implMultiplyToLen.data.toList.drop 210 = dktJ16_implMultiplyToLen_9 := dk_seg dksJ16_implMultiplyToLen_8 22 rfl rfl
theorem dJ16_implMultiplyToLen_0 : decode cJ16_implMultiplyToLen 0 = .ok (.iload_n 1, 1) := dk_27 (dk_at dksJ16_implMultiplyToLen_0 0 rfl rfl)
theorem dJ16_implMultiplyToLen_1 : decode cJ16_implMultiplyToLen 1 = .ok (.iconst 1, 1) := dk_4 (dk_at dksJ16_implMultiplyToLen_0 1 rfl rfl)
theorem dJ16_implMultiplyToLen_2 : decode cJ16_implMultiplyToLen 2 = .ok (.isub, 1) := dk_100 (dk_at dksJ16_implMultiplyToLen_0 2 rfl rfl)
theorem dJ16_implMultiplyToLen_3 : decode cJ16_implMultiplyToLen 3 = .ok (.istore 5, 2) := dk_54 5 (dk_at dksJ16_implMultiplyToLen_0 3 rfl rfl)
theorem dJ16_implMultiplyToLen_5 : decode cJ16_implMultiplyToLen 5 = .ok (.iload_n 3, 1) := dk_29 (dk_at dksJ16_implMultiplyToLen_0 5 rfl rfl)
theorem dJ16_implMultiplyToLen_6 : decode cJ16_implMultiplyToLen 6 = .ok (.iconst 1, 1) := dk_4 (dk_at dksJ16_implMultiplyToLen_0 6 rfl rfl)
theorem dJ16_implMultiplyToLen_7 : decode cJ16_implMultiplyToLen 7 = .ok (.isub, 1) := dk_100 (dk_at dksJ16_implMultiplyToLen_0 7 rfl rfl)
theorem dJ16_implMultiplyToLen_8 : decode cJ16_implMultiplyToLen 8 = .ok (.istore 6, 2) := dk_54 6 (dk_at dksJ16_implMultiplyToLen_0 8 rfl rfl)
theorem dJ16_implMultiplyToLen_10 : decode cJ16_implMultiplyToLen 10 = .ok (.aload 4, 2) := dk_25 4 (dk_at dksJ16_implMultiplyToLen_0 10 rfl rfl)
theorem dJ16_implMultiplyToLen_12 : decode cJ16_implMultiplyToLen 12 = .ok (.ifnull 12, 3) := dk_198 0 12 (dk_at dksJ16_implMultiplyToLen_0 12 rfl rfl)
theorem dJ16_implMultiplyToLen_15 : decode cJ16_implMultiplyToLen 15 = .ok (.aload 4, 2) := dk_25 4 (dk_at dksJ16_implMultiplyToLen_0 15 rfl rfl)
theorem dJ16_implMultiplyToLen_17 : decode cJ16_implMultiplyToLen 17 = .ok (.arraylength, 1) := dk_190 (dk_at dksJ16_implMultiplyToLen_0 17 rfl rfl)
theorem dJ16_implMultiplyToLen_18 : decode cJ16_implMultiplyToLen 18 = .ok (.iload_n 1, 1) := dk_27 (dk_at dksJ16_implMultiplyToLen_0 18 rfl rfl)
theorem dJ16_implMultiplyToLen_19 : decode cJ16_implMultiplyToLen 19 = .ok (.iload_n 3, 1) := dk_29 (dk_at dksJ16_implMultiplyToLen_0 19 rfl rfl)
theorem dJ16_implMultiplyToLen_20 : decode cJ16_implMultiplyToLen 20 = .ok (.iadd, 1) := dk_96 (dk_at dksJ16_implMultiplyToLen_0 20 rfl rfl)
theorem dJ16_implMultiplyToLen_21 : decode cJ16_implMultiplyToLen 21 = .ok (.if_icmp .ge 10, 3) := dk_162 0 10 (dk_at dksJ16_implMultiplyToLen_0 21 rfl rfl)
theorem dJ16_implMultiplyToLen_24 : decode cJ16_implMultiplyToLen 24 = .ok (.iload_n 1, 1) := dk_27 (dk_at dksJ16_implMultiplyToLen_1 0 rfl rfl)
theorem dJ16_implMultiplyToLen_25 : decode cJ16_implMultiplyToLen 25 = .ok (.iload_n 3, 1) := dk_29 (dk_at dksJ16_implMultiplyToLen_1 1 rfl rfl)
theorem dJ16_implMultiplyToLen_26 : decode cJ16_implMultiplyToLen 26 = .ok (.iadd, 1) := dk_96 (dk_at dksJ16_implMultiplyToLen_1 2 rfl rfl)
theorem dJ16_implMultiplyToLen_27 : decode cJ16_implMultiplyToLen 27 = .ok (.newarray .int, 2) := dk_188_10 (dk_at dksJ16_implMultiplyToLen_1 3 rfl rfl)
theorem dJ16_implMultiplyToLen_29 : decode cJ16_implMultiplyToLen 29 = .ok (.astore 4, 2) := dk_58 4 (dk_at dksJ16_implMultiplyToLen_1 5 rfl rfl)
theorem dJ16_implMultiplyToLen_31 : decode cJ16_implMultiplyToLen 31 = .ok (.lconst 0, 1) := dk_9 (dk_at dksJ16_implMultiplyToLen_1 7 rfl rfl)
theorem dJ16_implMultiplyToLen_32 : decode cJ16_implMultiplyToLen 32 = .ok (.lstore 7, 2) := dk_55 7 (dk_at dksJ16_implMultiplyToLen_1 8 rfl rfl)
theorem dJ16_implMultiplyToLen_34 : decode cJ16_implMultiplyToLen 34 = .ok (.iload 6, 2) := dk_21 6 (dk_at dksJ16_implMultiplyToLen_1 10 rfl rfl)
theorem dJ16_implMultiplyToLen_36 : decode cJ16_implMultiplyToLen 36 = .ok (.istore 9, 2) := dk_54 9 (dk_at dksJ16_implMultiplyToLen_1 12 rfl rfl)
theorem dJ16_implMultiplyToLen_38 : decode cJ16_implMultiplyToLen 38 = .ok (.iload 6, 2) := dk_21 6 (dk_at dksJ16_implMultiplyToLen_1 14 rfl rfl)
theorem dJ16_implMultiplyToLen_40 : decode cJ16_implMultiplyToLen 40 = .ok (.iconst 1, 1) := dk_4 (dk_at dksJ16_implMultiplyToLen_1 16 rfl rfl)
theorem dJ16_implMultiplyToLen_41 : decode cJ16_implMultiplyToLen 41 = .ok (.iadd, 1) := dk_96 (dk_at dksJ16_implMultiplyToLen_1 17 rfl rfl)
theorem dJ16_implMultiplyToLen_42 : decode cJ16_implMultiplyToLen 42 = .ok (.iload 5, 2) := dk_21 5 (dk_at dksJ16_implMultiplyToLen_1 18 rfl rfl)
theorem dJ16_implMultiplyToLen_44 : decode cJ16_implMultiplyToLen 44 = .ok (.iadd, 1) := dk_96 (dk_at dksJ16_implMultiplyToLen_1 20 rfl rfl)
theorem dJ16_implMultiplyToLen_45 : decode cJ16_implMultiplyToLen 45 = .ok (.istore 10, 2) := dk_54 10 (dk_at dksJ16_implMultiplyToLen_1 21 rfl rfl)
theorem dJ16_implMultiplyToLen_47 : decode cJ16_implMultiplyToLen 47 = .ok (.iload 9, 2) := dk_21 9 (dk_at dksJ16_implMultiplyToLen_2 0 rfl rfl)
theorem dJ16_implMultiplyToLen_49 : decode cJ16_implMultiplyToLen 49 = .ok (.ifCond .lt 51, 3) := dk_155 0 51 (dk_at dksJ16_implMultiplyToLen_2 2 rfl rfl)
theorem dJ16_implMultiplyToLen_52 : decode cJ16_implMultiplyToLen 52 = .ok (.aload_n 2, 1) := dk_44 (dk_at dksJ16_implMultiplyToLen_2 5 rfl rfl)
theorem dJ16_implMultiplyToLen_53 : decode cJ16_implMultiplyToLen 53 = .ok (.iload 9, 2) := dk_21 9 (dk_at dksJ16_implMultiplyToLen_2 6 rfl rfl)
theorem dJ16_implMultiplyToLen_55 : decode cJ16_implMultiplyToLen 55 = .ok (.iaload, 1) := dk_46 (dk_at dksJ16_implMultiplyToLen_2 8 rfl rfl)
theorem dJ16_implMultiplyToLen_56 : decode cJ16_implMultiplyToLen 56 = .ok (.i2l, 1) := dk_133 (dk_at dksJ16_implMultiplyToLen_2 9 rfl rfl)
theorem dJ16_implMultiplyToLen_57 : decode cJ16_implMultiplyToLen 57 = .ok (.ldc2_w 130, 3) := dk_20 0 130 (dk_at dksJ16_implMultiplyToLen_2 10 rfl rfl)
theorem dJ16_implMultiplyToLen_60 : decode cJ16_implMultiplyToLen 60 = .ok (.land, 1) := dk_127 (dk_at dksJ16_implMultiplyToLen_2 13 rfl rfl)
theorem dJ16_implMultiplyToLen_61 : decode cJ16_implMultiplyToLen 61 = .ok (.aload_n 0, 1) := dk_42 (dk_at dksJ16_implMultiplyToLen_2 14 rfl rfl)
theorem dJ16_implMultiplyToLen_62 : decode cJ16_implMultiplyToLen 62 = .ok (.iload 5, 2) := dk_21 5 (dk_at dksJ16_implMultiplyToLen_2 15 rfl rfl)
theorem dJ16_implMultiplyToLen_64 : decode cJ16_implMultiplyToLen 64 = .ok (.iaload, 1) := dk_46 (dk_at dksJ16_implMultiplyToLen_2 17 rfl rfl)
theorem dJ16_implMultiplyToLen_65 : decode cJ16_implMultiplyToLen 65 = .ok (.i2l, 1) := dk_133 (dk_at dksJ16_implMultiplyToLen_2 18 rfl rfl)
theorem dJ16_implMultiplyToLen_66 : decode cJ16_implMultiplyToLen 66 = .ok (.ldc2_w 130, 3) := dk_20 0 130 (dk_at dksJ16_implMultiplyToLen_2 19 rfl rfl)
theorem dJ16_implMultiplyToLen_69 : decode cJ16_implMultiplyToLen 69 = .ok (.land, 1) := dk_127 (dk_at dksJ16_implMultiplyToLen_2 22 rfl rfl)
theorem dJ16_implMultiplyToLen_70 : decode cJ16_implMultiplyToLen 70 = .ok (.lmul, 1) := dk_105 (dk_at dksJ16_implMultiplyToLen_2 23 rfl rfl)
theorem dJ16_implMultiplyToLen_71 : decode cJ16_implMultiplyToLen 71 = .ok (.lload 7, 2) := dk_22 7 (dk_at dksJ16_implMultiplyToLen_3 0 rfl rfl)
theorem dJ16_implMultiplyToLen_73 : decode cJ16_implMultiplyToLen 73 = .ok (.ladd, 1) := dk_97 (dk_at dksJ16_implMultiplyToLen_3 2 rfl rfl)
theorem dJ16_implMultiplyToLen_74 : decode cJ16_implMultiplyToLen 74 = .ok (.lstore 11, 2) := dk_55 11 (dk_at dksJ16_implMultiplyToLen_3 3 rfl rfl)
theorem dJ16_implMultiplyToLen_76 : decode cJ16_implMultiplyToLen 76 = .ok (.aload 4, 2) := dk_25 4 (dk_at dksJ16_implMultiplyToLen_3 5 rfl rfl)
theorem dJ16_implMultiplyToLen_78 : decode cJ16_implMultiplyToLen 78 = .ok (.iload 10, 2) := dk_21 10 (dk_at dksJ16_implMultiplyToLen_3 7 rfl rfl)
theorem dJ16_implMultiplyToLen_80 : decode cJ16_implMultiplyToLen 80 = .ok (.lload 11, 2) := dk_22 11 (dk_at dksJ16_implMultiplyToLen_3 9 rfl rfl)
theorem dJ16_implMultiplyToLen_82 : decode cJ16_implMultiplyToLen 82 = .ok (.l2i, 1) := dk_136 (dk_at dksJ16_implMultiplyToLen_3 11 rfl rfl)
theorem dJ16_implMultiplyToLen_83 : decode cJ16_implMultiplyToLen 83 = .ok (.iastore, 1) := dk_79 (dk_at dksJ16_implMultiplyToLen_3 12 rfl rfl)
theorem dJ16_implMultiplyToLen_84 : decode cJ16_implMultiplyToLen 84 = .ok (.lload 11, 2) := dk_22 11 (dk_at dksJ16_implMultiplyToLen_3 13 rfl rfl)
theorem dJ16_implMultiplyToLen_86 : decode cJ16_implMultiplyToLen 86 = .ok (.bipush 32, 2) := dk_16 32 (dk_at dksJ16_implMultiplyToLen_3 15 rfl rfl)
theorem dJ16_implMultiplyToLen_88 : decode cJ16_implMultiplyToLen 88 = .ok (.lushr, 1) := dk_125 (dk_at dksJ16_implMultiplyToLen_3 17 rfl rfl)
theorem dJ16_implMultiplyToLen_89 : decode cJ16_implMultiplyToLen 89 = .ok (.lstore 7, 2) := dk_55 7 (dk_at dksJ16_implMultiplyToLen_3 18 rfl rfl)
theorem dJ16_implMultiplyToLen_91 : decode cJ16_implMultiplyToLen 91 = .ok (.iinc 9 (-1), 3) := dk_132 9 255 (dk_at dksJ16_implMultiplyToLen_3 20 rfl rfl)
theorem dJ16_implMultiplyToLen_94 : decode cJ16_implMultiplyToLen 94 = .ok (.iinc 10 (-1), 3) := dk_132 10 255 (dk_at dksJ16_implMultiplyToLen_4 0 rfl rfl)
theorem dJ16_implMultiplyToLen_97 : decode cJ16_implMultiplyToLen 97 = .ok (.goto (-50), 3) := dk_167 255 206 (dk_at dksJ16_implMultiplyToLen_4 3 rfl rfl)
theorem dJ16_implMultiplyToLen_100 : decode cJ16_implMultiplyToLen 100 = .ok (.aload 4, 2) := dk_25 4 (dk_at dksJ16_implMultiplyToLen_4 6 rfl rfl)
theorem dJ16_implMultiplyToLen_102 : decode cJ16_implMultiplyToLen 102 = .ok (.iload 5, 2) := dk_21 5 (dk_at dksJ16_implMultiplyToLen_4 8 rfl rfl)
theorem dJ16_implMultiplyToLen_104 : decode cJ16_implMultiplyToLen 104 = .ok (.lload 7, 2) := dk_22 7 (dk_at dksJ16_implMultiplyToLen_4 10 rfl rfl)
theorem dJ16_implMultiplyToLen_106 : decode cJ16_implMultiplyToLen 106 = .ok (.l2i, 1) := dk_136 (dk_at dksJ16_implMultiplyToLen_4 12 rfl rfl)
theorem dJ16_implMultiplyToLen_107 : decode cJ16_implMultiplyToLen 107 = .ok (.iastore, 1) := dk_79 (dk_at dksJ16_implMultiplyToLen_4 13 rfl rfl)
theorem dJ16_implMultiplyToLen_108 : decode cJ16_implMultiplyToLen 108 = .ok (.iload 5, 2) := dk_21 5 (dk_at dksJ16_implMultiplyToLen_4 14 rfl rfl)
theorem dJ16_implMultiplyToLen_110 : decode cJ16_implMultiplyToLen 110 = .ok (.iconst 1, 1) := dk_4 (dk_at dksJ16_implMultiplyToLen_4 16 rfl rfl)
theorem dJ16_implMultiplyToLen_111 : decode cJ16_implMultiplyToLen 111 = .ok (.isub, 1) := dk_100 (dk_at dksJ16_implMultiplyToLen_4 17 rfl rfl)
theorem dJ16_implMultiplyToLen_112 : decode cJ16_implMultiplyToLen 112 = .ok (.istore 9, 2) := dk_54 9 (dk_at dksJ16_implMultiplyToLen_4 18 rfl rfl)
theorem dJ16_implMultiplyToLen_114 : decode cJ16_implMultiplyToLen 114 = .ok (.iload 9, 2) := dk_21 9 (dk_at dksJ16_implMultiplyToLen_4 20 rfl rfl)
theorem dJ16_implMultiplyToLen_116 : decode cJ16_implMultiplyToLen 116 = .ok (.ifCond .lt 97, 3) := dk_155 0 97 (dk_at dksJ16_implMultiplyToLen_5 0 rfl rfl)
theorem dJ16_implMultiplyToLen_119 : decode cJ16_implMultiplyToLen 119 = .ok (.lconst 0, 1) := dk_9 (dk_at dksJ16_implMultiplyToLen_5 3 rfl rfl)
theorem dJ16_implMultiplyToLen_120 : decode cJ16_implMultiplyToLen 120 = .ok (.lstore 7, 2) := dk_55 7 (dk_at dksJ16_implMultiplyToLen_5 4 rfl rfl)
theorem dJ16_implMultiplyToLen_122 : decode cJ16_implMultiplyToLen 122 = .ok (.iload 6, 2) := dk_21 6 (dk_at dksJ16_implMultiplyToLen_5 6 rfl rfl)
theorem dJ16_implMultiplyToLen_124 : decode cJ16_implMultiplyToLen 124 = .ok (.istore 10, 2) := dk_54 10 (dk_at dksJ16_implMultiplyToLen_5 8 rfl rfl)
theorem dJ16_implMultiplyToLen_126 : decode cJ16_implMultiplyToLen 126 = .ok (.iload 6, 2) := dk_21 6 (dk_at dksJ16_implMultiplyToLen_5 10 rfl rfl)
theorem dJ16_implMultiplyToLen_128 : decode cJ16_implMultiplyToLen 128 = .ok (.iconst 1, 1) := dk_4 (dk_at dksJ16_implMultiplyToLen_5 12 rfl rfl)
theorem dJ16_implMultiplyToLen_129 : decode cJ16_implMultiplyToLen 129 = .ok (.iadd, 1) := dk_96 (dk_at dksJ16_implMultiplyToLen_5 13 rfl rfl)
theorem dJ16_implMultiplyToLen_130 : decode cJ16_implMultiplyToLen 130 = .ok (.iload 9, 2) := dk_21 9 (dk_at dksJ16_implMultiplyToLen_5 14 rfl rfl)
theorem dJ16_implMultiplyToLen_132 : decode cJ16_implMultiplyToLen 132 = .ok (.iadd, 1) := dk_96 (dk_at dksJ16_implMultiplyToLen_5 16 rfl rfl)
theorem dJ16_implMultiplyToLen_133 : decode cJ16_implMultiplyToLen 133 = .ok (.istore 11, 2) := dk_54 11 (dk_at dksJ16_implMultiplyToLen_5 17 rfl rfl)
theorem dJ16_implMultiplyToLen_135 : decode cJ16_implMultiplyToLen 135 = .ok (.iload 10, 2) := dk_21 10 (dk_at dksJ16_implMultiplyToLen_5 19 rfl rfl)
theorem dJ16_implMultiplyToLen_137 : decode cJ16_implMultiplyToLen 137 = .ok (.ifCond .lt 62, 3) := dk_155 0 62 (dk_at dksJ16_implMultiplyToLen_5 21 rfl rfl)
theorem dJ16_implMultiplyToLen_140 : decode cJ16_implMultiplyToLen 140 = .ok (.aload_n 2, 1) := dk_44 (dk_at dksJ16_implMultiplyToLen_6 0 rfl rfl)
theorem dJ16_implMultiplyToLen_141 : decode cJ16_implMultiplyToLen 141 = .ok (.iload 10, 2) := dk_21 10 (dk_at dksJ16_implMultiplyToLen_6 1 rfl rfl)
theorem dJ16_implMultiplyToLen_143 : decode cJ16_implMultiplyToLen 143 = .ok (.iaload, 1) := dk_46 (dk_at dksJ16_implMultiplyToLen_6 3 rfl rfl)
theorem dJ16_implMultiplyToLen_144 : decode cJ16_implMultiplyToLen 144 = .ok (.i2l, 1) := dk_133 (dk_at dksJ16_implMultiplyToLen_6 4 rfl rfl)
theorem dJ16_implMultiplyToLen_145 : decode cJ16_implMultiplyToLen 145 = .ok (.ldc2_w 130, 3) := dk_20 0 130 (dk_at dksJ16_implMultiplyToLen_6 5 rfl rfl)
theorem dJ16_implMultiplyToLen_148 : decode cJ16_implMultiplyToLen 148 = .ok (.land, 1) := dk_127 (dk_at dksJ16_implMultiplyToLen_6 8 rfl rfl)
theorem dJ16_implMultiplyToLen_149 : decode cJ16_implMultiplyToLen 149 = .ok (.aload_n 0, 1) := dk_42 (dk_at dksJ16_implMultiplyToLen_6 9 rfl rfl)
theorem dJ16_implMultiplyToLen_150 : decode cJ16_implMultiplyToLen 150 = .ok (.iload 9, 2) := dk_21 9 (dk_at dksJ16_implMultiplyToLen_6 10 rfl rfl)
theorem dJ16_implMultiplyToLen_152 : decode cJ16_implMultiplyToLen 152 = .ok (.iaload, 1) := dk_46 (dk_at dksJ16_implMultiplyToLen_6 12 rfl rfl)
theorem dJ16_implMultiplyToLen_153 : decode cJ16_implMultiplyToLen 153 = .ok (.i2l, 1) := dk_133 (dk_at dksJ16_implMultiplyToLen_6 13 rfl rfl)
theorem dJ16_implMultiplyToLen_154 : decode cJ16_implMultiplyToLen 154 = .ok (.ldc2_w 130, 3) := dk_20 0 130 (dk_at dksJ16_implMultiplyToLen_6 14 rfl rfl)
theorem dJ16_implMultiplyToLen_157 : decode cJ16_implMultiplyToLen 157 = .ok (.land, 1) := dk_127 (dk_at dksJ16_implMultiplyToLen_6 17 rfl rfl)
theorem dJ16_implMultiplyToLen_158 : decode cJ16_implMultiplyToLen 158 = .ok (.lmul, 1) := dk_105 (dk_at dksJ16_implMultiplyToLen_6 18 rfl rfl)
theorem dJ16_implMultiplyToLen_159 : decode cJ16_implMultiplyToLen 159 = .ok (.aload 4, 2) := dk_25 4 (dk_at dksJ16_implMultiplyToLen_6 19 rfl rfl)
theorem dJ16_implMultiplyToLen_161 : decode cJ16_implMultiplyToLen 161 = .ok (.iload 11, 2) := dk_21 11 (dk_at dksJ16_implMultiplyToLen_6 21 rfl rfl)
theorem dJ16_implMultiplyToLen_163 : decode cJ16_implMultiplyToLen 163 = .ok (.iaload, 1) := dk_46 (dk_at dksJ16_implMultiplyToLen_6 23 rfl rfl)
theorem dJ16_implMultiplyToLen_164 : decode cJ16_implMultiplyToLen 164 = .ok (.i2l, 1) := dk_133 (dk_at dksJ16_implMultiplyToLen_7 0 rfl rfl)
theorem dJ16_implMultiplyToLen_165 : decode cJ16_implMultiplyToLen 165 = .ok (.ldc2_w 130, 3) := dk_20 0 130 (dk_at dksJ16_implMultiplyToLen_7 1 rfl rfl)
theorem dJ16_implMultiplyToLen_168 : decode cJ16_implMultiplyToLen 168 = .ok (.land, 1) := dk_127 (dk_at dksJ16_implMultiplyToLen_7 4 rfl rfl)
theorem dJ16_implMultiplyToLen_169 : decode cJ16_implMultiplyToLen 169 = .ok (.ladd, 1) := dk_97 (dk_at dksJ16_implMultiplyToLen_7 5 rfl rfl)
theorem dJ16_implMultiplyToLen_170 : decode cJ16_implMultiplyToLen 170 = .ok (.lload 7, 2) := dk_22 7 (dk_at dksJ16_implMultiplyToLen_7 6 rfl rfl)
theorem dJ16_implMultiplyToLen_172 : decode cJ16_implMultiplyToLen 172 = .ok (.ladd, 1) := dk_97 (dk_at dksJ16_implMultiplyToLen_7 8 rfl rfl)
theorem dJ16_implMultiplyToLen_173 : decode cJ16_implMultiplyToLen 173 = .ok (.lstore 12, 2) := dk_55 12 (dk_at dksJ16_implMultiplyToLen_7 9 rfl rfl)
theorem dJ16_implMultiplyToLen_175 : decode cJ16_implMultiplyToLen 175 = .ok (.aload 4, 2) := dk_25 4 (dk_at dksJ16_implMultiplyToLen_7 11 rfl rfl)
theorem dJ16_implMultiplyToLen_177 : decode cJ16_implMultiplyToLen 177 = .ok (.iload 11, 2) := dk_21 11 (dk_at dksJ16_implMultiplyToLen_7 13 rfl rfl)
theorem dJ16_implMultiplyToLen_179 : decode cJ16_implMultiplyToLen 179 = .ok (.lload 12, 2) := dk_22 12 (dk_at dksJ16_implMultiplyToLen_7 15 rfl rfl)
theorem dJ16_implMultiplyToLen_181 : decode cJ16_implMultiplyToLen 181 = .ok (.l2i, 1) := dk_136 (dk_at dksJ16_implMultiplyToLen_7 17 rfl rfl)
theorem dJ16_implMultiplyToLen_182 : decode cJ16_implMultiplyToLen 182 = .ok (.iastore, 1) := dk_79 (dk_at dksJ16_implMultiplyToLen_7 18 rfl rfl)
theorem dJ16_implMultiplyToLen_183 : decode cJ16_implMultiplyToLen 183 = .ok (.lload 12, 2) := dk_22 12 (dk_at dksJ16_implMultiplyToLen_7 19 rfl rfl)
theorem dJ16_implMultiplyToLen_185 : decode cJ16_implMultiplyToLen 185 = .ok (.bipush 32, 2) := dk_16 32 (dk_at dksJ16_implMultiplyToLen_7 21 rfl rfl)
theorem dJ16_implMultiplyToLen_187 : decode cJ16_implMultiplyToLen 187 = .ok (.lushr, 1) := dk_125 (dk_at dksJ16_implMultiplyToLen_7 23 rfl rfl)
theorem dJ16_implMultiplyToLen_188 : decode cJ16_implMultiplyToLen 188 = .ok (.lstore 7, 2) := dk_55 7 (dk_at dksJ16_implMultiplyToLen_8 0 rfl rfl)
theorem dJ16_implMultiplyToLen_190 : decode cJ16_implMultiplyToLen 190 = .ok (.iinc 10 (-1), 3) := dk_132 10 255 (dk_at dksJ16_implMultiplyToLen_8 2 rfl rfl)
theorem dJ16_implMultiplyToLen_193 : decode cJ16_implMultiplyToLen 193 = .ok (.iinc 11 (-1), 3) := dk_132 11 255 (dk_at dksJ16_implMultiplyToLen_8 5 rfl rfl)
theorem dJ16_implMultiplyToLen_196 : decode cJ16_implMultiplyToLen 196 = .ok (.goto (-61), 3) := dk_167 255 195 (dk_at dksJ16_implMultiplyToLen_8 8 rfl rfl)
theorem dJ16_implMultiplyToLen_199 : decode cJ16_implMultiplyToLen 199 = .ok (.aload 4, 2) := dk_25 4 (dk_at dksJ16_implMultiplyToLen_8 11 rfl rfl)
theorem dJ16_implMultiplyToLen_201 : decode cJ16_implMultiplyToLen 201 = .ok (.iload 9, 2) := dk_21 9 (dk_at dksJ16_implMultiplyToLen_8 13 rfl rfl)
theorem dJ16_implMultiplyToLen_203 : decode cJ16_implMultiplyToLen 203 = .ok (.lload 7, 2) := dk_22 7 (dk_at dksJ16_implMultiplyToLen_8 15 rfl rfl)
theorem dJ16_implMultiplyToLen_205 : decode cJ16_implMultiplyToLen 205 = .ok (.l2i, 1) := dk_136 (dk_at dksJ16_implMultiplyToLen_8 17 rfl rfl)
theorem dJ16_implMultiplyToLen_206 : decode cJ16_implMultiplyToLen 206 = .ok (.iastore, 1) := dk_79 (dk_at dksJ16_implMultiplyToLen_8 18 rfl rfl)
theorem dJ16_implMultiplyToLen_207 : decode cJ16_implMultiplyToLen 207 = .ok (.iinc 9 (-1), 3) := dk_132 9 255 (dk_at dksJ16_implMultiplyToLen_8 19 rfl rfl)
theorem dJ16_implMultiplyToLen_210 : decode cJ16_implMultiplyToLen 210 = .ok (.goto (-96), 3) := dk_167 255 160 (dk_at dksJ16_implMultiplyToLen_9 0 rfl rfl)
theorem dJ16_implMultiplyToLen_213 : decode cJ16_implMultiplyToLen 213 = .ok (.aload 4, 2) := dk_25 4 (dk_at dksJ16_implMultiplyToLen_9 3 rfl rfl)
theorem dJ16_implMultiplyToLen_215 : decode cJ16_implMultiplyToLen 215 = .ok (.areturn, 1) := dk_176 (dk_at dksJ16_implMultiplyToLen_9 5 rfl rfl)
abbrev cJ16_compareTo : ByteArray := prog_33_method_121_code
def yJ16_compareTo : MethodName := ⟨RJ16, "compareTo", "(Ljava/math/BigInteger;)I"⟩
def dkwJ16_compareTo_3 : List UInt8 := [180, 0, 32, 164, 0, 7, 4, 167, 0, 4, 2, 172]
abbrev dktJ16_compareTo_3 : List UInt8 := dkwJ16_compareTo_3 ++ []
def dkwJ16_compareTo_2 : List UInt8 := [42, 43, 182, 1, 109, 167, 0, 12, 43, 42, 182, 1, 109, 167, 0, 4, 3, 172, 42, 180, 0, 32, 43]
abbrev dktJ16_compareTo_2 : List UInt8 := dkwJ16_compareTo_2 ++ dktJ16_compareTo_3
def dkwJ16_compareTo_1 : List UInt8 := [171, 0, 0, 0, 41, 0, 0, 0, 2, 255, 255, 255, 255, 0, 0, 0, 33, 0, 0, 0, 1, 0, 0, 0, 25]
abbrev dktJ16_compareTo_1 : List UInt8 := dkwJ16_compareTo_1 ++ dktJ16_compareTo_2
def dkwJ16_compareTo_0 : List UInt8 := [42, 180, 0, 32, 43, 180, 0, 32, 160, 0, 50, 42, 180, 0, 32]
abbrev dktJ16_compareTo_0 : List UInt8 := dkwJ16_compareTo_0 ++ dktJ16_compareTo_1
theorem dksJ16_compareTo_0 : cJ16_compareTo.data.toList.drop 0 = dktJ16_compareTo_0 := by decide +kernel
theorem dksJ16_compareTo_1 : cJ16_compareTo.data.toList.drop 15 = dktJ16_compareTo_1 := dk_seg dksJ16_compareTo_0 15 rfl rfl
theorem dksJ16_compareTo_2 : cJ16_compareTo.data.toList.drop 40 = dktJ16_compareTo_2 := dk_seg dksJ16_compareTo_1 25 rfl rfl
theorem dksJ16_compareTo_3 : cJ16_compareTo.data.toList.drop 63 = dktJ16_compareTo_3 := dk_seg dksJ16_compareTo_2 23 rfl rfl
theorem dJ16_compareTo_0 : decode cJ16_compareTo 0 = .ok (.aload_n 0, 1) := dk_42 (dk_at dksJ16_compareTo_0 0 rfl rfl)
theorem dJ16_compareTo_1 : decode cJ16_compareTo 1 = .ok (.getfield 32, 3) := dk_180 0 32 (dk_at dksJ16_compareTo_0 1 rfl rfl)
theorem dJ16_compareTo_4 : decode cJ16_compareTo 4 = .ok (.aload_n 1, 1) := dk_43 (dk_at dksJ16_compareTo_0 4 rfl rfl)
theorem dJ16_compareTo_5 : decode cJ16_compareTo 5 = .ok (.getfield 32, 3) := dk_180 0 32 (dk_at dksJ16_compareTo_0 5 rfl rfl)
theorem dJ16_compareTo_8 : decode cJ16_compareTo 8 = .ok (.if_icmp .ne 50, 3) := dk_160 0 50 (dk_at dksJ16_compareTo_0 8 rfl rfl)
theorem dJ16_compareTo_11 : decode cJ16_compareTo 11 = .ok (.aload_n 0, 1) := dk_42 (dk_at dksJ16_compareTo_0 11 rfl rfl)
theorem dJ16_compareTo_12 : decode cJ16_compareTo 12 = .ok (.getfield 32, 3) := dk_180 0 32 (dk_at dksJ16_compareTo_0 12 rfl rfl)
theorem dJ16_compareTo_15 : decode cJ16_compareTo 15 = .ok (.lookupswitch 41 #[(-1, 33), (1, 25)], 25) := by decide +kernel
theorem dJ16_compareTo_40 : decode cJ16_compareTo 40 = .ok (.aload_n 0, 1) := dk_42 (dk_at dksJ16_compareTo_2 0 rfl rfl)
theorem dJ16_compareTo_41 : decode cJ16_compareTo 41 = .ok (.aload_n 1, 1) := dk_43 (dk_at dksJ16_compareTo_2 1 rfl rfl)
theorem dJ16_compareTo_42 : decode cJ16_compareTo 42 = .ok (.invokevirtual 365, 3) := dk_182 1 109 (dk_at dksJ16_compareTo_2 2 rfl rfl)
theorem dJ16_compareTo_45 : decode cJ16_compareTo 45 = .ok (.goto 12, 3) := dk_167 0 12 (dk_at dksJ16_compareTo_2 5 rfl rfl)
theorem dJ16_compareTo_48 : decode cJ16_compareTo 48 = .ok (.aload_n 1, 1) := dk_43 (dk_at dksJ16_compareTo_2 8 rfl rfl)
theorem dJ16_compareTo_49 : decode cJ16_compareTo 49 = .ok (.aload_n 0, 1) := dk_42 (dk_at dksJ16_compareTo_2 9 rfl rfl)
theorem dJ16_compareTo_50 : decode cJ16_compareTo 50 = .ok (.invokevirtual 365, 3) := dk_182 1 109 (dk_at dksJ16_compareTo_2 10 rfl rfl)
theorem dJ16_compareTo_53 : decode cJ16_compareTo 53 = .ok (.goto 4, 3) := dk_167 0 4 (dk_at dksJ16_compareTo_2 13 rfl rfl)
theorem dJ16_compareTo_56 : decode cJ16_compareTo 56 = .ok (.iconst 0, 1) := dk_3 (dk_at dksJ16_compareTo_2 16 rfl rfl)
theorem dJ16_compareTo_57 : decode cJ16_compareTo 57 = .ok (.ireturn, 1) := dk_172 (dk_at dksJ16_compareTo_2 17 rfl rfl)
theorem dJ16_compareTo_58 : decode cJ16_compareTo 58 = .ok (.aload_n 0, 1) := dk_42 (dk_at dksJ16_compareTo_2 18 rfl rfl)
theorem dJ16_compareTo_59 : decode cJ16_compareTo 59 = .ok (.getfield 32, 3) := dk_180 0 32 (dk_at dksJ16_compareTo_2 19 rfl rfl)
theorem dJ16_compareTo_62 : decode cJ16_compareTo 62 = .ok (.aload_n 1, 1) := dk_43 (dk_at dksJ16_compareTo_2 22 rfl rfl)
theorem dJ16_compareTo_63 : decode cJ16_compareTo 63 = .ok (.getfield 32, 3) := dk_180 0 32 (dk_at dksJ16_compareTo_3 0 rfl rfl)
theorem dJ16_compareTo_66 : decode cJ16_compareTo 66 = .ok (.if_icmp .le 7, 3) := dk_164 0 7 (dk_at dksJ16_compareTo_3 3 rfl rfl)
theorem dJ16_compareTo_69 : decode cJ16_compareTo 69 = .ok (.iconst 1, 1) := dk_4 (dk_at dksJ16_compareTo_3 6 rfl rfl)
theorem dJ16_compareTo_70 : decode cJ16_compareTo 70 = .ok (.goto 4, 3) := dk_167 0 4 (dk_at dksJ16_compareTo_3 7 rfl rfl)
theorem dJ16_compareTo_73 : decode cJ16_compareTo 73 = .ok (.iconst (-1), 1) := dk_2 (dk_at dksJ16_compareTo_3 10 rfl rfl)
theorem dJ16_compareTo_74 : decode cJ16_compareTo 74 = .ok (.ireturn, 1) := dk_172 (dk_at dksJ16_compareTo_3 11 rfl rfl)
abbrev cJ16_shiftRight : ByteArray := prog_33_method_104_code
def yJ16_shiftRight : MethodName := ⟨RJ16, "shiftRight", "(I)Ljava/math/BigInteger;"⟩
def dkwJ16_shiftRight_2 : List UInt8 := [183, 0, 175, 176]
abbrev dktJ16_shiftRight_2 : List UInt8 := dkwJ16_shiftRight_2 ++ []
def dkwJ16_shiftRight_1 : List UInt8 := [154, 0, 5, 42, 176, 187, 0, 23, 89, 42, 180, 0, 28, 27, 116, 184, 1, 173, 42, 180, 0, 32]
abbrev dktJ16_shiftRight_1 : List UInt8 := dkwJ16_shiftRight_1 ++ dktJ16_shiftRight_2
def dkwJ16_shiftRight_0 : List UInt8 := [42, 180, 0, 32, 154, 0, 7, 178, 0, 22, 176, 27, 158, 0, 9, 42, 27, 182, 2, 215, 176, 27]
abbrev dktJ16_shiftRight_0 : List UInt8 := dkwJ16_shiftRight_0 ++ dktJ16_shiftRight_1
theorem dksJ16_shiftRight_0 : cJ16_shiftRight.data.toList.drop 0 = dktJ16_shiftRight_0 := by decide +kernel
theorem dksJ16_shiftRight_1 : cJ16_shiftRight.data.toList.drop 22 = dktJ16_shiftRight_1 := dk_seg dksJ16_shiftRight_0 22 rfl rfl
theorem dksJ16_shiftRight_2 : cJ16_shiftRight.data.toList.drop 44 = dktJ16_shiftRight_2 := dk_seg dksJ16_shiftRight_1 22 rfl rfl
theorem dJ16_shiftRight_0 : decode cJ16_shiftRight 0 = .ok (.aload_n 0, 1) := dk_42 (dk_at dksJ16_shiftRight_0 0 rfl rfl)
theorem dJ16_shiftRight_1 : decode cJ16_shiftRight 1 = .ok (.getfield 32, 3) := dk_180 0 32 (dk_at dksJ16_shiftRight_0 1 rfl rfl)
theorem dJ16_shiftRight_4 : decode cJ16_shiftRight 4 = .ok (.ifCond .ne 7, 3) := dk_154 0 7 (dk_at dksJ16_shiftRight_0 4 rfl rfl)
theorem dJ16_shiftRight_7 : decode cJ16_shiftRight 7 = .ok (.getstatic 22, 3) := dk_178 0 22 (dk_at dksJ16_shiftRight_0 7 rfl rfl)
theorem dJ16_shiftRight_10 : decode cJ16_shiftRight 10 = .ok (.areturn, 1) := dk_176 (dk_at dksJ16_shiftRight_0 10 rfl rfl)
theorem dJ16_shiftRight_11 : decode cJ16_shiftRight 11 = .ok (.iload_n 1, 1) := dk_27 (dk_at dksJ16_shiftRight_0 11 rfl rfl)
theorem dJ16_shiftRight_12 : decode cJ16_shiftRight 12 = .ok (.ifCond .le 9, 3) := dk_158 0 9 (dk_at dksJ16_shiftRight_0 12 rfl rfl)
theorem dJ16_shiftRight_15 : decode cJ16_shiftRight 15 = .ok (.aload_n 0, 1) := dk_42 (dk_at dksJ16_shiftRight_0 15 rfl rfl)
theorem dJ16_shiftRight_16 : decode cJ16_shiftRight 16 = .ok (.iload_n 1, 1) := dk_27 (dk_at dksJ16_shiftRight_0 16 rfl rfl)
theorem dJ16_shiftRight_17 : decode cJ16_shiftRight 17 = .ok (.invokevirtual 727, 3) := dk_182 2 215 (dk_at dksJ16_shiftRight_0 17 rfl rfl)
theorem dJ16_shiftRight_20 : decode cJ16_shiftRight 20 = .ok (.areturn, 1) := dk_176 (dk_at dksJ16_shiftRight_0 20 rfl rfl)
theorem dJ16_shiftRight_21 : decode cJ16_shiftRight 21 = .ok (.iload_n 1, 1) := dk_27 (dk_at dksJ16_shiftRight_0 21 rfl rfl)
theorem dJ16_shiftRight_22 : decode cJ16_shiftRight 22 = .ok (.ifCond .ne 5, 3) := dk_154 0 5 (dk_at dksJ16_shiftRight_1 0 rfl rfl)
theorem dJ16_shiftRight_25 : decode cJ16_shiftRight 25 = .ok (.aload_n 0, 1) := dk_42 (dk_at dksJ16_shiftRight_1 3 rfl rfl)
theorem dJ16_shiftRight_26 : decode cJ16_shiftRight 26 = .ok (.areturn, 1) := dk_176 (dk_at dksJ16_shiftRight_1 4 rfl rfl)
theorem dJ16_shiftRight_27 : decode cJ16_shiftRight 27 = .ok (.new 23, 3) := dk_187 0 23 (dk_at dksJ16_shiftRight_1 5 rfl rfl)
theorem dJ16_shiftRight_30 : decode cJ16_shiftRight 30 = .ok (.dup, 1) := dk_89 (dk_at dksJ16_shiftRight_1 8 rfl rfl)
theorem dJ16_shiftRight_31 : decode cJ16_shiftRight 31 = .ok (.aload_n 0, 1) := dk_42 (dk_at dksJ16_shiftRight_1 9 rfl rfl)
theorem dJ16_shiftRight_32 : decode cJ16_shiftRight 32 = .ok (.getfield 28, 3) := dk_180 0 28 (dk_at dksJ16_shiftRight_1 10 rfl rfl)
theorem dJ16_shiftRight_35 : decode cJ16_shiftRight 35 = .ok (.iload_n 1, 1) := dk_27 (dk_at dksJ16_shiftRight_1 13 rfl rfl)
theorem dJ16_shiftRight_36 : decode cJ16_shiftRight 36 = .ok (.ineg, 1) := dk_116 (dk_at dksJ16_shiftRight_1 14 rfl rfl)
theorem dJ16_shiftRight_37 : decode cJ16_shiftRight 37 = .ok (.invokestatic 429, 3) := dk_184 1 173 (dk_at dksJ16_shiftRight_1 15 rfl rfl)
theorem dJ16_shiftRight_40 : decode cJ16_shiftRight 40 = .ok (.aload_n 0, 1) := dk_42 (dk_at dksJ16_shiftRight_1 18 rfl rfl)
theorem dJ16_shiftRight_41 : decode cJ16_shiftRight 41 = .ok (.getfield 32, 3) := dk_180 0 32 (dk_at dksJ16_shiftRight_1 19 rfl rfl)
theorem dJ16_shiftRight_44 : decode cJ16_shiftRight 44 = .ok (.invokespecial 175, 3) := dk_183 0 175 (dk_at dksJ16_shiftRight_2 0 rfl rfl)
theorem dJ16_shiftRight_47 : decode cJ16_shiftRight 47 = .ok (.areturn, 1) := dk_176 (dk_at dksJ16_shiftRight_2 3 rfl rfl)
abbrev cJ16_intValue : ByteArray := prog_33_method_135_code
def yJ16_intValue : MethodName := ⟨RJ16, "intValue", "()I"⟩
def dkwJ16_intValue_0 : List UInt8 := [3, 60, 42, 3, 182, 2, 224, 60, 27, 172]
abbrev dktJ16_intValue_0 : List UInt8 := dkwJ16_intValue_0 ++ []
theorem dksJ16_intValue_0 : cJ16_intValue.data.toList.drop 0 = dktJ16_intValue_0 := by decide +kernel
theorem dJ16_intValue_0 : decode cJ16_intValue 0 = .ok (.iconst 0, 1) := dk_3 (dk_at dksJ16_intValue_0 0 rfl rfl)
theorem dJ16_intValue_1 : decode cJ16_intValue 1 = .ok (.istore_n 1, 1) := dk_60 (dk_at dksJ16_intValue_0 1 rfl rfl)
theorem dJ16_intValue_2 : decode cJ16_intValue 2 = .ok (.aload_n 0, 1) := dk_42 (dk_at dksJ16_intValue_0 2 rfl rfl)
theorem dJ16_intValue_3 : decode cJ16_intValue 3 = .ok (.iconst 0, 1) := dk_3 (dk_at dksJ16_intValue_0 3 rfl rfl)
theorem dJ16_intValue_4 : decode cJ16_intValue 4 = .ok (.invokevirtual 736, 3) := dk_182 2 224 (dk_at dksJ16_intValue_0 4 rfl rfl)
theorem dJ16_intValue_7 : decode cJ16_intValue 7 = .ok (.istore_n 1, 1) := dk_60 (dk_at dksJ16_intValue_0 7 rfl rfl)
theorem dJ16_intValue_8 : decode cJ16_intValue 8 = .ok (.iload_n 1, 1) := dk_27 (dk_at dksJ16_intValue_0 8 rfl rfl)
theorem dJ16_intValue_9 : decode cJ16_intValue 9 = .ok (.ireturn, 1) := dk_172 (dk_at dksJ16_intValue_0 9 rfl rfl)
abbrev cJ16_getInt : ByteArray := prog_33_method_148_code
def yJ16_getInt : MethodName := ⟨RJ16, "getInt", "(I)I"⟩
def dkwJ16_getInt_2 : List UInt8 := [182, 3, 95, 163, 0, 8, 28, 116, 167, 0, 6, 28, 2, 130, 172]
abbrev dktJ16_getInt_2 : List UInt8 := dkwJ16_getInt_2 ++ []
def dkwJ16_getInt_1 : List UInt8 := [42, 180, 0, 28, 190, 27, 100, 4, 100, 46, 61, 42, 180, 0, 32, 155, 0, 7, 28, 167, 0, 19, 27, 42]
abbrev dktJ16_getInt_1 : List UInt8 := dkwJ16_getInt_1 ++ dktJ16_getInt_2
def dkwJ16_getInt_0 : List UInt8 := [27, 156, 0, 5, 3, 172, 27, 42, 180, 0, 28, 190, 161, 0, 8, 42, 182, 3, 92, 172, 42, 180, 0, 28]
abbrev dktJ16_getInt_0 : List UInt8 := dkwJ16_getInt_0 ++ dktJ16_getInt_1
theorem dksJ16_getInt_0 : cJ16_getInt.data.toList.drop 0 = dktJ16_getInt_0 := by decide +kernel
theorem dksJ16_getInt_1 : cJ16_getInt.data.toList.drop 24 = dktJ16_getInt_1 := dk_seg dksJ16_getInt_0 24 rfl rfl
theorem dksJ16_getInt_2 : cJ16_getInt.data.toList.drop 48 = dktJ16_getInt_2 := dk_seg dksJ16_getInt_1 24 rfl rfl
theorem dJ16_getInt_0 : decode cJ16_getInt 0 = .ok (.iload_n 1, 1) := dk_27 (dk_at dksJ16_getInt_0 0 rfl rfl)
theorem dJ16_getInt_1 : decode cJ16_getInt 1 = .ok (.ifCond .ge 5, 3) := dk_156 0 5 (dk_at dksJ16_getInt_0 1 rfl rfl)
theorem dJ16_getInt_4 : decode cJ16_getInt 4 = .ok (.iconst 0, 1) := dk_3 (dk_at dksJ16_getInt_0 4 rfl rfl)
theorem dJ16_getInt_5 : decode cJ16_getInt 5 = .ok (.ireturn, 1) := dk_172 (dk_at dksJ16_getInt_0 5 rfl rfl)
theorem dJ16_getInt_6 : decode cJ16_getInt 6 = .ok (.iload_n 1, 1) := dk_27 (dk_at dksJ16_getInt_0 6 rfl rfl)
theorem dJ16_getInt_7 : decode cJ16_getInt 7 = .ok (.aload_n 0, 1) := dk_42 (dk_at dksJ16_getInt_0 7 rfl rfl)
theorem dJ16_getInt_8 : decode cJ16_getInt 8 = .ok (.getfield 28, 3) := dk_180 0 28 (dk_at dksJ16_getInt_0 8 rfl rfl)
theorem dJ16_getInt_11 : decode cJ16_getInt 11 = .ok (.arraylength, 1) := dk_190 (dk_at dksJ16_getInt_0 11 rfl rfl)
theorem dJ16_getInt_12 : decode cJ16_getInt 12 = .ok (.if_icmp .lt 8, 3) := dk_161 0 8 (dk_at dksJ16_getInt_0 12 rfl rfl)
theorem dJ16_getInt_15 : decode cJ16_getInt 15 = .ok (.aload_n 0, 1) := dk_42 (dk_at dksJ16_getInt_0 15 rfl rfl)
theorem dJ16_getInt_16 : decode cJ16_getInt 16 = .ok (.invokevirtual 860, 3) := dk_182 3 92 (dk_at dksJ16_getInt_0 16 rfl rfl)
theorem dJ16_getInt_19 : decode cJ16_getInt 19 = .ok (.ireturn, 1) := dk_172 (dk_at dksJ16_getInt_0 19 rfl rfl)
theorem dJ16_getInt_20 : decode cJ16_getInt 20 = .ok (.aload_n 0, 1) := dk_42 (dk_at dksJ16_getInt_0 20 rfl rfl)
theorem dJ16_getInt_21 : decode cJ16_getInt 21 = .ok (.getfield 28, 3) := dk_180 0 28 (dk_at dksJ16_getInt_0 21 rfl rfl)
theorem dJ16_getInt_24 : decode cJ16_getInt 24 = .ok (.aload_n 0, 1) := dk_42 (dk_at dksJ16_getInt_1 0 rfl rfl)
theorem dJ16_getInt_25 : decode cJ16_getInt 25 = .ok (.getfield 28, 3) := dk_180 0 28 (dk_at dksJ16_getInt_1 1 rfl rfl)
theorem dJ16_getInt_28 : decode cJ16_getInt 28 = .ok (.arraylength, 1) := dk_190 (dk_at dksJ16_getInt_1 4 rfl rfl)
theorem dJ16_getInt_29 : decode cJ16_getInt 29 = .ok (.iload_n 1, 1) := dk_27 (dk_at dksJ16_getInt_1 5 rfl rfl)
theorem dJ16_getInt_30 : decode cJ16_getInt 30 = .ok (.isub, 1) := dk_100 (dk_at dksJ16_getInt_1 6 rfl rfl)
theorem dJ16_getInt_31 : decode cJ16_getInt 31 = .ok (.iconst 1, 1) := dk_4 (dk_at dksJ16_getInt_1 7 rfl rfl)
theorem dJ16_getInt_32 : decode cJ16_getInt 32 = .ok (.isub, 1) := dk_100 (dk_at dksJ16_getInt_1 8 rfl rfl)
theorem dJ16_getInt_33 : decode cJ16_getInt 33 = .ok (.iaload, 1) := dk_46 (dk_at dksJ16_getInt_1 9 rfl rfl)
theorem dJ16_getInt_34 : decode cJ16_getInt 34 = .ok (.istore_n 2, 1) := dk_61 (dk_at dksJ16_getInt_1 10 rfl rfl)
theorem dJ16_getInt_35 : decode cJ16_getInt 35 = .ok (.aload_n 0, 1) := dk_42 (dk_at dksJ16_getInt_1 11 rfl rfl)
theorem dJ16_getInt_36 : decode cJ16_getInt 36 = .ok (.getfield 32, 3) := dk_180 0 32 (dk_at dksJ16_getInt_1 12 rfl rfl)
theorem dJ16_getInt_39 : decode cJ16_getInt 39 = .ok (.ifCond .lt 7, 3) := dk_155 0 7 (dk_at dksJ16_getInt_1 15 rfl rfl)
theorem dJ16_getInt_42 : decode cJ16_getInt 42 = .ok (.iload_n 2, 1) := dk_28 (dk_at dksJ16_getInt_1 18 rfl rfl)
theorem dJ16_getInt_43 : decode cJ16_getInt 43 = .ok (.goto 19, 3) := dk_167 0 19 (dk_at dksJ16_getInt_1 19 rfl rfl)
theorem dJ16_getInt_46 : decode cJ16_getInt 46 = .ok (.iload_n 1, 1) := dk_27 (dk_at dksJ16_getInt_1 22 rfl rfl)
theorem dJ16_getInt_47 : decode cJ16_getInt 47 = .ok (.aload_n 0, 1) := dk_42 (dk_at dksJ16_getInt_1 23 rfl rfl)
theorem dJ16_getInt_48 : decode cJ16_getInt 48 = .ok (.invokevirtual 863, 3) := dk_182 3 95 (dk_at dksJ16_getInt_2 0 rfl rfl)
theorem dJ16_getInt_51 : decode cJ16_getInt 51 = .ok (.if_icmp .gt 8, 3) := dk_163 0 8 (dk_at dksJ16_getInt_2 3 rfl rfl)
theorem dJ16_getInt_54 : decode cJ16_getInt 54 = .ok (.iload_n 2, 1) := dk_28 (dk_at dksJ16_getInt_2 6 rfl rfl)
theorem dJ16_getInt_55 : decode cJ16_getInt 55 = .ok (.ineg, 1) := dk_116 (dk_at dksJ16_getInt_2 7 rfl rfl)
theorem dJ16_getInt_56 : decode cJ16_getInt 56 = .ok (.goto 6, 3) := dk_167 0 6 (dk_at dksJ16_getInt_2 8 rfl rfl)
theorem dJ16_getInt_59 : decode cJ16_getInt 59 = .ok (.iload_n 2, 1) := dk_28 (dk_at dksJ16_getInt_2 11 rfl rfl)
theorem dJ16_getInt_60 : decode cJ16_getInt 60 = .ok (.iconst (-1), 1) := dk_2 (dk_at dksJ16_getInt_2 12 rfl rfl)
theorem dJ16_getInt_61 : decode cJ16_getInt 61 = .ok (.ixor, 1) := dk_130 (dk_at dksJ16_getInt_2 13 rfl rfl)
theorem dJ16_getInt_62 : decode cJ16_getInt 62 = .ok (.ireturn, 1) := dk_172 (dk_at dksJ16_getInt_2 14 rfl rfl)
abbrev cJ16_signInt : ByteArray := prog_33_method_147_code
def yJ16_signInt : MethodName := ⟨RJ16, "signInt", "()I"⟩
def dkwJ16_signInt_0 : List UInt8 := [42, 180, 0, 32, 156, 0, 7, 2, 167, 0, 4, 3, 172]
abbrev dktJ16_signInt_0 : List UInt8 := dkwJ16_signInt_0 ++ []
theorem dksJ16_signInt_0 : cJ16_signInt.data.toList.drop 0 = dktJ16_signInt_0 := by decide +kernel
theorem dJ16_signInt_0 : decode cJ16_signInt 0 = .ok (.aload_n 0, 1) := dk_42 (dk_at dksJ16_signInt_0 0 rfl rfl)
theorem dJ16_signInt_1 : decode cJ16_signInt 1 = .ok (.getfield 32, 3) := dk_180 0 32 (dk_at dksJ16_signInt_0 1 rfl rfl)
theorem dJ16_signInt_4 : decode cJ16_signInt 4 = .ok (.ifCond .ge 7, 3) := dk_156 0 7 (dk_at dksJ16_signInt_0 4 rfl rfl)
theorem dJ16_signInt_7 : decode cJ16_signInt 7 = .ok (.iconst (-1), 1) := dk_2 (dk_at dksJ16_signInt_0 7 rfl rfl)
theorem dJ16_signInt_8 : decode cJ16_signInt 8 = .ok (.goto 4, 3) := dk_167 0 4 (dk_at dksJ16_signInt_0 8 rfl rfl)
theorem dJ16_signInt_11 : decode cJ16_signInt 11 = .ok (.iconst 0, 1) := dk_3 (dk_at dksJ16_signInt_0 11 rfl rfl)
theorem dJ16_signInt_12 : decode cJ16_signInt 12 = .ok (.ireturn, 1) := dk_172 (dk_at dksJ16_signInt_0 12 rfl rfl)
abbrev cJ16_firstNonzeroIntNum : ByteArray := prog_33_method_149_code
def yJ16_firstNonzeroIntNum : MethodName := ⟨RJ16, "firstNonzeroIntNum", "()I"⟩
def dkwJ16_firstNonzeroIntNum_2 : List UInt8 := [42, 27, 5, 96, 181, 3, 98, 27, 172]
abbrev dktJ16_firstNonzeroIntNum_2 : List UInt8 := dkwJ16_firstNonzeroIntNum_2 ++ []
def dkwJ16_firstNonzeroIntNum_1 : List UInt8 := [155, 0, 18, 42, 180, 0, 28, 28, 46, 154, 0, 9, 132, 2, 255, 167, 255, 240, 29, 28, 100, 4, 100, 60]
abbrev dktJ16_firstNonzeroIntNum_1 : List UInt8 := dkwJ16_firstNonzeroIntNum_1 ++ dktJ16_firstNonzeroIntNum_2
def dkwJ16_firstNonzeroIntNum_0 : List UInt8 := [42, 180, 3, 98, 5, 100, 60, 27, 16, 254, 160, 0, 45, 42, 180, 0, 28, 190, 62, 29, 4, 100, 61, 28]
abbrev dktJ16_firstNonzeroIntNum_0 : List UInt8 := dkwJ16_firstNonzeroIntNum_0 ++ dktJ16_firstNonzeroIntNum_1
theorem dksJ16_firstNonzeroIntNum_0 : cJ16_firstNonzeroIntNum.data.toList.drop 0 = dktJ16_firstNonzeroIntNum_0 := by decide +kernel
theorem dksJ16_firstNonzeroIntNum_1 : cJ16_firstNonzeroIntNum.data.toList.drop 24 = dktJ16_firstNonzeroIntNum_1 := dk_seg dksJ16_firstNonzeroIntNum_0 24 rfl rfl
theorem dksJ16_firstNonzeroIntNum_2 : cJ16_firstNonzeroIntNum.data.toList.drop 48 = dktJ16_firstNonzeroIntNum_2 := dk_seg dksJ16_firstNonzeroIntNum_1 24 rfl rfl
theorem dJ16_firstNonzeroIntNum_0 : decode cJ16_firstNonzeroIntNum 0 = .ok (.aload_n 0, 1) := dk_42 (dk_at dksJ16_firstNonzeroIntNum_0 0 rfl rfl)
theorem dJ16_firstNonzeroIntNum_1 : decode cJ16_firstNonzeroIntNum 1 = .ok (.getfield 866, 3) := dk_180 3 98 (dk_at dksJ16_firstNonzeroIntNum_0 1 rfl rfl)
theorem dJ16_firstNonzeroIntNum_4 : decode cJ16_firstNonzeroIntNum 4 = .ok (.iconst 2, 1) := dk_5 (dk_at dksJ16_firstNonzeroIntNum_0 4 rfl rfl)
theorem dJ16_firstNonzeroIntNum_5 : decode cJ16_firstNonzeroIntNum 5 = .ok (.isub, 1) := dk_100 (dk_at dksJ16_firstNonzeroIntNum_0 5 rfl rfl)
theorem dJ16_firstNonzeroIntNum_6 : decode cJ16_firstNonzeroIntNum 6 = .ok (.istore_n 1, 1) := dk_60 (dk_at dksJ16_firstNonzeroIntNum_0 6 rfl rfl)
theorem dJ16_firstNonzeroIntNum_7 : decode cJ16_firstNonzeroIntNum 7 = .ok (.iload_n 1, 1) := dk_27 (dk_at dksJ16_firstNonzeroIntNum_0 7 rfl rfl)
theorem dJ16_firstNonzeroIntNum_8 : decode cJ16_firstNonzeroIntNum 8 = .ok (.bipush (-2), 2) := dk_16 254 (dk_at dksJ16_firstNonzeroIntNum_0 8 rfl rfl)
theorem dJ16_firstNonzeroIntNum_10 : decode cJ16_firstNonzeroIntNum 10 = .ok (.if_icmp .ne 45, 3) := dk_160 0 45 (dk_at dksJ16_firstNonzeroIntNum_0 10 rfl rfl)
theorem dJ16_firstNonzeroIntNum_13 : decode cJ16_firstNonzeroIntNum 13 = .ok (.aload_n 0, 1) := dk_42 (dk_at dksJ16_firstNonzeroIntNum_0 13 rfl rfl)
theorem dJ16_firstNonzeroIntNum_14 : decode cJ16_firstNonzeroIntNum 14 = .ok (.getfield 28, 3) := dk_180 0 28 (dk_at dksJ16_firstNonzeroIntNum_0 14 rfl rfl)
theorem dJ16_firstNonzeroIntNum_17 : decode cJ16_firstNonzeroIntNum 17 = .ok (.arraylength, 1) := dk_190 (dk_at dksJ16_firstNonzeroIntNum_0 17 rfl rfl)
theorem dJ16_firstNonzeroIntNum_18 : decode cJ16_firstNonzeroIntNum 18 = .ok (.istore_n 3, 1) := dk_62 (dk_at dksJ16_firstNonzeroIntNum_0 18 rfl rfl)
theorem dJ16_firstNonzeroIntNum_19 : decode cJ16_firstNonzeroIntNum 19 = .ok (.iload_n 3, 1) := dk_29 (dk_at dksJ16_firstNonzeroIntNum_0 19 rfl rfl)
theorem dJ16_firstNonzeroIntNum_20 : decode cJ16_firstNonzeroIntNum 20 = .ok (.iconst 1, 1) := dk_4 (dk_at dksJ16_firstNonzeroIntNum_0 20 rfl rfl)
theorem dJ16_firstNonzeroIntNum_21 : decode cJ16_firstNonzeroIntNum 21 = .ok (.isub, 1) := dk_100 (dk_at dksJ16_firstNonzeroIntNum_0 21 rfl rfl)
theorem dJ16_firstNonzeroIntNum_22 : decode cJ16_firstNonzeroIntNum 22 = .ok (.istore_n 2, 1) := dk_61 (dk_at dksJ16_firstNonzeroIntNum_0 22 rfl rfl)
theorem dJ16_firstNonzeroIntNum_23 : decode cJ16_firstNonzeroIntNum 23 = .ok (.iload_n 2, 1) := dk_28 (dk_at dksJ16_firstNonzeroIntNum_0 23 rfl rfl)
theorem dJ16_firstNonzeroIntNum_24 : decode cJ16_firstNonzeroIntNum 24 = .ok (.ifCond .lt 18, 3) := dk_155 0 18 (dk_at dksJ16_firstNonzeroIntNum_1 0 rfl rfl)
theorem dJ16_firstNonzeroIntNum_27 : decode cJ16_firstNonzeroIntNum 27 = .ok (.aload_n 0, 1) := dk_42 (dk_at dksJ16_firstNonzeroIntNum_1 3 rfl rfl)
theorem dJ16_firstNonzeroIntNum_28 : decode cJ16_firstNonzeroIntNum 28 = .ok (.getfield 28, 3) := dk_180 0 28 (dk_at dksJ16_firstNonzeroIntNum_1 4 rfl rfl)
theorem dJ16_firstNonzeroIntNum_31 : decode cJ16_firstNonzeroIntNum 31 = .ok (.iload_n 2, 1) := dk_28 (dk_at dksJ16_firstNonzeroIntNum_1 7 rfl rfl)
theorem dJ16_firstNonzeroIntNum_32 : decode cJ16_firstNonzeroIntNum 32 = .ok (.iaload, 1) := dk_46 (dk_at dksJ16_firstNonzeroIntNum_1 8 rfl rfl)
theorem dJ16_firstNonzeroIntNum_33 : decode cJ16_firstNonzeroIntNum 33 = .ok (.ifCond .ne 9, 3) := dk_154 0 9 (dk_at dksJ16_firstNonzeroIntNum_1 9 rfl rfl)
theorem dJ16_firstNonzeroIntNum_36 : decode cJ16_firstNonzeroIntNum 36 = .ok (.iinc 2 (-1), 3) := dk_132 2 255 (dk_at dksJ16_firstNonzeroIntNum_1 12 rfl rfl)
theorem dJ16_firstNonzeroIntNum_39 : decode cJ16_firstNonzeroIntNum 39 = .ok (.goto (-16), 3) := dk_167 255 240 (dk_at dksJ16_firstNonzeroIntNum_1 15 rfl rfl)
theorem dJ16_firstNonzeroIntNum_42 : decode cJ16_firstNonzeroIntNum 42 = .ok (.iload_n 3, 1) := dk_29 (dk_at dksJ16_firstNonzeroIntNum_1 18 rfl rfl)
theorem dJ16_firstNonzeroIntNum_43 : decode cJ16_firstNonzeroIntNum 43 = .ok (.iload_n 2, 1) := dk_28 (dk_at dksJ16_firstNonzeroIntNum_1 19 rfl rfl)
theorem dJ16_firstNonzeroIntNum_44 : decode cJ16_firstNonzeroIntNum 44 = .ok (.isub, 1) := dk_100 (dk_at dksJ16_firstNonzeroIntNum_1 20 rfl rfl)
theorem dJ16_firstNonzeroIntNum_45 : decode cJ16_firstNonzeroIntNum 45 = .ok (.iconst 1, 1) := dk_4 (dk_at dksJ16_firstNonzeroIntNum_1 21 rfl rfl)
theorem dJ16_firstNonzeroIntNum_46 : decode cJ16_firstNonzeroIntNum 46 = .ok (.isub, 1) := dk_100 (dk_at dksJ16_firstNonzeroIntNum_1 22 rfl rfl)
theorem dJ16_firstNonzeroIntNum_47 : decode cJ16_firstNonzeroIntNum 47 = .ok (.istore_n 1, 1) := dk_60 (dk_at dksJ16_firstNonzeroIntNum_1 23 rfl rfl)
theorem dJ16_firstNonzeroIntNum_48 : decode cJ16_firstNonzeroIntNum 48 = .ok (.aload_n 0, 1) := dk_42 (dk_at dksJ16_firstNonzeroIntNum_2 0 rfl rfl)
theorem dJ16_firstNonzeroIntNum_49 : decode cJ16_firstNonzeroIntNum 49 = .ok (.iload_n 1, 1) := dk_27 (dk_at dksJ16_firstNonzeroIntNum_2 1 rfl rfl)
theorem dJ16_firstNonzeroIntNum_50 : decode cJ16_firstNonzeroIntNum 50 = .ok (.iconst 2, 1) := dk_5 (dk_at dksJ16_firstNonzeroIntNum_2 2 rfl rfl)
theorem dJ16_firstNonzeroIntNum_51 : decode cJ16_firstNonzeroIntNum 51 = .ok (.iadd, 1) := dk_96 (dk_at dksJ16_firstNonzeroIntNum_2 3 rfl rfl)
theorem dJ16_firstNonzeroIntNum_52 : decode cJ16_firstNonzeroIntNum 52 = .ok (.putfield 866, 3) := dk_181 3 98 (dk_at dksJ16_firstNonzeroIntNum_2 4 rfl rfl)
theorem dJ16_firstNonzeroIntNum_55 : decode cJ16_firstNonzeroIntNum 55 = .ok (.iload_n 1, 1) := dk_27 (dk_at dksJ16_firstNonzeroIntNum_2 7 rfl rfl)
theorem dJ16_firstNonzeroIntNum_56 : decode cJ16_firstNonzeroIntNum 56 = .ok (.ireturn, 1) := dk_172 (dk_at dksJ16_firstNonzeroIntNum_2 8 rfl rfl)
theorem q57 : (Jvm.Cond.initialized "java/math/BigInteger") ∈ lw_all := lw_g (lw_at lw_m1 18 rfl) rfl
theorem q416 : (Jvm.Cond.static ({ cls := "java/math/BigInteger", name := "valueOf", desc := "(J)Ljava/math/BigInteger;" } : Jvm.MethodName)) ∈ lw_all := lw_g (lw_at lw_m2 137 rfl) rfl
theorem q417 : (Jvm.Cond.code ({ cls := "java/math/BigInteger", name := "valueOf", desc := "(J)Ljava/math/BigInteger;" } : Jvm.MethodName) prog_33_method_29_code (2 : Nat) (Option.some (Jvm.ClassFile.FieldType.object "java/math/BigInteger"))) ∈ lw_all := lw_g (lw_at lw_m2 138 rfl) rfl
theorem q418 : (Jvm.Cond.fieldLink "java/math/BigInteger" (22 : Nat) "java/math/BigInteger" "ZERO" "Ljava/math/BigInteger;") ∈ lw_all := lw_g (lw_at lw_m2 139 rfl) rfl
theorem q419 : (Jvm.Cond.laysStatic "java/math/BigInteger" "ZERO" "Ljava/math/BigInteger;") ∈ lw_tbl := lw_at lw_m2 140 rfl
theorem q420 : (Jvm.Cond.constantLong "java/math/BigInteger" (345 : Nat) (16 : Int64)) ∈ lw_all := lw_g (lw_at lw_m2 141 rfl) rfl
theorem q421 : (Jvm.Cond.fieldLink "java/math/BigInteger" (347 : Nat) "java/math/BigInteger" "posConst" "[Ljava/math/BigInteger;") ∈ lw_all := lw_g (lw_at lw_m2 142 rfl) rfl
theorem q422 : (Jvm.Cond.laysStatic "java/math/BigInteger" "posConst" "[Ljava/math/BigInteger;") ∈ lw_tbl := lw_at lw_m2 143 rfl
theorem q423 : (Jvm.Cond.constantLong "java/math/BigInteger" (351 : Nat) (-16 : Int64)) ∈ lw_all := lw_g (lw_at lw_m2 144 rfl) rfl
theorem q424 : (Jvm.Cond.fieldLink "java/math/BigInteger" (353 : Nat) "java/math/BigInteger" "negConst" "[Ljava/math/BigInteger;") ∈ lw_all := lw_g (lw_at lw_m2 145 rfl) rfl
theorem q425 : (Jvm.Cond.laysStatic "java/math/BigInteger" "negConst" "[Ljava/math/BigInteger;") ∈ lw_tbl := lw_at lw_m2 146 rfl
theorem q426 : (Jvm.Cond.classLink "java/math/BigInteger" (23 : Nat) "java/math/BigInteger") ∈ lw_all := lw_g (lw_at lw_m2 147 rfl) rfl
theorem q427 : (Jvm.Cond.instantiable "java/math/BigInteger" (6 : Nat)) ∈ lw_all := lw_g (lw_at lw_m2 148 rfl) rfl
theorem q428 : (Jvm.Cond.methodLink "java/math/BigInteger" (356 : Nat) ({ cls := "java/math/BigInteger", name := "<init>", desc := "(J)V" } : Jvm.MethodName)) ∈ lw_all := lw_g (lw_at lw_m2 149 rfl) rfl
theorem q429 : (Jvm.Cond.instanceMethod ({ cls := "java/math/BigInteger", name := "<init>", desc := "(J)V" } : Jvm.MethodName)) ∈ lw_all := lw_g (lw_at lw_m2 150 rfl) rfl
theorem q430 : (Jvm.Cond.code ({ cls := "java/math/BigInteger", name := "<init>", desc := "(J)V" } : Jvm.MethodName) prog_33_method_30_code (4 : Nat) (Option.none : Option Jvm.ClassFile.FieldType)) ∈ lw_all := lw_g (lw_at lw_m2 151 rfl) rfl
theorem q431 : (Jvm.Cond.methodLink "java/math/BigInteger" (3 : Nat) ({ cls := "java/lang/Number", name := "<init>", desc := "()V" } : Jvm.MethodName)) ∈ lw_all := lw_g (lw_at lw_m2 152 rfl) rfl
theorem q435 : (Jvm.Cond.fieldLink "java/math/BigInteger" (32 : Nat) "java/math/BigInteger" "signum" "I") ∈ lw_all := lw_g (lw_at lw_m2 156 rfl) rfl
theorem q436 : (Jvm.Cond.fieldLink "java/math/BigInteger" (28 : Nat) "java/math/BigInteger" "mag" "[I") ∈ lw_all := lw_g (lw_at lw_m2 157 rfl) rfl
theorem q437 : (Jvm.Cond.fieldLink "java/math/BigInteger" (866 : Nat) "java/math/BigInteger" "firstNonzeroIntNumPlusTwo" "I") ∈ lw_all := lw_g (lw_at lw_m2 158 rfl) rfl
theorem q438 : (Jvm.Cond.laysFinal "java/math/BigInteger" "java/math/BigInteger" "signum" "I") ∈ lw_all := lw_g (lw_at lw_m2 159 rfl) rfl
theorem q439 : (Jvm.Cond.soleField "java/math/BigInteger" "signum") ∈ lw_all := lw_g (lw_at lw_m2 160 rfl) rfl
theorem q440 : (Jvm.Cond.laysFinal "java/math/BigInteger" "java/math/BigInteger" "mag" "[I") ∈ lw_all := lw_g (lw_at lw_m2 161 rfl) rfl
theorem q441 : (Jvm.Cond.soleField "java/math/BigInteger" "mag") ∈ lw_all := lw_g (lw_at lw_m2 162 rfl) rfl
theorem q442 : (Jvm.Cond.lays "java/math/BigInteger" "java/math/BigInteger" "bitCountPlusOne" "I") ∈ lw_all := lw_g (lw_at lw_m2 163 rfl) rfl
theorem q443 : (Jvm.Cond.soleField "java/math/BigInteger" "bitCountPlusOne") ∈ lw_all := lw_g (lw_at lw_m2 164 rfl) rfl
theorem q444 : (Jvm.Cond.lays "java/math/BigInteger" "java/math/BigInteger" "bitLengthPlusOne" "I") ∈ lw_all := lw_g (lw_at lw_m2 165 rfl) rfl
theorem q445 : (Jvm.Cond.soleField "java/math/BigInteger" "bitLengthPlusOne") ∈ lw_all := lw_g (lw_at lw_m2 166 rfl) rfl
theorem q446 : (Jvm.Cond.lays "java/math/BigInteger" "java/math/BigInteger" "lowestSetBitPlusTwo" "I") ∈ lw_all := lw_g (lw_at lw_m2 167 rfl) rfl
theorem q447 : (Jvm.Cond.soleField "java/math/BigInteger" "lowestSetBitPlusTwo") ∈ lw_all := lw_g (lw_at lw_m2 168 rfl) rfl
theorem q448 : (Jvm.Cond.lays "java/math/BigInteger" "java/math/BigInteger" "firstNonzeroIntNumPlusTwo" "I") ∈ lw_all := lw_g (lw_at lw_m2 169 rfl) rfl
theorem q449 : (Jvm.Cond.soleField "java/math/BigInteger" "firstNonzeroIntNumPlusTwo") ∈ lw_all := lw_g (lw_at lw_m2 170 rfl) rfl
theorem q450 : (Jvm.Cond.superclass "java/math/BigInteger" "java/lang/Number") ∈ lw_all := lw_g (lw_at lw_m2 171 rfl) rfl
theorem q455 : (Jvm.Cond.instanceMethod ({ cls := "java/math/BigInteger", name := "shiftLeft", desc := "(I)Ljava/math/BigInteger;" } : Jvm.MethodName)) ∈ lw_all := lw_g (lw_at lw_m2 176 rfl) rfl
theorem q456 : (Jvm.Cond.selects "java/math/BigInteger" ({ cls := "java/math/BigInteger", name := "shiftLeft", desc := "(I)Ljava/math/BigInteger;" } : Jvm.MethodName) ({ cls := "java/math/BigInteger", name := "shiftLeft", desc := "(I)Ljava/math/BigInteger;" } : Jvm.MethodName)) ∈ lw_all := lw_g (lw_at lw_m2 177 rfl) rfl
theorem q457 : (Jvm.Cond.code ({ cls := "java/math/BigInteger", name := "shiftLeft", desc := "(I)Ljava/math/BigInteger;" } : Jvm.MethodName) prog_33_method_101_code (2 : Nat) (Option.some (Jvm.ClassFile.FieldType.object "java/math/BigInteger"))) ∈ lw_all := lw_g (lw_at lw_m2 178 rfl) rfl
theorem q458 : (Jvm.Cond.methodLink "java/math/BigInteger" (429 : Nat) ({ cls := "java/math/BigInteger", name := "shiftLeft", desc := "([II)[I" } : Jvm.MethodName)) ∈ lw_all := lw_g (lw_at lw_m2 179 rfl) rfl
theorem q459 : (Jvm.Cond.static ({ cls := "java/math/BigInteger", name := "shiftLeft", desc := "([II)[I" } : Jvm.MethodName)) ∈ lw_all := lw_g (lw_at lw_m2 180 rfl) rfl
theorem q460 : (Jvm.Cond.code ({ cls := "java/math/BigInteger", name := "shiftLeft", desc := "([II)[I" } : Jvm.MethodName) prog_33_method_102_code (10 : Nat) (Option.some (Jvm.ClassFile.FieldType.array Jvm.ClassFile.FieldType.int))) ∈ lw_all := lw_g (lw_at lw_m2 181 rfl) rfl
theorem q461 : (Jvm.Cond.methodLink "java/math/BigInteger" (388 : Nat) ({ cls := "java/lang/System", name := "arraycopy", desc := "(Ljava/lang/Object;ILjava/lang/Object;II)V" } : Jvm.MethodName)) ∈ lw_all := lw_g (lw_at lw_m2 182 rfl) rfl
theorem q464 : (Jvm.Cond.methodLink "java/math/BigInteger" (611 : Nat) ({ cls := "java/util/Objects", name := "checkFromToIndex", desc := "(III)I" } : Jvm.MethodName)) ∈ lw_all := lw_g (lw_at lw_m2 185 rfl) rfl
theorem q470 : (Jvm.Cond.methodLink "java/math/BigInteger" (618 : Nat) ({ cls := "java/math/BigInteger", name := "shiftLeftImplWorker", desc := "([I[IIII)V" } : Jvm.MethodName)) ∈ lw_all := lw_g (lw_at lw_m2 191 rfl) rfl
theorem q471 : (Jvm.Cond.static ({ cls := "java/math/BigInteger", name := "shiftLeftImplWorker", desc := "([I[IIII)V" } : Jvm.MethodName)) ∈ lw_all := lw_g (lw_at lw_m2 192 rfl) rfl
theorem q472 : (Jvm.Cond.code ({ cls := "java/math/BigInteger", name := "shiftLeftImplWorker", desc := "([I[IIII)V" } : Jvm.MethodName) prog_33_method_103_code (7 : Nat) (Option.none : Option Jvm.ClassFile.FieldType)) ∈ lw_all := lw_g (lw_at lw_m2 193 rfl) rfl
theorem q473 : (Jvm.Cond.methodLink "java/math/BigInteger" (175 : Nat) ({ cls := "java/math/BigInteger", name := "<init>", desc := "([II)V" } : Jvm.MethodName)) ∈ lw_all := lw_g (lw_at lw_m2 194 rfl) rfl
theorem q474 : (Jvm.Cond.instanceMethod ({ cls := "java/math/BigInteger", name := "<init>", desc := "([II)V" } : Jvm.MethodName)) ∈ lw_all := lw_g (lw_at lw_m2 195 rfl) rfl
theorem q475 : (Jvm.Cond.code ({ cls := "java/math/BigInteger", name := "<init>", desc := "([II)V" } : Jvm.MethodName) prog_33_method_25_code (3 : Nat) (Option.none : Option Jvm.ClassFile.FieldType)) ∈ lw_all := lw_g (lw_at lw_m2 196 rfl) rfl
theorem q476 : (Jvm.Cond.constant "java/math/BigInteger" (43 : Nat) (67108864 : Int32)) ∈ lw_all := lw_g (lw_at lw_m2 197 rfl) rfl
theorem q477 : (Jvm.Cond.methodLink "java/math/BigInteger" (44 : Nat) ({ cls := "java/math/BigInteger", name := "checkRange", desc := "()V" } : Jvm.MethodName)) ∈ lw_all := lw_g (lw_at lw_m2 198 rfl) rfl
theorem q478 : (Jvm.Cond.privateMethod ({ cls := "java/math/BigInteger", name := "checkRange", desc := "()V" } : Jvm.MethodName)) ∈ lw_tbl := lw_at lw_m2 199 rfl
theorem q479 : (Jvm.Cond.instanceMethod ({ cls := "java/math/BigInteger", name := "checkRange", desc := "()V" } : Jvm.MethodName)) ∈ lw_all := lw_g (lw_at lw_m2 200 rfl) rfl
theorem q480 : (Jvm.Cond.code ({ cls := "java/math/BigInteger", name := "checkRange", desc := "()V" } : Jvm.MethodName) prog_33_method_27_code (1 : Nat) (Option.none : Option Jvm.ClassFile.FieldType)) ∈ lw_all := lw_g (lw_at lw_m2 201 rfl) rfl
theorem q481 : (Jvm.Cond.methodLink "java/math/BigInteger" (101 : Nat) ({ cls := "java/math/BigInteger", name := "reportOverflow", desc := "()V" } : Jvm.MethodName)) ∈ lw_all := lw_g (lw_at lw_m2 202 rfl) rfl
theorem q482 : (Jvm.Cond.static ({ cls := "java/math/BigInteger", name := "reportOverflow", desc := "()V" } : Jvm.MethodName)) ∈ lw_all := lw_g (lw_at lw_m2 203 rfl) rfl
theorem q483 : (Jvm.Cond.code ({ cls := "java/math/BigInteger", name := "reportOverflow", desc := "()V" } : Jvm.MethodName) prog_33_method_28_code (0 : Nat) (Option.none : Option Jvm.ClassFile.FieldType)) ∈ lw_all := lw_g (lw_at lw_m2 204 rfl) rfl
theorem q484 : (Jvm.Cond.methodLink "java/math/BigInteger" (727 : Nat) ({ cls := "java/math/BigInteger", name := "shiftRightImpl", desc := "(I)Ljava/math/BigInteger;" } : Jvm.MethodName)) ∈ lw_all := lw_g (lw_at lw_m2 205 rfl) rfl
theorem q485 : (Jvm.Cond.privateMethod ({ cls := "java/math/BigInteger", name := "shiftRightImpl", desc := "(I)Ljava/math/BigInteger;" } : Jvm.MethodName)) ∈ lw_tbl := lw_at lw_m2 206 rfl
theorem q486 : (Jvm.Cond.instanceMethod ({ cls := "java/math/BigInteger", name := "shiftRightImpl", desc := "(I)Ljava/math/BigInteger;" } : Jvm.MethodName)) ∈ lw_all := lw_g (lw_at lw_m2 207 rfl) rfl
theorem q487 : (Jvm.Cond.code ({ cls := "java/math/BigInteger", name := "shiftRightImpl", desc := "(I)Ljava/math/BigInteger;" } : Jvm.MethodName) prog_33_method_105_code (9 : Nat) (Option.some (Jvm.ClassFile.FieldType.object "java/math/BigInteger"))) ∈ lw_all := lw_g (lw_at lw_m2 208 rfl) rfl
theorem q488 : (Jvm.Cond.methodLink "java/math/BigInteger" (690 : Nat) ({ cls := "java/util/Arrays", name := "copyOf", desc := "([II)[I" } : Jvm.MethodName)) ∈ lw_all := lw_g (lw_at lw_m2 209 rfl) rfl
theorem q500 : (Jvm.Cond.methodLink "java/math/BigInteger" (614 : Nat) ({ cls := "java/math/BigInteger", name := "shiftRightImplWorker", desc := "([I[IIII)V" } : Jvm.MethodName)) ∈ lw_all := lw_g (lw_at lw_m2 221 rfl) rfl
theorem q501 : (Jvm.Cond.static ({ cls := "java/math/BigInteger", name := "shiftRightImplWorker", desc := "([I[IIII)V" } : Jvm.MethodName)) ∈ lw_all := lw_g (lw_at lw_m2 222 rfl) rfl
theorem q502 : (Jvm.Cond.code ({ cls := "java/math/BigInteger", name := "shiftRightImplWorker", desc := "([I[IIII)V" } : Jvm.MethodName) prog_33_method_106_code (8 : Nat) (Option.none : Option Jvm.ClassFile.FieldType)) ∈ lw_all := lw_g (lw_at lw_m2 223 rfl) rfl
theorem q503 : (Jvm.Cond.methodLink "java/math/BigInteger" (730 : Nat) ({ cls := "java/math/BigInteger", name := "javaIncrement", desc := "([I)[I" } : Jvm.MethodName)) ∈ lw_all := lw_g (lw_at lw_m2 224 rfl) rfl
theorem q504 : (Jvm.Cond.instanceMethod ({ cls := "java/math/BigInteger", name := "javaIncrement", desc := "([I)[I" } : Jvm.MethodName)) ∈ lw_all := lw_g (lw_at lw_m2 225 rfl) rfl
theorem q505 : (Jvm.Cond.selects "java/math/BigInteger" ({ cls := "java/math/BigInteger", name := "javaIncrement", desc := "([I)[I" } : Jvm.MethodName) ({ cls := "java/math/BigInteger", name := "javaIncrement", desc := "([I)[I" } : Jvm.MethodName)) ∈ lw_all := lw_g (lw_at lw_m2 226 rfl) rfl
theorem q506 : (Jvm.Cond.code ({ cls := "java/math/BigInteger", name := "javaIncrement", desc := "([I)[I" } : Jvm.MethodName) prog_33_method_107_code (4 : Nat) (Option.some (Jvm.ClassFile.FieldType.array Jvm.ClassFile.FieldType.int))) ∈ lw_all := lw_g (lw_at lw_m2 227 rfl) rfl
theorem q508 : (Jvm.Cond.instanceMethod ({ cls := "java/math/BigInteger", name := "multiply", desc := "(Ljava/math/BigInteger;)Ljava/math/BigInteger;" } : Jvm.MethodName)) ∈ lw_all := lw_g (lw_at lw_m2 229 rfl) rfl
theorem q509 : (Jvm.Cond.selects "java/math/BigInteger" ({ cls := "java/math/BigInteger", name := "multiply", desc := "(Ljava/math/BigInteger;)Ljava/math/BigInteger;" } : Jvm.MethodName) ({ cls := "java/math/BigInteger", name := "multiply", desc := "(Ljava/math/BigInteger;)Ljava/math/BigInteger;" } : Jvm.MethodName)) ∈ lw_all := lw_g (lw_at lw_m2 230 rfl) rfl
theorem q510 : (Jvm.Cond.code ({ cls := "java/math/BigInteger", name := "multiply", desc := "(Ljava/math/BigInteger;)Ljava/math/BigInteger;" } : Jvm.MethodName) prog_33_method_40_code (2 : Nat) (Option.some (Jvm.ClassFile.FieldType.object "java/math/BigInteger"))) ∈ lw_all := lw_g (lw_at lw_m2 231 rfl) rfl
theorem q511 : (Jvm.Cond.methodLink "java/math/BigInteger" (397 : Nat) ({ cls := "java/math/BigInteger", name := "multiply", desc := "(Ljava/math/BigInteger;ZZI)Ljava/math/BigInteger;" } : Jvm.MethodName)) ∈ lw_all := lw_g (lw_at lw_m2 232 rfl) rfl
theorem q512 : (Jvm.Cond.privateMethod ({ cls := "java/math/BigInteger", name := "multiply", desc := "(Ljava/math/BigInteger;ZZI)Ljava/math/BigInteger;" } : Jvm.MethodName)) ∈ lw_tbl := lw_at lw_m2 233 rfl
theorem q513 : (Jvm.Cond.instanceMethod ({ cls := "java/math/BigInteger", name := "multiply", desc := "(Ljava/math/BigInteger;ZZI)Ljava/math/BigInteger;" } : Jvm.MethodName)) ∈ lw_all := lw_g (lw_at lw_m2 234 rfl) rfl
theorem q514 : (Jvm.Cond.code ({ cls := "java/math/BigInteger", name := "multiply", desc := "(Ljava/math/BigInteger;ZZI)Ljava/math/BigInteger;" } : Jvm.MethodName) prog_33_method_42_code (9 : Nat) (Option.some (Jvm.ClassFile.FieldType.object "java/math/BigInteger"))) ∈ lw_all := lw_g (lw_at lw_m2 235 rfl) rfl
theorem q515 : (Jvm.Cond.methodLink "java/math/BigInteger" (400 : Nat) ({ cls := "java/math/BigInteger", name := "square", desc := "(ZZI)Ljava/math/BigInteger;" } : Jvm.MethodName)) ∈ lw_all := lw_g (lw_at lw_m2 236 rfl) rfl
theorem q516 : (Jvm.Cond.privateMethod ({ cls := "java/math/BigInteger", name := "square", desc := "(ZZI)Ljava/math/BigInteger;" } : Jvm.MethodName)) ∈ lw_tbl := lw_at lw_m2 237 rfl
theorem q517 : (Jvm.Cond.instanceMethod ({ cls := "java/math/BigInteger", name := "square", desc := "(ZZI)Ljava/math/BigInteger;" } : Jvm.MethodName)) ∈ lw_all := lw_g (lw_at lw_m2 238 rfl) rfl
theorem q518 : (Jvm.Cond.code ({ cls := "java/math/BigInteger", name := "square", desc := "(ZZI)Ljava/math/BigInteger;" } : Jvm.MethodName) prog_33_method_55_code (6 : Nat) (Option.some (Jvm.ClassFile.FieldType.object "java/math/BigInteger"))) ∈ lw_all := lw_g (lw_at lw_m2 239 rfl) rfl
theorem q519 : (Jvm.Cond.methodLink "java/math/BigInteger" (491 : Nat) ({ cls := "java/math/BigInteger", name := "squareToLen", desc := "([II[I)[I" } : Jvm.MethodName)) ∈ lw_all := lw_g (lw_at lw_m3 0 rfl) rfl
theorem q520 : (Jvm.Cond.static ({ cls := "java/math/BigInteger", name := "squareToLen", desc := "([II[I)[I" } : Jvm.MethodName)) ∈ lw_all := lw_g (lw_at lw_m3 1 rfl) rfl
theorem q521 : (Jvm.Cond.code ({ cls := "java/math/BigInteger", name := "squareToLen", desc := "([II[I)[I" } : Jvm.MethodName) prog_33_method_56_code (4 : Nat) (Option.some (Jvm.ClassFile.FieldType.array Jvm.ClassFile.FieldType.int))) ∈ lw_all := lw_g (lw_at lw_m3 2 rfl) rfl
theorem q522 : (Jvm.Cond.methodLink "java/math/BigInteger" (504 : Nat) ({ cls := "java/math/BigInteger", name := "implSquareToLenChecks", desc := "([II[II)V" } : Jvm.MethodName)) ∈ lw_all := lw_g (lw_at lw_m3 3 rfl) rfl
theorem q523 : (Jvm.Cond.static ({ cls := "java/math/BigInteger", name := "implSquareToLenChecks", desc := "([II[II)V" } : Jvm.MethodName)) ∈ lw_all := lw_g (lw_at lw_m3 4 rfl) rfl
theorem q524 : (Jvm.Cond.code ({ cls := "java/math/BigInteger", name := "implSquareToLenChecks", desc := "([II[II)V" } : Jvm.MethodName) prog_33_method_57_code (4 : Nat) (Option.none : Option Jvm.ClassFile.FieldType)) ∈ lw_all := lw_g (lw_at lw_m3 5 rfl) rfl
theorem q525 : (Jvm.Cond.classLink "java/math/BigInteger" (145 : Nat) "java/lang/IllegalArgumentException") ∈ lw_all := lw_g (lw_at lw_m3 6 rfl) rfl
theorem q534 : (Jvm.Cond.classLink "java/math/BigInteger" (242 : Nat) "java/lang/StringBuilder") ∈ lw_all := lw_g (lw_at lw_m3 15 rfl) rfl
theorem q536 : (Jvm.Cond.methodLink "java/math/BigInteger" (244 : Nat) ({ cls := "java/lang/StringBuilder", name := "<init>", desc := "()V" } : Jvm.MethodName)) ∈ lw_all := lw_g (lw_at lw_m3 17 rfl) rfl
theorem q565 : (Jvm.Cond.stringRef "java/math/BigInteger" (512 : Nat) "invalid input length: ") ∈ lw_tbl := lw_at lw_m3 46 rfl
theorem q566 : (Jvm.Cond.methodLink "java/math/BigInteger" (247 : Nat) ({ cls := "java/lang/StringBuilder", name := "append", desc := "(Ljava/lang/String;)Ljava/lang/StringBuilder;" } : Jvm.MethodName)) ∈ lw_all := lw_g (lw_at lw_m3 47 rfl) rfl
theorem q674 : (Jvm.Cond.methodLink "java/math/BigInteger" (514 : Nat) ({ cls := "java/lang/StringBuilder", name := "append", desc := "(I)Ljava/lang/StringBuilder;" } : Jvm.MethodName)) ∈ lw_all := lw_g (lw_at lw_m3 155 rfl) rfl
theorem q699 : (Jvm.Cond.methodLink "java/math/BigInteger" (254 : Nat) ({ cls := "java/lang/StringBuilder", name := "toString", desc := "()Ljava/lang/String;" } : Jvm.MethodName)) ∈ lw_all := lw_g (lw_at lw_m3 180 rfl) rfl
theorem q769 : (Jvm.Cond.methodLink "java/math/BigInteger" (149 : Nat) ({ cls := "java/lang/IllegalArgumentException", name := "<init>", desc := "(Ljava/lang/String;)V" } : Jvm.MethodName)) ∈ lw_all := lw_g (lw_at lw_m4 10 rfl) rfl
theorem q770 : (Jvm.Cond.stringRef "java/math/BigInteger" (517 : Nat) "input length out of bound: ") ∈ lw_tbl := lw_at lw_m4 11 rfl
theorem q771 : (Jvm.Cond.stringRef "java/math/BigInteger" (519 : Nat) " > ") ∈ lw_tbl := lw_at lw_m4 12 rfl
theorem q772 : (Jvm.Cond.methodLink "java/math/BigInteger" (508 : Nat) ({ cls := "java/math/BigInteger", name := "implSquareToLen", desc := "([II[II)[I" } : Jvm.MethodName)) ∈ lw_all := lw_g (lw_at lw_m4 13 rfl) rfl
theorem q773 : (Jvm.Cond.static ({ cls := "java/math/BigInteger", name := "implSquareToLen", desc := "([II[II)[I" } : Jvm.MethodName)) ∈ lw_all := lw_g (lw_at lw_m4 14 rfl) rfl
theorem q774 : (Jvm.Cond.code ({ cls := "java/math/BigInteger", name := "implSquareToLen", desc := "([II[II)[I" } : Jvm.MethodName) prog_33_method_58_code (11 : Nat) (Option.some (Jvm.ClassFile.FieldType.array Jvm.ClassFile.FieldType.int))) ∈ lw_all := lw_g (lw_at lw_m4 15 rfl) rfl
theorem q775 : (Jvm.Cond.constantLong "java/math/BigInteger" (130 : Nat) (4294967295 : Int64)) ∈ lw_all := lw_g (lw_at lw_m4 16 rfl) rfl
theorem q776 : (Jvm.Cond.methodLink "java/math/BigInteger" (521 : Nat) ({ cls := "java/math/BigInteger", name := "mulAdd", desc := "([I[IIII)I" } : Jvm.MethodName)) ∈ lw_all := lw_g (lw_at lw_m4 17 rfl) rfl
theorem q777 : (Jvm.Cond.static ({ cls := "java/math/BigInteger", name := "mulAdd", desc := "([I[IIII)I" } : Jvm.MethodName)) ∈ lw_all := lw_g (lw_at lw_m4 18 rfl) rfl
theorem q778 : (Jvm.Cond.code ({ cls := "java/math/BigInteger", name := "mulAdd", desc := "([I[IIII)I" } : Jvm.MethodName) prog_33_method_94_code (5 : Nat) (Option.some Jvm.ClassFile.FieldType.int)) ∈ lw_all := lw_g (lw_at lw_m4 19 rfl) rfl
theorem q779 : (Jvm.Cond.methodLink "java/math/BigInteger" (707 : Nat) ({ cls := "java/math/BigInteger", name := "implMulAddCheck", desc := "([I[IIII)V" } : Jvm.MethodName)) ∈ lw_all := lw_g (lw_at lw_m4 20 rfl) rfl
theorem q780 : (Jvm.Cond.static ({ cls := "java/math/BigInteger", name := "implMulAddCheck", desc := "([I[IIII)V" } : Jvm.MethodName)) ∈ lw_all := lw_g (lw_at lw_m4 21 rfl) rfl
theorem q781 : (Jvm.Cond.code ({ cls := "java/math/BigInteger", name := "implMulAddCheck", desc := "([I[IIII)V" } : Jvm.MethodName) prog_33_method_95_code (5 : Nat) (Option.none : Option Jvm.ClassFile.FieldType)) ∈ lw_all := lw_g (lw_at lw_m4 22 rfl) rfl
theorem q782 : (Jvm.Cond.stringRef "java/math/BigInteger" (713 : Nat) "input length is out of bound: ") ∈ lw_tbl := lw_at lw_m4 23 rfl
theorem q783 : (Jvm.Cond.stringRef "java/math/BigInteger" (715 : Nat) "input offset is invalid: ") ∈ lw_tbl := lw_at lw_m4 24 rfl
theorem q784 : (Jvm.Cond.stringRef "java/math/BigInteger" (717 : Nat) "input offset is out of bound: ") ∈ lw_tbl := lw_at lw_m4 25 rfl
theorem q785 : (Jvm.Cond.stringRef "java/math/BigInteger" (719 : Nat) "input len is out of bound: ") ∈ lw_tbl := lw_at lw_m4 26 rfl
theorem q786 : (Jvm.Cond.methodLink "java/math/BigInteger" (710 : Nat) ({ cls := "java/math/BigInteger", name := "implMulAdd", desc := "([I[IIII)I" } : Jvm.MethodName)) ∈ lw_all := lw_g (lw_at lw_m4 27 rfl) rfl
theorem q787 : (Jvm.Cond.static ({ cls := "java/math/BigInteger", name := "implMulAdd", desc := "([I[IIII)I" } : Jvm.MethodName)) ∈ lw_all := lw_g (lw_at lw_m4 28 rfl) rfl
theorem q788 : (Jvm.Cond.code ({ cls := "java/math/BigInteger", name := "implMulAdd", desc := "([I[IIII)I" } : Jvm.MethodName) prog_33_method_96_code (12 : Nat) (Option.some Jvm.ClassFile.FieldType.int)) ∈ lw_all := lw_g (lw_at lw_m4 29 rfl) rfl
theorem q789 : (Jvm.Cond.methodLink "java/math/BigInteger" (525 : Nat) ({ cls := "java/math/BigInteger", name := "addOne", desc := "([IIII)I" } : Jvm.MethodName)) ∈ lw_all := lw_g (lw_at lw_m4 30 rfl) rfl
theorem q790 : (Jvm.Cond.static ({ cls := "java/math/BigInteger", name := "addOne", desc := "([IIII)I" } : Jvm.MethodName)) ∈ lw_all := lw_g (lw_at lw_m4 31 rfl) rfl
theorem q791 : (Jvm.Cond.code ({ cls := "java/math/BigInteger", name := "addOne", desc := "([IIII)I" } : Jvm.MethodName) prog_33_method_97_code (6 : Nat) (Option.some Jvm.ClassFile.FieldType.int)) ∈ lw_all := lw_g (lw_at lw_m4 32 rfl) rfl
theorem q792 : (Jvm.Cond.methodLink "java/math/BigInteger" (529 : Nat) ({ cls := "java/math/BigInteger", name := "primitiveLeftShift", desc := "([III)V" } : Jvm.MethodName)) ∈ lw_all := lw_g (lw_at lw_m4 33 rfl) rfl
theorem q793 : (Jvm.Cond.static ({ cls := "java/math/BigInteger", name := "primitiveLeftShift", desc := "([III)V" } : Jvm.MethodName)) ∈ lw_all := lw_g (lw_at lw_m4 34 rfl) rfl
theorem q794 : (Jvm.Cond.code ({ cls := "java/math/BigInteger", name := "primitiveLeftShift", desc := "([III)V" } : Jvm.MethodName) prog_33_method_77_code (3 : Nat) (Option.none : Option Jvm.ClassFile.FieldType)) ∈ lw_all := lw_g (lw_at lw_m4 35 rfl) rfl
theorem q795 : (Jvm.Cond.methodLink "java/math/BigInteger" (53 : Nat) ({ cls := "java/math/BigInteger", name := "trustedStripLeadingZeroInts", desc := "([I)[I" } : Jvm.MethodName)) ∈ lw_all := lw_g (lw_at lw_m4 36 rfl) rfl
theorem q796 : (Jvm.Cond.static ({ cls := "java/math/BigInteger", name := "trustedStripLeadingZeroInts", desc := "([I)[I" } : Jvm.MethodName)) ∈ lw_all := lw_g (lw_at lw_m4 37 rfl) rfl
theorem q797 : (Jvm.Cond.code ({ cls := "java/math/BigInteger", name := "trustedStripLeadingZeroInts", desc := "([I)[I" } : Jvm.MethodName) prog_33_method_140_code (3 : Nat) (Option.some (Jvm.ClassFile.FieldType.array Jvm.ClassFile.FieldType.int))) ∈ lw_all := lw_g (lw_at lw_m4 38 rfl) rfl
theorem q798 : (Jvm.Cond.methodLink "java/math/BigInteger" (433 : Nat) ({ cls := "java/util/Arrays", name := "copyOfRange", desc := "([III)[I" } : Jvm.MethodName)) ∈ lw_all := lw_g (lw_at lw_m4 39 rfl) rfl
theorem q804 : (Jvm.Cond.methodLink "java/math/BigInteger" (495 : Nat) ({ cls := "java/math/BigInteger", name := "squareKaratsuba", desc := "()Ljava/math/BigInteger;" } : Jvm.MethodName)) ∈ lw_all := lw_g (lw_at lw_m4 45 rfl) rfl
theorem q805 : (Jvm.Cond.privateMethod ({ cls := "java/math/BigInteger", name := "squareKaratsuba", desc := "()Ljava/math/BigInteger;" } : Jvm.MethodName)) ∈ lw_tbl := lw_at lw_m4 46 rfl
theorem q806 : (Jvm.Cond.instanceMethod ({ cls := "java/math/BigInteger", name := "squareKaratsuba", desc := "()Ljava/math/BigInteger;" } : Jvm.MethodName)) ∈ lw_all := lw_g (lw_at lw_m4 47 rfl) rfl
theorem q807 : (Jvm.Cond.code ({ cls := "java/math/BigInteger", name := "squareKaratsuba", desc := "()Ljava/math/BigInteger;" } : Jvm.MethodName) prog_33_method_59_code (6 : Nat) (Option.some (Jvm.ClassFile.FieldType.object "java/math/BigInteger"))) ∈ lw_all := lw_g (lw_at lw_m4 48 rfl) rfl
theorem q808 : (Jvm.Cond.methodLink "java/math/BigInteger" (459 : Nat) ({ cls := "java/math/BigInteger", name := "getLower", desc := "(I)Ljava/math/BigInteger;" } : Jvm.MethodName)) ∈ lw_all := lw_g (lw_at lw_m4 49 rfl) rfl
theorem q809 : (Jvm.Cond.privateMethod ({ cls := "java/math/BigInteger", name := "getLower", desc := "(I)Ljava/math/BigInteger;" } : Jvm.MethodName)) ∈ lw_tbl := lw_at lw_m4 50 rfl
theorem q810 : (Jvm.Cond.instanceMethod ({ cls := "java/math/BigInteger", name := "getLower", desc := "(I)Ljava/math/BigInteger;" } : Jvm.MethodName)) ∈ lw_all := lw_g (lw_at lw_m4 51 rfl) rfl
theorem q811 : (Jvm.Cond.code ({ cls := "java/math/BigInteger", name := "getLower", desc := "(I)Ljava/math/BigInteger;" } : Jvm.MethodName) prog_33_method_52_code (4 : Nat) (Option.some (Jvm.ClassFile.FieldType.object "java/math/BigInteger"))) ∈ lw_all := lw_g (lw_at lw_m4 52 rfl) rfl
theorem q812 : (Jvm.Cond.methodLink "java/math/BigInteger" (485 : Nat) ({ cls := "java/math/BigInteger", name := "abs", desc := "()Ljava/math/BigInteger;" } : Jvm.MethodName)) ∈ lw_all := lw_g (lw_at lw_m4 53 rfl) rfl
theorem q813 : (Jvm.Cond.instanceMethod ({ cls := "java/math/BigInteger", name := "abs", desc := "()Ljava/math/BigInteger;" } : Jvm.MethodName)) ∈ lw_all := lw_g (lw_at lw_m4 54 rfl) rfl
theorem q814 : (Jvm.Cond.selects "java/math/BigInteger" ({ cls := "java/math/BigInteger", name := "abs", desc := "()Ljava/math/BigInteger;" } : Jvm.MethodName) ({ cls := "java/math/BigInteger", name := "abs", desc := "()Ljava/math/BigInteger;" } : Jvm.MethodName)) ∈ lw_all := lw_g (lw_at lw_m4 55 rfl) rfl
theorem q815 : (Jvm.Cond.code ({ cls := "java/math/BigInteger", name := "abs", desc := "()Ljava/math/BigInteger;" } : Jvm.MethodName) prog_33_method_79_code (1 : Nat) (Option.some (Jvm.ClassFile.FieldType.object "java/math/BigInteger"))) ∈ lw_all := lw_g (lw_at lw_m4 56 rfl) rfl
theorem q816 : (Jvm.Cond.methodLink "java/math/BigInteger" (394 : Nat) ({ cls := "java/math/BigInteger", name := "negate", desc := "()Ljava/math/BigInteger;" } : Jvm.MethodName)) ∈ lw_all := lw_g (lw_at lw_m4 57 rfl) rfl
theorem q817 : (Jvm.Cond.instanceMethod ({ cls := "java/math/BigInteger", name := "negate", desc := "()Ljava/math/BigInteger;" } : Jvm.MethodName)) ∈ lw_all := lw_g (lw_at lw_m4 58 rfl) rfl
theorem q818 : (Jvm.Cond.selects "java/math/BigInteger" ({ cls := "java/math/BigInteger", name := "negate", desc := "()Ljava/math/BigInteger;" } : Jvm.MethodName) ({ cls := "java/math/BigInteger", name := "negate", desc := "()Ljava/math/BigInteger;" } : Jvm.MethodName)) ∈ lw_all := lw_g (lw_at lw_m4 59 rfl) rfl
theorem q819 : (Jvm.Cond.code ({ cls := "java/math/BigInteger", name := "negate", desc := "()Ljava/math/BigInteger;" } : Jvm.MethodName) prog_33_method_80_code (1 : Nat) (Option.some (Jvm.ClassFile.FieldType.object "java/math/BigInteger"))) ∈ lw_all := lw_g (lw_at lw_m4 60 rfl) rfl
theorem q820 : (Jvm.Cond.methodLink "java/math/BigInteger" (462 : Nat) ({ cls := "java/math/BigInteger", name := "getUpper", desc := "(I)Ljava/math/BigInteger;" } : Jvm.MethodName)) ∈ lw_all := lw_g (lw_at lw_m4 61 rfl) rfl
theorem q821 : (Jvm.Cond.privateMethod ({ cls := "java/math/BigInteger", name := "getUpper", desc := "(I)Ljava/math/BigInteger;" } : Jvm.MethodName)) ∈ lw_tbl := lw_at lw_m4 62 rfl
theorem q822 : (Jvm.Cond.instanceMethod ({ cls := "java/math/BigInteger", name := "getUpper", desc := "(I)Ljava/math/BigInteger;" } : Jvm.MethodName)) ∈ lw_all := lw_g (lw_at lw_m4 63 rfl) rfl
theorem q823 : (Jvm.Cond.code ({ cls := "java/math/BigInteger", name := "getUpper", desc := "(I)Ljava/math/BigInteger;" } : Jvm.MethodName) prog_33_method_53_code (5 : Nat) (Option.some (Jvm.ClassFile.FieldType.object "java/math/BigInteger"))) ∈ lw_all := lw_g (lw_at lw_m4 64 rfl) rfl
theorem q824 : (Jvm.Cond.methodLink "java/math/BigInteger" (319 : Nat) ({ cls := "java/math/BigInteger", name := "square", desc := "()Ljava/math/BigInteger;" } : Jvm.MethodName)) ∈ lw_all := lw_g (lw_at lw_m4 65 rfl) rfl
theorem q825 : (Jvm.Cond.privateMethod ({ cls := "java/math/BigInteger", name := "square", desc := "()Ljava/math/BigInteger;" } : Jvm.MethodName)) ∈ lw_tbl := lw_at lw_m4 66 rfl
theorem q826 : (Jvm.Cond.instanceMethod ({ cls := "java/math/BigInteger", name := "square", desc := "()Ljava/math/BigInteger;" } : Jvm.MethodName)) ∈ lw_all := lw_g (lw_at lw_m4 67 rfl) rfl
theorem q827 : (Jvm.Cond.code ({ cls := "java/math/BigInteger", name := "square", desc := "()Ljava/math/BigInteger;" } : Jvm.MethodName) prog_33_method_54_code (1 : Nat) (Option.some (Jvm.ClassFile.FieldType.object "java/math/BigInteger"))) ∈ lw_all := lw_g (lw_at lw_m4 68 rfl) rfl
theorem q828 : (Jvm.Cond.methodLink "java/math/BigInteger" (465 : Nat) ({ cls := "java/math/BigInteger", name := "shiftLeft", desc := "(I)Ljava/math/BigInteger;" } : Jvm.MethodName)) ∈ lw_all := lw_g (lw_at lw_m4 69 rfl) rfl
theorem q829 : (Jvm.Cond.methodLink "java/math/BigInteger" (239 : Nat) ({ cls := "java/math/BigInteger", name := "add", desc := "(Ljava/math/BigInteger;)Ljava/math/BigInteger;" } : Jvm.MethodName)) ∈ lw_all := lw_g (lw_at lw_m4 70 rfl) rfl
theorem q830 : (Jvm.Cond.instanceMethod ({ cls := "java/math/BigInteger", name := "add", desc := "(Ljava/math/BigInteger;)Ljava/math/BigInteger;" } : Jvm.MethodName)) ∈ lw_all := lw_g (lw_at lw_m4 71 rfl) rfl
theorem q831 : (Jvm.Cond.selects "java/math/BigInteger" ({ cls := "java/math/BigInteger", name := "add", desc := "(Ljava/math/BigInteger;)Ljava/math/BigInteger;" } : Jvm.MethodName) ({ cls := "java/math/BigInteger", name := "add", desc := "(Ljava/math/BigInteger;)Ljava/math/BigInteger;" } : Jvm.MethodName)) ∈ lw_all := lw_g (lw_at lw_m4 72 rfl) rfl
theorem q832 : (Jvm.Cond.code ({ cls := "java/math/BigInteger", name := "add", desc := "(Ljava/math/BigInteger;)Ljava/math/BigInteger;" } : Jvm.MethodName) prog_33_method_32_code (4 : Nat) (Option.some (Jvm.ClassFile.FieldType.object "java/math/BigInteger"))) ∈ lw_all := lw_g (lw_at lw_m4 73 rfl) rfl
theorem q833 : (Jvm.Cond.methodLink "java/math/BigInteger" (362 : Nat) ({ cls := "java/math/BigInteger", name := "add", desc := "([I[I)[I" } : Jvm.MethodName)) ∈ lw_all := lw_g (lw_at lw_m4 74 rfl) rfl
theorem q834 : (Jvm.Cond.static ({ cls := "java/math/BigInteger", name := "add", desc := "([I[I)[I" } : Jvm.MethodName)) ∈ lw_all := lw_g (lw_at lw_m4 75 rfl) rfl
theorem q835 : (Jvm.Cond.code ({ cls := "java/math/BigInteger", name := "add", desc := "([I[I)[I" } : Jvm.MethodName) prog_33_method_35_code (9 : Nat) (Option.some (Jvm.ClassFile.FieldType.array Jvm.ClassFile.FieldType.int))) ∈ lw_all := lw_g (lw_at lw_m4 76 rfl) rfl
theorem q836 : (Jvm.Cond.methodLink "java/math/BigInteger" (365 : Nat) ({ cls := "java/math/BigInteger", name := "compareMagnitude", desc := "(Ljava/math/BigInteger;)I" } : Jvm.MethodName)) ∈ lw_all := lw_g (lw_at lw_m4 77 rfl) rfl
theorem q837 : (Jvm.Cond.instanceMethod ({ cls := "java/math/BigInteger", name := "compareMagnitude", desc := "(Ljava/math/BigInteger;)I" } : Jvm.MethodName)) ∈ lw_all := lw_g (lw_at lw_m4 78 rfl) rfl
theorem q838 : (Jvm.Cond.selects "java/math/BigInteger" ({ cls := "java/math/BigInteger", name := "compareMagnitude", desc := "(Ljava/math/BigInteger;)I" } : Jvm.MethodName) ({ cls := "java/math/BigInteger", name := "compareMagnitude", desc := "(Ljava/math/BigInteger;)I" } : Jvm.MethodName)) ∈ lw_all := lw_g (lw_at lw_m4 79 rfl) rfl
theorem q839 : (Jvm.Cond.code ({ cls := "java/math/BigInteger", name := "compareMagnitude", desc := "(Ljava/math/BigInteger;)I" } : Jvm.MethodName) prog_33_method_122_code (9 : Nat) (Option.some Jvm.ClassFile.FieldType.int)) ∈ lw_all := lw_g (lw_at lw_m4 80 rfl) rfl
theorem q840 : (Jvm.Cond.methodLink "java/math/BigInteger" (368 : Nat) ({ cls := "java/math/BigInteger", name := "subtract", desc := "([I[I)[I" } : Jvm.MethodName)) ∈ lw_all := lw_g (lw_at lw_m4 81 rfl) rfl
theorem q841 : (Jvm.Cond.static ({ cls := "java/math/BigInteger", name := "subtract", desc := "([I[I)[I" } : Jvm.MethodName)) ∈ lw_all := lw_g (lw_at lw_m4 82 rfl) rfl
theorem q842 : (Jvm.Cond.code ({ cls := "java/math/BigInteger", name := "subtract", desc := "([I[I)[I" } : Jvm.MethodName) prog_33_method_39_code (8 : Nat) (Option.some (Jvm.ClassFile.FieldType.array Jvm.ClassFile.FieldType.int))) ∈ lw_all := lw_g (lw_at lw_m4 83 rfl) rfl
theorem q843 : (Jvm.Cond.methodLink "java/math/BigInteger" (272 : Nat) ({ cls := "java/math/BigInteger", name := "subtract", desc := "(Ljava/math/BigInteger;)Ljava/math/BigInteger;" } : Jvm.MethodName)) ∈ lw_all := lw_g (lw_at lw_m4 84 rfl) rfl
theorem q844 : (Jvm.Cond.instanceMethod ({ cls := "java/math/BigInteger", name := "subtract", desc := "(Ljava/math/BigInteger;)Ljava/math/BigInteger;" } : Jvm.MethodName)) ∈ lw_all := lw_g (lw_at lw_m4 85 rfl) rfl
theorem q845 : (Jvm.Cond.selects "java/math/BigInteger" ({ cls := "java/math/BigInteger", name := "subtract", desc := "(Ljava/math/BigInteger;)Ljava/math/BigInteger;" } : Jvm.MethodName) ({ cls := "java/math/BigInteger", name := "subtract", desc := "(Ljava/math/BigInteger;)Ljava/math/BigInteger;" } : Jvm.MethodName)) ∈ lw_all := lw_g (lw_at lw_m4 86 rfl) rfl
theorem q846 : (Jvm.Cond.code ({ cls := "java/math/BigInteger", name := "subtract", desc := "(Ljava/math/BigInteger;)Ljava/math/BigInteger;" } : Jvm.MethodName) prog_33_method_38_code (4 : Nat) (Option.some (Jvm.ClassFile.FieldType.object "java/math/BigInteger"))) ∈ lw_all := lw_g (lw_at lw_m4 87 rfl) rfl
theorem q847 : (Jvm.Cond.methodLink "java/math/BigInteger" (403 : Nat) ({ cls := "java/math/BigInteger", name := "multiplyByInt", desc := "([III)Ljava/math/BigInteger;" } : Jvm.MethodName)) ∈ lw_all := lw_g (lw_at lw_m4 88 rfl) rfl
theorem q848 : (Jvm.Cond.static ({ cls := "java/math/BigInteger", name := "multiplyByInt", desc := "([III)Ljava/math/BigInteger;" } : Jvm.MethodName)) ∈ lw_all := lw_g (lw_at lw_m4 89 rfl) rfl
theorem q849 : (Jvm.Cond.code ({ cls := "java/math/BigInteger", name := "multiplyByInt", desc := "([III)Ljava/math/BigInteger;" } : Jvm.MethodName) prog_33_method_43_code (13 : Nat) (Option.some (Jvm.ClassFile.FieldType.object "java/math/BigInteger"))) ∈ lw_all := lw_g (lw_at lw_m4 90 rfl) rfl
theorem q850 : (Jvm.Cond.methodLink "java/math/BigInteger" (423 : Nat) ({ cls := "java/lang/Integer", name := "bitCount", desc := "(I)I" } : Jvm.MethodName)) ∈ lw_all := lw_g (lw_at lw_m4 91 rfl) rfl
theorem q856 : (Jvm.Cond.methodLink "java/math/BigInteger" (426 : Nat) ({ cls := "java/lang/Integer", name := "numberOfTrailingZeros", desc := "(I)I" } : Jvm.MethodName)) ∈ lw_all := lw_g (lw_at lw_m4 97 rfl) rfl
theorem q860 : (Jvm.Cond.methodLink "java/math/BigInteger" (407 : Nat) ({ cls := "java/math/BigInteger", name := "multiplyToLen", desc := "([II[II[I)[I" } : Jvm.MethodName)) ∈ lw_all := lw_g (lw_at lw_m4 101 rfl) rfl
theorem q861 : (Jvm.Cond.static ({ cls := "java/math/BigInteger", name := "multiplyToLen", desc := "([II[II[I)[I" } : Jvm.MethodName)) ∈ lw_all := lw_g (lw_at lw_m4 102 rfl) rfl
theorem q862 : (Jvm.Cond.code ({ cls := "java/math/BigInteger", name := "multiplyToLen", desc := "([II[II[I)[I" } : Jvm.MethodName) prog_33_method_45_code (5 : Nat) (Option.some (Jvm.ClassFile.FieldType.array Jvm.ClassFile.FieldType.int))) ∈ lw_all := lw_g (lw_at lw_m4 103 rfl) rfl
theorem q863 : (Jvm.Cond.methodLink "java/math/BigInteger" (441 : Nat) ({ cls := "java/math/BigInteger", name := "multiplyToLenCheck", desc := "([II)V" } : Jvm.MethodName)) ∈ lw_all := lw_g (lw_at lw_m4 104 rfl) rfl
theorem q864 : (Jvm.Cond.static ({ cls := "java/math/BigInteger", name := "multiplyToLenCheck", desc := "([II)V" } : Jvm.MethodName)) ∈ lw_all := lw_g (lw_at lw_m4 105 rfl) rfl
theorem q865 : (Jvm.Cond.code ({ cls := "java/math/BigInteger", name := "multiplyToLenCheck", desc := "([II)V" } : Jvm.MethodName) prog_33_method_47_code (2 : Nat) (Option.none : Option Jvm.ClassFile.FieldType)) ∈ lw_all := lw_g (lw_at lw_m4 106 rfl) rfl
theorem q866 : (Jvm.Cond.methodLink "java/math/BigInteger" (447 : Nat) ({ cls := "java/util/Objects", name := "requireNonNull", desc := "(Ljava/lang/Object;)Ljava/lang/Object;" } : Jvm.MethodName)) ∈ lw_all := lw_g (lw_at lw_m4 107 rfl) rfl
theorem q869 : (Jvm.Cond.classLink "java/math/BigInteger" (451 : Nat) "java/lang/ArrayIndexOutOfBoundsException") ∈ lw_all := lw_g (lw_at lw_m4 110 rfl) rfl
theorem q870 : (Jvm.Cond.methodLink "java/math/BigInteger" (453 : Nat) ({ cls := "java/lang/ArrayIndexOutOfBoundsException", name := "<init>", desc := "(I)V" } : Jvm.MethodName)) ∈ lw_all := lw_g (lw_at lw_m4 111 rfl) rfl
theorem q879 : (Jvm.Cond.methodLink "java/math/BigInteger" (444 : Nat) ({ cls := "java/math/BigInteger", name := "implMultiplyToLen", desc := "([II[II[I)[I" } : Jvm.MethodName)) ∈ lw_all := lw_g (lw_at lw_m4 120 rfl) rfl
theorem q880 : (Jvm.Cond.static ({ cls := "java/math/BigInteger", name := "implMultiplyToLen", desc := "([II[II[I)[I" } : Jvm.MethodName)) ∈ lw_all := lw_g (lw_at lw_m4 121 rfl) rfl
theorem q881 : (Jvm.Cond.code ({ cls := "java/math/BigInteger", name := "implMultiplyToLen", desc := "([II[II[I)[I" } : Jvm.MethodName) prog_33_method_46_code (14 : Nat) (Option.some (Jvm.ClassFile.FieldType.array Jvm.ClassFile.FieldType.int))) ∈ lw_all := lw_g (lw_at lw_m4 122 rfl) rfl
theorem q882 : (Jvm.Cond.methodLink "java/math/BigInteger" (411 : Nat) ({ cls := "java/math/BigInteger", name := "multiplyKaratsuba", desc := "(Ljava/math/BigInteger;Ljava/math/BigInteger;)Ljava/math/BigInteger;" } : Jvm.MethodName)) ∈ lw_all := lw_g (lw_at lw_m4 123 rfl) rfl
theorem q883 : (Jvm.Cond.static ({ cls := "java/math/BigInteger", name := "multiplyKaratsuba", desc := "(Ljava/math/BigInteger;Ljava/math/BigInteger;)Ljava/math/BigInteger;" } : Jvm.MethodName)) ∈ lw_all := lw_g (lw_at lw_m4 124 rfl) rfl
theorem q884 : (Jvm.Cond.code ({ cls := "java/math/BigInteger", name := "multiplyKaratsuba", desc := "(Ljava/math/BigInteger;Ljava/math/BigInteger;)Ljava/math/BigInteger;" } : Jvm.MethodName) prog_33_method_48_code (13 : Nat) (Option.some (Jvm.ClassFile.FieldType.object "java/math/BigInteger"))) ∈ lw_all := lw_g (lw_at lw_m4 125 rfl) rfl
theorem q885 : (Jvm.Cond.methodLink "java/math/BigInteger" (456 : Nat) ({ cls := "java/lang/Math", name := "max", desc := "(II)I" } : Jvm.MethodName)) ∈ lw_all := lw_g (lw_at lw_m4 126 rfl) rfl
theorem q886 : (Jvm.Cond.methodLink "java/math/BigInteger" (316 : Nat) ({ cls := "java/math/BigInteger", name := "multiply", desc := "(Ljava/math/BigInteger;)Ljava/math/BigInteger;" } : Jvm.MethodName)) ∈ lw_all := lw_g (lw_at lw_m4 127 rfl) rfl
theorem q894 : (Jvm.Cond.instanceMethod ({ cls := "java/math/BigInteger", name := "compareTo", desc := "(Ljava/math/BigInteger;)I" } : Jvm.MethodName)) ∈ lw_all := lw_g (lw_at lw_m4 135 rfl) rfl
theorem q895 : (Jvm.Cond.selects "java/math/BigInteger" ({ cls := "java/math/BigInteger", name := "compareTo", desc := "(Ljava/math/BigInteger;)I" } : Jvm.MethodName) ({ cls := "java/math/BigInteger", name := "compareTo", desc := "(Ljava/math/BigInteger;)I" } : Jvm.MethodName)) ∈ lw_all := lw_g (lw_at lw_m4 136 rfl) rfl
theorem q896 : (Jvm.Cond.code ({ cls := "java/math/BigInteger", name := "compareTo", desc := "(Ljava/math/BigInteger;)I" } : Jvm.MethodName) prog_33_method_121_code (2 : Nat) (Option.some Jvm.ClassFile.FieldType.int)) ∈ lw_all := lw_g (lw_at lw_m4 137 rfl) rfl
theorem q1207 : (Jvm.Cond.instanceMethod ({ cls := "java/math/BigInteger", name := "shiftRight", desc := "(I)Ljava/math/BigInteger;" } : Jvm.MethodName)) ∈ lw_all := lw_g (lw_at lw_m5 208 rfl) rfl
theorem q1208 : (Jvm.Cond.selects "java/math/BigInteger" ({ cls := "java/math/BigInteger", name := "shiftRight", desc := "(I)Ljava/math/BigInteger;" } : Jvm.MethodName) ({ cls := "java/math/BigInteger", name := "shiftRight", desc := "(I)Ljava/math/BigInteger;" } : Jvm.MethodName)) ∈ lw_all := lw_g (lw_at lw_m5 209 rfl) rfl
theorem q1209 : (Jvm.Cond.code ({ cls := "java/math/BigInteger", name := "shiftRight", desc := "(I)Ljava/math/BigInteger;" } : Jvm.MethodName) prog_33_method_104_code (2 : Nat) (Option.some (Jvm.ClassFile.FieldType.object "java/math/BigInteger"))) ∈ lw_all := lw_g (lw_at lw_m5 210 rfl) rfl
theorem q1211 : (Jvm.Cond.instanceMethod ({ cls := "java/math/BigInteger", name := "intValue", desc := "()I" } : Jvm.MethodName)) ∈ lw_all := lw_g (lw_at lw_m5 212 rfl) rfl
theorem q1212 : (Jvm.Cond.selects "java/math/BigInteger" ({ cls := "java/math/BigInteger", name := "intValue", desc := "()I" } : Jvm.MethodName) ({ cls := "java/math/BigInteger", name := "intValue", desc := "()I" } : Jvm.MethodName)) ∈ lw_all := lw_g (lw_at lw_m5 213 rfl) rfl
theorem q1213 : (Jvm.Cond.code ({ cls := "java/math/BigInteger", name := "intValue", desc := "()I" } : Jvm.MethodName) prog_33_method_135_code (2 : Nat) (Option.some Jvm.ClassFile.FieldType.int)) ∈ lw_all := lw_g (lw_at lw_m5 214 rfl) rfl
theorem q1214 : (Jvm.Cond.methodLink "java/math/BigInteger" (736 : Nat) ({ cls := "java/math/BigInteger", name := "getInt", desc := "(I)I" } : Jvm.MethodName)) ∈ lw_all := lw_g (lw_at lw_m5 215 rfl) rfl
theorem q1215 : (Jvm.Cond.privateMethod ({ cls := "java/math/BigInteger", name := "getInt", desc := "(I)I" } : Jvm.MethodName)) ∈ lw_tbl := lw_at lw_m5 216 rfl
theorem q1216 : (Jvm.Cond.instanceMethod ({ cls := "java/math/BigInteger", name := "getInt", desc := "(I)I" } : Jvm.MethodName)) ∈ lw_all := lw_g (lw_at lw_m5 217 rfl) rfl
theorem q1217 : (Jvm.Cond.code ({ cls := "java/math/BigInteger", name := "getInt", desc := "(I)I" } : Jvm.MethodName) prog_33_method_148_code (3 : Nat) (Option.some Jvm.ClassFile.FieldType.int)) ∈ lw_all := lw_g (lw_at lw_m5 218 rfl) rfl
theorem q1218 : (Jvm.Cond.methodLink "java/math/BigInteger" (860 : Nat) ({ cls := "java/math/BigInteger", name := "signInt", desc := "()I" } : Jvm.MethodName)) ∈ lw_all := lw_g (lw_at lw_m5 219 rfl) rfl
theorem q1219 : (Jvm.Cond.privateMethod ({ cls := "java/math/BigInteger", name := "signInt", desc := "()I" } : Jvm.MethodName)) ∈ lw_tbl := lw_at lw_m5 220 rfl
theorem q1220 : (Jvm.Cond.instanceMethod ({ cls := "java/math/BigInteger", name := "signInt", desc := "()I" } : Jvm.MethodName)) ∈ lw_all := lw_g (lw_at lw_m5 221 rfl) rfl
theorem q1221 : (Jvm.Cond.code ({ cls := "java/math/BigInteger", name := "signInt", desc := "()I" } : Jvm.MethodName) prog_33_method_147_code (1 : Nat) (Option.some Jvm.ClassFile.FieldType.int)) ∈ lw_all := lw_g (lw_at lw_m5 222 rfl) rfl
theorem q1222 : (Jvm.Cond.methodLink "java/math/BigInteger" (863 : Nat) ({ cls := "java/math/BigInteger", name := "firstNonzeroIntNum", desc := "()I" } : Jvm.MethodName)) ∈ lw_all := lw_g (lw_at lw_m5 223 rfl) rfl
theorem q1223 : (Jvm.Cond.privateMethod ({ cls := "java/math/BigInteger", name := "firstNonzeroIntNum", desc := "()I" } : Jvm.MethodName)) ∈ lw_tbl := lw_at lw_m5 224 rfl
theorem q1224 : (Jvm.Cond.instanceMethod ({ cls := "java/math/BigInteger", name := "firstNonzeroIntNum", desc := "()I" } : Jvm.MethodName)) ∈ lw_all := lw_g (lw_at lw_m5 225 rfl) rfl
theorem q1225 : (Jvm.Cond.code ({ cls := "java/math/BigInteger", name := "firstNonzeroIntNum", desc := "()I" } : Jvm.MethodName) prog_33_method_149_code (4 : Nat) (Option.some Jvm.ClassFile.FieldType.int)) ∈ lw_all := lw_g (lw_at lw_m5 226 rfl) rfl
theorem q1450 : (Jvm.Cond.selects "java/math/BigInteger" ({ cls := "java/lang/Object", name := "equals", desc := "(Ljava/lang/Object;)Z" } : Jvm.MethodName) ({ cls := "java/math/BigInteger", name := "equals", desc := "(Ljava/lang/Object;)Z" } : Jvm.MethodName)) ∈ lw_all := lw_g (lw_at lw_m6 211 rfl) rfl
theorem q1451 : (Jvm.Cond.instanceMethod ({ cls := "java/math/BigInteger", name := "equals", desc := "(Ljava/lang/Object;)Z" } : Jvm.MethodName)) ∈ lw_all := lw_g (lw_at lw_m6 212 rfl) rfl
theorem q1452 : (Jvm.Cond.code ({ cls := "java/math/BigInteger", name := "equals", desc := "(Ljava/lang/Object;)Z" } : Jvm.MethodName) prog_33_method_124_code (7 : Nat) (Option.some Jvm.ClassFile.FieldType.boolean)) ∈ lw_all := lw_g (lw_at lw_m6 213 rfl) rfl
theorem in_J16 : ∀ w ∈ wsJ160, w ∈ lw_all := lw_in wsJ160 [438, 440, 442, 444, 446, 448] (by decide +kernel) (by decide +kernel)
/-! java/lang/FdLibm$KernelRemPio2 -/
set_option maxRecDepth 100000
def RJ13 : String := "java/lang/FdLibm$KernelRemPio2"
abbrev cJ13___kernel_rem_pio2 : ByteArray := prog_13_method_2_code
def yJ13___kernel_rem_pio2 : MethodName := ⟨RJ13, "__kernel_rem_pio2", "([D[DIII[I)I"⟩
def dkwJ13___kernel_rem_pio2_55 : List UInt8 := [49, 119, 82, 43, 5, 24, 22, 119, 82, 21, 12, 16, 7, 126, 172]
abbrev dktJ13___kernel_rem_pio2_55 : List UInt8 := dkwJ13___kernel_rem_pio2_55 ++ []
def dkwJ13___kernel_rem_pio2_54 : List UInt8 := [4, 49, 82, 43, 5, 24, 22, 82, 167, 0, 25, 43, 3, 25, 25, 3, 49, 119, 82, 43, 4, 25, 25, 4]
abbrev dktJ13___kernel_rem_pio2_54 : List UInt8 := dkwJ13___kernel_rem_pio2_54 ++ dktJ13___kernel_rem_pio2_55
def dkwJ13___kernel_rem_pio2_53 : List UInt8 := [57, 22, 132, 13, 255, 167, 255, 237, 21, 18, 154, 0, 25, 43, 3, 25, 25, 3, 49, 82, 43, 4, 25, 25]
abbrev dktJ13___kernel_rem_pio2_53 : List UInt8 := dkwJ13___kernel_rem_pio2_53 ++ dktJ13___kernel_rem_pio2_54
def dkwJ13___kernel_rem_pio2_52 : List UInt8 := [167, 255, 205, 14, 57, 22, 21, 6, 54, 13, 21, 13, 5, 161, 0, 19, 24, 22, 25, 25, 21, 13, 49, 99]
abbrev dktJ13___kernel_rem_pio2_52 : List UInt8 := dkwJ13___kernel_rem_pio2_52 ++ dktJ13___kernel_rem_pio2_53
def dkwJ13___kernel_rem_pio2_51 : List UInt8 := [25, 25, 21, 13, 4, 100, 49, 24, 22, 103, 99, 82, 25, 25, 21, 13, 4, 100, 24, 22, 82, 132, 13, 255]
abbrev dktJ13___kernel_rem_pio2_51 : List UInt8 := dkwJ13___kernel_rem_pio2_51 ++ dktJ13___kernel_rem_pio2_52
def dkwJ13___kernel_rem_pio2_50 : List UInt8 := [164, 0, 51, 25, 25, 21, 13, 4, 100, 49, 25, 25, 21, 13, 49, 99, 57, 22, 25, 25, 21, 13, 92, 49]
abbrev dktJ13___kernel_rem_pio2_50 : List UInt8 := dkwJ13___kernel_rem_pio2_50 ++ dktJ13___kernel_rem_pio2_51
def dkwJ13___kernel_rem_pio2_49 : List UInt8 := [99, 82, 25, 25, 21, 13, 4, 100, 24, 22, 82, 132, 13, 255, 167, 255, 206, 21, 6, 54, 13, 21, 13, 4]
abbrev dktJ13___kernel_rem_pio2_49 : List UInt8 := dkwJ13___kernel_rem_pio2_49 ++ dktJ13___kernel_rem_pio2_50
def dkwJ13___kernel_rem_pio2_48 : List UInt8 := [25, 25, 21, 13, 49, 99, 57, 22, 25, 25, 21, 13, 92, 49, 25, 25, 21, 13, 4, 100, 49, 24, 22, 103]
abbrev dktJ13___kernel_rem_pio2_48 : List UInt8 := dkwJ13___kernel_rem_pio2_48 ++ dktJ13___kernel_rem_pio2_49
def dkwJ13___kernel_rem_pio2_47 : List UInt8 := [24, 22, 119, 82, 167, 0, 196, 21, 6, 54, 13, 21, 13, 158, 0, 51, 25, 25, 21, 13, 4, 100, 49]
abbrev dktJ13___kernel_rem_pio2_47 : List UInt8 := dkwJ13___kernel_rem_pio2_47 ++ dktJ13___kernel_rem_pio2_48
def dkwJ13___kernel_rem_pio2_46 : List UInt8 := [21, 13, 49, 99, 57, 22, 132, 13, 1, 167, 255, 236, 43, 4, 21, 18, 154, 0, 8, 24, 22, 167, 0, 6]
abbrev dktJ13___kernel_rem_pio2_46 : List UInt8 := dkwJ13___kernel_rem_pio2_46 ++ dktJ13___kernel_rem_pio2_47
def dkwJ13___kernel_rem_pio2_45 : List UInt8 := [25, 25, 3, 49, 24, 22, 103, 57, 22, 4, 54, 13, 21, 13, 21, 6, 163, 0, 19, 24, 22, 25, 25]
abbrev dktJ13___kernel_rem_pio2_45 : List UInt8 := dkwJ13___kernel_rem_pio2_45 ++ dktJ13___kernel_rem_pio2_46
def dkwJ13___kernel_rem_pio2_44 : List UInt8 := [57, 22, 132, 13, 255, 167, 255, 238, 43, 3, 21, 18, 154, 0, 8, 24, 22, 167, 0, 6, 24, 22, 119, 82]
abbrev dktJ13___kernel_rem_pio2_44 : List UInt8 := dkwJ13___kernel_rem_pio2_44 ++ dktJ13___kernel_rem_pio2_45
def dkwJ13___kernel_rem_pio2_43 : List UInt8 := [167, 1, 38, 14, 57, 22, 21, 6, 54, 13, 21, 13, 155, 0, 19, 24, 22, 25, 25, 21, 13, 49, 99]
abbrev dktJ13___kernel_rem_pio2_43 : List UInt8 := dkwJ13___kernel_rem_pio2_43 ++ dktJ13___kernel_rem_pio2_44
def dkwJ13___kernel_rem_pio2_42 : List UInt8 := [132, 13, 255, 167, 255, 238, 43, 3, 21, 18, 154, 0, 8, 24, 22, 167, 0, 6, 24, 22, 119, 82]
abbrev dktJ13___kernel_rem_pio2_42 : List UInt8 := dkwJ13___kernel_rem_pio2_42 ++ dktJ13___kernel_rem_pio2_43
def dkwJ13___kernel_rem_pio2_41 : List UInt8 := [14, 57, 22, 21, 6, 54, 13, 21, 13, 155, 0, 19, 24, 22, 25, 25, 21, 13, 49, 99, 57, 22]
abbrev dktJ13___kernel_rem_pio2_41 : List UInt8 := dkwJ13___kernel_rem_pio2_41 ++ dktJ13___kernel_rem_pio2_42
def dkwJ13___kernel_rem_pio2_40 : List UInt8 := [170, 0, 0, 1, 111, 0, 0, 0, 0, 0, 0, 0, 3, 0, 0, 0, 29, 0, 0, 0, 76, 0, 0, 0, 76, 0, 0, 0, 174]
abbrev dktJ13___kernel_rem_pio2_40 : List UInt8 := dkwJ13___kernel_rem_pio2_40 ++ dktJ13___kernel_rem_pio2_41
def dkwJ13___kernel_rem_pio2_39 : List UInt8 := [21, 13, 100, 24, 22, 82, 132, 13, 255, 167, 255, 189, 21, 4]
abbrev dktJ13___kernel_rem_pio2_39 : List UInt8 := dkwJ13___kernel_rem_pio2_39 ++ dktJ13___kernel_rem_pio2_40
def dkwJ13___kernel_rem_pio2_38 : List UInt8 := [49, 25, 26, 21, 13, 21, 15, 96, 49, 107, 99, 57, 22, 132, 15, 1, 167, 255, 216, 25, 25, 21, 6]
abbrev dktJ13___kernel_rem_pio2_38 : List UInt8 := dkwJ13___kernel_rem_pio2_38 ++ dktJ13___kernel_rem_pio2_39
def dkwJ13___kernel_rem_pio2_37 : List UInt8 := [21, 15, 21, 9, 163, 0, 39, 21, 15, 21, 6, 21, 13, 100, 163, 0, 29, 24, 22, 178, 0, 39, 21, 15]
abbrev dktJ13___kernel_rem_pio2_37 : List UInt8 := dkwJ13___kernel_rem_pio2_37 ++ dktJ13___kernel_rem_pio2_38
def dkwJ13___kernel_rem_pio2_36 : List UInt8 := [107, 57, 22, 132, 13, 255, 167, 255, 226, 21, 6, 54, 13, 21, 13, 155, 0, 68, 14, 57, 22, 3, 54, 15]
abbrev dktJ13___kernel_rem_pio2_36 : List UInt8 := dkwJ13___kernel_rem_pio2_36 ++ dktJ13___kernel_rem_pio2_37
def dkwJ13___kernel_rem_pio2_35 : List UInt8 := [21, 13, 155, 0, 31, 25, 26, 21, 13, 24, 22, 25, 19, 21, 13, 46, 135, 107, 82, 24, 22, 20, 0, 15]
abbrev dktJ13___kernel_rem_pio2_35 : List UInt8 := dkwJ13___kernel_rem_pio2_35 ++ dktJ13___kernel_rem_pio2_36
def dkwJ13___kernel_rem_pio2_34 : List UInt8 := [167, 0, 11, 25, 19, 21, 6, 24, 20, 142, 79, 15, 21, 17, 184, 0, 19, 57, 22, 21, 6, 54, 13]
abbrev dktJ13___kernel_rem_pio2_34 : List UInt8 := dkwJ13___kernel_rem_pio2_34 ++ dktJ13___kernel_rem_pio2_35
def dkwJ13___kernel_rem_pio2_33 : List UInt8 := [20, 0, 17, 24, 22, 107, 103, 142, 79, 132, 6, 1, 132, 17, 24, 25, 19, 21, 6, 24, 22, 142, 79]
abbrev dktJ13___kernel_rem_pio2_33 : List UInt8 := dkwJ13___kernel_rem_pio2_33 ++ dktJ13___kernel_rem_pio2_34
def dkwJ13___kernel_rem_pio2_32 : List UInt8 := [20, 0, 17, 151, 155, 0, 45, 20, 0, 15, 24, 20, 107, 142, 135, 57, 22, 25, 19, 21, 6, 24, 20]
abbrev dktJ13___kernel_rem_pio2_32 : List UInt8 := dkwJ13___kernel_rem_pio2_32 ++ dktJ13___kernel_rem_pio2_33
def dkwJ13___kernel_rem_pio2_31 : List UInt8 := [154, 0, 81, 132, 6, 255, 132, 17, 232, 167, 255, 242, 24, 20, 21, 17, 116, 184, 0, 19, 57, 20, 24, 20]
abbrev dktJ13___kernel_rem_pio2_31 : List UInt8 := dkwJ13___kernel_rem_pio2_31 ++ dktJ13___kernel_rem_pio2_32
def dkwJ13___kernel_rem_pio2_30 : List UInt8 := [54, 6, 167, 253, 248, 24, 20, 14, 151, 154, 0, 26, 132, 6, 255, 132, 17, 232, 25, 19, 21, 6, 46]
abbrev dktJ13___kernel_rem_pio2_30 : List UInt8 := dkwJ13___kernel_rem_pio2_30 ++ dktJ13___kernel_rem_pio2_31
def dkwJ13___kernel_rem_pio2_29 : List UInt8 := [132, 14, 1, 167, 255, 225, 25, 26, 21, 13, 24, 22, 82, 132, 13, 1, 167, 255, 179, 21, 6, 21, 15, 96]
abbrev dktJ13___kernel_rem_pio2_29 : List UInt8 := dkwJ13___kernel_rem_pio2_29 ++ dktJ13___kernel_rem_pio2_30
def dkwJ13___kernel_rem_pio2_28 : List UInt8 := [163, 0, 30, 24, 22, 42, 21, 14, 49, 25, 24, 21, 7, 21, 13, 96, 21, 14, 100, 49, 107, 99, 57, 22]
abbrev dktJ13___kernel_rem_pio2_28 : List UInt8 := dkwJ13___kernel_rem_pio2_28 ++ dktJ13___kernel_rem_pio2_29
def dkwJ13___kernel_rem_pio2_27 : List UInt8 := [21, 13, 96, 25, 5, 21, 8, 21, 13, 96, 46, 135, 82, 3, 54, 14, 14, 57, 22, 21, 14, 21, 7]
abbrev dktJ13___kernel_rem_pio2_27 : List UInt8 := dkwJ13___kernel_rem_pio2_27 ++ dktJ13___kernel_rem_pio2_28
def dkwJ13___kernel_rem_pio2_26 : List UInt8 := [167, 255, 242, 21, 6, 4, 96, 54, 13, 21, 13, 21, 6, 21, 15, 96, 163, 0, 73, 25, 24, 21, 7]
abbrev dktJ13___kernel_rem_pio2_26 : List UInt8 := dkwJ13___kernel_rem_pio2_26 ++ dktJ13___kernel_rem_pio2_27
def dkwJ13___kernel_rem_pio2_25 : List UInt8 := [21, 14, 154, 0, 119, 4, 54, 15, 25, 19, 21, 10, 21, 15, 100, 46, 154, 0, 9, 132, 15, 1]
abbrev dktJ13___kernel_rem_pio2_25 : List UInt8 := dkwJ13___kernel_rem_pio2_25 ++ dktJ13___kernel_rem_pio2_26
def dkwJ13___kernel_rem_pio2_24 : List UInt8 := [21, 13, 21, 10, 161, 0, 19, 21, 14, 25, 19, 21, 13, 46, 128, 54, 14, 132, 13, 255, 167, 255, 236]
abbrev dktJ13___kernel_rem_pio2_24 : List UInt8 := dkwJ13___kernel_rem_pio2_24 ++ dktJ13___kernel_rem_pio2_25
def dkwJ13___kernel_rem_pio2_23 : List UInt8 := [21, 17, 184, 0, 19, 103, 57, 20, 24, 20, 14, 151, 154, 0, 156, 3, 54, 14, 21, 6, 4, 100, 54, 13]
abbrev dktJ13___kernel_rem_pio2_23 : List UInt8 := dkwJ13___kernel_rem_pio2_23 ++ dktJ13___kernel_rem_pio2_24
def dkwJ13___kernel_rem_pio2_22 : List UInt8 := [18, 38, 126, 79, 21, 18, 5, 160, 0, 25, 15, 24, 20, 103, 57, 20, 21, 11, 153, 0, 14, 24, 20, 15]
abbrev dktJ13___kernel_rem_pio2_22 : List UInt8 := dkwJ13___kernel_rem_pio2_22 ++ dktJ13___kernel_rem_pio2_23
def dkwJ13___kernel_rem_pio2_21 : List UInt8 := [25, 19, 21, 6, 4, 100, 92, 46, 18, 37, 126, 79, 167, 0, 15, 25, 19, 21, 6, 4, 100, 92, 46]
abbrev dktJ13___kernel_rem_pio2_21 : List UInt8 := dkwJ13___kernel_rem_pio2_21 ++ dktJ13___kernel_rem_pio2_22
def dkwJ13___kernel_rem_pio2_20 : List UInt8 := [171, 0, 0, 0, 0, 0, 0, 55, 0, 0, 0, 2, 0, 0, 0, 1, 0, 0, 0, 28, 0, 0, 0, 2, 0, 0, 0, 43]
abbrev dktJ13___kernel_rem_pio2_20 : List UInt8 := dkwJ13___kernel_rem_pio2_20 ++ dktJ13___kernel_rem_pio2_21
def dkwJ13___kernel_rem_pio2_19 : List UInt8 := [21, 13, 18, 36, 21, 14, 100, 79, 132, 13, 1, 167, 255, 203, 21, 17, 158, 0, 60, 21, 17]
abbrev dktJ13___kernel_rem_pio2_19 : List UInt8 := dkwJ13___kernel_rem_pio2_19 ++ dktJ13___kernel_rem_pio2_20
def dkwJ13___kernel_rem_pio2_18 : List UInt8 := [21, 14, 153, 0, 29, 4, 54, 11, 25, 19, 21, 13, 18, 35, 21, 14, 100, 79, 167, 0, 13, 25, 19]
abbrev dktJ13___kernel_rem_pio2_18 : List UInt8 := dkwJ13___kernel_rem_pio2_18 ++ dktJ13___kernel_rem_pio2_19
def dkwJ13___kernel_rem_pio2_17 : List UInt8 := [54, 11, 3, 54, 13, 21, 13, 21, 6, 162, 0, 52, 25, 19, 21, 13, 46, 54, 14, 21, 11, 154, 0, 24]
abbrev dktJ13___kernel_rem_pio2_17 : List UInt8 := dkwJ13___kernel_rem_pio2_17 ++ dktJ13___kernel_rem_pio2_18
def dkwJ13___kernel_rem_pio2_16 : List UInt8 := [167, 0, 15, 24, 20, 20, 0, 33, 151, 155, 0, 6, 5, 54, 18, 21, 18, 158, 0, 158, 132, 12, 1, 3]
abbrev dktJ13___kernel_rem_pio2_16 : List UInt8 := dkwJ13___kernel_rem_pio2_16 ++ dktJ13___kernel_rem_pio2_17
def dkwJ13___kernel_rem_pio2_15 : List UInt8 := [54, 18, 167, 0, 35, 21, 17, 154, 0, 18, 25, 19, 21, 6, 4, 100, 46, 16, 23, 122, 54, 18]
abbrev dktJ13___kernel_rem_pio2_15 : List UInt8 := dkwJ13___kernel_rem_pio2_15 ++ dktJ13___kernel_rem_pio2_16
def dkwJ13___kernel_rem_pio2_14 : List UInt8 := [21, 13, 16, 24, 21, 17, 100, 120, 100, 79, 25, 19, 21, 6, 4, 100, 46, 16, 23, 21, 17, 100, 122]
abbrev dktJ13___kernel_rem_pio2_14 : List UInt8 := dkwJ13___kernel_rem_pio2_14 ++ dktJ13___kernel_rem_pio2_15
def dkwJ13___kernel_rem_pio2_13 : List UInt8 := [46, 16, 24, 21, 17, 100, 122, 54, 13, 21, 12, 21, 13, 96, 54, 12, 25, 19, 21, 6, 4, 100, 92, 46]
abbrev dktJ13___kernel_rem_pio2_13 : List UInt8 := dkwJ13___kernel_rem_pio2_13 ++ dktJ13___kernel_rem_pio2_14
def dkwJ13___kernel_rem_pio2_12 : List UInt8 := [54, 12, 24, 20, 21, 12, 135, 103, 57, 20, 3, 54, 18, 21, 17, 158, 0, 61, 25, 19, 21, 6, 4, 100]
abbrev dktJ13___kernel_rem_pio2_12 : List UInt8 := dkwJ13___kernel_rem_pio2_12 ++ dktJ13___kernel_rem_pio2_13
def dkwJ13___kernel_rem_pio2_11 : List UInt8 := [57, 20, 24, 20, 20, 0, 25, 24, 20, 20, 0, 27, 107, 184, 0, 29, 107, 103, 57, 20, 24, 20, 142]
abbrev dktJ13___kernel_rem_pio2_11 : List UInt8 := dkwJ13___kernel_rem_pio2_11 ++ dktJ13___kernel_rem_pio2_12
def dkwJ13___kernel_rem_pio2_10 : List UInt8 := [100, 49, 24, 22, 99, 57, 20, 132, 13, 1, 132, 14, 255, 167, 255, 208, 24, 20, 21, 17, 184, 0, 19]
abbrev dktJ13___kernel_rem_pio2_10 : List UInt8 := dkwJ13___kernel_rem_pio2_10 ++ dktJ13___kernel_rem_pio2_11
def dkwJ13___kernel_rem_pio2_9 : List UInt8 := [142, 135, 57, 22, 25, 19, 21, 13, 24, 20, 20, 0, 17, 24, 22, 107, 103, 142, 79, 25, 26, 21, 14, 4]
abbrev dktJ13___kernel_rem_pio2_9 : List UInt8 := dkwJ13___kernel_rem_pio2_9 ++ dktJ13___kernel_rem_pio2_10
def dkwJ13___kernel_rem_pio2_8 : List UInt8 := [54, 13, 21, 6, 54, 14, 25, 26, 21, 6, 49, 57, 20, 21, 14, 158, 0, 49, 20, 0, 15, 24, 20, 107]
abbrev dktJ13___kernel_rem_pio2_8 : List UInt8 := dkwJ13___kernel_rem_pio2_8 ++ dktJ13___kernel_rem_pio2_9
def dkwJ13___kernel_rem_pio2_7 : List UInt8 := [132, 14, 1, 167, 255, 225, 25, 26, 21, 13, 24, 22, 82, 132, 13, 1, 167, 255, 199, 21, 10, 54, 6, 3]
abbrev dktJ13___kernel_rem_pio2_7 : List UInt8 := dkwJ13___kernel_rem_pio2_7 ++ dktJ13___kernel_rem_pio2_8
def dkwJ13___kernel_rem_pio2_6 : List UInt8 := [163, 0, 30, 24, 22, 42, 21, 14, 49, 25, 24, 21, 7, 21, 13, 96, 21, 14, 100, 49, 107, 99, 57, 22]
abbrev dktJ13___kernel_rem_pio2_6 : List UInt8 := dkwJ13___kernel_rem_pio2_6 ++ dktJ13___kernel_rem_pio2_7
def dkwJ13___kernel_rem_pio2_5 : List UInt8 := [167, 255, 223, 3, 54, 13, 21, 13, 21, 10, 163, 0, 56, 3, 54, 14, 14, 57, 22, 21, 14, 21, 7]
abbrev dktJ13___kernel_rem_pio2_5 : List UInt8 := dkwJ13___kernel_rem_pio2_5 ++ dktJ13___kernel_rem_pio2_6
def dkwJ13___kernel_rem_pio2_4 : List UInt8 := [21, 13, 21, 14, 156, 0, 7, 14, 167, 0, 9, 25, 5, 21, 14, 46, 135, 82, 132, 13, 1, 132, 14, 1]
abbrev dktJ13___kernel_rem_pio2_4 : List UInt8 := dkwJ13___kernel_rem_pio2_4 ++ dktJ13___kernel_rem_pio2_5
def dkwJ13___kernel_rem_pio2_3 : List UInt8 := [21, 7, 100, 54, 14, 21, 7, 21, 10, 96, 54, 16, 3, 54, 13, 21, 13, 21, 16, 163, 0, 32, 25, 24]
abbrev dktJ13___kernel_rem_pio2_3 : List UInt8 := dkwJ13___kernel_rem_pio2_3 ++ dktJ13___kernel_rem_pio2_4
def dkwJ13___kernel_rem_pio2_2 : List UInt8 := [54, 8, 21, 8, 156, 0, 6, 3, 54, 8, 28, 16, 24, 21, 8, 4, 96, 104, 100, 54, 17, 21, 8]
abbrev dktJ13___kernel_rem_pio2_2 : List UInt8 := dkwJ13___kernel_rem_pio2_2 ++ dktJ13___kernel_rem_pio2_3
def dkwJ13___kernel_rem_pio2_1 : List UInt8 := [178, 0, 9, 21, 4, 46, 54, 10, 21, 10, 54, 9, 29, 4, 100, 54, 7, 28, 6, 100, 16, 24, 108]
abbrev dktJ13___kernel_rem_pio2_1 : List UInt8 := dkwJ13___kernel_rem_pio2_1 ++ dktJ13___kernel_rem_pio2_2
def dkwJ13___kernel_rem_pio2_0 : List UInt8 := [16, 20, 188, 10, 58, 19, 16, 20, 188, 7, 58, 24, 16, 20, 188, 7, 58, 25, 16, 20, 188, 7, 58, 26]
abbrev dktJ13___kernel_rem_pio2_0 : List UInt8 := dkwJ13___kernel_rem_pio2_0 ++ dktJ13___kernel_rem_pio2_1
theorem dksJ13___kernel_rem_pio2_0 : cJ13___kernel_rem_pio2.data.toList.drop 0 = dktJ13___kernel_rem_pio2_0 := by decide +kernel
theorem dksJ13___kernel_rem_pio2_1 : cJ13___kernel_rem_pio2.data.toList.drop 24 = dktJ13___kernel_rem_pio2_1 := dk_seg dksJ13___kernel_rem_pio2_0 24 rfl rfl
theorem dksJ13___kernel_rem_pio2_2 : cJ13___kernel_rem_pio2.data.toList.drop 47 = dktJ13___kernel_rem_pio2_2 := dk_seg dksJ13___kernel_rem_pio2_1 23 rfl rfl
theorem dksJ13___kernel_rem_pio2_3 : cJ13___kernel_rem_pio2.data.toList.drop 70 = dktJ13___kernel_rem_pio2_3 := dk_seg dksJ13___kernel_rem_pio2_2 23 rfl rfl
theorem dksJ13___kernel_rem_pio2_4 : cJ13___kernel_rem_pio2.data.toList.drop 94 = dktJ13___kernel_rem_pio2_4 := dk_seg dksJ13___kernel_rem_pio2_3 24 rfl rfl
theorem dksJ13___kernel_rem_pio2_5 : cJ13___kernel_rem_pio2.data.toList.drop 118 = dktJ13___kernel_rem_pio2_5 := dk_seg dksJ13___kernel_rem_pio2_4 24 rfl rfl
theorem dksJ13___kernel_rem_pio2_6 : cJ13___kernel_rem_pio2.data.toList.drop 141 = dktJ13___kernel_rem_pio2_6 := dk_seg dksJ13___kernel_rem_pio2_5 23 rfl rfl
theorem dksJ13___kernel_rem_pio2_7 : cJ13___kernel_rem_pio2.data.toList.drop 165 = dktJ13___kernel_rem_pio2_7 := dk_seg dksJ13___kernel_rem_pio2_6 24 rfl rfl
theorem dksJ13___kernel_rem_pio2_8 : cJ13___kernel_rem_pio2.data.toList.drop 189 = dktJ13___kernel_rem_pio2_8 := dk_seg dksJ13___kernel_rem_pio2_7 24 rfl rfl
theorem dksJ13___kernel_rem_pio2_9 : cJ13___kernel_rem_pio2.data.toList.drop 213 = dktJ13___kernel_rem_pio2_9 := dk_seg dksJ13___kernel_rem_pio2_8 24 rfl rfl
theorem dksJ13___kernel_rem_pio2_10 : cJ13___kernel_rem_pio2.data.toList.drop 237 = dktJ13___kernel_rem_pio2_10 := dk_seg dksJ13___kernel_rem_pio2_9 24 rfl rfl
theorem dksJ13___kernel_rem_pio2_11 : cJ13___kernel_rem_pio2.data.toList.drop 260 = dktJ13___kernel_rem_pio2_11 := dk_seg dksJ13___kernel_rem_pio2_10 23 rfl rfl
theorem dksJ13___kernel_rem_pio2_12 : cJ13___kernel_rem_pio2.data.toList.drop 283 = dktJ13___kernel_rem_pio2_12 := dk_seg dksJ13___kernel_rem_pio2_11 23 rfl rfl
theorem dksJ13___kernel_rem_pio2_13 : cJ13___kernel_rem_pio2.data.toList.drop 307 = dktJ13___kernel_rem_pio2_13 := dk_seg dksJ13___kernel_rem_pio2_12 24 rfl rfl
theorem dksJ13___kernel_rem_pio2_14 : cJ13___kernel_rem_pio2.data.toList.drop 331 = dktJ13___kernel_rem_pio2_14 := dk_seg dksJ13___kernel_rem_pio2_13 24 rfl rfl
theorem dksJ13___kernel_rem_pio2_15 : cJ13___kernel_rem_pio2.data.toList.drop 354 = dktJ13___kernel_rem_pio2_15 := dk_seg dksJ13___kernel_rem_pio2_14 23 rfl rfl
theorem dksJ13___kernel_rem_pio2_16 : cJ13___kernel_rem_pio2.data.toList.drop 376 = dktJ13___kernel_rem_pio2_16 := dk_seg dksJ13___kernel_rem_pio2_15 22 rfl rfl
theorem dksJ13___kernel_rem_pio2_17 : cJ13___kernel_rem_pio2.data.toList.drop 400 = dktJ13___kernel_rem_pio2_17 := dk_seg dksJ13___kernel_rem_pio2_16 24 rfl rfl
theorem dksJ13___kernel_rem_pio2_18 : cJ13___kernel_rem_pio2.data.toList.drop 424 = dktJ13___kernel_rem_pio2_18 := dk_seg dksJ13___kernel_rem_pio2_17 24 rfl rfl
theorem dksJ13___kernel_rem_pio2_19 : cJ13___kernel_rem_pio2.data.toList.drop 447 = dktJ13___kernel_rem_pio2_19 := dk_seg dksJ13___kernel_rem_pio2_18 23 rfl rfl
theorem dksJ13___kernel_rem_pio2_20 : cJ13___kernel_rem_pio2.data.toList.drop 468 = dktJ13___kernel_rem_pio2_20 := dk_seg dksJ13___kernel_rem_pio2_19 21 rfl rfl
theorem dksJ13___kernel_rem_pio2_21 : cJ13___kernel_rem_pio2.data.toList.drop 496 = dktJ13___kernel_rem_pio2_21 := dk_seg dksJ13___kernel_rem_pio2_20 28 rfl rfl
theorem dksJ13___kernel_rem_pio2_22 : cJ13___kernel_rem_pio2.data.toList.drop 519 = dktJ13___kernel_rem_pio2_22 := dk_seg dksJ13___kernel_rem_pio2_21 23 rfl rfl
theorem dksJ13___kernel_rem_pio2_23 : cJ13___kernel_rem_pio2.data.toList.drop 543 = dktJ13___kernel_rem_pio2_23 := dk_seg dksJ13___kernel_rem_pio2_22 24 rfl rfl
theorem dksJ13___kernel_rem_pio2_24 : cJ13___kernel_rem_pio2.data.toList.drop 567 = dktJ13___kernel_rem_pio2_24 := dk_seg dksJ13___kernel_rem_pio2_23 24 rfl rfl
theorem dksJ13___kernel_rem_pio2_25 : cJ13___kernel_rem_pio2.data.toList.drop 590 = dktJ13___kernel_rem_pio2_25 := dk_seg dksJ13___kernel_rem_pio2_24 23 rfl rfl
theorem dksJ13___kernel_rem_pio2_26 : cJ13___kernel_rem_pio2.data.toList.drop 612 = dktJ13___kernel_rem_pio2_26 := dk_seg dksJ13___kernel_rem_pio2_25 22 rfl rfl
theorem dksJ13___kernel_rem_pio2_27 : cJ13___kernel_rem_pio2.data.toList.drop 635 = dktJ13___kernel_rem_pio2_27 := dk_seg dksJ13___kernel_rem_pio2_26 23 rfl rfl
theorem dksJ13___kernel_rem_pio2_28 : cJ13___kernel_rem_pio2.data.toList.drop 658 = dktJ13___kernel_rem_pio2_28 := dk_seg dksJ13___kernel_rem_pio2_27 23 rfl rfl
theorem dksJ13___kernel_rem_pio2_29 : cJ13___kernel_rem_pio2.data.toList.drop 682 = dktJ13___kernel_rem_pio2_29 := dk_seg dksJ13___kernel_rem_pio2_28 24 rfl rfl
theorem dksJ13___kernel_rem_pio2_30 : cJ13___kernel_rem_pio2.data.toList.drop 706 = dktJ13___kernel_rem_pio2_30 := dk_seg dksJ13___kernel_rem_pio2_29 24 rfl rfl
theorem dksJ13___kernel_rem_pio2_31 : cJ13___kernel_rem_pio2.data.toList.drop 729 = dktJ13___kernel_rem_pio2_31 := dk_seg dksJ13___kernel_rem_pio2_30 23 rfl rfl
theorem dksJ13___kernel_rem_pio2_32 : cJ13___kernel_rem_pio2.data.toList.drop 753 = dktJ13___kernel_rem_pio2_32 := dk_seg dksJ13___kernel_rem_pio2_31 24 rfl rfl
theorem dksJ13___kernel_rem_pio2_33 : cJ13___kernel_rem_pio2.data.toList.drop 776 = dktJ13___kernel_rem_pio2_33 := dk_seg dksJ13___kernel_rem_pio2_32 23 rfl rfl
theorem dksJ13___kernel_rem_pio2_34 : cJ13___kernel_rem_pio2.data.toList.drop 799 = dktJ13___kernel_rem_pio2_34 := dk_seg dksJ13___kernel_rem_pio2_33 23 rfl rfl
theorem dksJ13___kernel_rem_pio2_35 : cJ13___kernel_rem_pio2.data.toList.drop 822 = dktJ13___kernel_rem_pio2_35 := dk_seg dksJ13___kernel_rem_pio2_34 23 rfl rfl
theorem dksJ13___kernel_rem_pio2_36 : cJ13___kernel_rem_pio2.data.toList.drop 846 = dktJ13___kernel_rem_pio2_36 := dk_seg dksJ13___kernel_rem_pio2_35 24 rfl rfl
theorem dksJ13___kernel_rem_pio2_37 : cJ13___kernel_rem_pio2.data.toList.drop 870 = dktJ13___kernel_rem_pio2_37 := dk_seg dksJ13___kernel_rem_pio2_36 24 rfl rfl
theorem dksJ13___kernel_rem_pio2_38 : cJ13___kernel_rem_pio2.data.toList.drop 894 = dktJ13___kernel_rem_pio2_38 := dk_seg dksJ13___kernel_rem_pio2_37 24 rfl rfl
theorem dksJ13___kernel_rem_pio2_39 : cJ13___kernel_rem_pio2.data.toList.drop 917 = dktJ13___kernel_rem_pio2_39 := dk_seg dksJ13___kernel_rem_pio2_38 23 rfl rfl
theorem dksJ13___kernel_rem_pio2_40 : cJ13___kernel_rem_pio2.data.toList.drop 931 = dktJ13___kernel_rem_pio2_40 := dk_seg dksJ13___kernel_rem_pio2_39 14 rfl rfl
theorem dksJ13___kernel_rem_pio2_41 : cJ13___kernel_rem_pio2.data.toList.drop 960 = dktJ13___kernel_rem_pio2_41 := dk_seg dksJ13___kernel_rem_pio2_40 29 rfl rfl
theorem dksJ13___kernel_rem_pio2_42 : cJ13___kernel_rem_pio2.data.toList.drop 982 = dktJ13___kernel_rem_pio2_42 := dk_seg dksJ13___kernel_rem_pio2_41 22 rfl rfl
theorem dksJ13___kernel_rem_pio2_43 : cJ13___kernel_rem_pio2.data.toList.drop 1004 = dktJ13___kernel_rem_pio2_43 := dk_seg dksJ13___kernel_rem_pio2_42 22 rfl rfl
theorem dksJ13___kernel_rem_pio2_44 : cJ13___kernel_rem_pio2.data.toList.drop 1027 = dktJ13___kernel_rem_pio2_44 := dk_seg dksJ13___kernel_rem_pio2_43 23 rfl rfl
theorem dksJ13___kernel_rem_pio2_45 : cJ13___kernel_rem_pio2.data.toList.drop 1051 = dktJ13___kernel_rem_pio2_45 := dk_seg dksJ13___kernel_rem_pio2_44 24 rfl rfl
theorem dksJ13___kernel_rem_pio2_46 : cJ13___kernel_rem_pio2.data.toList.drop 1074 = dktJ13___kernel_rem_pio2_46 := dk_seg dksJ13___kernel_rem_pio2_45 23 rfl rfl
theorem dksJ13___kernel_rem_pio2_47 : cJ13___kernel_rem_pio2.data.toList.drop 1098 = dktJ13___kernel_rem_pio2_47 := dk_seg dksJ13___kernel_rem_pio2_46 24 rfl rfl
theorem dksJ13___kernel_rem_pio2_48 : cJ13___kernel_rem_pio2.data.toList.drop 1121 = dktJ13___kernel_rem_pio2_48 := dk_seg dksJ13___kernel_rem_pio2_47 23 rfl rfl
theorem dksJ13___kernel_rem_pio2_49 : cJ13___kernel_rem_pio2.data.toList.drop 1145 = dktJ13___kernel_rem_pio2_49 := dk_seg dksJ13___kernel_rem_pio2_48 24 rfl rfl
theorem dksJ13___kernel_rem_pio2_50 : cJ13___kernel_rem_pio2.data.toList.drop 1169 = dktJ13___kernel_rem_pio2_50 := dk_seg dksJ13___kernel_rem_pio2_49 24 rfl rfl
theorem dksJ13___kernel_rem_pio2_51 : cJ13___kernel_rem_pio2.data.toList.drop 1193 = dktJ13___kernel_rem_pio2_51 := dk_seg dksJ13___kernel_rem_pio2_50 24 rfl rfl
theorem dksJ13___kernel_rem_pio2_52 : cJ13___kernel_rem_pio2.data.toList.drop 1217 = dktJ13___kernel_rem_pio2_52 := dk_seg dksJ13___kernel_rem_pio2_51 24 rfl rfl
theorem dksJ13___kernel_rem_pio2_53 : cJ13___kernel_rem_pio2.data.toList.drop 1241 = dktJ13___kernel_rem_pio2_53 := dk_seg dksJ13___kernel_rem_pio2_52 24 rfl rfl
theorem dksJ13___kernel_rem_pio2_54 : cJ13___kernel_rem_pio2.data.toList.drop 1265 = dktJ13___kernel_rem_pio2_54 := dk_seg dksJ13___kernel_rem_pio2_53 24 rfl rfl
theorem dksJ13___kernel_rem_pio2_55 : cJ13___kernel_rem_pio2.data.toList.drop 1289 = dktJ13___kernel_rem_pio2_55 := dk_seg dksJ13___kernel_rem_pio2_54 24 rfl rfl
theorem dJ13___kernel_rem_pio2_0 : decode cJ13___kernel_rem_pio2 0 = .ok (.bipush 20, 2) := dk_16 20 (dk_at dksJ13___kernel_rem_pio2_0 0 rfl rfl)
theorem dJ13___kernel_rem_pio2_2 : decode cJ13___kernel_rem_pio2 2 = .ok (.newarray .int, 2) := dk_188_10 (dk_at dksJ13___kernel_rem_pio2_0 2 rfl rfl)
theorem dJ13___kernel_rem_pio2_4 : decode cJ13___kernel_rem_pio2 4 = .ok (.astore 19, 2) := dk_58 19 (dk_at dksJ13___kernel_rem_pio2_0 4 rfl rfl)
theorem dJ13___kernel_rem_pio2_6 : decode cJ13___kernel_rem_pio2 6 = .ok (.bipush 20, 2) := dk_16 20 (dk_at dksJ13___kernel_rem_pio2_0 6 rfl rfl)
theorem dJ13___kernel_rem_pio2_8 : decode cJ13___kernel_rem_pio2 8 = .ok (.newarray .double, 2) := dk_188_7 (dk_at dksJ13___kernel_rem_pio2_0 8 rfl rfl)
theorem dJ13___kernel_rem_pio2_10 : decode cJ13___kernel_rem_pio2 10 = .ok (.astore 24, 2) := dk_58 24 (dk_at dksJ13___kernel_rem_pio2_0 10 rfl rfl)
theorem dJ13___kernel_rem_pio2_12 : decode cJ13___kernel_rem_pio2 12 = .ok (.bipush 20, 2) := dk_16 20 (dk_at dksJ13___kernel_rem_pio2_0 12 rfl rfl)
theorem dJ13___kernel_rem_pio2_14 : decode cJ13___kernel_rem_pio2 14 = .ok (.newarray .double, 2) := dk_188_7 (dk_at dksJ13___kernel_rem_pio2_0 14 rfl rfl)
theorem dJ13___kernel_rem_pio2_16 : decode cJ13___kernel_rem_pio2 16 = .ok (.astore 25, 2) := dk_58 25 (dk_at dksJ13___kernel_rem_pio2_0 16 rfl rfl)
theorem dJ13___kernel_rem_pio2_18 : decode cJ13___kernel_rem_pio2 18 = .ok (.bipush 20, 2) := dk_16 20 (dk_at dksJ13___kernel_rem_pio2_0 18 rfl rfl)
theorem dJ13___kernel_rem_pio2_20 : decode cJ13___kernel_rem_pio2 20 = .ok (.newarray .double, 2) := dk_188_7 (dk_at dksJ13___kernel_rem_pio2_0 20 rfl rfl)
theorem dJ13___kernel_rem_pio2_22 : decode cJ13___kernel_rem_pio2 22 = .ok (.astore 26, 2) := dk_58 26 (dk_at dksJ13___kernel_rem_pio2_0 22 rfl rfl)
theorem dJ13___kernel_rem_pio2_24 : decode cJ13___kernel_rem_pio2 24 = .ok (.getstatic 9, 3) := dk_178 0 9 (dk_at dksJ13___kernel_rem_pio2_1 0 rfl rfl)
theorem dJ13___kernel_rem_pio2_27 : decode cJ13___kernel_rem_pio2 27 = .ok (.iload 4, 2) := dk_21 4 (dk_at dksJ13___kernel_rem_pio2_1 3 rfl rfl)
theorem dJ13___kernel_rem_pio2_29 : decode cJ13___kernel_rem_pio2 29 = .ok (.iaload, 1) := dk_46 (dk_at dksJ13___kernel_rem_pio2_1 5 rfl rfl)
theorem dJ13___kernel_rem_pio2_30 : decode cJ13___kernel_rem_pio2 30 = .ok (.istore 10, 2) := dk_54 10 (dk_at dksJ13___kernel_rem_pio2_1 6 rfl rfl)
theorem dJ13___kernel_rem_pio2_32 : decode cJ13___kernel_rem_pio2 32 = .ok (.iload 10, 2) := dk_21 10 (dk_at dksJ13___kernel_rem_pio2_1 8 rfl rfl)
theorem dJ13___kernel_rem_pio2_34 : decode cJ13___kernel_rem_pio2 34 = .ok (.istore 9, 2) := dk_54 9 (dk_at dksJ13___kernel_rem_pio2_1 10 rfl rfl)
theorem dJ13___kernel_rem_pio2_36 : decode cJ13___kernel_rem_pio2 36 = .ok (.iload_n 3, 1) := dk_29 (dk_at dksJ13___kernel_rem_pio2_1 12 rfl rfl)
theorem dJ13___kernel_rem_pio2_37 : decode cJ13___kernel_rem_pio2 37 = .ok (.iconst 1, 1) := dk_4 (dk_at dksJ13___kernel_rem_pio2_1 13 rfl rfl)
theorem dJ13___kernel_rem_pio2_38 : decode cJ13___kernel_rem_pio2 38 = .ok (.isub, 1) := dk_100 (dk_at dksJ13___kernel_rem_pio2_1 14 rfl rfl)
theorem dJ13___kernel_rem_pio2_39 : decode cJ13___kernel_rem_pio2 39 = .ok (.istore 7, 2) := dk_54 7 (dk_at dksJ13___kernel_rem_pio2_1 15 rfl rfl)
theorem dJ13___kernel_rem_pio2_41 : decode cJ13___kernel_rem_pio2 41 = .ok (.iload_n 2, 1) := dk_28 (dk_at dksJ13___kernel_rem_pio2_1 17 rfl rfl)
theorem dJ13___kernel_rem_pio2_42 : decode cJ13___kernel_rem_pio2 42 = .ok (.iconst 3, 1) := dk_6 (dk_at dksJ13___kernel_rem_pio2_1 18 rfl rfl)
theorem dJ13___kernel_rem_pio2_43 : decode cJ13___kernel_rem_pio2 43 = .ok (.isub, 1) := dk_100 (dk_at dksJ13___kernel_rem_pio2_1 19 rfl rfl)
theorem dJ13___kernel_rem_pio2_44 : decode cJ13___kernel_rem_pio2 44 = .ok (.bipush 24, 2) := dk_16 24 (dk_at dksJ13___kernel_rem_pio2_1 20 rfl rfl)
theorem dJ13___kernel_rem_pio2_46 : decode cJ13___kernel_rem_pio2 46 = .ok (.idiv, 1) := dk_108 (dk_at dksJ13___kernel_rem_pio2_1 22 rfl rfl)
theorem dJ13___kernel_rem_pio2_47 : decode cJ13___kernel_rem_pio2 47 = .ok (.istore 8, 2) := dk_54 8 (dk_at dksJ13___kernel_rem_pio2_2 0 rfl rfl)
theorem dJ13___kernel_rem_pio2_49 : decode cJ13___kernel_rem_pio2 49 = .ok (.iload 8, 2) := dk_21 8 (dk_at dksJ13___kernel_rem_pio2_2 2 rfl rfl)
theorem dJ13___kernel_rem_pio2_51 : decode cJ13___kernel_rem_pio2 51 = .ok (.ifCond .ge 6, 3) := dk_156 0 6 (dk_at dksJ13___kernel_rem_pio2_2 4 rfl rfl)
theorem dJ13___kernel_rem_pio2_54 : decode cJ13___kernel_rem_pio2 54 = .ok (.iconst 0, 1) := dk_3 (dk_at dksJ13___kernel_rem_pio2_2 7 rfl rfl)
theorem dJ13___kernel_rem_pio2_55 : decode cJ13___kernel_rem_pio2 55 = .ok (.istore 8, 2) := dk_54 8 (dk_at dksJ13___kernel_rem_pio2_2 8 rfl rfl)
theorem dJ13___kernel_rem_pio2_57 : decode cJ13___kernel_rem_pio2 57 = .ok (.iload_n 2, 1) := dk_28 (dk_at dksJ13___kernel_rem_pio2_2 10 rfl rfl)
theorem dJ13___kernel_rem_pio2_58 : decode cJ13___kernel_rem_pio2 58 = .ok (.bipush 24, 2) := dk_16 24 (dk_at dksJ13___kernel_rem_pio2_2 11 rfl rfl)
theorem dJ13___kernel_rem_pio2_60 : decode cJ13___kernel_rem_pio2 60 = .ok (.iload 8, 2) := dk_21 8 (dk_at dksJ13___kernel_rem_pio2_2 13 rfl rfl)
theorem dJ13___kernel_rem_pio2_62 : decode cJ13___kernel_rem_pio2 62 = .ok (.iconst 1, 1) := dk_4 (dk_at dksJ13___kernel_rem_pio2_2 15 rfl rfl)
theorem dJ13___kernel_rem_pio2_63 : decode cJ13___kernel_rem_pio2 63 = .ok (.iadd, 1) := dk_96 (dk_at dksJ13___kernel_rem_pio2_2 16 rfl rfl)
theorem dJ13___kernel_rem_pio2_64 : decode cJ13___kernel_rem_pio2 64 = .ok (.imul, 1) := dk_104 (dk_at dksJ13___kernel_rem_pio2_2 17 rfl rfl)
theorem dJ13___kernel_rem_pio2_65 : decode cJ13___kernel_rem_pio2 65 = .ok (.isub, 1) := dk_100 (dk_at dksJ13___kernel_rem_pio2_2 18 rfl rfl)
theorem dJ13___kernel_rem_pio2_66 : decode cJ13___kernel_rem_pio2 66 = .ok (.istore 17, 2) := dk_54 17 (dk_at dksJ13___kernel_rem_pio2_2 19 rfl rfl)
theorem dJ13___kernel_rem_pio2_68 : decode cJ13___kernel_rem_pio2 68 = .ok (.iload 8, 2) := dk_21 8 (dk_at dksJ13___kernel_rem_pio2_2 21 rfl rfl)
theorem dJ13___kernel_rem_pio2_70 : decode cJ13___kernel_rem_pio2 70 = .ok (.iload 7, 2) := dk_21 7 (dk_at dksJ13___kernel_rem_pio2_3 0 rfl rfl)
theorem dJ13___kernel_rem_pio2_72 : decode cJ13___kernel_rem_pio2 72 = .ok (.isub, 1) := dk_100 (dk_at dksJ13___kernel_rem_pio2_3 2 rfl rfl)
theorem dJ13___kernel_rem_pio2_73 : decode cJ13___kernel_rem_pio2 73 = .ok (.istore 14, 2) := dk_54 14 (dk_at dksJ13___kernel_rem_pio2_3 3 rfl rfl)
theorem dJ13___kernel_rem_pio2_75 : decode cJ13___kernel_rem_pio2 75 = .ok (.iload 7, 2) := dk_21 7 (dk_at dksJ13___kernel_rem_pio2_3 5 rfl rfl)
theorem dJ13___kernel_rem_pio2_77 : decode cJ13___kernel_rem_pio2 77 = .ok (.iload 10, 2) := dk_21 10 (dk_at dksJ13___kernel_rem_pio2_3 7 rfl rfl)
theorem dJ13___kernel_rem_pio2_79 : decode cJ13___kernel_rem_pio2 79 = .ok (.iadd, 1) := dk_96 (dk_at dksJ13___kernel_rem_pio2_3 9 rfl rfl)
theorem dJ13___kernel_rem_pio2_80 : decode cJ13___kernel_rem_pio2 80 = .ok (.istore 16, 2) := dk_54 16 (dk_at dksJ13___kernel_rem_pio2_3 10 rfl rfl)
theorem dJ13___kernel_rem_pio2_82 : decode cJ13___kernel_rem_pio2 82 = .ok (.iconst 0, 1) := dk_3 (dk_at dksJ13___kernel_rem_pio2_3 12 rfl rfl)
theorem dJ13___kernel_rem_pio2_83 : decode cJ13___kernel_rem_pio2 83 = .ok (.istore 13, 2) := dk_54 13 (dk_at dksJ13___kernel_rem_pio2_3 13 rfl rfl)
theorem dJ13___kernel_rem_pio2_85 : decode cJ13___kernel_rem_pio2 85 = .ok (.iload 13, 2) := dk_21 13 (dk_at dksJ13___kernel_rem_pio2_3 15 rfl rfl)
theorem dJ13___kernel_rem_pio2_87 : decode cJ13___kernel_rem_pio2 87 = .ok (.iload 16, 2) := dk_21 16 (dk_at dksJ13___kernel_rem_pio2_3 17 rfl rfl)
theorem dJ13___kernel_rem_pio2_89 : decode cJ13___kernel_rem_pio2 89 = .ok (.if_icmp .gt 32, 3) := dk_163 0 32 (dk_at dksJ13___kernel_rem_pio2_3 19 rfl rfl)
theorem dJ13___kernel_rem_pio2_92 : decode cJ13___kernel_rem_pio2 92 = .ok (.aload 24, 2) := dk_25 24 (dk_at dksJ13___kernel_rem_pio2_3 22 rfl rfl)
theorem dJ13___kernel_rem_pio2_94 : decode cJ13___kernel_rem_pio2 94 = .ok (.iload 13, 2) := dk_21 13 (dk_at dksJ13___kernel_rem_pio2_4 0 rfl rfl)
theorem dJ13___kernel_rem_pio2_96 : decode cJ13___kernel_rem_pio2 96 = .ok (.iload 14, 2) := dk_21 14 (dk_at dksJ13___kernel_rem_pio2_4 2 rfl rfl)
theorem dJ13___kernel_rem_pio2_98 : decode cJ13___kernel_rem_pio2 98 = .ok (.ifCond .ge 7, 3) := dk_156 0 7 (dk_at dksJ13___kernel_rem_pio2_4 4 rfl rfl)
theorem dJ13___kernel_rem_pio2_101 : decode cJ13___kernel_rem_pio2 101 = .ok (.dconst 0, 1) := dk_14 (dk_at dksJ13___kernel_rem_pio2_4 7 rfl rfl)
theorem dJ13___kernel_rem_pio2_102 : decode cJ13___kernel_rem_pio2 102 = .ok (.goto 9, 3) := dk_167 0 9 (dk_at dksJ13___kernel_rem_pio2_4 8 rfl rfl)
theorem dJ13___kernel_rem_pio2_105 : decode cJ13___kernel_rem_pio2 105 = .ok (.aload 5, 2) := dk_25 5 (dk_at dksJ13___kernel_rem_pio2_4 11 rfl rfl)
theorem dJ13___kernel_rem_pio2_107 : decode cJ13___kernel_rem_pio2 107 = .ok (.iload 14, 2) := dk_21 14 (dk_at dksJ13___kernel_rem_pio2_4 13 rfl rfl)
theorem dJ13___kernel_rem_pio2_109 : decode cJ13___kernel_rem_pio2 109 = .ok (.iaload, 1) := dk_46 (dk_at dksJ13___kernel_rem_pio2_4 15 rfl rfl)
theorem dJ13___kernel_rem_pio2_110 : decode cJ13___kernel_rem_pio2 110 = .ok (.i2d, 1) := dk_135 (dk_at dksJ13___kernel_rem_pio2_4 16 rfl rfl)
theorem dJ13___kernel_rem_pio2_111 : decode cJ13___kernel_rem_pio2 111 = .ok (.dastore, 1) := dk_82 (dk_at dksJ13___kernel_rem_pio2_4 17 rfl rfl)
theorem dJ13___kernel_rem_pio2_112 : decode cJ13___kernel_rem_pio2 112 = .ok (.iinc 13 1, 3) := dk_132 13 1 (dk_at dksJ13___kernel_rem_pio2_4 18 rfl rfl)
theorem dJ13___kernel_rem_pio2_115 : decode cJ13___kernel_rem_pio2 115 = .ok (.iinc 14 1, 3) := dk_132 14 1 (dk_at dksJ13___kernel_rem_pio2_4 21 rfl rfl)
theorem dJ13___kernel_rem_pio2_118 : decode cJ13___kernel_rem_pio2 118 = .ok (.goto (-33), 3) := dk_167 255 223 (dk_at dksJ13___kernel_rem_pio2_5 0 rfl rfl)
theorem dJ13___kernel_rem_pio2_121 : decode cJ13___kernel_rem_pio2 121 = .ok (.iconst 0, 1) := dk_3 (dk_at dksJ13___kernel_rem_pio2_5 3 rfl rfl)
theorem dJ13___kernel_rem_pio2_122 : decode cJ13___kernel_rem_pio2 122 = .ok (.istore 13, 2) := dk_54 13 (dk_at dksJ13___kernel_rem_pio2_5 4 rfl rfl)
theorem dJ13___kernel_rem_pio2_124 : decode cJ13___kernel_rem_pio2 124 = .ok (.iload 13, 2) := dk_21 13 (dk_at dksJ13___kernel_rem_pio2_5 6 rfl rfl)
theorem dJ13___kernel_rem_pio2_126 : decode cJ13___kernel_rem_pio2 126 = .ok (.iload 10, 2) := dk_21 10 (dk_at dksJ13___kernel_rem_pio2_5 8 rfl rfl)
theorem dJ13___kernel_rem_pio2_128 : decode cJ13___kernel_rem_pio2 128 = .ok (.if_icmp .gt 56, 3) := dk_163 0 56 (dk_at dksJ13___kernel_rem_pio2_5 10 rfl rfl)
theorem dJ13___kernel_rem_pio2_131 : decode cJ13___kernel_rem_pio2 131 = .ok (.iconst 0, 1) := dk_3 (dk_at dksJ13___kernel_rem_pio2_5 13 rfl rfl)
theorem dJ13___kernel_rem_pio2_132 : decode cJ13___kernel_rem_pio2 132 = .ok (.istore 14, 2) := dk_54 14 (dk_at dksJ13___kernel_rem_pio2_5 14 rfl rfl)
theorem dJ13___kernel_rem_pio2_134 : decode cJ13___kernel_rem_pio2 134 = .ok (.dconst 0, 1) := dk_14 (dk_at dksJ13___kernel_rem_pio2_5 16 rfl rfl)
theorem dJ13___kernel_rem_pio2_135 : decode cJ13___kernel_rem_pio2 135 = .ok (.dstore 22, 2) := dk_57 22 (dk_at dksJ13___kernel_rem_pio2_5 17 rfl rfl)
theorem dJ13___kernel_rem_pio2_137 : decode cJ13___kernel_rem_pio2 137 = .ok (.iload 14, 2) := dk_21 14 (dk_at dksJ13___kernel_rem_pio2_5 19 rfl rfl)
theorem dJ13___kernel_rem_pio2_139 : decode cJ13___kernel_rem_pio2 139 = .ok (.iload 7, 2) := dk_21 7 (dk_at dksJ13___kernel_rem_pio2_5 21 rfl rfl)
theorem dJ13___kernel_rem_pio2_141 : decode cJ13___kernel_rem_pio2 141 = .ok (.if_icmp .gt 30, 3) := dk_163 0 30 (dk_at dksJ13___kernel_rem_pio2_6 0 rfl rfl)
theorem dJ13___kernel_rem_pio2_144 : decode cJ13___kernel_rem_pio2 144 = .ok (.dload 22, 2) := dk_24 22 (dk_at dksJ13___kernel_rem_pio2_6 3 rfl rfl)
theorem dJ13___kernel_rem_pio2_146 : decode cJ13___kernel_rem_pio2 146 = .ok (.aload_n 0, 1) := dk_42 (dk_at dksJ13___kernel_rem_pio2_6 5 rfl rfl)
theorem dJ13___kernel_rem_pio2_147 : decode cJ13___kernel_rem_pio2 147 = .ok (.iload 14, 2) := dk_21 14 (dk_at dksJ13___kernel_rem_pio2_6 6 rfl rfl)
theorem dJ13___kernel_rem_pio2_149 : decode cJ13___kernel_rem_pio2 149 = .ok (.daload, 1) := dk_49 (dk_at dksJ13___kernel_rem_pio2_6 8 rfl rfl)
theorem dJ13___kernel_rem_pio2_150 : decode cJ13___kernel_rem_pio2 150 = .ok (.aload 24, 2) := dk_25 24 (dk_at dksJ13___kernel_rem_pio2_6 9 rfl rfl)
theorem dJ13___kernel_rem_pio2_152 : decode cJ13___kernel_rem_pio2 152 = .ok (.iload 7, 2) := dk_21 7 (dk_at dksJ13___kernel_rem_pio2_6 11 rfl rfl)
theorem dJ13___kernel_rem_pio2_154 : decode cJ13___kernel_rem_pio2 154 = .ok (.iload 13, 2) := dk_21 13 (dk_at dksJ13___kernel_rem_pio2_6 13 rfl rfl)
theorem dJ13___kernel_rem_pio2_156 : decode cJ13___kernel_rem_pio2 156 = .ok (.iadd, 1) := dk_96 (dk_at dksJ13___kernel_rem_pio2_6 15 rfl rfl)
theorem dJ13___kernel_rem_pio2_157 : decode cJ13___kernel_rem_pio2 157 = .ok (.iload 14, 2) := dk_21 14 (dk_at dksJ13___kernel_rem_pio2_6 16 rfl rfl)
theorem dJ13___kernel_rem_pio2_159 : decode cJ13___kernel_rem_pio2 159 = .ok (.isub, 1) := dk_100 (dk_at dksJ13___kernel_rem_pio2_6 18 rfl rfl)
theorem dJ13___kernel_rem_pio2_160 : decode cJ13___kernel_rem_pio2 160 = .ok (.daload, 1) := dk_49 (dk_at dksJ13___kernel_rem_pio2_6 19 rfl rfl)
theorem dJ13___kernel_rem_pio2_161 : decode cJ13___kernel_rem_pio2 161 = .ok (.dmul, 1) := dk_107 (dk_at dksJ13___kernel_rem_pio2_6 20 rfl rfl)
theorem dJ13___kernel_rem_pio2_162 : decode cJ13___kernel_rem_pio2 162 = .ok (.dadd, 1) := dk_99 (dk_at dksJ13___kernel_rem_pio2_6 21 rfl rfl)
theorem dJ13___kernel_rem_pio2_163 : decode cJ13___kernel_rem_pio2 163 = .ok (.dstore 22, 2) := dk_57 22 (dk_at dksJ13___kernel_rem_pio2_6 22 rfl rfl)
theorem dJ13___kernel_rem_pio2_165 : decode cJ13___kernel_rem_pio2 165 = .ok (.iinc 14 1, 3) := dk_132 14 1 (dk_at dksJ13___kernel_rem_pio2_7 0 rfl rfl)
theorem dJ13___kernel_rem_pio2_168 : decode cJ13___kernel_rem_pio2 168 = .ok (.goto (-31), 3) := dk_167 255 225 (dk_at dksJ13___kernel_rem_pio2_7 3 rfl rfl)
theorem dJ13___kernel_rem_pio2_171 : decode cJ13___kernel_rem_pio2 171 = .ok (.aload 26, 2) := dk_25 26 (dk_at dksJ13___kernel_rem_pio2_7 6 rfl rfl)
theorem dJ13___kernel_rem_pio2_173 : decode cJ13___kernel_rem_pio2 173 = .ok (.iload 13, 2) := dk_21 13 (dk_at dksJ13___kernel_rem_pio2_7 8 rfl rfl)
theorem dJ13___kernel_rem_pio2_175 : decode cJ13___kernel_rem_pio2 175 = .ok (.dload 22, 2) := dk_24 22 (dk_at dksJ13___kernel_rem_pio2_7 10 rfl rfl)
theorem dJ13___kernel_rem_pio2_177 : decode cJ13___kernel_rem_pio2 177 = .ok (.dastore, 1) := dk_82 (dk_at dksJ13___kernel_rem_pio2_7 12 rfl rfl)
theorem dJ13___kernel_rem_pio2_178 : decode cJ13___kernel_rem_pio2 178 = .ok (.iinc 13 1, 3) := dk_132 13 1 (dk_at dksJ13___kernel_rem_pio2_7 13 rfl rfl)
theorem dJ13___kernel_rem_pio2_181 : decode cJ13___kernel_rem_pio2 181 = .ok (.goto (-57), 3) := dk_167 255 199 (dk_at dksJ13___kernel_rem_pio2_7 16 rfl rfl)
theorem dJ13___kernel_rem_pio2_184 : decode cJ13___kernel_rem_pio2 184 = .ok (.iload 10, 2) := dk_21 10 (dk_at dksJ13___kernel_rem_pio2_7 19 rfl rfl)
theorem dJ13___kernel_rem_pio2_186 : decode cJ13___kernel_rem_pio2 186 = .ok (.istore 6, 2) := dk_54 6 (dk_at dksJ13___kernel_rem_pio2_7 21 rfl rfl)
theorem dJ13___kernel_rem_pio2_188 : decode cJ13___kernel_rem_pio2 188 = .ok (.iconst 0, 1) := dk_3 (dk_at dksJ13___kernel_rem_pio2_7 23 rfl rfl)
theorem dJ13___kernel_rem_pio2_189 : decode cJ13___kernel_rem_pio2 189 = .ok (.istore 13, 2) := dk_54 13 (dk_at dksJ13___kernel_rem_pio2_8 0 rfl rfl)
theorem dJ13___kernel_rem_pio2_191 : decode cJ13___kernel_rem_pio2 191 = .ok (.iload 6, 2) := dk_21 6 (dk_at dksJ13___kernel_rem_pio2_8 2 rfl rfl)
theorem dJ13___kernel_rem_pio2_193 : decode cJ13___kernel_rem_pio2 193 = .ok (.istore 14, 2) := dk_54 14 (dk_at dksJ13___kernel_rem_pio2_8 4 rfl rfl)
theorem dJ13___kernel_rem_pio2_195 : decode cJ13___kernel_rem_pio2 195 = .ok (.aload 26, 2) := dk_25 26 (dk_at dksJ13___kernel_rem_pio2_8 6 rfl rfl)
theorem dJ13___kernel_rem_pio2_197 : decode cJ13___kernel_rem_pio2 197 = .ok (.iload 6, 2) := dk_21 6 (dk_at dksJ13___kernel_rem_pio2_8 8 rfl rfl)
theorem dJ13___kernel_rem_pio2_199 : decode cJ13___kernel_rem_pio2 199 = .ok (.daload, 1) := dk_49 (dk_at dksJ13___kernel_rem_pio2_8 10 rfl rfl)
theorem dJ13___kernel_rem_pio2_200 : decode cJ13___kernel_rem_pio2 200 = .ok (.dstore 20, 2) := dk_57 20 (dk_at dksJ13___kernel_rem_pio2_8 11 rfl rfl)
theorem dJ13___kernel_rem_pio2_202 : decode cJ13___kernel_rem_pio2 202 = .ok (.iload 14, 2) := dk_21 14 (dk_at dksJ13___kernel_rem_pio2_8 13 rfl rfl)
theorem dJ13___kernel_rem_pio2_204 : decode cJ13___kernel_rem_pio2 204 = .ok (.ifCond .le 49, 3) := dk_158 0 49 (dk_at dksJ13___kernel_rem_pio2_8 15 rfl rfl)
theorem dJ13___kernel_rem_pio2_207 : decode cJ13___kernel_rem_pio2 207 = .ok (.ldc2_w 15, 3) := dk_20 0 15 (dk_at dksJ13___kernel_rem_pio2_8 18 rfl rfl)
theorem dJ13___kernel_rem_pio2_210 : decode cJ13___kernel_rem_pio2 210 = .ok (.dload 20, 2) := dk_24 20 (dk_at dksJ13___kernel_rem_pio2_8 21 rfl rfl)
theorem dJ13___kernel_rem_pio2_212 : decode cJ13___kernel_rem_pio2 212 = .ok (.dmul, 1) := dk_107 (dk_at dksJ13___kernel_rem_pio2_8 23 rfl rfl)
theorem dJ13___kernel_rem_pio2_213 : decode cJ13___kernel_rem_pio2 213 = .ok (.d2i, 1) := dk_142 (dk_at dksJ13___kernel_rem_pio2_9 0 rfl rfl)
theorem dJ13___kernel_rem_pio2_214 : decode cJ13___kernel_rem_pio2 214 = .ok (.i2d, 1) := dk_135 (dk_at dksJ13___kernel_rem_pio2_9 1 rfl rfl)
theorem dJ13___kernel_rem_pio2_215 : decode cJ13___kernel_rem_pio2 215 = .ok (.dstore 22, 2) := dk_57 22 (dk_at dksJ13___kernel_rem_pio2_9 2 rfl rfl)
theorem dJ13___kernel_rem_pio2_217 : decode cJ13___kernel_rem_pio2 217 = .ok (.aload 19, 2) := dk_25 19 (dk_at dksJ13___kernel_rem_pio2_9 4 rfl rfl)
theorem dJ13___kernel_rem_pio2_219 : decode cJ13___kernel_rem_pio2 219 = .ok (.iload 13, 2) := dk_21 13 (dk_at dksJ13___kernel_rem_pio2_9 6 rfl rfl)
theorem dJ13___kernel_rem_pio2_221 : decode cJ13___kernel_rem_pio2 221 = .ok (.dload 20, 2) := dk_24 20 (dk_at dksJ13___kernel_rem_pio2_9 8 rfl rfl)
theorem dJ13___kernel_rem_pio2_223 : decode cJ13___kernel_rem_pio2 223 = .ok (.ldc2_w 17, 3) := dk_20 0 17 (dk_at dksJ13___kernel_rem_pio2_9 10 rfl rfl)
theorem dJ13___kernel_rem_pio2_226 : decode cJ13___kernel_rem_pio2 226 = .ok (.dload 22, 2) := dk_24 22 (dk_at dksJ13___kernel_rem_pio2_9 13 rfl rfl)
theorem dJ13___kernel_rem_pio2_228 : decode cJ13___kernel_rem_pio2 228 = .ok (.dmul, 1) := dk_107 (dk_at dksJ13___kernel_rem_pio2_9 15 rfl rfl)
theorem dJ13___kernel_rem_pio2_229 : decode cJ13___kernel_rem_pio2 229 = .ok (.dsub, 1) := dk_103 (dk_at dksJ13___kernel_rem_pio2_9 16 rfl rfl)
theorem dJ13___kernel_rem_pio2_230 : decode cJ13___kernel_rem_pio2 230 = .ok (.d2i, 1) := dk_142 (dk_at dksJ13___kernel_rem_pio2_9 17 rfl rfl)
theorem dJ13___kernel_rem_pio2_231 : decode cJ13___kernel_rem_pio2 231 = .ok (.iastore, 1) := dk_79 (dk_at dksJ13___kernel_rem_pio2_9 18 rfl rfl)
theorem dJ13___kernel_rem_pio2_232 : decode cJ13___kernel_rem_pio2 232 = .ok (.aload 26, 2) := dk_25 26 (dk_at dksJ13___kernel_rem_pio2_9 19 rfl rfl)
theorem dJ13___kernel_rem_pio2_234 : decode cJ13___kernel_rem_pio2 234 = .ok (.iload 14, 2) := dk_21 14 (dk_at dksJ13___kernel_rem_pio2_9 21 rfl rfl)
theorem dJ13___kernel_rem_pio2_236 : decode cJ13___kernel_rem_pio2 236 = .ok (.iconst 1, 1) := dk_4 (dk_at dksJ13___kernel_rem_pio2_9 23 rfl rfl)
theorem dJ13___kernel_rem_pio2_237 : decode cJ13___kernel_rem_pio2 237 = .ok (.isub, 1) := dk_100 (dk_at dksJ13___kernel_rem_pio2_10 0 rfl rfl)
theorem dJ13___kernel_rem_pio2_238 : decode cJ13___kernel_rem_pio2 238 = .ok (.daload, 1) := dk_49 (dk_at dksJ13___kernel_rem_pio2_10 1 rfl rfl)
theorem dJ13___kernel_rem_pio2_239 : decode cJ13___kernel_rem_pio2 239 = .ok (.dload 22, 2) := dk_24 22 (dk_at dksJ13___kernel_rem_pio2_10 2 rfl rfl)
theorem dJ13___kernel_rem_pio2_241 : decode cJ13___kernel_rem_pio2 241 = .ok (.dadd, 1) := dk_99 (dk_at dksJ13___kernel_rem_pio2_10 4 rfl rfl)
theorem dJ13___kernel_rem_pio2_242 : decode cJ13___kernel_rem_pio2 242 = .ok (.dstore 20, 2) := dk_57 20 (dk_at dksJ13___kernel_rem_pio2_10 5 rfl rfl)
theorem dJ13___kernel_rem_pio2_244 : decode cJ13___kernel_rem_pio2 244 = .ok (.iinc 13 1, 3) := dk_132 13 1 (dk_at dksJ13___kernel_rem_pio2_10 7 rfl rfl)
theorem dJ13___kernel_rem_pio2_247 : decode cJ13___kernel_rem_pio2 247 = .ok (.iinc 14 (-1), 3) := dk_132 14 255 (dk_at dksJ13___kernel_rem_pio2_10 10 rfl rfl)
theorem dJ13___kernel_rem_pio2_250 : decode cJ13___kernel_rem_pio2 250 = .ok (.goto (-48), 3) := dk_167 255 208 (dk_at dksJ13___kernel_rem_pio2_10 13 rfl rfl)
theorem dJ13___kernel_rem_pio2_253 : decode cJ13___kernel_rem_pio2 253 = .ok (.dload 20, 2) := dk_24 20 (dk_at dksJ13___kernel_rem_pio2_10 16 rfl rfl)
theorem dJ13___kernel_rem_pio2_255 : decode cJ13___kernel_rem_pio2 255 = .ok (.iload 17, 2) := dk_21 17 (dk_at dksJ13___kernel_rem_pio2_10 18 rfl rfl)
theorem dJ13___kernel_rem_pio2_257 : decode cJ13___kernel_rem_pio2 257 = .ok (.invokestatic 19, 3) := dk_184 0 19 (dk_at dksJ13___kernel_rem_pio2_10 20 rfl rfl)
theorem dJ13___kernel_rem_pio2_260 : decode cJ13___kernel_rem_pio2 260 = .ok (.dstore 20, 2) := dk_57 20 (dk_at dksJ13___kernel_rem_pio2_11 0 rfl rfl)
theorem dJ13___kernel_rem_pio2_262 : decode cJ13___kernel_rem_pio2 262 = .ok (.dload 20, 2) := dk_24 20 (dk_at dksJ13___kernel_rem_pio2_11 2 rfl rfl)
theorem dJ13___kernel_rem_pio2_264 : decode cJ13___kernel_rem_pio2 264 = .ok (.ldc2_w 25, 3) := dk_20 0 25 (dk_at dksJ13___kernel_rem_pio2_11 4 rfl rfl)
theorem dJ13___kernel_rem_pio2_267 : decode cJ13___kernel_rem_pio2 267 = .ok (.dload 20, 2) := dk_24 20 (dk_at dksJ13___kernel_rem_pio2_11 7 rfl rfl)
theorem dJ13___kernel_rem_pio2_269 : decode cJ13___kernel_rem_pio2 269 = .ok (.ldc2_w 27, 3) := dk_20 0 27 (dk_at dksJ13___kernel_rem_pio2_11 9 rfl rfl)
theorem dJ13___kernel_rem_pio2_272 : decode cJ13___kernel_rem_pio2 272 = .ok (.dmul, 1) := dk_107 (dk_at dksJ13___kernel_rem_pio2_11 12 rfl rfl)
theorem dJ13___kernel_rem_pio2_273 : decode cJ13___kernel_rem_pio2 273 = .ok (.invokestatic 29, 3) := dk_184 0 29 (dk_at dksJ13___kernel_rem_pio2_11 13 rfl rfl)
theorem dJ13___kernel_rem_pio2_276 : decode cJ13___kernel_rem_pio2 276 = .ok (.dmul, 1) := dk_107 (dk_at dksJ13___kernel_rem_pio2_11 16 rfl rfl)
theorem dJ13___kernel_rem_pio2_277 : decode cJ13___kernel_rem_pio2 277 = .ok (.dsub, 1) := dk_103 (dk_at dksJ13___kernel_rem_pio2_11 17 rfl rfl)
theorem dJ13___kernel_rem_pio2_278 : decode cJ13___kernel_rem_pio2 278 = .ok (.dstore 20, 2) := dk_57 20 (dk_at dksJ13___kernel_rem_pio2_11 18 rfl rfl)
theorem dJ13___kernel_rem_pio2_280 : decode cJ13___kernel_rem_pio2 280 = .ok (.dload 20, 2) := dk_24 20 (dk_at dksJ13___kernel_rem_pio2_11 20 rfl rfl)
theorem dJ13___kernel_rem_pio2_282 : decode cJ13___kernel_rem_pio2 282 = .ok (.d2i, 1) := dk_142 (dk_at dksJ13___kernel_rem_pio2_11 22 rfl rfl)
theorem dJ13___kernel_rem_pio2_283 : decode cJ13___kernel_rem_pio2 283 = .ok (.istore 12, 2) := dk_54 12 (dk_at dksJ13___kernel_rem_pio2_12 0 rfl rfl)
theorem dJ13___kernel_rem_pio2_285 : decode cJ13___kernel_rem_pio2 285 = .ok (.dload 20, 2) := dk_24 20 (dk_at dksJ13___kernel_rem_pio2_12 2 rfl rfl)
theorem dJ13___kernel_rem_pio2_287 : decode cJ13___kernel_rem_pio2 287 = .ok (.iload 12, 2) := dk_21 12 (dk_at dksJ13___kernel_rem_pio2_12 4 rfl rfl)
theorem dJ13___kernel_rem_pio2_289 : decode cJ13___kernel_rem_pio2 289 = .ok (.i2d, 1) := dk_135 (dk_at dksJ13___kernel_rem_pio2_12 6 rfl rfl)
theorem dJ13___kernel_rem_pio2_290 : decode cJ13___kernel_rem_pio2 290 = .ok (.dsub, 1) := dk_103 (dk_at dksJ13___kernel_rem_pio2_12 7 rfl rfl)
theorem dJ13___kernel_rem_pio2_291 : decode cJ13___kernel_rem_pio2 291 = .ok (.dstore 20, 2) := dk_57 20 (dk_at dksJ13___kernel_rem_pio2_12 8 rfl rfl)
theorem dJ13___kernel_rem_pio2_293 : decode cJ13___kernel_rem_pio2 293 = .ok (.iconst 0, 1) := dk_3 (dk_at dksJ13___kernel_rem_pio2_12 10 rfl rfl)
theorem dJ13___kernel_rem_pio2_294 : decode cJ13___kernel_rem_pio2 294 = .ok (.istore 18, 2) := dk_54 18 (dk_at dksJ13___kernel_rem_pio2_12 11 rfl rfl)
theorem dJ13___kernel_rem_pio2_296 : decode cJ13___kernel_rem_pio2 296 = .ok (.iload 17, 2) := dk_21 17 (dk_at dksJ13___kernel_rem_pio2_12 13 rfl rfl)
theorem dJ13___kernel_rem_pio2_298 : decode cJ13___kernel_rem_pio2 298 = .ok (.ifCond .le 61, 3) := dk_158 0 61 (dk_at dksJ13___kernel_rem_pio2_12 15 rfl rfl)
theorem dJ13___kernel_rem_pio2_301 : decode cJ13___kernel_rem_pio2 301 = .ok (.aload 19, 2) := dk_25 19 (dk_at dksJ13___kernel_rem_pio2_12 18 rfl rfl)
theorem dJ13___kernel_rem_pio2_303 : decode cJ13___kernel_rem_pio2 303 = .ok (.iload 6, 2) := dk_21 6 (dk_at dksJ13___kernel_rem_pio2_12 20 rfl rfl)
theorem dJ13___kernel_rem_pio2_305 : decode cJ13___kernel_rem_pio2 305 = .ok (.iconst 1, 1) := dk_4 (dk_at dksJ13___kernel_rem_pio2_12 22 rfl rfl)
theorem dJ13___kernel_rem_pio2_306 : decode cJ13___kernel_rem_pio2 306 = .ok (.isub, 1) := dk_100 (dk_at dksJ13___kernel_rem_pio2_12 23 rfl rfl)
theorem dJ13___kernel_rem_pio2_307 : decode cJ13___kernel_rem_pio2 307 = .ok (.iaload, 1) := dk_46 (dk_at dksJ13___kernel_rem_pio2_13 0 rfl rfl)
theorem dJ13___kernel_rem_pio2_308 : decode cJ13___kernel_rem_pio2 308 = .ok (.bipush 24, 2) := dk_16 24 (dk_at dksJ13___kernel_rem_pio2_13 1 rfl rfl)
theorem dJ13___kernel_rem_pio2_310 : decode cJ13___kernel_rem_pio2 310 = .ok (.iload 17, 2) := dk_21 17 (dk_at dksJ13___kernel_rem_pio2_13 3 rfl rfl)
theorem dJ13___kernel_rem_pio2_312 : decode cJ13___kernel_rem_pio2 312 = .ok (.isub, 1) := dk_100 (dk_at dksJ13___kernel_rem_pio2_13 5 rfl rfl)
theorem dJ13___kernel_rem_pio2_313 : decode cJ13___kernel_rem_pio2 313 = .ok (.ishr, 1) := dk_122 (dk_at dksJ13___kernel_rem_pio2_13 6 rfl rfl)
theorem dJ13___kernel_rem_pio2_314 : decode cJ13___kernel_rem_pio2 314 = .ok (.istore 13, 2) := dk_54 13 (dk_at dksJ13___kernel_rem_pio2_13 7 rfl rfl)
theorem dJ13___kernel_rem_pio2_316 : decode cJ13___kernel_rem_pio2 316 = .ok (.iload 12, 2) := dk_21 12 (dk_at dksJ13___kernel_rem_pio2_13 9 rfl rfl)
theorem dJ13___kernel_rem_pio2_318 : decode cJ13___kernel_rem_pio2 318 = .ok (.iload 13, 2) := dk_21 13 (dk_at dksJ13___kernel_rem_pio2_13 11 rfl rfl)
theorem dJ13___kernel_rem_pio2_320 : decode cJ13___kernel_rem_pio2 320 = .ok (.iadd, 1) := dk_96 (dk_at dksJ13___kernel_rem_pio2_13 13 rfl rfl)
theorem dJ13___kernel_rem_pio2_321 : decode cJ13___kernel_rem_pio2 321 = .ok (.istore 12, 2) := dk_54 12 (dk_at dksJ13___kernel_rem_pio2_13 14 rfl rfl)
theorem dJ13___kernel_rem_pio2_323 : decode cJ13___kernel_rem_pio2 323 = .ok (.aload 19, 2) := dk_25 19 (dk_at dksJ13___kernel_rem_pio2_13 16 rfl rfl)
theorem dJ13___kernel_rem_pio2_325 : decode cJ13___kernel_rem_pio2 325 = .ok (.iload 6, 2) := dk_21 6 (dk_at dksJ13___kernel_rem_pio2_13 18 rfl rfl)
theorem dJ13___kernel_rem_pio2_327 : decode cJ13___kernel_rem_pio2 327 = .ok (.iconst 1, 1) := dk_4 (dk_at dksJ13___kernel_rem_pio2_13 20 rfl rfl)
theorem dJ13___kernel_rem_pio2_328 : decode cJ13___kernel_rem_pio2 328 = .ok (.isub, 1) := dk_100 (dk_at dksJ13___kernel_rem_pio2_13 21 rfl rfl)
theorem dJ13___kernel_rem_pio2_329 : decode cJ13___kernel_rem_pio2 329 = .ok (.dup2, 1) := dk_92 (dk_at dksJ13___kernel_rem_pio2_13 22 rfl rfl)
theorem dJ13___kernel_rem_pio2_330 : decode cJ13___kernel_rem_pio2 330 = .ok (.iaload, 1) := dk_46 (dk_at dksJ13___kernel_rem_pio2_13 23 rfl rfl)
theorem dJ13___kernel_rem_pio2_331 : decode cJ13___kernel_rem_pio2 331 = .ok (.iload 13, 2) := dk_21 13 (dk_at dksJ13___kernel_rem_pio2_14 0 rfl rfl)
theorem dJ13___kernel_rem_pio2_333 : decode cJ13___kernel_rem_pio2 333 = .ok (.bipush 24, 2) := dk_16 24 (dk_at dksJ13___kernel_rem_pio2_14 2 rfl rfl)
theorem dJ13___kernel_rem_pio2_335 : decode cJ13___kernel_rem_pio2 335 = .ok (.iload 17, 2) := dk_21 17 (dk_at dksJ13___kernel_rem_pio2_14 4 rfl rfl)
theorem dJ13___kernel_rem_pio2_337 : decode cJ13___kernel_rem_pio2 337 = .ok (.isub, 1) := dk_100 (dk_at dksJ13___kernel_rem_pio2_14 6 rfl rfl)
theorem dJ13___kernel_rem_pio2_338 : decode cJ13___kernel_rem_pio2 338 = .ok (.ishl, 1) := dk_120 (dk_at dksJ13___kernel_rem_pio2_14 7 rfl rfl)
theorem dJ13___kernel_rem_pio2_339 : decode cJ13___kernel_rem_pio2 339 = .ok (.isub, 1) := dk_100 (dk_at dksJ13___kernel_rem_pio2_14 8 rfl rfl)
theorem dJ13___kernel_rem_pio2_340 : decode cJ13___kernel_rem_pio2 340 = .ok (.iastore, 1) := dk_79 (dk_at dksJ13___kernel_rem_pio2_14 9 rfl rfl)
theorem dJ13___kernel_rem_pio2_341 : decode cJ13___kernel_rem_pio2 341 = .ok (.aload 19, 2) := dk_25 19 (dk_at dksJ13___kernel_rem_pio2_14 10 rfl rfl)
theorem dJ13___kernel_rem_pio2_343 : decode cJ13___kernel_rem_pio2 343 = .ok (.iload 6, 2) := dk_21 6 (dk_at dksJ13___kernel_rem_pio2_14 12 rfl rfl)
theorem dJ13___kernel_rem_pio2_345 : decode cJ13___kernel_rem_pio2 345 = .ok (.iconst 1, 1) := dk_4 (dk_at dksJ13___kernel_rem_pio2_14 14 rfl rfl)
theorem dJ13___kernel_rem_pio2_346 : decode cJ13___kernel_rem_pio2 346 = .ok (.isub, 1) := dk_100 (dk_at dksJ13___kernel_rem_pio2_14 15 rfl rfl)
theorem dJ13___kernel_rem_pio2_347 : decode cJ13___kernel_rem_pio2 347 = .ok (.iaload, 1) := dk_46 (dk_at dksJ13___kernel_rem_pio2_14 16 rfl rfl)
theorem dJ13___kernel_rem_pio2_348 : decode cJ13___kernel_rem_pio2 348 = .ok (.bipush 23, 2) := dk_16 23 (dk_at dksJ13___kernel_rem_pio2_14 17 rfl rfl)
theorem dJ13___kernel_rem_pio2_350 : decode cJ13___kernel_rem_pio2 350 = .ok (.iload 17, 2) := dk_21 17 (dk_at dksJ13___kernel_rem_pio2_14 19 rfl rfl)
theorem dJ13___kernel_rem_pio2_352 : decode cJ13___kernel_rem_pio2 352 = .ok (.isub, 1) := dk_100 (dk_at dksJ13___kernel_rem_pio2_14 21 rfl rfl)
theorem dJ13___kernel_rem_pio2_353 : decode cJ13___kernel_rem_pio2 353 = .ok (.ishr, 1) := dk_122 (dk_at dksJ13___kernel_rem_pio2_14 22 rfl rfl)
theorem dJ13___kernel_rem_pio2_354 : decode cJ13___kernel_rem_pio2 354 = .ok (.istore 18, 2) := dk_54 18 (dk_at dksJ13___kernel_rem_pio2_15 0 rfl rfl)
theorem dJ13___kernel_rem_pio2_356 : decode cJ13___kernel_rem_pio2 356 = .ok (.goto 35, 3) := dk_167 0 35 (dk_at dksJ13___kernel_rem_pio2_15 2 rfl rfl)
theorem dJ13___kernel_rem_pio2_359 : decode cJ13___kernel_rem_pio2 359 = .ok (.iload 17, 2) := dk_21 17 (dk_at dksJ13___kernel_rem_pio2_15 5 rfl rfl)
theorem dJ13___kernel_rem_pio2_361 : decode cJ13___kernel_rem_pio2 361 = .ok (.ifCond .ne 18, 3) := dk_154 0 18 (dk_at dksJ13___kernel_rem_pio2_15 7 rfl rfl)
theorem dJ13___kernel_rem_pio2_364 : decode cJ13___kernel_rem_pio2 364 = .ok (.aload 19, 2) := dk_25 19 (dk_at dksJ13___kernel_rem_pio2_15 10 rfl rfl)
theorem dJ13___kernel_rem_pio2_366 : decode cJ13___kernel_rem_pio2 366 = .ok (.iload 6, 2) := dk_21 6 (dk_at dksJ13___kernel_rem_pio2_15 12 rfl rfl)
theorem dJ13___kernel_rem_pio2_368 : decode cJ13___kernel_rem_pio2 368 = .ok (.iconst 1, 1) := dk_4 (dk_at dksJ13___kernel_rem_pio2_15 14 rfl rfl)
theorem dJ13___kernel_rem_pio2_369 : decode cJ13___kernel_rem_pio2 369 = .ok (.isub, 1) := dk_100 (dk_at dksJ13___kernel_rem_pio2_15 15 rfl rfl)
theorem dJ13___kernel_rem_pio2_370 : decode cJ13___kernel_rem_pio2 370 = .ok (.iaload, 1) := dk_46 (dk_at dksJ13___kernel_rem_pio2_15 16 rfl rfl)
theorem dJ13___kernel_rem_pio2_371 : decode cJ13___kernel_rem_pio2 371 = .ok (.bipush 23, 2) := dk_16 23 (dk_at dksJ13___kernel_rem_pio2_15 17 rfl rfl)
theorem dJ13___kernel_rem_pio2_373 : decode cJ13___kernel_rem_pio2 373 = .ok (.ishr, 1) := dk_122 (dk_at dksJ13___kernel_rem_pio2_15 19 rfl rfl)
theorem dJ13___kernel_rem_pio2_374 : decode cJ13___kernel_rem_pio2 374 = .ok (.istore 18, 2) := dk_54 18 (dk_at dksJ13___kernel_rem_pio2_15 20 rfl rfl)
theorem dJ13___kernel_rem_pio2_376 : decode cJ13___kernel_rem_pio2 376 = .ok (.goto 15, 3) := dk_167 0 15 (dk_at dksJ13___kernel_rem_pio2_16 0 rfl rfl)
theorem dJ13___kernel_rem_pio2_379 : decode cJ13___kernel_rem_pio2 379 = .ok (.dload 20, 2) := dk_24 20 (dk_at dksJ13___kernel_rem_pio2_16 3 rfl rfl)
theorem dJ13___kernel_rem_pio2_381 : decode cJ13___kernel_rem_pio2 381 = .ok (.ldc2_w 33, 3) := dk_20 0 33 (dk_at dksJ13___kernel_rem_pio2_16 5 rfl rfl)
theorem dJ13___kernel_rem_pio2_384 : decode cJ13___kernel_rem_pio2 384 = .ok (.dcmp .l, 1) := dk_151 (dk_at dksJ13___kernel_rem_pio2_16 8 rfl rfl)
theorem dJ13___kernel_rem_pio2_385 : decode cJ13___kernel_rem_pio2 385 = .ok (.ifCond .lt 6, 3) := dk_155 0 6 (dk_at dksJ13___kernel_rem_pio2_16 9 rfl rfl)
theorem dJ13___kernel_rem_pio2_388 : decode cJ13___kernel_rem_pio2 388 = .ok (.iconst 2, 1) := dk_5 (dk_at dksJ13___kernel_rem_pio2_16 12 rfl rfl)
theorem dJ13___kernel_rem_pio2_389 : decode cJ13___kernel_rem_pio2 389 = .ok (.istore 18, 2) := dk_54 18 (dk_at dksJ13___kernel_rem_pio2_16 13 rfl rfl)
theorem dJ13___kernel_rem_pio2_391 : decode cJ13___kernel_rem_pio2 391 = .ok (.iload 18, 2) := dk_21 18 (dk_at dksJ13___kernel_rem_pio2_16 15 rfl rfl)
theorem dJ13___kernel_rem_pio2_393 : decode cJ13___kernel_rem_pio2 393 = .ok (.ifCond .le 158, 3) := dk_158 0 158 (dk_at dksJ13___kernel_rem_pio2_16 17 rfl rfl)
theorem dJ13___kernel_rem_pio2_396 : decode cJ13___kernel_rem_pio2 396 = .ok (.iinc 12 1, 3) := dk_132 12 1 (dk_at dksJ13___kernel_rem_pio2_16 20 rfl rfl)
theorem dJ13___kernel_rem_pio2_399 : decode cJ13___kernel_rem_pio2 399 = .ok (.iconst 0, 1) := dk_3 (dk_at dksJ13___kernel_rem_pio2_16 23 rfl rfl)
theorem dJ13___kernel_rem_pio2_400 : decode cJ13___kernel_rem_pio2 400 = .ok (.istore 11, 2) := dk_54 11 (dk_at dksJ13___kernel_rem_pio2_17 0 rfl rfl)
theorem dJ13___kernel_rem_pio2_402 : decode cJ13___kernel_rem_pio2 402 = .ok (.iconst 0, 1) := dk_3 (dk_at dksJ13___kernel_rem_pio2_17 2 rfl rfl)
theorem dJ13___kernel_rem_pio2_403 : decode cJ13___kernel_rem_pio2 403 = .ok (.istore 13, 2) := dk_54 13 (dk_at dksJ13___kernel_rem_pio2_17 3 rfl rfl)
theorem dJ13___kernel_rem_pio2_405 : decode cJ13___kernel_rem_pio2 405 = .ok (.iload 13, 2) := dk_21 13 (dk_at dksJ13___kernel_rem_pio2_17 5 rfl rfl)
theorem dJ13___kernel_rem_pio2_407 : decode cJ13___kernel_rem_pio2 407 = .ok (.iload 6, 2) := dk_21 6 (dk_at dksJ13___kernel_rem_pio2_17 7 rfl rfl)
theorem dJ13___kernel_rem_pio2_409 : decode cJ13___kernel_rem_pio2 409 = .ok (.if_icmp .ge 52, 3) := dk_162 0 52 (dk_at dksJ13___kernel_rem_pio2_17 9 rfl rfl)
theorem dJ13___kernel_rem_pio2_412 : decode cJ13___kernel_rem_pio2 412 = .ok (.aload 19, 2) := dk_25 19 (dk_at dksJ13___kernel_rem_pio2_17 12 rfl rfl)
theorem dJ13___kernel_rem_pio2_414 : decode cJ13___kernel_rem_pio2 414 = .ok (.iload 13, 2) := dk_21 13 (dk_at dksJ13___kernel_rem_pio2_17 14 rfl rfl)
theorem dJ13___kernel_rem_pio2_416 : decode cJ13___kernel_rem_pio2 416 = .ok (.iaload, 1) := dk_46 (dk_at dksJ13___kernel_rem_pio2_17 16 rfl rfl)
theorem dJ13___kernel_rem_pio2_417 : decode cJ13___kernel_rem_pio2 417 = .ok (.istore 14, 2) := dk_54 14 (dk_at dksJ13___kernel_rem_pio2_17 17 rfl rfl)
theorem dJ13___kernel_rem_pio2_419 : decode cJ13___kernel_rem_pio2 419 = .ok (.iload 11, 2) := dk_21 11 (dk_at dksJ13___kernel_rem_pio2_17 19 rfl rfl)
theorem dJ13___kernel_rem_pio2_421 : decode cJ13___kernel_rem_pio2 421 = .ok (.ifCond .ne 24, 3) := dk_154 0 24 (dk_at dksJ13___kernel_rem_pio2_17 21 rfl rfl)
theorem dJ13___kernel_rem_pio2_424 : decode cJ13___kernel_rem_pio2 424 = .ok (.iload 14, 2) := dk_21 14 (dk_at dksJ13___kernel_rem_pio2_18 0 rfl rfl)
theorem dJ13___kernel_rem_pio2_426 : decode cJ13___kernel_rem_pio2 426 = .ok (.ifCond .eq 29, 3) := dk_153 0 29 (dk_at dksJ13___kernel_rem_pio2_18 2 rfl rfl)
theorem dJ13___kernel_rem_pio2_429 : decode cJ13___kernel_rem_pio2 429 = .ok (.iconst 1, 1) := dk_4 (dk_at dksJ13___kernel_rem_pio2_18 5 rfl rfl)
theorem dJ13___kernel_rem_pio2_430 : decode cJ13___kernel_rem_pio2 430 = .ok (.istore 11, 2) := dk_54 11 (dk_at dksJ13___kernel_rem_pio2_18 6 rfl rfl)
theorem dJ13___kernel_rem_pio2_432 : decode cJ13___kernel_rem_pio2 432 = .ok (.aload 19, 2) := dk_25 19 (dk_at dksJ13___kernel_rem_pio2_18 8 rfl rfl)
theorem dJ13___kernel_rem_pio2_434 : decode cJ13___kernel_rem_pio2 434 = .ok (.iload 13, 2) := dk_21 13 (dk_at dksJ13___kernel_rem_pio2_18 10 rfl rfl)
theorem dJ13___kernel_rem_pio2_436 : decode cJ13___kernel_rem_pio2 436 = .ok (.ldc 35, 2) := dk_18 35 (dk_at dksJ13___kernel_rem_pio2_18 12 rfl rfl)
theorem dJ13___kernel_rem_pio2_438 : decode cJ13___kernel_rem_pio2 438 = .ok (.iload 14, 2) := dk_21 14 (dk_at dksJ13___kernel_rem_pio2_18 14 rfl rfl)
theorem dJ13___kernel_rem_pio2_440 : decode cJ13___kernel_rem_pio2 440 = .ok (.isub, 1) := dk_100 (dk_at dksJ13___kernel_rem_pio2_18 16 rfl rfl)
theorem dJ13___kernel_rem_pio2_441 : decode cJ13___kernel_rem_pio2 441 = .ok (.iastore, 1) := dk_79 (dk_at dksJ13___kernel_rem_pio2_18 17 rfl rfl)
theorem dJ13___kernel_rem_pio2_442 : decode cJ13___kernel_rem_pio2 442 = .ok (.goto 13, 3) := dk_167 0 13 (dk_at dksJ13___kernel_rem_pio2_18 18 rfl rfl)
theorem dJ13___kernel_rem_pio2_445 : decode cJ13___kernel_rem_pio2 445 = .ok (.aload 19, 2) := dk_25 19 (dk_at dksJ13___kernel_rem_pio2_18 21 rfl rfl)
theorem dJ13___kernel_rem_pio2_447 : decode cJ13___kernel_rem_pio2 447 = .ok (.iload 13, 2) := dk_21 13 (dk_at dksJ13___kernel_rem_pio2_19 0 rfl rfl)
theorem dJ13___kernel_rem_pio2_449 : decode cJ13___kernel_rem_pio2 449 = .ok (.ldc 36, 2) := dk_18 36 (dk_at dksJ13___kernel_rem_pio2_19 2 rfl rfl)
theorem dJ13___kernel_rem_pio2_451 : decode cJ13___kernel_rem_pio2 451 = .ok (.iload 14, 2) := dk_21 14 (dk_at dksJ13___kernel_rem_pio2_19 4 rfl rfl)
theorem dJ13___kernel_rem_pio2_453 : decode cJ13___kernel_rem_pio2 453 = .ok (.isub, 1) := dk_100 (dk_at dksJ13___kernel_rem_pio2_19 6 rfl rfl)
theorem dJ13___kernel_rem_pio2_454 : decode cJ13___kernel_rem_pio2 454 = .ok (.iastore, 1) := dk_79 (dk_at dksJ13___kernel_rem_pio2_19 7 rfl rfl)
theorem dJ13___kernel_rem_pio2_455 : decode cJ13___kernel_rem_pio2 455 = .ok (.iinc 13 1, 3) := dk_132 13 1 (dk_at dksJ13___kernel_rem_pio2_19 8 rfl rfl)
theorem dJ13___kernel_rem_pio2_458 : decode cJ13___kernel_rem_pio2 458 = .ok (.goto (-53), 3) := dk_167 255 203 (dk_at dksJ13___kernel_rem_pio2_19 11 rfl rfl)
theorem dJ13___kernel_rem_pio2_461 : decode cJ13___kernel_rem_pio2 461 = .ok (.iload 17, 2) := dk_21 17 (dk_at dksJ13___kernel_rem_pio2_19 14 rfl rfl)
theorem dJ13___kernel_rem_pio2_463 : decode cJ13___kernel_rem_pio2 463 = .ok (.ifCond .le 60, 3) := dk_158 0 60 (dk_at dksJ13___kernel_rem_pio2_19 16 rfl rfl)
theorem dJ13___kernel_rem_pio2_466 : decode cJ13___kernel_rem_pio2 466 = .ok (.iload 17, 2) := dk_21 17 (dk_at dksJ13___kernel_rem_pio2_19 19 rfl rfl)
theorem dJ13___kernel_rem_pio2_468 : decode cJ13___kernel_rem_pio2 468 = .ok (.lookupswitch 55 #[(1, 28), (2, 43)], 28) := by decide +kernel
theorem dJ13___kernel_rem_pio2_496 : decode cJ13___kernel_rem_pio2 496 = .ok (.aload 19, 2) := dk_25 19 (dk_at dksJ13___kernel_rem_pio2_21 0 rfl rfl)
theorem dJ13___kernel_rem_pio2_498 : decode cJ13___kernel_rem_pio2 498 = .ok (.iload 6, 2) := dk_21 6 (dk_at dksJ13___kernel_rem_pio2_21 2 rfl rfl)
theorem dJ13___kernel_rem_pio2_500 : decode cJ13___kernel_rem_pio2 500 = .ok (.iconst 1, 1) := dk_4 (dk_at dksJ13___kernel_rem_pio2_21 4 rfl rfl)
theorem dJ13___kernel_rem_pio2_501 : decode cJ13___kernel_rem_pio2 501 = .ok (.isub, 1) := dk_100 (dk_at dksJ13___kernel_rem_pio2_21 5 rfl rfl)
theorem dJ13___kernel_rem_pio2_502 : decode cJ13___kernel_rem_pio2 502 = .ok (.dup2, 1) := dk_92 (dk_at dksJ13___kernel_rem_pio2_21 6 rfl rfl)
theorem dJ13___kernel_rem_pio2_503 : decode cJ13___kernel_rem_pio2 503 = .ok (.iaload, 1) := dk_46 (dk_at dksJ13___kernel_rem_pio2_21 7 rfl rfl)
theorem dJ13___kernel_rem_pio2_504 : decode cJ13___kernel_rem_pio2 504 = .ok (.ldc 37, 2) := dk_18 37 (dk_at dksJ13___kernel_rem_pio2_21 8 rfl rfl)
theorem dJ13___kernel_rem_pio2_506 : decode cJ13___kernel_rem_pio2 506 = .ok (.iand, 1) := dk_126 (dk_at dksJ13___kernel_rem_pio2_21 10 rfl rfl)
theorem dJ13___kernel_rem_pio2_507 : decode cJ13___kernel_rem_pio2 507 = .ok (.iastore, 1) := dk_79 (dk_at dksJ13___kernel_rem_pio2_21 11 rfl rfl)
theorem dJ13___kernel_rem_pio2_508 : decode cJ13___kernel_rem_pio2 508 = .ok (.goto 15, 3) := dk_167 0 15 (dk_at dksJ13___kernel_rem_pio2_21 12 rfl rfl)
theorem dJ13___kernel_rem_pio2_511 : decode cJ13___kernel_rem_pio2 511 = .ok (.aload 19, 2) := dk_25 19 (dk_at dksJ13___kernel_rem_pio2_21 15 rfl rfl)
theorem dJ13___kernel_rem_pio2_513 : decode cJ13___kernel_rem_pio2 513 = .ok (.iload 6, 2) := dk_21 6 (dk_at dksJ13___kernel_rem_pio2_21 17 rfl rfl)
theorem dJ13___kernel_rem_pio2_515 : decode cJ13___kernel_rem_pio2 515 = .ok (.iconst 1, 1) := dk_4 (dk_at dksJ13___kernel_rem_pio2_21 19 rfl rfl)
theorem dJ13___kernel_rem_pio2_516 : decode cJ13___kernel_rem_pio2 516 = .ok (.isub, 1) := dk_100 (dk_at dksJ13___kernel_rem_pio2_21 20 rfl rfl)
theorem dJ13___kernel_rem_pio2_517 : decode cJ13___kernel_rem_pio2 517 = .ok (.dup2, 1) := dk_92 (dk_at dksJ13___kernel_rem_pio2_21 21 rfl rfl)
theorem dJ13___kernel_rem_pio2_518 : decode cJ13___kernel_rem_pio2 518 = .ok (.iaload, 1) := dk_46 (dk_at dksJ13___kernel_rem_pio2_21 22 rfl rfl)
theorem dJ13___kernel_rem_pio2_519 : decode cJ13___kernel_rem_pio2 519 = .ok (.ldc 38, 2) := dk_18 38 (dk_at dksJ13___kernel_rem_pio2_22 0 rfl rfl)
theorem dJ13___kernel_rem_pio2_521 : decode cJ13___kernel_rem_pio2 521 = .ok (.iand, 1) := dk_126 (dk_at dksJ13___kernel_rem_pio2_22 2 rfl rfl)
theorem dJ13___kernel_rem_pio2_522 : decode cJ13___kernel_rem_pio2 522 = .ok (.iastore, 1) := dk_79 (dk_at dksJ13___kernel_rem_pio2_22 3 rfl rfl)
theorem dJ13___kernel_rem_pio2_523 : decode cJ13___kernel_rem_pio2 523 = .ok (.iload 18, 2) := dk_21 18 (dk_at dksJ13___kernel_rem_pio2_22 4 rfl rfl)
theorem dJ13___kernel_rem_pio2_525 : decode cJ13___kernel_rem_pio2 525 = .ok (.iconst 2, 1) := dk_5 (dk_at dksJ13___kernel_rem_pio2_22 6 rfl rfl)
theorem dJ13___kernel_rem_pio2_526 : decode cJ13___kernel_rem_pio2 526 = .ok (.if_icmp .ne 25, 3) := dk_160 0 25 (dk_at dksJ13___kernel_rem_pio2_22 7 rfl rfl)
theorem dJ13___kernel_rem_pio2_529 : decode cJ13___kernel_rem_pio2 529 = .ok (.dconst 1, 1) := dk_15 (dk_at dksJ13___kernel_rem_pio2_22 10 rfl rfl)
theorem dJ13___kernel_rem_pio2_530 : decode cJ13___kernel_rem_pio2 530 = .ok (.dload 20, 2) := dk_24 20 (dk_at dksJ13___kernel_rem_pio2_22 11 rfl rfl)
theorem dJ13___kernel_rem_pio2_532 : decode cJ13___kernel_rem_pio2 532 = .ok (.dsub, 1) := dk_103 (dk_at dksJ13___kernel_rem_pio2_22 13 rfl rfl)
theorem dJ13___kernel_rem_pio2_533 : decode cJ13___kernel_rem_pio2 533 = .ok (.dstore 20, 2) := dk_57 20 (dk_at dksJ13___kernel_rem_pio2_22 14 rfl rfl)
theorem dJ13___kernel_rem_pio2_535 : decode cJ13___kernel_rem_pio2 535 = .ok (.iload 11, 2) := dk_21 11 (dk_at dksJ13___kernel_rem_pio2_22 16 rfl rfl)
theorem dJ13___kernel_rem_pio2_537 : decode cJ13___kernel_rem_pio2 537 = .ok (.ifCond .eq 14, 3) := dk_153 0 14 (dk_at dksJ13___kernel_rem_pio2_22 18 rfl rfl)
theorem dJ13___kernel_rem_pio2_540 : decode cJ13___kernel_rem_pio2 540 = .ok (.dload 20, 2) := dk_24 20 (dk_at dksJ13___kernel_rem_pio2_22 21 rfl rfl)
theorem dJ13___kernel_rem_pio2_542 : decode cJ13___kernel_rem_pio2 542 = .ok (.dconst 1, 1) := dk_15 (dk_at dksJ13___kernel_rem_pio2_22 23 rfl rfl)
theorem dJ13___kernel_rem_pio2_543 : decode cJ13___kernel_rem_pio2 543 = .ok (.iload 17, 2) := dk_21 17 (dk_at dksJ13___kernel_rem_pio2_23 0 rfl rfl)
theorem dJ13___kernel_rem_pio2_545 : decode cJ13___kernel_rem_pio2 545 = .ok (.invokestatic 19, 3) := dk_184 0 19 (dk_at dksJ13___kernel_rem_pio2_23 2 rfl rfl)
theorem dJ13___kernel_rem_pio2_548 : decode cJ13___kernel_rem_pio2 548 = .ok (.dsub, 1) := dk_103 (dk_at dksJ13___kernel_rem_pio2_23 5 rfl rfl)
theorem dJ13___kernel_rem_pio2_549 : decode cJ13___kernel_rem_pio2 549 = .ok (.dstore 20, 2) := dk_57 20 (dk_at dksJ13___kernel_rem_pio2_23 6 rfl rfl)
theorem dJ13___kernel_rem_pio2_551 : decode cJ13___kernel_rem_pio2 551 = .ok (.dload 20, 2) := dk_24 20 (dk_at dksJ13___kernel_rem_pio2_23 8 rfl rfl)
theorem dJ13___kernel_rem_pio2_553 : decode cJ13___kernel_rem_pio2 553 = .ok (.dconst 0, 1) := dk_14 (dk_at dksJ13___kernel_rem_pio2_23 10 rfl rfl)
theorem dJ13___kernel_rem_pio2_554 : decode cJ13___kernel_rem_pio2 554 = .ok (.dcmp .l, 1) := dk_151 (dk_at dksJ13___kernel_rem_pio2_23 11 rfl rfl)
theorem dJ13___kernel_rem_pio2_555 : decode cJ13___kernel_rem_pio2 555 = .ok (.ifCond .ne 156, 3) := dk_154 0 156 (dk_at dksJ13___kernel_rem_pio2_23 12 rfl rfl)
theorem dJ13___kernel_rem_pio2_558 : decode cJ13___kernel_rem_pio2 558 = .ok (.iconst 0, 1) := dk_3 (dk_at dksJ13___kernel_rem_pio2_23 15 rfl rfl)
theorem dJ13___kernel_rem_pio2_559 : decode cJ13___kernel_rem_pio2 559 = .ok (.istore 14, 2) := dk_54 14 (dk_at dksJ13___kernel_rem_pio2_23 16 rfl rfl)
theorem dJ13___kernel_rem_pio2_561 : decode cJ13___kernel_rem_pio2 561 = .ok (.iload 6, 2) := dk_21 6 (dk_at dksJ13___kernel_rem_pio2_23 18 rfl rfl)
theorem dJ13___kernel_rem_pio2_563 : decode cJ13___kernel_rem_pio2 563 = .ok (.iconst 1, 1) := dk_4 (dk_at dksJ13___kernel_rem_pio2_23 20 rfl rfl)
theorem dJ13___kernel_rem_pio2_564 : decode cJ13___kernel_rem_pio2 564 = .ok (.isub, 1) := dk_100 (dk_at dksJ13___kernel_rem_pio2_23 21 rfl rfl)
theorem dJ13___kernel_rem_pio2_565 : decode cJ13___kernel_rem_pio2 565 = .ok (.istore 13, 2) := dk_54 13 (dk_at dksJ13___kernel_rem_pio2_23 22 rfl rfl)
theorem dJ13___kernel_rem_pio2_567 : decode cJ13___kernel_rem_pio2 567 = .ok (.iload 13, 2) := dk_21 13 (dk_at dksJ13___kernel_rem_pio2_24 0 rfl rfl)
theorem dJ13___kernel_rem_pio2_569 : decode cJ13___kernel_rem_pio2 569 = .ok (.iload 10, 2) := dk_21 10 (dk_at dksJ13___kernel_rem_pio2_24 2 rfl rfl)
theorem dJ13___kernel_rem_pio2_571 : decode cJ13___kernel_rem_pio2 571 = .ok (.if_icmp .lt 19, 3) := dk_161 0 19 (dk_at dksJ13___kernel_rem_pio2_24 4 rfl rfl)
theorem dJ13___kernel_rem_pio2_574 : decode cJ13___kernel_rem_pio2 574 = .ok (.iload 14, 2) := dk_21 14 (dk_at dksJ13___kernel_rem_pio2_24 7 rfl rfl)
theorem dJ13___kernel_rem_pio2_576 : decode cJ13___kernel_rem_pio2 576 = .ok (.aload 19, 2) := dk_25 19 (dk_at dksJ13___kernel_rem_pio2_24 9 rfl rfl)
theorem dJ13___kernel_rem_pio2_578 : decode cJ13___kernel_rem_pio2 578 = .ok (.iload 13, 2) := dk_21 13 (dk_at dksJ13___kernel_rem_pio2_24 11 rfl rfl)
theorem dJ13___kernel_rem_pio2_580 : decode cJ13___kernel_rem_pio2 580 = .ok (.iaload, 1) := dk_46 (dk_at dksJ13___kernel_rem_pio2_24 13 rfl rfl)
theorem dJ13___kernel_rem_pio2_581 : decode cJ13___kernel_rem_pio2 581 = .ok (.ior, 1) := dk_128 (dk_at dksJ13___kernel_rem_pio2_24 14 rfl rfl)
theorem dJ13___kernel_rem_pio2_582 : decode cJ13___kernel_rem_pio2 582 = .ok (.istore 14, 2) := dk_54 14 (dk_at dksJ13___kernel_rem_pio2_24 15 rfl rfl)
theorem dJ13___kernel_rem_pio2_584 : decode cJ13___kernel_rem_pio2 584 = .ok (.iinc 13 (-1), 3) := dk_132 13 255 (dk_at dksJ13___kernel_rem_pio2_24 17 rfl rfl)
theorem dJ13___kernel_rem_pio2_587 : decode cJ13___kernel_rem_pio2 587 = .ok (.goto (-20), 3) := dk_167 255 236 (dk_at dksJ13___kernel_rem_pio2_24 20 rfl rfl)
theorem dJ13___kernel_rem_pio2_590 : decode cJ13___kernel_rem_pio2 590 = .ok (.iload 14, 2) := dk_21 14 (dk_at dksJ13___kernel_rem_pio2_25 0 rfl rfl)
theorem dJ13___kernel_rem_pio2_592 : decode cJ13___kernel_rem_pio2 592 = .ok (.ifCond .ne 119, 3) := dk_154 0 119 (dk_at dksJ13___kernel_rem_pio2_25 2 rfl rfl)
theorem dJ13___kernel_rem_pio2_595 : decode cJ13___kernel_rem_pio2 595 = .ok (.iconst 1, 1) := dk_4 (dk_at dksJ13___kernel_rem_pio2_25 5 rfl rfl)
theorem dJ13___kernel_rem_pio2_596 : decode cJ13___kernel_rem_pio2 596 = .ok (.istore 15, 2) := dk_54 15 (dk_at dksJ13___kernel_rem_pio2_25 6 rfl rfl)
theorem dJ13___kernel_rem_pio2_598 : decode cJ13___kernel_rem_pio2 598 = .ok (.aload 19, 2) := dk_25 19 (dk_at dksJ13___kernel_rem_pio2_25 8 rfl rfl)
theorem dJ13___kernel_rem_pio2_600 : decode cJ13___kernel_rem_pio2 600 = .ok (.iload 10, 2) := dk_21 10 (dk_at dksJ13___kernel_rem_pio2_25 10 rfl rfl)
theorem dJ13___kernel_rem_pio2_602 : decode cJ13___kernel_rem_pio2 602 = .ok (.iload 15, 2) := dk_21 15 (dk_at dksJ13___kernel_rem_pio2_25 12 rfl rfl)
theorem dJ13___kernel_rem_pio2_604 : decode cJ13___kernel_rem_pio2 604 = .ok (.isub, 1) := dk_100 (dk_at dksJ13___kernel_rem_pio2_25 14 rfl rfl)
theorem dJ13___kernel_rem_pio2_605 : decode cJ13___kernel_rem_pio2 605 = .ok (.iaload, 1) := dk_46 (dk_at dksJ13___kernel_rem_pio2_25 15 rfl rfl)
theorem dJ13___kernel_rem_pio2_606 : decode cJ13___kernel_rem_pio2 606 = .ok (.ifCond .ne 9, 3) := dk_154 0 9 (dk_at dksJ13___kernel_rem_pio2_25 16 rfl rfl)
theorem dJ13___kernel_rem_pio2_609 : decode cJ13___kernel_rem_pio2 609 = .ok (.iinc 15 1, 3) := dk_132 15 1 (dk_at dksJ13___kernel_rem_pio2_25 19 rfl rfl)
theorem dJ13___kernel_rem_pio2_612 : decode cJ13___kernel_rem_pio2 612 = .ok (.goto (-14), 3) := dk_167 255 242 (dk_at dksJ13___kernel_rem_pio2_26 0 rfl rfl)
theorem dJ13___kernel_rem_pio2_615 : decode cJ13___kernel_rem_pio2 615 = .ok (.iload 6, 2) := dk_21 6 (dk_at dksJ13___kernel_rem_pio2_26 3 rfl rfl)
theorem dJ13___kernel_rem_pio2_617 : decode cJ13___kernel_rem_pio2 617 = .ok (.iconst 1, 1) := dk_4 (dk_at dksJ13___kernel_rem_pio2_26 5 rfl rfl)
theorem dJ13___kernel_rem_pio2_618 : decode cJ13___kernel_rem_pio2 618 = .ok (.iadd, 1) := dk_96 (dk_at dksJ13___kernel_rem_pio2_26 6 rfl rfl)
theorem dJ13___kernel_rem_pio2_619 : decode cJ13___kernel_rem_pio2 619 = .ok (.istore 13, 2) := dk_54 13 (dk_at dksJ13___kernel_rem_pio2_26 7 rfl rfl)
theorem dJ13___kernel_rem_pio2_621 : decode cJ13___kernel_rem_pio2 621 = .ok (.iload 13, 2) := dk_21 13 (dk_at dksJ13___kernel_rem_pio2_26 9 rfl rfl)
theorem dJ13___kernel_rem_pio2_623 : decode cJ13___kernel_rem_pio2 623 = .ok (.iload 6, 2) := dk_21 6 (dk_at dksJ13___kernel_rem_pio2_26 11 rfl rfl)
theorem dJ13___kernel_rem_pio2_625 : decode cJ13___kernel_rem_pio2 625 = .ok (.iload 15, 2) := dk_21 15 (dk_at dksJ13___kernel_rem_pio2_26 13 rfl rfl)
theorem dJ13___kernel_rem_pio2_627 : decode cJ13___kernel_rem_pio2 627 = .ok (.iadd, 1) := dk_96 (dk_at dksJ13___kernel_rem_pio2_26 15 rfl rfl)
theorem dJ13___kernel_rem_pio2_628 : decode cJ13___kernel_rem_pio2 628 = .ok (.if_icmp .gt 73, 3) := dk_163 0 73 (dk_at dksJ13___kernel_rem_pio2_26 16 rfl rfl)
theorem dJ13___kernel_rem_pio2_631 : decode cJ13___kernel_rem_pio2 631 = .ok (.aload 24, 2) := dk_25 24 (dk_at dksJ13___kernel_rem_pio2_26 19 rfl rfl)
theorem dJ13___kernel_rem_pio2_633 : decode cJ13___kernel_rem_pio2 633 = .ok (.iload 7, 2) := dk_21 7 (dk_at dksJ13___kernel_rem_pio2_26 21 rfl rfl)
theorem dJ13___kernel_rem_pio2_635 : decode cJ13___kernel_rem_pio2 635 = .ok (.iload 13, 2) := dk_21 13 (dk_at dksJ13___kernel_rem_pio2_27 0 rfl rfl)
theorem dJ13___kernel_rem_pio2_637 : decode cJ13___kernel_rem_pio2 637 = .ok (.iadd, 1) := dk_96 (dk_at dksJ13___kernel_rem_pio2_27 2 rfl rfl)
theorem dJ13___kernel_rem_pio2_638 : decode cJ13___kernel_rem_pio2 638 = .ok (.aload 5, 2) := dk_25 5 (dk_at dksJ13___kernel_rem_pio2_27 3 rfl rfl)
theorem dJ13___kernel_rem_pio2_640 : decode cJ13___kernel_rem_pio2 640 = .ok (.iload 8, 2) := dk_21 8 (dk_at dksJ13___kernel_rem_pio2_27 5 rfl rfl)
theorem dJ13___kernel_rem_pio2_642 : decode cJ13___kernel_rem_pio2 642 = .ok (.iload 13, 2) := dk_21 13 (dk_at dksJ13___kernel_rem_pio2_27 7 rfl rfl)
theorem dJ13___kernel_rem_pio2_644 : decode cJ13___kernel_rem_pio2 644 = .ok (.iadd, 1) := dk_96 (dk_at dksJ13___kernel_rem_pio2_27 9 rfl rfl)
theorem dJ13___kernel_rem_pio2_645 : decode cJ13___kernel_rem_pio2 645 = .ok (.iaload, 1) := dk_46 (dk_at dksJ13___kernel_rem_pio2_27 10 rfl rfl)
theorem dJ13___kernel_rem_pio2_646 : decode cJ13___kernel_rem_pio2 646 = .ok (.i2d, 1) := dk_135 (dk_at dksJ13___kernel_rem_pio2_27 11 rfl rfl)
theorem dJ13___kernel_rem_pio2_647 : decode cJ13___kernel_rem_pio2 647 = .ok (.dastore, 1) := dk_82 (dk_at dksJ13___kernel_rem_pio2_27 12 rfl rfl)
theorem dJ13___kernel_rem_pio2_648 : decode cJ13___kernel_rem_pio2 648 = .ok (.iconst 0, 1) := dk_3 (dk_at dksJ13___kernel_rem_pio2_27 13 rfl rfl)
theorem dJ13___kernel_rem_pio2_649 : decode cJ13___kernel_rem_pio2 649 = .ok (.istore 14, 2) := dk_54 14 (dk_at dksJ13___kernel_rem_pio2_27 14 rfl rfl)
theorem dJ13___kernel_rem_pio2_651 : decode cJ13___kernel_rem_pio2 651 = .ok (.dconst 0, 1) := dk_14 (dk_at dksJ13___kernel_rem_pio2_27 16 rfl rfl)
theorem dJ13___kernel_rem_pio2_652 : decode cJ13___kernel_rem_pio2 652 = .ok (.dstore 22, 2) := dk_57 22 (dk_at dksJ13___kernel_rem_pio2_27 17 rfl rfl)
theorem dJ13___kernel_rem_pio2_654 : decode cJ13___kernel_rem_pio2 654 = .ok (.iload 14, 2) := dk_21 14 (dk_at dksJ13___kernel_rem_pio2_27 19 rfl rfl)
theorem dJ13___kernel_rem_pio2_656 : decode cJ13___kernel_rem_pio2 656 = .ok (.iload 7, 2) := dk_21 7 (dk_at dksJ13___kernel_rem_pio2_27 21 rfl rfl)
theorem dJ13___kernel_rem_pio2_658 : decode cJ13___kernel_rem_pio2 658 = .ok (.if_icmp .gt 30, 3) := dk_163 0 30 (dk_at dksJ13___kernel_rem_pio2_28 0 rfl rfl)
theorem dJ13___kernel_rem_pio2_661 : decode cJ13___kernel_rem_pio2 661 = .ok (.dload 22, 2) := dk_24 22 (dk_at dksJ13___kernel_rem_pio2_28 3 rfl rfl)
theorem dJ13___kernel_rem_pio2_663 : decode cJ13___kernel_rem_pio2 663 = .ok (.aload_n 0, 1) := dk_42 (dk_at dksJ13___kernel_rem_pio2_28 5 rfl rfl)
theorem dJ13___kernel_rem_pio2_664 : decode cJ13___kernel_rem_pio2 664 = .ok (.iload 14, 2) := dk_21 14 (dk_at dksJ13___kernel_rem_pio2_28 6 rfl rfl)
theorem dJ13___kernel_rem_pio2_666 : decode cJ13___kernel_rem_pio2 666 = .ok (.daload, 1) := dk_49 (dk_at dksJ13___kernel_rem_pio2_28 8 rfl rfl)
theorem dJ13___kernel_rem_pio2_667 : decode cJ13___kernel_rem_pio2 667 = .ok (.aload 24, 2) := dk_25 24 (dk_at dksJ13___kernel_rem_pio2_28 9 rfl rfl)
theorem dJ13___kernel_rem_pio2_669 : decode cJ13___kernel_rem_pio2 669 = .ok (.iload 7, 2) := dk_21 7 (dk_at dksJ13___kernel_rem_pio2_28 11 rfl rfl)
theorem dJ13___kernel_rem_pio2_671 : decode cJ13___kernel_rem_pio2 671 = .ok (.iload 13, 2) := dk_21 13 (dk_at dksJ13___kernel_rem_pio2_28 13 rfl rfl)
theorem dJ13___kernel_rem_pio2_673 : decode cJ13___kernel_rem_pio2 673 = .ok (.iadd, 1) := dk_96 (dk_at dksJ13___kernel_rem_pio2_28 15 rfl rfl)
theorem dJ13___kernel_rem_pio2_674 : decode cJ13___kernel_rem_pio2 674 = .ok (.iload 14, 2) := dk_21 14 (dk_at dksJ13___kernel_rem_pio2_28 16 rfl rfl)
theorem dJ13___kernel_rem_pio2_676 : decode cJ13___kernel_rem_pio2 676 = .ok (.isub, 1) := dk_100 (dk_at dksJ13___kernel_rem_pio2_28 18 rfl rfl)
theorem dJ13___kernel_rem_pio2_677 : decode cJ13___kernel_rem_pio2 677 = .ok (.daload, 1) := dk_49 (dk_at dksJ13___kernel_rem_pio2_28 19 rfl rfl)
theorem dJ13___kernel_rem_pio2_678 : decode cJ13___kernel_rem_pio2 678 = .ok (.dmul, 1) := dk_107 (dk_at dksJ13___kernel_rem_pio2_28 20 rfl rfl)
theorem dJ13___kernel_rem_pio2_679 : decode cJ13___kernel_rem_pio2 679 = .ok (.dadd, 1) := dk_99 (dk_at dksJ13___kernel_rem_pio2_28 21 rfl rfl)
theorem dJ13___kernel_rem_pio2_680 : decode cJ13___kernel_rem_pio2 680 = .ok (.dstore 22, 2) := dk_57 22 (dk_at dksJ13___kernel_rem_pio2_28 22 rfl rfl)
theorem dJ13___kernel_rem_pio2_682 : decode cJ13___kernel_rem_pio2 682 = .ok (.iinc 14 1, 3) := dk_132 14 1 (dk_at dksJ13___kernel_rem_pio2_29 0 rfl rfl)
theorem dJ13___kernel_rem_pio2_685 : decode cJ13___kernel_rem_pio2 685 = .ok (.goto (-31), 3) := dk_167 255 225 (dk_at dksJ13___kernel_rem_pio2_29 3 rfl rfl)
theorem dJ13___kernel_rem_pio2_688 : decode cJ13___kernel_rem_pio2 688 = .ok (.aload 26, 2) := dk_25 26 (dk_at dksJ13___kernel_rem_pio2_29 6 rfl rfl)
theorem dJ13___kernel_rem_pio2_690 : decode cJ13___kernel_rem_pio2 690 = .ok (.iload 13, 2) := dk_21 13 (dk_at dksJ13___kernel_rem_pio2_29 8 rfl rfl)
theorem dJ13___kernel_rem_pio2_692 : decode cJ13___kernel_rem_pio2 692 = .ok (.dload 22, 2) := dk_24 22 (dk_at dksJ13___kernel_rem_pio2_29 10 rfl rfl)
theorem dJ13___kernel_rem_pio2_694 : decode cJ13___kernel_rem_pio2 694 = .ok (.dastore, 1) := dk_82 (dk_at dksJ13___kernel_rem_pio2_29 12 rfl rfl)
theorem dJ13___kernel_rem_pio2_695 : decode cJ13___kernel_rem_pio2 695 = .ok (.iinc 13 1, 3) := dk_132 13 1 (dk_at dksJ13___kernel_rem_pio2_29 13 rfl rfl)
theorem dJ13___kernel_rem_pio2_698 : decode cJ13___kernel_rem_pio2 698 = .ok (.goto (-77), 3) := dk_167 255 179 (dk_at dksJ13___kernel_rem_pio2_29 16 rfl rfl)
theorem dJ13___kernel_rem_pio2_701 : decode cJ13___kernel_rem_pio2 701 = .ok (.iload 6, 2) := dk_21 6 (dk_at dksJ13___kernel_rem_pio2_29 19 rfl rfl)
theorem dJ13___kernel_rem_pio2_703 : decode cJ13___kernel_rem_pio2 703 = .ok (.iload 15, 2) := dk_21 15 (dk_at dksJ13___kernel_rem_pio2_29 21 rfl rfl)
theorem dJ13___kernel_rem_pio2_705 : decode cJ13___kernel_rem_pio2 705 = .ok (.iadd, 1) := dk_96 (dk_at dksJ13___kernel_rem_pio2_29 23 rfl rfl)
theorem dJ13___kernel_rem_pio2_706 : decode cJ13___kernel_rem_pio2 706 = .ok (.istore 6, 2) := dk_54 6 (dk_at dksJ13___kernel_rem_pio2_30 0 rfl rfl)
theorem dJ13___kernel_rem_pio2_708 : decode cJ13___kernel_rem_pio2 708 = .ok (.goto (-520), 3) := dk_167 253 248 (dk_at dksJ13___kernel_rem_pio2_30 2 rfl rfl)
theorem dJ13___kernel_rem_pio2_711 : decode cJ13___kernel_rem_pio2 711 = .ok (.dload 20, 2) := dk_24 20 (dk_at dksJ13___kernel_rem_pio2_30 5 rfl rfl)
theorem dJ13___kernel_rem_pio2_713 : decode cJ13___kernel_rem_pio2 713 = .ok (.dconst 0, 1) := dk_14 (dk_at dksJ13___kernel_rem_pio2_30 7 rfl rfl)
theorem dJ13___kernel_rem_pio2_714 : decode cJ13___kernel_rem_pio2 714 = .ok (.dcmp .l, 1) := dk_151 (dk_at dksJ13___kernel_rem_pio2_30 8 rfl rfl)
theorem dJ13___kernel_rem_pio2_715 : decode cJ13___kernel_rem_pio2 715 = .ok (.ifCond .ne 26, 3) := dk_154 0 26 (dk_at dksJ13___kernel_rem_pio2_30 9 rfl rfl)
theorem dJ13___kernel_rem_pio2_718 : decode cJ13___kernel_rem_pio2 718 = .ok (.iinc 6 (-1), 3) := dk_132 6 255 (dk_at dksJ13___kernel_rem_pio2_30 12 rfl rfl)
theorem dJ13___kernel_rem_pio2_721 : decode cJ13___kernel_rem_pio2 721 = .ok (.iinc 17 (-24), 3) := dk_132 17 232 (dk_at dksJ13___kernel_rem_pio2_30 15 rfl rfl)
theorem dJ13___kernel_rem_pio2_724 : decode cJ13___kernel_rem_pio2 724 = .ok (.aload 19, 2) := dk_25 19 (dk_at dksJ13___kernel_rem_pio2_30 18 rfl rfl)
theorem dJ13___kernel_rem_pio2_726 : decode cJ13___kernel_rem_pio2 726 = .ok (.iload 6, 2) := dk_21 6 (dk_at dksJ13___kernel_rem_pio2_30 20 rfl rfl)
theorem dJ13___kernel_rem_pio2_728 : decode cJ13___kernel_rem_pio2 728 = .ok (.iaload, 1) := dk_46 (dk_at dksJ13___kernel_rem_pio2_30 22 rfl rfl)
theorem dJ13___kernel_rem_pio2_729 : decode cJ13___kernel_rem_pio2 729 = .ok (.ifCond .ne 81, 3) := dk_154 0 81 (dk_at dksJ13___kernel_rem_pio2_31 0 rfl rfl)
theorem dJ13___kernel_rem_pio2_732 : decode cJ13___kernel_rem_pio2 732 = .ok (.iinc 6 (-1), 3) := dk_132 6 255 (dk_at dksJ13___kernel_rem_pio2_31 3 rfl rfl)
theorem dJ13___kernel_rem_pio2_735 : decode cJ13___kernel_rem_pio2 735 = .ok (.iinc 17 (-24), 3) := dk_132 17 232 (dk_at dksJ13___kernel_rem_pio2_31 6 rfl rfl)
theorem dJ13___kernel_rem_pio2_738 : decode cJ13___kernel_rem_pio2 738 = .ok (.goto (-14), 3) := dk_167 255 242 (dk_at dksJ13___kernel_rem_pio2_31 9 rfl rfl)
theorem dJ13___kernel_rem_pio2_741 : decode cJ13___kernel_rem_pio2 741 = .ok (.dload 20, 2) := dk_24 20 (dk_at dksJ13___kernel_rem_pio2_31 12 rfl rfl)
theorem dJ13___kernel_rem_pio2_743 : decode cJ13___kernel_rem_pio2 743 = .ok (.iload 17, 2) := dk_21 17 (dk_at dksJ13___kernel_rem_pio2_31 14 rfl rfl)
theorem dJ13___kernel_rem_pio2_745 : decode cJ13___kernel_rem_pio2 745 = .ok (.ineg, 1) := dk_116 (dk_at dksJ13___kernel_rem_pio2_31 16 rfl rfl)
theorem dJ13___kernel_rem_pio2_746 : decode cJ13___kernel_rem_pio2 746 = .ok (.invokestatic 19, 3) := dk_184 0 19 (dk_at dksJ13___kernel_rem_pio2_31 17 rfl rfl)
theorem dJ13___kernel_rem_pio2_749 : decode cJ13___kernel_rem_pio2 749 = .ok (.dstore 20, 2) := dk_57 20 (dk_at dksJ13___kernel_rem_pio2_31 20 rfl rfl)
theorem dJ13___kernel_rem_pio2_751 : decode cJ13___kernel_rem_pio2 751 = .ok (.dload 20, 2) := dk_24 20 (dk_at dksJ13___kernel_rem_pio2_31 22 rfl rfl)
theorem dJ13___kernel_rem_pio2_753 : decode cJ13___kernel_rem_pio2 753 = .ok (.ldc2_w 17, 3) := dk_20 0 17 (dk_at dksJ13___kernel_rem_pio2_32 0 rfl rfl)
theorem dJ13___kernel_rem_pio2_756 : decode cJ13___kernel_rem_pio2 756 = .ok (.dcmp .l, 1) := dk_151 (dk_at dksJ13___kernel_rem_pio2_32 3 rfl rfl)
theorem dJ13___kernel_rem_pio2_757 : decode cJ13___kernel_rem_pio2 757 = .ok (.ifCond .lt 45, 3) := dk_155 0 45 (dk_at dksJ13___kernel_rem_pio2_32 4 rfl rfl)
theorem dJ13___kernel_rem_pio2_760 : decode cJ13___kernel_rem_pio2 760 = .ok (.ldc2_w 15, 3) := dk_20 0 15 (dk_at dksJ13___kernel_rem_pio2_32 7 rfl rfl)
theorem dJ13___kernel_rem_pio2_763 : decode cJ13___kernel_rem_pio2 763 = .ok (.dload 20, 2) := dk_24 20 (dk_at dksJ13___kernel_rem_pio2_32 10 rfl rfl)
theorem dJ13___kernel_rem_pio2_765 : decode cJ13___kernel_rem_pio2 765 = .ok (.dmul, 1) := dk_107 (dk_at dksJ13___kernel_rem_pio2_32 12 rfl rfl)
theorem dJ13___kernel_rem_pio2_766 : decode cJ13___kernel_rem_pio2 766 = .ok (.d2i, 1) := dk_142 (dk_at dksJ13___kernel_rem_pio2_32 13 rfl rfl)
theorem dJ13___kernel_rem_pio2_767 : decode cJ13___kernel_rem_pio2 767 = .ok (.i2d, 1) := dk_135 (dk_at dksJ13___kernel_rem_pio2_32 14 rfl rfl)
theorem dJ13___kernel_rem_pio2_768 : decode cJ13___kernel_rem_pio2 768 = .ok (.dstore 22, 2) := dk_57 22 (dk_at dksJ13___kernel_rem_pio2_32 15 rfl rfl)
theorem dJ13___kernel_rem_pio2_770 : decode cJ13___kernel_rem_pio2 770 = .ok (.aload 19, 2) := dk_25 19 (dk_at dksJ13___kernel_rem_pio2_32 17 rfl rfl)
theorem dJ13___kernel_rem_pio2_772 : decode cJ13___kernel_rem_pio2 772 = .ok (.iload 6, 2) := dk_21 6 (dk_at dksJ13___kernel_rem_pio2_32 19 rfl rfl)
theorem dJ13___kernel_rem_pio2_774 : decode cJ13___kernel_rem_pio2 774 = .ok (.dload 20, 2) := dk_24 20 (dk_at dksJ13___kernel_rem_pio2_32 21 rfl rfl)
theorem dJ13___kernel_rem_pio2_776 : decode cJ13___kernel_rem_pio2 776 = .ok (.ldc2_w 17, 3) := dk_20 0 17 (dk_at dksJ13___kernel_rem_pio2_33 0 rfl rfl)
theorem dJ13___kernel_rem_pio2_779 : decode cJ13___kernel_rem_pio2 779 = .ok (.dload 22, 2) := dk_24 22 (dk_at dksJ13___kernel_rem_pio2_33 3 rfl rfl)
theorem dJ13___kernel_rem_pio2_781 : decode cJ13___kernel_rem_pio2 781 = .ok (.dmul, 1) := dk_107 (dk_at dksJ13___kernel_rem_pio2_33 5 rfl rfl)
theorem dJ13___kernel_rem_pio2_782 : decode cJ13___kernel_rem_pio2 782 = .ok (.dsub, 1) := dk_103 (dk_at dksJ13___kernel_rem_pio2_33 6 rfl rfl)
theorem dJ13___kernel_rem_pio2_783 : decode cJ13___kernel_rem_pio2 783 = .ok (.d2i, 1) := dk_142 (dk_at dksJ13___kernel_rem_pio2_33 7 rfl rfl)
theorem dJ13___kernel_rem_pio2_784 : decode cJ13___kernel_rem_pio2 784 = .ok (.iastore, 1) := dk_79 (dk_at dksJ13___kernel_rem_pio2_33 8 rfl rfl)
theorem dJ13___kernel_rem_pio2_785 : decode cJ13___kernel_rem_pio2 785 = .ok (.iinc 6 1, 3) := dk_132 6 1 (dk_at dksJ13___kernel_rem_pio2_33 9 rfl rfl)
theorem dJ13___kernel_rem_pio2_788 : decode cJ13___kernel_rem_pio2 788 = .ok (.iinc 17 24, 3) := dk_132 17 24 (dk_at dksJ13___kernel_rem_pio2_33 12 rfl rfl)
theorem dJ13___kernel_rem_pio2_791 : decode cJ13___kernel_rem_pio2 791 = .ok (.aload 19, 2) := dk_25 19 (dk_at dksJ13___kernel_rem_pio2_33 15 rfl rfl)
theorem dJ13___kernel_rem_pio2_793 : decode cJ13___kernel_rem_pio2 793 = .ok (.iload 6, 2) := dk_21 6 (dk_at dksJ13___kernel_rem_pio2_33 17 rfl rfl)
theorem dJ13___kernel_rem_pio2_795 : decode cJ13___kernel_rem_pio2 795 = .ok (.dload 22, 2) := dk_24 22 (dk_at dksJ13___kernel_rem_pio2_33 19 rfl rfl)
theorem dJ13___kernel_rem_pio2_797 : decode cJ13___kernel_rem_pio2 797 = .ok (.d2i, 1) := dk_142 (dk_at dksJ13___kernel_rem_pio2_33 21 rfl rfl)
theorem dJ13___kernel_rem_pio2_798 : decode cJ13___kernel_rem_pio2 798 = .ok (.iastore, 1) := dk_79 (dk_at dksJ13___kernel_rem_pio2_33 22 rfl rfl)
theorem dJ13___kernel_rem_pio2_799 : decode cJ13___kernel_rem_pio2 799 = .ok (.goto 11, 3) := dk_167 0 11 (dk_at dksJ13___kernel_rem_pio2_34 0 rfl rfl)
theorem dJ13___kernel_rem_pio2_802 : decode cJ13___kernel_rem_pio2 802 = .ok (.aload 19, 2) := dk_25 19 (dk_at dksJ13___kernel_rem_pio2_34 3 rfl rfl)
theorem dJ13___kernel_rem_pio2_804 : decode cJ13___kernel_rem_pio2 804 = .ok (.iload 6, 2) := dk_21 6 (dk_at dksJ13___kernel_rem_pio2_34 5 rfl rfl)
theorem dJ13___kernel_rem_pio2_806 : decode cJ13___kernel_rem_pio2 806 = .ok (.dload 20, 2) := dk_24 20 (dk_at dksJ13___kernel_rem_pio2_34 7 rfl rfl)
theorem dJ13___kernel_rem_pio2_808 : decode cJ13___kernel_rem_pio2 808 = .ok (.d2i, 1) := dk_142 (dk_at dksJ13___kernel_rem_pio2_34 9 rfl rfl)
theorem dJ13___kernel_rem_pio2_809 : decode cJ13___kernel_rem_pio2 809 = .ok (.iastore, 1) := dk_79 (dk_at dksJ13___kernel_rem_pio2_34 10 rfl rfl)
theorem dJ13___kernel_rem_pio2_810 : decode cJ13___kernel_rem_pio2 810 = .ok (.dconst 1, 1) := dk_15 (dk_at dksJ13___kernel_rem_pio2_34 11 rfl rfl)
theorem dJ13___kernel_rem_pio2_811 : decode cJ13___kernel_rem_pio2 811 = .ok (.iload 17, 2) := dk_21 17 (dk_at dksJ13___kernel_rem_pio2_34 12 rfl rfl)
theorem dJ13___kernel_rem_pio2_813 : decode cJ13___kernel_rem_pio2 813 = .ok (.invokestatic 19, 3) := dk_184 0 19 (dk_at dksJ13___kernel_rem_pio2_34 14 rfl rfl)
theorem dJ13___kernel_rem_pio2_816 : decode cJ13___kernel_rem_pio2 816 = .ok (.dstore 22, 2) := dk_57 22 (dk_at dksJ13___kernel_rem_pio2_34 17 rfl rfl)
theorem dJ13___kernel_rem_pio2_818 : decode cJ13___kernel_rem_pio2 818 = .ok (.iload 6, 2) := dk_21 6 (dk_at dksJ13___kernel_rem_pio2_34 19 rfl rfl)
theorem dJ13___kernel_rem_pio2_820 : decode cJ13___kernel_rem_pio2 820 = .ok (.istore 13, 2) := dk_54 13 (dk_at dksJ13___kernel_rem_pio2_34 21 rfl rfl)
theorem dJ13___kernel_rem_pio2_822 : decode cJ13___kernel_rem_pio2 822 = .ok (.iload 13, 2) := dk_21 13 (dk_at dksJ13___kernel_rem_pio2_35 0 rfl rfl)
theorem dJ13___kernel_rem_pio2_824 : decode cJ13___kernel_rem_pio2 824 = .ok (.ifCond .lt 31, 3) := dk_155 0 31 (dk_at dksJ13___kernel_rem_pio2_35 2 rfl rfl)
theorem dJ13___kernel_rem_pio2_827 : decode cJ13___kernel_rem_pio2 827 = .ok (.aload 26, 2) := dk_25 26 (dk_at dksJ13___kernel_rem_pio2_35 5 rfl rfl)
theorem dJ13___kernel_rem_pio2_829 : decode cJ13___kernel_rem_pio2 829 = .ok (.iload 13, 2) := dk_21 13 (dk_at dksJ13___kernel_rem_pio2_35 7 rfl rfl)
theorem dJ13___kernel_rem_pio2_831 : decode cJ13___kernel_rem_pio2 831 = .ok (.dload 22, 2) := dk_24 22 (dk_at dksJ13___kernel_rem_pio2_35 9 rfl rfl)
theorem dJ13___kernel_rem_pio2_833 : decode cJ13___kernel_rem_pio2 833 = .ok (.aload 19, 2) := dk_25 19 (dk_at dksJ13___kernel_rem_pio2_35 11 rfl rfl)
theorem dJ13___kernel_rem_pio2_835 : decode cJ13___kernel_rem_pio2 835 = .ok (.iload 13, 2) := dk_21 13 (dk_at dksJ13___kernel_rem_pio2_35 13 rfl rfl)
theorem dJ13___kernel_rem_pio2_837 : decode cJ13___kernel_rem_pio2 837 = .ok (.iaload, 1) := dk_46 (dk_at dksJ13___kernel_rem_pio2_35 15 rfl rfl)
theorem dJ13___kernel_rem_pio2_838 : decode cJ13___kernel_rem_pio2 838 = .ok (.i2d, 1) := dk_135 (dk_at dksJ13___kernel_rem_pio2_35 16 rfl rfl)
theorem dJ13___kernel_rem_pio2_839 : decode cJ13___kernel_rem_pio2 839 = .ok (.dmul, 1) := dk_107 (dk_at dksJ13___kernel_rem_pio2_35 17 rfl rfl)
theorem dJ13___kernel_rem_pio2_840 : decode cJ13___kernel_rem_pio2 840 = .ok (.dastore, 1) := dk_82 (dk_at dksJ13___kernel_rem_pio2_35 18 rfl rfl)
theorem dJ13___kernel_rem_pio2_841 : decode cJ13___kernel_rem_pio2 841 = .ok (.dload 22, 2) := dk_24 22 (dk_at dksJ13___kernel_rem_pio2_35 19 rfl rfl)
theorem dJ13___kernel_rem_pio2_843 : decode cJ13___kernel_rem_pio2 843 = .ok (.ldc2_w 15, 3) := dk_20 0 15 (dk_at dksJ13___kernel_rem_pio2_35 21 rfl rfl)
theorem dJ13___kernel_rem_pio2_846 : decode cJ13___kernel_rem_pio2 846 = .ok (.dmul, 1) := dk_107 (dk_at dksJ13___kernel_rem_pio2_36 0 rfl rfl)
theorem dJ13___kernel_rem_pio2_847 : decode cJ13___kernel_rem_pio2 847 = .ok (.dstore 22, 2) := dk_57 22 (dk_at dksJ13___kernel_rem_pio2_36 1 rfl rfl)
theorem dJ13___kernel_rem_pio2_849 : decode cJ13___kernel_rem_pio2 849 = .ok (.iinc 13 (-1), 3) := dk_132 13 255 (dk_at dksJ13___kernel_rem_pio2_36 3 rfl rfl)
theorem dJ13___kernel_rem_pio2_852 : decode cJ13___kernel_rem_pio2 852 = .ok (.goto (-30), 3) := dk_167 255 226 (dk_at dksJ13___kernel_rem_pio2_36 6 rfl rfl)
theorem dJ13___kernel_rem_pio2_855 : decode cJ13___kernel_rem_pio2 855 = .ok (.iload 6, 2) := dk_21 6 (dk_at dksJ13___kernel_rem_pio2_36 9 rfl rfl)
theorem dJ13___kernel_rem_pio2_857 : decode cJ13___kernel_rem_pio2 857 = .ok (.istore 13, 2) := dk_54 13 (dk_at dksJ13___kernel_rem_pio2_36 11 rfl rfl)
theorem dJ13___kernel_rem_pio2_859 : decode cJ13___kernel_rem_pio2 859 = .ok (.iload 13, 2) := dk_21 13 (dk_at dksJ13___kernel_rem_pio2_36 13 rfl rfl)
theorem dJ13___kernel_rem_pio2_861 : decode cJ13___kernel_rem_pio2 861 = .ok (.ifCond .lt 68, 3) := dk_155 0 68 (dk_at dksJ13___kernel_rem_pio2_36 15 rfl rfl)
theorem dJ13___kernel_rem_pio2_864 : decode cJ13___kernel_rem_pio2 864 = .ok (.dconst 0, 1) := dk_14 (dk_at dksJ13___kernel_rem_pio2_36 18 rfl rfl)
theorem dJ13___kernel_rem_pio2_865 : decode cJ13___kernel_rem_pio2 865 = .ok (.dstore 22, 2) := dk_57 22 (dk_at dksJ13___kernel_rem_pio2_36 19 rfl rfl)
theorem dJ13___kernel_rem_pio2_867 : decode cJ13___kernel_rem_pio2 867 = .ok (.iconst 0, 1) := dk_3 (dk_at dksJ13___kernel_rem_pio2_36 21 rfl rfl)
theorem dJ13___kernel_rem_pio2_868 : decode cJ13___kernel_rem_pio2 868 = .ok (.istore 15, 2) := dk_54 15 (dk_at dksJ13___kernel_rem_pio2_36 22 rfl rfl)
theorem dJ13___kernel_rem_pio2_870 : decode cJ13___kernel_rem_pio2 870 = .ok (.iload 15, 2) := dk_21 15 (dk_at dksJ13___kernel_rem_pio2_37 0 rfl rfl)
theorem dJ13___kernel_rem_pio2_872 : decode cJ13___kernel_rem_pio2 872 = .ok (.iload 9, 2) := dk_21 9 (dk_at dksJ13___kernel_rem_pio2_37 2 rfl rfl)
theorem dJ13___kernel_rem_pio2_874 : decode cJ13___kernel_rem_pio2 874 = .ok (.if_icmp .gt 39, 3) := dk_163 0 39 (dk_at dksJ13___kernel_rem_pio2_37 4 rfl rfl)
theorem dJ13___kernel_rem_pio2_877 : decode cJ13___kernel_rem_pio2 877 = .ok (.iload 15, 2) := dk_21 15 (dk_at dksJ13___kernel_rem_pio2_37 7 rfl rfl)
theorem dJ13___kernel_rem_pio2_879 : decode cJ13___kernel_rem_pio2 879 = .ok (.iload 6, 2) := dk_21 6 (dk_at dksJ13___kernel_rem_pio2_37 9 rfl rfl)
theorem dJ13___kernel_rem_pio2_881 : decode cJ13___kernel_rem_pio2 881 = .ok (.iload 13, 2) := dk_21 13 (dk_at dksJ13___kernel_rem_pio2_37 11 rfl rfl)
theorem dJ13___kernel_rem_pio2_883 : decode cJ13___kernel_rem_pio2 883 = .ok (.isub, 1) := dk_100 (dk_at dksJ13___kernel_rem_pio2_37 13 rfl rfl)
theorem dJ13___kernel_rem_pio2_884 : decode cJ13___kernel_rem_pio2 884 = .ok (.if_icmp .gt 29, 3) := dk_163 0 29 (dk_at dksJ13___kernel_rem_pio2_37 14 rfl rfl)
theorem dJ13___kernel_rem_pio2_887 : decode cJ13___kernel_rem_pio2 887 = .ok (.dload 22, 2) := dk_24 22 (dk_at dksJ13___kernel_rem_pio2_37 17 rfl rfl)
theorem dJ13___kernel_rem_pio2_889 : decode cJ13___kernel_rem_pio2 889 = .ok (.getstatic 39, 3) := dk_178 0 39 (dk_at dksJ13___kernel_rem_pio2_37 19 rfl rfl)
theorem dJ13___kernel_rem_pio2_892 : decode cJ13___kernel_rem_pio2 892 = .ok (.iload 15, 2) := dk_21 15 (dk_at dksJ13___kernel_rem_pio2_37 22 rfl rfl)
theorem dJ13___kernel_rem_pio2_894 : decode cJ13___kernel_rem_pio2 894 = .ok (.daload, 1) := dk_49 (dk_at dksJ13___kernel_rem_pio2_38 0 rfl rfl)
theorem dJ13___kernel_rem_pio2_895 : decode cJ13___kernel_rem_pio2 895 = .ok (.aload 26, 2) := dk_25 26 (dk_at dksJ13___kernel_rem_pio2_38 1 rfl rfl)
theorem dJ13___kernel_rem_pio2_897 : decode cJ13___kernel_rem_pio2 897 = .ok (.iload 13, 2) := dk_21 13 (dk_at dksJ13___kernel_rem_pio2_38 3 rfl rfl)
theorem dJ13___kernel_rem_pio2_899 : decode cJ13___kernel_rem_pio2 899 = .ok (.iload 15, 2) := dk_21 15 (dk_at dksJ13___kernel_rem_pio2_38 5 rfl rfl)
theorem dJ13___kernel_rem_pio2_901 : decode cJ13___kernel_rem_pio2 901 = .ok (.iadd, 1) := dk_96 (dk_at dksJ13___kernel_rem_pio2_38 7 rfl rfl)
theorem dJ13___kernel_rem_pio2_902 : decode cJ13___kernel_rem_pio2 902 = .ok (.daload, 1) := dk_49 (dk_at dksJ13___kernel_rem_pio2_38 8 rfl rfl)
theorem dJ13___kernel_rem_pio2_903 : decode cJ13___kernel_rem_pio2 903 = .ok (.dmul, 1) := dk_107 (dk_at dksJ13___kernel_rem_pio2_38 9 rfl rfl)
theorem dJ13___kernel_rem_pio2_904 : decode cJ13___kernel_rem_pio2 904 = .ok (.dadd, 1) := dk_99 (dk_at dksJ13___kernel_rem_pio2_38 10 rfl rfl)
theorem dJ13___kernel_rem_pio2_905 : decode cJ13___kernel_rem_pio2 905 = .ok (.dstore 22, 2) := dk_57 22 (dk_at dksJ13___kernel_rem_pio2_38 11 rfl rfl)
theorem dJ13___kernel_rem_pio2_907 : decode cJ13___kernel_rem_pio2 907 = .ok (.iinc 15 1, 3) := dk_132 15 1 (dk_at dksJ13___kernel_rem_pio2_38 13 rfl rfl)
theorem dJ13___kernel_rem_pio2_910 : decode cJ13___kernel_rem_pio2 910 = .ok (.goto (-40), 3) := dk_167 255 216 (dk_at dksJ13___kernel_rem_pio2_38 16 rfl rfl)
theorem dJ13___kernel_rem_pio2_913 : decode cJ13___kernel_rem_pio2 913 = .ok (.aload 25, 2) := dk_25 25 (dk_at dksJ13___kernel_rem_pio2_38 19 rfl rfl)
theorem dJ13___kernel_rem_pio2_915 : decode cJ13___kernel_rem_pio2 915 = .ok (.iload 6, 2) := dk_21 6 (dk_at dksJ13___kernel_rem_pio2_38 21 rfl rfl)
theorem dJ13___kernel_rem_pio2_917 : decode cJ13___kernel_rem_pio2 917 = .ok (.iload 13, 2) := dk_21 13 (dk_at dksJ13___kernel_rem_pio2_39 0 rfl rfl)
theorem dJ13___kernel_rem_pio2_919 : decode cJ13___kernel_rem_pio2 919 = .ok (.isub, 1) := dk_100 (dk_at dksJ13___kernel_rem_pio2_39 2 rfl rfl)
theorem dJ13___kernel_rem_pio2_920 : decode cJ13___kernel_rem_pio2 920 = .ok (.dload 22, 2) := dk_24 22 (dk_at dksJ13___kernel_rem_pio2_39 3 rfl rfl)
theorem dJ13___kernel_rem_pio2_922 : decode cJ13___kernel_rem_pio2 922 = .ok (.dastore, 1) := dk_82 (dk_at dksJ13___kernel_rem_pio2_39 5 rfl rfl)
theorem dJ13___kernel_rem_pio2_923 : decode cJ13___kernel_rem_pio2 923 = .ok (.iinc 13 (-1), 3) := dk_132 13 255 (dk_at dksJ13___kernel_rem_pio2_39 6 rfl rfl)
theorem dJ13___kernel_rem_pio2_926 : decode cJ13___kernel_rem_pio2 926 = .ok (.goto (-67), 3) := dk_167 255 189 (dk_at dksJ13___kernel_rem_pio2_39 9 rfl rfl)
theorem dJ13___kernel_rem_pio2_929 : decode cJ13___kernel_rem_pio2 929 = .ok (.iload 4, 2) := dk_21 4 (dk_at dksJ13___kernel_rem_pio2_39 12 rfl rfl)
theorem dJ13___kernel_rem_pio2_931 : decode cJ13___kernel_rem_pio2 931 = .ok (.tableswitch 367 0 3 #[29, 76, 76, 174], 29) := by decide +kernel
theorem dJ13___kernel_rem_pio2_960 : decode cJ13___kernel_rem_pio2 960 = .ok (.dconst 0, 1) := dk_14 (dk_at dksJ13___kernel_rem_pio2_41 0 rfl rfl)
theorem dJ13___kernel_rem_pio2_961 : decode cJ13___kernel_rem_pio2 961 = .ok (.dstore 22, 2) := dk_57 22 (dk_at dksJ13___kernel_rem_pio2_41 1 rfl rfl)
theorem dJ13___kernel_rem_pio2_963 : decode cJ13___kernel_rem_pio2 963 = .ok (.iload 6, 2) := dk_21 6 (dk_at dksJ13___kernel_rem_pio2_41 3 rfl rfl)
theorem dJ13___kernel_rem_pio2_965 : decode cJ13___kernel_rem_pio2 965 = .ok (.istore 13, 2) := dk_54 13 (dk_at dksJ13___kernel_rem_pio2_41 5 rfl rfl)
theorem dJ13___kernel_rem_pio2_967 : decode cJ13___kernel_rem_pio2 967 = .ok (.iload 13, 2) := dk_21 13 (dk_at dksJ13___kernel_rem_pio2_41 7 rfl rfl)
theorem dJ13___kernel_rem_pio2_969 : decode cJ13___kernel_rem_pio2 969 = .ok (.ifCond .lt 19, 3) := dk_155 0 19 (dk_at dksJ13___kernel_rem_pio2_41 9 rfl rfl)
theorem dJ13___kernel_rem_pio2_972 : decode cJ13___kernel_rem_pio2 972 = .ok (.dload 22, 2) := dk_24 22 (dk_at dksJ13___kernel_rem_pio2_41 12 rfl rfl)
theorem dJ13___kernel_rem_pio2_974 : decode cJ13___kernel_rem_pio2 974 = .ok (.aload 25, 2) := dk_25 25 (dk_at dksJ13___kernel_rem_pio2_41 14 rfl rfl)
theorem dJ13___kernel_rem_pio2_976 : decode cJ13___kernel_rem_pio2 976 = .ok (.iload 13, 2) := dk_21 13 (dk_at dksJ13___kernel_rem_pio2_41 16 rfl rfl)
theorem dJ13___kernel_rem_pio2_978 : decode cJ13___kernel_rem_pio2 978 = .ok (.daload, 1) := dk_49 (dk_at dksJ13___kernel_rem_pio2_41 18 rfl rfl)
theorem dJ13___kernel_rem_pio2_979 : decode cJ13___kernel_rem_pio2 979 = .ok (.dadd, 1) := dk_99 (dk_at dksJ13___kernel_rem_pio2_41 19 rfl rfl)
theorem dJ13___kernel_rem_pio2_980 : decode cJ13___kernel_rem_pio2 980 = .ok (.dstore 22, 2) := dk_57 22 (dk_at dksJ13___kernel_rem_pio2_41 20 rfl rfl)
theorem dJ13___kernel_rem_pio2_982 : decode cJ13___kernel_rem_pio2 982 = .ok (.iinc 13 (-1), 3) := dk_132 13 255 (dk_at dksJ13___kernel_rem_pio2_42 0 rfl rfl)
theorem dJ13___kernel_rem_pio2_985 : decode cJ13___kernel_rem_pio2 985 = .ok (.goto (-18), 3) := dk_167 255 238 (dk_at dksJ13___kernel_rem_pio2_42 3 rfl rfl)
theorem dJ13___kernel_rem_pio2_988 : decode cJ13___kernel_rem_pio2 988 = .ok (.aload_n 1, 1) := dk_43 (dk_at dksJ13___kernel_rem_pio2_42 6 rfl rfl)
theorem dJ13___kernel_rem_pio2_989 : decode cJ13___kernel_rem_pio2 989 = .ok (.iconst 0, 1) := dk_3 (dk_at dksJ13___kernel_rem_pio2_42 7 rfl rfl)
theorem dJ13___kernel_rem_pio2_990 : decode cJ13___kernel_rem_pio2 990 = .ok (.iload 18, 2) := dk_21 18 (dk_at dksJ13___kernel_rem_pio2_42 8 rfl rfl)
theorem dJ13___kernel_rem_pio2_992 : decode cJ13___kernel_rem_pio2 992 = .ok (.ifCond .ne 8, 3) := dk_154 0 8 (dk_at dksJ13___kernel_rem_pio2_42 10 rfl rfl)
theorem dJ13___kernel_rem_pio2_995 : decode cJ13___kernel_rem_pio2 995 = .ok (.dload 22, 2) := dk_24 22 (dk_at dksJ13___kernel_rem_pio2_42 13 rfl rfl)
theorem dJ13___kernel_rem_pio2_997 : decode cJ13___kernel_rem_pio2 997 = .ok (.goto 6, 3) := dk_167 0 6 (dk_at dksJ13___kernel_rem_pio2_42 15 rfl rfl)
theorem dJ13___kernel_rem_pio2_1000 : decode cJ13___kernel_rem_pio2 1000 = .ok (.dload 22, 2) := dk_24 22 (dk_at dksJ13___kernel_rem_pio2_42 18 rfl rfl)
theorem dJ13___kernel_rem_pio2_1002 : decode cJ13___kernel_rem_pio2 1002 = .ok (.dneg, 1) := dk_119 (dk_at dksJ13___kernel_rem_pio2_42 20 rfl rfl)
theorem dJ13___kernel_rem_pio2_1003 : decode cJ13___kernel_rem_pio2 1003 = .ok (.dastore, 1) := dk_82 (dk_at dksJ13___kernel_rem_pio2_42 21 rfl rfl)
theorem dJ13___kernel_rem_pio2_1004 : decode cJ13___kernel_rem_pio2 1004 = .ok (.goto 294, 3) := dk_167 1 38 (dk_at dksJ13___kernel_rem_pio2_43 0 rfl rfl)
theorem dJ13___kernel_rem_pio2_1007 : decode cJ13___kernel_rem_pio2 1007 = .ok (.dconst 0, 1) := dk_14 (dk_at dksJ13___kernel_rem_pio2_43 3 rfl rfl)
theorem dJ13___kernel_rem_pio2_1008 : decode cJ13___kernel_rem_pio2 1008 = .ok (.dstore 22, 2) := dk_57 22 (dk_at dksJ13___kernel_rem_pio2_43 4 rfl rfl)
theorem dJ13___kernel_rem_pio2_1010 : decode cJ13___kernel_rem_pio2 1010 = .ok (.iload 6, 2) := dk_21 6 (dk_at dksJ13___kernel_rem_pio2_43 6 rfl rfl)
theorem dJ13___kernel_rem_pio2_1012 : decode cJ13___kernel_rem_pio2 1012 = .ok (.istore 13, 2) := dk_54 13 (dk_at dksJ13___kernel_rem_pio2_43 8 rfl rfl)
theorem dJ13___kernel_rem_pio2_1014 : decode cJ13___kernel_rem_pio2 1014 = .ok (.iload 13, 2) := dk_21 13 (dk_at dksJ13___kernel_rem_pio2_43 10 rfl rfl)
theorem dJ13___kernel_rem_pio2_1016 : decode cJ13___kernel_rem_pio2 1016 = .ok (.ifCond .lt 19, 3) := dk_155 0 19 (dk_at dksJ13___kernel_rem_pio2_43 12 rfl rfl)
theorem dJ13___kernel_rem_pio2_1019 : decode cJ13___kernel_rem_pio2 1019 = .ok (.dload 22, 2) := dk_24 22 (dk_at dksJ13___kernel_rem_pio2_43 15 rfl rfl)
theorem dJ13___kernel_rem_pio2_1021 : decode cJ13___kernel_rem_pio2 1021 = .ok (.aload 25, 2) := dk_25 25 (dk_at dksJ13___kernel_rem_pio2_43 17 rfl rfl)
theorem dJ13___kernel_rem_pio2_1023 : decode cJ13___kernel_rem_pio2 1023 = .ok (.iload 13, 2) := dk_21 13 (dk_at dksJ13___kernel_rem_pio2_43 19 rfl rfl)
theorem dJ13___kernel_rem_pio2_1025 : decode cJ13___kernel_rem_pio2 1025 = .ok (.daload, 1) := dk_49 (dk_at dksJ13___kernel_rem_pio2_43 21 rfl rfl)
theorem dJ13___kernel_rem_pio2_1026 : decode cJ13___kernel_rem_pio2 1026 = .ok (.dadd, 1) := dk_99 (dk_at dksJ13___kernel_rem_pio2_43 22 rfl rfl)
theorem dJ13___kernel_rem_pio2_1027 : decode cJ13___kernel_rem_pio2 1027 = .ok (.dstore 22, 2) := dk_57 22 (dk_at dksJ13___kernel_rem_pio2_44 0 rfl rfl)
theorem dJ13___kernel_rem_pio2_1029 : decode cJ13___kernel_rem_pio2 1029 = .ok (.iinc 13 (-1), 3) := dk_132 13 255 (dk_at dksJ13___kernel_rem_pio2_44 2 rfl rfl)
theorem dJ13___kernel_rem_pio2_1032 : decode cJ13___kernel_rem_pio2 1032 = .ok (.goto (-18), 3) := dk_167 255 238 (dk_at dksJ13___kernel_rem_pio2_44 5 rfl rfl)
theorem dJ13___kernel_rem_pio2_1035 : decode cJ13___kernel_rem_pio2 1035 = .ok (.aload_n 1, 1) := dk_43 (dk_at dksJ13___kernel_rem_pio2_44 8 rfl rfl)
theorem dJ13___kernel_rem_pio2_1036 : decode cJ13___kernel_rem_pio2 1036 = .ok (.iconst 0, 1) := dk_3 (dk_at dksJ13___kernel_rem_pio2_44 9 rfl rfl)
theorem dJ13___kernel_rem_pio2_1037 : decode cJ13___kernel_rem_pio2 1037 = .ok (.iload 18, 2) := dk_21 18 (dk_at dksJ13___kernel_rem_pio2_44 10 rfl rfl)
theorem dJ13___kernel_rem_pio2_1039 : decode cJ13___kernel_rem_pio2 1039 = .ok (.ifCond .ne 8, 3) := dk_154 0 8 (dk_at dksJ13___kernel_rem_pio2_44 12 rfl rfl)
theorem dJ13___kernel_rem_pio2_1042 : decode cJ13___kernel_rem_pio2 1042 = .ok (.dload 22, 2) := dk_24 22 (dk_at dksJ13___kernel_rem_pio2_44 15 rfl rfl)
theorem dJ13___kernel_rem_pio2_1044 : decode cJ13___kernel_rem_pio2 1044 = .ok (.goto 6, 3) := dk_167 0 6 (dk_at dksJ13___kernel_rem_pio2_44 17 rfl rfl)
theorem dJ13___kernel_rem_pio2_1047 : decode cJ13___kernel_rem_pio2 1047 = .ok (.dload 22, 2) := dk_24 22 (dk_at dksJ13___kernel_rem_pio2_44 20 rfl rfl)
theorem dJ13___kernel_rem_pio2_1049 : decode cJ13___kernel_rem_pio2 1049 = .ok (.dneg, 1) := dk_119 (dk_at dksJ13___kernel_rem_pio2_44 22 rfl rfl)
theorem dJ13___kernel_rem_pio2_1050 : decode cJ13___kernel_rem_pio2 1050 = .ok (.dastore, 1) := dk_82 (dk_at dksJ13___kernel_rem_pio2_44 23 rfl rfl)
theorem dJ13___kernel_rem_pio2_1051 : decode cJ13___kernel_rem_pio2 1051 = .ok (.aload 25, 2) := dk_25 25 (dk_at dksJ13___kernel_rem_pio2_45 0 rfl rfl)
theorem dJ13___kernel_rem_pio2_1053 : decode cJ13___kernel_rem_pio2 1053 = .ok (.iconst 0, 1) := dk_3 (dk_at dksJ13___kernel_rem_pio2_45 2 rfl rfl)
theorem dJ13___kernel_rem_pio2_1054 : decode cJ13___kernel_rem_pio2 1054 = .ok (.daload, 1) := dk_49 (dk_at dksJ13___kernel_rem_pio2_45 3 rfl rfl)
theorem dJ13___kernel_rem_pio2_1055 : decode cJ13___kernel_rem_pio2 1055 = .ok (.dload 22, 2) := dk_24 22 (dk_at dksJ13___kernel_rem_pio2_45 4 rfl rfl)
theorem dJ13___kernel_rem_pio2_1057 : decode cJ13___kernel_rem_pio2 1057 = .ok (.dsub, 1) := dk_103 (dk_at dksJ13___kernel_rem_pio2_45 6 rfl rfl)
theorem dJ13___kernel_rem_pio2_1058 : decode cJ13___kernel_rem_pio2 1058 = .ok (.dstore 22, 2) := dk_57 22 (dk_at dksJ13___kernel_rem_pio2_45 7 rfl rfl)
theorem dJ13___kernel_rem_pio2_1060 : decode cJ13___kernel_rem_pio2 1060 = .ok (.iconst 1, 1) := dk_4 (dk_at dksJ13___kernel_rem_pio2_45 9 rfl rfl)
theorem dJ13___kernel_rem_pio2_1061 : decode cJ13___kernel_rem_pio2 1061 = .ok (.istore 13, 2) := dk_54 13 (dk_at dksJ13___kernel_rem_pio2_45 10 rfl rfl)
theorem dJ13___kernel_rem_pio2_1063 : decode cJ13___kernel_rem_pio2 1063 = .ok (.iload 13, 2) := dk_21 13 (dk_at dksJ13___kernel_rem_pio2_45 12 rfl rfl)
theorem dJ13___kernel_rem_pio2_1065 : decode cJ13___kernel_rem_pio2 1065 = .ok (.iload 6, 2) := dk_21 6 (dk_at dksJ13___kernel_rem_pio2_45 14 rfl rfl)
theorem dJ13___kernel_rem_pio2_1067 : decode cJ13___kernel_rem_pio2 1067 = .ok (.if_icmp .gt 19, 3) := dk_163 0 19 (dk_at dksJ13___kernel_rem_pio2_45 16 rfl rfl)
theorem dJ13___kernel_rem_pio2_1070 : decode cJ13___kernel_rem_pio2 1070 = .ok (.dload 22, 2) := dk_24 22 (dk_at dksJ13___kernel_rem_pio2_45 19 rfl rfl)
theorem dJ13___kernel_rem_pio2_1072 : decode cJ13___kernel_rem_pio2 1072 = .ok (.aload 25, 2) := dk_25 25 (dk_at dksJ13___kernel_rem_pio2_45 21 rfl rfl)
theorem dJ13___kernel_rem_pio2_1074 : decode cJ13___kernel_rem_pio2 1074 = .ok (.iload 13, 2) := dk_21 13 (dk_at dksJ13___kernel_rem_pio2_46 0 rfl rfl)
theorem dJ13___kernel_rem_pio2_1076 : decode cJ13___kernel_rem_pio2 1076 = .ok (.daload, 1) := dk_49 (dk_at dksJ13___kernel_rem_pio2_46 2 rfl rfl)
theorem dJ13___kernel_rem_pio2_1077 : decode cJ13___kernel_rem_pio2 1077 = .ok (.dadd, 1) := dk_99 (dk_at dksJ13___kernel_rem_pio2_46 3 rfl rfl)
theorem dJ13___kernel_rem_pio2_1078 : decode cJ13___kernel_rem_pio2 1078 = .ok (.dstore 22, 2) := dk_57 22 (dk_at dksJ13___kernel_rem_pio2_46 4 rfl rfl)
theorem dJ13___kernel_rem_pio2_1080 : decode cJ13___kernel_rem_pio2 1080 = .ok (.iinc 13 1, 3) := dk_132 13 1 (dk_at dksJ13___kernel_rem_pio2_46 6 rfl rfl)
theorem dJ13___kernel_rem_pio2_1083 : decode cJ13___kernel_rem_pio2 1083 = .ok (.goto (-20), 3) := dk_167 255 236 (dk_at dksJ13___kernel_rem_pio2_46 9 rfl rfl)
theorem dJ13___kernel_rem_pio2_1086 : decode cJ13___kernel_rem_pio2 1086 = .ok (.aload_n 1, 1) := dk_43 (dk_at dksJ13___kernel_rem_pio2_46 12 rfl rfl)
theorem dJ13___kernel_rem_pio2_1087 : decode cJ13___kernel_rem_pio2 1087 = .ok (.iconst 1, 1) := dk_4 (dk_at dksJ13___kernel_rem_pio2_46 13 rfl rfl)
theorem dJ13___kernel_rem_pio2_1088 : decode cJ13___kernel_rem_pio2 1088 = .ok (.iload 18, 2) := dk_21 18 (dk_at dksJ13___kernel_rem_pio2_46 14 rfl rfl)
theorem dJ13___kernel_rem_pio2_1090 : decode cJ13___kernel_rem_pio2 1090 = .ok (.ifCond .ne 8, 3) := dk_154 0 8 (dk_at dksJ13___kernel_rem_pio2_46 16 rfl rfl)
theorem dJ13___kernel_rem_pio2_1093 : decode cJ13___kernel_rem_pio2 1093 = .ok (.dload 22, 2) := dk_24 22 (dk_at dksJ13___kernel_rem_pio2_46 19 rfl rfl)
theorem dJ13___kernel_rem_pio2_1095 : decode cJ13___kernel_rem_pio2 1095 = .ok (.goto 6, 3) := dk_167 0 6 (dk_at dksJ13___kernel_rem_pio2_46 21 rfl rfl)
theorem dJ13___kernel_rem_pio2_1098 : decode cJ13___kernel_rem_pio2 1098 = .ok (.dload 22, 2) := dk_24 22 (dk_at dksJ13___kernel_rem_pio2_47 0 rfl rfl)
theorem dJ13___kernel_rem_pio2_1100 : decode cJ13___kernel_rem_pio2 1100 = .ok (.dneg, 1) := dk_119 (dk_at dksJ13___kernel_rem_pio2_47 2 rfl rfl)
theorem dJ13___kernel_rem_pio2_1101 : decode cJ13___kernel_rem_pio2 1101 = .ok (.dastore, 1) := dk_82 (dk_at dksJ13___kernel_rem_pio2_47 3 rfl rfl)
theorem dJ13___kernel_rem_pio2_1102 : decode cJ13___kernel_rem_pio2 1102 = .ok (.goto 196, 3) := dk_167 0 196 (dk_at dksJ13___kernel_rem_pio2_47 4 rfl rfl)
theorem dJ13___kernel_rem_pio2_1105 : decode cJ13___kernel_rem_pio2 1105 = .ok (.iload 6, 2) := dk_21 6 (dk_at dksJ13___kernel_rem_pio2_47 7 rfl rfl)
theorem dJ13___kernel_rem_pio2_1107 : decode cJ13___kernel_rem_pio2 1107 = .ok (.istore 13, 2) := dk_54 13 (dk_at dksJ13___kernel_rem_pio2_47 9 rfl rfl)
theorem dJ13___kernel_rem_pio2_1109 : decode cJ13___kernel_rem_pio2 1109 = .ok (.iload 13, 2) := dk_21 13 (dk_at dksJ13___kernel_rem_pio2_47 11 rfl rfl)
theorem dJ13___kernel_rem_pio2_1111 : decode cJ13___kernel_rem_pio2 1111 = .ok (.ifCond .le 51, 3) := dk_158 0 51 (dk_at dksJ13___kernel_rem_pio2_47 13 rfl rfl)
theorem dJ13___kernel_rem_pio2_1114 : decode cJ13___kernel_rem_pio2 1114 = .ok (.aload 25, 2) := dk_25 25 (dk_at dksJ13___kernel_rem_pio2_47 16 rfl rfl)
theorem dJ13___kernel_rem_pio2_1116 : decode cJ13___kernel_rem_pio2 1116 = .ok (.iload 13, 2) := dk_21 13 (dk_at dksJ13___kernel_rem_pio2_47 18 rfl rfl)
theorem dJ13___kernel_rem_pio2_1118 : decode cJ13___kernel_rem_pio2 1118 = .ok (.iconst 1, 1) := dk_4 (dk_at dksJ13___kernel_rem_pio2_47 20 rfl rfl)
theorem dJ13___kernel_rem_pio2_1119 : decode cJ13___kernel_rem_pio2 1119 = .ok (.isub, 1) := dk_100 (dk_at dksJ13___kernel_rem_pio2_47 21 rfl rfl)
theorem dJ13___kernel_rem_pio2_1120 : decode cJ13___kernel_rem_pio2 1120 = .ok (.daload, 1) := dk_49 (dk_at dksJ13___kernel_rem_pio2_47 22 rfl rfl)
theorem dJ13___kernel_rem_pio2_1121 : decode cJ13___kernel_rem_pio2 1121 = .ok (.aload 25, 2) := dk_25 25 (dk_at dksJ13___kernel_rem_pio2_48 0 rfl rfl)
theorem dJ13___kernel_rem_pio2_1123 : decode cJ13___kernel_rem_pio2 1123 = .ok (.iload 13, 2) := dk_21 13 (dk_at dksJ13___kernel_rem_pio2_48 2 rfl rfl)
theorem dJ13___kernel_rem_pio2_1125 : decode cJ13___kernel_rem_pio2 1125 = .ok (.daload, 1) := dk_49 (dk_at dksJ13___kernel_rem_pio2_48 4 rfl rfl)
theorem dJ13___kernel_rem_pio2_1126 : decode cJ13___kernel_rem_pio2 1126 = .ok (.dadd, 1) := dk_99 (dk_at dksJ13___kernel_rem_pio2_48 5 rfl rfl)
theorem dJ13___kernel_rem_pio2_1127 : decode cJ13___kernel_rem_pio2 1127 = .ok (.dstore 22, 2) := dk_57 22 (dk_at dksJ13___kernel_rem_pio2_48 6 rfl rfl)
theorem dJ13___kernel_rem_pio2_1129 : decode cJ13___kernel_rem_pio2 1129 = .ok (.aload 25, 2) := dk_25 25 (dk_at dksJ13___kernel_rem_pio2_48 8 rfl rfl)
theorem dJ13___kernel_rem_pio2_1131 : decode cJ13___kernel_rem_pio2 1131 = .ok (.iload 13, 2) := dk_21 13 (dk_at dksJ13___kernel_rem_pio2_48 10 rfl rfl)
theorem dJ13___kernel_rem_pio2_1133 : decode cJ13___kernel_rem_pio2 1133 = .ok (.dup2, 1) := dk_92 (dk_at dksJ13___kernel_rem_pio2_48 12 rfl rfl)
theorem dJ13___kernel_rem_pio2_1134 : decode cJ13___kernel_rem_pio2 1134 = .ok (.daload, 1) := dk_49 (dk_at dksJ13___kernel_rem_pio2_48 13 rfl rfl)
theorem dJ13___kernel_rem_pio2_1135 : decode cJ13___kernel_rem_pio2 1135 = .ok (.aload 25, 2) := dk_25 25 (dk_at dksJ13___kernel_rem_pio2_48 14 rfl rfl)
theorem dJ13___kernel_rem_pio2_1137 : decode cJ13___kernel_rem_pio2 1137 = .ok (.iload 13, 2) := dk_21 13 (dk_at dksJ13___kernel_rem_pio2_48 16 rfl rfl)
theorem dJ13___kernel_rem_pio2_1139 : decode cJ13___kernel_rem_pio2 1139 = .ok (.iconst 1, 1) := dk_4 (dk_at dksJ13___kernel_rem_pio2_48 18 rfl rfl)
theorem dJ13___kernel_rem_pio2_1140 : decode cJ13___kernel_rem_pio2 1140 = .ok (.isub, 1) := dk_100 (dk_at dksJ13___kernel_rem_pio2_48 19 rfl rfl)
theorem dJ13___kernel_rem_pio2_1141 : decode cJ13___kernel_rem_pio2 1141 = .ok (.daload, 1) := dk_49 (dk_at dksJ13___kernel_rem_pio2_48 20 rfl rfl)
theorem dJ13___kernel_rem_pio2_1142 : decode cJ13___kernel_rem_pio2 1142 = .ok (.dload 22, 2) := dk_24 22 (dk_at dksJ13___kernel_rem_pio2_48 21 rfl rfl)
theorem dJ13___kernel_rem_pio2_1144 : decode cJ13___kernel_rem_pio2 1144 = .ok (.dsub, 1) := dk_103 (dk_at dksJ13___kernel_rem_pio2_48 23 rfl rfl)
theorem dJ13___kernel_rem_pio2_1145 : decode cJ13___kernel_rem_pio2 1145 = .ok (.dadd, 1) := dk_99 (dk_at dksJ13___kernel_rem_pio2_49 0 rfl rfl)
theorem dJ13___kernel_rem_pio2_1146 : decode cJ13___kernel_rem_pio2 1146 = .ok (.dastore, 1) := dk_82 (dk_at dksJ13___kernel_rem_pio2_49 1 rfl rfl)
theorem dJ13___kernel_rem_pio2_1147 : decode cJ13___kernel_rem_pio2 1147 = .ok (.aload 25, 2) := dk_25 25 (dk_at dksJ13___kernel_rem_pio2_49 2 rfl rfl)
theorem dJ13___kernel_rem_pio2_1149 : decode cJ13___kernel_rem_pio2 1149 = .ok (.iload 13, 2) := dk_21 13 (dk_at dksJ13___kernel_rem_pio2_49 4 rfl rfl)
theorem dJ13___kernel_rem_pio2_1151 : decode cJ13___kernel_rem_pio2 1151 = .ok (.iconst 1, 1) := dk_4 (dk_at dksJ13___kernel_rem_pio2_49 6 rfl rfl)
theorem dJ13___kernel_rem_pio2_1152 : decode cJ13___kernel_rem_pio2 1152 = .ok (.isub, 1) := dk_100 (dk_at dksJ13___kernel_rem_pio2_49 7 rfl rfl)
theorem dJ13___kernel_rem_pio2_1153 : decode cJ13___kernel_rem_pio2 1153 = .ok (.dload 22, 2) := dk_24 22 (dk_at dksJ13___kernel_rem_pio2_49 8 rfl rfl)
theorem dJ13___kernel_rem_pio2_1155 : decode cJ13___kernel_rem_pio2 1155 = .ok (.dastore, 1) := dk_82 (dk_at dksJ13___kernel_rem_pio2_49 10 rfl rfl)
theorem dJ13___kernel_rem_pio2_1156 : decode cJ13___kernel_rem_pio2 1156 = .ok (.iinc 13 (-1), 3) := dk_132 13 255 (dk_at dksJ13___kernel_rem_pio2_49 11 rfl rfl)
theorem dJ13___kernel_rem_pio2_1159 : decode cJ13___kernel_rem_pio2 1159 = .ok (.goto (-50), 3) := dk_167 255 206 (dk_at dksJ13___kernel_rem_pio2_49 14 rfl rfl)
theorem dJ13___kernel_rem_pio2_1162 : decode cJ13___kernel_rem_pio2 1162 = .ok (.iload 6, 2) := dk_21 6 (dk_at dksJ13___kernel_rem_pio2_49 17 rfl rfl)
theorem dJ13___kernel_rem_pio2_1164 : decode cJ13___kernel_rem_pio2 1164 = .ok (.istore 13, 2) := dk_54 13 (dk_at dksJ13___kernel_rem_pio2_49 19 rfl rfl)
theorem dJ13___kernel_rem_pio2_1166 : decode cJ13___kernel_rem_pio2 1166 = .ok (.iload 13, 2) := dk_21 13 (dk_at dksJ13___kernel_rem_pio2_49 21 rfl rfl)
theorem dJ13___kernel_rem_pio2_1168 : decode cJ13___kernel_rem_pio2 1168 = .ok (.iconst 1, 1) := dk_4 (dk_at dksJ13___kernel_rem_pio2_49 23 rfl rfl)
theorem dJ13___kernel_rem_pio2_1169 : decode cJ13___kernel_rem_pio2 1169 = .ok (.if_icmp .le 51, 3) := dk_164 0 51 (dk_at dksJ13___kernel_rem_pio2_50 0 rfl rfl)
theorem dJ13___kernel_rem_pio2_1172 : decode cJ13___kernel_rem_pio2 1172 = .ok (.aload 25, 2) := dk_25 25 (dk_at dksJ13___kernel_rem_pio2_50 3 rfl rfl)
theorem dJ13___kernel_rem_pio2_1174 : decode cJ13___kernel_rem_pio2 1174 = .ok (.iload 13, 2) := dk_21 13 (dk_at dksJ13___kernel_rem_pio2_50 5 rfl rfl)
theorem dJ13___kernel_rem_pio2_1176 : decode cJ13___kernel_rem_pio2 1176 = .ok (.iconst 1, 1) := dk_4 (dk_at dksJ13___kernel_rem_pio2_50 7 rfl rfl)
theorem dJ13___kernel_rem_pio2_1177 : decode cJ13___kernel_rem_pio2 1177 = .ok (.isub, 1) := dk_100 (dk_at dksJ13___kernel_rem_pio2_50 8 rfl rfl)
theorem dJ13___kernel_rem_pio2_1178 : decode cJ13___kernel_rem_pio2 1178 = .ok (.daload, 1) := dk_49 (dk_at dksJ13___kernel_rem_pio2_50 9 rfl rfl)
theorem dJ13___kernel_rem_pio2_1179 : decode cJ13___kernel_rem_pio2 1179 = .ok (.aload 25, 2) := dk_25 25 (dk_at dksJ13___kernel_rem_pio2_50 10 rfl rfl)
theorem dJ13___kernel_rem_pio2_1181 : decode cJ13___kernel_rem_pio2 1181 = .ok (.iload 13, 2) := dk_21 13 (dk_at dksJ13___kernel_rem_pio2_50 12 rfl rfl)
theorem dJ13___kernel_rem_pio2_1183 : decode cJ13___kernel_rem_pio2 1183 = .ok (.daload, 1) := dk_49 (dk_at dksJ13___kernel_rem_pio2_50 14 rfl rfl)
theorem dJ13___kernel_rem_pio2_1184 : decode cJ13___kernel_rem_pio2 1184 = .ok (.dadd, 1) := dk_99 (dk_at dksJ13___kernel_rem_pio2_50 15 rfl rfl)
theorem dJ13___kernel_rem_pio2_1185 : decode cJ13___kernel_rem_pio2 1185 = .ok (.dstore 22, 2) := dk_57 22 (dk_at dksJ13___kernel_rem_pio2_50 16 rfl rfl)
theorem dJ13___kernel_rem_pio2_1187 : decode cJ13___kernel_rem_pio2 1187 = .ok (.aload 25, 2) := dk_25 25 (dk_at dksJ13___kernel_rem_pio2_50 18 rfl rfl)
theorem dJ13___kernel_rem_pio2_1189 : decode cJ13___kernel_rem_pio2 1189 = .ok (.iload 13, 2) := dk_21 13 (dk_at dksJ13___kernel_rem_pio2_50 20 rfl rfl)
theorem dJ13___kernel_rem_pio2_1191 : decode cJ13___kernel_rem_pio2 1191 = .ok (.dup2, 1) := dk_92 (dk_at dksJ13___kernel_rem_pio2_50 22 rfl rfl)
theorem dJ13___kernel_rem_pio2_1192 : decode cJ13___kernel_rem_pio2 1192 = .ok (.daload, 1) := dk_49 (dk_at dksJ13___kernel_rem_pio2_50 23 rfl rfl)
theorem dJ13___kernel_rem_pio2_1193 : decode cJ13___kernel_rem_pio2 1193 = .ok (.aload 25, 2) := dk_25 25 (dk_at dksJ13___kernel_rem_pio2_51 0 rfl rfl)
theorem dJ13___kernel_rem_pio2_1195 : decode cJ13___kernel_rem_pio2 1195 = .ok (.iload 13, 2) := dk_21 13 (dk_at dksJ13___kernel_rem_pio2_51 2 rfl rfl)
theorem dJ13___kernel_rem_pio2_1197 : decode cJ13___kernel_rem_pio2 1197 = .ok (.iconst 1, 1) := dk_4 (dk_at dksJ13___kernel_rem_pio2_51 4 rfl rfl)
theorem dJ13___kernel_rem_pio2_1198 : decode cJ13___kernel_rem_pio2 1198 = .ok (.isub, 1) := dk_100 (dk_at dksJ13___kernel_rem_pio2_51 5 rfl rfl)
theorem dJ13___kernel_rem_pio2_1199 : decode cJ13___kernel_rem_pio2 1199 = .ok (.daload, 1) := dk_49 (dk_at dksJ13___kernel_rem_pio2_51 6 rfl rfl)
theorem dJ13___kernel_rem_pio2_1200 : decode cJ13___kernel_rem_pio2 1200 = .ok (.dload 22, 2) := dk_24 22 (dk_at dksJ13___kernel_rem_pio2_51 7 rfl rfl)
theorem dJ13___kernel_rem_pio2_1202 : decode cJ13___kernel_rem_pio2 1202 = .ok (.dsub, 1) := dk_103 (dk_at dksJ13___kernel_rem_pio2_51 9 rfl rfl)
theorem dJ13___kernel_rem_pio2_1203 : decode cJ13___kernel_rem_pio2 1203 = .ok (.dadd, 1) := dk_99 (dk_at dksJ13___kernel_rem_pio2_51 10 rfl rfl)
theorem dJ13___kernel_rem_pio2_1204 : decode cJ13___kernel_rem_pio2 1204 = .ok (.dastore, 1) := dk_82 (dk_at dksJ13___kernel_rem_pio2_51 11 rfl rfl)
theorem dJ13___kernel_rem_pio2_1205 : decode cJ13___kernel_rem_pio2 1205 = .ok (.aload 25, 2) := dk_25 25 (dk_at dksJ13___kernel_rem_pio2_51 12 rfl rfl)
theorem dJ13___kernel_rem_pio2_1207 : decode cJ13___kernel_rem_pio2 1207 = .ok (.iload 13, 2) := dk_21 13 (dk_at dksJ13___kernel_rem_pio2_51 14 rfl rfl)
theorem dJ13___kernel_rem_pio2_1209 : decode cJ13___kernel_rem_pio2 1209 = .ok (.iconst 1, 1) := dk_4 (dk_at dksJ13___kernel_rem_pio2_51 16 rfl rfl)
theorem dJ13___kernel_rem_pio2_1210 : decode cJ13___kernel_rem_pio2 1210 = .ok (.isub, 1) := dk_100 (dk_at dksJ13___kernel_rem_pio2_51 17 rfl rfl)
theorem dJ13___kernel_rem_pio2_1211 : decode cJ13___kernel_rem_pio2 1211 = .ok (.dload 22, 2) := dk_24 22 (dk_at dksJ13___kernel_rem_pio2_51 18 rfl rfl)
theorem dJ13___kernel_rem_pio2_1213 : decode cJ13___kernel_rem_pio2 1213 = .ok (.dastore, 1) := dk_82 (dk_at dksJ13___kernel_rem_pio2_51 20 rfl rfl)
theorem dJ13___kernel_rem_pio2_1214 : decode cJ13___kernel_rem_pio2 1214 = .ok (.iinc 13 (-1), 3) := dk_132 13 255 (dk_at dksJ13___kernel_rem_pio2_51 21 rfl rfl)
theorem dJ13___kernel_rem_pio2_1217 : decode cJ13___kernel_rem_pio2 1217 = .ok (.goto (-51), 3) := dk_167 255 205 (dk_at dksJ13___kernel_rem_pio2_52 0 rfl rfl)
theorem dJ13___kernel_rem_pio2_1220 : decode cJ13___kernel_rem_pio2 1220 = .ok (.dconst 0, 1) := dk_14 (dk_at dksJ13___kernel_rem_pio2_52 3 rfl rfl)
theorem dJ13___kernel_rem_pio2_1221 : decode cJ13___kernel_rem_pio2 1221 = .ok (.dstore 22, 2) := dk_57 22 (dk_at dksJ13___kernel_rem_pio2_52 4 rfl rfl)
theorem dJ13___kernel_rem_pio2_1223 : decode cJ13___kernel_rem_pio2 1223 = .ok (.iload 6, 2) := dk_21 6 (dk_at dksJ13___kernel_rem_pio2_52 6 rfl rfl)
theorem dJ13___kernel_rem_pio2_1225 : decode cJ13___kernel_rem_pio2 1225 = .ok (.istore 13, 2) := dk_54 13 (dk_at dksJ13___kernel_rem_pio2_52 8 rfl rfl)
theorem dJ13___kernel_rem_pio2_1227 : decode cJ13___kernel_rem_pio2 1227 = .ok (.iload 13, 2) := dk_21 13 (dk_at dksJ13___kernel_rem_pio2_52 10 rfl rfl)
theorem dJ13___kernel_rem_pio2_1229 : decode cJ13___kernel_rem_pio2 1229 = .ok (.iconst 2, 1) := dk_5 (dk_at dksJ13___kernel_rem_pio2_52 12 rfl rfl)
theorem dJ13___kernel_rem_pio2_1230 : decode cJ13___kernel_rem_pio2 1230 = .ok (.if_icmp .lt 19, 3) := dk_161 0 19 (dk_at dksJ13___kernel_rem_pio2_52 13 rfl rfl)
theorem dJ13___kernel_rem_pio2_1233 : decode cJ13___kernel_rem_pio2 1233 = .ok (.dload 22, 2) := dk_24 22 (dk_at dksJ13___kernel_rem_pio2_52 16 rfl rfl)
theorem dJ13___kernel_rem_pio2_1235 : decode cJ13___kernel_rem_pio2 1235 = .ok (.aload 25, 2) := dk_25 25 (dk_at dksJ13___kernel_rem_pio2_52 18 rfl rfl)
theorem dJ13___kernel_rem_pio2_1237 : decode cJ13___kernel_rem_pio2 1237 = .ok (.iload 13, 2) := dk_21 13 (dk_at dksJ13___kernel_rem_pio2_52 20 rfl rfl)
theorem dJ13___kernel_rem_pio2_1239 : decode cJ13___kernel_rem_pio2 1239 = .ok (.daload, 1) := dk_49 (dk_at dksJ13___kernel_rem_pio2_52 22 rfl rfl)
theorem dJ13___kernel_rem_pio2_1240 : decode cJ13___kernel_rem_pio2 1240 = .ok (.dadd, 1) := dk_99 (dk_at dksJ13___kernel_rem_pio2_52 23 rfl rfl)
theorem dJ13___kernel_rem_pio2_1241 : decode cJ13___kernel_rem_pio2 1241 = .ok (.dstore 22, 2) := dk_57 22 (dk_at dksJ13___kernel_rem_pio2_53 0 rfl rfl)
theorem dJ13___kernel_rem_pio2_1243 : decode cJ13___kernel_rem_pio2 1243 = .ok (.iinc 13 (-1), 3) := dk_132 13 255 (dk_at dksJ13___kernel_rem_pio2_53 2 rfl rfl)
theorem dJ13___kernel_rem_pio2_1246 : decode cJ13___kernel_rem_pio2 1246 = .ok (.goto (-19), 3) := dk_167 255 237 (dk_at dksJ13___kernel_rem_pio2_53 5 rfl rfl)
theorem dJ13___kernel_rem_pio2_1249 : decode cJ13___kernel_rem_pio2 1249 = .ok (.iload 18, 2) := dk_21 18 (dk_at dksJ13___kernel_rem_pio2_53 8 rfl rfl)
theorem dJ13___kernel_rem_pio2_1251 : decode cJ13___kernel_rem_pio2 1251 = .ok (.ifCond .ne 25, 3) := dk_154 0 25 (dk_at dksJ13___kernel_rem_pio2_53 10 rfl rfl)
theorem dJ13___kernel_rem_pio2_1254 : decode cJ13___kernel_rem_pio2 1254 = .ok (.aload_n 1, 1) := dk_43 (dk_at dksJ13___kernel_rem_pio2_53 13 rfl rfl)
theorem dJ13___kernel_rem_pio2_1255 : decode cJ13___kernel_rem_pio2 1255 = .ok (.iconst 0, 1) := dk_3 (dk_at dksJ13___kernel_rem_pio2_53 14 rfl rfl)
theorem dJ13___kernel_rem_pio2_1256 : decode cJ13___kernel_rem_pio2 1256 = .ok (.aload 25, 2) := dk_25 25 (dk_at dksJ13___kernel_rem_pio2_53 15 rfl rfl)
theorem dJ13___kernel_rem_pio2_1258 : decode cJ13___kernel_rem_pio2 1258 = .ok (.iconst 0, 1) := dk_3 (dk_at dksJ13___kernel_rem_pio2_53 17 rfl rfl)
theorem dJ13___kernel_rem_pio2_1259 : decode cJ13___kernel_rem_pio2 1259 = .ok (.daload, 1) := dk_49 (dk_at dksJ13___kernel_rem_pio2_53 18 rfl rfl)
theorem dJ13___kernel_rem_pio2_1260 : decode cJ13___kernel_rem_pio2 1260 = .ok (.dastore, 1) := dk_82 (dk_at dksJ13___kernel_rem_pio2_53 19 rfl rfl)
theorem dJ13___kernel_rem_pio2_1261 : decode cJ13___kernel_rem_pio2 1261 = .ok (.aload_n 1, 1) := dk_43 (dk_at dksJ13___kernel_rem_pio2_53 20 rfl rfl)
theorem dJ13___kernel_rem_pio2_1262 : decode cJ13___kernel_rem_pio2 1262 = .ok (.iconst 1, 1) := dk_4 (dk_at dksJ13___kernel_rem_pio2_53 21 rfl rfl)
theorem dJ13___kernel_rem_pio2_1263 : decode cJ13___kernel_rem_pio2 1263 = .ok (.aload 25, 2) := dk_25 25 (dk_at dksJ13___kernel_rem_pio2_53 22 rfl rfl)
theorem dJ13___kernel_rem_pio2_1265 : decode cJ13___kernel_rem_pio2 1265 = .ok (.iconst 1, 1) := dk_4 (dk_at dksJ13___kernel_rem_pio2_54 0 rfl rfl)
theorem dJ13___kernel_rem_pio2_1266 : decode cJ13___kernel_rem_pio2 1266 = .ok (.daload, 1) := dk_49 (dk_at dksJ13___kernel_rem_pio2_54 1 rfl rfl)
theorem dJ13___kernel_rem_pio2_1267 : decode cJ13___kernel_rem_pio2 1267 = .ok (.dastore, 1) := dk_82 (dk_at dksJ13___kernel_rem_pio2_54 2 rfl rfl)
theorem dJ13___kernel_rem_pio2_1268 : decode cJ13___kernel_rem_pio2 1268 = .ok (.aload_n 1, 1) := dk_43 (dk_at dksJ13___kernel_rem_pio2_54 3 rfl rfl)
theorem dJ13___kernel_rem_pio2_1269 : decode cJ13___kernel_rem_pio2 1269 = .ok (.iconst 2, 1) := dk_5 (dk_at dksJ13___kernel_rem_pio2_54 4 rfl rfl)
theorem dJ13___kernel_rem_pio2_1270 : decode cJ13___kernel_rem_pio2 1270 = .ok (.dload 22, 2) := dk_24 22 (dk_at dksJ13___kernel_rem_pio2_54 5 rfl rfl)
theorem dJ13___kernel_rem_pio2_1272 : decode cJ13___kernel_rem_pio2 1272 = .ok (.dastore, 1) := dk_82 (dk_at dksJ13___kernel_rem_pio2_54 7 rfl rfl)
theorem dJ13___kernel_rem_pio2_1273 : decode cJ13___kernel_rem_pio2 1273 = .ok (.goto 25, 3) := dk_167 0 25 (dk_at dksJ13___kernel_rem_pio2_54 8 rfl rfl)
theorem dJ13___kernel_rem_pio2_1276 : decode cJ13___kernel_rem_pio2 1276 = .ok (.aload_n 1, 1) := dk_43 (dk_at dksJ13___kernel_rem_pio2_54 11 rfl rfl)
theorem dJ13___kernel_rem_pio2_1277 : decode cJ13___kernel_rem_pio2 1277 = .ok (.iconst 0, 1) := dk_3 (dk_at dksJ13___kernel_rem_pio2_54 12 rfl rfl)
theorem dJ13___kernel_rem_pio2_1278 : decode cJ13___kernel_rem_pio2 1278 = .ok (.aload 25, 2) := dk_25 25 (dk_at dksJ13___kernel_rem_pio2_54 13 rfl rfl)
theorem dJ13___kernel_rem_pio2_1280 : decode cJ13___kernel_rem_pio2 1280 = .ok (.iconst 0, 1) := dk_3 (dk_at dksJ13___kernel_rem_pio2_54 15 rfl rfl)
theorem dJ13___kernel_rem_pio2_1281 : decode cJ13___kernel_rem_pio2 1281 = .ok (.daload, 1) := dk_49 (dk_at dksJ13___kernel_rem_pio2_54 16 rfl rfl)
theorem dJ13___kernel_rem_pio2_1282 : decode cJ13___kernel_rem_pio2 1282 = .ok (.dneg, 1) := dk_119 (dk_at dksJ13___kernel_rem_pio2_54 17 rfl rfl)
theorem dJ13___kernel_rem_pio2_1283 : decode cJ13___kernel_rem_pio2 1283 = .ok (.dastore, 1) := dk_82 (dk_at dksJ13___kernel_rem_pio2_54 18 rfl rfl)
theorem dJ13___kernel_rem_pio2_1284 : decode cJ13___kernel_rem_pio2 1284 = .ok (.aload_n 1, 1) := dk_43 (dk_at dksJ13___kernel_rem_pio2_54 19 rfl rfl)
theorem dJ13___kernel_rem_pio2_1285 : decode cJ13___kernel_rem_pio2 1285 = .ok (.iconst 1, 1) := dk_4 (dk_at dksJ13___kernel_rem_pio2_54 20 rfl rfl)
theorem dJ13___kernel_rem_pio2_1286 : decode cJ13___kernel_rem_pio2 1286 = .ok (.aload 25, 2) := dk_25 25 (dk_at dksJ13___kernel_rem_pio2_54 21 rfl rfl)
theorem dJ13___kernel_rem_pio2_1288 : decode cJ13___kernel_rem_pio2 1288 = .ok (.iconst 1, 1) := dk_4 (dk_at dksJ13___kernel_rem_pio2_54 23 rfl rfl)
theorem dJ13___kernel_rem_pio2_1289 : decode cJ13___kernel_rem_pio2 1289 = .ok (.daload, 1) := dk_49 (dk_at dksJ13___kernel_rem_pio2_55 0 rfl rfl)
theorem dJ13___kernel_rem_pio2_1290 : decode cJ13___kernel_rem_pio2 1290 = .ok (.dneg, 1) := dk_119 (dk_at dksJ13___kernel_rem_pio2_55 1 rfl rfl)
theorem dJ13___kernel_rem_pio2_1291 : decode cJ13___kernel_rem_pio2 1291 = .ok (.dastore, 1) := dk_82 (dk_at dksJ13___kernel_rem_pio2_55 2 rfl rfl)
theorem dJ13___kernel_rem_pio2_1292 : decode cJ13___kernel_rem_pio2 1292 = .ok (.aload_n 1, 1) := dk_43 (dk_at dksJ13___kernel_rem_pio2_55 3 rfl rfl)
theorem dJ13___kernel_rem_pio2_1293 : decode cJ13___kernel_rem_pio2 1293 = .ok (.iconst 2, 1) := dk_5 (dk_at dksJ13___kernel_rem_pio2_55 4 rfl rfl)
theorem dJ13___kernel_rem_pio2_1294 : decode cJ13___kernel_rem_pio2 1294 = .ok (.dload 22, 2) := dk_24 22 (dk_at dksJ13___kernel_rem_pio2_55 5 rfl rfl)
theorem dJ13___kernel_rem_pio2_1296 : decode cJ13___kernel_rem_pio2 1296 = .ok (.dneg, 1) := dk_119 (dk_at dksJ13___kernel_rem_pio2_55 7 rfl rfl)
theorem dJ13___kernel_rem_pio2_1297 : decode cJ13___kernel_rem_pio2 1297 = .ok (.dastore, 1) := dk_82 (dk_at dksJ13___kernel_rem_pio2_55 8 rfl rfl)
theorem dJ13___kernel_rem_pio2_1298 : decode cJ13___kernel_rem_pio2 1298 = .ok (.iload 12, 2) := dk_21 12 (dk_at dksJ13___kernel_rem_pio2_55 9 rfl rfl)
theorem dJ13___kernel_rem_pio2_1300 : decode cJ13___kernel_rem_pio2 1300 = .ok (.bipush 7, 2) := dk_16 7 (dk_at dksJ13___kernel_rem_pio2_55 11 rfl rfl)
theorem dJ13___kernel_rem_pio2_1302 : decode cJ13___kernel_rem_pio2 1302 = .ok (.iand, 1) := dk_126 (dk_at dksJ13___kernel_rem_pio2_55 13 rfl rfl)
theorem dJ13___kernel_rem_pio2_1303 : decode cJ13___kernel_rem_pio2 1303 = .ok (.ireturn, 1) := dk_172 (dk_at dksJ13___kernel_rem_pio2_55 14 rfl rfl)
theorem q54 : (Jvm.Cond.initialized "java/lang/FdLibm$KernelRemPio2") ∈ lw_all := lw_g (lw_at lw_m1 15 rfl) rfl
theorem q243 : (Jvm.Cond.static ({ cls := "java/lang/FdLibm$KernelRemPio2", name := "__kernel_rem_pio2", desc := "([D[DIII[I)I" } : Jvm.MethodName)) ∈ lw_all := lw_g (lw_at lw_m1 204 rfl) rfl
theorem q244 : (Jvm.Cond.code ({ cls := "java/lang/FdLibm$KernelRemPio2", name := "__kernel_rem_pio2", desc := "([D[DIII[I)I" } : Jvm.MethodName) prog_13_method_2_code (27 : Nat) (Option.some Jvm.ClassFile.FieldType.int)) ∈ lw_all := lw_g (lw_at lw_m1 205 rfl) rfl
theorem q245 : (Jvm.Cond.fieldLink "java/lang/FdLibm$KernelRemPio2" (9 : Nat) "java/lang/FdLibm$KernelRemPio2" "init_jk" "[I") ∈ lw_all := lw_g (lw_at lw_m1 206 rfl) rfl
theorem q246 : (Jvm.Cond.laysStatic "java/lang/FdLibm$KernelRemPio2" "init_jk" "[I") ∈ lw_tbl := lw_at lw_m1 207 rfl
theorem q247 : (Jvm.Cond.constantDouble "java/lang/FdLibm$KernelRemPio2" (15 : Nat) (4499096027743125504 : UInt64)) ∈ lw_all := lw_g (lw_at lw_m1 208 rfl) rfl
theorem q248 : (Jvm.Cond.constantDouble "java/lang/FdLibm$KernelRemPio2" (17 : Nat) (4715268809856909312 : UInt64)) ∈ lw_all := lw_g (lw_at lw_m1 209 rfl) rfl
theorem q249 : (Jvm.Cond.methodLink "java/lang/FdLibm$KernelRemPio2" (19 : Nat) ({ cls := "java/lang/Math", name := "scalb", desc := "(DI)D" } : Jvm.MethodName)) ∈ lw_all := lw_g (lw_at lw_m1 210 rfl) rfl
theorem q270 : (Jvm.Cond.constantDouble "java/lang/FdLibm$KernelRemPio2" (25 : Nat) (4620693217682128896 : UInt64)) ∈ lw_all := lw_g (lw_at lw_m1 231 rfl) rfl
theorem q271 : (Jvm.Cond.constantDouble "java/lang/FdLibm$KernelRemPio2" (27 : Nat) (4593671619917905920 : UInt64)) ∈ lw_all := lw_g (lw_at lw_m1 232 rfl) rfl
theorem q272 : (Jvm.Cond.methodLink "java/lang/FdLibm$KernelRemPio2" (29 : Nat) ({ cls := "java/lang/Math", name := "floor", desc := "(D)D" } : Jvm.MethodName)) ∈ lw_all := lw_g (lw_at lw_m1 233 rfl) rfl
theorem q291 : (Jvm.Cond.constantDouble "java/lang/FdLibm$KernelRemPio2" (33 : Nat) (4602678819172646912 : UInt64)) ∈ lw_all := lw_g (lw_at lw_m2 12 rfl) rfl
theorem q292 : (Jvm.Cond.constant "java/lang/FdLibm$KernelRemPio2" (35 : Nat) (16777216 : Int32)) ∈ lw_all := lw_g (lw_at lw_m2 13 rfl) rfl
theorem q293 : (Jvm.Cond.constant "java/lang/FdLibm$KernelRemPio2" (36 : Nat) (16777215 : Int32)) ∈ lw_all := lw_g (lw_at lw_m2 14 rfl) rfl
theorem q294 : (Jvm.Cond.constant "java/lang/FdLibm$KernelRemPio2" (37 : Nat) (8388607 : Int32)) ∈ lw_all := lw_g (lw_at lw_m2 15 rfl) rfl
theorem q295 : (Jvm.Cond.constant "java/lang/FdLibm$KernelRemPio2" (38 : Nat) (4194303 : Int32)) ∈ lw_all := lw_g (lw_at lw_m2 16 rfl) rfl
theorem q296 : (Jvm.Cond.fieldLink "java/lang/FdLibm$KernelRemPio2" (39 : Nat) "java/lang/FdLibm$KernelRemPio2" "PIo2" "[D") ∈ lw_all := lw_g (lw_at lw_m2 17 rfl) rfl
theorem q297 : (Jvm.Cond.laysStatic "java/lang/FdLibm$KernelRemPio2" "PIo2" "[D") ∈ lw_tbl := lw_at lw_m2 18 rfl
/-! java/util/DualPivotQuicksort -/
set_option maxRecDepth 100000
def RJ32 : String := "java/util/DualPivotQuicksort"
abbrev cJ32_sort : ByteArray := prog_35_method_41_code
def yJ32_sort : MethodName := ⟨RJ32, "sort", "([DIII)V"⟩
def dkwJ32_sort_9 : List UInt8 := [20, 0, 190, 82, 167, 255, 239, 177]
abbrev dktJ32_sort_9 : List UInt8 := dkwJ32_sort_9 ++ []
def dkwJ32_sort_8 : List UInt8 := [167, 0, 8, 21, 6, 4, 100, 62, 167, 255, 222, 132, 4, 255, 21, 4, 158, 0, 15, 42, 132, 3, 1, 29]
abbrev dktJ32_sort_8 : List UInt8 := dkwJ32_sort_8 ++ dktJ32_sort_9
def dkwJ32_sort_7 : List UInt8 := [163, 0, 35, 28, 29, 96, 4, 124, 54, 6, 42, 21, 6, 49, 14, 152, 156, 0, 11, 21, 6, 4, 96, 61]
abbrev dktJ32_sort_7 : List UInt8 := dkwJ32_sort_7 ++ dktJ32_sort_8
def dkwJ32_sort_6 : List UInt8 := [167, 0, 11, 1, 42, 3, 28, 29, 184, 0, 187, 132, 4, 1, 21, 4, 4, 160, 0, 4, 177, 28, 29]
abbrev dktJ32_sort_6 : List UInt8 := dkwJ32_sort_6 ++ dktJ32_sort_7
def dkwJ32_sort_5 : List UInt8 := [58, 7, 187, 0, 17, 89, 1, 42, 25, 7, 28, 21, 5, 28, 21, 6, 183, 0, 19, 182, 0, 22, 87]
abbrev dktJ32_sort_5 : List UInt8 := dkwJ32_sort_5 ++ dktJ32_sort_6
def dkwJ32_sort_4 : List UInt8 := [27, 21, 5, 16, 12, 122, 184, 0, 13, 54, 6, 21, 6, 154, 0, 7, 1, 167, 0, 7, 21, 5, 188, 7]
abbrev dktJ32_sort_4 : List UInt8 := dkwJ32_sort_4 ++ dktJ32_sort_5
def dkwJ32_sort_3 : List UInt8 := [24, 6, 82, 167, 255, 190, 29, 28, 100, 54, 5, 27, 4, 164, 0, 61, 21, 5, 17, 16, 0, 164, 0, 53]
abbrev dktJ32_sort_3 : List UInt8 := dkwJ32_sort_3 ++ dktJ32_sort_4
def dkwJ32_sort_2 : List UInt8 := [167, 0, 26, 24, 6, 24, 6, 151, 153, 0, 18, 42, 21, 5, 42, 132, 3, 255, 29, 49, 82, 42, 29]
abbrev dktJ32_sort_2 : List UInt8 := dkwJ32_sort_2 ++ dktJ32_sort_3
def dkwJ32_sort_1 : List UInt8 := [151, 154, 0, 24, 24, 6, 184, 0, 181, 9, 148, 156, 0, 14, 132, 4, 1, 42, 21, 5, 14, 82]
abbrev dktJ32_sort_1 : List UInt8 := dkwJ32_sort_1 ++ dktJ32_sort_2
def dkwJ32_sort_0 : List UInt8 := [3, 54, 4, 29, 54, 5, 21, 5, 28, 164, 0, 66, 42, 132, 5, 255, 21, 5, 49, 57, 6, 24, 6, 14]
abbrev dktJ32_sort_0 : List UInt8 := dkwJ32_sort_0 ++ dktJ32_sort_1
theorem dksJ32_sort_0 : cJ32_sort.data.toList.drop 0 = dktJ32_sort_0 := by decide +kernel
theorem dksJ32_sort_1 : cJ32_sort.data.toList.drop 24 = dktJ32_sort_1 := dk_seg dksJ32_sort_0 24 rfl rfl
theorem dksJ32_sort_2 : cJ32_sort.data.toList.drop 46 = dktJ32_sort_2 := dk_seg dksJ32_sort_1 22 rfl rfl
theorem dksJ32_sort_3 : cJ32_sort.data.toList.drop 69 = dktJ32_sort_3 := dk_seg dksJ32_sort_2 23 rfl rfl
theorem dksJ32_sort_4 : cJ32_sort.data.toList.drop 93 = dktJ32_sort_4 := dk_seg dksJ32_sort_3 24 rfl rfl
theorem dksJ32_sort_5 : cJ32_sort.data.toList.drop 117 = dktJ32_sort_5 := dk_seg dksJ32_sort_4 24 rfl rfl
theorem dksJ32_sort_6 : cJ32_sort.data.toList.drop 140 = dktJ32_sort_6 := dk_seg dksJ32_sort_5 23 rfl rfl
theorem dksJ32_sort_7 : cJ32_sort.data.toList.drop 163 = dktJ32_sort_7 := dk_seg dksJ32_sort_6 23 rfl rfl
theorem dksJ32_sort_8 : cJ32_sort.data.toList.drop 187 = dktJ32_sort_8 := dk_seg dksJ32_sort_7 24 rfl rfl
theorem dksJ32_sort_9 : cJ32_sort.data.toList.drop 211 = dktJ32_sort_9 := dk_seg dksJ32_sort_8 24 rfl rfl
theorem dJ32_sort_0 : decode cJ32_sort 0 = .ok (.iconst 0, 1) := dk_3 (dk_at dksJ32_sort_0 0 rfl rfl)
theorem dJ32_sort_1 : decode cJ32_sort 1 = .ok (.istore 4, 2) := dk_54 4 (dk_at dksJ32_sort_0 1 rfl rfl)
theorem dJ32_sort_3 : decode cJ32_sort 3 = .ok (.iload_n 3, 1) := dk_29 (dk_at dksJ32_sort_0 3 rfl rfl)
theorem dJ32_sort_4 : decode cJ32_sort 4 = .ok (.istore 5, 2) := dk_54 5 (dk_at dksJ32_sort_0 4 rfl rfl)
theorem dJ32_sort_6 : decode cJ32_sort 6 = .ok (.iload 5, 2) := dk_21 5 (dk_at dksJ32_sort_0 6 rfl rfl)
theorem dJ32_sort_8 : decode cJ32_sort 8 = .ok (.iload_n 2, 1) := dk_28 (dk_at dksJ32_sort_0 8 rfl rfl)
theorem dJ32_sort_9 : decode cJ32_sort 9 = .ok (.if_icmp .le 66, 3) := dk_164 0 66 (dk_at dksJ32_sort_0 9 rfl rfl)
theorem dJ32_sort_12 : decode cJ32_sort 12 = .ok (.aload_n 0, 1) := dk_42 (dk_at dksJ32_sort_0 12 rfl rfl)
theorem dJ32_sort_13 : decode cJ32_sort 13 = .ok (.iinc 5 (-1), 3) := dk_132 5 255 (dk_at dksJ32_sort_0 13 rfl rfl)
theorem dJ32_sort_16 : decode cJ32_sort 16 = .ok (.iload 5, 2) := dk_21 5 (dk_at dksJ32_sort_0 16 rfl rfl)
theorem dJ32_sort_18 : decode cJ32_sort 18 = .ok (.daload, 1) := dk_49 (dk_at dksJ32_sort_0 18 rfl rfl)
theorem dJ32_sort_19 : decode cJ32_sort 19 = .ok (.dstore 6, 2) := dk_57 6 (dk_at dksJ32_sort_0 19 rfl rfl)
theorem dJ32_sort_21 : decode cJ32_sort 21 = .ok (.dload 6, 2) := dk_24 6 (dk_at dksJ32_sort_0 21 rfl rfl)
theorem dJ32_sort_23 : decode cJ32_sort 23 = .ok (.dconst 0, 1) := dk_14 (dk_at dksJ32_sort_0 23 rfl rfl)
theorem dJ32_sort_24 : decode cJ32_sort 24 = .ok (.dcmp .l, 1) := dk_151 (dk_at dksJ32_sort_1 0 rfl rfl)
theorem dJ32_sort_25 : decode cJ32_sort 25 = .ok (.ifCond .ne 24, 3) := dk_154 0 24 (dk_at dksJ32_sort_1 1 rfl rfl)
theorem dJ32_sort_28 : decode cJ32_sort 28 = .ok (.dload 6, 2) := dk_24 6 (dk_at dksJ32_sort_1 4 rfl rfl)
theorem dJ32_sort_30 : decode cJ32_sort 30 = .ok (.invokestatic 181, 3) := dk_184 0 181 (dk_at dksJ32_sort_1 6 rfl rfl)
theorem dJ32_sort_33 : decode cJ32_sort 33 = .ok (.lconst 0, 1) := dk_9 (dk_at dksJ32_sort_1 9 rfl rfl)
theorem dJ32_sort_34 : decode cJ32_sort 34 = .ok (.lcmp, 1) := dk_148 (dk_at dksJ32_sort_1 10 rfl rfl)
theorem dJ32_sort_35 : decode cJ32_sort 35 = .ok (.ifCond .ge 14, 3) := dk_156 0 14 (dk_at dksJ32_sort_1 11 rfl rfl)
theorem dJ32_sort_38 : decode cJ32_sort 38 = .ok (.iinc 4 1, 3) := dk_132 4 1 (dk_at dksJ32_sort_1 14 rfl rfl)
theorem dJ32_sort_41 : decode cJ32_sort 41 = .ok (.aload_n 0, 1) := dk_42 (dk_at dksJ32_sort_1 17 rfl rfl)
theorem dJ32_sort_42 : decode cJ32_sort 42 = .ok (.iload 5, 2) := dk_21 5 (dk_at dksJ32_sort_1 18 rfl rfl)
theorem dJ32_sort_44 : decode cJ32_sort 44 = .ok (.dconst 0, 1) := dk_14 (dk_at dksJ32_sort_1 20 rfl rfl)
theorem dJ32_sort_45 : decode cJ32_sort 45 = .ok (.dastore, 1) := dk_82 (dk_at dksJ32_sort_1 21 rfl rfl)
theorem dJ32_sort_46 : decode cJ32_sort 46 = .ok (.goto 26, 3) := dk_167 0 26 (dk_at dksJ32_sort_2 0 rfl rfl)
theorem dJ32_sort_49 : decode cJ32_sort 49 = .ok (.dload 6, 2) := dk_24 6 (dk_at dksJ32_sort_2 3 rfl rfl)
theorem dJ32_sort_51 : decode cJ32_sort 51 = .ok (.dload 6, 2) := dk_24 6 (dk_at dksJ32_sort_2 5 rfl rfl)
theorem dJ32_sort_53 : decode cJ32_sort 53 = .ok (.dcmp .l, 1) := dk_151 (dk_at dksJ32_sort_2 7 rfl rfl)
theorem dJ32_sort_54 : decode cJ32_sort 54 = .ok (.ifCond .eq 18, 3) := dk_153 0 18 (dk_at dksJ32_sort_2 8 rfl rfl)
theorem dJ32_sort_57 : decode cJ32_sort 57 = .ok (.aload_n 0, 1) := dk_42 (dk_at dksJ32_sort_2 11 rfl rfl)
theorem dJ32_sort_58 : decode cJ32_sort 58 = .ok (.iload 5, 2) := dk_21 5 (dk_at dksJ32_sort_2 12 rfl rfl)
theorem dJ32_sort_60 : decode cJ32_sort 60 = .ok (.aload_n 0, 1) := dk_42 (dk_at dksJ32_sort_2 14 rfl rfl)
theorem dJ32_sort_61 : decode cJ32_sort 61 = .ok (.iinc 3 (-1), 3) := dk_132 3 255 (dk_at dksJ32_sort_2 15 rfl rfl)
theorem dJ32_sort_64 : decode cJ32_sort 64 = .ok (.iload_n 3, 1) := dk_29 (dk_at dksJ32_sort_2 18 rfl rfl)
theorem dJ32_sort_65 : decode cJ32_sort 65 = .ok (.daload, 1) := dk_49 (dk_at dksJ32_sort_2 19 rfl rfl)
theorem dJ32_sort_66 : decode cJ32_sort 66 = .ok (.dastore, 1) := dk_82 (dk_at dksJ32_sort_2 20 rfl rfl)
theorem dJ32_sort_67 : decode cJ32_sort 67 = .ok (.aload_n 0, 1) := dk_42 (dk_at dksJ32_sort_2 21 rfl rfl)
theorem dJ32_sort_68 : decode cJ32_sort 68 = .ok (.iload_n 3, 1) := dk_29 (dk_at dksJ32_sort_2 22 rfl rfl)
theorem dJ32_sort_69 : decode cJ32_sort 69 = .ok (.dload 6, 2) := dk_24 6 (dk_at dksJ32_sort_3 0 rfl rfl)
theorem dJ32_sort_71 : decode cJ32_sort 71 = .ok (.dastore, 1) := dk_82 (dk_at dksJ32_sort_3 2 rfl rfl)
theorem dJ32_sort_72 : decode cJ32_sort 72 = .ok (.goto (-66), 3) := dk_167 255 190 (dk_at dksJ32_sort_3 3 rfl rfl)
theorem dJ32_sort_75 : decode cJ32_sort 75 = .ok (.iload_n 3, 1) := dk_29 (dk_at dksJ32_sort_3 6 rfl rfl)
theorem dJ32_sort_76 : decode cJ32_sort 76 = .ok (.iload_n 2, 1) := dk_28 (dk_at dksJ32_sort_3 7 rfl rfl)
theorem dJ32_sort_77 : decode cJ32_sort 77 = .ok (.isub, 1) := dk_100 (dk_at dksJ32_sort_3 8 rfl rfl)
theorem dJ32_sort_78 : decode cJ32_sort 78 = .ok (.istore 5, 2) := dk_54 5 (dk_at dksJ32_sort_3 9 rfl rfl)
theorem dJ32_sort_80 : decode cJ32_sort 80 = .ok (.iload_n 1, 1) := dk_27 (dk_at dksJ32_sort_3 11 rfl rfl)
theorem dJ32_sort_81 : decode cJ32_sort 81 = .ok (.iconst 1, 1) := dk_4 (dk_at dksJ32_sort_3 12 rfl rfl)
theorem dJ32_sort_82 : decode cJ32_sort 82 = .ok (.if_icmp .le 61, 3) := dk_164 0 61 (dk_at dksJ32_sort_3 13 rfl rfl)
theorem dJ32_sort_85 : decode cJ32_sort 85 = .ok (.iload 5, 2) := dk_21 5 (dk_at dksJ32_sort_3 16 rfl rfl)
theorem dJ32_sort_87 : decode cJ32_sort 87 = .ok (.sipush 4096, 3) := dk_17 16 0 (dk_at dksJ32_sort_3 18 rfl rfl)
theorem dJ32_sort_90 : decode cJ32_sort 90 = .ok (.if_icmp .le 53, 3) := dk_164 0 53 (dk_at dksJ32_sort_3 21 rfl rfl)
theorem dJ32_sort_93 : decode cJ32_sort 93 = .ok (.iload_n 1, 1) := dk_27 (dk_at dksJ32_sort_4 0 rfl rfl)
theorem dJ32_sort_94 : decode cJ32_sort 94 = .ok (.iload 5, 2) := dk_21 5 (dk_at dksJ32_sort_4 1 rfl rfl)
theorem dJ32_sort_96 : decode cJ32_sort 96 = .ok (.bipush 12, 2) := dk_16 12 (dk_at dksJ32_sort_4 3 rfl rfl)
theorem dJ32_sort_98 : decode cJ32_sort 98 = .ok (.ishr, 1) := dk_122 (dk_at dksJ32_sort_4 5 rfl rfl)
theorem dJ32_sort_99 : decode cJ32_sort 99 = .ok (.invokestatic 13, 3) := dk_184 0 13 (dk_at dksJ32_sort_4 6 rfl rfl)
theorem dJ32_sort_102 : decode cJ32_sort 102 = .ok (.istore 6, 2) := dk_54 6 (dk_at dksJ32_sort_4 9 rfl rfl)
theorem dJ32_sort_104 : decode cJ32_sort 104 = .ok (.iload 6, 2) := dk_21 6 (dk_at dksJ32_sort_4 11 rfl rfl)
theorem dJ32_sort_106 : decode cJ32_sort 106 = .ok (.ifCond .ne 7, 3) := dk_154 0 7 (dk_at dksJ32_sort_4 13 rfl rfl)
theorem dJ32_sort_109 : decode cJ32_sort 109 = .ok (.aconst_null, 1) := dk_1 (dk_at dksJ32_sort_4 16 rfl rfl)
theorem dJ32_sort_110 : decode cJ32_sort 110 = .ok (.goto 7, 3) := dk_167 0 7 (dk_at dksJ32_sort_4 17 rfl rfl)
theorem dJ32_sort_113 : decode cJ32_sort 113 = .ok (.iload 5, 2) := dk_21 5 (dk_at dksJ32_sort_4 20 rfl rfl)
theorem dJ32_sort_115 : decode cJ32_sort 115 = .ok (.newarray .double, 2) := dk_188_7 (dk_at dksJ32_sort_4 22 rfl rfl)
theorem dJ32_sort_117 : decode cJ32_sort 117 = .ok (.astore 7, 2) := dk_58 7 (dk_at dksJ32_sort_5 0 rfl rfl)
theorem dJ32_sort_119 : decode cJ32_sort 119 = .ok (.new 17, 3) := dk_187 0 17 (dk_at dksJ32_sort_5 2 rfl rfl)
theorem dJ32_sort_122 : decode cJ32_sort 122 = .ok (.dup, 1) := dk_89 (dk_at dksJ32_sort_5 5 rfl rfl)
theorem dJ32_sort_123 : decode cJ32_sort 123 = .ok (.aconst_null, 1) := dk_1 (dk_at dksJ32_sort_5 6 rfl rfl)
theorem dJ32_sort_124 : decode cJ32_sort 124 = .ok (.aload_n 0, 1) := dk_42 (dk_at dksJ32_sort_5 7 rfl rfl)
theorem dJ32_sort_125 : decode cJ32_sort 125 = .ok (.aload 7, 2) := dk_25 7 (dk_at dksJ32_sort_5 8 rfl rfl)
theorem dJ32_sort_127 : decode cJ32_sort 127 = .ok (.iload_n 2, 1) := dk_28 (dk_at dksJ32_sort_5 10 rfl rfl)
theorem dJ32_sort_128 : decode cJ32_sort 128 = .ok (.iload 5, 2) := dk_21 5 (dk_at dksJ32_sort_5 11 rfl rfl)
theorem dJ32_sort_130 : decode cJ32_sort 130 = .ok (.iload_n 2, 1) := dk_28 (dk_at dksJ32_sort_5 13 rfl rfl)
theorem dJ32_sort_131 : decode cJ32_sort 131 = .ok (.iload 6, 2) := dk_21 6 (dk_at dksJ32_sort_5 14 rfl rfl)
theorem dJ32_sort_133 : decode cJ32_sort 133 = .ok (.invokespecial 19, 3) := dk_183 0 19 (dk_at dksJ32_sort_5 16 rfl rfl)
theorem dJ32_sort_136 : decode cJ32_sort 136 = .ok (.invokevirtual 22, 3) := dk_182 0 22 (dk_at dksJ32_sort_5 19 rfl rfl)
theorem dJ32_sort_139 : decode cJ32_sort 139 = .ok (.pop, 1) := dk_87 (dk_at dksJ32_sort_5 22 rfl rfl)
theorem dJ32_sort_140 : decode cJ32_sort 140 = .ok (.goto 11, 3) := dk_167 0 11 (dk_at dksJ32_sort_6 0 rfl rfl)
theorem dJ32_sort_143 : decode cJ32_sort 143 = .ok (.aconst_null, 1) := dk_1 (dk_at dksJ32_sort_6 3 rfl rfl)
theorem dJ32_sort_144 : decode cJ32_sort 144 = .ok (.aload_n 0, 1) := dk_42 (dk_at dksJ32_sort_6 4 rfl rfl)
theorem dJ32_sort_145 : decode cJ32_sort 145 = .ok (.iconst 0, 1) := dk_3 (dk_at dksJ32_sort_6 5 rfl rfl)
theorem dJ32_sort_146 : decode cJ32_sort 146 = .ok (.iload_n 2, 1) := dk_28 (dk_at dksJ32_sort_6 6 rfl rfl)
theorem dJ32_sort_147 : decode cJ32_sort 147 = .ok (.iload_n 3, 1) := dk_29 (dk_at dksJ32_sort_6 7 rfl rfl)
theorem dJ32_sort_148 : decode cJ32_sort 148 = .ok (.invokestatic 187, 3) := dk_184 0 187 (dk_at dksJ32_sort_6 8 rfl rfl)
theorem dJ32_sort_151 : decode cJ32_sort 151 = .ok (.iinc 4 1, 3) := dk_132 4 1 (dk_at dksJ32_sort_6 11 rfl rfl)
theorem dJ32_sort_154 : decode cJ32_sort 154 = .ok (.iload 4, 2) := dk_21 4 (dk_at dksJ32_sort_6 14 rfl rfl)
theorem dJ32_sort_156 : decode cJ32_sort 156 = .ok (.iconst 1, 1) := dk_4 (dk_at dksJ32_sort_6 16 rfl rfl)
theorem dJ32_sort_157 : decode cJ32_sort 157 = .ok (.if_icmp .ne 4, 3) := dk_160 0 4 (dk_at dksJ32_sort_6 17 rfl rfl)
theorem dJ32_sort_160 : decode cJ32_sort 160 = .ok (.return_, 1) := dk_177 (dk_at dksJ32_sort_6 20 rfl rfl)
theorem dJ32_sort_161 : decode cJ32_sort 161 = .ok (.iload_n 2, 1) := dk_28 (dk_at dksJ32_sort_6 21 rfl rfl)
theorem dJ32_sort_162 : decode cJ32_sort 162 = .ok (.iload_n 3, 1) := dk_29 (dk_at dksJ32_sort_6 22 rfl rfl)
theorem dJ32_sort_163 : decode cJ32_sort 163 = .ok (.if_icmp .gt 35, 3) := dk_163 0 35 (dk_at dksJ32_sort_7 0 rfl rfl)
theorem dJ32_sort_166 : decode cJ32_sort 166 = .ok (.iload_n 2, 1) := dk_28 (dk_at dksJ32_sort_7 3 rfl rfl)
theorem dJ32_sort_167 : decode cJ32_sort 167 = .ok (.iload_n 3, 1) := dk_29 (dk_at dksJ32_sort_7 4 rfl rfl)
theorem dJ32_sort_168 : decode cJ32_sort 168 = .ok (.iadd, 1) := dk_96 (dk_at dksJ32_sort_7 5 rfl rfl)
theorem dJ32_sort_169 : decode cJ32_sort 169 = .ok (.iconst 1, 1) := dk_4 (dk_at dksJ32_sort_7 6 rfl rfl)
theorem dJ32_sort_170 : decode cJ32_sort 170 = .ok (.iushr, 1) := dk_124 (dk_at dksJ32_sort_7 7 rfl rfl)
theorem dJ32_sort_171 : decode cJ32_sort 171 = .ok (.istore 6, 2) := dk_54 6 (dk_at dksJ32_sort_7 8 rfl rfl)
theorem dJ32_sort_173 : decode cJ32_sort 173 = .ok (.aload_n 0, 1) := dk_42 (dk_at dksJ32_sort_7 10 rfl rfl)
theorem dJ32_sort_174 : decode cJ32_sort 174 = .ok (.iload 6, 2) := dk_21 6 (dk_at dksJ32_sort_7 11 rfl rfl)
theorem dJ32_sort_176 : decode cJ32_sort 176 = .ok (.daload, 1) := dk_49 (dk_at dksJ32_sort_7 13 rfl rfl)
theorem dJ32_sort_177 : decode cJ32_sort 177 = .ok (.dconst 0, 1) := dk_14 (dk_at dksJ32_sort_7 14 rfl rfl)
theorem dJ32_sort_178 : decode cJ32_sort 178 = .ok (.dcmp .g, 1) := dk_152 (dk_at dksJ32_sort_7 15 rfl rfl)
theorem dJ32_sort_179 : decode cJ32_sort 179 = .ok (.ifCond .ge 11, 3) := dk_156 0 11 (dk_at dksJ32_sort_7 16 rfl rfl)
theorem dJ32_sort_182 : decode cJ32_sort 182 = .ok (.iload 6, 2) := dk_21 6 (dk_at dksJ32_sort_7 19 rfl rfl)
theorem dJ32_sort_184 : decode cJ32_sort 184 = .ok (.iconst 1, 1) := dk_4 (dk_at dksJ32_sort_7 21 rfl rfl)
theorem dJ32_sort_185 : decode cJ32_sort 185 = .ok (.iadd, 1) := dk_96 (dk_at dksJ32_sort_7 22 rfl rfl)
theorem dJ32_sort_186 : decode cJ32_sort 186 = .ok (.istore_n 2, 1) := dk_61 (dk_at dksJ32_sort_7 23 rfl rfl)
theorem dJ32_sort_187 : decode cJ32_sort 187 = .ok (.goto 8, 3) := dk_167 0 8 (dk_at dksJ32_sort_8 0 rfl rfl)
theorem dJ32_sort_190 : decode cJ32_sort 190 = .ok (.iload 6, 2) := dk_21 6 (dk_at dksJ32_sort_8 3 rfl rfl)
theorem dJ32_sort_192 : decode cJ32_sort 192 = .ok (.iconst 1, 1) := dk_4 (dk_at dksJ32_sort_8 5 rfl rfl)
theorem dJ32_sort_193 : decode cJ32_sort 193 = .ok (.isub, 1) := dk_100 (dk_at dksJ32_sort_8 6 rfl rfl)
theorem dJ32_sort_194 : decode cJ32_sort 194 = .ok (.istore_n 3, 1) := dk_62 (dk_at dksJ32_sort_8 7 rfl rfl)
theorem dJ32_sort_195 : decode cJ32_sort 195 = .ok (.goto (-34), 3) := dk_167 255 222 (dk_at dksJ32_sort_8 8 rfl rfl)
theorem dJ32_sort_198 : decode cJ32_sort 198 = .ok (.iinc 4 (-1), 3) := dk_132 4 255 (dk_at dksJ32_sort_8 11 rfl rfl)
theorem dJ32_sort_201 : decode cJ32_sort 201 = .ok (.iload 4, 2) := dk_21 4 (dk_at dksJ32_sort_8 14 rfl rfl)
theorem dJ32_sort_203 : decode cJ32_sort 203 = .ok (.ifCond .le 15, 3) := dk_158 0 15 (dk_at dksJ32_sort_8 16 rfl rfl)
theorem dJ32_sort_206 : decode cJ32_sort 206 = .ok (.aload_n 0, 1) := dk_42 (dk_at dksJ32_sort_8 19 rfl rfl)
theorem dJ32_sort_207 : decode cJ32_sort 207 = .ok (.iinc 3 1, 3) := dk_132 3 1 (dk_at dksJ32_sort_8 20 rfl rfl)
theorem dJ32_sort_210 : decode cJ32_sort 210 = .ok (.iload_n 3, 1) := dk_29 (dk_at dksJ32_sort_8 23 rfl rfl)
theorem dJ32_sort_211 : decode cJ32_sort 211 = .ok (.ldc2_w 190, 3) := dk_20 0 190 (dk_at dksJ32_sort_9 0 rfl rfl)
theorem dJ32_sort_214 : decode cJ32_sort 214 = .ok (.dastore, 1) := dk_82 (dk_at dksJ32_sort_9 3 rfl rfl)
theorem dJ32_sort_215 : decode cJ32_sort 215 = .ok (.goto (-17), 3) := dk_167 255 239 (dk_at dksJ32_sort_9 4 rfl rfl)
theorem dJ32_sort_218 : decode cJ32_sort 218 = .ok (.return_, 1) := dk_177 (dk_at dksJ32_sort_9 7 rfl rfl)
abbrev cJ32_sort_2 : ByteArray := prog_35_method_42_code
def yJ32_sort_2 : MethodName := ⟨RJ32, "sort", "(Ljava/util/DualPivotQuicksort$Sorter;[DIII)V"⟩
def dkwJ32_sort_2_41 : List UInt8 := [167, 252, 57]
abbrev dktJ32_sort_2_41 : List UInt8 := dkwJ32_sort_2_41 ++ []
def dkwJ32_sort_2_40 : List UInt8 := [21, 4, 182, 0, 45, 167, 0, 15, 42, 43, 28, 4, 128, 21, 16, 21, 4, 184, 0, 187, 21, 15, 54, 4]
abbrev dktJ32_sort_2_40 : List UInt8 := dkwJ32_sort_2_40 ++ dktJ32_sort_2_41
def dkwJ32_sort_2_39 : List UInt8 := [21, 15, 24, 17, 82, 21, 6, 17, 16, 0, 164, 0, 21, 42, 198, 0, 17, 42, 28, 4, 128, 21, 16]
abbrev dktJ32_sort_2_39 : List UInt8 := dkwJ32_sort_2_39 ++ dktJ32_sort_2_40
def dkwJ32_sort_2_38 : List UInt8 := [167, 0, 12, 43, 132, 16, 255, 21, 16, 24, 20, 82, 167, 255, 163, 43, 29, 43, 21, 15, 49, 82, 43]
abbrev dktJ32_sort_2_38 : List UInt8 := dkwJ32_sort_2_38 ++ dktJ32_sort_2_39
def dkwJ32_sort_2_37 : List UInt8 := [24, 17, 151, 158, 0, 14, 43, 132, 16, 255, 21, 16, 43, 21, 15, 49, 82, 43, 21, 15, 24, 20, 82]
abbrev dktJ32_sort_2_37 : List UInt8 := dkwJ32_sort_2_37 ++ dktJ32_sort_2_38
def dkwJ32_sort_2_36 : List UInt8 := [156, 0, 49, 43, 132, 15, 1, 21, 15, 49, 24, 17, 152, 156, 0, 6, 167, 255, 243, 43, 21, 15, 49]
abbrev dktJ32_sort_2_36 : List UInt8 := dkwJ32_sort_2_36 ++ dktJ32_sort_2_37
def dkwJ32_sort_2_35 : List UInt8 := [21, 19, 49, 57, 20, 24, 20, 24, 17, 151, 153, 0, 72, 43, 21, 19, 24, 17, 82, 24, 20, 24, 17, 152]
abbrev dktJ32_sort_2_35 : List UInt8 := dkwJ32_sort_2_35 ++ dktJ32_sort_2_36
def dkwJ32_sort_2_34 : List UInt8 := [43, 21, 15, 49, 82, 132, 16, 1, 21, 16, 54, 19, 132, 19, 255, 21, 19, 21, 15, 164, 0, 89, 43]
abbrev dktJ32_sort_2_34 : List UInt8 := dkwJ32_sort_2_34 ++ dktJ32_sort_2_35
def dkwJ32_sort_2_33 : List UInt8 := [28, 4, 128, 21, 16, 4, 96, 21, 4, 184, 0, 187, 167, 0, 171, 43, 21, 10, 49, 57, 17, 43, 21, 10]
abbrev dktJ32_sort_2_33 : List UInt8 := dkwJ32_sort_2_33 ++ dktJ32_sort_2_34
def dkwJ32_sort_2_32 : List UInt8 := [21, 4, 182, 0, 45, 167, 0, 31, 42, 43, 28, 4, 128, 21, 15, 4, 96, 21, 16, 184, 0, 187, 42, 43]
abbrev dktJ32_sort_2_32 : List UInt8 := dkwJ32_sort_2_32 ++ dktJ32_sort_2_33
def dkwJ32_sort_2_31 : List UInt8 := [198, 0, 32, 42, 28, 4, 128, 21, 15, 4, 96, 21, 16, 182, 0, 45, 42, 28, 4, 128, 21, 16, 4, 96]
abbrev dktJ32_sort_2_31 : List UInt8 := dkwJ32_sort_2_31 ++ dktJ32_sort_2_32
def dkwJ32_sort_2_30 : List UInt8 := [21, 5, 43, 21, 16, 49, 82, 43, 21, 16, 24, 19, 82, 21, 6, 17, 16, 0, 164, 0, 36, 42]
abbrev dktJ32_sort_2_30 : List UInt8 := dkwJ32_sort_2_30 ++ dktJ32_sort_2_31
def dkwJ32_sort_2_29 : List UInt8 := [82, 43, 21, 16, 24, 23, 82, 167, 255, 138, 43, 29, 43, 21, 15, 49, 82, 43, 21, 15, 24, 17, 82, 43]
abbrev dktJ32_sort_2_29 : List UInt8 := dkwJ32_sort_2_29 ++ dktJ32_sort_2_30
def dkwJ32_sort_2_28 : List UInt8 := [24, 23, 82, 167, 0, 28, 24, 23, 24, 19, 151, 158, 0, 20, 43, 21, 22, 43, 132, 16, 255, 21, 16, 49]
abbrev dktJ32_sort_2_28 : List UInt8 := dkwJ32_sort_2_28 ++ dktJ32_sort_2_29
def dkwJ32_sort_2_27 : List UInt8 := [82, 43, 21, 16, 43, 21, 15, 49, 82, 167, 0, 11, 43, 21, 22, 43, 21, 15, 49, 82, 43, 21, 15]
abbrev dktJ32_sort_2_27 : List UInt8 := dkwJ32_sort_2_27 ++ dktJ32_sort_2_28
def dkwJ32_sort_2_26 : List UInt8 := [151, 155, 255, 239, 43, 21, 15, 49, 24, 19, 151, 158, 0, 25, 43, 21, 22, 43, 132, 16, 255, 21, 16, 49]
abbrev dktJ32_sort_2_26 : List UInt8 := dkwJ32_sort_2_26 ++ dktJ32_sort_2_27
def dkwJ32_sort_2_25 : List UInt8 := [24, 23, 24, 17, 152, 156, 0, 72, 21, 15, 21, 22, 162, 0, 90, 43, 132, 15, 1, 21, 15, 49, 24, 17]
abbrev dktJ32_sort_2_25 : List UInt8 := dkwJ32_sort_2_25 ++ dktJ32_sort_2_26
def dkwJ32_sort_2_24 : List UInt8 := [132, 16, 1, 21, 16, 54, 22, 132, 22, 255, 21, 22, 21, 15, 164, 0, 114, 43, 21, 22, 49, 57, 23]
abbrev dktJ32_sort_2_24 : List UInt8 := dkwJ32_sort_2_24 ++ dktJ32_sort_2_25
def dkwJ32_sort_2_23 : List UInt8 := [43, 132, 16, 255, 21, 16, 49, 24, 19, 151, 158, 0, 6, 167, 255, 243, 132, 15, 255, 21, 15, 54, 21]
abbrev dktJ32_sort_2_23 : List UInt8 := dkwJ32_sort_2_23 ++ dktJ32_sort_2_24
def dkwJ32_sort_2_22 : List UInt8 := [43, 21, 9, 43, 21, 16, 49, 82, 43, 132, 15, 1, 21, 15, 49, 24, 17, 152, 156, 0, 6, 167, 255, 243]
abbrev dktJ32_sort_2_22 : List UInt8 := dkwJ32_sort_2_22 ++ dktJ32_sort_2_23
def dkwJ32_sort_2_21 : List UInt8 := [152, 156, 1, 41, 43, 21, 8, 49, 57, 17, 43, 21, 9, 49, 57, 19, 43, 21, 8, 43, 21, 15, 49, 82]
abbrev dktJ32_sort_2_21 : List UInt8 := dkwJ32_sort_2_21 ++ dktJ32_sort_2_22
def dkwJ32_sort_2_20 : List UInt8 := [152, 156, 1, 65, 43, 21, 10, 49, 43, 21, 12, 49, 152, 156, 1, 53, 43, 21, 12, 49, 43, 21, 9, 49]
abbrev dktJ32_sort_2_20 : List UInt8 := dkwJ32_sort_2_20 ++ dktJ32_sort_2_21
def dkwJ32_sort_2_19 : List UInt8 := [21, 5, 54, 16, 43, 21, 8, 49, 43, 21, 11, 49, 152, 156, 1, 77, 43, 21, 11, 49, 43, 21, 10, 49]
abbrev dktJ32_sort_2_19 : List UInt8 := dkwJ32_sort_2_19 ++ dktJ32_sort_2_20
def dkwJ32_sort_2_18 : List UInt8 := [24, 13, 82, 167, 0, 17, 43, 21, 10, 43, 21, 12, 49, 82, 43, 21, 12, 24, 13, 82, 29, 54, 15]
abbrev dktJ32_sort_2_18 : List UInt8 := dkwJ32_sort_2_18 ++ dktJ32_sort_2_19
def dkwJ32_sort_2_17 : List UInt8 := [151, 158, 0, 28, 43, 21, 10, 43, 21, 12, 49, 82, 43, 21, 12, 43, 21, 9, 49, 82, 43, 21, 9]
abbrev dktJ32_sort_2_17 : List UInt8 := dkwJ32_sort_2_17 ++ dktJ32_sort_2_18
def dkwJ32_sort_2_16 : List UInt8 := [21, 11, 24, 13, 82, 167, 0, 62, 24, 13, 43, 21, 12, 49, 151, 158, 0, 52, 24, 13, 43, 21, 9, 49]
abbrev dktJ32_sort_2_16 : List UInt8 := dkwJ32_sort_2_16 ++ dktJ32_sort_2_17
def dkwJ32_sort_2_15 : List UInt8 := [43, 21, 8, 49, 82, 43, 21, 8, 24, 13, 82, 167, 0, 79, 43, 21, 10, 43, 21, 11, 49, 82, 43]
abbrev dktJ32_sort_2_15 : List UInt8 := dkwJ32_sort_2_15 ++ dktJ32_sort_2_16
def dkwJ32_sort_2_14 : List UInt8 := [156, 0, 55, 24, 13, 43, 21, 8, 49, 152, 156, 0, 28, 43, 21, 10, 43, 21, 11, 49, 82, 43, 21, 11]
abbrev dktJ32_sort_2_14 : List UInt8 := dkwJ32_sort_2_14 ++ dktJ32_sort_2_15
def dkwJ32_sort_2_13 : List UInt8 := [57, 15, 43, 21, 12, 43, 21, 11, 49, 82, 43, 21, 11, 24, 15, 82, 24, 13, 43, 21, 11, 49, 152]
abbrev dktJ32_sort_2_13 : List UInt8 := dkwJ32_sort_2_13 ++ dktJ32_sort_2_14
def dkwJ32_sort_2_12 : List UInt8 := [49, 82, 43, 21, 8, 24, 15, 82, 43, 21, 12, 49, 43, 21, 11, 49, 152, 156, 0, 23, 43, 21, 12, 49]
abbrev dktJ32_sort_2_12 : List UInt8 := dkwJ32_sort_2_12 ++ dktJ32_sort_2_13
def dkwJ32_sort_2_11 : List UInt8 := [43, 21, 11, 49, 43, 21, 8, 49, 152, 156, 0, 23, 43, 21, 11, 49, 57, 15, 43, 21, 11, 43, 21, 8]
abbrev dktJ32_sort_2_11 : List UInt8 := dkwJ32_sort_2_11 ++ dktJ32_sort_2_12
def dkwJ32_sort_2_10 : List UInt8 := [152, 156, 0, 23, 43, 21, 9, 49, 57, 15, 43, 21, 9, 43, 21, 12, 49, 82, 43, 21, 12, 24, 15, 82]
abbrev dktJ32_sort_2_10 : List UInt8 := dkwJ32_sort_2_10 ++ dktJ32_sort_2_11
def dkwJ32_sort_2_9 : List UInt8 := [57, 15, 43, 21, 12, 43, 21, 8, 49, 82, 43, 21, 8, 24, 15, 82, 43, 21, 9, 49, 43, 21, 12, 49]
abbrev dktJ32_sort_2_9 : List UInt8 := dkwJ32_sort_2_9 ++ dktJ32_sort_2_10
def dkwJ32_sort_2_8 : List UInt8 := [49, 82, 43, 21, 11, 24, 15, 82, 43, 21, 12, 49, 43, 21, 8, 49, 152, 156, 0, 23, 43, 21, 12, 49]
abbrev dktJ32_sort_2_8 : List UInt8 := dkwJ32_sort_2_8 ++ dktJ32_sort_2_9
def dkwJ32_sort_2_7 : List UInt8 := [43, 21, 9, 49, 43, 21, 11, 49, 152, 156, 0, 23, 43, 21, 9, 49, 57, 15, 43, 21, 9, 43, 21, 11]
abbrev dktJ32_sort_2_7 : List UInt8 := dkwJ32_sort_2_7 ++ dktJ32_sort_2_8
def dkwJ32_sort_2_6 : List UInt8 := [21, 8, 21, 10, 96, 4, 124, 54, 11, 21, 10, 21, 9, 96, 4, 124, 54, 12, 43, 21, 10, 49, 57, 13]
abbrev dktJ32_sort_2_6 : List UInt8 := dkwJ32_sort_2_6 ++ dktJ32_sort_2_7
def dkwJ32_sort_2_5 : List UInt8 := [54, 7, 29, 21, 7, 96, 54, 8, 21, 5, 21, 7, 100, 54, 9, 21, 8, 21, 9, 96, 4, 124, 54, 10]
abbrev dktJ32_sort_2_5 : List UInt8 := dkwJ32_sort_2_5 ++ dktJ32_sort_2_6
def dkwJ32_sort_2_4 : List UInt8 := [28, 17, 1, 128, 164, 0, 11, 43, 29, 21, 4, 184, 0, 201, 177, 21, 6, 6, 122, 6, 104, 6, 96]
abbrev dktJ32_sort_2_4 : List UInt8 := dkwJ32_sort_2_4 ++ dktJ32_sort_2_5
def dkwJ32_sort_2_3 : List UInt8 := [164, 0, 21, 28, 4, 126, 158, 0, 15, 42, 43, 29, 21, 6, 184, 0, 198, 153, 0, 4, 177, 132, 2, 6]
abbrev dktJ32_sort_2_3 : List UInt8 := dkwJ32_sort_2_3 ++ dktJ32_sort_2_4
def dkwJ32_sort_2_2 : List UInt8 := [16, 44, 162, 0, 11, 43, 29, 21, 4, 184, 0, 195, 177, 28, 153, 0, 17, 21, 6, 17, 16, 0]
abbrev dktJ32_sort_2_2 : List UInt8 := dkwJ32_sort_2_2 ++ dktJ32_sort_2_3
def dkwJ32_sort_2_1 : List UInt8 := [158, 0, 22, 43, 29, 21, 4, 6, 21, 6, 8, 122, 6, 120, 104, 100, 21, 4, 184, 0, 192, 177, 21, 6]
abbrev dktJ32_sort_2_1 : List UInt8 := dkwJ32_sort_2_1 ++ dktJ32_sort_2_2
def dkwJ32_sort_2_0 : List UInt8 := [21, 4, 4, 100, 54, 5, 21, 4, 29, 100, 54, 6, 21, 6, 16, 65, 28, 96, 162, 0, 28, 28, 4, 126]
abbrev dktJ32_sort_2_0 : List UInt8 := dkwJ32_sort_2_0 ++ dktJ32_sort_2_1
theorem dksJ32_sort_2_0 : cJ32_sort_2.data.toList.drop 0 = dktJ32_sort_2_0 := by decide +kernel
theorem dksJ32_sort_2_1 : cJ32_sort_2.data.toList.drop 24 = dktJ32_sort_2_1 := dk_seg dksJ32_sort_2_0 24 rfl rfl
theorem dksJ32_sort_2_2 : cJ32_sort_2.data.toList.drop 48 = dktJ32_sort_2_2 := dk_seg dksJ32_sort_2_1 24 rfl rfl
theorem dksJ32_sort_2_3 : cJ32_sort_2.data.toList.drop 70 = dktJ32_sort_2_3 := dk_seg dksJ32_sort_2_2 22 rfl rfl
theorem dksJ32_sort_2_4 : cJ32_sort_2.data.toList.drop 94 = dktJ32_sort_2_4 := dk_seg dksJ32_sort_2_3 24 rfl rfl
theorem dksJ32_sort_2_5 : cJ32_sort_2.data.toList.drop 117 = dktJ32_sort_2_5 := dk_seg dksJ32_sort_2_4 23 rfl rfl
theorem dksJ32_sort_2_6 : cJ32_sort_2.data.toList.drop 141 = dktJ32_sort_2_6 := dk_seg dksJ32_sort_2_5 24 rfl rfl
theorem dksJ32_sort_2_7 : cJ32_sort_2.data.toList.drop 165 = dktJ32_sort_2_7 := dk_seg dksJ32_sort_2_6 24 rfl rfl
theorem dksJ32_sort_2_8 : cJ32_sort_2.data.toList.drop 189 = dktJ32_sort_2_8 := dk_seg dksJ32_sort_2_7 24 rfl rfl
theorem dksJ32_sort_2_9 : cJ32_sort_2.data.toList.drop 213 = dktJ32_sort_2_9 := dk_seg dksJ32_sort_2_8 24 rfl rfl
theorem dksJ32_sort_2_10 : cJ32_sort_2.data.toList.drop 237 = dktJ32_sort_2_10 := dk_seg dksJ32_sort_2_9 24 rfl rfl
theorem dksJ32_sort_2_11 : cJ32_sort_2.data.toList.drop 261 = dktJ32_sort_2_11 := dk_seg dksJ32_sort_2_10 24 rfl rfl
theorem dksJ32_sort_2_12 : cJ32_sort_2.data.toList.drop 285 = dktJ32_sort_2_12 := dk_seg dksJ32_sort_2_11 24 rfl rfl
theorem dksJ32_sort_2_13 : cJ32_sort_2.data.toList.drop 309 = dktJ32_sort_2_13 := dk_seg dksJ32_sort_2_12 24 rfl rfl
theorem dksJ32_sort_2_14 : cJ32_sort_2.data.toList.drop 332 = dktJ32_sort_2_14 := dk_seg dksJ32_sort_2_13 23 rfl rfl
theorem dksJ32_sort_2_15 : cJ32_sort_2.data.toList.drop 356 = dktJ32_sort_2_15 := dk_seg dksJ32_sort_2_14 24 rfl rfl
theorem dksJ32_sort_2_16 : cJ32_sort_2.data.toList.drop 379 = dktJ32_sort_2_16 := dk_seg dksJ32_sort_2_15 23 rfl rfl
theorem dksJ32_sort_2_17 : cJ32_sort_2.data.toList.drop 403 = dktJ32_sort_2_17 := dk_seg dksJ32_sort_2_16 24 rfl rfl
theorem dksJ32_sort_2_18 : cJ32_sort_2.data.toList.drop 426 = dktJ32_sort_2_18 := dk_seg dksJ32_sort_2_17 23 rfl rfl
theorem dksJ32_sort_2_19 : cJ32_sort_2.data.toList.drop 449 = dktJ32_sort_2_19 := dk_seg dksJ32_sort_2_18 23 rfl rfl
theorem dksJ32_sort_2_20 : cJ32_sort_2.data.toList.drop 473 = dktJ32_sort_2_20 := dk_seg dksJ32_sort_2_19 24 rfl rfl
theorem dksJ32_sort_2_21 : cJ32_sort_2.data.toList.drop 497 = dktJ32_sort_2_21 := dk_seg dksJ32_sort_2_20 24 rfl rfl
theorem dksJ32_sort_2_22 : cJ32_sort_2.data.toList.drop 521 = dktJ32_sort_2_22 := dk_seg dksJ32_sort_2_21 24 rfl rfl
theorem dksJ32_sort_2_23 : cJ32_sort_2.data.toList.drop 545 = dktJ32_sort_2_23 := dk_seg dksJ32_sort_2_22 24 rfl rfl
theorem dksJ32_sort_2_24 : cJ32_sort_2.data.toList.drop 568 = dktJ32_sort_2_24 := dk_seg dksJ32_sort_2_23 23 rfl rfl
theorem dksJ32_sort_2_25 : cJ32_sort_2.data.toList.drop 591 = dktJ32_sort_2_25 := dk_seg dksJ32_sort_2_24 23 rfl rfl
theorem dksJ32_sort_2_26 : cJ32_sort_2.data.toList.drop 615 = dktJ32_sort_2_26 := dk_seg dksJ32_sort_2_25 24 rfl rfl
theorem dksJ32_sort_2_27 : cJ32_sort_2.data.toList.drop 639 = dktJ32_sort_2_27 := dk_seg dksJ32_sort_2_26 24 rfl rfl
theorem dksJ32_sort_2_28 : cJ32_sort_2.data.toList.drop 662 = dktJ32_sort_2_28 := dk_seg dksJ32_sort_2_27 23 rfl rfl
theorem dksJ32_sort_2_29 : cJ32_sort_2.data.toList.drop 686 = dktJ32_sort_2_29 := dk_seg dksJ32_sort_2_28 24 rfl rfl
theorem dksJ32_sort_2_30 : cJ32_sort_2.data.toList.drop 710 = dktJ32_sort_2_30 := dk_seg dksJ32_sort_2_29 24 rfl rfl
theorem dksJ32_sort_2_31 : cJ32_sort_2.data.toList.drop 732 = dktJ32_sort_2_31 := dk_seg dksJ32_sort_2_30 22 rfl rfl
theorem dksJ32_sort_2_32 : cJ32_sort_2.data.toList.drop 756 = dktJ32_sort_2_32 := dk_seg dksJ32_sort_2_31 24 rfl rfl
theorem dksJ32_sort_2_33 : cJ32_sort_2.data.toList.drop 780 = dktJ32_sort_2_33 := dk_seg dksJ32_sort_2_32 24 rfl rfl
theorem dksJ32_sort_2_34 : cJ32_sort_2.data.toList.drop 804 = dktJ32_sort_2_34 := dk_seg dksJ32_sort_2_33 24 rfl rfl
theorem dksJ32_sort_2_35 : cJ32_sort_2.data.toList.drop 827 = dktJ32_sort_2_35 := dk_seg dksJ32_sort_2_34 23 rfl rfl
theorem dksJ32_sort_2_36 : cJ32_sort_2.data.toList.drop 851 = dktJ32_sort_2_36 := dk_seg dksJ32_sort_2_35 24 rfl rfl
theorem dksJ32_sort_2_37 : cJ32_sort_2.data.toList.drop 874 = dktJ32_sort_2_37 := dk_seg dksJ32_sort_2_36 23 rfl rfl
theorem dksJ32_sort_2_38 : cJ32_sort_2.data.toList.drop 897 = dktJ32_sort_2_38 := dk_seg dksJ32_sort_2_37 23 rfl rfl
theorem dksJ32_sort_2_39 : cJ32_sort_2.data.toList.drop 920 = dktJ32_sort_2_39 := dk_seg dksJ32_sort_2_38 23 rfl rfl
theorem dksJ32_sort_2_40 : cJ32_sort_2.data.toList.drop 943 = dktJ32_sort_2_40 := dk_seg dksJ32_sort_2_39 23 rfl rfl
theorem dksJ32_sort_2_41 : cJ32_sort_2.data.toList.drop 967 = dktJ32_sort_2_41 := dk_seg dksJ32_sort_2_40 24 rfl rfl
theorem dJ32_sort_2_0 : decode cJ32_sort_2 0 = .ok (.iload 4, 2) := dk_21 4 (dk_at dksJ32_sort_2_0 0 rfl rfl)
theorem dJ32_sort_2_2 : decode cJ32_sort_2 2 = .ok (.iconst 1, 1) := dk_4 (dk_at dksJ32_sort_2_0 2 rfl rfl)
theorem dJ32_sort_2_3 : decode cJ32_sort_2 3 = .ok (.isub, 1) := dk_100 (dk_at dksJ32_sort_2_0 3 rfl rfl)
theorem dJ32_sort_2_4 : decode cJ32_sort_2 4 = .ok (.istore 5, 2) := dk_54 5 (dk_at dksJ32_sort_2_0 4 rfl rfl)
theorem dJ32_sort_2_6 : decode cJ32_sort_2 6 = .ok (.iload 4, 2) := dk_21 4 (dk_at dksJ32_sort_2_0 6 rfl rfl)
theorem dJ32_sort_2_8 : decode cJ32_sort_2 8 = .ok (.iload_n 3, 1) := dk_29 (dk_at dksJ32_sort_2_0 8 rfl rfl)
theorem dJ32_sort_2_9 : decode cJ32_sort_2 9 = .ok (.isub, 1) := dk_100 (dk_at dksJ32_sort_2_0 9 rfl rfl)
theorem dJ32_sort_2_10 : decode cJ32_sort_2 10 = .ok (.istore 6, 2) := dk_54 6 (dk_at dksJ32_sort_2_0 10 rfl rfl)
theorem dJ32_sort_2_12 : decode cJ32_sort_2 12 = .ok (.iload 6, 2) := dk_21 6 (dk_at dksJ32_sort_2_0 12 rfl rfl)
theorem dJ32_sort_2_14 : decode cJ32_sort_2 14 = .ok (.bipush 65, 2) := dk_16 65 (dk_at dksJ32_sort_2_0 14 rfl rfl)
theorem dJ32_sort_2_16 : decode cJ32_sort_2 16 = .ok (.iload_n 2, 1) := dk_28 (dk_at dksJ32_sort_2_0 16 rfl rfl)
theorem dJ32_sort_2_17 : decode cJ32_sort_2 17 = .ok (.iadd, 1) := dk_96 (dk_at dksJ32_sort_2_0 17 rfl rfl)
theorem dJ32_sort_2_18 : decode cJ32_sort_2 18 = .ok (.if_icmp .ge 28, 3) := dk_162 0 28 (dk_at dksJ32_sort_2_0 18 rfl rfl)
theorem dJ32_sort_2_21 : decode cJ32_sort_2 21 = .ok (.iload_n 2, 1) := dk_28 (dk_at dksJ32_sort_2_0 21 rfl rfl)
theorem dJ32_sort_2_22 : decode cJ32_sort_2 22 = .ok (.iconst 1, 1) := dk_4 (dk_at dksJ32_sort_2_0 22 rfl rfl)
theorem dJ32_sort_2_23 : decode cJ32_sort_2 23 = .ok (.iand, 1) := dk_126 (dk_at dksJ32_sort_2_0 23 rfl rfl)
theorem dJ32_sort_2_24 : decode cJ32_sort_2 24 = .ok (.ifCond .le 22, 3) := dk_158 0 22 (dk_at dksJ32_sort_2_1 0 rfl rfl)
theorem dJ32_sort_2_27 : decode cJ32_sort_2 27 = .ok (.aload_n 1, 1) := dk_43 (dk_at dksJ32_sort_2_1 3 rfl rfl)
theorem dJ32_sort_2_28 : decode cJ32_sort_2 28 = .ok (.iload_n 3, 1) := dk_29 (dk_at dksJ32_sort_2_1 4 rfl rfl)
theorem dJ32_sort_2_29 : decode cJ32_sort_2 29 = .ok (.iload 4, 2) := dk_21 4 (dk_at dksJ32_sort_2_1 5 rfl rfl)
theorem dJ32_sort_2_31 : decode cJ32_sort_2 31 = .ok (.iconst 3, 1) := dk_6 (dk_at dksJ32_sort_2_1 7 rfl rfl)
theorem dJ32_sort_2_32 : decode cJ32_sort_2 32 = .ok (.iload 6, 2) := dk_21 6 (dk_at dksJ32_sort_2_1 8 rfl rfl)
theorem dJ32_sort_2_34 : decode cJ32_sort_2 34 = .ok (.iconst 5, 1) := dk_8 (dk_at dksJ32_sort_2_1 10 rfl rfl)
theorem dJ32_sort_2_35 : decode cJ32_sort_2 35 = .ok (.ishr, 1) := dk_122 (dk_at dksJ32_sort_2_1 11 rfl rfl)
theorem dJ32_sort_2_36 : decode cJ32_sort_2 36 = .ok (.iconst 3, 1) := dk_6 (dk_at dksJ32_sort_2_1 12 rfl rfl)
theorem dJ32_sort_2_37 : decode cJ32_sort_2 37 = .ok (.ishl, 1) := dk_120 (dk_at dksJ32_sort_2_1 13 rfl rfl)
theorem dJ32_sort_2_38 : decode cJ32_sort_2 38 = .ok (.imul, 1) := dk_104 (dk_at dksJ32_sort_2_1 14 rfl rfl)
theorem dJ32_sort_2_39 : decode cJ32_sort_2 39 = .ok (.isub, 1) := dk_100 (dk_at dksJ32_sort_2_1 15 rfl rfl)
theorem dJ32_sort_2_40 : decode cJ32_sort_2 40 = .ok (.iload 4, 2) := dk_21 4 (dk_at dksJ32_sort_2_1 16 rfl rfl)
theorem dJ32_sort_2_42 : decode cJ32_sort_2 42 = .ok (.invokestatic 192, 3) := dk_184 0 192 (dk_at dksJ32_sort_2_1 18 rfl rfl)
theorem dJ32_sort_2_45 : decode cJ32_sort_2 45 = .ok (.return_, 1) := dk_177 (dk_at dksJ32_sort_2_1 21 rfl rfl)
theorem dJ32_sort_2_46 : decode cJ32_sort_2 46 = .ok (.iload 6, 2) := dk_21 6 (dk_at dksJ32_sort_2_1 22 rfl rfl)
theorem dJ32_sort_2_48 : decode cJ32_sort_2 48 = .ok (.bipush 44, 2) := dk_16 44 (dk_at dksJ32_sort_2_2 0 rfl rfl)
theorem dJ32_sort_2_50 : decode cJ32_sort_2 50 = .ok (.if_icmp .ge 11, 3) := dk_162 0 11 (dk_at dksJ32_sort_2_2 2 rfl rfl)
theorem dJ32_sort_2_53 : decode cJ32_sort_2 53 = .ok (.aload_n 1, 1) := dk_43 (dk_at dksJ32_sort_2_2 5 rfl rfl)
theorem dJ32_sort_2_54 : decode cJ32_sort_2 54 = .ok (.iload_n 3, 1) := dk_29 (dk_at dksJ32_sort_2_2 6 rfl rfl)
theorem dJ32_sort_2_55 : decode cJ32_sort_2 55 = .ok (.iload 4, 2) := dk_21 4 (dk_at dksJ32_sort_2_2 7 rfl rfl)
theorem dJ32_sort_2_57 : decode cJ32_sort_2 57 = .ok (.invokestatic 195, 3) := dk_184 0 195 (dk_at dksJ32_sort_2_2 9 rfl rfl)
theorem dJ32_sort_2_60 : decode cJ32_sort_2 60 = .ok (.return_, 1) := dk_177 (dk_at dksJ32_sort_2_2 12 rfl rfl)
theorem dJ32_sort_2_61 : decode cJ32_sort_2 61 = .ok (.iload_n 2, 1) := dk_28 (dk_at dksJ32_sort_2_2 13 rfl rfl)
theorem dJ32_sort_2_62 : decode cJ32_sort_2 62 = .ok (.ifCond .eq 17, 3) := dk_153 0 17 (dk_at dksJ32_sort_2_2 14 rfl rfl)
theorem dJ32_sort_2_65 : decode cJ32_sort_2 65 = .ok (.iload 6, 2) := dk_21 6 (dk_at dksJ32_sort_2_2 17 rfl rfl)
theorem dJ32_sort_2_67 : decode cJ32_sort_2 67 = .ok (.sipush 4096, 3) := dk_17 16 0 (dk_at dksJ32_sort_2_2 19 rfl rfl)
theorem dJ32_sort_2_70 : decode cJ32_sort_2 70 = .ok (.if_icmp .le 21, 3) := dk_164 0 21 (dk_at dksJ32_sort_2_3 0 rfl rfl)
theorem dJ32_sort_2_73 : decode cJ32_sort_2 73 = .ok (.iload_n 2, 1) := dk_28 (dk_at dksJ32_sort_2_3 3 rfl rfl)
theorem dJ32_sort_2_74 : decode cJ32_sort_2 74 = .ok (.iconst 1, 1) := dk_4 (dk_at dksJ32_sort_2_3 4 rfl rfl)
theorem dJ32_sort_2_75 : decode cJ32_sort_2 75 = .ok (.iand, 1) := dk_126 (dk_at dksJ32_sort_2_3 5 rfl rfl)
theorem dJ32_sort_2_76 : decode cJ32_sort_2 76 = .ok (.ifCond .le 15, 3) := dk_158 0 15 (dk_at dksJ32_sort_2_3 6 rfl rfl)
theorem dJ32_sort_2_79 : decode cJ32_sort_2 79 = .ok (.aload_n 0, 1) := dk_42 (dk_at dksJ32_sort_2_3 9 rfl rfl)
theorem dJ32_sort_2_80 : decode cJ32_sort_2 80 = .ok (.aload_n 1, 1) := dk_43 (dk_at dksJ32_sort_2_3 10 rfl rfl)
theorem dJ32_sort_2_81 : decode cJ32_sort_2 81 = .ok (.iload_n 3, 1) := dk_29 (dk_at dksJ32_sort_2_3 11 rfl rfl)
theorem dJ32_sort_2_82 : decode cJ32_sort_2 82 = .ok (.iload 6, 2) := dk_21 6 (dk_at dksJ32_sort_2_3 12 rfl rfl)
theorem dJ32_sort_2_84 : decode cJ32_sort_2 84 = .ok (.invokestatic 198, 3) := dk_184 0 198 (dk_at dksJ32_sort_2_3 14 rfl rfl)
theorem dJ32_sort_2_87 : decode cJ32_sort_2 87 = .ok (.ifCond .eq 4, 3) := dk_153 0 4 (dk_at dksJ32_sort_2_3 17 rfl rfl)
theorem dJ32_sort_2_90 : decode cJ32_sort_2 90 = .ok (.return_, 1) := dk_177 (dk_at dksJ32_sort_2_3 20 rfl rfl)
theorem dJ32_sort_2_91 : decode cJ32_sort_2 91 = .ok (.iinc 2 6, 3) := dk_132 2 6 (dk_at dksJ32_sort_2_3 21 rfl rfl)
theorem dJ32_sort_2_94 : decode cJ32_sort_2 94 = .ok (.iload_n 2, 1) := dk_28 (dk_at dksJ32_sort_2_4 0 rfl rfl)
theorem dJ32_sort_2_95 : decode cJ32_sort_2 95 = .ok (.sipush 384, 3) := dk_17 1 128 (dk_at dksJ32_sort_2_4 1 rfl rfl)
theorem dJ32_sort_2_98 : decode cJ32_sort_2 98 = .ok (.if_icmp .le 11, 3) := dk_164 0 11 (dk_at dksJ32_sort_2_4 4 rfl rfl)
theorem dJ32_sort_2_101 : decode cJ32_sort_2 101 = .ok (.aload_n 1, 1) := dk_43 (dk_at dksJ32_sort_2_4 7 rfl rfl)
theorem dJ32_sort_2_102 : decode cJ32_sort_2 102 = .ok (.iload_n 3, 1) := dk_29 (dk_at dksJ32_sort_2_4 8 rfl rfl)
theorem dJ32_sort_2_103 : decode cJ32_sort_2 103 = .ok (.iload 4, 2) := dk_21 4 (dk_at dksJ32_sort_2_4 9 rfl rfl)
theorem dJ32_sort_2_105 : decode cJ32_sort_2 105 = .ok (.invokestatic 201, 3) := dk_184 0 201 (dk_at dksJ32_sort_2_4 11 rfl rfl)
theorem dJ32_sort_2_108 : decode cJ32_sort_2 108 = .ok (.return_, 1) := dk_177 (dk_at dksJ32_sort_2_4 14 rfl rfl)
theorem dJ32_sort_2_109 : decode cJ32_sort_2 109 = .ok (.iload 6, 2) := dk_21 6 (dk_at dksJ32_sort_2_4 15 rfl rfl)
theorem dJ32_sort_2_111 : decode cJ32_sort_2 111 = .ok (.iconst 3, 1) := dk_6 (dk_at dksJ32_sort_2_4 17 rfl rfl)
theorem dJ32_sort_2_112 : decode cJ32_sort_2 112 = .ok (.ishr, 1) := dk_122 (dk_at dksJ32_sort_2_4 18 rfl rfl)
theorem dJ32_sort_2_113 : decode cJ32_sort_2 113 = .ok (.iconst 3, 1) := dk_6 (dk_at dksJ32_sort_2_4 19 rfl rfl)
theorem dJ32_sort_2_114 : decode cJ32_sort_2 114 = .ok (.imul, 1) := dk_104 (dk_at dksJ32_sort_2_4 20 rfl rfl)
theorem dJ32_sort_2_115 : decode cJ32_sort_2 115 = .ok (.iconst 3, 1) := dk_6 (dk_at dksJ32_sort_2_4 21 rfl rfl)
theorem dJ32_sort_2_116 : decode cJ32_sort_2 116 = .ok (.iadd, 1) := dk_96 (dk_at dksJ32_sort_2_4 22 rfl rfl)
theorem dJ32_sort_2_117 : decode cJ32_sort_2 117 = .ok (.istore 7, 2) := dk_54 7 (dk_at dksJ32_sort_2_5 0 rfl rfl)
theorem dJ32_sort_2_119 : decode cJ32_sort_2 119 = .ok (.iload_n 3, 1) := dk_29 (dk_at dksJ32_sort_2_5 2 rfl rfl)
theorem dJ32_sort_2_120 : decode cJ32_sort_2 120 = .ok (.iload 7, 2) := dk_21 7 (dk_at dksJ32_sort_2_5 3 rfl rfl)
theorem dJ32_sort_2_122 : decode cJ32_sort_2 122 = .ok (.iadd, 1) := dk_96 (dk_at dksJ32_sort_2_5 5 rfl rfl)
theorem dJ32_sort_2_123 : decode cJ32_sort_2 123 = .ok (.istore 8, 2) := dk_54 8 (dk_at dksJ32_sort_2_5 6 rfl rfl)
theorem dJ32_sort_2_125 : decode cJ32_sort_2 125 = .ok (.iload 5, 2) := dk_21 5 (dk_at dksJ32_sort_2_5 8 rfl rfl)
theorem dJ32_sort_2_127 : decode cJ32_sort_2 127 = .ok (.iload 7, 2) := dk_21 7 (dk_at dksJ32_sort_2_5 10 rfl rfl)
theorem dJ32_sort_2_129 : decode cJ32_sort_2 129 = .ok (.isub, 1) := dk_100 (dk_at dksJ32_sort_2_5 12 rfl rfl)
theorem dJ32_sort_2_130 : decode cJ32_sort_2 130 = .ok (.istore 9, 2) := dk_54 9 (dk_at dksJ32_sort_2_5 13 rfl rfl)
theorem dJ32_sort_2_132 : decode cJ32_sort_2 132 = .ok (.iload 8, 2) := dk_21 8 (dk_at dksJ32_sort_2_5 15 rfl rfl)
theorem dJ32_sort_2_134 : decode cJ32_sort_2 134 = .ok (.iload 9, 2) := dk_21 9 (dk_at dksJ32_sort_2_5 17 rfl rfl)
theorem dJ32_sort_2_136 : decode cJ32_sort_2 136 = .ok (.iadd, 1) := dk_96 (dk_at dksJ32_sort_2_5 19 rfl rfl)
theorem dJ32_sort_2_137 : decode cJ32_sort_2 137 = .ok (.iconst 1, 1) := dk_4 (dk_at dksJ32_sort_2_5 20 rfl rfl)
theorem dJ32_sort_2_138 : decode cJ32_sort_2 138 = .ok (.iushr, 1) := dk_124 (dk_at dksJ32_sort_2_5 21 rfl rfl)
theorem dJ32_sort_2_139 : decode cJ32_sort_2 139 = .ok (.istore 10, 2) := dk_54 10 (dk_at dksJ32_sort_2_5 22 rfl rfl)
theorem dJ32_sort_2_141 : decode cJ32_sort_2 141 = .ok (.iload 8, 2) := dk_21 8 (dk_at dksJ32_sort_2_6 0 rfl rfl)
theorem dJ32_sort_2_143 : decode cJ32_sort_2 143 = .ok (.iload 10, 2) := dk_21 10 (dk_at dksJ32_sort_2_6 2 rfl rfl)
theorem dJ32_sort_2_145 : decode cJ32_sort_2 145 = .ok (.iadd, 1) := dk_96 (dk_at dksJ32_sort_2_6 4 rfl rfl)
theorem dJ32_sort_2_146 : decode cJ32_sort_2 146 = .ok (.iconst 1, 1) := dk_4 (dk_at dksJ32_sort_2_6 5 rfl rfl)
theorem dJ32_sort_2_147 : decode cJ32_sort_2 147 = .ok (.iushr, 1) := dk_124 (dk_at dksJ32_sort_2_6 6 rfl rfl)
theorem dJ32_sort_2_148 : decode cJ32_sort_2 148 = .ok (.istore 11, 2) := dk_54 11 (dk_at dksJ32_sort_2_6 7 rfl rfl)
theorem dJ32_sort_2_150 : decode cJ32_sort_2 150 = .ok (.iload 10, 2) := dk_21 10 (dk_at dksJ32_sort_2_6 9 rfl rfl)
theorem dJ32_sort_2_152 : decode cJ32_sort_2 152 = .ok (.iload 9, 2) := dk_21 9 (dk_at dksJ32_sort_2_6 11 rfl rfl)
theorem dJ32_sort_2_154 : decode cJ32_sort_2 154 = .ok (.iadd, 1) := dk_96 (dk_at dksJ32_sort_2_6 13 rfl rfl)
theorem dJ32_sort_2_155 : decode cJ32_sort_2 155 = .ok (.iconst 1, 1) := dk_4 (dk_at dksJ32_sort_2_6 14 rfl rfl)
theorem dJ32_sort_2_156 : decode cJ32_sort_2 156 = .ok (.iushr, 1) := dk_124 (dk_at dksJ32_sort_2_6 15 rfl rfl)
theorem dJ32_sort_2_157 : decode cJ32_sort_2 157 = .ok (.istore 12, 2) := dk_54 12 (dk_at dksJ32_sort_2_6 16 rfl rfl)
theorem dJ32_sort_2_159 : decode cJ32_sort_2 159 = .ok (.aload_n 1, 1) := dk_43 (dk_at dksJ32_sort_2_6 18 rfl rfl)
theorem dJ32_sort_2_160 : decode cJ32_sort_2 160 = .ok (.iload 10, 2) := dk_21 10 (dk_at dksJ32_sort_2_6 19 rfl rfl)
theorem dJ32_sort_2_162 : decode cJ32_sort_2 162 = .ok (.daload, 1) := dk_49 (dk_at dksJ32_sort_2_6 21 rfl rfl)
theorem dJ32_sort_2_163 : decode cJ32_sort_2 163 = .ok (.dstore 13, 2) := dk_57 13 (dk_at dksJ32_sort_2_6 22 rfl rfl)
theorem dJ32_sort_2_165 : decode cJ32_sort_2 165 = .ok (.aload_n 1, 1) := dk_43 (dk_at dksJ32_sort_2_7 0 rfl rfl)
theorem dJ32_sort_2_166 : decode cJ32_sort_2 166 = .ok (.iload 9, 2) := dk_21 9 (dk_at dksJ32_sort_2_7 1 rfl rfl)
theorem dJ32_sort_2_168 : decode cJ32_sort_2 168 = .ok (.daload, 1) := dk_49 (dk_at dksJ32_sort_2_7 3 rfl rfl)
theorem dJ32_sort_2_169 : decode cJ32_sort_2 169 = .ok (.aload_n 1, 1) := dk_43 (dk_at dksJ32_sort_2_7 4 rfl rfl)
theorem dJ32_sort_2_170 : decode cJ32_sort_2 170 = .ok (.iload 11, 2) := dk_21 11 (dk_at dksJ32_sort_2_7 5 rfl rfl)
theorem dJ32_sort_2_172 : decode cJ32_sort_2 172 = .ok (.daload, 1) := dk_49 (dk_at dksJ32_sort_2_7 7 rfl rfl)
theorem dJ32_sort_2_173 : decode cJ32_sort_2 173 = .ok (.dcmp .g, 1) := dk_152 (dk_at dksJ32_sort_2_7 8 rfl rfl)
theorem dJ32_sort_2_174 : decode cJ32_sort_2 174 = .ok (.ifCond .ge 23, 3) := dk_156 0 23 (dk_at dksJ32_sort_2_7 9 rfl rfl)
theorem dJ32_sort_2_177 : decode cJ32_sort_2 177 = .ok (.aload_n 1, 1) := dk_43 (dk_at dksJ32_sort_2_7 12 rfl rfl)
theorem dJ32_sort_2_178 : decode cJ32_sort_2 178 = .ok (.iload 9, 2) := dk_21 9 (dk_at dksJ32_sort_2_7 13 rfl rfl)
theorem dJ32_sort_2_180 : decode cJ32_sort_2 180 = .ok (.daload, 1) := dk_49 (dk_at dksJ32_sort_2_7 15 rfl rfl)
theorem dJ32_sort_2_181 : decode cJ32_sort_2 181 = .ok (.dstore 15, 2) := dk_57 15 (dk_at dksJ32_sort_2_7 16 rfl rfl)
theorem dJ32_sort_2_183 : decode cJ32_sort_2 183 = .ok (.aload_n 1, 1) := dk_43 (dk_at dksJ32_sort_2_7 18 rfl rfl)
theorem dJ32_sort_2_184 : decode cJ32_sort_2 184 = .ok (.iload 9, 2) := dk_21 9 (dk_at dksJ32_sort_2_7 19 rfl rfl)
theorem dJ32_sort_2_186 : decode cJ32_sort_2 186 = .ok (.aload_n 1, 1) := dk_43 (dk_at dksJ32_sort_2_7 21 rfl rfl)
theorem dJ32_sort_2_187 : decode cJ32_sort_2 187 = .ok (.iload 11, 2) := dk_21 11 (dk_at dksJ32_sort_2_7 22 rfl rfl)
theorem dJ32_sort_2_189 : decode cJ32_sort_2 189 = .ok (.daload, 1) := dk_49 (dk_at dksJ32_sort_2_8 0 rfl rfl)
theorem dJ32_sort_2_190 : decode cJ32_sort_2 190 = .ok (.dastore, 1) := dk_82 (dk_at dksJ32_sort_2_8 1 rfl rfl)
theorem dJ32_sort_2_191 : decode cJ32_sort_2 191 = .ok (.aload_n 1, 1) := dk_43 (dk_at dksJ32_sort_2_8 2 rfl rfl)
theorem dJ32_sort_2_192 : decode cJ32_sort_2 192 = .ok (.iload 11, 2) := dk_21 11 (dk_at dksJ32_sort_2_8 3 rfl rfl)
theorem dJ32_sort_2_194 : decode cJ32_sort_2 194 = .ok (.dload 15, 2) := dk_24 15 (dk_at dksJ32_sort_2_8 5 rfl rfl)
theorem dJ32_sort_2_196 : decode cJ32_sort_2 196 = .ok (.dastore, 1) := dk_82 (dk_at dksJ32_sort_2_8 7 rfl rfl)
theorem dJ32_sort_2_197 : decode cJ32_sort_2 197 = .ok (.aload_n 1, 1) := dk_43 (dk_at dksJ32_sort_2_8 8 rfl rfl)
theorem dJ32_sort_2_198 : decode cJ32_sort_2 198 = .ok (.iload 12, 2) := dk_21 12 (dk_at dksJ32_sort_2_8 9 rfl rfl)
theorem dJ32_sort_2_200 : decode cJ32_sort_2 200 = .ok (.daload, 1) := dk_49 (dk_at dksJ32_sort_2_8 11 rfl rfl)
theorem dJ32_sort_2_201 : decode cJ32_sort_2 201 = .ok (.aload_n 1, 1) := dk_43 (dk_at dksJ32_sort_2_8 12 rfl rfl)
theorem dJ32_sort_2_202 : decode cJ32_sort_2 202 = .ok (.iload 8, 2) := dk_21 8 (dk_at dksJ32_sort_2_8 13 rfl rfl)
theorem dJ32_sort_2_204 : decode cJ32_sort_2 204 = .ok (.daload, 1) := dk_49 (dk_at dksJ32_sort_2_8 15 rfl rfl)
theorem dJ32_sort_2_205 : decode cJ32_sort_2 205 = .ok (.dcmp .g, 1) := dk_152 (dk_at dksJ32_sort_2_8 16 rfl rfl)
theorem dJ32_sort_2_206 : decode cJ32_sort_2 206 = .ok (.ifCond .ge 23, 3) := dk_156 0 23 (dk_at dksJ32_sort_2_8 17 rfl rfl)
theorem dJ32_sort_2_209 : decode cJ32_sort_2 209 = .ok (.aload_n 1, 1) := dk_43 (dk_at dksJ32_sort_2_8 20 rfl rfl)
theorem dJ32_sort_2_210 : decode cJ32_sort_2 210 = .ok (.iload 12, 2) := dk_21 12 (dk_at dksJ32_sort_2_8 21 rfl rfl)
theorem dJ32_sort_2_212 : decode cJ32_sort_2 212 = .ok (.daload, 1) := dk_49 (dk_at dksJ32_sort_2_8 23 rfl rfl)
theorem dJ32_sort_2_213 : decode cJ32_sort_2 213 = .ok (.dstore 15, 2) := dk_57 15 (dk_at dksJ32_sort_2_9 0 rfl rfl)
theorem dJ32_sort_2_215 : decode cJ32_sort_2 215 = .ok (.aload_n 1, 1) := dk_43 (dk_at dksJ32_sort_2_9 2 rfl rfl)
theorem dJ32_sort_2_216 : decode cJ32_sort_2 216 = .ok (.iload 12, 2) := dk_21 12 (dk_at dksJ32_sort_2_9 3 rfl rfl)
theorem dJ32_sort_2_218 : decode cJ32_sort_2 218 = .ok (.aload_n 1, 1) := dk_43 (dk_at dksJ32_sort_2_9 5 rfl rfl)
theorem dJ32_sort_2_219 : decode cJ32_sort_2 219 = .ok (.iload 8, 2) := dk_21 8 (dk_at dksJ32_sort_2_9 6 rfl rfl)
theorem dJ32_sort_2_221 : decode cJ32_sort_2 221 = .ok (.daload, 1) := dk_49 (dk_at dksJ32_sort_2_9 8 rfl rfl)
theorem dJ32_sort_2_222 : decode cJ32_sort_2 222 = .ok (.dastore, 1) := dk_82 (dk_at dksJ32_sort_2_9 9 rfl rfl)
theorem dJ32_sort_2_223 : decode cJ32_sort_2 223 = .ok (.aload_n 1, 1) := dk_43 (dk_at dksJ32_sort_2_9 10 rfl rfl)
theorem dJ32_sort_2_224 : decode cJ32_sort_2 224 = .ok (.iload 8, 2) := dk_21 8 (dk_at dksJ32_sort_2_9 11 rfl rfl)
theorem dJ32_sort_2_226 : decode cJ32_sort_2 226 = .ok (.dload 15, 2) := dk_24 15 (dk_at dksJ32_sort_2_9 13 rfl rfl)
theorem dJ32_sort_2_228 : decode cJ32_sort_2 228 = .ok (.dastore, 1) := dk_82 (dk_at dksJ32_sort_2_9 15 rfl rfl)
theorem dJ32_sort_2_229 : decode cJ32_sort_2 229 = .ok (.aload_n 1, 1) := dk_43 (dk_at dksJ32_sort_2_9 16 rfl rfl)
theorem dJ32_sort_2_230 : decode cJ32_sort_2 230 = .ok (.iload 9, 2) := dk_21 9 (dk_at dksJ32_sort_2_9 17 rfl rfl)
theorem dJ32_sort_2_232 : decode cJ32_sort_2 232 = .ok (.daload, 1) := dk_49 (dk_at dksJ32_sort_2_9 19 rfl rfl)
theorem dJ32_sort_2_233 : decode cJ32_sort_2 233 = .ok (.aload_n 1, 1) := dk_43 (dk_at dksJ32_sort_2_9 20 rfl rfl)
theorem dJ32_sort_2_234 : decode cJ32_sort_2 234 = .ok (.iload 12, 2) := dk_21 12 (dk_at dksJ32_sort_2_9 21 rfl rfl)
theorem dJ32_sort_2_236 : decode cJ32_sort_2 236 = .ok (.daload, 1) := dk_49 (dk_at dksJ32_sort_2_9 23 rfl rfl)
theorem dJ32_sort_2_237 : decode cJ32_sort_2 237 = .ok (.dcmp .g, 1) := dk_152 (dk_at dksJ32_sort_2_10 0 rfl rfl)
theorem dJ32_sort_2_238 : decode cJ32_sort_2 238 = .ok (.ifCond .ge 23, 3) := dk_156 0 23 (dk_at dksJ32_sort_2_10 1 rfl rfl)
theorem dJ32_sort_2_241 : decode cJ32_sort_2 241 = .ok (.aload_n 1, 1) := dk_43 (dk_at dksJ32_sort_2_10 4 rfl rfl)
theorem dJ32_sort_2_242 : decode cJ32_sort_2 242 = .ok (.iload 9, 2) := dk_21 9 (dk_at dksJ32_sort_2_10 5 rfl rfl)
theorem dJ32_sort_2_244 : decode cJ32_sort_2 244 = .ok (.daload, 1) := dk_49 (dk_at dksJ32_sort_2_10 7 rfl rfl)
theorem dJ32_sort_2_245 : decode cJ32_sort_2 245 = .ok (.dstore 15, 2) := dk_57 15 (dk_at dksJ32_sort_2_10 8 rfl rfl)
theorem dJ32_sort_2_247 : decode cJ32_sort_2 247 = .ok (.aload_n 1, 1) := dk_43 (dk_at dksJ32_sort_2_10 10 rfl rfl)
theorem dJ32_sort_2_248 : decode cJ32_sort_2 248 = .ok (.iload 9, 2) := dk_21 9 (dk_at dksJ32_sort_2_10 11 rfl rfl)
theorem dJ32_sort_2_250 : decode cJ32_sort_2 250 = .ok (.aload_n 1, 1) := dk_43 (dk_at dksJ32_sort_2_10 13 rfl rfl)
theorem dJ32_sort_2_251 : decode cJ32_sort_2 251 = .ok (.iload 12, 2) := dk_21 12 (dk_at dksJ32_sort_2_10 14 rfl rfl)
theorem dJ32_sort_2_253 : decode cJ32_sort_2 253 = .ok (.daload, 1) := dk_49 (dk_at dksJ32_sort_2_10 16 rfl rfl)
theorem dJ32_sort_2_254 : decode cJ32_sort_2 254 = .ok (.dastore, 1) := dk_82 (dk_at dksJ32_sort_2_10 17 rfl rfl)
theorem dJ32_sort_2_255 : decode cJ32_sort_2 255 = .ok (.aload_n 1, 1) := dk_43 (dk_at dksJ32_sort_2_10 18 rfl rfl)
theorem dJ32_sort_2_256 : decode cJ32_sort_2 256 = .ok (.iload 12, 2) := dk_21 12 (dk_at dksJ32_sort_2_10 19 rfl rfl)
theorem dJ32_sort_2_258 : decode cJ32_sort_2 258 = .ok (.dload 15, 2) := dk_24 15 (dk_at dksJ32_sort_2_10 21 rfl rfl)
theorem dJ32_sort_2_260 : decode cJ32_sort_2 260 = .ok (.dastore, 1) := dk_82 (dk_at dksJ32_sort_2_10 23 rfl rfl)
theorem dJ32_sort_2_261 : decode cJ32_sort_2 261 = .ok (.aload_n 1, 1) := dk_43 (dk_at dksJ32_sort_2_11 0 rfl rfl)
theorem dJ32_sort_2_262 : decode cJ32_sort_2 262 = .ok (.iload 11, 2) := dk_21 11 (dk_at dksJ32_sort_2_11 1 rfl rfl)
theorem dJ32_sort_2_264 : decode cJ32_sort_2 264 = .ok (.daload, 1) := dk_49 (dk_at dksJ32_sort_2_11 3 rfl rfl)
theorem dJ32_sort_2_265 : decode cJ32_sort_2 265 = .ok (.aload_n 1, 1) := dk_43 (dk_at dksJ32_sort_2_11 4 rfl rfl)
theorem dJ32_sort_2_266 : decode cJ32_sort_2 266 = .ok (.iload 8, 2) := dk_21 8 (dk_at dksJ32_sort_2_11 5 rfl rfl)
theorem dJ32_sort_2_268 : decode cJ32_sort_2 268 = .ok (.daload, 1) := dk_49 (dk_at dksJ32_sort_2_11 7 rfl rfl)
theorem dJ32_sort_2_269 : decode cJ32_sort_2 269 = .ok (.dcmp .g, 1) := dk_152 (dk_at dksJ32_sort_2_11 8 rfl rfl)
theorem dJ32_sort_2_270 : decode cJ32_sort_2 270 = .ok (.ifCond .ge 23, 3) := dk_156 0 23 (dk_at dksJ32_sort_2_11 9 rfl rfl)
theorem dJ32_sort_2_273 : decode cJ32_sort_2 273 = .ok (.aload_n 1, 1) := dk_43 (dk_at dksJ32_sort_2_11 12 rfl rfl)
theorem dJ32_sort_2_274 : decode cJ32_sort_2 274 = .ok (.iload 11, 2) := dk_21 11 (dk_at dksJ32_sort_2_11 13 rfl rfl)
theorem dJ32_sort_2_276 : decode cJ32_sort_2 276 = .ok (.daload, 1) := dk_49 (dk_at dksJ32_sort_2_11 15 rfl rfl)
theorem dJ32_sort_2_277 : decode cJ32_sort_2 277 = .ok (.dstore 15, 2) := dk_57 15 (dk_at dksJ32_sort_2_11 16 rfl rfl)
theorem dJ32_sort_2_279 : decode cJ32_sort_2 279 = .ok (.aload_n 1, 1) := dk_43 (dk_at dksJ32_sort_2_11 18 rfl rfl)
theorem dJ32_sort_2_280 : decode cJ32_sort_2 280 = .ok (.iload 11, 2) := dk_21 11 (dk_at dksJ32_sort_2_11 19 rfl rfl)
theorem dJ32_sort_2_282 : decode cJ32_sort_2 282 = .ok (.aload_n 1, 1) := dk_43 (dk_at dksJ32_sort_2_11 21 rfl rfl)
theorem dJ32_sort_2_283 : decode cJ32_sort_2 283 = .ok (.iload 8, 2) := dk_21 8 (dk_at dksJ32_sort_2_11 22 rfl rfl)
theorem dJ32_sort_2_285 : decode cJ32_sort_2 285 = .ok (.daload, 1) := dk_49 (dk_at dksJ32_sort_2_12 0 rfl rfl)
theorem dJ32_sort_2_286 : decode cJ32_sort_2 286 = .ok (.dastore, 1) := dk_82 (dk_at dksJ32_sort_2_12 1 rfl rfl)
theorem dJ32_sort_2_287 : decode cJ32_sort_2 287 = .ok (.aload_n 1, 1) := dk_43 (dk_at dksJ32_sort_2_12 2 rfl rfl)
theorem dJ32_sort_2_288 : decode cJ32_sort_2 288 = .ok (.iload 8, 2) := dk_21 8 (dk_at dksJ32_sort_2_12 3 rfl rfl)
theorem dJ32_sort_2_290 : decode cJ32_sort_2 290 = .ok (.dload 15, 2) := dk_24 15 (dk_at dksJ32_sort_2_12 5 rfl rfl)
theorem dJ32_sort_2_292 : decode cJ32_sort_2 292 = .ok (.dastore, 1) := dk_82 (dk_at dksJ32_sort_2_12 7 rfl rfl)
theorem dJ32_sort_2_293 : decode cJ32_sort_2 293 = .ok (.aload_n 1, 1) := dk_43 (dk_at dksJ32_sort_2_12 8 rfl rfl)
theorem dJ32_sort_2_294 : decode cJ32_sort_2 294 = .ok (.iload 12, 2) := dk_21 12 (dk_at dksJ32_sort_2_12 9 rfl rfl)
theorem dJ32_sort_2_296 : decode cJ32_sort_2 296 = .ok (.daload, 1) := dk_49 (dk_at dksJ32_sort_2_12 11 rfl rfl)
theorem dJ32_sort_2_297 : decode cJ32_sort_2 297 = .ok (.aload_n 1, 1) := dk_43 (dk_at dksJ32_sort_2_12 12 rfl rfl)
theorem dJ32_sort_2_298 : decode cJ32_sort_2 298 = .ok (.iload 11, 2) := dk_21 11 (dk_at dksJ32_sort_2_12 13 rfl rfl)
theorem dJ32_sort_2_300 : decode cJ32_sort_2 300 = .ok (.daload, 1) := dk_49 (dk_at dksJ32_sort_2_12 15 rfl rfl)
theorem dJ32_sort_2_301 : decode cJ32_sort_2 301 = .ok (.dcmp .g, 1) := dk_152 (dk_at dksJ32_sort_2_12 16 rfl rfl)
theorem dJ32_sort_2_302 : decode cJ32_sort_2 302 = .ok (.ifCond .ge 23, 3) := dk_156 0 23 (dk_at dksJ32_sort_2_12 17 rfl rfl)
theorem dJ32_sort_2_305 : decode cJ32_sort_2 305 = .ok (.aload_n 1, 1) := dk_43 (dk_at dksJ32_sort_2_12 20 rfl rfl)
theorem dJ32_sort_2_306 : decode cJ32_sort_2 306 = .ok (.iload 12, 2) := dk_21 12 (dk_at dksJ32_sort_2_12 21 rfl rfl)
theorem dJ32_sort_2_308 : decode cJ32_sort_2 308 = .ok (.daload, 1) := dk_49 (dk_at dksJ32_sort_2_12 23 rfl rfl)
theorem dJ32_sort_2_309 : decode cJ32_sort_2 309 = .ok (.dstore 15, 2) := dk_57 15 (dk_at dksJ32_sort_2_13 0 rfl rfl)
theorem dJ32_sort_2_311 : decode cJ32_sort_2 311 = .ok (.aload_n 1, 1) := dk_43 (dk_at dksJ32_sort_2_13 2 rfl rfl)
theorem dJ32_sort_2_312 : decode cJ32_sort_2 312 = .ok (.iload 12, 2) := dk_21 12 (dk_at dksJ32_sort_2_13 3 rfl rfl)
theorem dJ32_sort_2_314 : decode cJ32_sort_2 314 = .ok (.aload_n 1, 1) := dk_43 (dk_at dksJ32_sort_2_13 5 rfl rfl)
theorem dJ32_sort_2_315 : decode cJ32_sort_2 315 = .ok (.iload 11, 2) := dk_21 11 (dk_at dksJ32_sort_2_13 6 rfl rfl)
theorem dJ32_sort_2_317 : decode cJ32_sort_2 317 = .ok (.daload, 1) := dk_49 (dk_at dksJ32_sort_2_13 8 rfl rfl)
theorem dJ32_sort_2_318 : decode cJ32_sort_2 318 = .ok (.dastore, 1) := dk_82 (dk_at dksJ32_sort_2_13 9 rfl rfl)
theorem dJ32_sort_2_319 : decode cJ32_sort_2 319 = .ok (.aload_n 1, 1) := dk_43 (dk_at dksJ32_sort_2_13 10 rfl rfl)
theorem dJ32_sort_2_320 : decode cJ32_sort_2 320 = .ok (.iload 11, 2) := dk_21 11 (dk_at dksJ32_sort_2_13 11 rfl rfl)
theorem dJ32_sort_2_322 : decode cJ32_sort_2 322 = .ok (.dload 15, 2) := dk_24 15 (dk_at dksJ32_sort_2_13 13 rfl rfl)
theorem dJ32_sort_2_324 : decode cJ32_sort_2 324 = .ok (.dastore, 1) := dk_82 (dk_at dksJ32_sort_2_13 15 rfl rfl)
theorem dJ32_sort_2_325 : decode cJ32_sort_2 325 = .ok (.dload 13, 2) := dk_24 13 (dk_at dksJ32_sort_2_13 16 rfl rfl)
theorem dJ32_sort_2_327 : decode cJ32_sort_2 327 = .ok (.aload_n 1, 1) := dk_43 (dk_at dksJ32_sort_2_13 18 rfl rfl)
theorem dJ32_sort_2_328 : decode cJ32_sort_2 328 = .ok (.iload 11, 2) := dk_21 11 (dk_at dksJ32_sort_2_13 19 rfl rfl)
theorem dJ32_sort_2_330 : decode cJ32_sort_2 330 = .ok (.daload, 1) := dk_49 (dk_at dksJ32_sort_2_13 21 rfl rfl)
theorem dJ32_sort_2_331 : decode cJ32_sort_2 331 = .ok (.dcmp .g, 1) := dk_152 (dk_at dksJ32_sort_2_13 22 rfl rfl)
theorem dJ32_sort_2_332 : decode cJ32_sort_2 332 = .ok (.ifCond .ge 55, 3) := dk_156 0 55 (dk_at dksJ32_sort_2_14 0 rfl rfl)
theorem dJ32_sort_2_335 : decode cJ32_sort_2 335 = .ok (.dload 13, 2) := dk_24 13 (dk_at dksJ32_sort_2_14 3 rfl rfl)
theorem dJ32_sort_2_337 : decode cJ32_sort_2 337 = .ok (.aload_n 1, 1) := dk_43 (dk_at dksJ32_sort_2_14 5 rfl rfl)
theorem dJ32_sort_2_338 : decode cJ32_sort_2 338 = .ok (.iload 8, 2) := dk_21 8 (dk_at dksJ32_sort_2_14 6 rfl rfl)
theorem dJ32_sort_2_340 : decode cJ32_sort_2 340 = .ok (.daload, 1) := dk_49 (dk_at dksJ32_sort_2_14 8 rfl rfl)
theorem dJ32_sort_2_341 : decode cJ32_sort_2 341 = .ok (.dcmp .g, 1) := dk_152 (dk_at dksJ32_sort_2_14 9 rfl rfl)
theorem dJ32_sort_2_342 : decode cJ32_sort_2 342 = .ok (.ifCond .ge 28, 3) := dk_156 0 28 (dk_at dksJ32_sort_2_14 10 rfl rfl)
theorem dJ32_sort_2_345 : decode cJ32_sort_2 345 = .ok (.aload_n 1, 1) := dk_43 (dk_at dksJ32_sort_2_14 13 rfl rfl)
theorem dJ32_sort_2_346 : decode cJ32_sort_2 346 = .ok (.iload 10, 2) := dk_21 10 (dk_at dksJ32_sort_2_14 14 rfl rfl)
theorem dJ32_sort_2_348 : decode cJ32_sort_2 348 = .ok (.aload_n 1, 1) := dk_43 (dk_at dksJ32_sort_2_14 16 rfl rfl)
theorem dJ32_sort_2_349 : decode cJ32_sort_2 349 = .ok (.iload 11, 2) := dk_21 11 (dk_at dksJ32_sort_2_14 17 rfl rfl)
theorem dJ32_sort_2_351 : decode cJ32_sort_2 351 = .ok (.daload, 1) := dk_49 (dk_at dksJ32_sort_2_14 19 rfl rfl)
theorem dJ32_sort_2_352 : decode cJ32_sort_2 352 = .ok (.dastore, 1) := dk_82 (dk_at dksJ32_sort_2_14 20 rfl rfl)
theorem dJ32_sort_2_353 : decode cJ32_sort_2 353 = .ok (.aload_n 1, 1) := dk_43 (dk_at dksJ32_sort_2_14 21 rfl rfl)
theorem dJ32_sort_2_354 : decode cJ32_sort_2 354 = .ok (.iload 11, 2) := dk_21 11 (dk_at dksJ32_sort_2_14 22 rfl rfl)
theorem dJ32_sort_2_356 : decode cJ32_sort_2 356 = .ok (.aload_n 1, 1) := dk_43 (dk_at dksJ32_sort_2_15 0 rfl rfl)
theorem dJ32_sort_2_357 : decode cJ32_sort_2 357 = .ok (.iload 8, 2) := dk_21 8 (dk_at dksJ32_sort_2_15 1 rfl rfl)
theorem dJ32_sort_2_359 : decode cJ32_sort_2 359 = .ok (.daload, 1) := dk_49 (dk_at dksJ32_sort_2_15 3 rfl rfl)
theorem dJ32_sort_2_360 : decode cJ32_sort_2 360 = .ok (.dastore, 1) := dk_82 (dk_at dksJ32_sort_2_15 4 rfl rfl)
theorem dJ32_sort_2_361 : decode cJ32_sort_2 361 = .ok (.aload_n 1, 1) := dk_43 (dk_at dksJ32_sort_2_15 5 rfl rfl)
theorem dJ32_sort_2_362 : decode cJ32_sort_2 362 = .ok (.iload 8, 2) := dk_21 8 (dk_at dksJ32_sort_2_15 6 rfl rfl)
theorem dJ32_sort_2_364 : decode cJ32_sort_2 364 = .ok (.dload 13, 2) := dk_24 13 (dk_at dksJ32_sort_2_15 8 rfl rfl)
theorem dJ32_sort_2_366 : decode cJ32_sort_2 366 = .ok (.dastore, 1) := dk_82 (dk_at dksJ32_sort_2_15 10 rfl rfl)
theorem dJ32_sort_2_367 : decode cJ32_sort_2 367 = .ok (.goto 79, 3) := dk_167 0 79 (dk_at dksJ32_sort_2_15 11 rfl rfl)
theorem dJ32_sort_2_370 : decode cJ32_sort_2 370 = .ok (.aload_n 1, 1) := dk_43 (dk_at dksJ32_sort_2_15 14 rfl rfl)
theorem dJ32_sort_2_371 : decode cJ32_sort_2 371 = .ok (.iload 10, 2) := dk_21 10 (dk_at dksJ32_sort_2_15 15 rfl rfl)
theorem dJ32_sort_2_373 : decode cJ32_sort_2 373 = .ok (.aload_n 1, 1) := dk_43 (dk_at dksJ32_sort_2_15 17 rfl rfl)
theorem dJ32_sort_2_374 : decode cJ32_sort_2 374 = .ok (.iload 11, 2) := dk_21 11 (dk_at dksJ32_sort_2_15 18 rfl rfl)
theorem dJ32_sort_2_376 : decode cJ32_sort_2 376 = .ok (.daload, 1) := dk_49 (dk_at dksJ32_sort_2_15 20 rfl rfl)
theorem dJ32_sort_2_377 : decode cJ32_sort_2 377 = .ok (.dastore, 1) := dk_82 (dk_at dksJ32_sort_2_15 21 rfl rfl)
theorem dJ32_sort_2_378 : decode cJ32_sort_2 378 = .ok (.aload_n 1, 1) := dk_43 (dk_at dksJ32_sort_2_15 22 rfl rfl)
theorem dJ32_sort_2_379 : decode cJ32_sort_2 379 = .ok (.iload 11, 2) := dk_21 11 (dk_at dksJ32_sort_2_16 0 rfl rfl)
theorem dJ32_sort_2_381 : decode cJ32_sort_2 381 = .ok (.dload 13, 2) := dk_24 13 (dk_at dksJ32_sort_2_16 2 rfl rfl)
theorem dJ32_sort_2_383 : decode cJ32_sort_2 383 = .ok (.dastore, 1) := dk_82 (dk_at dksJ32_sort_2_16 4 rfl rfl)
theorem dJ32_sort_2_384 : decode cJ32_sort_2 384 = .ok (.goto 62, 3) := dk_167 0 62 (dk_at dksJ32_sort_2_16 5 rfl rfl)
theorem dJ32_sort_2_387 : decode cJ32_sort_2 387 = .ok (.dload 13, 2) := dk_24 13 (dk_at dksJ32_sort_2_16 8 rfl rfl)
theorem dJ32_sort_2_389 : decode cJ32_sort_2 389 = .ok (.aload_n 1, 1) := dk_43 (dk_at dksJ32_sort_2_16 10 rfl rfl)
theorem dJ32_sort_2_390 : decode cJ32_sort_2 390 = .ok (.iload 12, 2) := dk_21 12 (dk_at dksJ32_sort_2_16 11 rfl rfl)
theorem dJ32_sort_2_392 : decode cJ32_sort_2 392 = .ok (.daload, 1) := dk_49 (dk_at dksJ32_sort_2_16 13 rfl rfl)
theorem dJ32_sort_2_393 : decode cJ32_sort_2 393 = .ok (.dcmp .l, 1) := dk_151 (dk_at dksJ32_sort_2_16 14 rfl rfl)
theorem dJ32_sort_2_394 : decode cJ32_sort_2 394 = .ok (.ifCond .le 52, 3) := dk_158 0 52 (dk_at dksJ32_sort_2_16 15 rfl rfl)
theorem dJ32_sort_2_397 : decode cJ32_sort_2 397 = .ok (.dload 13, 2) := dk_24 13 (dk_at dksJ32_sort_2_16 18 rfl rfl)
theorem dJ32_sort_2_399 : decode cJ32_sort_2 399 = .ok (.aload_n 1, 1) := dk_43 (dk_at dksJ32_sort_2_16 20 rfl rfl)
theorem dJ32_sort_2_400 : decode cJ32_sort_2 400 = .ok (.iload 9, 2) := dk_21 9 (dk_at dksJ32_sort_2_16 21 rfl rfl)
theorem dJ32_sort_2_402 : decode cJ32_sort_2 402 = .ok (.daload, 1) := dk_49 (dk_at dksJ32_sort_2_16 23 rfl rfl)
theorem dJ32_sort_2_403 : decode cJ32_sort_2 403 = .ok (.dcmp .l, 1) := dk_151 (dk_at dksJ32_sort_2_17 0 rfl rfl)
theorem dJ32_sort_2_404 : decode cJ32_sort_2 404 = .ok (.ifCond .le 28, 3) := dk_158 0 28 (dk_at dksJ32_sort_2_17 1 rfl rfl)
theorem dJ32_sort_2_407 : decode cJ32_sort_2 407 = .ok (.aload_n 1, 1) := dk_43 (dk_at dksJ32_sort_2_17 4 rfl rfl)
theorem dJ32_sort_2_408 : decode cJ32_sort_2 408 = .ok (.iload 10, 2) := dk_21 10 (dk_at dksJ32_sort_2_17 5 rfl rfl)
theorem dJ32_sort_2_410 : decode cJ32_sort_2 410 = .ok (.aload_n 1, 1) := dk_43 (dk_at dksJ32_sort_2_17 7 rfl rfl)
theorem dJ32_sort_2_411 : decode cJ32_sort_2 411 = .ok (.iload 12, 2) := dk_21 12 (dk_at dksJ32_sort_2_17 8 rfl rfl)
theorem dJ32_sort_2_413 : decode cJ32_sort_2 413 = .ok (.daload, 1) := dk_49 (dk_at dksJ32_sort_2_17 10 rfl rfl)
theorem dJ32_sort_2_414 : decode cJ32_sort_2 414 = .ok (.dastore, 1) := dk_82 (dk_at dksJ32_sort_2_17 11 rfl rfl)
theorem dJ32_sort_2_415 : decode cJ32_sort_2 415 = .ok (.aload_n 1, 1) := dk_43 (dk_at dksJ32_sort_2_17 12 rfl rfl)
theorem dJ32_sort_2_416 : decode cJ32_sort_2 416 = .ok (.iload 12, 2) := dk_21 12 (dk_at dksJ32_sort_2_17 13 rfl rfl)
theorem dJ32_sort_2_418 : decode cJ32_sort_2 418 = .ok (.aload_n 1, 1) := dk_43 (dk_at dksJ32_sort_2_17 15 rfl rfl)
theorem dJ32_sort_2_419 : decode cJ32_sort_2 419 = .ok (.iload 9, 2) := dk_21 9 (dk_at dksJ32_sort_2_17 16 rfl rfl)
theorem dJ32_sort_2_421 : decode cJ32_sort_2 421 = .ok (.daload, 1) := dk_49 (dk_at dksJ32_sort_2_17 18 rfl rfl)
theorem dJ32_sort_2_422 : decode cJ32_sort_2 422 = .ok (.dastore, 1) := dk_82 (dk_at dksJ32_sort_2_17 19 rfl rfl)
theorem dJ32_sort_2_423 : decode cJ32_sort_2 423 = .ok (.aload_n 1, 1) := dk_43 (dk_at dksJ32_sort_2_17 20 rfl rfl)
theorem dJ32_sort_2_424 : decode cJ32_sort_2 424 = .ok (.iload 9, 2) := dk_21 9 (dk_at dksJ32_sort_2_17 21 rfl rfl)
theorem dJ32_sort_2_426 : decode cJ32_sort_2 426 = .ok (.dload 13, 2) := dk_24 13 (dk_at dksJ32_sort_2_18 0 rfl rfl)
theorem dJ32_sort_2_428 : decode cJ32_sort_2 428 = .ok (.dastore, 1) := dk_82 (dk_at dksJ32_sort_2_18 2 rfl rfl)
theorem dJ32_sort_2_429 : decode cJ32_sort_2 429 = .ok (.goto 17, 3) := dk_167 0 17 (dk_at dksJ32_sort_2_18 3 rfl rfl)
theorem dJ32_sort_2_432 : decode cJ32_sort_2 432 = .ok (.aload_n 1, 1) := dk_43 (dk_at dksJ32_sort_2_18 6 rfl rfl)
theorem dJ32_sort_2_433 : decode cJ32_sort_2 433 = .ok (.iload 10, 2) := dk_21 10 (dk_at dksJ32_sort_2_18 7 rfl rfl)
theorem dJ32_sort_2_435 : decode cJ32_sort_2 435 = .ok (.aload_n 1, 1) := dk_43 (dk_at dksJ32_sort_2_18 9 rfl rfl)
theorem dJ32_sort_2_436 : decode cJ32_sort_2 436 = .ok (.iload 12, 2) := dk_21 12 (dk_at dksJ32_sort_2_18 10 rfl rfl)
theorem dJ32_sort_2_438 : decode cJ32_sort_2 438 = .ok (.daload, 1) := dk_49 (dk_at dksJ32_sort_2_18 12 rfl rfl)
theorem dJ32_sort_2_439 : decode cJ32_sort_2 439 = .ok (.dastore, 1) := dk_82 (dk_at dksJ32_sort_2_18 13 rfl rfl)
theorem dJ32_sort_2_440 : decode cJ32_sort_2 440 = .ok (.aload_n 1, 1) := dk_43 (dk_at dksJ32_sort_2_18 14 rfl rfl)
theorem dJ32_sort_2_441 : decode cJ32_sort_2 441 = .ok (.iload 12, 2) := dk_21 12 (dk_at dksJ32_sort_2_18 15 rfl rfl)
theorem dJ32_sort_2_443 : decode cJ32_sort_2 443 = .ok (.dload 13, 2) := dk_24 13 (dk_at dksJ32_sort_2_18 17 rfl rfl)
theorem dJ32_sort_2_445 : decode cJ32_sort_2 445 = .ok (.dastore, 1) := dk_82 (dk_at dksJ32_sort_2_18 19 rfl rfl)
theorem dJ32_sort_2_446 : decode cJ32_sort_2 446 = .ok (.iload_n 3, 1) := dk_29 (dk_at dksJ32_sort_2_18 20 rfl rfl)
theorem dJ32_sort_2_447 : decode cJ32_sort_2 447 = .ok (.istore 15, 2) := dk_54 15 (dk_at dksJ32_sort_2_18 21 rfl rfl)
theorem dJ32_sort_2_449 : decode cJ32_sort_2 449 = .ok (.iload 5, 2) := dk_21 5 (dk_at dksJ32_sort_2_19 0 rfl rfl)
theorem dJ32_sort_2_451 : decode cJ32_sort_2 451 = .ok (.istore 16, 2) := dk_54 16 (dk_at dksJ32_sort_2_19 2 rfl rfl)
theorem dJ32_sort_2_453 : decode cJ32_sort_2 453 = .ok (.aload_n 1, 1) := dk_43 (dk_at dksJ32_sort_2_19 4 rfl rfl)
theorem dJ32_sort_2_454 : decode cJ32_sort_2 454 = .ok (.iload 8, 2) := dk_21 8 (dk_at dksJ32_sort_2_19 5 rfl rfl)
theorem dJ32_sort_2_456 : decode cJ32_sort_2 456 = .ok (.daload, 1) := dk_49 (dk_at dksJ32_sort_2_19 7 rfl rfl)
theorem dJ32_sort_2_457 : decode cJ32_sort_2 457 = .ok (.aload_n 1, 1) := dk_43 (dk_at dksJ32_sort_2_19 8 rfl rfl)
theorem dJ32_sort_2_458 : decode cJ32_sort_2 458 = .ok (.iload 11, 2) := dk_21 11 (dk_at dksJ32_sort_2_19 9 rfl rfl)
theorem dJ32_sort_2_460 : decode cJ32_sort_2 460 = .ok (.daload, 1) := dk_49 (dk_at dksJ32_sort_2_19 11 rfl rfl)
theorem dJ32_sort_2_461 : decode cJ32_sort_2 461 = .ok (.dcmp .g, 1) := dk_152 (dk_at dksJ32_sort_2_19 12 rfl rfl)
theorem dJ32_sort_2_462 : decode cJ32_sort_2 462 = .ok (.ifCond .ge 333, 3) := dk_156 1 77 (dk_at dksJ32_sort_2_19 13 rfl rfl)
theorem dJ32_sort_2_465 : decode cJ32_sort_2 465 = .ok (.aload_n 1, 1) := dk_43 (dk_at dksJ32_sort_2_19 16 rfl rfl)
theorem dJ32_sort_2_466 : decode cJ32_sort_2 466 = .ok (.iload 11, 2) := dk_21 11 (dk_at dksJ32_sort_2_19 17 rfl rfl)
theorem dJ32_sort_2_468 : decode cJ32_sort_2 468 = .ok (.daload, 1) := dk_49 (dk_at dksJ32_sort_2_19 19 rfl rfl)
theorem dJ32_sort_2_469 : decode cJ32_sort_2 469 = .ok (.aload_n 1, 1) := dk_43 (dk_at dksJ32_sort_2_19 20 rfl rfl)
theorem dJ32_sort_2_470 : decode cJ32_sort_2 470 = .ok (.iload 10, 2) := dk_21 10 (dk_at dksJ32_sort_2_19 21 rfl rfl)
theorem dJ32_sort_2_472 : decode cJ32_sort_2 472 = .ok (.daload, 1) := dk_49 (dk_at dksJ32_sort_2_19 23 rfl rfl)
theorem dJ32_sort_2_473 : decode cJ32_sort_2 473 = .ok (.dcmp .g, 1) := dk_152 (dk_at dksJ32_sort_2_20 0 rfl rfl)
theorem dJ32_sort_2_474 : decode cJ32_sort_2 474 = .ok (.ifCond .ge 321, 3) := dk_156 1 65 (dk_at dksJ32_sort_2_20 1 rfl rfl)
theorem dJ32_sort_2_477 : decode cJ32_sort_2 477 = .ok (.aload_n 1, 1) := dk_43 (dk_at dksJ32_sort_2_20 4 rfl rfl)
theorem dJ32_sort_2_478 : decode cJ32_sort_2 478 = .ok (.iload 10, 2) := dk_21 10 (dk_at dksJ32_sort_2_20 5 rfl rfl)
theorem dJ32_sort_2_480 : decode cJ32_sort_2 480 = .ok (.daload, 1) := dk_49 (dk_at dksJ32_sort_2_20 7 rfl rfl)
theorem dJ32_sort_2_481 : decode cJ32_sort_2 481 = .ok (.aload_n 1, 1) := dk_43 (dk_at dksJ32_sort_2_20 8 rfl rfl)
theorem dJ32_sort_2_482 : decode cJ32_sort_2 482 = .ok (.iload 12, 2) := dk_21 12 (dk_at dksJ32_sort_2_20 9 rfl rfl)
theorem dJ32_sort_2_484 : decode cJ32_sort_2 484 = .ok (.daload, 1) := dk_49 (dk_at dksJ32_sort_2_20 11 rfl rfl)
theorem dJ32_sort_2_485 : decode cJ32_sort_2 485 = .ok (.dcmp .g, 1) := dk_152 (dk_at dksJ32_sort_2_20 12 rfl rfl)
theorem dJ32_sort_2_486 : decode cJ32_sort_2 486 = .ok (.ifCond .ge 309, 3) := dk_156 1 53 (dk_at dksJ32_sort_2_20 13 rfl rfl)
theorem dJ32_sort_2_489 : decode cJ32_sort_2 489 = .ok (.aload_n 1, 1) := dk_43 (dk_at dksJ32_sort_2_20 16 rfl rfl)
theorem dJ32_sort_2_490 : decode cJ32_sort_2 490 = .ok (.iload 12, 2) := dk_21 12 (dk_at dksJ32_sort_2_20 17 rfl rfl)
theorem dJ32_sort_2_492 : decode cJ32_sort_2 492 = .ok (.daload, 1) := dk_49 (dk_at dksJ32_sort_2_20 19 rfl rfl)
theorem dJ32_sort_2_493 : decode cJ32_sort_2 493 = .ok (.aload_n 1, 1) := dk_43 (dk_at dksJ32_sort_2_20 20 rfl rfl)
theorem dJ32_sort_2_494 : decode cJ32_sort_2 494 = .ok (.iload 9, 2) := dk_21 9 (dk_at dksJ32_sort_2_20 21 rfl rfl)
theorem dJ32_sort_2_496 : decode cJ32_sort_2 496 = .ok (.daload, 1) := dk_49 (dk_at dksJ32_sort_2_20 23 rfl rfl)
theorem dJ32_sort_2_497 : decode cJ32_sort_2 497 = .ok (.dcmp .g, 1) := dk_152 (dk_at dksJ32_sort_2_21 0 rfl rfl)
theorem dJ32_sort_2_498 : decode cJ32_sort_2 498 = .ok (.ifCond .ge 297, 3) := dk_156 1 41 (dk_at dksJ32_sort_2_21 1 rfl rfl)
theorem dJ32_sort_2_501 : decode cJ32_sort_2 501 = .ok (.aload_n 1, 1) := dk_43 (dk_at dksJ32_sort_2_21 4 rfl rfl)
theorem dJ32_sort_2_502 : decode cJ32_sort_2 502 = .ok (.iload 8, 2) := dk_21 8 (dk_at dksJ32_sort_2_21 5 rfl rfl)
theorem dJ32_sort_2_504 : decode cJ32_sort_2 504 = .ok (.daload, 1) := dk_49 (dk_at dksJ32_sort_2_21 7 rfl rfl)
theorem dJ32_sort_2_505 : decode cJ32_sort_2 505 = .ok (.dstore 17, 2) := dk_57 17 (dk_at dksJ32_sort_2_21 8 rfl rfl)
theorem dJ32_sort_2_507 : decode cJ32_sort_2 507 = .ok (.aload_n 1, 1) := dk_43 (dk_at dksJ32_sort_2_21 10 rfl rfl)
theorem dJ32_sort_2_508 : decode cJ32_sort_2 508 = .ok (.iload 9, 2) := dk_21 9 (dk_at dksJ32_sort_2_21 11 rfl rfl)
theorem dJ32_sort_2_510 : decode cJ32_sort_2 510 = .ok (.daload, 1) := dk_49 (dk_at dksJ32_sort_2_21 13 rfl rfl)
theorem dJ32_sort_2_511 : decode cJ32_sort_2 511 = .ok (.dstore 19, 2) := dk_57 19 (dk_at dksJ32_sort_2_21 14 rfl rfl)
theorem dJ32_sort_2_513 : decode cJ32_sort_2 513 = .ok (.aload_n 1, 1) := dk_43 (dk_at dksJ32_sort_2_21 16 rfl rfl)
theorem dJ32_sort_2_514 : decode cJ32_sort_2 514 = .ok (.iload 8, 2) := dk_21 8 (dk_at dksJ32_sort_2_21 17 rfl rfl)
theorem dJ32_sort_2_516 : decode cJ32_sort_2 516 = .ok (.aload_n 1, 1) := dk_43 (dk_at dksJ32_sort_2_21 19 rfl rfl)
theorem dJ32_sort_2_517 : decode cJ32_sort_2 517 = .ok (.iload 15, 2) := dk_21 15 (dk_at dksJ32_sort_2_21 20 rfl rfl)
theorem dJ32_sort_2_519 : decode cJ32_sort_2 519 = .ok (.daload, 1) := dk_49 (dk_at dksJ32_sort_2_21 22 rfl rfl)
theorem dJ32_sort_2_520 : decode cJ32_sort_2 520 = .ok (.dastore, 1) := dk_82 (dk_at dksJ32_sort_2_21 23 rfl rfl)
theorem dJ32_sort_2_521 : decode cJ32_sort_2 521 = .ok (.aload_n 1, 1) := dk_43 (dk_at dksJ32_sort_2_22 0 rfl rfl)
theorem dJ32_sort_2_522 : decode cJ32_sort_2 522 = .ok (.iload 9, 2) := dk_21 9 (dk_at dksJ32_sort_2_22 1 rfl rfl)
theorem dJ32_sort_2_524 : decode cJ32_sort_2 524 = .ok (.aload_n 1, 1) := dk_43 (dk_at dksJ32_sort_2_22 3 rfl rfl)
theorem dJ32_sort_2_525 : decode cJ32_sort_2 525 = .ok (.iload 16, 2) := dk_21 16 (dk_at dksJ32_sort_2_22 4 rfl rfl)
theorem dJ32_sort_2_527 : decode cJ32_sort_2 527 = .ok (.daload, 1) := dk_49 (dk_at dksJ32_sort_2_22 6 rfl rfl)
theorem dJ32_sort_2_528 : decode cJ32_sort_2 528 = .ok (.dastore, 1) := dk_82 (dk_at dksJ32_sort_2_22 7 rfl rfl)
theorem dJ32_sort_2_529 : decode cJ32_sort_2 529 = .ok (.aload_n 1, 1) := dk_43 (dk_at dksJ32_sort_2_22 8 rfl rfl)
theorem dJ32_sort_2_530 : decode cJ32_sort_2 530 = .ok (.iinc 15 1, 3) := dk_132 15 1 (dk_at dksJ32_sort_2_22 9 rfl rfl)
theorem dJ32_sort_2_533 : decode cJ32_sort_2 533 = .ok (.iload 15, 2) := dk_21 15 (dk_at dksJ32_sort_2_22 12 rfl rfl)
theorem dJ32_sort_2_535 : decode cJ32_sort_2 535 = .ok (.daload, 1) := dk_49 (dk_at dksJ32_sort_2_22 14 rfl rfl)
theorem dJ32_sort_2_536 : decode cJ32_sort_2 536 = .ok (.dload 17, 2) := dk_24 17 (dk_at dksJ32_sort_2_22 15 rfl rfl)
theorem dJ32_sort_2_538 : decode cJ32_sort_2 538 = .ok (.dcmp .g, 1) := dk_152 (dk_at dksJ32_sort_2_22 17 rfl rfl)
theorem dJ32_sort_2_539 : decode cJ32_sort_2 539 = .ok (.ifCond .ge 6, 3) := dk_156 0 6 (dk_at dksJ32_sort_2_22 18 rfl rfl)
theorem dJ32_sort_2_542 : decode cJ32_sort_2 542 = .ok (.goto (-13), 3) := dk_167 255 243 (dk_at dksJ32_sort_2_22 21 rfl rfl)
theorem dJ32_sort_2_545 : decode cJ32_sort_2 545 = .ok (.aload_n 1, 1) := dk_43 (dk_at dksJ32_sort_2_23 0 rfl rfl)
theorem dJ32_sort_2_546 : decode cJ32_sort_2 546 = .ok (.iinc 16 (-1), 3) := dk_132 16 255 (dk_at dksJ32_sort_2_23 1 rfl rfl)
theorem dJ32_sort_2_549 : decode cJ32_sort_2 549 = .ok (.iload 16, 2) := dk_21 16 (dk_at dksJ32_sort_2_23 4 rfl rfl)
theorem dJ32_sort_2_551 : decode cJ32_sort_2 551 = .ok (.daload, 1) := dk_49 (dk_at dksJ32_sort_2_23 6 rfl rfl)
theorem dJ32_sort_2_552 : decode cJ32_sort_2 552 = .ok (.dload 19, 2) := dk_24 19 (dk_at dksJ32_sort_2_23 7 rfl rfl)
theorem dJ32_sort_2_554 : decode cJ32_sort_2 554 = .ok (.dcmp .l, 1) := dk_151 (dk_at dksJ32_sort_2_23 9 rfl rfl)
theorem dJ32_sort_2_555 : decode cJ32_sort_2 555 = .ok (.ifCond .le 6, 3) := dk_158 0 6 (dk_at dksJ32_sort_2_23 10 rfl rfl)
theorem dJ32_sort_2_558 : decode cJ32_sort_2 558 = .ok (.goto (-13), 3) := dk_167 255 243 (dk_at dksJ32_sort_2_23 13 rfl rfl)
theorem dJ32_sort_2_561 : decode cJ32_sort_2 561 = .ok (.iinc 15 (-1), 3) := dk_132 15 255 (dk_at dksJ32_sort_2_23 16 rfl rfl)
theorem dJ32_sort_2_564 : decode cJ32_sort_2 564 = .ok (.iload 15, 2) := dk_21 15 (dk_at dksJ32_sort_2_23 19 rfl rfl)
theorem dJ32_sort_2_566 : decode cJ32_sort_2 566 = .ok (.istore 21, 2) := dk_54 21 (dk_at dksJ32_sort_2_23 21 rfl rfl)
theorem dJ32_sort_2_568 : decode cJ32_sort_2 568 = .ok (.iinc 16 1, 3) := dk_132 16 1 (dk_at dksJ32_sort_2_24 0 rfl rfl)
theorem dJ32_sort_2_571 : decode cJ32_sort_2 571 = .ok (.iload 16, 2) := dk_21 16 (dk_at dksJ32_sort_2_24 3 rfl rfl)
theorem dJ32_sort_2_573 : decode cJ32_sort_2 573 = .ok (.istore 22, 2) := dk_54 22 (dk_at dksJ32_sort_2_24 5 rfl rfl)
theorem dJ32_sort_2_575 : decode cJ32_sort_2 575 = .ok (.iinc 22 (-1), 3) := dk_132 22 255 (dk_at dksJ32_sort_2_24 7 rfl rfl)
theorem dJ32_sort_2_578 : decode cJ32_sort_2 578 = .ok (.iload 22, 2) := dk_21 22 (dk_at dksJ32_sort_2_24 10 rfl rfl)
theorem dJ32_sort_2_580 : decode cJ32_sort_2 580 = .ok (.iload 15, 2) := dk_21 15 (dk_at dksJ32_sort_2_24 12 rfl rfl)
theorem dJ32_sort_2_582 : decode cJ32_sort_2 582 = .ok (.if_icmp .le 114, 3) := dk_164 0 114 (dk_at dksJ32_sort_2_24 14 rfl rfl)
theorem dJ32_sort_2_585 : decode cJ32_sort_2 585 = .ok (.aload_n 1, 1) := dk_43 (dk_at dksJ32_sort_2_24 17 rfl rfl)
theorem dJ32_sort_2_586 : decode cJ32_sort_2 586 = .ok (.iload 22, 2) := dk_21 22 (dk_at dksJ32_sort_2_24 18 rfl rfl)
theorem dJ32_sort_2_588 : decode cJ32_sort_2 588 = .ok (.daload, 1) := dk_49 (dk_at dksJ32_sort_2_24 20 rfl rfl)
theorem dJ32_sort_2_589 : decode cJ32_sort_2 589 = .ok (.dstore 23, 2) := dk_57 23 (dk_at dksJ32_sort_2_24 21 rfl rfl)
theorem dJ32_sort_2_591 : decode cJ32_sort_2 591 = .ok (.dload 23, 2) := dk_24 23 (dk_at dksJ32_sort_2_25 0 rfl rfl)
theorem dJ32_sort_2_593 : decode cJ32_sort_2 593 = .ok (.dload 17, 2) := dk_24 17 (dk_at dksJ32_sort_2_25 2 rfl rfl)
theorem dJ32_sort_2_595 : decode cJ32_sort_2 595 = .ok (.dcmp .g, 1) := dk_152 (dk_at dksJ32_sort_2_25 4 rfl rfl)
theorem dJ32_sort_2_596 : decode cJ32_sort_2 596 = .ok (.ifCond .ge 72, 3) := dk_156 0 72 (dk_at dksJ32_sort_2_25 5 rfl rfl)
theorem dJ32_sort_2_599 : decode cJ32_sort_2 599 = .ok (.iload 15, 2) := dk_21 15 (dk_at dksJ32_sort_2_25 8 rfl rfl)
theorem dJ32_sort_2_601 : decode cJ32_sort_2 601 = .ok (.iload 22, 2) := dk_21 22 (dk_at dksJ32_sort_2_25 10 rfl rfl)
theorem dJ32_sort_2_603 : decode cJ32_sort_2 603 = .ok (.if_icmp .ge 90, 3) := dk_162 0 90 (dk_at dksJ32_sort_2_25 12 rfl rfl)
theorem dJ32_sort_2_606 : decode cJ32_sort_2 606 = .ok (.aload_n 1, 1) := dk_43 (dk_at dksJ32_sort_2_25 15 rfl rfl)
theorem dJ32_sort_2_607 : decode cJ32_sort_2 607 = .ok (.iinc 15 1, 3) := dk_132 15 1 (dk_at dksJ32_sort_2_25 16 rfl rfl)
theorem dJ32_sort_2_610 : decode cJ32_sort_2 610 = .ok (.iload 15, 2) := dk_21 15 (dk_at dksJ32_sort_2_25 19 rfl rfl)
theorem dJ32_sort_2_612 : decode cJ32_sort_2 612 = .ok (.daload, 1) := dk_49 (dk_at dksJ32_sort_2_25 21 rfl rfl)
theorem dJ32_sort_2_613 : decode cJ32_sort_2 613 = .ok (.dload 17, 2) := dk_24 17 (dk_at dksJ32_sort_2_25 22 rfl rfl)
theorem dJ32_sort_2_615 : decode cJ32_sort_2 615 = .ok (.dcmp .l, 1) := dk_151 (dk_at dksJ32_sort_2_26 0 rfl rfl)
theorem dJ32_sort_2_616 : decode cJ32_sort_2 616 = .ok (.ifCond .lt (-17), 3) := dk_155 255 239 (dk_at dksJ32_sort_2_26 1 rfl rfl)
theorem dJ32_sort_2_619 : decode cJ32_sort_2 619 = .ok (.aload_n 1, 1) := dk_43 (dk_at dksJ32_sort_2_26 4 rfl rfl)
theorem dJ32_sort_2_620 : decode cJ32_sort_2 620 = .ok (.iload 15, 2) := dk_21 15 (dk_at dksJ32_sort_2_26 5 rfl rfl)
theorem dJ32_sort_2_622 : decode cJ32_sort_2 622 = .ok (.daload, 1) := dk_49 (dk_at dksJ32_sort_2_26 7 rfl rfl)
theorem dJ32_sort_2_623 : decode cJ32_sort_2 623 = .ok (.dload 19, 2) := dk_24 19 (dk_at dksJ32_sort_2_26 8 rfl rfl)
theorem dJ32_sort_2_625 : decode cJ32_sort_2 625 = .ok (.dcmp .l, 1) := dk_151 (dk_at dksJ32_sort_2_26 10 rfl rfl)
theorem dJ32_sort_2_626 : decode cJ32_sort_2 626 = .ok (.ifCond .le 25, 3) := dk_158 0 25 (dk_at dksJ32_sort_2_26 11 rfl rfl)
theorem dJ32_sort_2_629 : decode cJ32_sort_2 629 = .ok (.aload_n 1, 1) := dk_43 (dk_at dksJ32_sort_2_26 14 rfl rfl)
theorem dJ32_sort_2_630 : decode cJ32_sort_2 630 = .ok (.iload 22, 2) := dk_21 22 (dk_at dksJ32_sort_2_26 15 rfl rfl)
theorem dJ32_sort_2_632 : decode cJ32_sort_2 632 = .ok (.aload_n 1, 1) := dk_43 (dk_at dksJ32_sort_2_26 17 rfl rfl)
theorem dJ32_sort_2_633 : decode cJ32_sort_2 633 = .ok (.iinc 16 (-1), 3) := dk_132 16 255 (dk_at dksJ32_sort_2_26 18 rfl rfl)
theorem dJ32_sort_2_636 : decode cJ32_sort_2 636 = .ok (.iload 16, 2) := dk_21 16 (dk_at dksJ32_sort_2_26 21 rfl rfl)
theorem dJ32_sort_2_638 : decode cJ32_sort_2 638 = .ok (.daload, 1) := dk_49 (dk_at dksJ32_sort_2_26 23 rfl rfl)
theorem dJ32_sort_2_639 : decode cJ32_sort_2 639 = .ok (.dastore, 1) := dk_82 (dk_at dksJ32_sort_2_27 0 rfl rfl)
theorem dJ32_sort_2_640 : decode cJ32_sort_2 640 = .ok (.aload_n 1, 1) := dk_43 (dk_at dksJ32_sort_2_27 1 rfl rfl)
theorem dJ32_sort_2_641 : decode cJ32_sort_2 641 = .ok (.iload 16, 2) := dk_21 16 (dk_at dksJ32_sort_2_27 2 rfl rfl)
theorem dJ32_sort_2_643 : decode cJ32_sort_2 643 = .ok (.aload_n 1, 1) := dk_43 (dk_at dksJ32_sort_2_27 4 rfl rfl)
theorem dJ32_sort_2_644 : decode cJ32_sort_2 644 = .ok (.iload 15, 2) := dk_21 15 (dk_at dksJ32_sort_2_27 5 rfl rfl)
theorem dJ32_sort_2_646 : decode cJ32_sort_2 646 = .ok (.daload, 1) := dk_49 (dk_at dksJ32_sort_2_27 7 rfl rfl)
theorem dJ32_sort_2_647 : decode cJ32_sort_2 647 = .ok (.dastore, 1) := dk_82 (dk_at dksJ32_sort_2_27 8 rfl rfl)
theorem dJ32_sort_2_648 : decode cJ32_sort_2 648 = .ok (.goto 11, 3) := dk_167 0 11 (dk_at dksJ32_sort_2_27 9 rfl rfl)
theorem dJ32_sort_2_651 : decode cJ32_sort_2 651 = .ok (.aload_n 1, 1) := dk_43 (dk_at dksJ32_sort_2_27 12 rfl rfl)
theorem dJ32_sort_2_652 : decode cJ32_sort_2 652 = .ok (.iload 22, 2) := dk_21 22 (dk_at dksJ32_sort_2_27 13 rfl rfl)
theorem dJ32_sort_2_654 : decode cJ32_sort_2 654 = .ok (.aload_n 1, 1) := dk_43 (dk_at dksJ32_sort_2_27 15 rfl rfl)
theorem dJ32_sort_2_655 : decode cJ32_sort_2 655 = .ok (.iload 15, 2) := dk_21 15 (dk_at dksJ32_sort_2_27 16 rfl rfl)
theorem dJ32_sort_2_657 : decode cJ32_sort_2 657 = .ok (.daload, 1) := dk_49 (dk_at dksJ32_sort_2_27 18 rfl rfl)
theorem dJ32_sort_2_658 : decode cJ32_sort_2 658 = .ok (.dastore, 1) := dk_82 (dk_at dksJ32_sort_2_27 19 rfl rfl)
theorem dJ32_sort_2_659 : decode cJ32_sort_2 659 = .ok (.aload_n 1, 1) := dk_43 (dk_at dksJ32_sort_2_27 20 rfl rfl)
theorem dJ32_sort_2_660 : decode cJ32_sort_2 660 = .ok (.iload 15, 2) := dk_21 15 (dk_at dksJ32_sort_2_27 21 rfl rfl)
theorem dJ32_sort_2_662 : decode cJ32_sort_2 662 = .ok (.dload 23, 2) := dk_24 23 (dk_at dksJ32_sort_2_28 0 rfl rfl)
theorem dJ32_sort_2_664 : decode cJ32_sort_2 664 = .ok (.dastore, 1) := dk_82 (dk_at dksJ32_sort_2_28 2 rfl rfl)
theorem dJ32_sort_2_665 : decode cJ32_sort_2 665 = .ok (.goto 28, 3) := dk_167 0 28 (dk_at dksJ32_sort_2_28 3 rfl rfl)
theorem dJ32_sort_2_668 : decode cJ32_sort_2 668 = .ok (.dload 23, 2) := dk_24 23 (dk_at dksJ32_sort_2_28 6 rfl rfl)
theorem dJ32_sort_2_670 : decode cJ32_sort_2 670 = .ok (.dload 19, 2) := dk_24 19 (dk_at dksJ32_sort_2_28 8 rfl rfl)
theorem dJ32_sort_2_672 : decode cJ32_sort_2 672 = .ok (.dcmp .l, 1) := dk_151 (dk_at dksJ32_sort_2_28 10 rfl rfl)
theorem dJ32_sort_2_673 : decode cJ32_sort_2 673 = .ok (.ifCond .le 20, 3) := dk_158 0 20 (dk_at dksJ32_sort_2_28 11 rfl rfl)
theorem dJ32_sort_2_676 : decode cJ32_sort_2 676 = .ok (.aload_n 1, 1) := dk_43 (dk_at dksJ32_sort_2_28 14 rfl rfl)
theorem dJ32_sort_2_677 : decode cJ32_sort_2 677 = .ok (.iload 22, 2) := dk_21 22 (dk_at dksJ32_sort_2_28 15 rfl rfl)
theorem dJ32_sort_2_679 : decode cJ32_sort_2 679 = .ok (.aload_n 1, 1) := dk_43 (dk_at dksJ32_sort_2_28 17 rfl rfl)
theorem dJ32_sort_2_680 : decode cJ32_sort_2 680 = .ok (.iinc 16 (-1), 3) := dk_132 16 255 (dk_at dksJ32_sort_2_28 18 rfl rfl)
theorem dJ32_sort_2_683 : decode cJ32_sort_2 683 = .ok (.iload 16, 2) := dk_21 16 (dk_at dksJ32_sort_2_28 21 rfl rfl)
theorem dJ32_sort_2_685 : decode cJ32_sort_2 685 = .ok (.daload, 1) := dk_49 (dk_at dksJ32_sort_2_28 23 rfl rfl)
theorem dJ32_sort_2_686 : decode cJ32_sort_2 686 = .ok (.dastore, 1) := dk_82 (dk_at dksJ32_sort_2_29 0 rfl rfl)
theorem dJ32_sort_2_687 : decode cJ32_sort_2 687 = .ok (.aload_n 1, 1) := dk_43 (dk_at dksJ32_sort_2_29 1 rfl rfl)
theorem dJ32_sort_2_688 : decode cJ32_sort_2 688 = .ok (.iload 16, 2) := dk_21 16 (dk_at dksJ32_sort_2_29 2 rfl rfl)
theorem dJ32_sort_2_690 : decode cJ32_sort_2 690 = .ok (.dload 23, 2) := dk_24 23 (dk_at dksJ32_sort_2_29 4 rfl rfl)
theorem dJ32_sort_2_692 : decode cJ32_sort_2 692 = .ok (.dastore, 1) := dk_82 (dk_at dksJ32_sort_2_29 6 rfl rfl)
theorem dJ32_sort_2_693 : decode cJ32_sort_2 693 = .ok (.goto (-118), 3) := dk_167 255 138 (dk_at dksJ32_sort_2_29 7 rfl rfl)
theorem dJ32_sort_2_696 : decode cJ32_sort_2 696 = .ok (.aload_n 1, 1) := dk_43 (dk_at dksJ32_sort_2_29 10 rfl rfl)
theorem dJ32_sort_2_697 : decode cJ32_sort_2 697 = .ok (.iload_n 3, 1) := dk_29 (dk_at dksJ32_sort_2_29 11 rfl rfl)
theorem dJ32_sort_2_698 : decode cJ32_sort_2 698 = .ok (.aload_n 1, 1) := dk_43 (dk_at dksJ32_sort_2_29 12 rfl rfl)
theorem dJ32_sort_2_699 : decode cJ32_sort_2 699 = .ok (.iload 15, 2) := dk_21 15 (dk_at dksJ32_sort_2_29 13 rfl rfl)
theorem dJ32_sort_2_701 : decode cJ32_sort_2 701 = .ok (.daload, 1) := dk_49 (dk_at dksJ32_sort_2_29 15 rfl rfl)
theorem dJ32_sort_2_702 : decode cJ32_sort_2 702 = .ok (.dastore, 1) := dk_82 (dk_at dksJ32_sort_2_29 16 rfl rfl)
theorem dJ32_sort_2_703 : decode cJ32_sort_2 703 = .ok (.aload_n 1, 1) := dk_43 (dk_at dksJ32_sort_2_29 17 rfl rfl)
theorem dJ32_sort_2_704 : decode cJ32_sort_2 704 = .ok (.iload 15, 2) := dk_21 15 (dk_at dksJ32_sort_2_29 18 rfl rfl)
theorem dJ32_sort_2_706 : decode cJ32_sort_2 706 = .ok (.dload 17, 2) := dk_24 17 (dk_at dksJ32_sort_2_29 20 rfl rfl)
theorem dJ32_sort_2_708 : decode cJ32_sort_2 708 = .ok (.dastore, 1) := dk_82 (dk_at dksJ32_sort_2_29 22 rfl rfl)
theorem dJ32_sort_2_709 : decode cJ32_sort_2 709 = .ok (.aload_n 1, 1) := dk_43 (dk_at dksJ32_sort_2_29 23 rfl rfl)
theorem dJ32_sort_2_710 : decode cJ32_sort_2 710 = .ok (.iload 5, 2) := dk_21 5 (dk_at dksJ32_sort_2_30 0 rfl rfl)
theorem dJ32_sort_2_712 : decode cJ32_sort_2 712 = .ok (.aload_n 1, 1) := dk_43 (dk_at dksJ32_sort_2_30 2 rfl rfl)
theorem dJ32_sort_2_713 : decode cJ32_sort_2 713 = .ok (.iload 16, 2) := dk_21 16 (dk_at dksJ32_sort_2_30 3 rfl rfl)
theorem dJ32_sort_2_715 : decode cJ32_sort_2 715 = .ok (.daload, 1) := dk_49 (dk_at dksJ32_sort_2_30 5 rfl rfl)
theorem dJ32_sort_2_716 : decode cJ32_sort_2 716 = .ok (.dastore, 1) := dk_82 (dk_at dksJ32_sort_2_30 6 rfl rfl)
theorem dJ32_sort_2_717 : decode cJ32_sort_2 717 = .ok (.aload_n 1, 1) := dk_43 (dk_at dksJ32_sort_2_30 7 rfl rfl)
theorem dJ32_sort_2_718 : decode cJ32_sort_2 718 = .ok (.iload 16, 2) := dk_21 16 (dk_at dksJ32_sort_2_30 8 rfl rfl)
theorem dJ32_sort_2_720 : decode cJ32_sort_2 720 = .ok (.dload 19, 2) := dk_24 19 (dk_at dksJ32_sort_2_30 10 rfl rfl)
theorem dJ32_sort_2_722 : decode cJ32_sort_2 722 = .ok (.dastore, 1) := dk_82 (dk_at dksJ32_sort_2_30 12 rfl rfl)
theorem dJ32_sort_2_723 : decode cJ32_sort_2 723 = .ok (.iload 6, 2) := dk_21 6 (dk_at dksJ32_sort_2_30 13 rfl rfl)
theorem dJ32_sort_2_725 : decode cJ32_sort_2 725 = .ok (.sipush 4096, 3) := dk_17 16 0 (dk_at dksJ32_sort_2_30 15 rfl rfl)
theorem dJ32_sort_2_728 : decode cJ32_sort_2 728 = .ok (.if_icmp .le 36, 3) := dk_164 0 36 (dk_at dksJ32_sort_2_30 18 rfl rfl)
theorem dJ32_sort_2_731 : decode cJ32_sort_2 731 = .ok (.aload_n 0, 1) := dk_42 (dk_at dksJ32_sort_2_30 21 rfl rfl)
theorem dJ32_sort_2_732 : decode cJ32_sort_2 732 = .ok (.ifnull 32, 3) := dk_198 0 32 (dk_at dksJ32_sort_2_31 0 rfl rfl)
theorem dJ32_sort_2_735 : decode cJ32_sort_2 735 = .ok (.aload_n 0, 1) := dk_42 (dk_at dksJ32_sort_2_31 3 rfl rfl)
theorem dJ32_sort_2_736 : decode cJ32_sort_2 736 = .ok (.iload_n 2, 1) := dk_28 (dk_at dksJ32_sort_2_31 4 rfl rfl)
theorem dJ32_sort_2_737 : decode cJ32_sort_2 737 = .ok (.iconst 1, 1) := dk_4 (dk_at dksJ32_sort_2_31 5 rfl rfl)
theorem dJ32_sort_2_738 : decode cJ32_sort_2 738 = .ok (.ior, 1) := dk_128 (dk_at dksJ32_sort_2_31 6 rfl rfl)
theorem dJ32_sort_2_739 : decode cJ32_sort_2 739 = .ok (.iload 15, 2) := dk_21 15 (dk_at dksJ32_sort_2_31 7 rfl rfl)
theorem dJ32_sort_2_741 : decode cJ32_sort_2 741 = .ok (.iconst 1, 1) := dk_4 (dk_at dksJ32_sort_2_31 9 rfl rfl)
theorem dJ32_sort_2_742 : decode cJ32_sort_2 742 = .ok (.iadd, 1) := dk_96 (dk_at dksJ32_sort_2_31 10 rfl rfl)
theorem dJ32_sort_2_743 : decode cJ32_sort_2 743 = .ok (.iload 16, 2) := dk_21 16 (dk_at dksJ32_sort_2_31 11 rfl rfl)
theorem dJ32_sort_2_745 : decode cJ32_sort_2 745 = .ok (.invokevirtual 45, 3) := dk_182 0 45 (dk_at dksJ32_sort_2_31 13 rfl rfl)
theorem dJ32_sort_2_748 : decode cJ32_sort_2 748 = .ok (.aload_n 0, 1) := dk_42 (dk_at dksJ32_sort_2_31 16 rfl rfl)
theorem dJ32_sort_2_749 : decode cJ32_sort_2 749 = .ok (.iload_n 2, 1) := dk_28 (dk_at dksJ32_sort_2_31 17 rfl rfl)
theorem dJ32_sort_2_750 : decode cJ32_sort_2 750 = .ok (.iconst 1, 1) := dk_4 (dk_at dksJ32_sort_2_31 18 rfl rfl)
theorem dJ32_sort_2_751 : decode cJ32_sort_2 751 = .ok (.ior, 1) := dk_128 (dk_at dksJ32_sort_2_31 19 rfl rfl)
theorem dJ32_sort_2_752 : decode cJ32_sort_2 752 = .ok (.iload 16, 2) := dk_21 16 (dk_at dksJ32_sort_2_31 20 rfl rfl)
theorem dJ32_sort_2_754 : decode cJ32_sort_2 754 = .ok (.iconst 1, 1) := dk_4 (dk_at dksJ32_sort_2_31 22 rfl rfl)
theorem dJ32_sort_2_755 : decode cJ32_sort_2 755 = .ok (.iadd, 1) := dk_96 (dk_at dksJ32_sort_2_31 23 rfl rfl)
theorem dJ32_sort_2_756 : decode cJ32_sort_2 756 = .ok (.iload 4, 2) := dk_21 4 (dk_at dksJ32_sort_2_32 0 rfl rfl)
theorem dJ32_sort_2_758 : decode cJ32_sort_2 758 = .ok (.invokevirtual 45, 3) := dk_182 0 45 (dk_at dksJ32_sort_2_32 2 rfl rfl)
theorem dJ32_sort_2_761 : decode cJ32_sort_2 761 = .ok (.goto 31, 3) := dk_167 0 31 (dk_at dksJ32_sort_2_32 5 rfl rfl)
theorem dJ32_sort_2_764 : decode cJ32_sort_2 764 = .ok (.aload_n 0, 1) := dk_42 (dk_at dksJ32_sort_2_32 8 rfl rfl)
theorem dJ32_sort_2_765 : decode cJ32_sort_2 765 = .ok (.aload_n 1, 1) := dk_43 (dk_at dksJ32_sort_2_32 9 rfl rfl)
theorem dJ32_sort_2_766 : decode cJ32_sort_2 766 = .ok (.iload_n 2, 1) := dk_28 (dk_at dksJ32_sort_2_32 10 rfl rfl)
theorem dJ32_sort_2_767 : decode cJ32_sort_2 767 = .ok (.iconst 1, 1) := dk_4 (dk_at dksJ32_sort_2_32 11 rfl rfl)
theorem dJ32_sort_2_768 : decode cJ32_sort_2 768 = .ok (.ior, 1) := dk_128 (dk_at dksJ32_sort_2_32 12 rfl rfl)
theorem dJ32_sort_2_769 : decode cJ32_sort_2 769 = .ok (.iload 15, 2) := dk_21 15 (dk_at dksJ32_sort_2_32 13 rfl rfl)
theorem dJ32_sort_2_771 : decode cJ32_sort_2 771 = .ok (.iconst 1, 1) := dk_4 (dk_at dksJ32_sort_2_32 15 rfl rfl)
theorem dJ32_sort_2_772 : decode cJ32_sort_2 772 = .ok (.iadd, 1) := dk_96 (dk_at dksJ32_sort_2_32 16 rfl rfl)
theorem dJ32_sort_2_773 : decode cJ32_sort_2 773 = .ok (.iload 16, 2) := dk_21 16 (dk_at dksJ32_sort_2_32 17 rfl rfl)
theorem dJ32_sort_2_775 : decode cJ32_sort_2 775 = .ok (.invokestatic 187, 3) := dk_184 0 187 (dk_at dksJ32_sort_2_32 19 rfl rfl)
theorem dJ32_sort_2_778 : decode cJ32_sort_2 778 = .ok (.aload_n 0, 1) := dk_42 (dk_at dksJ32_sort_2_32 22 rfl rfl)
theorem dJ32_sort_2_779 : decode cJ32_sort_2 779 = .ok (.aload_n 1, 1) := dk_43 (dk_at dksJ32_sort_2_32 23 rfl rfl)
theorem dJ32_sort_2_780 : decode cJ32_sort_2 780 = .ok (.iload_n 2, 1) := dk_28 (dk_at dksJ32_sort_2_33 0 rfl rfl)
theorem dJ32_sort_2_781 : decode cJ32_sort_2 781 = .ok (.iconst 1, 1) := dk_4 (dk_at dksJ32_sort_2_33 1 rfl rfl)
theorem dJ32_sort_2_782 : decode cJ32_sort_2 782 = .ok (.ior, 1) := dk_128 (dk_at dksJ32_sort_2_33 2 rfl rfl)
theorem dJ32_sort_2_783 : decode cJ32_sort_2 783 = .ok (.iload 16, 2) := dk_21 16 (dk_at dksJ32_sort_2_33 3 rfl rfl)
theorem dJ32_sort_2_785 : decode cJ32_sort_2 785 = .ok (.iconst 1, 1) := dk_4 (dk_at dksJ32_sort_2_33 5 rfl rfl)
theorem dJ32_sort_2_786 : decode cJ32_sort_2 786 = .ok (.iadd, 1) := dk_96 (dk_at dksJ32_sort_2_33 6 rfl rfl)
theorem dJ32_sort_2_787 : decode cJ32_sort_2 787 = .ok (.iload 4, 2) := dk_21 4 (dk_at dksJ32_sort_2_33 7 rfl rfl)
theorem dJ32_sort_2_789 : decode cJ32_sort_2 789 = .ok (.invokestatic 187, 3) := dk_184 0 187 (dk_at dksJ32_sort_2_33 9 rfl rfl)
theorem dJ32_sort_2_792 : decode cJ32_sort_2 792 = .ok (.goto 171, 3) := dk_167 0 171 (dk_at dksJ32_sort_2_33 12 rfl rfl)
theorem dJ32_sort_2_795 : decode cJ32_sort_2 795 = .ok (.aload_n 1, 1) := dk_43 (dk_at dksJ32_sort_2_33 15 rfl rfl)
theorem dJ32_sort_2_796 : decode cJ32_sort_2 796 = .ok (.iload 10, 2) := dk_21 10 (dk_at dksJ32_sort_2_33 16 rfl rfl)
theorem dJ32_sort_2_798 : decode cJ32_sort_2 798 = .ok (.daload, 1) := dk_49 (dk_at dksJ32_sort_2_33 18 rfl rfl)
theorem dJ32_sort_2_799 : decode cJ32_sort_2 799 = .ok (.dstore 17, 2) := dk_57 17 (dk_at dksJ32_sort_2_33 19 rfl rfl)
theorem dJ32_sort_2_801 : decode cJ32_sort_2 801 = .ok (.aload_n 1, 1) := dk_43 (dk_at dksJ32_sort_2_33 21 rfl rfl)
theorem dJ32_sort_2_802 : decode cJ32_sort_2 802 = .ok (.iload 10, 2) := dk_21 10 (dk_at dksJ32_sort_2_33 22 rfl rfl)
theorem dJ32_sort_2_804 : decode cJ32_sort_2 804 = .ok (.aload_n 1, 1) := dk_43 (dk_at dksJ32_sort_2_34 0 rfl rfl)
theorem dJ32_sort_2_805 : decode cJ32_sort_2 805 = .ok (.iload 15, 2) := dk_21 15 (dk_at dksJ32_sort_2_34 1 rfl rfl)
theorem dJ32_sort_2_807 : decode cJ32_sort_2 807 = .ok (.daload, 1) := dk_49 (dk_at dksJ32_sort_2_34 3 rfl rfl)
theorem dJ32_sort_2_808 : decode cJ32_sort_2 808 = .ok (.dastore, 1) := dk_82 (dk_at dksJ32_sort_2_34 4 rfl rfl)
theorem dJ32_sort_2_809 : decode cJ32_sort_2 809 = .ok (.iinc 16 1, 3) := dk_132 16 1 (dk_at dksJ32_sort_2_34 5 rfl rfl)
theorem dJ32_sort_2_812 : decode cJ32_sort_2 812 = .ok (.iload 16, 2) := dk_21 16 (dk_at dksJ32_sort_2_34 8 rfl rfl)
theorem dJ32_sort_2_814 : decode cJ32_sort_2 814 = .ok (.istore 19, 2) := dk_54 19 (dk_at dksJ32_sort_2_34 10 rfl rfl)
theorem dJ32_sort_2_816 : decode cJ32_sort_2 816 = .ok (.iinc 19 (-1), 3) := dk_132 19 255 (dk_at dksJ32_sort_2_34 12 rfl rfl)
theorem dJ32_sort_2_819 : decode cJ32_sort_2 819 = .ok (.iload 19, 2) := dk_21 19 (dk_at dksJ32_sort_2_34 15 rfl rfl)
theorem dJ32_sort_2_821 : decode cJ32_sort_2 821 = .ok (.iload 15, 2) := dk_21 15 (dk_at dksJ32_sort_2_34 17 rfl rfl)
theorem dJ32_sort_2_823 : decode cJ32_sort_2 823 = .ok (.if_icmp .le 89, 3) := dk_164 0 89 (dk_at dksJ32_sort_2_34 19 rfl rfl)
theorem dJ32_sort_2_826 : decode cJ32_sort_2 826 = .ok (.aload_n 1, 1) := dk_43 (dk_at dksJ32_sort_2_34 22 rfl rfl)
theorem dJ32_sort_2_827 : decode cJ32_sort_2 827 = .ok (.iload 19, 2) := dk_21 19 (dk_at dksJ32_sort_2_35 0 rfl rfl)
theorem dJ32_sort_2_829 : decode cJ32_sort_2 829 = .ok (.daload, 1) := dk_49 (dk_at dksJ32_sort_2_35 2 rfl rfl)
theorem dJ32_sort_2_830 : decode cJ32_sort_2 830 = .ok (.dstore 20, 2) := dk_57 20 (dk_at dksJ32_sort_2_35 3 rfl rfl)
theorem dJ32_sort_2_832 : decode cJ32_sort_2 832 = .ok (.dload 20, 2) := dk_24 20 (dk_at dksJ32_sort_2_35 5 rfl rfl)
theorem dJ32_sort_2_834 : decode cJ32_sort_2 834 = .ok (.dload 17, 2) := dk_24 17 (dk_at dksJ32_sort_2_35 7 rfl rfl)
theorem dJ32_sort_2_836 : decode cJ32_sort_2 836 = .ok (.dcmp .l, 1) := dk_151 (dk_at dksJ32_sort_2_35 9 rfl rfl)
theorem dJ32_sort_2_837 : decode cJ32_sort_2 837 = .ok (.ifCond .eq 72, 3) := dk_153 0 72 (dk_at dksJ32_sort_2_35 10 rfl rfl)
theorem dJ32_sort_2_840 : decode cJ32_sort_2 840 = .ok (.aload_n 1, 1) := dk_43 (dk_at dksJ32_sort_2_35 13 rfl rfl)
theorem dJ32_sort_2_841 : decode cJ32_sort_2 841 = .ok (.iload 19, 2) := dk_21 19 (dk_at dksJ32_sort_2_35 14 rfl rfl)
theorem dJ32_sort_2_843 : decode cJ32_sort_2 843 = .ok (.dload 17, 2) := dk_24 17 (dk_at dksJ32_sort_2_35 16 rfl rfl)
theorem dJ32_sort_2_845 : decode cJ32_sort_2 845 = .ok (.dastore, 1) := dk_82 (dk_at dksJ32_sort_2_35 18 rfl rfl)
theorem dJ32_sort_2_846 : decode cJ32_sort_2 846 = .ok (.dload 20, 2) := dk_24 20 (dk_at dksJ32_sort_2_35 19 rfl rfl)
theorem dJ32_sort_2_848 : decode cJ32_sort_2 848 = .ok (.dload 17, 2) := dk_24 17 (dk_at dksJ32_sort_2_35 21 rfl rfl)
theorem dJ32_sort_2_850 : decode cJ32_sort_2 850 = .ok (.dcmp .g, 1) := dk_152 (dk_at dksJ32_sort_2_35 23 rfl rfl)
theorem dJ32_sort_2_851 : decode cJ32_sort_2 851 = .ok (.ifCond .ge 49, 3) := dk_156 0 49 (dk_at dksJ32_sort_2_36 0 rfl rfl)
theorem dJ32_sort_2_854 : decode cJ32_sort_2 854 = .ok (.aload_n 1, 1) := dk_43 (dk_at dksJ32_sort_2_36 3 rfl rfl)
theorem dJ32_sort_2_855 : decode cJ32_sort_2 855 = .ok (.iinc 15 1, 3) := dk_132 15 1 (dk_at dksJ32_sort_2_36 4 rfl rfl)
theorem dJ32_sort_2_858 : decode cJ32_sort_2 858 = .ok (.iload 15, 2) := dk_21 15 (dk_at dksJ32_sort_2_36 7 rfl rfl)
theorem dJ32_sort_2_860 : decode cJ32_sort_2 860 = .ok (.daload, 1) := dk_49 (dk_at dksJ32_sort_2_36 9 rfl rfl)
theorem dJ32_sort_2_861 : decode cJ32_sort_2 861 = .ok (.dload 17, 2) := dk_24 17 (dk_at dksJ32_sort_2_36 10 rfl rfl)
theorem dJ32_sort_2_863 : decode cJ32_sort_2 863 = .ok (.dcmp .g, 1) := dk_152 (dk_at dksJ32_sort_2_36 12 rfl rfl)
theorem dJ32_sort_2_864 : decode cJ32_sort_2 864 = .ok (.ifCond .ge 6, 3) := dk_156 0 6 (dk_at dksJ32_sort_2_36 13 rfl rfl)
theorem dJ32_sort_2_867 : decode cJ32_sort_2 867 = .ok (.goto (-13), 3) := dk_167 255 243 (dk_at dksJ32_sort_2_36 16 rfl rfl)
theorem dJ32_sort_2_870 : decode cJ32_sort_2 870 = .ok (.aload_n 1, 1) := dk_43 (dk_at dksJ32_sort_2_36 19 rfl rfl)
theorem dJ32_sort_2_871 : decode cJ32_sort_2 871 = .ok (.iload 15, 2) := dk_21 15 (dk_at dksJ32_sort_2_36 20 rfl rfl)
theorem dJ32_sort_2_873 : decode cJ32_sort_2 873 = .ok (.daload, 1) := dk_49 (dk_at dksJ32_sort_2_36 22 rfl rfl)
theorem dJ32_sort_2_874 : decode cJ32_sort_2 874 = .ok (.dload 17, 2) := dk_24 17 (dk_at dksJ32_sort_2_37 0 rfl rfl)
theorem dJ32_sort_2_876 : decode cJ32_sort_2 876 = .ok (.dcmp .l, 1) := dk_151 (dk_at dksJ32_sort_2_37 2 rfl rfl)
theorem dJ32_sort_2_877 : decode cJ32_sort_2 877 = .ok (.ifCond .le 14, 3) := dk_158 0 14 (dk_at dksJ32_sort_2_37 3 rfl rfl)
theorem dJ32_sort_2_880 : decode cJ32_sort_2 880 = .ok (.aload_n 1, 1) := dk_43 (dk_at dksJ32_sort_2_37 6 rfl rfl)
theorem dJ32_sort_2_881 : decode cJ32_sort_2 881 = .ok (.iinc 16 (-1), 3) := dk_132 16 255 (dk_at dksJ32_sort_2_37 7 rfl rfl)
theorem dJ32_sort_2_884 : decode cJ32_sort_2 884 = .ok (.iload 16, 2) := dk_21 16 (dk_at dksJ32_sort_2_37 10 rfl rfl)
theorem dJ32_sort_2_886 : decode cJ32_sort_2 886 = .ok (.aload_n 1, 1) := dk_43 (dk_at dksJ32_sort_2_37 12 rfl rfl)
theorem dJ32_sort_2_887 : decode cJ32_sort_2 887 = .ok (.iload 15, 2) := dk_21 15 (dk_at dksJ32_sort_2_37 13 rfl rfl)
theorem dJ32_sort_2_889 : decode cJ32_sort_2 889 = .ok (.daload, 1) := dk_49 (dk_at dksJ32_sort_2_37 15 rfl rfl)
theorem dJ32_sort_2_890 : decode cJ32_sort_2 890 = .ok (.dastore, 1) := dk_82 (dk_at dksJ32_sort_2_37 16 rfl rfl)
theorem dJ32_sort_2_891 : decode cJ32_sort_2 891 = .ok (.aload_n 1, 1) := dk_43 (dk_at dksJ32_sort_2_37 17 rfl rfl)
theorem dJ32_sort_2_892 : decode cJ32_sort_2 892 = .ok (.iload 15, 2) := dk_21 15 (dk_at dksJ32_sort_2_37 18 rfl rfl)
theorem dJ32_sort_2_894 : decode cJ32_sort_2 894 = .ok (.dload 20, 2) := dk_24 20 (dk_at dksJ32_sort_2_37 20 rfl rfl)
theorem dJ32_sort_2_896 : decode cJ32_sort_2 896 = .ok (.dastore, 1) := dk_82 (dk_at dksJ32_sort_2_37 22 rfl rfl)
theorem dJ32_sort_2_897 : decode cJ32_sort_2 897 = .ok (.goto 12, 3) := dk_167 0 12 (dk_at dksJ32_sort_2_38 0 rfl rfl)
theorem dJ32_sort_2_900 : decode cJ32_sort_2 900 = .ok (.aload_n 1, 1) := dk_43 (dk_at dksJ32_sort_2_38 3 rfl rfl)
theorem dJ32_sort_2_901 : decode cJ32_sort_2 901 = .ok (.iinc 16 (-1), 3) := dk_132 16 255 (dk_at dksJ32_sort_2_38 4 rfl rfl)
theorem dJ32_sort_2_904 : decode cJ32_sort_2 904 = .ok (.iload 16, 2) := dk_21 16 (dk_at dksJ32_sort_2_38 7 rfl rfl)
theorem dJ32_sort_2_906 : decode cJ32_sort_2 906 = .ok (.dload 20, 2) := dk_24 20 (dk_at dksJ32_sort_2_38 9 rfl rfl)
theorem dJ32_sort_2_908 : decode cJ32_sort_2 908 = .ok (.dastore, 1) := dk_82 (dk_at dksJ32_sort_2_38 11 rfl rfl)
theorem dJ32_sort_2_909 : decode cJ32_sort_2 909 = .ok (.goto (-93), 3) := dk_167 255 163 (dk_at dksJ32_sort_2_38 12 rfl rfl)
theorem dJ32_sort_2_912 : decode cJ32_sort_2 912 = .ok (.aload_n 1, 1) := dk_43 (dk_at dksJ32_sort_2_38 15 rfl rfl)
theorem dJ32_sort_2_913 : decode cJ32_sort_2 913 = .ok (.iload_n 3, 1) := dk_29 (dk_at dksJ32_sort_2_38 16 rfl rfl)
theorem dJ32_sort_2_914 : decode cJ32_sort_2 914 = .ok (.aload_n 1, 1) := dk_43 (dk_at dksJ32_sort_2_38 17 rfl rfl)
theorem dJ32_sort_2_915 : decode cJ32_sort_2 915 = .ok (.iload 15, 2) := dk_21 15 (dk_at dksJ32_sort_2_38 18 rfl rfl)
theorem dJ32_sort_2_917 : decode cJ32_sort_2 917 = .ok (.daload, 1) := dk_49 (dk_at dksJ32_sort_2_38 20 rfl rfl)
theorem dJ32_sort_2_918 : decode cJ32_sort_2 918 = .ok (.dastore, 1) := dk_82 (dk_at dksJ32_sort_2_38 21 rfl rfl)
theorem dJ32_sort_2_919 : decode cJ32_sort_2 919 = .ok (.aload_n 1, 1) := dk_43 (dk_at dksJ32_sort_2_38 22 rfl rfl)
theorem dJ32_sort_2_920 : decode cJ32_sort_2 920 = .ok (.iload 15, 2) := dk_21 15 (dk_at dksJ32_sort_2_39 0 rfl rfl)
theorem dJ32_sort_2_922 : decode cJ32_sort_2 922 = .ok (.dload 17, 2) := dk_24 17 (dk_at dksJ32_sort_2_39 2 rfl rfl)
theorem dJ32_sort_2_924 : decode cJ32_sort_2 924 = .ok (.dastore, 1) := dk_82 (dk_at dksJ32_sort_2_39 4 rfl rfl)
theorem dJ32_sort_2_925 : decode cJ32_sort_2 925 = .ok (.iload 6, 2) := dk_21 6 (dk_at dksJ32_sort_2_39 5 rfl rfl)
theorem dJ32_sort_2_927 : decode cJ32_sort_2 927 = .ok (.sipush 4096, 3) := dk_17 16 0 (dk_at dksJ32_sort_2_39 7 rfl rfl)
theorem dJ32_sort_2_930 : decode cJ32_sort_2 930 = .ok (.if_icmp .le 21, 3) := dk_164 0 21 (dk_at dksJ32_sort_2_39 10 rfl rfl)
theorem dJ32_sort_2_933 : decode cJ32_sort_2 933 = .ok (.aload_n 0, 1) := dk_42 (dk_at dksJ32_sort_2_39 13 rfl rfl)
theorem dJ32_sort_2_934 : decode cJ32_sort_2 934 = .ok (.ifnull 17, 3) := dk_198 0 17 (dk_at dksJ32_sort_2_39 14 rfl rfl)
theorem dJ32_sort_2_937 : decode cJ32_sort_2 937 = .ok (.aload_n 0, 1) := dk_42 (dk_at dksJ32_sort_2_39 17 rfl rfl)
theorem dJ32_sort_2_938 : decode cJ32_sort_2 938 = .ok (.iload_n 2, 1) := dk_28 (dk_at dksJ32_sort_2_39 18 rfl rfl)
theorem dJ32_sort_2_939 : decode cJ32_sort_2 939 = .ok (.iconst 1, 1) := dk_4 (dk_at dksJ32_sort_2_39 19 rfl rfl)
theorem dJ32_sort_2_940 : decode cJ32_sort_2 940 = .ok (.ior, 1) := dk_128 (dk_at dksJ32_sort_2_39 20 rfl rfl)
theorem dJ32_sort_2_941 : decode cJ32_sort_2 941 = .ok (.iload 16, 2) := dk_21 16 (dk_at dksJ32_sort_2_39 21 rfl rfl)
theorem dJ32_sort_2_943 : decode cJ32_sort_2 943 = .ok (.iload 4, 2) := dk_21 4 (dk_at dksJ32_sort_2_40 0 rfl rfl)
theorem dJ32_sort_2_945 : decode cJ32_sort_2 945 = .ok (.invokevirtual 45, 3) := dk_182 0 45 (dk_at dksJ32_sort_2_40 2 rfl rfl)
theorem dJ32_sort_2_948 : decode cJ32_sort_2 948 = .ok (.goto 15, 3) := dk_167 0 15 (dk_at dksJ32_sort_2_40 5 rfl rfl)
theorem dJ32_sort_2_951 : decode cJ32_sort_2 951 = .ok (.aload_n 0, 1) := dk_42 (dk_at dksJ32_sort_2_40 8 rfl rfl)
theorem dJ32_sort_2_952 : decode cJ32_sort_2 952 = .ok (.aload_n 1, 1) := dk_43 (dk_at dksJ32_sort_2_40 9 rfl rfl)
theorem dJ32_sort_2_953 : decode cJ32_sort_2 953 = .ok (.iload_n 2, 1) := dk_28 (dk_at dksJ32_sort_2_40 10 rfl rfl)
theorem dJ32_sort_2_954 : decode cJ32_sort_2 954 = .ok (.iconst 1, 1) := dk_4 (dk_at dksJ32_sort_2_40 11 rfl rfl)
theorem dJ32_sort_2_955 : decode cJ32_sort_2 955 = .ok (.ior, 1) := dk_128 (dk_at dksJ32_sort_2_40 12 rfl rfl)
theorem dJ32_sort_2_956 : decode cJ32_sort_2 956 = .ok (.iload 16, 2) := dk_21 16 (dk_at dksJ32_sort_2_40 13 rfl rfl)
theorem dJ32_sort_2_958 : decode cJ32_sort_2 958 = .ok (.iload 4, 2) := dk_21 4 (dk_at dksJ32_sort_2_40 15 rfl rfl)
theorem dJ32_sort_2_960 : decode cJ32_sort_2 960 = .ok (.invokestatic 187, 3) := dk_184 0 187 (dk_at dksJ32_sort_2_40 17 rfl rfl)
theorem dJ32_sort_2_963 : decode cJ32_sort_2 963 = .ok (.iload 15, 2) := dk_21 15 (dk_at dksJ32_sort_2_40 20 rfl rfl)
theorem dJ32_sort_2_965 : decode cJ32_sort_2 965 = .ok (.istore 4, 2) := dk_54 4 (dk_at dksJ32_sort_2_40 22 rfl rfl)
theorem dJ32_sort_2_967 : decode cJ32_sort_2 967 = .ok (.goto (-967), 3) := dk_167 252 57 (dk_at dksJ32_sort_2_41 0 rfl rfl)
abbrev cJ32_insertionSort : ByteArray := prog_35_method_44_code
def yJ32_insertionSort : MethodName := ⟨RJ32, "insertionSort", "([DII)V"⟩
def dkwJ32_insertionSort_2 : List UInt8 := [42, 29, 4, 96, 42, 29, 49, 82, 167, 255, 231, 42, 29, 4, 96, 24, 5, 82, 167, 255, 193, 177]
abbrev dktJ32_insertionSort_2 : List UInt8 := dkwJ32_insertionSort_2 ++ []
def dkwJ32_insertionSort_1 : List UInt8 := [4, 100, 49, 152, 156, 0, 38, 132, 3, 255, 29, 27, 161, 0, 23, 24, 5, 42, 29, 49, 152, 156, 0, 14]
abbrev dktJ32_insertionSort_1 : List UInt8 := dkwJ32_insertionSort_1 ++ dktJ32_insertionSort_2
def dkwJ32_insertionSort_0 : List UInt8 := [27, 54, 4, 132, 4, 1, 21, 4, 28, 162, 0, 60, 42, 21, 4, 89, 62, 49, 57, 5, 24, 5, 42, 29]
abbrev dktJ32_insertionSort_0 : List UInt8 := dkwJ32_insertionSort_0 ++ dktJ32_insertionSort_1
theorem dksJ32_insertionSort_0 : cJ32_insertionSort.data.toList.drop 0 = dktJ32_insertionSort_0 := by decide +kernel
theorem dksJ32_insertionSort_1 : cJ32_insertionSort.data.toList.drop 24 = dktJ32_insertionSort_1 := dk_seg dksJ32_insertionSort_0 24 rfl rfl
theorem dksJ32_insertionSort_2 : cJ32_insertionSort.data.toList.drop 48 = dktJ32_insertionSort_2 := dk_seg dksJ32_insertionSort_1 24 rfl rfl
theorem dJ32_insertionSort_0 : decode cJ32_insertionSort 0 = .ok (.iload_n 1, 1) := dk_27 (dk_at dksJ32_insertionSort_0 0 rfl rfl)
theorem dJ32_insertionSort_1 : decode cJ32_insertionSort 1 = .ok (.istore 4, 2) := dk_54 4 (dk_at dksJ32_insertionSort_0 1 rfl rfl)
theorem dJ32_insertionSort_3 : decode cJ32_insertionSort 3 = .ok (.iinc 4 1, 3) := dk_132 4 1 (dk_at dksJ32_insertionSort_0 3 rfl rfl)
theorem dJ32_insertionSort_6 : decode cJ32_insertionSort 6 = .ok (.iload 4, 2) := dk_21 4 (dk_at dksJ32_insertionSort_0 6 rfl rfl)
theorem dJ32_insertionSort_8 : decode cJ32_insertionSort 8 = .ok (.iload_n 2, 1) := dk_28 (dk_at dksJ32_insertionSort_0 8 rfl rfl)
theorem dJ32_insertionSort_9 : decode cJ32_insertionSort 9 = .ok (.if_icmp .ge 60, 3) := dk_162 0 60 (dk_at dksJ32_insertionSort_0 9 rfl rfl)
theorem dJ32_insertionSort_12 : decode cJ32_insertionSort 12 = .ok (.aload_n 0, 1) := dk_42 (dk_at dksJ32_insertionSort_0 12 rfl rfl)
theorem dJ32_insertionSort_13 : decode cJ32_insertionSort 13 = .ok (.iload 4, 2) := dk_21 4 (dk_at dksJ32_insertionSort_0 13 rfl rfl)
theorem dJ32_insertionSort_15 : decode cJ32_insertionSort 15 = .ok (.dup, 1) := dk_89 (dk_at dksJ32_insertionSort_0 15 rfl rfl)
theorem dJ32_insertionSort_16 : decode cJ32_insertionSort 16 = .ok (.istore_n 3, 1) := dk_62 (dk_at dksJ32_insertionSort_0 16 rfl rfl)
theorem dJ32_insertionSort_17 : decode cJ32_insertionSort 17 = .ok (.daload, 1) := dk_49 (dk_at dksJ32_insertionSort_0 17 rfl rfl)
theorem dJ32_insertionSort_18 : decode cJ32_insertionSort 18 = .ok (.dstore 5, 2) := dk_57 5 (dk_at dksJ32_insertionSort_0 18 rfl rfl)
theorem dJ32_insertionSort_20 : decode cJ32_insertionSort 20 = .ok (.dload 5, 2) := dk_24 5 (dk_at dksJ32_insertionSort_0 20 rfl rfl)
theorem dJ32_insertionSort_22 : decode cJ32_insertionSort 22 = .ok (.aload_n 0, 1) := dk_42 (dk_at dksJ32_insertionSort_0 22 rfl rfl)
theorem dJ32_insertionSort_23 : decode cJ32_insertionSort 23 = .ok (.iload_n 3, 1) := dk_29 (dk_at dksJ32_insertionSort_0 23 rfl rfl)
theorem dJ32_insertionSort_24 : decode cJ32_insertionSort 24 = .ok (.iconst 1, 1) := dk_4 (dk_at dksJ32_insertionSort_1 0 rfl rfl)
theorem dJ32_insertionSort_25 : decode cJ32_insertionSort 25 = .ok (.isub, 1) := dk_100 (dk_at dksJ32_insertionSort_1 1 rfl rfl)
theorem dJ32_insertionSort_26 : decode cJ32_insertionSort 26 = .ok (.daload, 1) := dk_49 (dk_at dksJ32_insertionSort_1 2 rfl rfl)
theorem dJ32_insertionSort_27 : decode cJ32_insertionSort 27 = .ok (.dcmp .g, 1) := dk_152 (dk_at dksJ32_insertionSort_1 3 rfl rfl)
theorem dJ32_insertionSort_28 : decode cJ32_insertionSort 28 = .ok (.ifCond .ge 38, 3) := dk_156 0 38 (dk_at dksJ32_insertionSort_1 4 rfl rfl)
theorem dJ32_insertionSort_31 : decode cJ32_insertionSort 31 = .ok (.iinc 3 (-1), 3) := dk_132 3 255 (dk_at dksJ32_insertionSort_1 7 rfl rfl)
theorem dJ32_insertionSort_34 : decode cJ32_insertionSort 34 = .ok (.iload_n 3, 1) := dk_29 (dk_at dksJ32_insertionSort_1 10 rfl rfl)
theorem dJ32_insertionSort_35 : decode cJ32_insertionSort 35 = .ok (.iload_n 1, 1) := dk_27 (dk_at dksJ32_insertionSort_1 11 rfl rfl)
theorem dJ32_insertionSort_36 : decode cJ32_insertionSort 36 = .ok (.if_icmp .lt 23, 3) := dk_161 0 23 (dk_at dksJ32_insertionSort_1 12 rfl rfl)
theorem dJ32_insertionSort_39 : decode cJ32_insertionSort 39 = .ok (.dload 5, 2) := dk_24 5 (dk_at dksJ32_insertionSort_1 15 rfl rfl)
theorem dJ32_insertionSort_41 : decode cJ32_insertionSort 41 = .ok (.aload_n 0, 1) := dk_42 (dk_at dksJ32_insertionSort_1 17 rfl rfl)
theorem dJ32_insertionSort_42 : decode cJ32_insertionSort 42 = .ok (.iload_n 3, 1) := dk_29 (dk_at dksJ32_insertionSort_1 18 rfl rfl)
theorem dJ32_insertionSort_43 : decode cJ32_insertionSort 43 = .ok (.daload, 1) := dk_49 (dk_at dksJ32_insertionSort_1 19 rfl rfl)
theorem dJ32_insertionSort_44 : decode cJ32_insertionSort 44 = .ok (.dcmp .g, 1) := dk_152 (dk_at dksJ32_insertionSort_1 20 rfl rfl)
theorem dJ32_insertionSort_45 : decode cJ32_insertionSort 45 = .ok (.ifCond .ge 14, 3) := dk_156 0 14 (dk_at dksJ32_insertionSort_1 21 rfl rfl)
theorem dJ32_insertionSort_48 : decode cJ32_insertionSort 48 = .ok (.aload_n 0, 1) := dk_42 (dk_at dksJ32_insertionSort_2 0 rfl rfl)
theorem dJ32_insertionSort_49 : decode cJ32_insertionSort 49 = .ok (.iload_n 3, 1) := dk_29 (dk_at dksJ32_insertionSort_2 1 rfl rfl)
theorem dJ32_insertionSort_50 : decode cJ32_insertionSort 50 = .ok (.iconst 1, 1) := dk_4 (dk_at dksJ32_insertionSort_2 2 rfl rfl)
theorem dJ32_insertionSort_51 : decode cJ32_insertionSort 51 = .ok (.iadd, 1) := dk_96 (dk_at dksJ32_insertionSort_2 3 rfl rfl)
theorem dJ32_insertionSort_52 : decode cJ32_insertionSort 52 = .ok (.aload_n 0, 1) := dk_42 (dk_at dksJ32_insertionSort_2 4 rfl rfl)
theorem dJ32_insertionSort_53 : decode cJ32_insertionSort 53 = .ok (.iload_n 3, 1) := dk_29 (dk_at dksJ32_insertionSort_2 5 rfl rfl)
theorem dJ32_insertionSort_54 : decode cJ32_insertionSort 54 = .ok (.daload, 1) := dk_49 (dk_at dksJ32_insertionSort_2 6 rfl rfl)
theorem dJ32_insertionSort_55 : decode cJ32_insertionSort 55 = .ok (.dastore, 1) := dk_82 (dk_at dksJ32_insertionSort_2 7 rfl rfl)
theorem dJ32_insertionSort_56 : decode cJ32_insertionSort 56 = .ok (.goto (-25), 3) := dk_167 255 231 (dk_at dksJ32_insertionSort_2 8 rfl rfl)
theorem dJ32_insertionSort_59 : decode cJ32_insertionSort 59 = .ok (.aload_n 0, 1) := dk_42 (dk_at dksJ32_insertionSort_2 11 rfl rfl)
theorem dJ32_insertionSort_60 : decode cJ32_insertionSort 60 = .ok (.iload_n 3, 1) := dk_29 (dk_at dksJ32_insertionSort_2 12 rfl rfl)
theorem dJ32_insertionSort_61 : decode cJ32_insertionSort 61 = .ok (.iconst 1, 1) := dk_4 (dk_at dksJ32_insertionSort_2 13 rfl rfl)
theorem dJ32_insertionSort_62 : decode cJ32_insertionSort 62 = .ok (.iadd, 1) := dk_96 (dk_at dksJ32_insertionSort_2 14 rfl rfl)
theorem dJ32_insertionSort_63 : decode cJ32_insertionSort 63 = .ok (.dload 5, 2) := dk_24 5 (dk_at dksJ32_insertionSort_2 15 rfl rfl)
theorem dJ32_insertionSort_65 : decode cJ32_insertionSort 65 = .ok (.dastore, 1) := dk_82 (dk_at dksJ32_insertionSort_2 17 rfl rfl)
theorem dJ32_insertionSort_66 : decode cJ32_insertionSort 66 = .ok (.goto (-63), 3) := dk_167 255 193 (dk_at dksJ32_insertionSort_2 18 rfl rfl)
theorem dJ32_insertionSort_69 : decode cJ32_insertionSort 69 = .ok (.return_, 1) := dk_177 (dk_at dksJ32_insertionSort_2 21 rfl rfl)
theorem q74 : (Jvm.Cond.initialized "java/util/DualPivotQuicksort") ∈ lw_all := lw_g (lw_at lw_m1 35 rfl) rfl
theorem q1677 : (Jvm.Cond.static ({ cls := "java/util/DualPivotQuicksort", name := "sort", desc := "([DIII)V" } : Jvm.MethodName)) ∈ lw_all := lw_g (lw_at lw_m7 198 rfl) rfl
theorem q1678 : (Jvm.Cond.code ({ cls := "java/util/DualPivotQuicksort", name := "sort", desc := "([DIII)V" } : Jvm.MethodName) prog_35_method_41_code (8 : Nat) (Option.none : Option Jvm.ClassFile.FieldType)) ∈ lw_all := lw_g (lw_at lw_m7 199 rfl) rfl
theorem q1679 : (Jvm.Cond.methodLink "java/util/DualPivotQuicksort" (181 : Nat) ({ cls := "java/lang/Double", name := "doubleToRawLongBits", desc := "(D)J" } : Jvm.MethodName)) ∈ lw_all := lw_g (lw_at lw_m7 200 rfl) rfl
theorem q1680 : (Jvm.Cond.methodLink "java/util/DualPivotQuicksort" (187 : Nat) ({ cls := "java/util/DualPivotQuicksort", name := "sort", desc := "(Ljava/util/DualPivotQuicksort$Sorter;[DIII)V" } : Jvm.MethodName)) ∈ lw_all := lw_g (lw_at lw_m7 201 rfl) rfl
theorem q1681 : (Jvm.Cond.static ({ cls := "java/util/DualPivotQuicksort", name := "sort", desc := "(Ljava/util/DualPivotQuicksort$Sorter;[DIII)V" } : Jvm.MethodName)) ∈ lw_all := lw_g (lw_at lw_m7 202 rfl) rfl
theorem q1682 : (Jvm.Cond.code ({ cls := "java/util/DualPivotQuicksort", name := "sort", desc := "(Ljava/util/DualPivotQuicksort$Sorter;[DIII)V" } : Jvm.MethodName) prog_35_method_42_code (25 : Nat) (Option.none : Option Jvm.ClassFile.FieldType)) ∈ lw_all := lw_g (lw_at lw_m7 203 rfl) rfl
theorem q1683 : (Jvm.Cond.methodLink "java/util/DualPivotQuicksort" (192 : Nat) ({ cls := "java/util/DualPivotQuicksort", name := "mixedInsertionSort", desc := "([DIII)V" } : Jvm.MethodName)) ∈ lw_all := lw_g (lw_at lw_m7 204 rfl) rfl
theorem q1684 : (Jvm.Cond.static ({ cls := "java/util/DualPivotQuicksort", name := "mixedInsertionSort", desc := "([DIII)V" } : Jvm.MethodName)) ∈ lw_all := lw_g (lw_at lw_m7 205 rfl) rfl
theorem q1685 : (Jvm.Cond.code ({ cls := "java/util/DualPivotQuicksort", name := "mixedInsertionSort", desc := "([DIII)V" } : Jvm.MethodName) prog_35_method_43_code (11 : Nat) (Option.none : Option Jvm.ClassFile.FieldType)) ∈ lw_all := lw_g (lw_at lw_m7 206 rfl) rfl
theorem q1686 : (Jvm.Cond.methodLink "java/util/DualPivotQuicksort" (195 : Nat) ({ cls := "java/util/DualPivotQuicksort", name := "insertionSort", desc := "([DII)V" } : Jvm.MethodName)) ∈ lw_all := lw_g (lw_at lw_m7 207 rfl) rfl
theorem q1687 : (Jvm.Cond.static ({ cls := "java/util/DualPivotQuicksort", name := "insertionSort", desc := "([DII)V" } : Jvm.MethodName)) ∈ lw_all := lw_g (lw_at lw_m7 208 rfl) rfl
theorem q1688 : (Jvm.Cond.code ({ cls := "java/util/DualPivotQuicksort", name := "insertionSort", desc := "([DII)V" } : Jvm.MethodName) prog_35_method_44_code (7 : Nat) (Option.none : Option Jvm.ClassFile.FieldType)) ∈ lw_all := lw_g (lw_at lw_m7 209 rfl) rfl
theorem q1689 : (Jvm.Cond.methodLink "java/util/DualPivotQuicksort" (198 : Nat) ({ cls := "java/util/DualPivotQuicksort", name := "tryMergeRuns", desc := "(Ljava/util/DualPivotQuicksort$Sorter;[DII)Z" } : Jvm.MethodName)) ∈ lw_all := lw_g (lw_at lw_m7 210 rfl) rfl
theorem q1690 : (Jvm.Cond.static ({ cls := "java/util/DualPivotQuicksort", name := "tryMergeRuns", desc := "(Ljava/util/DualPivotQuicksort$Sorter;[DII)Z" } : Jvm.MethodName)) ∈ lw_all := lw_g (lw_at lw_m7 211 rfl) rfl
theorem q1691 : (Jvm.Cond.code ({ cls := "java/util/DualPivotQuicksort", name := "tryMergeRuns", desc := "(Ljava/util/DualPivotQuicksort$Sorter;[DII)Z" } : Jvm.MethodName) prog_35_method_47_code (13 : Nat) (Option.some Jvm.ClassFile.FieldType.boolean)) ∈ lw_all := lw_g (lw_at lw_m7 212 rfl) rfl
theorem q1692 : (Jvm.Cond.methodLink "java/util/DualPivotQuicksort" (53 : Nat) ({ cls := "java/util/Arrays", name := "copyOf", desc := "([II)[I" } : Jvm.MethodName)) ∈ lw_all := lw_g (lw_at lw_m7 213 rfl) rfl
theorem q1693 : (Jvm.Cond.classLink "java/util/DualPivotQuicksort" (206 : Nat) "[D") ∈ lw_all := lw_g (lw_at lw_m7 214 rfl) rfl
theorem q1694 : (Jvm.Cond.methodLink "java/util/DualPivotQuicksort" (208 : Nat) ({ cls := "java/util/DualPivotQuicksort", name := "mergeRuns", desc := "([D[DIIZ[III)[D" } : Jvm.MethodName)) ∈ lw_all := lw_g (lw_at lw_m7 215 rfl) rfl
theorem q1695 : (Jvm.Cond.static ({ cls := "java/util/DualPivotQuicksort", name := "mergeRuns", desc := "([D[DIIZ[III)[D" } : Jvm.MethodName)) ∈ lw_all := lw_g (lw_at lw_m7 216 rfl) rfl
theorem q1696 : (Jvm.Cond.code ({ cls := "java/util/DualPivotQuicksort", name := "mergeRuns", desc := "([D[DIIZ[III)[D" } : Jvm.MethodName) prog_35_method_48_code (18 : Nat) (Option.some (Jvm.ClassFile.FieldType.array Jvm.ClassFile.FieldType.double))) ∈ lw_all := lw_g (lw_at lw_m7 217 rfl) rfl
theorem q1697 : (Jvm.Cond.methodLink "java/util/DualPivotQuicksort" (211 : Nat) ({ cls := "java/util/DualPivotQuicksort", name := "mergeParts", desc := "(Ljava/util/DualPivotQuicksort$Merger;[DI[DII[DII)V" } : Jvm.MethodName)) ∈ lw_all := lw_g (lw_at lw_m7 218 rfl) rfl
theorem q1698 : (Jvm.Cond.static ({ cls := "java/util/DualPivotQuicksort", name := "mergeParts", desc := "(Ljava/util/DualPivotQuicksort$Merger;[DI[DII[DII)V" } : Jvm.MethodName)) ∈ lw_all := lw_g (lw_at lw_m7 219 rfl) rfl
theorem q1699 : (Jvm.Cond.code ({ cls := "java/util/DualPivotQuicksort", name := "mergeParts", desc := "(Ljava/util/DualPivotQuicksort$Merger;[DI[DII[DII)V" } : Jvm.MethodName) prog_35_method_49_code (15 : Nat) (Option.none : Option Jvm.ClassFile.FieldType)) ∈ lw_all := lw_g (lw_at lw_m7 220 rfl) rfl
theorem q1700 : (Jvm.Cond.methodLink "java/util/DualPivotQuicksort" (201 : Nat) ({ cls := "java/util/DualPivotQuicksort", name := "heapSort", desc := "([DII)V" } : Jvm.MethodName)) ∈ lw_all := lw_g (lw_at lw_m7 221 rfl) rfl
theorem q1701 : (Jvm.Cond.static ({ cls := "java/util/DualPivotQuicksort", name := "heapSort", desc := "([DII)V" } : Jvm.MethodName)) ∈ lw_all := lw_g (lw_at lw_m7 222 rfl) rfl
theorem q1702 : (Jvm.Cond.code ({ cls := "java/util/DualPivotQuicksort", name := "heapSort", desc := "([DII)V" } : Jvm.MethodName) prog_35_method_45_code (5 : Nat) (Option.none : Option Jvm.ClassFile.FieldType)) ∈ lw_all := lw_g (lw_at lw_m7 223 rfl) rfl
theorem q1703 : (Jvm.Cond.methodLink "java/util/DualPivotQuicksort" (203 : Nat) ({ cls := "java/util/DualPivotQuicksort", name := "pushDown", desc := "([DIDII)V" } : Jvm.MethodName)) ∈ lw_all := lw_g (lw_at lw_m7 224 rfl) rfl
theorem q1704 : (Jvm.Cond.static ({ cls := "java/util/DualPivotQuicksort", name := "pushDown", desc := "([DIDII)V" } : Jvm.MethodName)) ∈ lw_all := lw_g (lw_at lw_m7 225 rfl) rfl
theorem q1705 : (Jvm.Cond.code ({ cls := "java/util/DualPivotQuicksort", name := "pushDown", desc := "([DIDII)V" } : Jvm.MethodName) prog_35_method_46_code (7 : Nat) (Option.none : Option Jvm.ClassFile.FieldType)) ∈ lw_all := lw_g (lw_at lw_m7 226 rfl) rfl
theorem q1706 : (Jvm.Cond.constantDouble "java/util/DualPivotQuicksort" (190 : Nat) (9223372036854775808 : UInt64)) ∈ lw_all := lw_g (lw_at lw_m7 227 rfl) rfl
/-! java/lang/FdLibm$RemPio2 -/
set_option maxRecDepth 100000
def RJ11 : String := "java/lang/FdLibm$RemPio2"
abbrev cJ11___ieee754_rem_pio2 : ByteArray := prog_14_method_2_code
def yJ11___ieee754_rem_pio2 : MethodName := ⟨RJ11, "__ieee754_rem_pio2", "(D[D)I"⟩
def dkwJ11___ieee754_rem_pio2_25 : List UInt8 := [4, 44, 4, 49, 119, 82, 21, 18, 116, 172, 21, 18, 172]
abbrev dktJ11___ieee754_rem_pio2_25 : List UInt8 := dkwJ11___ieee754_rem_pio2_25 ++ []
def dkwJ11___ieee754_rem_pio2_24 : List UInt8 := [21, 17, 5, 178, 0, 57, 184, 0, 60, 54, 18, 21, 20, 156, 0, 21, 44, 3, 44, 3, 49, 119, 82, 44]
abbrev dktJ11___ieee754_rem_pio2_24 : List UInt8 := dkwJ11___ieee754_rem_pio2_24 ++ dktJ11___ieee754_rem_pio2_25
def dkwJ11___ieee754_rem_pio2_23 : List UInt8 := [25, 13, 21, 17, 4, 100, 49, 14, 151, 154, 0, 9, 132, 17, 255, 167, 255, 241, 25, 13, 44, 21, 14]
abbrev dktJ11___ieee754_rem_pio2_23 : List UInt8 := dkwJ11___ieee754_rem_pio2_23 ++ dktJ11___ieee754_rem_pio2_24
def dkwJ11___ieee754_rem_pio2_22 : List UInt8 := [21, 15, 49, 103, 20, 0, 55, 107, 74, 132, 15, 1, 167, 255, 227, 25, 13, 5, 41, 82, 6, 54, 17]
abbrev dktJ11___ieee754_rem_pio2_22 : List UInt8 := dkwJ11___ieee754_rem_pio2_22 ++ dktJ11___ieee754_rem_pio2_23
def dkwJ11___ieee754_rem_pio2_21 : List UInt8 := [184, 0, 53, 74, 3, 54, 15, 21, 15, 5, 162, 0, 29, 25, 13, 21, 15, 41, 142, 135, 82, 41, 25, 13]
abbrev dktJ11___ieee754_rem_pio2_21 : List UInt8 := dkwJ11___ieee754_rem_pio2_21 ++ dktJ11___ieee754_rem_pio2_22
def dkwJ11___ieee754_rem_pio2_20 : List UInt8 := [184, 0, 50, 74, 21, 19, 16, 20, 122, 17, 4, 22, 100, 54, 14, 41, 21, 19, 21, 14, 16, 20, 120, 100]
abbrev dktJ11___ieee754_rem_pio2_20 : List UInt8 := dkwJ11___ieee754_rem_pio2_20 ++ dktJ11___ieee754_rem_pio2_21
def dkwJ11___ieee754_rem_pio2_19 : List UInt8 := [21, 19, 18, 46, 161, 0, 15, 44, 3, 44, 4, 38, 38, 103, 94, 82, 82, 3, 172, 41, 38, 184, 0, 47]
abbrev dktJ11___ieee754_rem_pio2_19 : List UInt8 := dkwJ11___ieee754_rem_pio2_19 ++ dktJ11___ieee754_rem_pio2_20
def dkwJ11___ieee754_rem_pio2_18 : List UInt8 := [156, 0, 21, 44, 3, 44, 3, 49, 119, 82, 44, 4, 44, 4, 49, 119, 82, 21, 18, 116, 172, 21, 18, 172]
abbrev dktJ11___ieee754_rem_pio2_18 : List UInt8 := dkwJ11___ieee754_rem_pio2_18 ++ dktJ11___ieee754_rem_pio2_19
def dkwJ11___ieee754_rem_pio2_17 : List UInt8 := [44, 3, 24, 9, 24, 5, 103, 82, 44, 4, 24, 9, 44, 3, 49, 103, 24, 5, 103, 82, 21, 20]
abbrev dktJ11___ieee754_rem_pio2_17 : List UInt8 := dkwJ11___ieee754_rem_pio2_17 ++ dktJ11___ieee754_rem_pio2_18
def dkwJ11___ieee754_rem_pio2_16 : List UInt8 := [24, 7, 24, 5, 103, 57, 9, 24, 11, 20, 0, 44, 107, 24, 7, 24, 9, 103, 24, 5, 103, 103, 57, 5]
abbrev dktJ11___ieee754_rem_pio2_16 : List UInt8 := dkwJ11___ieee754_rem_pio2_16 ++ dktJ11___ieee754_rem_pio2_17
def dkwJ11___ieee754_rem_pio2_15 : List UInt8 := [126, 100, 54, 15, 21, 15, 16, 49, 164, 0, 47, 24, 9, 57, 7, 24, 11, 20, 0, 42, 107, 57, 5]
abbrev dktJ11___ieee754_rem_pio2_15 : List UInt8 := dkwJ11___ieee754_rem_pio2_15 ++ dktJ11___ieee754_rem_pio2_16
def dkwJ11___ieee754_rem_pio2_14 : List UInt8 := [57, 5, 44, 3, 24, 9, 24, 5, 103, 82, 21, 16, 44, 3, 49, 184, 0, 9, 16, 20, 122, 17, 7, 255]
abbrev dktJ11___ieee754_rem_pio2_14 : List UInt8 := dkwJ11___ieee754_rem_pio2_14 ++ dktJ11___ieee754_rem_pio2_15
def dkwJ11___ieee754_rem_pio2_13 : List UInt8 := [57, 5, 24, 7, 24, 5, 103, 57, 9, 24, 11, 20, 0, 25, 107, 24, 7, 24, 9, 103, 24, 5, 103, 103]
abbrev dktJ11___ieee754_rem_pio2_13 : List UInt8 := dkwJ11___ieee754_rem_pio2_13 ++ dktJ11___ieee754_rem_pio2_14
def dkwJ11___ieee754_rem_pio2_12 : List UInt8 := [17, 7, 255, 126, 100, 54, 15, 21, 15, 16, 16, 164, 0, 116, 24, 9, 57, 7, 24, 11, 20, 0, 23, 107]
abbrev dktJ11___ieee754_rem_pio2_12 : List UInt8 := dkwJ11___ieee754_rem_pio2_12 ++ dktJ11___ieee754_rem_pio2_13
def dkwJ11___ieee754_rem_pio2_11 : List UInt8 := [16, 20, 122, 54, 16, 44, 3, 24, 9, 24, 5, 103, 82, 21, 16, 44, 3, 49, 184, 0, 9, 16, 20, 122]
abbrev dktJ11___ieee754_rem_pio2_11 : List UInt8 := dkwJ11___ieee754_rem_pio2_11 ++ dktJ11___ieee754_rem_pio2_12
def dkwJ11___ieee754_rem_pio2_10 : List UInt8 := [178, 0, 38, 21, 18, 4, 100, 46, 159, 0, 14, 44, 3, 24, 9, 24, 5, 103, 82, 167, 0, 156, 21, 19]
abbrev dktJ11___ieee754_rem_pio2_10 : List UInt8 := dkwJ11___ieee754_rem_pio2_10 ++ dktJ11___ieee754_rem_pio2_11
def dkwJ11___ieee754_rem_pio2_9 : List UInt8 := [20, 0, 18, 107, 103, 57, 9, 24, 11, 20, 0, 21, 107, 57, 5, 21, 18, 16, 32, 162, 0, 27, 21, 19]
abbrev dktJ11___ieee754_rem_pio2_9 : List UInt8 := dkwJ11___ieee754_rem_pio2_9 ++ dktJ11___ieee754_rem_pio2_10
def dkwJ11___ieee754_rem_pio2_8 : List UInt8 := [57, 7, 24, 7, 20, 0, 34, 107, 20, 0, 36, 99, 142, 54, 18, 21, 18, 135, 57, 11, 24, 7, 24, 11]
abbrev dktJ11___ieee754_rem_pio2_8 : List UInt8 := dkwJ11___ieee754_rem_pio2_8 ++ dktJ11___ieee754_rem_pio2_9
def dkwJ11___ieee754_rem_pio2_7 : List UInt8 := [41, 44, 3, 49, 103, 20, 0, 25, 99, 82, 2, 172, 21, 19, 18, 27, 163, 1, 12, 38, 184, 0, 28]
abbrev dktJ11___ieee754_rem_pio2_7 : List UInt8 := dkwJ11___ieee754_rem_pio2_7 ++ dktJ11___ieee754_rem_pio2_8
def dkwJ11___ieee754_rem_pio2_6 : List UInt8 := [20, 0, 21, 99, 82, 167, 0, 29, 41, 20, 0, 23, 99, 74, 44, 3, 41, 20, 0, 25, 99, 82, 44, 4]
abbrev dktJ11___ieee754_rem_pio2_6 : List UInt8 := dkwJ11___ieee754_rem_pio2_6 ++ dktJ11___ieee754_rem_pio2_7
def dkwJ11___ieee754_rem_pio2_5 : List UInt8 := [74, 21, 19, 18, 20, 159, 0, 26, 44, 3, 41, 20, 0, 21, 99, 82, 44, 4, 41, 44, 3, 49, 103]
abbrev dktJ11___ieee754_rem_pio2_5 : List UInt8 := dkwJ11___ieee754_rem_pio2_5 ++ dktJ11___ieee754_rem_pio2_6
def dkwJ11___ieee754_rem_pio2_4 : List UInt8 := [20, 0, 25, 103, 82, 44, 4, 41, 44, 3, 49, 103, 20, 0, 25, 103, 82, 4, 172, 38, 20, 0, 18, 99]
abbrev dktJ11___ieee754_rem_pio2_4 : List UInt8 := dkwJ11___ieee754_rem_pio2_4 ++ dktJ11___ieee754_rem_pio2_5
def dkwJ11___ieee754_rem_pio2_3 : List UInt8 := [44, 4, 41, 44, 3, 49, 103, 20, 0, 21, 103, 82, 167, 0, 29, 41, 20, 0, 23, 103, 74, 44, 3, 41]
abbrev dktJ11___ieee754_rem_pio2_3 : List UInt8 := dkwJ11___ieee754_rem_pio2_3 ++ dktJ11___ieee754_rem_pio2_4
def dkwJ11___ieee754_rem_pio2_2 : List UInt8 := [158, 0, 67, 38, 20, 0, 18, 103, 74, 21, 19, 18, 20, 159, 0, 26, 44, 3, 41, 20, 0, 21, 103, 82]
abbrev dktJ11___ieee754_rem_pio2_2 : List UInt8 := dkwJ11___ieee754_rem_pio2_2 ++ dktJ11___ieee754_rem_pio2_3
def dkwJ11___ieee754_rem_pio2_1 : List UInt8 := [163, 0, 13, 44, 3, 38, 82, 44, 4, 14, 82, 3, 172, 21, 19, 18, 15, 162, 0, 136, 21, 20]
abbrev dktJ11___ieee754_rem_pio2_1 : List UInt8 := dkwJ11___ieee754_rem_pio2_1 ++ dktJ11___ieee754_rem_pio2_2
def dkwJ11___ieee754_rem_pio2_0 : List UInt8 := [14, 74, 6, 188, 7, 58, 13, 38, 184, 0, 9, 54, 20, 21, 20, 18, 13, 126, 54, 19, 21, 19, 18, 14]
abbrev dktJ11___ieee754_rem_pio2_0 : List UInt8 := dkwJ11___ieee754_rem_pio2_0 ++ dktJ11___ieee754_rem_pio2_1
theorem dksJ11___ieee754_rem_pio2_0 : cJ11___ieee754_rem_pio2.data.toList.drop 0 = dktJ11___ieee754_rem_pio2_0 := by decide +kernel
theorem dksJ11___ieee754_rem_pio2_1 : cJ11___ieee754_rem_pio2.data.toList.drop 24 = dktJ11___ieee754_rem_pio2_1 := dk_seg dksJ11___ieee754_rem_pio2_0 24 rfl rfl
theorem dksJ11___ieee754_rem_pio2_2 : cJ11___ieee754_rem_pio2.data.toList.drop 46 = dktJ11___ieee754_rem_pio2_2 := dk_seg dksJ11___ieee754_rem_pio2_1 22 rfl rfl
theorem dksJ11___ieee754_rem_pio2_3 : cJ11___ieee754_rem_pio2.data.toList.drop 70 = dktJ11___ieee754_rem_pio2_3 := dk_seg dksJ11___ieee754_rem_pio2_2 24 rfl rfl
theorem dksJ11___ieee754_rem_pio2_4 : cJ11___ieee754_rem_pio2.data.toList.drop 94 = dktJ11___ieee754_rem_pio2_4 := dk_seg dksJ11___ieee754_rem_pio2_3 24 rfl rfl
theorem dksJ11___ieee754_rem_pio2_5 : cJ11___ieee754_rem_pio2.data.toList.drop 118 = dktJ11___ieee754_rem_pio2_5 := dk_seg dksJ11___ieee754_rem_pio2_4 24 rfl rfl
theorem dksJ11___ieee754_rem_pio2_6 : cJ11___ieee754_rem_pio2.data.toList.drop 141 = dktJ11___ieee754_rem_pio2_6 := dk_seg dksJ11___ieee754_rem_pio2_5 23 rfl rfl
theorem dksJ11___ieee754_rem_pio2_7 : cJ11___ieee754_rem_pio2.data.toList.drop 165 = dktJ11___ieee754_rem_pio2_7 := dk_seg dksJ11___ieee754_rem_pio2_6 24 rfl rfl
theorem dksJ11___ieee754_rem_pio2_8 : cJ11___ieee754_rem_pio2.data.toList.drop 188 = dktJ11___ieee754_rem_pio2_8 := dk_seg dksJ11___ieee754_rem_pio2_7 23 rfl rfl
theorem dksJ11___ieee754_rem_pio2_9 : cJ11___ieee754_rem_pio2.data.toList.drop 212 = dktJ11___ieee754_rem_pio2_9 := dk_seg dksJ11___ieee754_rem_pio2_8 24 rfl rfl
theorem dksJ11___ieee754_rem_pio2_10 : cJ11___ieee754_rem_pio2.data.toList.drop 236 = dktJ11___ieee754_rem_pio2_10 := dk_seg dksJ11___ieee754_rem_pio2_9 24 rfl rfl
theorem dksJ11___ieee754_rem_pio2_11 : cJ11___ieee754_rem_pio2.data.toList.drop 260 = dktJ11___ieee754_rem_pio2_11 := dk_seg dksJ11___ieee754_rem_pio2_10 24 rfl rfl
theorem dksJ11___ieee754_rem_pio2_12 : cJ11___ieee754_rem_pio2.data.toList.drop 284 = dktJ11___ieee754_rem_pio2_12 := dk_seg dksJ11___ieee754_rem_pio2_11 24 rfl rfl
theorem dksJ11___ieee754_rem_pio2_13 : cJ11___ieee754_rem_pio2.data.toList.drop 308 = dktJ11___ieee754_rem_pio2_13 := dk_seg dksJ11___ieee754_rem_pio2_12 24 rfl rfl
theorem dksJ11___ieee754_rem_pio2_14 : cJ11___ieee754_rem_pio2.data.toList.drop 332 = dktJ11___ieee754_rem_pio2_14 := dk_seg dksJ11___ieee754_rem_pio2_13 24 rfl rfl
theorem dksJ11___ieee754_rem_pio2_15 : cJ11___ieee754_rem_pio2.data.toList.drop 356 = dktJ11___ieee754_rem_pio2_15 := dk_seg dksJ11___ieee754_rem_pio2_14 24 rfl rfl
theorem dksJ11___ieee754_rem_pio2_16 : cJ11___ieee754_rem_pio2.data.toList.drop 379 = dktJ11___ieee754_rem_pio2_16 := dk_seg dksJ11___ieee754_rem_pio2_15 23 rfl rfl
theorem dksJ11___ieee754_rem_pio2_17 : cJ11___ieee754_rem_pio2.data.toList.drop 403 = dktJ11___ieee754_rem_pio2_17 := dk_seg dksJ11___ieee754_rem_pio2_16 24 rfl rfl
theorem dksJ11___ieee754_rem_pio2_18 : cJ11___ieee754_rem_pio2.data.toList.drop 425 = dktJ11___ieee754_rem_pio2_18 := dk_seg dksJ11___ieee754_rem_pio2_17 22 rfl rfl
theorem dksJ11___ieee754_rem_pio2_19 : cJ11___ieee754_rem_pio2.data.toList.drop 449 = dktJ11___ieee754_rem_pio2_19 := dk_seg dksJ11___ieee754_rem_pio2_18 24 rfl rfl
theorem dksJ11___ieee754_rem_pio2_20 : cJ11___ieee754_rem_pio2.data.toList.drop 473 = dktJ11___ieee754_rem_pio2_20 := dk_seg dksJ11___ieee754_rem_pio2_19 24 rfl rfl
theorem dksJ11___ieee754_rem_pio2_21 : cJ11___ieee754_rem_pio2.data.toList.drop 497 = dktJ11___ieee754_rem_pio2_21 := dk_seg dksJ11___ieee754_rem_pio2_20 24 rfl rfl
theorem dksJ11___ieee754_rem_pio2_22 : cJ11___ieee754_rem_pio2.data.toList.drop 521 = dktJ11___ieee754_rem_pio2_22 := dk_seg dksJ11___ieee754_rem_pio2_21 24 rfl rfl
theorem dksJ11___ieee754_rem_pio2_23 : cJ11___ieee754_rem_pio2.data.toList.drop 544 = dktJ11___ieee754_rem_pio2_23 := dk_seg dksJ11___ieee754_rem_pio2_22 23 rfl rfl
theorem dksJ11___ieee754_rem_pio2_24 : cJ11___ieee754_rem_pio2.data.toList.drop 567 = dktJ11___ieee754_rem_pio2_24 := dk_seg dksJ11___ieee754_rem_pio2_23 23 rfl rfl
theorem dksJ11___ieee754_rem_pio2_25 : cJ11___ieee754_rem_pio2.data.toList.drop 591 = dktJ11___ieee754_rem_pio2_25 := dk_seg dksJ11___ieee754_rem_pio2_24 24 rfl rfl
theorem dJ11___ieee754_rem_pio2_0 : decode cJ11___ieee754_rem_pio2 0 = .ok (.dconst 0, 1) := dk_14 (dk_at dksJ11___ieee754_rem_pio2_0 0 rfl rfl)
theorem dJ11___ieee754_rem_pio2_1 : decode cJ11___ieee754_rem_pio2 1 = .ok (.dstore_n 3, 1) := dk_74 (dk_at dksJ11___ieee754_rem_pio2_0 1 rfl rfl)
theorem dJ11___ieee754_rem_pio2_2 : decode cJ11___ieee754_rem_pio2 2 = .ok (.iconst 3, 1) := dk_6 (dk_at dksJ11___ieee754_rem_pio2_0 2 rfl rfl)
theorem dJ11___ieee754_rem_pio2_3 : decode cJ11___ieee754_rem_pio2 3 = .ok (.newarray .double, 2) := dk_188_7 (dk_at dksJ11___ieee754_rem_pio2_0 3 rfl rfl)
theorem dJ11___ieee754_rem_pio2_5 : decode cJ11___ieee754_rem_pio2 5 = .ok (.astore 13, 2) := dk_58 13 (dk_at dksJ11___ieee754_rem_pio2_0 5 rfl rfl)
theorem dJ11___ieee754_rem_pio2_7 : decode cJ11___ieee754_rem_pio2 7 = .ok (.dload_n 0, 1) := dk_38 (dk_at dksJ11___ieee754_rem_pio2_0 7 rfl rfl)
theorem dJ11___ieee754_rem_pio2_8 : decode cJ11___ieee754_rem_pio2 8 = .ok (.invokestatic 9, 3) := dk_184 0 9 (dk_at dksJ11___ieee754_rem_pio2_0 8 rfl rfl)
theorem dJ11___ieee754_rem_pio2_11 : decode cJ11___ieee754_rem_pio2 11 = .ok (.istore 20, 2) := dk_54 20 (dk_at dksJ11___ieee754_rem_pio2_0 11 rfl rfl)
theorem dJ11___ieee754_rem_pio2_13 : decode cJ11___ieee754_rem_pio2 13 = .ok (.iload 20, 2) := dk_21 20 (dk_at dksJ11___ieee754_rem_pio2_0 13 rfl rfl)
theorem dJ11___ieee754_rem_pio2_15 : decode cJ11___ieee754_rem_pio2 15 = .ok (.ldc 13, 2) := dk_18 13 (dk_at dksJ11___ieee754_rem_pio2_0 15 rfl rfl)
theorem dJ11___ieee754_rem_pio2_17 : decode cJ11___ieee754_rem_pio2 17 = .ok (.iand, 1) := dk_126 (dk_at dksJ11___ieee754_rem_pio2_0 17 rfl rfl)
theorem dJ11___ieee754_rem_pio2_18 : decode cJ11___ieee754_rem_pio2 18 = .ok (.istore 19, 2) := dk_54 19 (dk_at dksJ11___ieee754_rem_pio2_0 18 rfl rfl)
theorem dJ11___ieee754_rem_pio2_20 : decode cJ11___ieee754_rem_pio2 20 = .ok (.iload 19, 2) := dk_21 19 (dk_at dksJ11___ieee754_rem_pio2_0 20 rfl rfl)
theorem dJ11___ieee754_rem_pio2_22 : decode cJ11___ieee754_rem_pio2 22 = .ok (.ldc 14, 2) := dk_18 14 (dk_at dksJ11___ieee754_rem_pio2_0 22 rfl rfl)
theorem dJ11___ieee754_rem_pio2_24 : decode cJ11___ieee754_rem_pio2 24 = .ok (.if_icmp .gt 13, 3) := dk_163 0 13 (dk_at dksJ11___ieee754_rem_pio2_1 0 rfl rfl)
theorem dJ11___ieee754_rem_pio2_27 : decode cJ11___ieee754_rem_pio2 27 = .ok (.aload_n 2, 1) := dk_44 (dk_at dksJ11___ieee754_rem_pio2_1 3 rfl rfl)
theorem dJ11___ieee754_rem_pio2_28 : decode cJ11___ieee754_rem_pio2 28 = .ok (.iconst 0, 1) := dk_3 (dk_at dksJ11___ieee754_rem_pio2_1 4 rfl rfl)
theorem dJ11___ieee754_rem_pio2_29 : decode cJ11___ieee754_rem_pio2 29 = .ok (.dload_n 0, 1) := dk_38 (dk_at dksJ11___ieee754_rem_pio2_1 5 rfl rfl)
theorem dJ11___ieee754_rem_pio2_30 : decode cJ11___ieee754_rem_pio2 30 = .ok (.dastore, 1) := dk_82 (dk_at dksJ11___ieee754_rem_pio2_1 6 rfl rfl)
theorem dJ11___ieee754_rem_pio2_31 : decode cJ11___ieee754_rem_pio2 31 = .ok (.aload_n 2, 1) := dk_44 (dk_at dksJ11___ieee754_rem_pio2_1 7 rfl rfl)
theorem dJ11___ieee754_rem_pio2_32 : decode cJ11___ieee754_rem_pio2 32 = .ok (.iconst 1, 1) := dk_4 (dk_at dksJ11___ieee754_rem_pio2_1 8 rfl rfl)
theorem dJ11___ieee754_rem_pio2_33 : decode cJ11___ieee754_rem_pio2 33 = .ok (.dconst 0, 1) := dk_14 (dk_at dksJ11___ieee754_rem_pio2_1 9 rfl rfl)
theorem dJ11___ieee754_rem_pio2_34 : decode cJ11___ieee754_rem_pio2 34 = .ok (.dastore, 1) := dk_82 (dk_at dksJ11___ieee754_rem_pio2_1 10 rfl rfl)
theorem dJ11___ieee754_rem_pio2_35 : decode cJ11___ieee754_rem_pio2 35 = .ok (.iconst 0, 1) := dk_3 (dk_at dksJ11___ieee754_rem_pio2_1 11 rfl rfl)
theorem dJ11___ieee754_rem_pio2_36 : decode cJ11___ieee754_rem_pio2 36 = .ok (.ireturn, 1) := dk_172 (dk_at dksJ11___ieee754_rem_pio2_1 12 rfl rfl)
theorem dJ11___ieee754_rem_pio2_37 : decode cJ11___ieee754_rem_pio2 37 = .ok (.iload 19, 2) := dk_21 19 (dk_at dksJ11___ieee754_rem_pio2_1 13 rfl rfl)
theorem dJ11___ieee754_rem_pio2_39 : decode cJ11___ieee754_rem_pio2 39 = .ok (.ldc 15, 2) := dk_18 15 (dk_at dksJ11___ieee754_rem_pio2_1 15 rfl rfl)
theorem dJ11___ieee754_rem_pio2_41 : decode cJ11___ieee754_rem_pio2 41 = .ok (.if_icmp .ge 136, 3) := dk_162 0 136 (dk_at dksJ11___ieee754_rem_pio2_1 17 rfl rfl)
theorem dJ11___ieee754_rem_pio2_44 : decode cJ11___ieee754_rem_pio2 44 = .ok (.iload 20, 2) := dk_21 20 (dk_at dksJ11___ieee754_rem_pio2_1 20 rfl rfl)
theorem dJ11___ieee754_rem_pio2_46 : decode cJ11___ieee754_rem_pio2 46 = .ok (.ifCond .le 67, 3) := dk_158 0 67 (dk_at dksJ11___ieee754_rem_pio2_2 0 rfl rfl)
theorem dJ11___ieee754_rem_pio2_49 : decode cJ11___ieee754_rem_pio2 49 = .ok (.dload_n 0, 1) := dk_38 (dk_at dksJ11___ieee754_rem_pio2_2 3 rfl rfl)
theorem dJ11___ieee754_rem_pio2_50 : decode cJ11___ieee754_rem_pio2 50 = .ok (.ldc2_w 18, 3) := dk_20 0 18 (dk_at dksJ11___ieee754_rem_pio2_2 4 rfl rfl)
theorem dJ11___ieee754_rem_pio2_53 : decode cJ11___ieee754_rem_pio2 53 = .ok (.dsub, 1) := dk_103 (dk_at dksJ11___ieee754_rem_pio2_2 7 rfl rfl)
theorem dJ11___ieee754_rem_pio2_54 : decode cJ11___ieee754_rem_pio2 54 = .ok (.dstore_n 3, 1) := dk_74 (dk_at dksJ11___ieee754_rem_pio2_2 8 rfl rfl)
theorem dJ11___ieee754_rem_pio2_55 : decode cJ11___ieee754_rem_pio2 55 = .ok (.iload 19, 2) := dk_21 19 (dk_at dksJ11___ieee754_rem_pio2_2 9 rfl rfl)
theorem dJ11___ieee754_rem_pio2_57 : decode cJ11___ieee754_rem_pio2 57 = .ok (.ldc 20, 2) := dk_18 20 (dk_at dksJ11___ieee754_rem_pio2_2 11 rfl rfl)
theorem dJ11___ieee754_rem_pio2_59 : decode cJ11___ieee754_rem_pio2 59 = .ok (.if_icmp .eq 26, 3) := dk_159 0 26 (dk_at dksJ11___ieee754_rem_pio2_2 13 rfl rfl)
theorem dJ11___ieee754_rem_pio2_62 : decode cJ11___ieee754_rem_pio2 62 = .ok (.aload_n 2, 1) := dk_44 (dk_at dksJ11___ieee754_rem_pio2_2 16 rfl rfl)
theorem dJ11___ieee754_rem_pio2_63 : decode cJ11___ieee754_rem_pio2 63 = .ok (.iconst 0, 1) := dk_3 (dk_at dksJ11___ieee754_rem_pio2_2 17 rfl rfl)
theorem dJ11___ieee754_rem_pio2_64 : decode cJ11___ieee754_rem_pio2 64 = .ok (.dload_n 3, 1) := dk_41 (dk_at dksJ11___ieee754_rem_pio2_2 18 rfl rfl)
theorem dJ11___ieee754_rem_pio2_65 : decode cJ11___ieee754_rem_pio2 65 = .ok (.ldc2_w 21, 3) := dk_20 0 21 (dk_at dksJ11___ieee754_rem_pio2_2 19 rfl rfl)
theorem dJ11___ieee754_rem_pio2_68 : decode cJ11___ieee754_rem_pio2 68 = .ok (.dsub, 1) := dk_103 (dk_at dksJ11___ieee754_rem_pio2_2 22 rfl rfl)
theorem dJ11___ieee754_rem_pio2_69 : decode cJ11___ieee754_rem_pio2 69 = .ok (.dastore, 1) := dk_82 (dk_at dksJ11___ieee754_rem_pio2_2 23 rfl rfl)
theorem dJ11___ieee754_rem_pio2_70 : decode cJ11___ieee754_rem_pio2 70 = .ok (.aload_n 2, 1) := dk_44 (dk_at dksJ11___ieee754_rem_pio2_3 0 rfl rfl)
theorem dJ11___ieee754_rem_pio2_71 : decode cJ11___ieee754_rem_pio2 71 = .ok (.iconst 1, 1) := dk_4 (dk_at dksJ11___ieee754_rem_pio2_3 1 rfl rfl)
theorem dJ11___ieee754_rem_pio2_72 : decode cJ11___ieee754_rem_pio2 72 = .ok (.dload_n 3, 1) := dk_41 (dk_at dksJ11___ieee754_rem_pio2_3 2 rfl rfl)
theorem dJ11___ieee754_rem_pio2_73 : decode cJ11___ieee754_rem_pio2 73 = .ok (.aload_n 2, 1) := dk_44 (dk_at dksJ11___ieee754_rem_pio2_3 3 rfl rfl)
theorem dJ11___ieee754_rem_pio2_74 : decode cJ11___ieee754_rem_pio2 74 = .ok (.iconst 0, 1) := dk_3 (dk_at dksJ11___ieee754_rem_pio2_3 4 rfl rfl)
theorem dJ11___ieee754_rem_pio2_75 : decode cJ11___ieee754_rem_pio2 75 = .ok (.daload, 1) := dk_49 (dk_at dksJ11___ieee754_rem_pio2_3 5 rfl rfl)
theorem dJ11___ieee754_rem_pio2_76 : decode cJ11___ieee754_rem_pio2 76 = .ok (.dsub, 1) := dk_103 (dk_at dksJ11___ieee754_rem_pio2_3 6 rfl rfl)
theorem dJ11___ieee754_rem_pio2_77 : decode cJ11___ieee754_rem_pio2 77 = .ok (.ldc2_w 21, 3) := dk_20 0 21 (dk_at dksJ11___ieee754_rem_pio2_3 7 rfl rfl)
theorem dJ11___ieee754_rem_pio2_80 : decode cJ11___ieee754_rem_pio2 80 = .ok (.dsub, 1) := dk_103 (dk_at dksJ11___ieee754_rem_pio2_3 10 rfl rfl)
theorem dJ11___ieee754_rem_pio2_81 : decode cJ11___ieee754_rem_pio2 81 = .ok (.dastore, 1) := dk_82 (dk_at dksJ11___ieee754_rem_pio2_3 11 rfl rfl)
theorem dJ11___ieee754_rem_pio2_82 : decode cJ11___ieee754_rem_pio2 82 = .ok (.goto 29, 3) := dk_167 0 29 (dk_at dksJ11___ieee754_rem_pio2_3 12 rfl rfl)
theorem dJ11___ieee754_rem_pio2_85 : decode cJ11___ieee754_rem_pio2 85 = .ok (.dload_n 3, 1) := dk_41 (dk_at dksJ11___ieee754_rem_pio2_3 15 rfl rfl)
theorem dJ11___ieee754_rem_pio2_86 : decode cJ11___ieee754_rem_pio2 86 = .ok (.ldc2_w 23, 3) := dk_20 0 23 (dk_at dksJ11___ieee754_rem_pio2_3 16 rfl rfl)
theorem dJ11___ieee754_rem_pio2_89 : decode cJ11___ieee754_rem_pio2 89 = .ok (.dsub, 1) := dk_103 (dk_at dksJ11___ieee754_rem_pio2_3 19 rfl rfl)
theorem dJ11___ieee754_rem_pio2_90 : decode cJ11___ieee754_rem_pio2 90 = .ok (.dstore_n 3, 1) := dk_74 (dk_at dksJ11___ieee754_rem_pio2_3 20 rfl rfl)
theorem dJ11___ieee754_rem_pio2_91 : decode cJ11___ieee754_rem_pio2 91 = .ok (.aload_n 2, 1) := dk_44 (dk_at dksJ11___ieee754_rem_pio2_3 21 rfl rfl)
theorem dJ11___ieee754_rem_pio2_92 : decode cJ11___ieee754_rem_pio2 92 = .ok (.iconst 0, 1) := dk_3 (dk_at dksJ11___ieee754_rem_pio2_3 22 rfl rfl)
theorem dJ11___ieee754_rem_pio2_93 : decode cJ11___ieee754_rem_pio2 93 = .ok (.dload_n 3, 1) := dk_41 (dk_at dksJ11___ieee754_rem_pio2_3 23 rfl rfl)
theorem dJ11___ieee754_rem_pio2_94 : decode cJ11___ieee754_rem_pio2 94 = .ok (.ldc2_w 25, 3) := dk_20 0 25 (dk_at dksJ11___ieee754_rem_pio2_4 0 rfl rfl)
theorem dJ11___ieee754_rem_pio2_97 : decode cJ11___ieee754_rem_pio2 97 = .ok (.dsub, 1) := dk_103 (dk_at dksJ11___ieee754_rem_pio2_4 3 rfl rfl)
theorem dJ11___ieee754_rem_pio2_98 : decode cJ11___ieee754_rem_pio2 98 = .ok (.dastore, 1) := dk_82 (dk_at dksJ11___ieee754_rem_pio2_4 4 rfl rfl)
theorem dJ11___ieee754_rem_pio2_99 : decode cJ11___ieee754_rem_pio2 99 = .ok (.aload_n 2, 1) := dk_44 (dk_at dksJ11___ieee754_rem_pio2_4 5 rfl rfl)
theorem dJ11___ieee754_rem_pio2_100 : decode cJ11___ieee754_rem_pio2 100 = .ok (.iconst 1, 1) := dk_4 (dk_at dksJ11___ieee754_rem_pio2_4 6 rfl rfl)
theorem dJ11___ieee754_rem_pio2_101 : decode cJ11___ieee754_rem_pio2 101 = .ok (.dload_n 3, 1) := dk_41 (dk_at dksJ11___ieee754_rem_pio2_4 7 rfl rfl)
theorem dJ11___ieee754_rem_pio2_102 : decode cJ11___ieee754_rem_pio2 102 = .ok (.aload_n 2, 1) := dk_44 (dk_at dksJ11___ieee754_rem_pio2_4 8 rfl rfl)
theorem dJ11___ieee754_rem_pio2_103 : decode cJ11___ieee754_rem_pio2 103 = .ok (.iconst 0, 1) := dk_3 (dk_at dksJ11___ieee754_rem_pio2_4 9 rfl rfl)
theorem dJ11___ieee754_rem_pio2_104 : decode cJ11___ieee754_rem_pio2 104 = .ok (.daload, 1) := dk_49 (dk_at dksJ11___ieee754_rem_pio2_4 10 rfl rfl)
theorem dJ11___ieee754_rem_pio2_105 : decode cJ11___ieee754_rem_pio2 105 = .ok (.dsub, 1) := dk_103 (dk_at dksJ11___ieee754_rem_pio2_4 11 rfl rfl)
theorem dJ11___ieee754_rem_pio2_106 : decode cJ11___ieee754_rem_pio2 106 = .ok (.ldc2_w 25, 3) := dk_20 0 25 (dk_at dksJ11___ieee754_rem_pio2_4 12 rfl rfl)
theorem dJ11___ieee754_rem_pio2_109 : decode cJ11___ieee754_rem_pio2 109 = .ok (.dsub, 1) := dk_103 (dk_at dksJ11___ieee754_rem_pio2_4 15 rfl rfl)
theorem dJ11___ieee754_rem_pio2_110 : decode cJ11___ieee754_rem_pio2 110 = .ok (.dastore, 1) := dk_82 (dk_at dksJ11___ieee754_rem_pio2_4 16 rfl rfl)
theorem dJ11___ieee754_rem_pio2_111 : decode cJ11___ieee754_rem_pio2 111 = .ok (.iconst 1, 1) := dk_4 (dk_at dksJ11___ieee754_rem_pio2_4 17 rfl rfl)
theorem dJ11___ieee754_rem_pio2_112 : decode cJ11___ieee754_rem_pio2 112 = .ok (.ireturn, 1) := dk_172 (dk_at dksJ11___ieee754_rem_pio2_4 18 rfl rfl)
theorem dJ11___ieee754_rem_pio2_113 : decode cJ11___ieee754_rem_pio2 113 = .ok (.dload_n 0, 1) := dk_38 (dk_at dksJ11___ieee754_rem_pio2_4 19 rfl rfl)
theorem dJ11___ieee754_rem_pio2_114 : decode cJ11___ieee754_rem_pio2 114 = .ok (.ldc2_w 18, 3) := dk_20 0 18 (dk_at dksJ11___ieee754_rem_pio2_4 20 rfl rfl)
theorem dJ11___ieee754_rem_pio2_117 : decode cJ11___ieee754_rem_pio2 117 = .ok (.dadd, 1) := dk_99 (dk_at dksJ11___ieee754_rem_pio2_4 23 rfl rfl)
theorem dJ11___ieee754_rem_pio2_118 : decode cJ11___ieee754_rem_pio2 118 = .ok (.dstore_n 3, 1) := dk_74 (dk_at dksJ11___ieee754_rem_pio2_5 0 rfl rfl)
theorem dJ11___ieee754_rem_pio2_119 : decode cJ11___ieee754_rem_pio2 119 = .ok (.iload 19, 2) := dk_21 19 (dk_at dksJ11___ieee754_rem_pio2_5 1 rfl rfl)
theorem dJ11___ieee754_rem_pio2_121 : decode cJ11___ieee754_rem_pio2 121 = .ok (.ldc 20, 2) := dk_18 20 (dk_at dksJ11___ieee754_rem_pio2_5 3 rfl rfl)
theorem dJ11___ieee754_rem_pio2_123 : decode cJ11___ieee754_rem_pio2 123 = .ok (.if_icmp .eq 26, 3) := dk_159 0 26 (dk_at dksJ11___ieee754_rem_pio2_5 5 rfl rfl)
theorem dJ11___ieee754_rem_pio2_126 : decode cJ11___ieee754_rem_pio2 126 = .ok (.aload_n 2, 1) := dk_44 (dk_at dksJ11___ieee754_rem_pio2_5 8 rfl rfl)
theorem dJ11___ieee754_rem_pio2_127 : decode cJ11___ieee754_rem_pio2 127 = .ok (.iconst 0, 1) := dk_3 (dk_at dksJ11___ieee754_rem_pio2_5 9 rfl rfl)
theorem dJ11___ieee754_rem_pio2_128 : decode cJ11___ieee754_rem_pio2 128 = .ok (.dload_n 3, 1) := dk_41 (dk_at dksJ11___ieee754_rem_pio2_5 10 rfl rfl)
theorem dJ11___ieee754_rem_pio2_129 : decode cJ11___ieee754_rem_pio2 129 = .ok (.ldc2_w 21, 3) := dk_20 0 21 (dk_at dksJ11___ieee754_rem_pio2_5 11 rfl rfl)
theorem dJ11___ieee754_rem_pio2_132 : decode cJ11___ieee754_rem_pio2 132 = .ok (.dadd, 1) := dk_99 (dk_at dksJ11___ieee754_rem_pio2_5 14 rfl rfl)
theorem dJ11___ieee754_rem_pio2_133 : decode cJ11___ieee754_rem_pio2 133 = .ok (.dastore, 1) := dk_82 (dk_at dksJ11___ieee754_rem_pio2_5 15 rfl rfl)
theorem dJ11___ieee754_rem_pio2_134 : decode cJ11___ieee754_rem_pio2 134 = .ok (.aload_n 2, 1) := dk_44 (dk_at dksJ11___ieee754_rem_pio2_5 16 rfl rfl)
theorem dJ11___ieee754_rem_pio2_135 : decode cJ11___ieee754_rem_pio2 135 = .ok (.iconst 1, 1) := dk_4 (dk_at dksJ11___ieee754_rem_pio2_5 17 rfl rfl)
theorem dJ11___ieee754_rem_pio2_136 : decode cJ11___ieee754_rem_pio2 136 = .ok (.dload_n 3, 1) := dk_41 (dk_at dksJ11___ieee754_rem_pio2_5 18 rfl rfl)
theorem dJ11___ieee754_rem_pio2_137 : decode cJ11___ieee754_rem_pio2 137 = .ok (.aload_n 2, 1) := dk_44 (dk_at dksJ11___ieee754_rem_pio2_5 19 rfl rfl)
theorem dJ11___ieee754_rem_pio2_138 : decode cJ11___ieee754_rem_pio2 138 = .ok (.iconst 0, 1) := dk_3 (dk_at dksJ11___ieee754_rem_pio2_5 20 rfl rfl)
theorem dJ11___ieee754_rem_pio2_139 : decode cJ11___ieee754_rem_pio2 139 = .ok (.daload, 1) := dk_49 (dk_at dksJ11___ieee754_rem_pio2_5 21 rfl rfl)
theorem dJ11___ieee754_rem_pio2_140 : decode cJ11___ieee754_rem_pio2 140 = .ok (.dsub, 1) := dk_103 (dk_at dksJ11___ieee754_rem_pio2_5 22 rfl rfl)
theorem dJ11___ieee754_rem_pio2_141 : decode cJ11___ieee754_rem_pio2 141 = .ok (.ldc2_w 21, 3) := dk_20 0 21 (dk_at dksJ11___ieee754_rem_pio2_6 0 rfl rfl)
theorem dJ11___ieee754_rem_pio2_144 : decode cJ11___ieee754_rem_pio2 144 = .ok (.dadd, 1) := dk_99 (dk_at dksJ11___ieee754_rem_pio2_6 3 rfl rfl)
theorem dJ11___ieee754_rem_pio2_145 : decode cJ11___ieee754_rem_pio2 145 = .ok (.dastore, 1) := dk_82 (dk_at dksJ11___ieee754_rem_pio2_6 4 rfl rfl)
theorem dJ11___ieee754_rem_pio2_146 : decode cJ11___ieee754_rem_pio2 146 = .ok (.goto 29, 3) := dk_167 0 29 (dk_at dksJ11___ieee754_rem_pio2_6 5 rfl rfl)
theorem dJ11___ieee754_rem_pio2_149 : decode cJ11___ieee754_rem_pio2 149 = .ok (.dload_n 3, 1) := dk_41 (dk_at dksJ11___ieee754_rem_pio2_6 8 rfl rfl)
theorem dJ11___ieee754_rem_pio2_150 : decode cJ11___ieee754_rem_pio2 150 = .ok (.ldc2_w 23, 3) := dk_20 0 23 (dk_at dksJ11___ieee754_rem_pio2_6 9 rfl rfl)
theorem dJ11___ieee754_rem_pio2_153 : decode cJ11___ieee754_rem_pio2 153 = .ok (.dadd, 1) := dk_99 (dk_at dksJ11___ieee754_rem_pio2_6 12 rfl rfl)
theorem dJ11___ieee754_rem_pio2_154 : decode cJ11___ieee754_rem_pio2 154 = .ok (.dstore_n 3, 1) := dk_74 (dk_at dksJ11___ieee754_rem_pio2_6 13 rfl rfl)
theorem dJ11___ieee754_rem_pio2_155 : decode cJ11___ieee754_rem_pio2 155 = .ok (.aload_n 2, 1) := dk_44 (dk_at dksJ11___ieee754_rem_pio2_6 14 rfl rfl)
theorem dJ11___ieee754_rem_pio2_156 : decode cJ11___ieee754_rem_pio2 156 = .ok (.iconst 0, 1) := dk_3 (dk_at dksJ11___ieee754_rem_pio2_6 15 rfl rfl)
theorem dJ11___ieee754_rem_pio2_157 : decode cJ11___ieee754_rem_pio2 157 = .ok (.dload_n 3, 1) := dk_41 (dk_at dksJ11___ieee754_rem_pio2_6 16 rfl rfl)
theorem dJ11___ieee754_rem_pio2_158 : decode cJ11___ieee754_rem_pio2 158 = .ok (.ldc2_w 25, 3) := dk_20 0 25 (dk_at dksJ11___ieee754_rem_pio2_6 17 rfl rfl)
theorem dJ11___ieee754_rem_pio2_161 : decode cJ11___ieee754_rem_pio2 161 = .ok (.dadd, 1) := dk_99 (dk_at dksJ11___ieee754_rem_pio2_6 20 rfl rfl)
theorem dJ11___ieee754_rem_pio2_162 : decode cJ11___ieee754_rem_pio2 162 = .ok (.dastore, 1) := dk_82 (dk_at dksJ11___ieee754_rem_pio2_6 21 rfl rfl)
theorem dJ11___ieee754_rem_pio2_163 : decode cJ11___ieee754_rem_pio2 163 = .ok (.aload_n 2, 1) := dk_44 (dk_at dksJ11___ieee754_rem_pio2_6 22 rfl rfl)
theorem dJ11___ieee754_rem_pio2_164 : decode cJ11___ieee754_rem_pio2 164 = .ok (.iconst 1, 1) := dk_4 (dk_at dksJ11___ieee754_rem_pio2_6 23 rfl rfl)
theorem dJ11___ieee754_rem_pio2_165 : decode cJ11___ieee754_rem_pio2 165 = .ok (.dload_n 3, 1) := dk_41 (dk_at dksJ11___ieee754_rem_pio2_7 0 rfl rfl)
theorem dJ11___ieee754_rem_pio2_166 : decode cJ11___ieee754_rem_pio2 166 = .ok (.aload_n 2, 1) := dk_44 (dk_at dksJ11___ieee754_rem_pio2_7 1 rfl rfl)
theorem dJ11___ieee754_rem_pio2_167 : decode cJ11___ieee754_rem_pio2 167 = .ok (.iconst 0, 1) := dk_3 (dk_at dksJ11___ieee754_rem_pio2_7 2 rfl rfl)
theorem dJ11___ieee754_rem_pio2_168 : decode cJ11___ieee754_rem_pio2 168 = .ok (.daload, 1) := dk_49 (dk_at dksJ11___ieee754_rem_pio2_7 3 rfl rfl)
theorem dJ11___ieee754_rem_pio2_169 : decode cJ11___ieee754_rem_pio2 169 = .ok (.dsub, 1) := dk_103 (dk_at dksJ11___ieee754_rem_pio2_7 4 rfl rfl)
theorem dJ11___ieee754_rem_pio2_170 : decode cJ11___ieee754_rem_pio2 170 = .ok (.ldc2_w 25, 3) := dk_20 0 25 (dk_at dksJ11___ieee754_rem_pio2_7 5 rfl rfl)
theorem dJ11___ieee754_rem_pio2_173 : decode cJ11___ieee754_rem_pio2 173 = .ok (.dadd, 1) := dk_99 (dk_at dksJ11___ieee754_rem_pio2_7 8 rfl rfl)
theorem dJ11___ieee754_rem_pio2_174 : decode cJ11___ieee754_rem_pio2 174 = .ok (.dastore, 1) := dk_82 (dk_at dksJ11___ieee754_rem_pio2_7 9 rfl rfl)
theorem dJ11___ieee754_rem_pio2_175 : decode cJ11___ieee754_rem_pio2 175 = .ok (.iconst (-1), 1) := dk_2 (dk_at dksJ11___ieee754_rem_pio2_7 10 rfl rfl)
theorem dJ11___ieee754_rem_pio2_176 : decode cJ11___ieee754_rem_pio2 176 = .ok (.ireturn, 1) := dk_172 (dk_at dksJ11___ieee754_rem_pio2_7 11 rfl rfl)
theorem dJ11___ieee754_rem_pio2_177 : decode cJ11___ieee754_rem_pio2 177 = .ok (.iload 19, 2) := dk_21 19 (dk_at dksJ11___ieee754_rem_pio2_7 12 rfl rfl)
theorem dJ11___ieee754_rem_pio2_179 : decode cJ11___ieee754_rem_pio2 179 = .ok (.ldc 27, 2) := dk_18 27 (dk_at dksJ11___ieee754_rem_pio2_7 14 rfl rfl)
theorem dJ11___ieee754_rem_pio2_181 : decode cJ11___ieee754_rem_pio2 181 = .ok (.if_icmp .gt 268, 3) := dk_163 1 12 (dk_at dksJ11___ieee754_rem_pio2_7 16 rfl rfl)
theorem dJ11___ieee754_rem_pio2_184 : decode cJ11___ieee754_rem_pio2 184 = .ok (.dload_n 0, 1) := dk_38 (dk_at dksJ11___ieee754_rem_pio2_7 19 rfl rfl)
theorem dJ11___ieee754_rem_pio2_185 : decode cJ11___ieee754_rem_pio2 185 = .ok (.invokestatic 28, 3) := dk_184 0 28 (dk_at dksJ11___ieee754_rem_pio2_7 20 rfl rfl)
theorem dJ11___ieee754_rem_pio2_188 : decode cJ11___ieee754_rem_pio2 188 = .ok (.dstore 7, 2) := dk_57 7 (dk_at dksJ11___ieee754_rem_pio2_8 0 rfl rfl)
theorem dJ11___ieee754_rem_pio2_190 : decode cJ11___ieee754_rem_pio2 190 = .ok (.dload 7, 2) := dk_24 7 (dk_at dksJ11___ieee754_rem_pio2_8 2 rfl rfl)
theorem dJ11___ieee754_rem_pio2_192 : decode cJ11___ieee754_rem_pio2 192 = .ok (.ldc2_w 34, 3) := dk_20 0 34 (dk_at dksJ11___ieee754_rem_pio2_8 4 rfl rfl)
theorem dJ11___ieee754_rem_pio2_195 : decode cJ11___ieee754_rem_pio2 195 = .ok (.dmul, 1) := dk_107 (dk_at dksJ11___ieee754_rem_pio2_8 7 rfl rfl)
theorem dJ11___ieee754_rem_pio2_196 : decode cJ11___ieee754_rem_pio2 196 = .ok (.ldc2_w 36, 3) := dk_20 0 36 (dk_at dksJ11___ieee754_rem_pio2_8 8 rfl rfl)
theorem dJ11___ieee754_rem_pio2_199 : decode cJ11___ieee754_rem_pio2 199 = .ok (.dadd, 1) := dk_99 (dk_at dksJ11___ieee754_rem_pio2_8 11 rfl rfl)
theorem dJ11___ieee754_rem_pio2_200 : decode cJ11___ieee754_rem_pio2 200 = .ok (.d2i, 1) := dk_142 (dk_at dksJ11___ieee754_rem_pio2_8 12 rfl rfl)
theorem dJ11___ieee754_rem_pio2_201 : decode cJ11___ieee754_rem_pio2 201 = .ok (.istore 18, 2) := dk_54 18 (dk_at dksJ11___ieee754_rem_pio2_8 13 rfl rfl)
theorem dJ11___ieee754_rem_pio2_203 : decode cJ11___ieee754_rem_pio2 203 = .ok (.iload 18, 2) := dk_21 18 (dk_at dksJ11___ieee754_rem_pio2_8 15 rfl rfl)
theorem dJ11___ieee754_rem_pio2_205 : decode cJ11___ieee754_rem_pio2 205 = .ok (.i2d, 1) := dk_135 (dk_at dksJ11___ieee754_rem_pio2_8 17 rfl rfl)
theorem dJ11___ieee754_rem_pio2_206 : decode cJ11___ieee754_rem_pio2 206 = .ok (.dstore 11, 2) := dk_57 11 (dk_at dksJ11___ieee754_rem_pio2_8 18 rfl rfl)
theorem dJ11___ieee754_rem_pio2_208 : decode cJ11___ieee754_rem_pio2 208 = .ok (.dload 7, 2) := dk_24 7 (dk_at dksJ11___ieee754_rem_pio2_8 20 rfl rfl)
theorem dJ11___ieee754_rem_pio2_210 : decode cJ11___ieee754_rem_pio2 210 = .ok (.dload 11, 2) := dk_24 11 (dk_at dksJ11___ieee754_rem_pio2_8 22 rfl rfl)
theorem dJ11___ieee754_rem_pio2_212 : decode cJ11___ieee754_rem_pio2 212 = .ok (.ldc2_w 18, 3) := dk_20 0 18 (dk_at dksJ11___ieee754_rem_pio2_9 0 rfl rfl)
theorem dJ11___ieee754_rem_pio2_215 : decode cJ11___ieee754_rem_pio2 215 = .ok (.dmul, 1) := dk_107 (dk_at dksJ11___ieee754_rem_pio2_9 3 rfl rfl)
theorem dJ11___ieee754_rem_pio2_216 : decode cJ11___ieee754_rem_pio2 216 = .ok (.dsub, 1) := dk_103 (dk_at dksJ11___ieee754_rem_pio2_9 4 rfl rfl)
theorem dJ11___ieee754_rem_pio2_217 : decode cJ11___ieee754_rem_pio2 217 = .ok (.dstore 9, 2) := dk_57 9 (dk_at dksJ11___ieee754_rem_pio2_9 5 rfl rfl)
theorem dJ11___ieee754_rem_pio2_219 : decode cJ11___ieee754_rem_pio2 219 = .ok (.dload 11, 2) := dk_24 11 (dk_at dksJ11___ieee754_rem_pio2_9 7 rfl rfl)
theorem dJ11___ieee754_rem_pio2_221 : decode cJ11___ieee754_rem_pio2 221 = .ok (.ldc2_w 21, 3) := dk_20 0 21 (dk_at dksJ11___ieee754_rem_pio2_9 9 rfl rfl)
theorem dJ11___ieee754_rem_pio2_224 : decode cJ11___ieee754_rem_pio2 224 = .ok (.dmul, 1) := dk_107 (dk_at dksJ11___ieee754_rem_pio2_9 12 rfl rfl)
theorem dJ11___ieee754_rem_pio2_225 : decode cJ11___ieee754_rem_pio2 225 = .ok (.dstore 5, 2) := dk_57 5 (dk_at dksJ11___ieee754_rem_pio2_9 13 rfl rfl)
theorem dJ11___ieee754_rem_pio2_227 : decode cJ11___ieee754_rem_pio2 227 = .ok (.iload 18, 2) := dk_21 18 (dk_at dksJ11___ieee754_rem_pio2_9 15 rfl rfl)
theorem dJ11___ieee754_rem_pio2_229 : decode cJ11___ieee754_rem_pio2 229 = .ok (.bipush 32, 2) := dk_16 32 (dk_at dksJ11___ieee754_rem_pio2_9 17 rfl rfl)
theorem dJ11___ieee754_rem_pio2_231 : decode cJ11___ieee754_rem_pio2 231 = .ok (.if_icmp .ge 27, 3) := dk_162 0 27 (dk_at dksJ11___ieee754_rem_pio2_9 19 rfl rfl)
theorem dJ11___ieee754_rem_pio2_234 : decode cJ11___ieee754_rem_pio2 234 = .ok (.iload 19, 2) := dk_21 19 (dk_at dksJ11___ieee754_rem_pio2_9 22 rfl rfl)
theorem dJ11___ieee754_rem_pio2_236 : decode cJ11___ieee754_rem_pio2 236 = .ok (.getstatic 38, 3) := dk_178 0 38 (dk_at dksJ11___ieee754_rem_pio2_10 0 rfl rfl)
theorem dJ11___ieee754_rem_pio2_239 : decode cJ11___ieee754_rem_pio2 239 = .ok (.iload 18, 2) := dk_21 18 (dk_at dksJ11___ieee754_rem_pio2_10 3 rfl rfl)
theorem dJ11___ieee754_rem_pio2_241 : decode cJ11___ieee754_rem_pio2 241 = .ok (.iconst 1, 1) := dk_4 (dk_at dksJ11___ieee754_rem_pio2_10 5 rfl rfl)
theorem dJ11___ieee754_rem_pio2_242 : decode cJ11___ieee754_rem_pio2 242 = .ok (.isub, 1) := dk_100 (dk_at dksJ11___ieee754_rem_pio2_10 6 rfl rfl)
theorem dJ11___ieee754_rem_pio2_243 : decode cJ11___ieee754_rem_pio2 243 = .ok (.iaload, 1) := dk_46 (dk_at dksJ11___ieee754_rem_pio2_10 7 rfl rfl)
theorem dJ11___ieee754_rem_pio2_244 : decode cJ11___ieee754_rem_pio2 244 = .ok (.if_icmp .eq 14, 3) := dk_159 0 14 (dk_at dksJ11___ieee754_rem_pio2_10 8 rfl rfl)
theorem dJ11___ieee754_rem_pio2_247 : decode cJ11___ieee754_rem_pio2 247 = .ok (.aload_n 2, 1) := dk_44 (dk_at dksJ11___ieee754_rem_pio2_10 11 rfl rfl)
theorem dJ11___ieee754_rem_pio2_248 : decode cJ11___ieee754_rem_pio2 248 = .ok (.iconst 0, 1) := dk_3 (dk_at dksJ11___ieee754_rem_pio2_10 12 rfl rfl)
theorem dJ11___ieee754_rem_pio2_249 : decode cJ11___ieee754_rem_pio2 249 = .ok (.dload 9, 2) := dk_24 9 (dk_at dksJ11___ieee754_rem_pio2_10 13 rfl rfl)
theorem dJ11___ieee754_rem_pio2_251 : decode cJ11___ieee754_rem_pio2 251 = .ok (.dload 5, 2) := dk_24 5 (dk_at dksJ11___ieee754_rem_pio2_10 15 rfl rfl)
theorem dJ11___ieee754_rem_pio2_253 : decode cJ11___ieee754_rem_pio2 253 = .ok (.dsub, 1) := dk_103 (dk_at dksJ11___ieee754_rem_pio2_10 17 rfl rfl)
theorem dJ11___ieee754_rem_pio2_254 : decode cJ11___ieee754_rem_pio2 254 = .ok (.dastore, 1) := dk_82 (dk_at dksJ11___ieee754_rem_pio2_10 18 rfl rfl)
theorem dJ11___ieee754_rem_pio2_255 : decode cJ11___ieee754_rem_pio2 255 = .ok (.goto 156, 3) := dk_167 0 156 (dk_at dksJ11___ieee754_rem_pio2_10 19 rfl rfl)
theorem dJ11___ieee754_rem_pio2_258 : decode cJ11___ieee754_rem_pio2 258 = .ok (.iload 19, 2) := dk_21 19 (dk_at dksJ11___ieee754_rem_pio2_10 22 rfl rfl)
theorem dJ11___ieee754_rem_pio2_260 : decode cJ11___ieee754_rem_pio2 260 = .ok (.bipush 20, 2) := dk_16 20 (dk_at dksJ11___ieee754_rem_pio2_11 0 rfl rfl)
theorem dJ11___ieee754_rem_pio2_262 : decode cJ11___ieee754_rem_pio2 262 = .ok (.ishr, 1) := dk_122 (dk_at dksJ11___ieee754_rem_pio2_11 2 rfl rfl)
theorem dJ11___ieee754_rem_pio2_263 : decode cJ11___ieee754_rem_pio2 263 = .ok (.istore 16, 2) := dk_54 16 (dk_at dksJ11___ieee754_rem_pio2_11 3 rfl rfl)
theorem dJ11___ieee754_rem_pio2_265 : decode cJ11___ieee754_rem_pio2 265 = .ok (.aload_n 2, 1) := dk_44 (dk_at dksJ11___ieee754_rem_pio2_11 5 rfl rfl)
theorem dJ11___ieee754_rem_pio2_266 : decode cJ11___ieee754_rem_pio2 266 = .ok (.iconst 0, 1) := dk_3 (dk_at dksJ11___ieee754_rem_pio2_11 6 rfl rfl)
theorem dJ11___ieee754_rem_pio2_267 : decode cJ11___ieee754_rem_pio2 267 = .ok (.dload 9, 2) := dk_24 9 (dk_at dksJ11___ieee754_rem_pio2_11 7 rfl rfl)
theorem dJ11___ieee754_rem_pio2_269 : decode cJ11___ieee754_rem_pio2 269 = .ok (.dload 5, 2) := dk_24 5 (dk_at dksJ11___ieee754_rem_pio2_11 9 rfl rfl)
theorem dJ11___ieee754_rem_pio2_271 : decode cJ11___ieee754_rem_pio2 271 = .ok (.dsub, 1) := dk_103 (dk_at dksJ11___ieee754_rem_pio2_11 11 rfl rfl)
theorem dJ11___ieee754_rem_pio2_272 : decode cJ11___ieee754_rem_pio2 272 = .ok (.dastore, 1) := dk_82 (dk_at dksJ11___ieee754_rem_pio2_11 12 rfl rfl)
theorem dJ11___ieee754_rem_pio2_273 : decode cJ11___ieee754_rem_pio2 273 = .ok (.iload 16, 2) := dk_21 16 (dk_at dksJ11___ieee754_rem_pio2_11 13 rfl rfl)
theorem dJ11___ieee754_rem_pio2_275 : decode cJ11___ieee754_rem_pio2 275 = .ok (.aload_n 2, 1) := dk_44 (dk_at dksJ11___ieee754_rem_pio2_11 15 rfl rfl)
theorem dJ11___ieee754_rem_pio2_276 : decode cJ11___ieee754_rem_pio2 276 = .ok (.iconst 0, 1) := dk_3 (dk_at dksJ11___ieee754_rem_pio2_11 16 rfl rfl)
theorem dJ11___ieee754_rem_pio2_277 : decode cJ11___ieee754_rem_pio2 277 = .ok (.daload, 1) := dk_49 (dk_at dksJ11___ieee754_rem_pio2_11 17 rfl rfl)
theorem dJ11___ieee754_rem_pio2_278 : decode cJ11___ieee754_rem_pio2 278 = .ok (.invokestatic 9, 3) := dk_184 0 9 (dk_at dksJ11___ieee754_rem_pio2_11 18 rfl rfl)
theorem dJ11___ieee754_rem_pio2_281 : decode cJ11___ieee754_rem_pio2 281 = .ok (.bipush 20, 2) := dk_16 20 (dk_at dksJ11___ieee754_rem_pio2_11 21 rfl rfl)
theorem dJ11___ieee754_rem_pio2_283 : decode cJ11___ieee754_rem_pio2 283 = .ok (.ishr, 1) := dk_122 (dk_at dksJ11___ieee754_rem_pio2_11 23 rfl rfl)
theorem dJ11___ieee754_rem_pio2_284 : decode cJ11___ieee754_rem_pio2 284 = .ok (.sipush 2047, 3) := dk_17 7 255 (dk_at dksJ11___ieee754_rem_pio2_12 0 rfl rfl)
theorem dJ11___ieee754_rem_pio2_287 : decode cJ11___ieee754_rem_pio2 287 = .ok (.iand, 1) := dk_126 (dk_at dksJ11___ieee754_rem_pio2_12 3 rfl rfl)
theorem dJ11___ieee754_rem_pio2_288 : decode cJ11___ieee754_rem_pio2 288 = .ok (.isub, 1) := dk_100 (dk_at dksJ11___ieee754_rem_pio2_12 4 rfl rfl)
theorem dJ11___ieee754_rem_pio2_289 : decode cJ11___ieee754_rem_pio2 289 = .ok (.istore 15, 2) := dk_54 15 (dk_at dksJ11___ieee754_rem_pio2_12 5 rfl rfl)
theorem dJ11___ieee754_rem_pio2_291 : decode cJ11___ieee754_rem_pio2 291 = .ok (.iload 15, 2) := dk_21 15 (dk_at dksJ11___ieee754_rem_pio2_12 7 rfl rfl)
theorem dJ11___ieee754_rem_pio2_293 : decode cJ11___ieee754_rem_pio2 293 = .ok (.bipush 16, 2) := dk_16 16 (dk_at dksJ11___ieee754_rem_pio2_12 9 rfl rfl)
theorem dJ11___ieee754_rem_pio2_295 : decode cJ11___ieee754_rem_pio2 295 = .ok (.if_icmp .le 116, 3) := dk_164 0 116 (dk_at dksJ11___ieee754_rem_pio2_12 11 rfl rfl)
theorem dJ11___ieee754_rem_pio2_298 : decode cJ11___ieee754_rem_pio2 298 = .ok (.dload 9, 2) := dk_24 9 (dk_at dksJ11___ieee754_rem_pio2_12 14 rfl rfl)
theorem dJ11___ieee754_rem_pio2_300 : decode cJ11___ieee754_rem_pio2 300 = .ok (.dstore 7, 2) := dk_57 7 (dk_at dksJ11___ieee754_rem_pio2_12 16 rfl rfl)
theorem dJ11___ieee754_rem_pio2_302 : decode cJ11___ieee754_rem_pio2 302 = .ok (.dload 11, 2) := dk_24 11 (dk_at dksJ11___ieee754_rem_pio2_12 18 rfl rfl)
theorem dJ11___ieee754_rem_pio2_304 : decode cJ11___ieee754_rem_pio2 304 = .ok (.ldc2_w 23, 3) := dk_20 0 23 (dk_at dksJ11___ieee754_rem_pio2_12 20 rfl rfl)
theorem dJ11___ieee754_rem_pio2_307 : decode cJ11___ieee754_rem_pio2 307 = .ok (.dmul, 1) := dk_107 (dk_at dksJ11___ieee754_rem_pio2_12 23 rfl rfl)
theorem dJ11___ieee754_rem_pio2_308 : decode cJ11___ieee754_rem_pio2 308 = .ok (.dstore 5, 2) := dk_57 5 (dk_at dksJ11___ieee754_rem_pio2_13 0 rfl rfl)
theorem dJ11___ieee754_rem_pio2_310 : decode cJ11___ieee754_rem_pio2 310 = .ok (.dload 7, 2) := dk_24 7 (dk_at dksJ11___ieee754_rem_pio2_13 2 rfl rfl)
theorem dJ11___ieee754_rem_pio2_312 : decode cJ11___ieee754_rem_pio2 312 = .ok (.dload 5, 2) := dk_24 5 (dk_at dksJ11___ieee754_rem_pio2_13 4 rfl rfl)
theorem dJ11___ieee754_rem_pio2_314 : decode cJ11___ieee754_rem_pio2 314 = .ok (.dsub, 1) := dk_103 (dk_at dksJ11___ieee754_rem_pio2_13 6 rfl rfl)
theorem dJ11___ieee754_rem_pio2_315 : decode cJ11___ieee754_rem_pio2 315 = .ok (.dstore 9, 2) := dk_57 9 (dk_at dksJ11___ieee754_rem_pio2_13 7 rfl rfl)
theorem dJ11___ieee754_rem_pio2_317 : decode cJ11___ieee754_rem_pio2 317 = .ok (.dload 11, 2) := dk_24 11 (dk_at dksJ11___ieee754_rem_pio2_13 9 rfl rfl)
theorem dJ11___ieee754_rem_pio2_319 : decode cJ11___ieee754_rem_pio2 319 = .ok (.ldc2_w 25, 3) := dk_20 0 25 (dk_at dksJ11___ieee754_rem_pio2_13 11 rfl rfl)
theorem dJ11___ieee754_rem_pio2_322 : decode cJ11___ieee754_rem_pio2 322 = .ok (.dmul, 1) := dk_107 (dk_at dksJ11___ieee754_rem_pio2_13 14 rfl rfl)
theorem dJ11___ieee754_rem_pio2_323 : decode cJ11___ieee754_rem_pio2 323 = .ok (.dload 7, 2) := dk_24 7 (dk_at dksJ11___ieee754_rem_pio2_13 15 rfl rfl)
theorem dJ11___ieee754_rem_pio2_325 : decode cJ11___ieee754_rem_pio2 325 = .ok (.dload 9, 2) := dk_24 9 (dk_at dksJ11___ieee754_rem_pio2_13 17 rfl rfl)
theorem dJ11___ieee754_rem_pio2_327 : decode cJ11___ieee754_rem_pio2 327 = .ok (.dsub, 1) := dk_103 (dk_at dksJ11___ieee754_rem_pio2_13 19 rfl rfl)
theorem dJ11___ieee754_rem_pio2_328 : decode cJ11___ieee754_rem_pio2 328 = .ok (.dload 5, 2) := dk_24 5 (dk_at dksJ11___ieee754_rem_pio2_13 20 rfl rfl)
theorem dJ11___ieee754_rem_pio2_330 : decode cJ11___ieee754_rem_pio2 330 = .ok (.dsub, 1) := dk_103 (dk_at dksJ11___ieee754_rem_pio2_13 22 rfl rfl)
theorem dJ11___ieee754_rem_pio2_331 : decode cJ11___ieee754_rem_pio2 331 = .ok (.dsub, 1) := dk_103 (dk_at dksJ11___ieee754_rem_pio2_13 23 rfl rfl)
theorem dJ11___ieee754_rem_pio2_332 : decode cJ11___ieee754_rem_pio2 332 = .ok (.dstore 5, 2) := dk_57 5 (dk_at dksJ11___ieee754_rem_pio2_14 0 rfl rfl)
theorem dJ11___ieee754_rem_pio2_334 : decode cJ11___ieee754_rem_pio2 334 = .ok (.aload_n 2, 1) := dk_44 (dk_at dksJ11___ieee754_rem_pio2_14 2 rfl rfl)
theorem dJ11___ieee754_rem_pio2_335 : decode cJ11___ieee754_rem_pio2 335 = .ok (.iconst 0, 1) := dk_3 (dk_at dksJ11___ieee754_rem_pio2_14 3 rfl rfl)
theorem dJ11___ieee754_rem_pio2_336 : decode cJ11___ieee754_rem_pio2 336 = .ok (.dload 9, 2) := dk_24 9 (dk_at dksJ11___ieee754_rem_pio2_14 4 rfl rfl)
theorem dJ11___ieee754_rem_pio2_338 : decode cJ11___ieee754_rem_pio2 338 = .ok (.dload 5, 2) := dk_24 5 (dk_at dksJ11___ieee754_rem_pio2_14 6 rfl rfl)
theorem dJ11___ieee754_rem_pio2_340 : decode cJ11___ieee754_rem_pio2 340 = .ok (.dsub, 1) := dk_103 (dk_at dksJ11___ieee754_rem_pio2_14 8 rfl rfl)
theorem dJ11___ieee754_rem_pio2_341 : decode cJ11___ieee754_rem_pio2 341 = .ok (.dastore, 1) := dk_82 (dk_at dksJ11___ieee754_rem_pio2_14 9 rfl rfl)
theorem dJ11___ieee754_rem_pio2_342 : decode cJ11___ieee754_rem_pio2 342 = .ok (.iload 16, 2) := dk_21 16 (dk_at dksJ11___ieee754_rem_pio2_14 10 rfl rfl)
theorem dJ11___ieee754_rem_pio2_344 : decode cJ11___ieee754_rem_pio2 344 = .ok (.aload_n 2, 1) := dk_44 (dk_at dksJ11___ieee754_rem_pio2_14 12 rfl rfl)
theorem dJ11___ieee754_rem_pio2_345 : decode cJ11___ieee754_rem_pio2 345 = .ok (.iconst 0, 1) := dk_3 (dk_at dksJ11___ieee754_rem_pio2_14 13 rfl rfl)
theorem dJ11___ieee754_rem_pio2_346 : decode cJ11___ieee754_rem_pio2 346 = .ok (.daload, 1) := dk_49 (dk_at dksJ11___ieee754_rem_pio2_14 14 rfl rfl)
theorem dJ11___ieee754_rem_pio2_347 : decode cJ11___ieee754_rem_pio2 347 = .ok (.invokestatic 9, 3) := dk_184 0 9 (dk_at dksJ11___ieee754_rem_pio2_14 15 rfl rfl)
theorem dJ11___ieee754_rem_pio2_350 : decode cJ11___ieee754_rem_pio2 350 = .ok (.bipush 20, 2) := dk_16 20 (dk_at dksJ11___ieee754_rem_pio2_14 18 rfl rfl)
theorem dJ11___ieee754_rem_pio2_352 : decode cJ11___ieee754_rem_pio2 352 = .ok (.ishr, 1) := dk_122 (dk_at dksJ11___ieee754_rem_pio2_14 20 rfl rfl)
theorem dJ11___ieee754_rem_pio2_353 : decode cJ11___ieee754_rem_pio2 353 = .ok (.sipush 2047, 3) := dk_17 7 255 (dk_at dksJ11___ieee754_rem_pio2_14 21 rfl rfl)
theorem dJ11___ieee754_rem_pio2_356 : decode cJ11___ieee754_rem_pio2 356 = .ok (.iand, 1) := dk_126 (dk_at dksJ11___ieee754_rem_pio2_15 0 rfl rfl)
theorem dJ11___ieee754_rem_pio2_357 : decode cJ11___ieee754_rem_pio2 357 = .ok (.isub, 1) := dk_100 (dk_at dksJ11___ieee754_rem_pio2_15 1 rfl rfl)
theorem dJ11___ieee754_rem_pio2_358 : decode cJ11___ieee754_rem_pio2 358 = .ok (.istore 15, 2) := dk_54 15 (dk_at dksJ11___ieee754_rem_pio2_15 2 rfl rfl)
theorem dJ11___ieee754_rem_pio2_360 : decode cJ11___ieee754_rem_pio2 360 = .ok (.iload 15, 2) := dk_21 15 (dk_at dksJ11___ieee754_rem_pio2_15 4 rfl rfl)
theorem dJ11___ieee754_rem_pio2_362 : decode cJ11___ieee754_rem_pio2 362 = .ok (.bipush 49, 2) := dk_16 49 (dk_at dksJ11___ieee754_rem_pio2_15 6 rfl rfl)
theorem dJ11___ieee754_rem_pio2_364 : decode cJ11___ieee754_rem_pio2 364 = .ok (.if_icmp .le 47, 3) := dk_164 0 47 (dk_at dksJ11___ieee754_rem_pio2_15 8 rfl rfl)
theorem dJ11___ieee754_rem_pio2_367 : decode cJ11___ieee754_rem_pio2 367 = .ok (.dload 9, 2) := dk_24 9 (dk_at dksJ11___ieee754_rem_pio2_15 11 rfl rfl)
theorem dJ11___ieee754_rem_pio2_369 : decode cJ11___ieee754_rem_pio2 369 = .ok (.dstore 7, 2) := dk_57 7 (dk_at dksJ11___ieee754_rem_pio2_15 13 rfl rfl)
theorem dJ11___ieee754_rem_pio2_371 : decode cJ11___ieee754_rem_pio2 371 = .ok (.dload 11, 2) := dk_24 11 (dk_at dksJ11___ieee754_rem_pio2_15 15 rfl rfl)
theorem dJ11___ieee754_rem_pio2_373 : decode cJ11___ieee754_rem_pio2 373 = .ok (.ldc2_w 42, 3) := dk_20 0 42 (dk_at dksJ11___ieee754_rem_pio2_15 17 rfl rfl)
theorem dJ11___ieee754_rem_pio2_376 : decode cJ11___ieee754_rem_pio2 376 = .ok (.dmul, 1) := dk_107 (dk_at dksJ11___ieee754_rem_pio2_15 20 rfl rfl)
theorem dJ11___ieee754_rem_pio2_377 : decode cJ11___ieee754_rem_pio2 377 = .ok (.dstore 5, 2) := dk_57 5 (dk_at dksJ11___ieee754_rem_pio2_15 21 rfl rfl)
theorem dJ11___ieee754_rem_pio2_379 : decode cJ11___ieee754_rem_pio2 379 = .ok (.dload 7, 2) := dk_24 7 (dk_at dksJ11___ieee754_rem_pio2_16 0 rfl rfl)
theorem dJ11___ieee754_rem_pio2_381 : decode cJ11___ieee754_rem_pio2 381 = .ok (.dload 5, 2) := dk_24 5 (dk_at dksJ11___ieee754_rem_pio2_16 2 rfl rfl)
theorem dJ11___ieee754_rem_pio2_383 : decode cJ11___ieee754_rem_pio2 383 = .ok (.dsub, 1) := dk_103 (dk_at dksJ11___ieee754_rem_pio2_16 4 rfl rfl)
theorem dJ11___ieee754_rem_pio2_384 : decode cJ11___ieee754_rem_pio2 384 = .ok (.dstore 9, 2) := dk_57 9 (dk_at dksJ11___ieee754_rem_pio2_16 5 rfl rfl)
theorem dJ11___ieee754_rem_pio2_386 : decode cJ11___ieee754_rem_pio2 386 = .ok (.dload 11, 2) := dk_24 11 (dk_at dksJ11___ieee754_rem_pio2_16 7 rfl rfl)
theorem dJ11___ieee754_rem_pio2_388 : decode cJ11___ieee754_rem_pio2 388 = .ok (.ldc2_w 44, 3) := dk_20 0 44 (dk_at dksJ11___ieee754_rem_pio2_16 9 rfl rfl)
theorem dJ11___ieee754_rem_pio2_391 : decode cJ11___ieee754_rem_pio2 391 = .ok (.dmul, 1) := dk_107 (dk_at dksJ11___ieee754_rem_pio2_16 12 rfl rfl)
theorem dJ11___ieee754_rem_pio2_392 : decode cJ11___ieee754_rem_pio2 392 = .ok (.dload 7, 2) := dk_24 7 (dk_at dksJ11___ieee754_rem_pio2_16 13 rfl rfl)
theorem dJ11___ieee754_rem_pio2_394 : decode cJ11___ieee754_rem_pio2 394 = .ok (.dload 9, 2) := dk_24 9 (dk_at dksJ11___ieee754_rem_pio2_16 15 rfl rfl)
theorem dJ11___ieee754_rem_pio2_396 : decode cJ11___ieee754_rem_pio2 396 = .ok (.dsub, 1) := dk_103 (dk_at dksJ11___ieee754_rem_pio2_16 17 rfl rfl)
theorem dJ11___ieee754_rem_pio2_397 : decode cJ11___ieee754_rem_pio2 397 = .ok (.dload 5, 2) := dk_24 5 (dk_at dksJ11___ieee754_rem_pio2_16 18 rfl rfl)
theorem dJ11___ieee754_rem_pio2_399 : decode cJ11___ieee754_rem_pio2 399 = .ok (.dsub, 1) := dk_103 (dk_at dksJ11___ieee754_rem_pio2_16 20 rfl rfl)
theorem dJ11___ieee754_rem_pio2_400 : decode cJ11___ieee754_rem_pio2 400 = .ok (.dsub, 1) := dk_103 (dk_at dksJ11___ieee754_rem_pio2_16 21 rfl rfl)
theorem dJ11___ieee754_rem_pio2_401 : decode cJ11___ieee754_rem_pio2 401 = .ok (.dstore 5, 2) := dk_57 5 (dk_at dksJ11___ieee754_rem_pio2_16 22 rfl rfl)
theorem dJ11___ieee754_rem_pio2_403 : decode cJ11___ieee754_rem_pio2 403 = .ok (.aload_n 2, 1) := dk_44 (dk_at dksJ11___ieee754_rem_pio2_17 0 rfl rfl)
theorem dJ11___ieee754_rem_pio2_404 : decode cJ11___ieee754_rem_pio2 404 = .ok (.iconst 0, 1) := dk_3 (dk_at dksJ11___ieee754_rem_pio2_17 1 rfl rfl)
theorem dJ11___ieee754_rem_pio2_405 : decode cJ11___ieee754_rem_pio2 405 = .ok (.dload 9, 2) := dk_24 9 (dk_at dksJ11___ieee754_rem_pio2_17 2 rfl rfl)
theorem dJ11___ieee754_rem_pio2_407 : decode cJ11___ieee754_rem_pio2 407 = .ok (.dload 5, 2) := dk_24 5 (dk_at dksJ11___ieee754_rem_pio2_17 4 rfl rfl)
theorem dJ11___ieee754_rem_pio2_409 : decode cJ11___ieee754_rem_pio2 409 = .ok (.dsub, 1) := dk_103 (dk_at dksJ11___ieee754_rem_pio2_17 6 rfl rfl)
theorem dJ11___ieee754_rem_pio2_410 : decode cJ11___ieee754_rem_pio2 410 = .ok (.dastore, 1) := dk_82 (dk_at dksJ11___ieee754_rem_pio2_17 7 rfl rfl)
theorem dJ11___ieee754_rem_pio2_411 : decode cJ11___ieee754_rem_pio2 411 = .ok (.aload_n 2, 1) := dk_44 (dk_at dksJ11___ieee754_rem_pio2_17 8 rfl rfl)
theorem dJ11___ieee754_rem_pio2_412 : decode cJ11___ieee754_rem_pio2 412 = .ok (.iconst 1, 1) := dk_4 (dk_at dksJ11___ieee754_rem_pio2_17 9 rfl rfl)
theorem dJ11___ieee754_rem_pio2_413 : decode cJ11___ieee754_rem_pio2 413 = .ok (.dload 9, 2) := dk_24 9 (dk_at dksJ11___ieee754_rem_pio2_17 10 rfl rfl)
theorem dJ11___ieee754_rem_pio2_415 : decode cJ11___ieee754_rem_pio2 415 = .ok (.aload_n 2, 1) := dk_44 (dk_at dksJ11___ieee754_rem_pio2_17 12 rfl rfl)
theorem dJ11___ieee754_rem_pio2_416 : decode cJ11___ieee754_rem_pio2 416 = .ok (.iconst 0, 1) := dk_3 (dk_at dksJ11___ieee754_rem_pio2_17 13 rfl rfl)
theorem dJ11___ieee754_rem_pio2_417 : decode cJ11___ieee754_rem_pio2 417 = .ok (.daload, 1) := dk_49 (dk_at dksJ11___ieee754_rem_pio2_17 14 rfl rfl)
theorem dJ11___ieee754_rem_pio2_418 : decode cJ11___ieee754_rem_pio2 418 = .ok (.dsub, 1) := dk_103 (dk_at dksJ11___ieee754_rem_pio2_17 15 rfl rfl)
theorem dJ11___ieee754_rem_pio2_419 : decode cJ11___ieee754_rem_pio2 419 = .ok (.dload 5, 2) := dk_24 5 (dk_at dksJ11___ieee754_rem_pio2_17 16 rfl rfl)
theorem dJ11___ieee754_rem_pio2_421 : decode cJ11___ieee754_rem_pio2 421 = .ok (.dsub, 1) := dk_103 (dk_at dksJ11___ieee754_rem_pio2_17 18 rfl rfl)
theorem dJ11___ieee754_rem_pio2_422 : decode cJ11___ieee754_rem_pio2 422 = .ok (.dastore, 1) := dk_82 (dk_at dksJ11___ieee754_rem_pio2_17 19 rfl rfl)
theorem dJ11___ieee754_rem_pio2_423 : decode cJ11___ieee754_rem_pio2 423 = .ok (.iload 20, 2) := dk_21 20 (dk_at dksJ11___ieee754_rem_pio2_17 20 rfl rfl)
theorem dJ11___ieee754_rem_pio2_425 : decode cJ11___ieee754_rem_pio2 425 = .ok (.ifCond .ge 21, 3) := dk_156 0 21 (dk_at dksJ11___ieee754_rem_pio2_18 0 rfl rfl)
theorem dJ11___ieee754_rem_pio2_428 : decode cJ11___ieee754_rem_pio2 428 = .ok (.aload_n 2, 1) := dk_44 (dk_at dksJ11___ieee754_rem_pio2_18 3 rfl rfl)
theorem dJ11___ieee754_rem_pio2_429 : decode cJ11___ieee754_rem_pio2 429 = .ok (.iconst 0, 1) := dk_3 (dk_at dksJ11___ieee754_rem_pio2_18 4 rfl rfl)
theorem dJ11___ieee754_rem_pio2_430 : decode cJ11___ieee754_rem_pio2 430 = .ok (.aload_n 2, 1) := dk_44 (dk_at dksJ11___ieee754_rem_pio2_18 5 rfl rfl)
theorem dJ11___ieee754_rem_pio2_431 : decode cJ11___ieee754_rem_pio2 431 = .ok (.iconst 0, 1) := dk_3 (dk_at dksJ11___ieee754_rem_pio2_18 6 rfl rfl)
theorem dJ11___ieee754_rem_pio2_432 : decode cJ11___ieee754_rem_pio2 432 = .ok (.daload, 1) := dk_49 (dk_at dksJ11___ieee754_rem_pio2_18 7 rfl rfl)
theorem dJ11___ieee754_rem_pio2_433 : decode cJ11___ieee754_rem_pio2 433 = .ok (.dneg, 1) := dk_119 (dk_at dksJ11___ieee754_rem_pio2_18 8 rfl rfl)
theorem dJ11___ieee754_rem_pio2_434 : decode cJ11___ieee754_rem_pio2 434 = .ok (.dastore, 1) := dk_82 (dk_at dksJ11___ieee754_rem_pio2_18 9 rfl rfl)
theorem dJ11___ieee754_rem_pio2_435 : decode cJ11___ieee754_rem_pio2 435 = .ok (.aload_n 2, 1) := dk_44 (dk_at dksJ11___ieee754_rem_pio2_18 10 rfl rfl)
theorem dJ11___ieee754_rem_pio2_436 : decode cJ11___ieee754_rem_pio2 436 = .ok (.iconst 1, 1) := dk_4 (dk_at dksJ11___ieee754_rem_pio2_18 11 rfl rfl)
theorem dJ11___ieee754_rem_pio2_437 : decode cJ11___ieee754_rem_pio2 437 = .ok (.aload_n 2, 1) := dk_44 (dk_at dksJ11___ieee754_rem_pio2_18 12 rfl rfl)
theorem dJ11___ieee754_rem_pio2_438 : decode cJ11___ieee754_rem_pio2 438 = .ok (.iconst 1, 1) := dk_4 (dk_at dksJ11___ieee754_rem_pio2_18 13 rfl rfl)
theorem dJ11___ieee754_rem_pio2_439 : decode cJ11___ieee754_rem_pio2 439 = .ok (.daload, 1) := dk_49 (dk_at dksJ11___ieee754_rem_pio2_18 14 rfl rfl)
theorem dJ11___ieee754_rem_pio2_440 : decode cJ11___ieee754_rem_pio2 440 = .ok (.dneg, 1) := dk_119 (dk_at dksJ11___ieee754_rem_pio2_18 15 rfl rfl)
theorem dJ11___ieee754_rem_pio2_441 : decode cJ11___ieee754_rem_pio2 441 = .ok (.dastore, 1) := dk_82 (dk_at dksJ11___ieee754_rem_pio2_18 16 rfl rfl)
theorem dJ11___ieee754_rem_pio2_442 : decode cJ11___ieee754_rem_pio2 442 = .ok (.iload 18, 2) := dk_21 18 (dk_at dksJ11___ieee754_rem_pio2_18 17 rfl rfl)
theorem dJ11___ieee754_rem_pio2_444 : decode cJ11___ieee754_rem_pio2 444 = .ok (.ineg, 1) := dk_116 (dk_at dksJ11___ieee754_rem_pio2_18 19 rfl rfl)
theorem dJ11___ieee754_rem_pio2_445 : decode cJ11___ieee754_rem_pio2 445 = .ok (.ireturn, 1) := dk_172 (dk_at dksJ11___ieee754_rem_pio2_18 20 rfl rfl)
theorem dJ11___ieee754_rem_pio2_446 : decode cJ11___ieee754_rem_pio2 446 = .ok (.iload 18, 2) := dk_21 18 (dk_at dksJ11___ieee754_rem_pio2_18 21 rfl rfl)
theorem dJ11___ieee754_rem_pio2_448 : decode cJ11___ieee754_rem_pio2 448 = .ok (.ireturn, 1) := dk_172 (dk_at dksJ11___ieee754_rem_pio2_18 23 rfl rfl)
theorem dJ11___ieee754_rem_pio2_449 : decode cJ11___ieee754_rem_pio2 449 = .ok (.iload 19, 2) := dk_21 19 (dk_at dksJ11___ieee754_rem_pio2_19 0 rfl rfl)
theorem dJ11___ieee754_rem_pio2_451 : decode cJ11___ieee754_rem_pio2 451 = .ok (.ldc 46, 2) := dk_18 46 (dk_at dksJ11___ieee754_rem_pio2_19 2 rfl rfl)
theorem dJ11___ieee754_rem_pio2_453 : decode cJ11___ieee754_rem_pio2 453 = .ok (.if_icmp .lt 15, 3) := dk_161 0 15 (dk_at dksJ11___ieee754_rem_pio2_19 4 rfl rfl)
theorem dJ11___ieee754_rem_pio2_456 : decode cJ11___ieee754_rem_pio2 456 = .ok (.aload_n 2, 1) := dk_44 (dk_at dksJ11___ieee754_rem_pio2_19 7 rfl rfl)
theorem dJ11___ieee754_rem_pio2_457 : decode cJ11___ieee754_rem_pio2 457 = .ok (.iconst 0, 1) := dk_3 (dk_at dksJ11___ieee754_rem_pio2_19 8 rfl rfl)
theorem dJ11___ieee754_rem_pio2_458 : decode cJ11___ieee754_rem_pio2 458 = .ok (.aload_n 2, 1) := dk_44 (dk_at dksJ11___ieee754_rem_pio2_19 9 rfl rfl)
theorem dJ11___ieee754_rem_pio2_459 : decode cJ11___ieee754_rem_pio2 459 = .ok (.iconst 1, 1) := dk_4 (dk_at dksJ11___ieee754_rem_pio2_19 10 rfl rfl)
theorem dJ11___ieee754_rem_pio2_460 : decode cJ11___ieee754_rem_pio2 460 = .ok (.dload_n 0, 1) := dk_38 (dk_at dksJ11___ieee754_rem_pio2_19 11 rfl rfl)
theorem dJ11___ieee754_rem_pio2_461 : decode cJ11___ieee754_rem_pio2 461 = .ok (.dload_n 0, 1) := dk_38 (dk_at dksJ11___ieee754_rem_pio2_19 12 rfl rfl)
theorem dJ11___ieee754_rem_pio2_462 : decode cJ11___ieee754_rem_pio2 462 = .ok (.dsub, 1) := dk_103 (dk_at dksJ11___ieee754_rem_pio2_19 13 rfl rfl)
theorem dJ11___ieee754_rem_pio2_463 : decode cJ11___ieee754_rem_pio2 463 = .ok (.dup2_x2, 1) := dk_94 (dk_at dksJ11___ieee754_rem_pio2_19 14 rfl rfl)
theorem dJ11___ieee754_rem_pio2_464 : decode cJ11___ieee754_rem_pio2 464 = .ok (.dastore, 1) := dk_82 (dk_at dksJ11___ieee754_rem_pio2_19 15 rfl rfl)
theorem dJ11___ieee754_rem_pio2_465 : decode cJ11___ieee754_rem_pio2 465 = .ok (.dastore, 1) := dk_82 (dk_at dksJ11___ieee754_rem_pio2_19 16 rfl rfl)
theorem dJ11___ieee754_rem_pio2_466 : decode cJ11___ieee754_rem_pio2 466 = .ok (.iconst 0, 1) := dk_3 (dk_at dksJ11___ieee754_rem_pio2_19 17 rfl rfl)
theorem dJ11___ieee754_rem_pio2_467 : decode cJ11___ieee754_rem_pio2 467 = .ok (.ireturn, 1) := dk_172 (dk_at dksJ11___ieee754_rem_pio2_19 18 rfl rfl)
theorem dJ11___ieee754_rem_pio2_468 : decode cJ11___ieee754_rem_pio2 468 = .ok (.dload_n 3, 1) := dk_41 (dk_at dksJ11___ieee754_rem_pio2_19 19 rfl rfl)
theorem dJ11___ieee754_rem_pio2_469 : decode cJ11___ieee754_rem_pio2 469 = .ok (.dload_n 0, 1) := dk_38 (dk_at dksJ11___ieee754_rem_pio2_19 20 rfl rfl)
theorem dJ11___ieee754_rem_pio2_470 : decode cJ11___ieee754_rem_pio2 470 = .ok (.invokestatic 47, 3) := dk_184 0 47 (dk_at dksJ11___ieee754_rem_pio2_19 21 rfl rfl)
theorem dJ11___ieee754_rem_pio2_473 : decode cJ11___ieee754_rem_pio2 473 = .ok (.invokestatic 50, 3) := dk_184 0 50 (dk_at dksJ11___ieee754_rem_pio2_20 0 rfl rfl)
theorem dJ11___ieee754_rem_pio2_476 : decode cJ11___ieee754_rem_pio2 476 = .ok (.dstore_n 3, 1) := dk_74 (dk_at dksJ11___ieee754_rem_pio2_20 3 rfl rfl)
theorem dJ11___ieee754_rem_pio2_477 : decode cJ11___ieee754_rem_pio2 477 = .ok (.iload 19, 2) := dk_21 19 (dk_at dksJ11___ieee754_rem_pio2_20 4 rfl rfl)
theorem dJ11___ieee754_rem_pio2_479 : decode cJ11___ieee754_rem_pio2 479 = .ok (.bipush 20, 2) := dk_16 20 (dk_at dksJ11___ieee754_rem_pio2_20 6 rfl rfl)
theorem dJ11___ieee754_rem_pio2_481 : decode cJ11___ieee754_rem_pio2 481 = .ok (.ishr, 1) := dk_122 (dk_at dksJ11___ieee754_rem_pio2_20 8 rfl rfl)
theorem dJ11___ieee754_rem_pio2_482 : decode cJ11___ieee754_rem_pio2 482 = .ok (.sipush 1046, 3) := dk_17 4 22 (dk_at dksJ11___ieee754_rem_pio2_20 9 rfl rfl)
theorem dJ11___ieee754_rem_pio2_485 : decode cJ11___ieee754_rem_pio2 485 = .ok (.isub, 1) := dk_100 (dk_at dksJ11___ieee754_rem_pio2_20 12 rfl rfl)
theorem dJ11___ieee754_rem_pio2_486 : decode cJ11___ieee754_rem_pio2 486 = .ok (.istore 14, 2) := dk_54 14 (dk_at dksJ11___ieee754_rem_pio2_20 13 rfl rfl)
theorem dJ11___ieee754_rem_pio2_488 : decode cJ11___ieee754_rem_pio2 488 = .ok (.dload_n 3, 1) := dk_41 (dk_at dksJ11___ieee754_rem_pio2_20 15 rfl rfl)
theorem dJ11___ieee754_rem_pio2_489 : decode cJ11___ieee754_rem_pio2 489 = .ok (.iload 19, 2) := dk_21 19 (dk_at dksJ11___ieee754_rem_pio2_20 16 rfl rfl)
theorem dJ11___ieee754_rem_pio2_491 : decode cJ11___ieee754_rem_pio2 491 = .ok (.iload 14, 2) := dk_21 14 (dk_at dksJ11___ieee754_rem_pio2_20 18 rfl rfl)
theorem dJ11___ieee754_rem_pio2_493 : decode cJ11___ieee754_rem_pio2 493 = .ok (.bipush 20, 2) := dk_16 20 (dk_at dksJ11___ieee754_rem_pio2_20 20 rfl rfl)
theorem dJ11___ieee754_rem_pio2_495 : decode cJ11___ieee754_rem_pio2 495 = .ok (.ishl, 1) := dk_120 (dk_at dksJ11___ieee754_rem_pio2_20 22 rfl rfl)
theorem dJ11___ieee754_rem_pio2_496 : decode cJ11___ieee754_rem_pio2 496 = .ok (.isub, 1) := dk_100 (dk_at dksJ11___ieee754_rem_pio2_20 23 rfl rfl)
theorem dJ11___ieee754_rem_pio2_497 : decode cJ11___ieee754_rem_pio2 497 = .ok (.invokestatic 53, 3) := dk_184 0 53 (dk_at dksJ11___ieee754_rem_pio2_21 0 rfl rfl)
theorem dJ11___ieee754_rem_pio2_500 : decode cJ11___ieee754_rem_pio2 500 = .ok (.dstore_n 3, 1) := dk_74 (dk_at dksJ11___ieee754_rem_pio2_21 3 rfl rfl)
theorem dJ11___ieee754_rem_pio2_501 : decode cJ11___ieee754_rem_pio2 501 = .ok (.iconst 0, 1) := dk_3 (dk_at dksJ11___ieee754_rem_pio2_21 4 rfl rfl)
theorem dJ11___ieee754_rem_pio2_502 : decode cJ11___ieee754_rem_pio2 502 = .ok (.istore 15, 2) := dk_54 15 (dk_at dksJ11___ieee754_rem_pio2_21 5 rfl rfl)
theorem dJ11___ieee754_rem_pio2_504 : decode cJ11___ieee754_rem_pio2 504 = .ok (.iload 15, 2) := dk_21 15 (dk_at dksJ11___ieee754_rem_pio2_21 7 rfl rfl)
theorem dJ11___ieee754_rem_pio2_506 : decode cJ11___ieee754_rem_pio2 506 = .ok (.iconst 2, 1) := dk_5 (dk_at dksJ11___ieee754_rem_pio2_21 9 rfl rfl)
theorem dJ11___ieee754_rem_pio2_507 : decode cJ11___ieee754_rem_pio2 507 = .ok (.if_icmp .ge 29, 3) := dk_162 0 29 (dk_at dksJ11___ieee754_rem_pio2_21 10 rfl rfl)
theorem dJ11___ieee754_rem_pio2_510 : decode cJ11___ieee754_rem_pio2 510 = .ok (.aload 13, 2) := dk_25 13 (dk_at dksJ11___ieee754_rem_pio2_21 13 rfl rfl)
theorem dJ11___ieee754_rem_pio2_512 : decode cJ11___ieee754_rem_pio2 512 = .ok (.iload 15, 2) := dk_21 15 (dk_at dksJ11___ieee754_rem_pio2_21 15 rfl rfl)
theorem dJ11___ieee754_rem_pio2_514 : decode cJ11___ieee754_rem_pio2 514 = .ok (.dload_n 3, 1) := dk_41 (dk_at dksJ11___ieee754_rem_pio2_21 17 rfl rfl)
theorem dJ11___ieee754_rem_pio2_515 : decode cJ11___ieee754_rem_pio2 515 = .ok (.d2i, 1) := dk_142 (dk_at dksJ11___ieee754_rem_pio2_21 18 rfl rfl)
theorem dJ11___ieee754_rem_pio2_516 : decode cJ11___ieee754_rem_pio2 516 = .ok (.i2d, 1) := dk_135 (dk_at dksJ11___ieee754_rem_pio2_21 19 rfl rfl)
theorem dJ11___ieee754_rem_pio2_517 : decode cJ11___ieee754_rem_pio2 517 = .ok (.dastore, 1) := dk_82 (dk_at dksJ11___ieee754_rem_pio2_21 20 rfl rfl)
theorem dJ11___ieee754_rem_pio2_518 : decode cJ11___ieee754_rem_pio2 518 = .ok (.dload_n 3, 1) := dk_41 (dk_at dksJ11___ieee754_rem_pio2_21 21 rfl rfl)
theorem dJ11___ieee754_rem_pio2_519 : decode cJ11___ieee754_rem_pio2 519 = .ok (.aload 13, 2) := dk_25 13 (dk_at dksJ11___ieee754_rem_pio2_21 22 rfl rfl)
theorem dJ11___ieee754_rem_pio2_521 : decode cJ11___ieee754_rem_pio2 521 = .ok (.iload 15, 2) := dk_21 15 (dk_at dksJ11___ieee754_rem_pio2_22 0 rfl rfl)
theorem dJ11___ieee754_rem_pio2_523 : decode cJ11___ieee754_rem_pio2 523 = .ok (.daload, 1) := dk_49 (dk_at dksJ11___ieee754_rem_pio2_22 2 rfl rfl)
theorem dJ11___ieee754_rem_pio2_524 : decode cJ11___ieee754_rem_pio2 524 = .ok (.dsub, 1) := dk_103 (dk_at dksJ11___ieee754_rem_pio2_22 3 rfl rfl)
theorem dJ11___ieee754_rem_pio2_525 : decode cJ11___ieee754_rem_pio2 525 = .ok (.ldc2_w 55, 3) := dk_20 0 55 (dk_at dksJ11___ieee754_rem_pio2_22 4 rfl rfl)
theorem dJ11___ieee754_rem_pio2_528 : decode cJ11___ieee754_rem_pio2 528 = .ok (.dmul, 1) := dk_107 (dk_at dksJ11___ieee754_rem_pio2_22 7 rfl rfl)
theorem dJ11___ieee754_rem_pio2_529 : decode cJ11___ieee754_rem_pio2 529 = .ok (.dstore_n 3, 1) := dk_74 (dk_at dksJ11___ieee754_rem_pio2_22 8 rfl rfl)
theorem dJ11___ieee754_rem_pio2_530 : decode cJ11___ieee754_rem_pio2 530 = .ok (.iinc 15 1, 3) := dk_132 15 1 (dk_at dksJ11___ieee754_rem_pio2_22 9 rfl rfl)
theorem dJ11___ieee754_rem_pio2_533 : decode cJ11___ieee754_rem_pio2 533 = .ok (.goto (-29), 3) := dk_167 255 227 (dk_at dksJ11___ieee754_rem_pio2_22 12 rfl rfl)
theorem dJ11___ieee754_rem_pio2_536 : decode cJ11___ieee754_rem_pio2 536 = .ok (.aload 13, 2) := dk_25 13 (dk_at dksJ11___ieee754_rem_pio2_22 15 rfl rfl)
theorem dJ11___ieee754_rem_pio2_538 : decode cJ11___ieee754_rem_pio2 538 = .ok (.iconst 2, 1) := dk_5 (dk_at dksJ11___ieee754_rem_pio2_22 17 rfl rfl)
theorem dJ11___ieee754_rem_pio2_539 : decode cJ11___ieee754_rem_pio2 539 = .ok (.dload_n 3, 1) := dk_41 (dk_at dksJ11___ieee754_rem_pio2_22 18 rfl rfl)
theorem dJ11___ieee754_rem_pio2_540 : decode cJ11___ieee754_rem_pio2 540 = .ok (.dastore, 1) := dk_82 (dk_at dksJ11___ieee754_rem_pio2_22 19 rfl rfl)
theorem dJ11___ieee754_rem_pio2_541 : decode cJ11___ieee754_rem_pio2 541 = .ok (.iconst 3, 1) := dk_6 (dk_at dksJ11___ieee754_rem_pio2_22 20 rfl rfl)
theorem dJ11___ieee754_rem_pio2_542 : decode cJ11___ieee754_rem_pio2 542 = .ok (.istore 17, 2) := dk_54 17 (dk_at dksJ11___ieee754_rem_pio2_22 21 rfl rfl)
theorem dJ11___ieee754_rem_pio2_544 : decode cJ11___ieee754_rem_pio2 544 = .ok (.aload 13, 2) := dk_25 13 (dk_at dksJ11___ieee754_rem_pio2_23 0 rfl rfl)
theorem dJ11___ieee754_rem_pio2_546 : decode cJ11___ieee754_rem_pio2 546 = .ok (.iload 17, 2) := dk_21 17 (dk_at dksJ11___ieee754_rem_pio2_23 2 rfl rfl)
theorem dJ11___ieee754_rem_pio2_548 : decode cJ11___ieee754_rem_pio2 548 = .ok (.iconst 1, 1) := dk_4 (dk_at dksJ11___ieee754_rem_pio2_23 4 rfl rfl)
theorem dJ11___ieee754_rem_pio2_549 : decode cJ11___ieee754_rem_pio2 549 = .ok (.isub, 1) := dk_100 (dk_at dksJ11___ieee754_rem_pio2_23 5 rfl rfl)
theorem dJ11___ieee754_rem_pio2_550 : decode cJ11___ieee754_rem_pio2 550 = .ok (.daload, 1) := dk_49 (dk_at dksJ11___ieee754_rem_pio2_23 6 rfl rfl)
theorem dJ11___ieee754_rem_pio2_551 : decode cJ11___ieee754_rem_pio2 551 = .ok (.dconst 0, 1) := dk_14 (dk_at dksJ11___ieee754_rem_pio2_23 7 rfl rfl)
theorem dJ11___ieee754_rem_pio2_552 : decode cJ11___ieee754_rem_pio2 552 = .ok (.dcmp .l, 1) := dk_151 (dk_at dksJ11___ieee754_rem_pio2_23 8 rfl rfl)
theorem dJ11___ieee754_rem_pio2_553 : decode cJ11___ieee754_rem_pio2 553 = .ok (.ifCond .ne 9, 3) := dk_154 0 9 (dk_at dksJ11___ieee754_rem_pio2_23 9 rfl rfl)
theorem dJ11___ieee754_rem_pio2_556 : decode cJ11___ieee754_rem_pio2 556 = .ok (.iinc 17 (-1), 3) := dk_132 17 255 (dk_at dksJ11___ieee754_rem_pio2_23 12 rfl rfl)
theorem dJ11___ieee754_rem_pio2_559 : decode cJ11___ieee754_rem_pio2 559 = .ok (.goto (-15), 3) := dk_167 255 241 (dk_at dksJ11___ieee754_rem_pio2_23 15 rfl rfl)
theorem dJ11___ieee754_rem_pio2_562 : decode cJ11___ieee754_rem_pio2 562 = .ok (.aload 13, 2) := dk_25 13 (dk_at dksJ11___ieee754_rem_pio2_23 18 rfl rfl)
theorem dJ11___ieee754_rem_pio2_564 : decode cJ11___ieee754_rem_pio2 564 = .ok (.aload_n 2, 1) := dk_44 (dk_at dksJ11___ieee754_rem_pio2_23 20 rfl rfl)
theorem dJ11___ieee754_rem_pio2_565 : decode cJ11___ieee754_rem_pio2 565 = .ok (.iload 14, 2) := dk_21 14 (dk_at dksJ11___ieee754_rem_pio2_23 21 rfl rfl)
theorem dJ11___ieee754_rem_pio2_567 : decode cJ11___ieee754_rem_pio2 567 = .ok (.iload 17, 2) := dk_21 17 (dk_at dksJ11___ieee754_rem_pio2_24 0 rfl rfl)
theorem dJ11___ieee754_rem_pio2_569 : decode cJ11___ieee754_rem_pio2 569 = .ok (.iconst 2, 1) := dk_5 (dk_at dksJ11___ieee754_rem_pio2_24 2 rfl rfl)
theorem dJ11___ieee754_rem_pio2_570 : decode cJ11___ieee754_rem_pio2 570 = .ok (.getstatic 57, 3) := dk_178 0 57 (dk_at dksJ11___ieee754_rem_pio2_24 3 rfl rfl)
theorem dJ11___ieee754_rem_pio2_573 : decode cJ11___ieee754_rem_pio2 573 = .ok (.invokestatic 60, 3) := dk_184 0 60 (dk_at dksJ11___ieee754_rem_pio2_24 6 rfl rfl)
theorem dJ11___ieee754_rem_pio2_576 : decode cJ11___ieee754_rem_pio2 576 = .ok (.istore 18, 2) := dk_54 18 (dk_at dksJ11___ieee754_rem_pio2_24 9 rfl rfl)
theorem dJ11___ieee754_rem_pio2_578 : decode cJ11___ieee754_rem_pio2 578 = .ok (.iload 20, 2) := dk_21 20 (dk_at dksJ11___ieee754_rem_pio2_24 11 rfl rfl)
theorem dJ11___ieee754_rem_pio2_580 : decode cJ11___ieee754_rem_pio2 580 = .ok (.ifCond .ge 21, 3) := dk_156 0 21 (dk_at dksJ11___ieee754_rem_pio2_24 13 rfl rfl)
theorem dJ11___ieee754_rem_pio2_583 : decode cJ11___ieee754_rem_pio2 583 = .ok (.aload_n 2, 1) := dk_44 (dk_at dksJ11___ieee754_rem_pio2_24 16 rfl rfl)
theorem dJ11___ieee754_rem_pio2_584 : decode cJ11___ieee754_rem_pio2 584 = .ok (.iconst 0, 1) := dk_3 (dk_at dksJ11___ieee754_rem_pio2_24 17 rfl rfl)
theorem dJ11___ieee754_rem_pio2_585 : decode cJ11___ieee754_rem_pio2 585 = .ok (.aload_n 2, 1) := dk_44 (dk_at dksJ11___ieee754_rem_pio2_24 18 rfl rfl)
theorem dJ11___ieee754_rem_pio2_586 : decode cJ11___ieee754_rem_pio2 586 = .ok (.iconst 0, 1) := dk_3 (dk_at dksJ11___ieee754_rem_pio2_24 19 rfl rfl)
theorem dJ11___ieee754_rem_pio2_587 : decode cJ11___ieee754_rem_pio2 587 = .ok (.daload, 1) := dk_49 (dk_at dksJ11___ieee754_rem_pio2_24 20 rfl rfl)
theorem dJ11___ieee754_rem_pio2_588 : decode cJ11___ieee754_rem_pio2 588 = .ok (.dneg, 1) := dk_119 (dk_at dksJ11___ieee754_rem_pio2_24 21 rfl rfl)
theorem dJ11___ieee754_rem_pio2_589 : decode cJ11___ieee754_rem_pio2 589 = .ok (.dastore, 1) := dk_82 (dk_at dksJ11___ieee754_rem_pio2_24 22 rfl rfl)
theorem dJ11___ieee754_rem_pio2_590 : decode cJ11___ieee754_rem_pio2 590 = .ok (.aload_n 2, 1) := dk_44 (dk_at dksJ11___ieee754_rem_pio2_24 23 rfl rfl)
theorem dJ11___ieee754_rem_pio2_591 : decode cJ11___ieee754_rem_pio2 591 = .ok (.iconst 1, 1) := dk_4 (dk_at dksJ11___ieee754_rem_pio2_25 0 rfl rfl)
theorem dJ11___ieee754_rem_pio2_592 : decode cJ11___ieee754_rem_pio2 592 = .ok (.aload_n 2, 1) := dk_44 (dk_at dksJ11___ieee754_rem_pio2_25 1 rfl rfl)
theorem dJ11___ieee754_rem_pio2_593 : decode cJ11___ieee754_rem_pio2 593 = .ok (.iconst 1, 1) := dk_4 (dk_at dksJ11___ieee754_rem_pio2_25 2 rfl rfl)
theorem dJ11___ieee754_rem_pio2_594 : decode cJ11___ieee754_rem_pio2 594 = .ok (.daload, 1) := dk_49 (dk_at dksJ11___ieee754_rem_pio2_25 3 rfl rfl)
theorem dJ11___ieee754_rem_pio2_595 : decode cJ11___ieee754_rem_pio2 595 = .ok (.dneg, 1) := dk_119 (dk_at dksJ11___ieee754_rem_pio2_25 4 rfl rfl)
theorem dJ11___ieee754_rem_pio2_596 : decode cJ11___ieee754_rem_pio2 596 = .ok (.dastore, 1) := dk_82 (dk_at dksJ11___ieee754_rem_pio2_25 5 rfl rfl)
theorem dJ11___ieee754_rem_pio2_597 : decode cJ11___ieee754_rem_pio2 597 = .ok (.iload 18, 2) := dk_21 18 (dk_at dksJ11___ieee754_rem_pio2_25 6 rfl rfl)
theorem dJ11___ieee754_rem_pio2_599 : decode cJ11___ieee754_rem_pio2 599 = .ok (.ineg, 1) := dk_116 (dk_at dksJ11___ieee754_rem_pio2_25 8 rfl rfl)
theorem dJ11___ieee754_rem_pio2_600 : decode cJ11___ieee754_rem_pio2 600 = .ok (.ireturn, 1) := dk_172 (dk_at dksJ11___ieee754_rem_pio2_25 9 rfl rfl)
theorem dJ11___ieee754_rem_pio2_601 : decode cJ11___ieee754_rem_pio2 601 = .ok (.iload 18, 2) := dk_21 18 (dk_at dksJ11___ieee754_rem_pio2_25 10 rfl rfl)
theorem dJ11___ieee754_rem_pio2_603 : decode cJ11___ieee754_rem_pio2 603 = .ok (.ireturn, 1) := dk_172 (dk_at dksJ11___ieee754_rem_pio2_25 12 rfl rfl)
theorem q52 : (Jvm.Cond.initialized "java/lang/FdLibm$RemPio2") ∈ lw_all := lw_g (lw_at lw_m1 13 rfl) rfl
theorem q200 : (Jvm.Cond.static ({ cls := "java/lang/FdLibm$RemPio2", name := "__ieee754_rem_pio2", desc := "(D[D)I" } : Jvm.MethodName)) ∈ lw_all := lw_g (lw_at lw_m1 161 rfl) rfl
theorem q201 : (Jvm.Cond.code ({ cls := "java/lang/FdLibm$RemPio2", name := "__ieee754_rem_pio2", desc := "(D[D)I" } : Jvm.MethodName) prog_14_method_2_code (21 : Nat) (Option.some Jvm.ClassFile.FieldType.int)) ∈ lw_all := lw_g (lw_at lw_m1 162 rfl) rfl
theorem q202 : (Jvm.Cond.methodLinkNest "java/lang/FdLibm$RemPio2" (9 : Nat) ({ cls := "java/lang/FdLibm", name := "__HI", desc := "(D)I" } : Jvm.MethodName) "java/lang/FdLibm") ∈ lw_tbl := lw_at lw_m1 163 rfl
theorem q203 : (Jvm.Cond.constant "java/lang/FdLibm$RemPio2" (13 : Nat) (2147483647 : Int32)) ∈ lw_all := lw_g (lw_at lw_m1 164 rfl) rfl
theorem q204 : (Jvm.Cond.constant "java/lang/FdLibm$RemPio2" (14 : Nat) (1072243195 : Int32)) ∈ lw_all := lw_g (lw_at lw_m1 165 rfl) rfl
theorem q205 : (Jvm.Cond.constant "java/lang/FdLibm$RemPio2" (15 : Nat) (1073928572 : Int32)) ∈ lw_all := lw_g (lw_at lw_m1 166 rfl) rfl
theorem q206 : (Jvm.Cond.constantDouble "java/lang/FdLibm$RemPio2" (18 : Nat) (4609753056924401664 : UInt64)) ∈ lw_all := lw_g (lw_at lw_m1 167 rfl) rfl
theorem q207 : (Jvm.Cond.constant "java/lang/FdLibm$RemPio2" (20 : Nat) (1073291771 : Int32)) ∈ lw_all := lw_g (lw_at lw_m1 168 rfl) rfl
theorem q208 : (Jvm.Cond.constantDouble "java/lang/FdLibm$RemPio2" (21 : Nat) (4454258360616903473 : UInt64)) ∈ lw_all := lw_g (lw_at lw_m1 169 rfl) rfl
theorem q209 : (Jvm.Cond.constantDouble "java/lang/FdLibm$RemPio2" (23 : Nat) (4454258360616747008 : UInt64)) ∈ lw_all := lw_g (lw_at lw_m1 170 rfl) rfl
theorem q210 : (Jvm.Cond.constantDouble "java/lang/FdLibm$RemPio2" (25 : Nat) (4297306550709743731 : UInt64)) ∈ lw_all := lw_g (lw_at lw_m1 171 rfl) rfl
theorem q211 : (Jvm.Cond.constant "java/lang/FdLibm$RemPio2" (27 : Nat) (1094263291 : Int32)) ∈ lw_all := lw_g (lw_at lw_m1 172 rfl) rfl
theorem q212 : (Jvm.Cond.methodLink "java/lang/FdLibm$RemPio2" (28 : Nat) ({ cls := "java/lang/Math", name := "abs", desc := "(D)D" } : Jvm.MethodName)) ∈ lw_all := lw_g (lw_at lw_m1 173 rfl) rfl
theorem q220 : (Jvm.Cond.constantDouble "java/lang/FdLibm$RemPio2" (34 : Nat) (4603909380684499075 : UInt64)) ∈ lw_all := lw_g (lw_at lw_m1 181 rfl) rfl
theorem q221 : (Jvm.Cond.constantDouble "java/lang/FdLibm$RemPio2" (36 : Nat) (4602678819172646912 : UInt64)) ∈ lw_all := lw_g (lw_at lw_m1 182 rfl) rfl
theorem q222 : (Jvm.Cond.fieldLink "java/lang/FdLibm$RemPio2" (38 : Nat) "java/lang/FdLibm$RemPio2" "npio2_hw" "[I") ∈ lw_all := lw_g (lw_at lw_m1 183 rfl) rfl
theorem q223 : (Jvm.Cond.laysStatic "java/lang/FdLibm$RemPio2" "npio2_hw" "[I") ∈ lw_tbl := lw_at lw_m1 184 rfl
theorem q224 : (Jvm.Cond.constantDouble "java/lang/FdLibm$RemPio2" (42 : Nat) (4297306550709518336 : UInt64)) ∈ lw_all := lw_g (lw_at lw_m1 185 rfl) rfl
theorem q225 : (Jvm.Cond.constantDouble "java/lang/FdLibm$RemPio2" (44 : Nat) (4142048980368378305 : UInt64)) ∈ lw_all := lw_g (lw_at lw_m1 186 rfl) rfl
theorem q226 : (Jvm.Cond.constant "java/lang/FdLibm$RemPio2" (46 : Nat) (2146435072 : Int32)) ∈ lw_all := lw_g (lw_at lw_m1 187 rfl) rfl
theorem q227 : (Jvm.Cond.methodLinkNest "java/lang/FdLibm$RemPio2" (47 : Nat) ({ cls := "java/lang/FdLibm", name := "__LO", desc := "(D)I" } : Jvm.MethodName) "java/lang/FdLibm") ∈ lw_tbl := lw_at lw_m1 188 rfl
theorem q230 : (Jvm.Cond.methodLinkNest "java/lang/FdLibm$RemPio2" (50 : Nat) ({ cls := "java/lang/FdLibm", name := "__LO", desc := "(DI)D" } : Jvm.MethodName) "java/lang/FdLibm") ∈ lw_tbl := lw_at lw_m1 191 rfl
theorem q236 : (Jvm.Cond.methodLinkNest "java/lang/FdLibm$RemPio2" (53 : Nat) ({ cls := "java/lang/FdLibm", name := "__HI", desc := "(DI)D" } : Jvm.MethodName) "java/lang/FdLibm") ∈ lw_tbl := lw_at lw_m1 197 rfl
theorem q239 : (Jvm.Cond.constantDouble "java/lang/FdLibm$RemPio2" (55 : Nat) (4715268809856909312 : UInt64)) ∈ lw_all := lw_g (lw_at lw_m1 200 rfl) rfl
theorem q240 : (Jvm.Cond.fieldLink "java/lang/FdLibm$RemPio2" (57 : Nat) "java/lang/FdLibm$RemPio2" "two_over_pi" "[I") ∈ lw_all := lw_g (lw_at lw_m1 201 rfl) rfl
theorem q241 : (Jvm.Cond.laysStatic "java/lang/FdLibm$RemPio2" "two_over_pi" "[I") ∈ lw_tbl := lw_at lw_m1 202 rfl
theorem q242 : (Jvm.Cond.methodLink "java/lang/FdLibm$RemPio2" (60 : Nat) ({ cls := "java/lang/FdLibm$KernelRemPio2", name := "__kernel_rem_pio2", desc := "([D[DIII[I)I" } : Jvm.MethodName)) ∈ lw_all := lw_g (lw_at lw_m1 203 rfl) rfl
