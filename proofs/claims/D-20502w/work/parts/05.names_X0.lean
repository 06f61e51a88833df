/-! the law's own entry -/
set_option maxRecDepth 100000
abbrev cL_law : ByteArray := code
theorem dL_law_0 : decode cL_law 0 = .ok (.aload_n 0, 1) := by decide +kernel
theorem dL_law_1 : decode cL_law 1 = .ok (.invokestatic 348, 3) := by decide +kernel
theorem dL_law_4 : decode cL_law 4 = .ok (.ireturn, 1) := by decide +kernel
/-! AnglewheelLaw -/
set_option maxRecDepth 100000
def RX0 : String := "AnglewheelLaw"
def TX0 : u_T := fun k => match k with
  | _ => ("AnglewheelLaw", "o", "LAnglewheel;", true)
def tyX0 : Nat → FieldType := fun k => match k with
  | _ => .object "Anglewheel"
abbrev wsX00 : List Cond := u_ws RX0 TX0 1
theorem nmX0 : ∀ a, a < 1 → ∀ b, b < 1 → a ≠ b → (TX0 a).2.1 ≠ (TX0 b).2.1 := by decide +kernel
theorem tyX0_ok : ∀ k, k < 1 → parseFieldDescriptor (TX0 k).2.2.1 = some (tyX0 k) := by decide +kernel
abbrev cX0_told : ByteArray := method_30_code
def yX0_told : MethodName := ⟨RX0, "told", "([I)Z"⟩
def dkwX0_told_0 : List UInt8 := [187, 0, 11, 89, 183, 1, 95, 42, 182, 1, 96, 172, 76, 3, 172, 76, 3, 172]
abbrev dktX0_told_0 : List UInt8 := dkwX0_told_0 ++ []
theorem dksX0_told_0 : cX0_told.data.toList.drop 0 = dktX0_told_0 := by decide +kernel
theorem dX0_told_0 : decode cX0_told 0 = .ok (.new 11, 3) := dk_187 0 11 (dk_at dksX0_told_0 0 rfl rfl)
theorem dX0_told_3 : decode cX0_told 3 = .ok (.dup, 1) := dk_89 (dk_at dksX0_told_0 3 rfl rfl)
theorem dX0_told_4 : decode cX0_told 4 = .ok (.invokespecial 351, 3) := dk_183 1 95 (dk_at dksX0_told_0 4 rfl rfl)
theorem dX0_told_7 : decode cX0_told 7 = .ok (.aload_n 0, 1) := dk_42 (dk_at dksX0_told_0 7 rfl rfl)
theorem dX0_told_8 : decode cX0_told 8 = .ok (.invokevirtual 352, 3) := dk_182 1 96 (dk_at dksX0_told_0 8 rfl rfl)
theorem dX0_told_11 : decode cX0_told 11 = .ok (.ireturn, 1) := dk_172 (dk_at dksX0_told_0 11 rfl rfl)
theorem dX0_told_12 : decode cX0_told 12 = .ok (.astore_n 1, 1) := dk_76 (dk_at dksX0_told_0 12 rfl rfl)
theorem dX0_told_13 : decode cX0_told 13 = .ok (.iconst 0, 1) := dk_3 (dk_at dksX0_told_0 13 rfl rfl)
theorem dX0_told_14 : decode cX0_told 14 = .ok (.ireturn, 1) := dk_172 (dk_at dksX0_told_0 14 rfl rfl)
theorem dX0_told_15 : decode cX0_told 15 = .ok (.astore_n 1, 1) := dk_76 (dk_at dksX0_told_0 15 rfl rfl)
theorem dX0_told_16 : decode cX0_told 16 = .ok (.iconst 0, 1) := dk_3 (dk_at dksX0_told_0 16 rfl rfl)
theorem dX0_told_17 : decode cX0_told 17 = .ok (.ireturn, 1) := dk_172 (dk_at dksX0_told_0 17 rfl rfl)
abbrev cX0_init : ByteArray := method_1_code
def yX0_init : MethodName := ⟨RX0, "<init>", "()V"⟩
def dkwX0_init_0 : List UInt8 := [42, 183, 0, 1, 42, 187, 0, 7, 89, 183, 0, 9, 181, 0, 10, 177]
abbrev dktX0_init_0 : List UInt8 := dkwX0_init_0 ++ []
theorem dksX0_init_0 : cX0_init.data.toList.drop 0 = dktX0_init_0 := by decide +kernel
theorem dX0_init_0 : decode cX0_init 0 = .ok (.aload_n 0, 1) := dk_42 (dk_at dksX0_init_0 0 rfl rfl)
theorem dX0_init_1 : decode cX0_init 1 = .ok (.invokespecial 1, 3) := dk_183 0 1 (dk_at dksX0_init_0 1 rfl rfl)
theorem dX0_init_4 : decode cX0_init 4 = .ok (.aload_n 0, 1) := dk_42 (dk_at dksX0_init_0 4 rfl rfl)
theorem dX0_init_5 : decode cX0_init 5 = .ok (.new 7, 3) := dk_187 0 7 (dk_at dksX0_init_0 5 rfl rfl)
theorem dX0_init_8 : decode cX0_init 8 = .ok (.dup, 1) := dk_89 (dk_at dksX0_init_0 8 rfl rfl)
theorem dX0_init_9 : decode cX0_init 9 = .ok (.invokespecial 9, 3) := dk_183 0 9 (dk_at dksX0_init_0 9 rfl rfl)
theorem dX0_init_12 : decode cX0_init 12 = .ok (.putfield 10, 3) := dk_181 0 10 (dk_at dksX0_init_0 12 rfl rfl)
theorem dX0_init_15 : decode cX0_init 15 = .ok (.return_, 1) := dk_177 (dk_at dksX0_init_0 15 rfl rfl)
abbrev cX0_holds : ByteArray := method_28_code
def yX0_holds : MethodName := ⟨RX0, "holds", "([I)Z"⟩
def dkwX0_holds_14 : List UInt8 := [42, 182, 1, 89, 153, 0, 10, 42, 182, 1, 61, 154, 0, 5, 3, 172, 132, 2, 4, 167, 255, 1, 4, 172]
abbrev dktX0_holds_14 : List UInt8 := dkwX0_holds_14 ++ []
def dkwX0_holds_13 : List UInt8 := [153, 0, 38, 21, 7, 8, 160, 0, 12, 42, 21, 4, 182, 1, 86, 153, 0, 23, 28, 16, 12, 160, 0, 19]
abbrev dktX0_holds_13 : List UInt8 := dkwX0_holds_13 ++ dktX0_holds_14
def dkwX0_holds_12 : List UInt8 := [3, 172, 21, 7, 7, 160, 0, 21, 42, 182, 1, 80, 153, 0, 49, 42, 21, 5, 21, 6, 182, 1, 83]
abbrev dktX0_holds_12 : List UInt8 := dkwX0_holds_12 ++ dktX0_holds_13
def dkwX0_holds_11 : List UInt8 := [21, 7, 6, 160, 0, 23, 42, 5, 6, 182, 1, 77, 153, 0, 12, 42, 6, 7, 182, 1, 77, 154, 0, 5]
abbrev dktX0_holds_11 : List UInt8 := dkwX0_holds_11 ++ dktX0_holds_12
def dkwX0_holds_10 : List UInt8 := [5, 29, 182, 1, 74, 153, 0, 43, 21, 7, 5, 160, 0, 13, 42, 7, 21, 4, 182, 1, 74, 153, 0, 27]
abbrev dktX0_holds_10 : List UInt8 := dkwX0_holds_10 ++ dktX0_holds_11
def dkwX0_holds_9 : List UInt8 := [153, 0, 15, 42, 7, 21, 4, 4, 128, 182, 0, 129, 154, 0, 5, 3, 172, 21, 7, 4, 160, 0, 12, 42]
abbrev dktX0_holds_9 : List UInt8 := dkwX0_holds_9 ++ dktX0_holds_10
def dkwX0_holds_8 : List UInt8 := [162, 0, 39, 42, 5, 21, 6, 182, 0, 129, 153, 0, 27, 42, 6, 29, 21, 5, 130, 182, 0, 129]
abbrev dktX0_holds_8 : List UInt8 := dkwX0_holds_8 ++ dktX0_holds_9
def dkwX0_holds_7 : List UInt8 := [21, 7, 154, 0, 13, 42, 29, 21, 4, 182, 1, 71, 153, 0, 48, 21, 7, 158, 0, 45, 21, 7, 7]
abbrev dktX0_holds_7 : List UInt8 := dkwX0_holds_7 ++ dktX0_holds_8
def dkwX0_holds_6 : List UInt8 := [21, 5, 16, 11, 122, 130, 21, 6, 16, 13, 122, 130, 16, 6, 184, 0, 94, 96, 16, 6, 112, 54, 7]
abbrev dktX0_holds_6 : List UInt8 := dkwX0_holds_6 ++ dktX0_holds_7
def dkwX0_holds_5 : List UInt8 := [184, 1, 67, 54, 5, 43, 28, 6, 96, 184, 1, 67, 54, 6, 28, 7, 108, 29, 21, 4, 16, 7, 122, 130]
abbrev dktX0_holds_5 : List UInt8 := dkwX0_holds_5 ++ dktX0_holds_6
def dkwX0_holds_4 : List UInt8 := [162, 0, 255, 43, 28, 184, 1, 67, 62, 43, 28, 4, 96, 184, 1, 67, 54, 4, 43, 28, 5, 96]
abbrev dktX0_holds_4 : List UInt8 := dkwX0_holds_4 ++ dktX0_holds_5
def dkwX0_holds_3 : List UInt8 := [167, 255, 188, 42, 182, 1, 61, 153, 0, 10, 42, 182, 1, 64, 154, 0, 5, 3, 172, 3, 61, 28, 16, 16]
abbrev dktX0_holds_3 : List UInt8 := dkwX0_holds_3 ++ dktX0_holds_4
def dkwX0_holds_2 : List UInt8 := [154, 0, 18, 42, 180, 0, 10, 28, 7, 184, 0, 94, 182, 0, 47, 153, 0, 5, 3, 172, 132, 2, 1]
abbrev dktX0_holds_2 : List UInt8 := dkwX0_holds_2 ++ dktX0_holds_3
def dkwX0_holds_1 : List UInt8 := [182, 0, 113, 154, 0, 39, 42, 28, 182, 0, 63, 9, 148, 154, 0, 29, 42, 180, 0, 10, 28, 182, 0, 175]
abbrev dktX0_holds_1 : List UInt8 := dkwX0_holds_1 ++ dktX0_holds_2
def dkwX0_holds_0 : List UInt8 := [3, 61, 28, 16, 8, 162, 0, 68, 42, 28, 182, 0, 89, 9, 148, 154, 0, 50, 42, 180, 0, 10, 28]
abbrev dktX0_holds_0 : List UInt8 := dkwX0_holds_0 ++ dktX0_holds_1
theorem dksX0_holds_0 : cX0_holds.data.toList.drop 0 = dktX0_holds_0 := by decide +kernel
theorem dksX0_holds_1 : cX0_holds.data.toList.drop 23 = dktX0_holds_1 := dk_seg dksX0_holds_0 23 rfl rfl
theorem dksX0_holds_2 : cX0_holds.data.toList.drop 47 = dktX0_holds_2 := dk_seg dksX0_holds_1 24 rfl rfl
theorem dksX0_holds_3 : cX0_holds.data.toList.drop 70 = dktX0_holds_3 := dk_seg dksX0_holds_2 23 rfl rfl
theorem dksX0_holds_4 : cX0_holds.data.toList.drop 94 = dktX0_holds_4 := dk_seg dksX0_holds_3 24 rfl rfl
theorem dksX0_holds_5 : cX0_holds.data.toList.drop 116 = dktX0_holds_5 := dk_seg dksX0_holds_4 22 rfl rfl
theorem dksX0_holds_6 : cX0_holds.data.toList.drop 140 = dktX0_holds_6 := dk_seg dksX0_holds_5 24 rfl rfl
theorem dksX0_holds_7 : cX0_holds.data.toList.drop 163 = dktX0_holds_7 := dk_seg dksX0_holds_6 23 rfl rfl
theorem dksX0_holds_8 : cX0_holds.data.toList.drop 186 = dktX0_holds_8 := dk_seg dksX0_holds_7 23 rfl rfl
theorem dksX0_holds_9 : cX0_holds.data.toList.drop 208 = dktX0_holds_9 := dk_seg dksX0_holds_8 22 rfl rfl
theorem dksX0_holds_10 : cX0_holds.data.toList.drop 232 = dktX0_holds_10 := dk_seg dksX0_holds_9 24 rfl rfl
theorem dksX0_holds_11 : cX0_holds.data.toList.drop 256 = dktX0_holds_11 := dk_seg dksX0_holds_10 24 rfl rfl
theorem dksX0_holds_12 : cX0_holds.data.toList.drop 280 = dktX0_holds_12 := dk_seg dksX0_holds_11 24 rfl rfl
theorem dksX0_holds_13 : cX0_holds.data.toList.drop 303 = dktX0_holds_13 := dk_seg dksX0_holds_12 23 rfl rfl
theorem dksX0_holds_14 : cX0_holds.data.toList.drop 327 = dktX0_holds_14 := dk_seg dksX0_holds_13 24 rfl rfl
theorem dX0_holds_0 : decode cX0_holds 0 = .ok (.iconst 0, 1) := dk_3 (dk_at dksX0_holds_0 0 rfl rfl)
theorem dX0_holds_1 : decode cX0_holds 1 = .ok (.istore_n 2, 1) := dk_61 (dk_at dksX0_holds_0 1 rfl rfl)
theorem dX0_holds_2 : decode cX0_holds 2 = .ok (.iload_n 2, 1) := dk_28 (dk_at dksX0_holds_0 2 rfl rfl)
theorem dX0_holds_3 : decode cX0_holds 3 = .ok (.bipush 8, 2) := dk_16 8 (dk_at dksX0_holds_0 3 rfl rfl)
theorem dX0_holds_5 : decode cX0_holds 5 = .ok (.if_icmp .ge 68, 3) := dk_162 0 68 (dk_at dksX0_holds_0 5 rfl rfl)
theorem dX0_holds_8 : decode cX0_holds 8 = .ok (.aload_n 0, 1) := dk_42 (dk_at dksX0_holds_0 8 rfl rfl)
theorem dX0_holds_9 : decode cX0_holds 9 = .ok (.iload_n 2, 1) := dk_28 (dk_at dksX0_holds_0 9 rfl rfl)
theorem dX0_holds_10 : decode cX0_holds 10 = .ok (.invokevirtual 89, 3) := dk_182 0 89 (dk_at dksX0_holds_0 10 rfl rfl)
theorem dX0_holds_13 : decode cX0_holds 13 = .ok (.lconst 0, 1) := dk_9 (dk_at dksX0_holds_0 13 rfl rfl)
theorem dX0_holds_14 : decode cX0_holds 14 = .ok (.lcmp, 1) := dk_148 (dk_at dksX0_holds_0 14 rfl rfl)
theorem dX0_holds_15 : decode cX0_holds 15 = .ok (.ifCond .ne 50, 3) := dk_154 0 50 (dk_at dksX0_holds_0 15 rfl rfl)
theorem dX0_holds_18 : decode cX0_holds 18 = .ok (.aload_n 0, 1) := dk_42 (dk_at dksX0_holds_0 18 rfl rfl)
theorem dX0_holds_19 : decode cX0_holds 19 = .ok (.getfield 10, 3) := dk_180 0 10 (dk_at dksX0_holds_0 19 rfl rfl)
theorem dX0_holds_22 : decode cX0_holds 22 = .ok (.iload_n 2, 1) := dk_28 (dk_at dksX0_holds_0 22 rfl rfl)
theorem dX0_holds_23 : decode cX0_holds 23 = .ok (.invokevirtual 113, 3) := dk_182 0 113 (dk_at dksX0_holds_1 0 rfl rfl)
theorem dX0_holds_26 : decode cX0_holds 26 = .ok (.ifCond .ne 39, 3) := dk_154 0 39 (dk_at dksX0_holds_1 3 rfl rfl)
theorem dX0_holds_29 : decode cX0_holds 29 = .ok (.aload_n 0, 1) := dk_42 (dk_at dksX0_holds_1 6 rfl rfl)
theorem dX0_holds_30 : decode cX0_holds 30 = .ok (.iload_n 2, 1) := dk_28 (dk_at dksX0_holds_1 7 rfl rfl)
theorem dX0_holds_31 : decode cX0_holds 31 = .ok (.invokevirtual 63, 3) := dk_182 0 63 (dk_at dksX0_holds_1 8 rfl rfl)
theorem dX0_holds_34 : decode cX0_holds 34 = .ok (.lconst 0, 1) := dk_9 (dk_at dksX0_holds_1 11 rfl rfl)
theorem dX0_holds_35 : decode cX0_holds 35 = .ok (.lcmp, 1) := dk_148 (dk_at dksX0_holds_1 12 rfl rfl)
theorem dX0_holds_36 : decode cX0_holds 36 = .ok (.ifCond .ne 29, 3) := dk_154 0 29 (dk_at dksX0_holds_1 13 rfl rfl)
theorem dX0_holds_39 : decode cX0_holds 39 = .ok (.aload_n 0, 1) := dk_42 (dk_at dksX0_holds_1 16 rfl rfl)
theorem dX0_holds_40 : decode cX0_holds 40 = .ok (.getfield 10, 3) := dk_180 0 10 (dk_at dksX0_holds_1 17 rfl rfl)
theorem dX0_holds_43 : decode cX0_holds 43 = .ok (.iload_n 2, 1) := dk_28 (dk_at dksX0_holds_1 20 rfl rfl)
theorem dX0_holds_44 : decode cX0_holds 44 = .ok (.invokevirtual 175, 3) := dk_182 0 175 (dk_at dksX0_holds_1 21 rfl rfl)
theorem dX0_holds_47 : decode cX0_holds 47 = .ok (.ifCond .ne 18, 3) := dk_154 0 18 (dk_at dksX0_holds_2 0 rfl rfl)
theorem dX0_holds_50 : decode cX0_holds 50 = .ok (.aload_n 0, 1) := dk_42 (dk_at dksX0_holds_2 3 rfl rfl)
theorem dX0_holds_51 : decode cX0_holds 51 = .ok (.getfield 10, 3) := dk_180 0 10 (dk_at dksX0_holds_2 4 rfl rfl)
theorem dX0_holds_54 : decode cX0_holds 54 = .ok (.iload_n 2, 1) := dk_28 (dk_at dksX0_holds_2 7 rfl rfl)
theorem dX0_holds_55 : decode cX0_holds 55 = .ok (.iconst 4, 1) := dk_7 (dk_at dksX0_holds_2 8 rfl rfl)
theorem dX0_holds_56 : decode cX0_holds 56 = .ok (.invokestatic 94, 3) := dk_184 0 94 (dk_at dksX0_holds_2 9 rfl rfl)
theorem dX0_holds_59 : decode cX0_holds 59 = .ok (.invokevirtual 47, 3) := dk_182 0 47 (dk_at dksX0_holds_2 12 rfl rfl)
theorem dX0_holds_62 : decode cX0_holds 62 = .ok (.ifCond .eq 5, 3) := dk_153 0 5 (dk_at dksX0_holds_2 15 rfl rfl)
theorem dX0_holds_65 : decode cX0_holds 65 = .ok (.iconst 0, 1) := dk_3 (dk_at dksX0_holds_2 18 rfl rfl)
theorem dX0_holds_66 : decode cX0_holds 66 = .ok (.ireturn, 1) := dk_172 (dk_at dksX0_holds_2 19 rfl rfl)
theorem dX0_holds_67 : decode cX0_holds 67 = .ok (.iinc 2 1, 3) := dk_132 2 1 (dk_at dksX0_holds_2 20 rfl rfl)
theorem dX0_holds_70 : decode cX0_holds 70 = .ok (.goto (-68), 3) := dk_167 255 188 (dk_at dksX0_holds_3 0 rfl rfl)
theorem dX0_holds_73 : decode cX0_holds 73 = .ok (.aload_n 0, 1) := dk_42 (dk_at dksX0_holds_3 3 rfl rfl)
theorem dX0_holds_74 : decode cX0_holds 74 = .ok (.invokevirtual 317, 3) := dk_182 1 61 (dk_at dksX0_holds_3 4 rfl rfl)
theorem dX0_holds_77 : decode cX0_holds 77 = .ok (.ifCond .eq 10, 3) := dk_153 0 10 (dk_at dksX0_holds_3 7 rfl rfl)
theorem dX0_holds_80 : decode cX0_holds 80 = .ok (.aload_n 0, 1) := dk_42 (dk_at dksX0_holds_3 10 rfl rfl)
theorem dX0_holds_81 : decode cX0_holds 81 = .ok (.invokevirtual 320, 3) := dk_182 1 64 (dk_at dksX0_holds_3 11 rfl rfl)
theorem dX0_holds_84 : decode cX0_holds 84 = .ok (.ifCond .ne 5, 3) := dk_154 0 5 (dk_at dksX0_holds_3 14 rfl rfl)
theorem dX0_holds_87 : decode cX0_holds 87 = .ok (.iconst 0, 1) := dk_3 (dk_at dksX0_holds_3 17 rfl rfl)
theorem dX0_holds_88 : decode cX0_holds 88 = .ok (.ireturn, 1) := dk_172 (dk_at dksX0_holds_3 18 rfl rfl)
theorem dX0_holds_89 : decode cX0_holds 89 = .ok (.iconst 0, 1) := dk_3 (dk_at dksX0_holds_3 19 rfl rfl)
theorem dX0_holds_90 : decode cX0_holds 90 = .ok (.istore_n 2, 1) := dk_61 (dk_at dksX0_holds_3 20 rfl rfl)
theorem dX0_holds_91 : decode cX0_holds 91 = .ok (.iload_n 2, 1) := dk_28 (dk_at dksX0_holds_3 21 rfl rfl)
theorem dX0_holds_92 : decode cX0_holds 92 = .ok (.bipush 16, 2) := dk_16 16 (dk_at dksX0_holds_3 22 rfl rfl)
theorem dX0_holds_94 : decode cX0_holds 94 = .ok (.if_icmp .ge 255, 3) := dk_162 0 255 (dk_at dksX0_holds_4 0 rfl rfl)
theorem dX0_holds_97 : decode cX0_holds 97 = .ok (.aload_n 1, 1) := dk_43 (dk_at dksX0_holds_4 3 rfl rfl)
theorem dX0_holds_98 : decode cX0_holds 98 = .ok (.iload_n 2, 1) := dk_28 (dk_at dksX0_holds_4 4 rfl rfl)
theorem dX0_holds_99 : decode cX0_holds 99 = .ok (.invokestatic 323, 3) := dk_184 1 67 (dk_at dksX0_holds_4 5 rfl rfl)
theorem dX0_holds_102 : decode cX0_holds 102 = .ok (.istore_n 3, 1) := dk_62 (dk_at dksX0_holds_4 8 rfl rfl)
theorem dX0_holds_103 : decode cX0_holds 103 = .ok (.aload_n 1, 1) := dk_43 (dk_at dksX0_holds_4 9 rfl rfl)
theorem dX0_holds_104 : decode cX0_holds 104 = .ok (.iload_n 2, 1) := dk_28 (dk_at dksX0_holds_4 10 rfl rfl)
theorem dX0_holds_105 : decode cX0_holds 105 = .ok (.iconst 1, 1) := dk_4 (dk_at dksX0_holds_4 11 rfl rfl)
theorem dX0_holds_106 : decode cX0_holds 106 = .ok (.iadd, 1) := dk_96 (dk_at dksX0_holds_4 12 rfl rfl)
theorem dX0_holds_107 : decode cX0_holds 107 = .ok (.invokestatic 323, 3) := dk_184 1 67 (dk_at dksX0_holds_4 13 rfl rfl)
theorem dX0_holds_110 : decode cX0_holds 110 = .ok (.istore 4, 2) := dk_54 4 (dk_at dksX0_holds_4 16 rfl rfl)
theorem dX0_holds_112 : decode cX0_holds 112 = .ok (.aload_n 1, 1) := dk_43 (dk_at dksX0_holds_4 18 rfl rfl)
theorem dX0_holds_113 : decode cX0_holds 113 = .ok (.iload_n 2, 1) := dk_28 (dk_at dksX0_holds_4 19 rfl rfl)
theorem dX0_holds_114 : decode cX0_holds 114 = .ok (.iconst 2, 1) := dk_5 (dk_at dksX0_holds_4 20 rfl rfl)
theorem dX0_holds_115 : decode cX0_holds 115 = .ok (.iadd, 1) := dk_96 (dk_at dksX0_holds_4 21 rfl rfl)
theorem dX0_holds_116 : decode cX0_holds 116 = .ok (.invokestatic 323, 3) := dk_184 1 67 (dk_at dksX0_holds_5 0 rfl rfl)
theorem dX0_holds_119 : decode cX0_holds 119 = .ok (.istore 5, 2) := dk_54 5 (dk_at dksX0_holds_5 3 rfl rfl)
theorem dX0_holds_121 : decode cX0_holds 121 = .ok (.aload_n 1, 1) := dk_43 (dk_at dksX0_holds_5 5 rfl rfl)
theorem dX0_holds_122 : decode cX0_holds 122 = .ok (.iload_n 2, 1) := dk_28 (dk_at dksX0_holds_5 6 rfl rfl)
theorem dX0_holds_123 : decode cX0_holds 123 = .ok (.iconst 3, 1) := dk_6 (dk_at dksX0_holds_5 7 rfl rfl)
theorem dX0_holds_124 : decode cX0_holds 124 = .ok (.iadd, 1) := dk_96 (dk_at dksX0_holds_5 8 rfl rfl)
theorem dX0_holds_125 : decode cX0_holds 125 = .ok (.invokestatic 323, 3) := dk_184 1 67 (dk_at dksX0_holds_5 9 rfl rfl)
theorem dX0_holds_128 : decode cX0_holds 128 = .ok (.istore 6, 2) := dk_54 6 (dk_at dksX0_holds_5 12 rfl rfl)
theorem dX0_holds_130 : decode cX0_holds 130 = .ok (.iload_n 2, 1) := dk_28 (dk_at dksX0_holds_5 14 rfl rfl)
theorem dX0_holds_131 : decode cX0_holds 131 = .ok (.iconst 4, 1) := dk_7 (dk_at dksX0_holds_5 15 rfl rfl)
theorem dX0_holds_132 : decode cX0_holds 132 = .ok (.idiv, 1) := dk_108 (dk_at dksX0_holds_5 16 rfl rfl)
theorem dX0_holds_133 : decode cX0_holds 133 = .ok (.iload_n 3, 1) := dk_29 (dk_at dksX0_holds_5 17 rfl rfl)
theorem dX0_holds_134 : decode cX0_holds 134 = .ok (.iload 4, 2) := dk_21 4 (dk_at dksX0_holds_5 18 rfl rfl)
theorem dX0_holds_136 : decode cX0_holds 136 = .ok (.bipush 7, 2) := dk_16 7 (dk_at dksX0_holds_5 20 rfl rfl)
theorem dX0_holds_138 : decode cX0_holds 138 = .ok (.ishr, 1) := dk_122 (dk_at dksX0_holds_5 22 rfl rfl)
theorem dX0_holds_139 : decode cX0_holds 139 = .ok (.ixor, 1) := dk_130 (dk_at dksX0_holds_5 23 rfl rfl)
theorem dX0_holds_140 : decode cX0_holds 140 = .ok (.iload 5, 2) := dk_21 5 (dk_at dksX0_holds_6 0 rfl rfl)
theorem dX0_holds_142 : decode cX0_holds 142 = .ok (.bipush 11, 2) := dk_16 11 (dk_at dksX0_holds_6 2 rfl rfl)
theorem dX0_holds_144 : decode cX0_holds 144 = .ok (.ishr, 1) := dk_122 (dk_at dksX0_holds_6 4 rfl rfl)
theorem dX0_holds_145 : decode cX0_holds 145 = .ok (.ixor, 1) := dk_130 (dk_at dksX0_holds_6 5 rfl rfl)
theorem dX0_holds_146 : decode cX0_holds 146 = .ok (.iload 6, 2) := dk_21 6 (dk_at dksX0_holds_6 6 rfl rfl)
theorem dX0_holds_148 : decode cX0_holds 148 = .ok (.bipush 13, 2) := dk_16 13 (dk_at dksX0_holds_6 8 rfl rfl)
theorem dX0_holds_150 : decode cX0_holds 150 = .ok (.ishr, 1) := dk_122 (dk_at dksX0_holds_6 10 rfl rfl)
theorem dX0_holds_151 : decode cX0_holds 151 = .ok (.ixor, 1) := dk_130 (dk_at dksX0_holds_6 11 rfl rfl)
theorem dX0_holds_152 : decode cX0_holds 152 = .ok (.bipush 6, 2) := dk_16 6 (dk_at dksX0_holds_6 12 rfl rfl)
theorem dX0_holds_154 : decode cX0_holds 154 = .ok (.invokestatic 94, 3) := dk_184 0 94 (dk_at dksX0_holds_6 14 rfl rfl)
theorem dX0_holds_157 : decode cX0_holds 157 = .ok (.iadd, 1) := dk_96 (dk_at dksX0_holds_6 17 rfl rfl)
theorem dX0_holds_158 : decode cX0_holds 158 = .ok (.bipush 6, 2) := dk_16 6 (dk_at dksX0_holds_6 18 rfl rfl)
theorem dX0_holds_160 : decode cX0_holds 160 = .ok (.irem, 1) := dk_112 (dk_at dksX0_holds_6 20 rfl rfl)
theorem dX0_holds_161 : decode cX0_holds 161 = .ok (.istore 7, 2) := dk_54 7 (dk_at dksX0_holds_6 21 rfl rfl)
theorem dX0_holds_163 : decode cX0_holds 163 = .ok (.iload 7, 2) := dk_21 7 (dk_at dksX0_holds_7 0 rfl rfl)
theorem dX0_holds_165 : decode cX0_holds 165 = .ok (.ifCond .ne 13, 3) := dk_154 0 13 (dk_at dksX0_holds_7 2 rfl rfl)
theorem dX0_holds_168 : decode cX0_holds 168 = .ok (.aload_n 0, 1) := dk_42 (dk_at dksX0_holds_7 5 rfl rfl)
theorem dX0_holds_169 : decode cX0_holds 169 = .ok (.iload_n 3, 1) := dk_29 (dk_at dksX0_holds_7 6 rfl rfl)
theorem dX0_holds_170 : decode cX0_holds 170 = .ok (.iload 4, 2) := dk_21 4 (dk_at dksX0_holds_7 7 rfl rfl)
theorem dX0_holds_172 : decode cX0_holds 172 = .ok (.invokevirtual 327, 3) := dk_182 1 71 (dk_at dksX0_holds_7 9 rfl rfl)
theorem dX0_holds_175 : decode cX0_holds 175 = .ok (.ifCond .eq 48, 3) := dk_153 0 48 (dk_at dksX0_holds_7 12 rfl rfl)
theorem dX0_holds_178 : decode cX0_holds 178 = .ok (.iload 7, 2) := dk_21 7 (dk_at dksX0_holds_7 15 rfl rfl)
theorem dX0_holds_180 : decode cX0_holds 180 = .ok (.ifCond .le 45, 3) := dk_158 0 45 (dk_at dksX0_holds_7 17 rfl rfl)
theorem dX0_holds_183 : decode cX0_holds 183 = .ok (.iload 7, 2) := dk_21 7 (dk_at dksX0_holds_7 20 rfl rfl)
theorem dX0_holds_185 : decode cX0_holds 185 = .ok (.iconst 4, 1) := dk_7 (dk_at dksX0_holds_7 22 rfl rfl)
theorem dX0_holds_186 : decode cX0_holds 186 = .ok (.if_icmp .ge 39, 3) := dk_162 0 39 (dk_at dksX0_holds_8 0 rfl rfl)
theorem dX0_holds_189 : decode cX0_holds 189 = .ok (.aload_n 0, 1) := dk_42 (dk_at dksX0_holds_8 3 rfl rfl)
theorem dX0_holds_190 : decode cX0_holds 190 = .ok (.iconst 2, 1) := dk_5 (dk_at dksX0_holds_8 4 rfl rfl)
theorem dX0_holds_191 : decode cX0_holds 191 = .ok (.iload 6, 2) := dk_21 6 (dk_at dksX0_holds_8 5 rfl rfl)
theorem dX0_holds_193 : decode cX0_holds 193 = .ok (.invokevirtual 129, 3) := dk_182 0 129 (dk_at dksX0_holds_8 7 rfl rfl)
theorem dX0_holds_196 : decode cX0_holds 196 = .ok (.ifCond .eq 27, 3) := dk_153 0 27 (dk_at dksX0_holds_8 10 rfl rfl)
theorem dX0_holds_199 : decode cX0_holds 199 = .ok (.aload_n 0, 1) := dk_42 (dk_at dksX0_holds_8 13 rfl rfl)
theorem dX0_holds_200 : decode cX0_holds 200 = .ok (.iconst 3, 1) := dk_6 (dk_at dksX0_holds_8 14 rfl rfl)
theorem dX0_holds_201 : decode cX0_holds 201 = .ok (.iload_n 3, 1) := dk_29 (dk_at dksX0_holds_8 15 rfl rfl)
theorem dX0_holds_202 : decode cX0_holds 202 = .ok (.iload 5, 2) := dk_21 5 (dk_at dksX0_holds_8 16 rfl rfl)
theorem dX0_holds_204 : decode cX0_holds 204 = .ok (.ixor, 1) := dk_130 (dk_at dksX0_holds_8 18 rfl rfl)
theorem dX0_holds_205 : decode cX0_holds 205 = .ok (.invokevirtual 129, 3) := dk_182 0 129 (dk_at dksX0_holds_8 19 rfl rfl)
theorem dX0_holds_208 : decode cX0_holds 208 = .ok (.ifCond .eq 15, 3) := dk_153 0 15 (dk_at dksX0_holds_9 0 rfl rfl)
theorem dX0_holds_211 : decode cX0_holds 211 = .ok (.aload_n 0, 1) := dk_42 (dk_at dksX0_holds_9 3 rfl rfl)
theorem dX0_holds_212 : decode cX0_holds 212 = .ok (.iconst 4, 1) := dk_7 (dk_at dksX0_holds_9 4 rfl rfl)
theorem dX0_holds_213 : decode cX0_holds 213 = .ok (.iload 4, 2) := dk_21 4 (dk_at dksX0_holds_9 5 rfl rfl)
theorem dX0_holds_215 : decode cX0_holds 215 = .ok (.iconst 1, 1) := dk_4 (dk_at dksX0_holds_9 7 rfl rfl)
theorem dX0_holds_216 : decode cX0_holds 216 = .ok (.ior, 1) := dk_128 (dk_at dksX0_holds_9 8 rfl rfl)
theorem dX0_holds_217 : decode cX0_holds 217 = .ok (.invokevirtual 129, 3) := dk_182 0 129 (dk_at dksX0_holds_9 9 rfl rfl)
theorem dX0_holds_220 : decode cX0_holds 220 = .ok (.ifCond .ne 5, 3) := dk_154 0 5 (dk_at dksX0_holds_9 12 rfl rfl)
theorem dX0_holds_223 : decode cX0_holds 223 = .ok (.iconst 0, 1) := dk_3 (dk_at dksX0_holds_9 15 rfl rfl)
theorem dX0_holds_224 : decode cX0_holds 224 = .ok (.ireturn, 1) := dk_172 (dk_at dksX0_holds_9 16 rfl rfl)
theorem dX0_holds_225 : decode cX0_holds 225 = .ok (.iload 7, 2) := dk_21 7 (dk_at dksX0_holds_9 17 rfl rfl)
theorem dX0_holds_227 : decode cX0_holds 227 = .ok (.iconst 1, 1) := dk_4 (dk_at dksX0_holds_9 19 rfl rfl)
theorem dX0_holds_228 : decode cX0_holds 228 = .ok (.if_icmp .ne 12, 3) := dk_160 0 12 (dk_at dksX0_holds_9 20 rfl rfl)
theorem dX0_holds_231 : decode cX0_holds 231 = .ok (.aload_n 0, 1) := dk_42 (dk_at dksX0_holds_9 23 rfl rfl)
theorem dX0_holds_232 : decode cX0_holds 232 = .ok (.iconst 2, 1) := dk_5 (dk_at dksX0_holds_10 0 rfl rfl)
theorem dX0_holds_233 : decode cX0_holds 233 = .ok (.iload_n 3, 1) := dk_29 (dk_at dksX0_holds_10 1 rfl rfl)
theorem dX0_holds_234 : decode cX0_holds 234 = .ok (.invokevirtual 330, 3) := dk_182 1 74 (dk_at dksX0_holds_10 2 rfl rfl)
theorem dX0_holds_237 : decode cX0_holds 237 = .ok (.ifCond .eq 43, 3) := dk_153 0 43 (dk_at dksX0_holds_10 5 rfl rfl)
theorem dX0_holds_240 : decode cX0_holds 240 = .ok (.iload 7, 2) := dk_21 7 (dk_at dksX0_holds_10 8 rfl rfl)
theorem dX0_holds_242 : decode cX0_holds 242 = .ok (.iconst 2, 1) := dk_5 (dk_at dksX0_holds_10 10 rfl rfl)
theorem dX0_holds_243 : decode cX0_holds 243 = .ok (.if_icmp .ne 13, 3) := dk_160 0 13 (dk_at dksX0_holds_10 11 rfl rfl)
theorem dX0_holds_246 : decode cX0_holds 246 = .ok (.aload_n 0, 1) := dk_42 (dk_at dksX0_holds_10 14 rfl rfl)
theorem dX0_holds_247 : decode cX0_holds 247 = .ok (.iconst 4, 1) := dk_7 (dk_at dksX0_holds_10 15 rfl rfl)
theorem dX0_holds_248 : decode cX0_holds 248 = .ok (.iload 4, 2) := dk_21 4 (dk_at dksX0_holds_10 16 rfl rfl)
theorem dX0_holds_250 : decode cX0_holds 250 = .ok (.invokevirtual 330, 3) := dk_182 1 74 (dk_at dksX0_holds_10 18 rfl rfl)
theorem dX0_holds_253 : decode cX0_holds 253 = .ok (.ifCond .eq 27, 3) := dk_153 0 27 (dk_at dksX0_holds_10 21 rfl rfl)
theorem dX0_holds_256 : decode cX0_holds 256 = .ok (.iload 7, 2) := dk_21 7 (dk_at dksX0_holds_11 0 rfl rfl)
theorem dX0_holds_258 : decode cX0_holds 258 = .ok (.iconst 3, 1) := dk_6 (dk_at dksX0_holds_11 2 rfl rfl)
theorem dX0_holds_259 : decode cX0_holds 259 = .ok (.if_icmp .ne 23, 3) := dk_160 0 23 (dk_at dksX0_holds_11 3 rfl rfl)
theorem dX0_holds_262 : decode cX0_holds 262 = .ok (.aload_n 0, 1) := dk_42 (dk_at dksX0_holds_11 6 rfl rfl)
theorem dX0_holds_263 : decode cX0_holds 263 = .ok (.iconst 2, 1) := dk_5 (dk_at dksX0_holds_11 7 rfl rfl)
theorem dX0_holds_264 : decode cX0_holds 264 = .ok (.iconst 3, 1) := dk_6 (dk_at dksX0_holds_11 8 rfl rfl)
theorem dX0_holds_265 : decode cX0_holds 265 = .ok (.invokevirtual 333, 3) := dk_182 1 77 (dk_at dksX0_holds_11 9 rfl rfl)
theorem dX0_holds_268 : decode cX0_holds 268 = .ok (.ifCond .eq 12, 3) := dk_153 0 12 (dk_at dksX0_holds_11 12 rfl rfl)
theorem dX0_holds_271 : decode cX0_holds 271 = .ok (.aload_n 0, 1) := dk_42 (dk_at dksX0_holds_11 15 rfl rfl)
theorem dX0_holds_272 : decode cX0_holds 272 = .ok (.iconst 3, 1) := dk_6 (dk_at dksX0_holds_11 16 rfl rfl)
theorem dX0_holds_273 : decode cX0_holds 273 = .ok (.iconst 4, 1) := dk_7 (dk_at dksX0_holds_11 17 rfl rfl)
theorem dX0_holds_274 : decode cX0_holds 274 = .ok (.invokevirtual 333, 3) := dk_182 1 77 (dk_at dksX0_holds_11 18 rfl rfl)
theorem dX0_holds_277 : decode cX0_holds 277 = .ok (.ifCond .ne 5, 3) := dk_154 0 5 (dk_at dksX0_holds_11 21 rfl rfl)
theorem dX0_holds_280 : decode cX0_holds 280 = .ok (.iconst 0, 1) := dk_3 (dk_at dksX0_holds_12 0 rfl rfl)
theorem dX0_holds_281 : decode cX0_holds 281 = .ok (.ireturn, 1) := dk_172 (dk_at dksX0_holds_12 1 rfl rfl)
theorem dX0_holds_282 : decode cX0_holds 282 = .ok (.iload 7, 2) := dk_21 7 (dk_at dksX0_holds_12 2 rfl rfl)
theorem dX0_holds_284 : decode cX0_holds 284 = .ok (.iconst 4, 1) := dk_7 (dk_at dksX0_holds_12 4 rfl rfl)
theorem dX0_holds_285 : decode cX0_holds 285 = .ok (.if_icmp .ne 21, 3) := dk_160 0 21 (dk_at dksX0_holds_12 5 rfl rfl)
theorem dX0_holds_288 : decode cX0_holds 288 = .ok (.aload_n 0, 1) := dk_42 (dk_at dksX0_holds_12 8 rfl rfl)
theorem dX0_holds_289 : decode cX0_holds 289 = .ok (.invokevirtual 336, 3) := dk_182 1 80 (dk_at dksX0_holds_12 9 rfl rfl)
theorem dX0_holds_292 : decode cX0_holds 292 = .ok (.ifCond .eq 49, 3) := dk_153 0 49 (dk_at dksX0_holds_12 12 rfl rfl)
theorem dX0_holds_295 : decode cX0_holds 295 = .ok (.aload_n 0, 1) := dk_42 (dk_at dksX0_holds_12 15 rfl rfl)
theorem dX0_holds_296 : decode cX0_holds 296 = .ok (.iload 5, 2) := dk_21 5 (dk_at dksX0_holds_12 16 rfl rfl)
theorem dX0_holds_298 : decode cX0_holds 298 = .ok (.iload 6, 2) := dk_21 6 (dk_at dksX0_holds_12 18 rfl rfl)
theorem dX0_holds_300 : decode cX0_holds 300 = .ok (.invokevirtual 339, 3) := dk_182 1 83 (dk_at dksX0_holds_12 20 rfl rfl)
theorem dX0_holds_303 : decode cX0_holds 303 = .ok (.ifCond .eq 38, 3) := dk_153 0 38 (dk_at dksX0_holds_13 0 rfl rfl)
theorem dX0_holds_306 : decode cX0_holds 306 = .ok (.iload 7, 2) := dk_21 7 (dk_at dksX0_holds_13 3 rfl rfl)
theorem dX0_holds_308 : decode cX0_holds 308 = .ok (.iconst 5, 1) := dk_8 (dk_at dksX0_holds_13 5 rfl rfl)
theorem dX0_holds_309 : decode cX0_holds 309 = .ok (.if_icmp .ne 12, 3) := dk_160 0 12 (dk_at dksX0_holds_13 6 rfl rfl)
theorem dX0_holds_312 : decode cX0_holds 312 = .ok (.aload_n 0, 1) := dk_42 (dk_at dksX0_holds_13 9 rfl rfl)
theorem dX0_holds_313 : decode cX0_holds 313 = .ok (.iload 4, 2) := dk_21 4 (dk_at dksX0_holds_13 10 rfl rfl)
theorem dX0_holds_315 : decode cX0_holds 315 = .ok (.invokevirtual 342, 3) := dk_182 1 86 (dk_at dksX0_holds_13 12 rfl rfl)
theorem dX0_holds_318 : decode cX0_holds 318 = .ok (.ifCond .eq 23, 3) := dk_153 0 23 (dk_at dksX0_holds_13 15 rfl rfl)
theorem dX0_holds_321 : decode cX0_holds 321 = .ok (.iload_n 2, 1) := dk_28 (dk_at dksX0_holds_13 18 rfl rfl)
theorem dX0_holds_322 : decode cX0_holds 322 = .ok (.bipush 12, 2) := dk_16 12 (dk_at dksX0_holds_13 19 rfl rfl)
theorem dX0_holds_324 : decode cX0_holds 324 = .ok (.if_icmp .ne 19, 3) := dk_160 0 19 (dk_at dksX0_holds_13 21 rfl rfl)
theorem dX0_holds_327 : decode cX0_holds 327 = .ok (.aload_n 0, 1) := dk_42 (dk_at dksX0_holds_14 0 rfl rfl)
theorem dX0_holds_328 : decode cX0_holds 328 = .ok (.invokevirtual 345, 3) := dk_182 1 89 (dk_at dksX0_holds_14 1 rfl rfl)
theorem dX0_holds_331 : decode cX0_holds 331 = .ok (.ifCond .eq 10, 3) := dk_153 0 10 (dk_at dksX0_holds_14 4 rfl rfl)
theorem dX0_holds_334 : decode cX0_holds 334 = .ok (.aload_n 0, 1) := dk_42 (dk_at dksX0_holds_14 7 rfl rfl)
theorem dX0_holds_335 : decode cX0_holds 335 = .ok (.invokevirtual 317, 3) := dk_182 1 61 (dk_at dksX0_holds_14 8 rfl rfl)
theorem dX0_holds_338 : decode cX0_holds 338 = .ok (.ifCond .ne 5, 3) := dk_154 0 5 (dk_at dksX0_holds_14 11 rfl rfl)
theorem dX0_holds_341 : decode cX0_holds 341 = .ok (.iconst 0, 1) := dk_3 (dk_at dksX0_holds_14 14 rfl rfl)
theorem dX0_holds_342 : decode cX0_holds 342 = .ok (.ireturn, 1) := dk_172 (dk_at dksX0_holds_14 15 rfl rfl)
theorem dX0_holds_343 : decode cX0_holds 343 = .ok (.iinc 2 4, 3) := dk_132 2 4 (dk_at dksX0_holds_14 16 rfl rfl)
theorem dX0_holds_346 : decode cX0_holds 346 = .ok (.goto (-255), 3) := dk_167 255 1 (dk_at dksX0_holds_14 19 rfl rfl)
theorem dX0_holds_349 : decode cX0_holds 349 = .ok (.iconst 1, 1) := dk_4 (dk_at dksX0_holds_14 22 rfl rfl)
theorem dX0_holds_350 : decode cX0_holds 350 = .ok (.ireturn, 1) := dk_172 (dk_at dksX0_holds_14 23 rfl rfl)
abbrev cX0_its : ByteArray := method_10_code
def yX0_its : MethodName := ⟨RX0, "its", "(I)J"⟩
def dkwX0_its_3 : List UInt8 := [154, 0, 9, 22, 6, 117, 167, 0, 5, 22, 6, 173]
abbrev dktX0_its_3 : List UInt8 := dkwX0_its_3 ++ []
def dkwX0_its_2 : List UInt8 := [100, 123, 167, 0, 11, 22, 4, 29, 17, 4, 48, 100, 121, 55, 6, 44, 3, 184, 0, 80, 10, 148]
abbrev dktX0_its_2 : List UInt8 := dkwX0_its_2 ++ dktX0_its_3
def dkwX0_its_1 : List UInt8 := [97, 55, 4, 29, 154, 0, 7, 9, 167, 0, 29, 29, 17, 4, 48, 162, 0, 14, 22, 4, 17, 4, 48, 29]
abbrev dktX0_its_1 : List UInt8 := dkwX0_its_1 ++ dktX0_its_2
def dkwX0_its_0 : List UInt8 := [42, 180, 0, 10, 27, 182, 0, 77, 77, 44, 4, 184, 0, 80, 136, 62, 20, 0, 84, 44, 5, 184, 0, 80]
abbrev dktX0_its_0 : List UInt8 := dkwX0_its_0 ++ dktX0_its_1
theorem dksX0_its_0 : cX0_its.data.toList.drop 0 = dktX0_its_0 := by decide +kernel
theorem dksX0_its_1 : cX0_its.data.toList.drop 24 = dktX0_its_1 := dk_seg dksX0_its_0 24 rfl rfl
theorem dksX0_its_2 : cX0_its.data.toList.drop 48 = dktX0_its_2 := dk_seg dksX0_its_1 24 rfl rfl
theorem dksX0_its_3 : cX0_its.data.toList.drop 70 = dktX0_its_3 := dk_seg dksX0_its_2 22 rfl rfl
theorem dX0_its_0 : decode cX0_its 0 = .ok (.aload_n 0, 1) := dk_42 (dk_at dksX0_its_0 0 rfl rfl)
theorem dX0_its_1 : decode cX0_its 1 = .ok (.getfield 10, 3) := dk_180 0 10 (dk_at dksX0_its_0 1 rfl rfl)
theorem dX0_its_4 : decode cX0_its 4 = .ok (.iload_n 1, 1) := dk_27 (dk_at dksX0_its_0 4 rfl rfl)
theorem dX0_its_5 : decode cX0_its 5 = .ok (.invokevirtual 77, 3) := dk_182 0 77 (dk_at dksX0_its_0 5 rfl rfl)
theorem dX0_its_8 : decode cX0_its 8 = .ok (.astore_n 2, 1) := dk_77 (dk_at dksX0_its_0 8 rfl rfl)
theorem dX0_its_9 : decode cX0_its 9 = .ok (.aload_n 2, 1) := dk_44 (dk_at dksX0_its_0 9 rfl rfl)
theorem dX0_its_10 : decode cX0_its 10 = .ok (.iconst 1, 1) := dk_4 (dk_at dksX0_its_0 10 rfl rfl)
theorem dX0_its_11 : decode cX0_its 11 = .ok (.invokestatic 80, 3) := dk_184 0 80 (dk_at dksX0_its_0 11 rfl rfl)
theorem dX0_its_14 : decode cX0_its 14 = .ok (.l2i, 1) := dk_136 (dk_at dksX0_its_0 14 rfl rfl)
theorem dX0_its_15 : decode cX0_its 15 = .ok (.istore_n 3, 1) := dk_62 (dk_at dksX0_its_0 15 rfl rfl)
theorem dX0_its_16 : decode cX0_its 16 = .ok (.ldc2_w 84, 3) := dk_20 0 84 (dk_at dksX0_its_0 16 rfl rfl)
theorem dX0_its_19 : decode cX0_its 19 = .ok (.aload_n 2, 1) := dk_44 (dk_at dksX0_its_0 19 rfl rfl)
theorem dX0_its_20 : decode cX0_its 20 = .ok (.iconst 2, 1) := dk_5 (dk_at dksX0_its_0 20 rfl rfl)
theorem dX0_its_21 : decode cX0_its 21 = .ok (.invokestatic 80, 3) := dk_184 0 80 (dk_at dksX0_its_0 21 rfl rfl)
theorem dX0_its_24 : decode cX0_its 24 = .ok (.ladd, 1) := dk_97 (dk_at dksX0_its_1 0 rfl rfl)
theorem dX0_its_25 : decode cX0_its 25 = .ok (.lstore 4, 2) := dk_55 4 (dk_at dksX0_its_1 1 rfl rfl)
theorem dX0_its_27 : decode cX0_its 27 = .ok (.iload_n 3, 1) := dk_29 (dk_at dksX0_its_1 3 rfl rfl)
theorem dX0_its_28 : decode cX0_its 28 = .ok (.ifCond .ne 7, 3) := dk_154 0 7 (dk_at dksX0_its_1 4 rfl rfl)
theorem dX0_its_31 : decode cX0_its 31 = .ok (.lconst 0, 1) := dk_9 (dk_at dksX0_its_1 7 rfl rfl)
theorem dX0_its_32 : decode cX0_its 32 = .ok (.goto 29, 3) := dk_167 0 29 (dk_at dksX0_its_1 8 rfl rfl)
theorem dX0_its_35 : decode cX0_its 35 = .ok (.iload_n 3, 1) := dk_29 (dk_at dksX0_its_1 11 rfl rfl)
theorem dX0_its_36 : decode cX0_its 36 = .ok (.sipush 1072, 3) := dk_17 4 48 (dk_at dksX0_its_1 12 rfl rfl)
theorem dX0_its_39 : decode cX0_its 39 = .ok (.if_icmp .ge 14, 3) := dk_162 0 14 (dk_at dksX0_its_1 15 rfl rfl)
theorem dX0_its_42 : decode cX0_its 42 = .ok (.lload 4, 2) := dk_22 4 (dk_at dksX0_its_1 18 rfl rfl)
theorem dX0_its_44 : decode cX0_its 44 = .ok (.sipush 1072, 3) := dk_17 4 48 (dk_at dksX0_its_1 20 rfl rfl)
theorem dX0_its_47 : decode cX0_its 47 = .ok (.iload_n 3, 1) := dk_29 (dk_at dksX0_its_1 23 rfl rfl)
theorem dX0_its_48 : decode cX0_its 48 = .ok (.isub, 1) := dk_100 (dk_at dksX0_its_2 0 rfl rfl)
theorem dX0_its_49 : decode cX0_its 49 = .ok (.lshr, 1) := dk_123 (dk_at dksX0_its_2 1 rfl rfl)
theorem dX0_its_50 : decode cX0_its 50 = .ok (.goto 11, 3) := dk_167 0 11 (dk_at dksX0_its_2 2 rfl rfl)
theorem dX0_its_53 : decode cX0_its 53 = .ok (.lload 4, 2) := dk_22 4 (dk_at dksX0_its_2 5 rfl rfl)
theorem dX0_its_55 : decode cX0_its 55 = .ok (.iload_n 3, 1) := dk_29 (dk_at dksX0_its_2 7 rfl rfl)
theorem dX0_its_56 : decode cX0_its 56 = .ok (.sipush 1072, 3) := dk_17 4 48 (dk_at dksX0_its_2 8 rfl rfl)
theorem dX0_its_59 : decode cX0_its 59 = .ok (.isub, 1) := dk_100 (dk_at dksX0_its_2 11 rfl rfl)
theorem dX0_its_60 : decode cX0_its 60 = .ok (.lshl, 1) := dk_121 (dk_at dksX0_its_2 12 rfl rfl)
theorem dX0_its_61 : decode cX0_its 61 = .ok (.lstore 6, 2) := dk_55 6 (dk_at dksX0_its_2 13 rfl rfl)
theorem dX0_its_63 : decode cX0_its 63 = .ok (.aload_n 2, 1) := dk_44 (dk_at dksX0_its_2 15 rfl rfl)
theorem dX0_its_64 : decode cX0_its 64 = .ok (.iconst 0, 1) := dk_3 (dk_at dksX0_its_2 16 rfl rfl)
theorem dX0_its_65 : decode cX0_its 65 = .ok (.invokestatic 80, 3) := dk_184 0 80 (dk_at dksX0_its_2 17 rfl rfl)
theorem dX0_its_68 : decode cX0_its 68 = .ok (.lconst 1, 1) := dk_10 (dk_at dksX0_its_2 20 rfl rfl)
theorem dX0_its_69 : decode cX0_its 69 = .ok (.lcmp, 1) := dk_148 (dk_at dksX0_its_2 21 rfl rfl)
theorem dX0_its_70 : decode cX0_its 70 = .ok (.ifCond .ne 9, 3) := dk_154 0 9 (dk_at dksX0_its_3 0 rfl rfl)
theorem dX0_its_73 : decode cX0_its 73 = .ok (.lload 6, 2) := dk_22 6 (dk_at dksX0_its_3 3 rfl rfl)
theorem dX0_its_75 : decode cX0_its 75 = .ok (.lneg, 1) := dk_117 (dk_at dksX0_its_3 5 rfl rfl)
theorem dX0_its_76 : decode cX0_its 76 = .ok (.goto 5, 3) := dk_167 0 5 (dk_at dksX0_its_3 6 rfl rfl)
theorem dX0_its_79 : decode cX0_its 79 = .ok (.lload 6, 2) := dk_22 6 (dk_at dksX0_its_3 9 rfl rfl)
theorem dX0_its_81 : decode cX0_its 81 = .ok (.lreturn, 1) := dk_173 (dk_at dksX0_its_3 11 rfl rfl)
abbrev cX0_part : ByteArray := method_4_code
def yX0_part : MethodName := ⟨RX0, "part", "(Ljava/lang/String;I)J"⟩
def dkwX0_part_2 : List UInt8 := [28, 29, 182, 0, 27, 184, 0, 30, 173]
abbrev dktX0_part_2 : List UInt8 := dkwX0_part_2 ++ []
def dkwX0_part_1 : List UInt8 := [167, 255, 238, 42, 16, 32, 28, 182, 0, 17, 62, 29, 156, 0, 11, 42, 28, 182, 0, 23, 167, 0, 9, 42]
abbrev dktX0_part_1 : List UInt8 := dkwX0_part_1 ++ dktX0_part_2
def dkwX0_part_0 : List UInt8 := [3, 61, 3, 62, 29, 27, 162, 0, 19, 42, 16, 32, 28, 182, 0, 17, 4, 96, 61, 132, 3, 1]
abbrev dktX0_part_0 : List UInt8 := dkwX0_part_0 ++ dktX0_part_1
theorem dksX0_part_0 : cX0_part.data.toList.drop 0 = dktX0_part_0 := by decide +kernel
theorem dksX0_part_1 : cX0_part.data.toList.drop 22 = dktX0_part_1 := dk_seg dksX0_part_0 22 rfl rfl
theorem dksX0_part_2 : cX0_part.data.toList.drop 46 = dktX0_part_2 := dk_seg dksX0_part_1 24 rfl rfl
theorem dX0_part_0 : decode cX0_part 0 = .ok (.iconst 0, 1) := dk_3 (dk_at dksX0_part_0 0 rfl rfl)
theorem dX0_part_1 : decode cX0_part 1 = .ok (.istore_n 2, 1) := dk_61 (dk_at dksX0_part_0 1 rfl rfl)
theorem dX0_part_2 : decode cX0_part 2 = .ok (.iconst 0, 1) := dk_3 (dk_at dksX0_part_0 2 rfl rfl)
theorem dX0_part_3 : decode cX0_part 3 = .ok (.istore_n 3, 1) := dk_62 (dk_at dksX0_part_0 3 rfl rfl)
theorem dX0_part_4 : decode cX0_part 4 = .ok (.iload_n 3, 1) := dk_29 (dk_at dksX0_part_0 4 rfl rfl)
theorem dX0_part_5 : decode cX0_part 5 = .ok (.iload_n 1, 1) := dk_27 (dk_at dksX0_part_0 5 rfl rfl)
theorem dX0_part_6 : decode cX0_part 6 = .ok (.if_icmp .ge 19, 3) := dk_162 0 19 (dk_at dksX0_part_0 6 rfl rfl)
theorem dX0_part_9 : decode cX0_part 9 = .ok (.aload_n 0, 1) := dk_42 (dk_at dksX0_part_0 9 rfl rfl)
theorem dX0_part_10 : decode cX0_part 10 = .ok (.bipush 32, 2) := dk_16 32 (dk_at dksX0_part_0 10 rfl rfl)
theorem dX0_part_12 : decode cX0_part 12 = .ok (.iload_n 2, 1) := dk_28 (dk_at dksX0_part_0 12 rfl rfl)
theorem dX0_part_13 : decode cX0_part 13 = .ok (.invokevirtual 17, 3) := dk_182 0 17 (dk_at dksX0_part_0 13 rfl rfl)
theorem dX0_part_16 : decode cX0_part 16 = .ok (.iconst 1, 1) := dk_4 (dk_at dksX0_part_0 16 rfl rfl)
theorem dX0_part_17 : decode cX0_part 17 = .ok (.iadd, 1) := dk_96 (dk_at dksX0_part_0 17 rfl rfl)
theorem dX0_part_18 : decode cX0_part 18 = .ok (.istore_n 2, 1) := dk_61 (dk_at dksX0_part_0 18 rfl rfl)
theorem dX0_part_19 : decode cX0_part 19 = .ok (.iinc 3 1, 3) := dk_132 3 1 (dk_at dksX0_part_0 19 rfl rfl)
theorem dX0_part_22 : decode cX0_part 22 = .ok (.goto (-18), 3) := dk_167 255 238 (dk_at dksX0_part_1 0 rfl rfl)
theorem dX0_part_25 : decode cX0_part 25 = .ok (.aload_n 0, 1) := dk_42 (dk_at dksX0_part_1 3 rfl rfl)
theorem dX0_part_26 : decode cX0_part 26 = .ok (.bipush 32, 2) := dk_16 32 (dk_at dksX0_part_1 4 rfl rfl)
theorem dX0_part_28 : decode cX0_part 28 = .ok (.iload_n 2, 1) := dk_28 (dk_at dksX0_part_1 6 rfl rfl)
theorem dX0_part_29 : decode cX0_part 29 = .ok (.invokevirtual 17, 3) := dk_182 0 17 (dk_at dksX0_part_1 7 rfl rfl)
theorem dX0_part_32 : decode cX0_part 32 = .ok (.istore_n 3, 1) := dk_62 (dk_at dksX0_part_1 10 rfl rfl)
theorem dX0_part_33 : decode cX0_part 33 = .ok (.iload_n 3, 1) := dk_29 (dk_at dksX0_part_1 11 rfl rfl)
theorem dX0_part_34 : decode cX0_part 34 = .ok (.ifCond .ge 11, 3) := dk_156 0 11 (dk_at dksX0_part_1 12 rfl rfl)
theorem dX0_part_37 : decode cX0_part 37 = .ok (.aload_n 0, 1) := dk_42 (dk_at dksX0_part_1 15 rfl rfl)
theorem dX0_part_38 : decode cX0_part 38 = .ok (.iload_n 2, 1) := dk_28 (dk_at dksX0_part_1 16 rfl rfl)
theorem dX0_part_39 : decode cX0_part 39 = .ok (.invokevirtual 23, 3) := dk_182 0 23 (dk_at dksX0_part_1 17 rfl rfl)
theorem dX0_part_42 : decode cX0_part 42 = .ok (.goto 9, 3) := dk_167 0 9 (dk_at dksX0_part_1 20 rfl rfl)
theorem dX0_part_45 : decode cX0_part 45 = .ok (.aload_n 0, 1) := dk_42 (dk_at dksX0_part_1 23 rfl rfl)
theorem dX0_part_46 : decode cX0_part 46 = .ok (.iload_n 2, 1) := dk_28 (dk_at dksX0_part_2 0 rfl rfl)
theorem dX0_part_47 : decode cX0_part 47 = .ok (.iload_n 3, 1) := dk_29 (dk_at dksX0_part_2 1 rfl rfl)
theorem dX0_part_48 : decode cX0_part 48 = .ok (.invokevirtual 27, 3) := dk_182 0 27 (dk_at dksX0_part_2 2 rfl rfl)
theorem dX0_part_51 : decode cX0_part 51 = .ok (.invokestatic 30, 3) := dk_184 0 30 (dk_at dksX0_part_2 5 rfl rfl)
theorem dX0_part_54 : decode cX0_part 54 = .ok (.lreturn, 1) := dk_173 (dk_at dksX0_part_2 8 rfl rfl)
abbrev cX0_told_2 : ByteArray := method_5_code
def yX0_told_2 : MethodName := ⟨RX0, "told", "(I)J"⟩
def dkwX0_told_2_3 : List UInt8 := [22, 4, 97, 173]
abbrev dktX0_told_2_3 : List UInt8 := dkwX0_told_2_3 ++ []
def dkwX0_told_2_2 : List UInt8 := [21, 6, 100, 123, 148, 153, 0, 7, 20, 0, 43, 173, 132, 6, 7, 167, 255, 219, 32, 20, 0, 45, 105]
abbrev dktX0_told_2_2 : List UInt8 := dkwX0_told_2_2 ++ dktX0_told_2_3
def dkwX0_told_2_1 : List UInt8 := [54, 6, 21, 6, 16, 30, 162, 0, 36, 42, 180, 0, 10, 27, 21, 6, 182, 0, 40, 133, 22, 4, 16, 30]
abbrev dktX0_told_2_1 : List UInt8 := dkwX0_told_2_1 ++ dktX0_told_2_2
def dkwX0_told_2_0 : List UInt8 := [42, 180, 0, 10, 27, 182, 0, 36, 133, 65, 42, 180, 0, 10, 27, 16, 30, 182, 0, 40, 133, 55, 4, 3]
abbrev dktX0_told_2_0 : List UInt8 := dkwX0_told_2_0 ++ dktX0_told_2_1
theorem dksX0_told_2_0 : cX0_told_2.data.toList.drop 0 = dktX0_told_2_0 := by decide +kernel
theorem dksX0_told_2_1 : cX0_told_2.data.toList.drop 24 = dktX0_told_2_1 := dk_seg dksX0_told_2_0 24 rfl rfl
theorem dksX0_told_2_2 : cX0_told_2.data.toList.drop 48 = dktX0_told_2_2 := dk_seg dksX0_told_2_1 24 rfl rfl
theorem dksX0_told_2_3 : cX0_told_2.data.toList.drop 71 = dktX0_told_2_3 := dk_seg dksX0_told_2_2 23 rfl rfl
theorem dX0_told_2_0 : decode cX0_told_2 0 = .ok (.aload_n 0, 1) := dk_42 (dk_at dksX0_told_2_0 0 rfl rfl)
theorem dX0_told_2_1 : decode cX0_told_2 1 = .ok (.getfield 10, 3) := dk_180 0 10 (dk_at dksX0_told_2_0 1 rfl rfl)
theorem dX0_told_2_4 : decode cX0_told_2 4 = .ok (.iload_n 1, 1) := dk_27 (dk_at dksX0_told_2_0 4 rfl rfl)
theorem dX0_told_2_5 : decode cX0_told_2 5 = .ok (.invokevirtual 36, 3) := dk_182 0 36 (dk_at dksX0_told_2_0 5 rfl rfl)
theorem dX0_told_2_8 : decode cX0_told_2 8 = .ok (.i2l, 1) := dk_133 (dk_at dksX0_told_2_0 8 rfl rfl)
theorem dX0_told_2_9 : decode cX0_told_2 9 = .ok (.lstore_n 2, 1) := dk_65 (dk_at dksX0_told_2_0 9 rfl rfl)
theorem dX0_told_2_10 : decode cX0_told_2 10 = .ok (.aload_n 0, 1) := dk_42 (dk_at dksX0_told_2_0 10 rfl rfl)
theorem dX0_told_2_11 : decode cX0_told_2 11 = .ok (.getfield 10, 3) := dk_180 0 10 (dk_at dksX0_told_2_0 11 rfl rfl)
theorem dX0_told_2_14 : decode cX0_told_2 14 = .ok (.iload_n 1, 1) := dk_27 (dk_at dksX0_told_2_0 14 rfl rfl)
theorem dX0_told_2_15 : decode cX0_told_2 15 = .ok (.bipush 30, 2) := dk_16 30 (dk_at dksX0_told_2_0 15 rfl rfl)
theorem dX0_told_2_17 : decode cX0_told_2 17 = .ok (.invokevirtual 40, 3) := dk_182 0 40 (dk_at dksX0_told_2_0 17 rfl rfl)
theorem dX0_told_2_20 : decode cX0_told_2 20 = .ok (.i2l, 1) := dk_133 (dk_at dksX0_told_2_0 20 rfl rfl)
theorem dX0_told_2_21 : decode cX0_told_2 21 = .ok (.lstore 4, 2) := dk_55 4 (dk_at dksX0_told_2_0 21 rfl rfl)
theorem dX0_told_2_23 : decode cX0_told_2 23 = .ok (.iconst 0, 1) := dk_3 (dk_at dksX0_told_2_0 23 rfl rfl)
theorem dX0_told_2_24 : decode cX0_told_2 24 = .ok (.istore 6, 2) := dk_54 6 (dk_at dksX0_told_2_1 0 rfl rfl)
theorem dX0_told_2_26 : decode cX0_told_2 26 = .ok (.iload 6, 2) := dk_21 6 (dk_at dksX0_told_2_1 2 rfl rfl)
theorem dX0_told_2_28 : decode cX0_told_2 28 = .ok (.bipush 30, 2) := dk_16 30 (dk_at dksX0_told_2_1 4 rfl rfl)
theorem dX0_told_2_30 : decode cX0_told_2 30 = .ok (.if_icmp .ge 36, 3) := dk_162 0 36 (dk_at dksX0_told_2_1 6 rfl rfl)
theorem dX0_told_2_33 : decode cX0_told_2 33 = .ok (.aload_n 0, 1) := dk_42 (dk_at dksX0_told_2_1 9 rfl rfl)
theorem dX0_told_2_34 : decode cX0_told_2 34 = .ok (.getfield 10, 3) := dk_180 0 10 (dk_at dksX0_told_2_1 10 rfl rfl)
theorem dX0_told_2_37 : decode cX0_told_2 37 = .ok (.iload_n 1, 1) := dk_27 (dk_at dksX0_told_2_1 13 rfl rfl)
theorem dX0_told_2_38 : decode cX0_told_2 38 = .ok (.iload 6, 2) := dk_21 6 (dk_at dksX0_told_2_1 14 rfl rfl)
theorem dX0_told_2_40 : decode cX0_told_2 40 = .ok (.invokevirtual 40, 3) := dk_182 0 40 (dk_at dksX0_told_2_1 16 rfl rfl)
theorem dX0_told_2_43 : decode cX0_told_2 43 = .ok (.i2l, 1) := dk_133 (dk_at dksX0_told_2_1 19 rfl rfl)
theorem dX0_told_2_44 : decode cX0_told_2 44 = .ok (.lload 4, 2) := dk_22 4 (dk_at dksX0_told_2_1 20 rfl rfl)
theorem dX0_told_2_46 : decode cX0_told_2 46 = .ok (.bipush 30, 2) := dk_16 30 (dk_at dksX0_told_2_1 22 rfl rfl)
theorem dX0_told_2_48 : decode cX0_told_2 48 = .ok (.iload 6, 2) := dk_21 6 (dk_at dksX0_told_2_2 0 rfl rfl)
theorem dX0_told_2_50 : decode cX0_told_2 50 = .ok (.isub, 1) := dk_100 (dk_at dksX0_told_2_2 2 rfl rfl)
theorem dX0_told_2_51 : decode cX0_told_2 51 = .ok (.lshr, 1) := dk_123 (dk_at dksX0_told_2_2 3 rfl rfl)
theorem dX0_told_2_52 : decode cX0_told_2 52 = .ok (.lcmp, 1) := dk_148 (dk_at dksX0_told_2_2 4 rfl rfl)
theorem dX0_told_2_53 : decode cX0_told_2 53 = .ok (.ifCond .eq 7, 3) := dk_153 0 7 (dk_at dksX0_told_2_2 5 rfl rfl)
theorem dX0_told_2_56 : decode cX0_told_2 56 = .ok (.ldc2_w 43, 3) := dk_20 0 43 (dk_at dksX0_told_2_2 8 rfl rfl)
theorem dX0_told_2_59 : decode cX0_told_2 59 = .ok (.lreturn, 1) := dk_173 (dk_at dksX0_told_2_2 11 rfl rfl)
theorem dX0_told_2_60 : decode cX0_told_2 60 = .ok (.iinc 6 7, 3) := dk_132 6 7 (dk_at dksX0_told_2_2 12 rfl rfl)
theorem dX0_told_2_63 : decode cX0_told_2 63 = .ok (.goto (-37), 3) := dk_167 255 219 (dk_at dksX0_told_2_2 15 rfl rfl)
theorem dX0_told_2_66 : decode cX0_told_2 66 = .ok (.lload_n 2, 1) := dk_32 (dk_at dksX0_told_2_2 18 rfl rfl)
theorem dX0_told_2_67 : decode cX0_told_2 67 = .ok (.ldc2_w 45, 3) := dk_20 0 45 (dk_at dksX0_told_2_2 19 rfl rfl)
theorem dX0_told_2_70 : decode cX0_told_2 70 = .ok (.lmul, 1) := dk_105 (dk_at dksX0_told_2_2 22 rfl rfl)
theorem dX0_told_2_71 : decode cX0_told_2 71 = .ok (.lload 4, 2) := dk_22 4 (dk_at dksX0_told_2_3 0 rfl rfl)
theorem dX0_told_2_73 : decode cX0_told_2 73 = .ok (.ladd, 1) := dk_97 (dk_at dksX0_told_2_3 2 rfl rfl)
theorem dX0_told_2_74 : decode cX0_told_2 74 = .ok (.lreturn, 1) := dk_173 (dk_at dksX0_told_2_3 3 rfl rfl)
abbrev cX0_some : ByteArray := method_3_code
def yX0_some : MethodName := ⟨RX0, "some", "(II)I"⟩
def dkwX0_some_0 : List UInt8 := [26, 18, 16, 126, 27, 112, 172]
abbrev dktX0_some_0 : List UInt8 := dkwX0_some_0 ++ []
theorem dksX0_some_0 : cX0_some.data.toList.drop 0 = dktX0_some_0 := by decide +kernel
theorem dX0_some_0 : decode cX0_some 0 = .ok (.iload_n 0, 1) := dk_26 (dk_at dksX0_some_0 0 rfl rfl)
theorem dX0_some_1 : decode cX0_some 1 = .ok (.ldc 16, 2) := dk_18 16 (dk_at dksX0_some_0 1 rfl rfl)
theorem dX0_some_3 : decode cX0_some 3 = .ok (.iand, 1) := dk_126 (dk_at dksX0_some_0 3 rfl rfl)
theorem dX0_some_4 : decode cX0_some 4 = .ok (.iload_n 1, 1) := dk_27 (dk_at dksX0_some_0 4 rfl rfl)
theorem dX0_some_5 : decode cX0_some 5 = .ok (.irem, 1) := dk_112 (dk_at dksX0_some_0 5 rfl rfl)
theorem dX0_some_6 : decode cX0_some 6 = .ok (.ireturn, 1) := dk_172 (dk_at dksX0_some_0 6 rfl rfl)
abbrev cX0_isOut : ByteArray := method_27_code
def yX0_isOut : MethodName := ⟨RX0, "isOut", "()Z"⟩
def dkwX0_isOut_5 : List UInt8 := [153, 0, 19, 42, 180, 0, 10, 182, 1, 34, 32, 148, 154, 0, 7, 4, 167, 0, 4, 3, 172]
abbrev dktX0_isOut_5 : List UInt8 := dkwX0_isOut_5 ++ []
def dkwX0_isOut_4 : List UInt8 := [21, 5, 46, 96, 160, 0, 7, 4, 167, 0, 4, 3, 54, 4, 132, 5, 1, 167, 255, 217, 21, 4]
abbrev dktX0_isOut_4 : List UInt8 := dkwX0_isOut_4 ++ dktX0_isOut_5
def dkwX0_isOut_3 : List UInt8 := [54, 5, 21, 5, 16, 12, 162, 0, 38, 21, 4, 153, 0, 24, 42, 21, 5, 182, 1, 58, 17, 3, 232, 43]
abbrev dktX0_isOut_3 : List UInt8 := dkwX0_isOut_3 ++ dktX0_isOut_4
def dkwX0_isOut_2 : List UInt8 := [89, 16, 10, 4, 79, 89, 16, 11, 5, 79, 76, 42, 180, 0, 10, 182, 1, 34, 65, 4, 54, 4, 3]
abbrev dktX0_isOut_2 : List UInt8 := dkwX0_isOut_2 ++ dktX0_isOut_3
def dkwX0_isOut_1 : List UInt8 := [89, 8, 4, 79, 89, 16, 6, 5, 79, 89, 16, 7, 5, 79, 89, 16, 8, 5, 79, 89, 16, 9, 5, 79]
abbrev dktX0_isOut_1 : List UInt8 := dkwX0_isOut_1 ++ dktX0_isOut_2
def dkwX0_isOut_0 : List UInt8 := [16, 12, 188, 10, 89, 3, 4, 79, 89, 4, 5, 79, 89, 5, 5, 79, 89, 6, 5, 79, 89, 7, 4, 79]
abbrev dktX0_isOut_0 : List UInt8 := dkwX0_isOut_0 ++ dktX0_isOut_1
theorem dksX0_isOut_0 : cX0_isOut.data.toList.drop 0 = dktX0_isOut_0 := by decide +kernel
theorem dksX0_isOut_1 : cX0_isOut.data.toList.drop 24 = dktX0_isOut_1 := dk_seg dksX0_isOut_0 24 rfl rfl
theorem dksX0_isOut_2 : cX0_isOut.data.toList.drop 48 = dktX0_isOut_2 := dk_seg dksX0_isOut_1 24 rfl rfl
theorem dksX0_isOut_3 : cX0_isOut.data.toList.drop 71 = dktX0_isOut_3 := dk_seg dksX0_isOut_2 23 rfl rfl
theorem dksX0_isOut_4 : cX0_isOut.data.toList.drop 95 = dktX0_isOut_4 := dk_seg dksX0_isOut_3 24 rfl rfl
theorem dksX0_isOut_5 : cX0_isOut.data.toList.drop 117 = dktX0_isOut_5 := dk_seg dksX0_isOut_4 22 rfl rfl
theorem dX0_isOut_0 : decode cX0_isOut 0 = .ok (.bipush 12, 2) := dk_16 12 (dk_at dksX0_isOut_0 0 rfl rfl)
theorem dX0_isOut_2 : decode cX0_isOut 2 = .ok (.newarray .int, 2) := dk_188_10 (dk_at dksX0_isOut_0 2 rfl rfl)
theorem dX0_isOut_4 : decode cX0_isOut 4 = .ok (.dup, 1) := dk_89 (dk_at dksX0_isOut_0 4 rfl rfl)
theorem dX0_isOut_5 : decode cX0_isOut 5 = .ok (.iconst 0, 1) := dk_3 (dk_at dksX0_isOut_0 5 rfl rfl)
theorem dX0_isOut_6 : decode cX0_isOut 6 = .ok (.iconst 1, 1) := dk_4 (dk_at dksX0_isOut_0 6 rfl rfl)
theorem dX0_isOut_7 : decode cX0_isOut 7 = .ok (.iastore, 1) := dk_79 (dk_at dksX0_isOut_0 7 rfl rfl)
theorem dX0_isOut_8 : decode cX0_isOut 8 = .ok (.dup, 1) := dk_89 (dk_at dksX0_isOut_0 8 rfl rfl)
theorem dX0_isOut_9 : decode cX0_isOut 9 = .ok (.iconst 1, 1) := dk_4 (dk_at dksX0_isOut_0 9 rfl rfl)
theorem dX0_isOut_10 : decode cX0_isOut 10 = .ok (.iconst 2, 1) := dk_5 (dk_at dksX0_isOut_0 10 rfl rfl)
theorem dX0_isOut_11 : decode cX0_isOut 11 = .ok (.iastore, 1) := dk_79 (dk_at dksX0_isOut_0 11 rfl rfl)
theorem dX0_isOut_12 : decode cX0_isOut 12 = .ok (.dup, 1) := dk_89 (dk_at dksX0_isOut_0 12 rfl rfl)
theorem dX0_isOut_13 : decode cX0_isOut 13 = .ok (.iconst 2, 1) := dk_5 (dk_at dksX0_isOut_0 13 rfl rfl)
theorem dX0_isOut_14 : decode cX0_isOut 14 = .ok (.iconst 2, 1) := dk_5 (dk_at dksX0_isOut_0 14 rfl rfl)
theorem dX0_isOut_15 : decode cX0_isOut 15 = .ok (.iastore, 1) := dk_79 (dk_at dksX0_isOut_0 15 rfl rfl)
theorem dX0_isOut_16 : decode cX0_isOut 16 = .ok (.dup, 1) := dk_89 (dk_at dksX0_isOut_0 16 rfl rfl)
theorem dX0_isOut_17 : decode cX0_isOut 17 = .ok (.iconst 3, 1) := dk_6 (dk_at dksX0_isOut_0 17 rfl rfl)
theorem dX0_isOut_18 : decode cX0_isOut 18 = .ok (.iconst 2, 1) := dk_5 (dk_at dksX0_isOut_0 18 rfl rfl)
theorem dX0_isOut_19 : decode cX0_isOut 19 = .ok (.iastore, 1) := dk_79 (dk_at dksX0_isOut_0 19 rfl rfl)
theorem dX0_isOut_20 : decode cX0_isOut 20 = .ok (.dup, 1) := dk_89 (dk_at dksX0_isOut_0 20 rfl rfl)
theorem dX0_isOut_21 : decode cX0_isOut 21 = .ok (.iconst 4, 1) := dk_7 (dk_at dksX0_isOut_0 21 rfl rfl)
theorem dX0_isOut_22 : decode cX0_isOut 22 = .ok (.iconst 1, 1) := dk_4 (dk_at dksX0_isOut_0 22 rfl rfl)
theorem dX0_isOut_23 : decode cX0_isOut 23 = .ok (.iastore, 1) := dk_79 (dk_at dksX0_isOut_0 23 rfl rfl)
theorem dX0_isOut_24 : decode cX0_isOut 24 = .ok (.dup, 1) := dk_89 (dk_at dksX0_isOut_1 0 rfl rfl)
theorem dX0_isOut_25 : decode cX0_isOut 25 = .ok (.iconst 5, 1) := dk_8 (dk_at dksX0_isOut_1 1 rfl rfl)
theorem dX0_isOut_26 : decode cX0_isOut 26 = .ok (.iconst 1, 1) := dk_4 (dk_at dksX0_isOut_1 2 rfl rfl)
theorem dX0_isOut_27 : decode cX0_isOut 27 = .ok (.iastore, 1) := dk_79 (dk_at dksX0_isOut_1 3 rfl rfl)
theorem dX0_isOut_28 : decode cX0_isOut 28 = .ok (.dup, 1) := dk_89 (dk_at dksX0_isOut_1 4 rfl rfl)
theorem dX0_isOut_29 : decode cX0_isOut 29 = .ok (.bipush 6, 2) := dk_16 6 (dk_at dksX0_isOut_1 5 rfl rfl)
theorem dX0_isOut_31 : decode cX0_isOut 31 = .ok (.iconst 2, 1) := dk_5 (dk_at dksX0_isOut_1 7 rfl rfl)
theorem dX0_isOut_32 : decode cX0_isOut 32 = .ok (.iastore, 1) := dk_79 (dk_at dksX0_isOut_1 8 rfl rfl)
theorem dX0_isOut_33 : decode cX0_isOut 33 = .ok (.dup, 1) := dk_89 (dk_at dksX0_isOut_1 9 rfl rfl)
theorem dX0_isOut_34 : decode cX0_isOut 34 = .ok (.bipush 7, 2) := dk_16 7 (dk_at dksX0_isOut_1 10 rfl rfl)
theorem dX0_isOut_36 : decode cX0_isOut 36 = .ok (.iconst 2, 1) := dk_5 (dk_at dksX0_isOut_1 12 rfl rfl)
theorem dX0_isOut_37 : decode cX0_isOut 37 = .ok (.iastore, 1) := dk_79 (dk_at dksX0_isOut_1 13 rfl rfl)
theorem dX0_isOut_38 : decode cX0_isOut 38 = .ok (.dup, 1) := dk_89 (dk_at dksX0_isOut_1 14 rfl rfl)
theorem dX0_isOut_39 : decode cX0_isOut 39 = .ok (.bipush 8, 2) := dk_16 8 (dk_at dksX0_isOut_1 15 rfl rfl)
theorem dX0_isOut_41 : decode cX0_isOut 41 = .ok (.iconst 2, 1) := dk_5 (dk_at dksX0_isOut_1 17 rfl rfl)
theorem dX0_isOut_42 : decode cX0_isOut 42 = .ok (.iastore, 1) := dk_79 (dk_at dksX0_isOut_1 18 rfl rfl)
theorem dX0_isOut_43 : decode cX0_isOut 43 = .ok (.dup, 1) := dk_89 (dk_at dksX0_isOut_1 19 rfl rfl)
theorem dX0_isOut_44 : decode cX0_isOut 44 = .ok (.bipush 9, 2) := dk_16 9 (dk_at dksX0_isOut_1 20 rfl rfl)
theorem dX0_isOut_46 : decode cX0_isOut 46 = .ok (.iconst 2, 1) := dk_5 (dk_at dksX0_isOut_1 22 rfl rfl)
theorem dX0_isOut_47 : decode cX0_isOut 47 = .ok (.iastore, 1) := dk_79 (dk_at dksX0_isOut_1 23 rfl rfl)
theorem dX0_isOut_48 : decode cX0_isOut 48 = .ok (.dup, 1) := dk_89 (dk_at dksX0_isOut_2 0 rfl rfl)
theorem dX0_isOut_49 : decode cX0_isOut 49 = .ok (.bipush 10, 2) := dk_16 10 (dk_at dksX0_isOut_2 1 rfl rfl)
theorem dX0_isOut_51 : decode cX0_isOut 51 = .ok (.iconst 1, 1) := dk_4 (dk_at dksX0_isOut_2 3 rfl rfl)
theorem dX0_isOut_52 : decode cX0_isOut 52 = .ok (.iastore, 1) := dk_79 (dk_at dksX0_isOut_2 4 rfl rfl)
theorem dX0_isOut_53 : decode cX0_isOut 53 = .ok (.dup, 1) := dk_89 (dk_at dksX0_isOut_2 5 rfl rfl)
theorem dX0_isOut_54 : decode cX0_isOut 54 = .ok (.bipush 11, 2) := dk_16 11 (dk_at dksX0_isOut_2 6 rfl rfl)
theorem dX0_isOut_56 : decode cX0_isOut 56 = .ok (.iconst 2, 1) := dk_5 (dk_at dksX0_isOut_2 8 rfl rfl)
theorem dX0_isOut_57 : decode cX0_isOut 57 = .ok (.iastore, 1) := dk_79 (dk_at dksX0_isOut_2 9 rfl rfl)
theorem dX0_isOut_58 : decode cX0_isOut 58 = .ok (.astore_n 1, 1) := dk_76 (dk_at dksX0_isOut_2 10 rfl rfl)
theorem dX0_isOut_59 : decode cX0_isOut 59 = .ok (.aload_n 0, 1) := dk_42 (dk_at dksX0_isOut_2 11 rfl rfl)
theorem dX0_isOut_60 : decode cX0_isOut 60 = .ok (.getfield 10, 3) := dk_180 0 10 (dk_at dksX0_isOut_2 12 rfl rfl)
theorem dX0_isOut_63 : decode cX0_isOut 63 = .ok (.invokevirtual 290, 3) := dk_182 1 34 (dk_at dksX0_isOut_2 15 rfl rfl)
theorem dX0_isOut_66 : decode cX0_isOut 66 = .ok (.lstore_n 2, 1) := dk_65 (dk_at dksX0_isOut_2 18 rfl rfl)
theorem dX0_isOut_67 : decode cX0_isOut 67 = .ok (.iconst 1, 1) := dk_4 (dk_at dksX0_isOut_2 19 rfl rfl)
theorem dX0_isOut_68 : decode cX0_isOut 68 = .ok (.istore 4, 2) := dk_54 4 (dk_at dksX0_isOut_2 20 rfl rfl)
theorem dX0_isOut_70 : decode cX0_isOut 70 = .ok (.iconst 0, 1) := dk_3 (dk_at dksX0_isOut_2 22 rfl rfl)
theorem dX0_isOut_71 : decode cX0_isOut 71 = .ok (.istore 5, 2) := dk_54 5 (dk_at dksX0_isOut_3 0 rfl rfl)
theorem dX0_isOut_73 : decode cX0_isOut 73 = .ok (.iload 5, 2) := dk_21 5 (dk_at dksX0_isOut_3 2 rfl rfl)
theorem dX0_isOut_75 : decode cX0_isOut 75 = .ok (.bipush 12, 2) := dk_16 12 (dk_at dksX0_isOut_3 4 rfl rfl)
theorem dX0_isOut_77 : decode cX0_isOut 77 = .ok (.if_icmp .ge 38, 3) := dk_162 0 38 (dk_at dksX0_isOut_3 6 rfl rfl)
theorem dX0_isOut_80 : decode cX0_isOut 80 = .ok (.iload 4, 2) := dk_21 4 (dk_at dksX0_isOut_3 9 rfl rfl)
theorem dX0_isOut_82 : decode cX0_isOut 82 = .ok (.ifCond .eq 24, 3) := dk_153 0 24 (dk_at dksX0_isOut_3 11 rfl rfl)
theorem dX0_isOut_85 : decode cX0_isOut 85 = .ok (.aload_n 0, 1) := dk_42 (dk_at dksX0_isOut_3 14 rfl rfl)
theorem dX0_isOut_86 : decode cX0_isOut 86 = .ok (.iload 5, 2) := dk_21 5 (dk_at dksX0_isOut_3 15 rfl rfl)
theorem dX0_isOut_88 : decode cX0_isOut 88 = .ok (.invokevirtual 314, 3) := dk_182 1 58 (dk_at dksX0_isOut_3 17 rfl rfl)
theorem dX0_isOut_91 : decode cX0_isOut 91 = .ok (.sipush 1000, 3) := dk_17 3 232 (dk_at dksX0_isOut_3 20 rfl rfl)
theorem dX0_isOut_94 : decode cX0_isOut 94 = .ok (.aload_n 1, 1) := dk_43 (dk_at dksX0_isOut_3 23 rfl rfl)
theorem dX0_isOut_95 : decode cX0_isOut 95 = .ok (.iload 5, 2) := dk_21 5 (dk_at dksX0_isOut_4 0 rfl rfl)
theorem dX0_isOut_97 : decode cX0_isOut 97 = .ok (.iaload, 1) := dk_46 (dk_at dksX0_isOut_4 2 rfl rfl)
theorem dX0_isOut_98 : decode cX0_isOut 98 = .ok (.iadd, 1) := dk_96 (dk_at dksX0_isOut_4 3 rfl rfl)
theorem dX0_isOut_99 : decode cX0_isOut 99 = .ok (.if_icmp .ne 7, 3) := dk_160 0 7 (dk_at dksX0_isOut_4 4 rfl rfl)
theorem dX0_isOut_102 : decode cX0_isOut 102 = .ok (.iconst 1, 1) := dk_4 (dk_at dksX0_isOut_4 7 rfl rfl)
theorem dX0_isOut_103 : decode cX0_isOut 103 = .ok (.goto 4, 3) := dk_167 0 4 (dk_at dksX0_isOut_4 8 rfl rfl)
theorem dX0_isOut_106 : decode cX0_isOut 106 = .ok (.iconst 0, 1) := dk_3 (dk_at dksX0_isOut_4 11 rfl rfl)
theorem dX0_isOut_107 : decode cX0_isOut 107 = .ok (.istore 4, 2) := dk_54 4 (dk_at dksX0_isOut_4 12 rfl rfl)
theorem dX0_isOut_109 : decode cX0_isOut 109 = .ok (.iinc 5 1, 3) := dk_132 5 1 (dk_at dksX0_isOut_4 14 rfl rfl)
theorem dX0_isOut_112 : decode cX0_isOut 112 = .ok (.goto (-39), 3) := dk_167 255 217 (dk_at dksX0_isOut_4 17 rfl rfl)
theorem dX0_isOut_115 : decode cX0_isOut 115 = .ok (.iload 4, 2) := dk_21 4 (dk_at dksX0_isOut_4 20 rfl rfl)
theorem dX0_isOut_117 : decode cX0_isOut 117 = .ok (.ifCond .eq 19, 3) := dk_153 0 19 (dk_at dksX0_isOut_5 0 rfl rfl)
theorem dX0_isOut_120 : decode cX0_isOut 120 = .ok (.aload_n 0, 1) := dk_42 (dk_at dksX0_isOut_5 3 rfl rfl)
theorem dX0_isOut_121 : decode cX0_isOut 121 = .ok (.getfield 10, 3) := dk_180 0 10 (dk_at dksX0_isOut_5 4 rfl rfl)
theorem dX0_isOut_124 : decode cX0_isOut 124 = .ok (.invokevirtual 290, 3) := dk_182 1 34 (dk_at dksX0_isOut_5 7 rfl rfl)
theorem dX0_isOut_127 : decode cX0_isOut 127 = .ok (.lload_n 2, 1) := dk_32 (dk_at dksX0_isOut_5 10 rfl rfl)
theorem dX0_isOut_128 : decode cX0_isOut 128 = .ok (.lcmp, 1) := dk_148 (dk_at dksX0_isOut_5 11 rfl rfl)
theorem dX0_isOut_129 : decode cX0_isOut 129 = .ok (.ifCond .ne 7, 3) := dk_154 0 7 (dk_at dksX0_isOut_5 12 rfl rfl)
theorem dX0_isOut_132 : decode cX0_isOut 132 = .ok (.iconst 1, 1) := dk_4 (dk_at dksX0_isOut_5 15 rfl rfl)
theorem dX0_isOut_133 : decode cX0_isOut 133 = .ok (.goto 4, 3) := dk_167 0 4 (dk_at dksX0_isOut_5 16 rfl rfl)
theorem dX0_isOut_136 : decode cX0_isOut 136 = .ok (.iconst 0, 1) := dk_3 (dk_at dksX0_isOut_5 19 rfl rfl)
theorem dX0_isOut_137 : decode cX0_isOut 137 = .ok (.ireturn, 1) := dk_172 (dk_at dksX0_isOut_5 20 rfl rfl)
abbrev cX0_out : ByteArray := method_26_code
def yX0_out : MethodName := ⟨RX0, "out", "(I)I"⟩
def dkwX0_out_0 : List UInt8 := [42, 27, 182, 1, 51, 87, 3, 172, 77, 17, 3, 233, 172, 77, 17, 3, 234, 172]
abbrev dktX0_out_0 : List UInt8 := dkwX0_out_0 ++ []
theorem dksX0_out_0 : cX0_out.data.toList.drop 0 = dktX0_out_0 := by decide +kernel
theorem dX0_out_0 : decode cX0_out 0 = .ok (.aload_n 0, 1) := dk_42 (dk_at dksX0_out_0 0 rfl rfl)
theorem dX0_out_1 : decode cX0_out 1 = .ok (.iload_n 1, 1) := dk_27 (dk_at dksX0_out_0 1 rfl rfl)
theorem dX0_out_2 : decode cX0_out 2 = .ok (.invokevirtual 307, 3) := dk_182 1 51 (dk_at dksX0_out_0 2 rfl rfl)
theorem dX0_out_5 : decode cX0_out 5 = .ok (.pop, 1) := dk_87 (dk_at dksX0_out_0 5 rfl rfl)
theorem dX0_out_6 : decode cX0_out 6 = .ok (.iconst 0, 1) := dk_3 (dk_at dksX0_out_0 6 rfl rfl)
theorem dX0_out_7 : decode cX0_out 7 = .ok (.ireturn, 1) := dk_172 (dk_at dksX0_out_0 7 rfl rfl)
theorem dX0_out_8 : decode cX0_out 8 = .ok (.astore_n 2, 1) := dk_77 (dk_at dksX0_out_0 8 rfl rfl)
theorem dX0_out_9 : decode cX0_out 9 = .ok (.sipush 1001, 3) := dk_17 3 233 (dk_at dksX0_out_0 9 rfl rfl)
theorem dX0_out_12 : decode cX0_out 12 = .ok (.ireturn, 1) := dk_172 (dk_at dksX0_out_0 12 rfl rfl)
theorem dX0_out_13 : decode cX0_out 13 = .ok (.astore_n 2, 1) := dk_77 (dk_at dksX0_out_0 13 rfl rfl)
theorem dX0_out_14 : decode cX0_out 14 = .ok (.sipush 1002, 3) := dk_17 3 234 (dk_at dksX0_out_0 14 rfl rfl)
theorem dX0_out_17 : decode cX0_out 17 = .ok (.ireturn, 1) := dk_172 (dk_at dksX0_out_0 17 rfl rfl)
abbrev cX0_call : ByteArray := method_25_code
def yX0_call : MethodName := ⟨RX0, "call", "(I)I"⟩
def dkwX0_call_7 : List UInt8 := [180, 0, 10, 3, 3, 16, 17, 16, 8, 182, 0, 243, 172, 42, 180, 0, 10, 7, 182, 0, 47, 172]
abbrev dktX0_call_7 : List UInt8 := dkwX0_call_7 ++ []
def dkwX0_call_6 : List UInt8 := [42, 180, 0, 10, 3, 18, 109, 5, 182, 0, 237, 172, 42, 180, 0, 10, 6, 3, 4, 182, 0, 240, 172, 42]
abbrev dktX0_call_6 : List UInt8 := dkwX0_call_6 ++ dktX0_call_7
def dkwX0_call_5 : List UInt8 := [182, 0, 54, 172, 42, 180, 0, 10, 6, 182, 1, 27, 172, 42, 180, 0, 10, 3, 16, 31, 182, 0, 40, 172]
abbrev dktX0_call_5 : List UInt8 := dkwX0_call_5 ++ dktX0_call_6
def dkwX0_call_4 : List UInt8 := [3, 182, 0, 97, 172, 42, 180, 0, 10, 3, 16, 8, 4, 182, 0, 139, 172, 42, 180, 0, 10, 2, 3]
abbrev dktX0_call_4 : List UInt8 := dkwX0_call_4 ++ dktX0_call_5
def dkwX0_call_3 : List UInt8 := [172, 42, 180, 0, 10, 3, 16, 32, 16, 8, 3, 182, 0, 97, 172, 42, 180, 0, 10, 3, 16, 33, 16, 45]
abbrev dktX0_call_3 : List UInt8 := dkwX0_call_3 ++ dktX0_call_4
def dkwX0_call_2 : List UInt8 := [42, 180, 0, 10, 16, 8, 19, 1, 49, 182, 0, 110, 172, 42, 180, 0, 10, 3, 19, 1, 50, 182, 0, 110]
abbrev dktX0_call_2 : List UInt8 := dkwX0_call_2 ++ dktX0_call_3
def dkwX0_call_1 : List UInt8 := [170, 0, 0, 0, 0, 0, 191, 0, 0, 0, 0, 0, 0, 0, 10, 0, 0, 0, 59, 0, 0, 0, 72, 0, 0, 0, 84, 0, 0, 0, 98, 0, 0, 0, 112, 0, 0, 0, 124, 0, 0, 0, 134, 0, 0, 0, 143, 0, 0, 0, 154, 0, 0, 0, 166, 0, 0, 0, 177]
abbrev dktX0_call_1 : List UInt8 := dkwX0_call_1 ++ dktX0_call_2
def dkwX0_call_0 : List UInt8 := [27]
abbrev dktX0_call_0 : List UInt8 := dkwX0_call_0 ++ dktX0_call_1
theorem dksX0_call_0 : cX0_call.data.toList.drop 0 = dktX0_call_0 := by decide +kernel
theorem dksX0_call_1 : cX0_call.data.toList.drop 1 = dktX0_call_1 := dk_seg dksX0_call_0 1 rfl rfl
theorem dksX0_call_2 : cX0_call.data.toList.drop 60 = dktX0_call_2 := dk_seg dksX0_call_1 59 rfl rfl
theorem dksX0_call_3 : cX0_call.data.toList.drop 84 = dktX0_call_3 := dk_seg dksX0_call_2 24 rfl rfl
theorem dksX0_call_4 : cX0_call.data.toList.drop 108 = dktX0_call_4 := dk_seg dksX0_call_3 24 rfl rfl
theorem dksX0_call_5 : cX0_call.data.toList.drop 131 = dktX0_call_5 := dk_seg dksX0_call_4 23 rfl rfl
theorem dksX0_call_6 : cX0_call.data.toList.drop 155 = dktX0_call_6 := dk_seg dksX0_call_5 24 rfl rfl
theorem dksX0_call_7 : cX0_call.data.toList.drop 179 = dktX0_call_7 := dk_seg dksX0_call_6 24 rfl rfl
theorem dX0_call_0 : decode cX0_call 0 = .ok (.iload_n 1, 1) := dk_27 (dk_at dksX0_call_0 0 rfl rfl)
theorem dX0_call_1 : decode cX0_call 1 = .ok (.tableswitch 191 0 10 #[59, 72, 84, 98, 112, 124, 134, 143, 154, 166, 177], 59) := by decide +kernel
theorem dX0_call_60 : decode cX0_call 60 = .ok (.aload_n 0, 1) := dk_42 (dk_at dksX0_call_2 0 rfl rfl)
theorem dX0_call_61 : decode cX0_call 61 = .ok (.getfield 10, 3) := dk_180 0 10 (dk_at dksX0_call_2 1 rfl rfl)
theorem dX0_call_64 : decode cX0_call 64 = .ok (.bipush 8, 2) := dk_16 8 (dk_at dksX0_call_2 4 rfl rfl)
theorem dX0_call_66 : decode cX0_call 66 = .ok (.ldc_w 305, 3) := dk_19 1 49 (dk_at dksX0_call_2 6 rfl rfl)
theorem dX0_call_69 : decode cX0_call 69 = .ok (.invokevirtual 110, 3) := dk_182 0 110 (dk_at dksX0_call_2 9 rfl rfl)
theorem dX0_call_72 : decode cX0_call 72 = .ok (.ireturn, 1) := dk_172 (dk_at dksX0_call_2 12 rfl rfl)
theorem dX0_call_73 : decode cX0_call 73 = .ok (.aload_n 0, 1) := dk_42 (dk_at dksX0_call_2 13 rfl rfl)
theorem dX0_call_74 : decode cX0_call 74 = .ok (.getfield 10, 3) := dk_180 0 10 (dk_at dksX0_call_2 14 rfl rfl)
theorem dX0_call_77 : decode cX0_call 77 = .ok (.iconst 0, 1) := dk_3 (dk_at dksX0_call_2 17 rfl rfl)
theorem dX0_call_78 : decode cX0_call 78 = .ok (.ldc_w 306, 3) := dk_19 1 50 (dk_at dksX0_call_2 18 rfl rfl)
theorem dX0_call_81 : decode cX0_call 81 = .ok (.invokevirtual 110, 3) := dk_182 0 110 (dk_at dksX0_call_2 21 rfl rfl)
theorem dX0_call_84 : decode cX0_call 84 = .ok (.ireturn, 1) := dk_172 (dk_at dksX0_call_3 0 rfl rfl)
theorem dX0_call_85 : decode cX0_call 85 = .ok (.aload_n 0, 1) := dk_42 (dk_at dksX0_call_3 1 rfl rfl)
theorem dX0_call_86 : decode cX0_call 86 = .ok (.getfield 10, 3) := dk_180 0 10 (dk_at dksX0_call_3 2 rfl rfl)
theorem dX0_call_89 : decode cX0_call 89 = .ok (.iconst 0, 1) := dk_3 (dk_at dksX0_call_3 5 rfl rfl)
theorem dX0_call_90 : decode cX0_call 90 = .ok (.bipush 32, 2) := dk_16 32 (dk_at dksX0_call_3 6 rfl rfl)
theorem dX0_call_92 : decode cX0_call 92 = .ok (.bipush 8, 2) := dk_16 8 (dk_at dksX0_call_3 8 rfl rfl)
theorem dX0_call_94 : decode cX0_call 94 = .ok (.iconst 0, 1) := dk_3 (dk_at dksX0_call_3 10 rfl rfl)
theorem dX0_call_95 : decode cX0_call 95 = .ok (.invokevirtual 97, 3) := dk_182 0 97 (dk_at dksX0_call_3 11 rfl rfl)
theorem dX0_call_98 : decode cX0_call 98 = .ok (.ireturn, 1) := dk_172 (dk_at dksX0_call_3 14 rfl rfl)
theorem dX0_call_99 : decode cX0_call 99 = .ok (.aload_n 0, 1) := dk_42 (dk_at dksX0_call_3 15 rfl rfl)
theorem dX0_call_100 : decode cX0_call 100 = .ok (.getfield 10, 3) := dk_180 0 10 (dk_at dksX0_call_3 16 rfl rfl)
theorem dX0_call_103 : decode cX0_call 103 = .ok (.iconst 0, 1) := dk_3 (dk_at dksX0_call_3 19 rfl rfl)
theorem dX0_call_104 : decode cX0_call 104 = .ok (.bipush 33, 2) := dk_16 33 (dk_at dksX0_call_3 20 rfl rfl)
theorem dX0_call_106 : decode cX0_call 106 = .ok (.bipush 45, 2) := dk_16 45 (dk_at dksX0_call_3 22 rfl rfl)
theorem dX0_call_108 : decode cX0_call 108 = .ok (.iconst 0, 1) := dk_3 (dk_at dksX0_call_4 0 rfl rfl)
theorem dX0_call_109 : decode cX0_call 109 = .ok (.invokevirtual 97, 3) := dk_182 0 97 (dk_at dksX0_call_4 1 rfl rfl)
theorem dX0_call_112 : decode cX0_call 112 = .ok (.ireturn, 1) := dk_172 (dk_at dksX0_call_4 4 rfl rfl)
theorem dX0_call_113 : decode cX0_call 113 = .ok (.aload_n 0, 1) := dk_42 (dk_at dksX0_call_4 5 rfl rfl)
theorem dX0_call_114 : decode cX0_call 114 = .ok (.getfield 10, 3) := dk_180 0 10 (dk_at dksX0_call_4 6 rfl rfl)
theorem dX0_call_117 : decode cX0_call 117 = .ok (.iconst 0, 1) := dk_3 (dk_at dksX0_call_4 9 rfl rfl)
theorem dX0_call_118 : decode cX0_call 118 = .ok (.bipush 8, 2) := dk_16 8 (dk_at dksX0_call_4 10 rfl rfl)
theorem dX0_call_120 : decode cX0_call 120 = .ok (.iconst 1, 1) := dk_4 (dk_at dksX0_call_4 12 rfl rfl)
theorem dX0_call_121 : decode cX0_call 121 = .ok (.invokevirtual 139, 3) := dk_182 0 139 (dk_at dksX0_call_4 13 rfl rfl)
theorem dX0_call_124 : decode cX0_call 124 = .ok (.ireturn, 1) := dk_172 (dk_at dksX0_call_4 16 rfl rfl)
theorem dX0_call_125 : decode cX0_call 125 = .ok (.aload_n 0, 1) := dk_42 (dk_at dksX0_call_4 17 rfl rfl)
theorem dX0_call_126 : decode cX0_call 126 = .ok (.getfield 10, 3) := dk_180 0 10 (dk_at dksX0_call_4 18 rfl rfl)
theorem dX0_call_129 : decode cX0_call 129 = .ok (.iconst (-1), 1) := dk_2 (dk_at dksX0_call_4 21 rfl rfl)
theorem dX0_call_130 : decode cX0_call 130 = .ok (.iconst 0, 1) := dk_3 (dk_at dksX0_call_4 22 rfl rfl)
theorem dX0_call_131 : decode cX0_call 131 = .ok (.invokevirtual 54, 3) := dk_182 0 54 (dk_at dksX0_call_5 0 rfl rfl)
theorem dX0_call_134 : decode cX0_call 134 = .ok (.ireturn, 1) := dk_172 (dk_at dksX0_call_5 3 rfl rfl)
theorem dX0_call_135 : decode cX0_call 135 = .ok (.aload_n 0, 1) := dk_42 (dk_at dksX0_call_5 4 rfl rfl)
theorem dX0_call_136 : decode cX0_call 136 = .ok (.getfield 10, 3) := dk_180 0 10 (dk_at dksX0_call_5 5 rfl rfl)
theorem dX0_call_139 : decode cX0_call 139 = .ok (.iconst 3, 1) := dk_6 (dk_at dksX0_call_5 8 rfl rfl)
theorem dX0_call_140 : decode cX0_call 140 = .ok (.invokevirtual 283, 3) := dk_182 1 27 (dk_at dksX0_call_5 9 rfl rfl)
theorem dX0_call_143 : decode cX0_call 143 = .ok (.ireturn, 1) := dk_172 (dk_at dksX0_call_5 12 rfl rfl)
theorem dX0_call_144 : decode cX0_call 144 = .ok (.aload_n 0, 1) := dk_42 (dk_at dksX0_call_5 13 rfl rfl)
theorem dX0_call_145 : decode cX0_call 145 = .ok (.getfield 10, 3) := dk_180 0 10 (dk_at dksX0_call_5 14 rfl rfl)
theorem dX0_call_148 : decode cX0_call 148 = .ok (.iconst 0, 1) := dk_3 (dk_at dksX0_call_5 17 rfl rfl)
theorem dX0_call_149 : decode cX0_call 149 = .ok (.bipush 31, 2) := dk_16 31 (dk_at dksX0_call_5 18 rfl rfl)
theorem dX0_call_151 : decode cX0_call 151 = .ok (.invokevirtual 40, 3) := dk_182 0 40 (dk_at dksX0_call_5 20 rfl rfl)
theorem dX0_call_154 : decode cX0_call 154 = .ok (.ireturn, 1) := dk_172 (dk_at dksX0_call_5 23 rfl rfl)
theorem dX0_call_155 : decode cX0_call 155 = .ok (.aload_n 0, 1) := dk_42 (dk_at dksX0_call_6 0 rfl rfl)
theorem dX0_call_156 : decode cX0_call 156 = .ok (.getfield 10, 3) := dk_180 0 10 (dk_at dksX0_call_6 1 rfl rfl)
theorem dX0_call_159 : decode cX0_call 159 = .ok (.iconst 0, 1) := dk_3 (dk_at dksX0_call_6 4 rfl rfl)
theorem dX0_call_160 : decode cX0_call 160 = .ok (.ldc 109, 2) := dk_18 109 (dk_at dksX0_call_6 5 rfl rfl)
theorem dX0_call_162 : decode cX0_call 162 = .ok (.iconst 2, 1) := dk_5 (dk_at dksX0_call_6 7 rfl rfl)
theorem dX0_call_163 : decode cX0_call 163 = .ok (.invokevirtual 237, 3) := dk_182 0 237 (dk_at dksX0_call_6 8 rfl rfl)
theorem dX0_call_166 : decode cX0_call 166 = .ok (.ireturn, 1) := dk_172 (dk_at dksX0_call_6 11 rfl rfl)
theorem dX0_call_167 : decode cX0_call 167 = .ok (.aload_n 0, 1) := dk_42 (dk_at dksX0_call_6 12 rfl rfl)
theorem dX0_call_168 : decode cX0_call 168 = .ok (.getfield 10, 3) := dk_180 0 10 (dk_at dksX0_call_6 13 rfl rfl)
theorem dX0_call_171 : decode cX0_call 171 = .ok (.iconst 3, 1) := dk_6 (dk_at dksX0_call_6 16 rfl rfl)
theorem dX0_call_172 : decode cX0_call 172 = .ok (.iconst 0, 1) := dk_3 (dk_at dksX0_call_6 17 rfl rfl)
theorem dX0_call_173 : decode cX0_call 173 = .ok (.iconst 1, 1) := dk_4 (dk_at dksX0_call_6 18 rfl rfl)
theorem dX0_call_174 : decode cX0_call 174 = .ok (.invokevirtual 240, 3) := dk_182 0 240 (dk_at dksX0_call_6 19 rfl rfl)
theorem dX0_call_177 : decode cX0_call 177 = .ok (.ireturn, 1) := dk_172 (dk_at dksX0_call_6 22 rfl rfl)
theorem dX0_call_178 : decode cX0_call 178 = .ok (.aload_n 0, 1) := dk_42 (dk_at dksX0_call_6 23 rfl rfl)
theorem dX0_call_179 : decode cX0_call 179 = .ok (.getfield 10, 3) := dk_180 0 10 (dk_at dksX0_call_7 0 rfl rfl)
theorem dX0_call_182 : decode cX0_call 182 = .ok (.iconst 0, 1) := dk_3 (dk_at dksX0_call_7 3 rfl rfl)
theorem dX0_call_183 : decode cX0_call 183 = .ok (.iconst 0, 1) := dk_3 (dk_at dksX0_call_7 4 rfl rfl)
theorem dX0_call_184 : decode cX0_call 184 = .ok (.bipush 17, 2) := dk_16 17 (dk_at dksX0_call_7 5 rfl rfl)
theorem dX0_call_186 : decode cX0_call 186 = .ok (.bipush 8, 2) := dk_16 8 (dk_at dksX0_call_7 7 rfl rfl)
theorem dX0_call_188 : decode cX0_call 188 = .ok (.invokevirtual 243, 3) := dk_182 0 243 (dk_at dksX0_call_7 9 rfl rfl)
theorem dX0_call_191 : decode cX0_call 191 = .ok (.ireturn, 1) := dk_172 (dk_at dksX0_call_7 12 rfl rfl)
theorem dX0_call_192 : decode cX0_call 192 = .ok (.aload_n 0, 1) := dk_42 (dk_at dksX0_call_7 13 rfl rfl)
theorem dX0_call_193 : decode cX0_call 193 = .ok (.getfield 10, 3) := dk_180 0 10 (dk_at dksX0_call_7 14 rfl rfl)
theorem dX0_call_196 : decode cX0_call 196 = .ok (.iconst 4, 1) := dk_7 (dk_at dksX0_call_7 17 rfl rfl)
theorem dX0_call_197 : decode cX0_call 197 = .ok (.invokevirtual 47, 3) := dk_182 0 47 (dk_at dksX0_call_7 18 rfl rfl)
theorem dX0_call_200 : decode cX0_call 200 = .ok (.ireturn, 1) := dk_172 (dk_at dksX0_call_7 21 rfl rfl)
abbrev cX0_areKnown : ByteArray := method_20_code
def yX0_areKnown : MethodName := ⟨RX0, "areKnown", "()Z"⟩
def dkwX0_areKnown_8 : List UInt8 := [167, 0, 5, 16, 48, 160, 0, 7, 4, 167, 0, 4, 3, 60, 132, 2, 1, 167, 255, 140, 27, 172]
abbrev dktX0_areKnown_8 : List UInt8 := dkwX0_areKnown_8 ++ []
def dkwX0_areKnown_7 : List UInt8 := [154, 0, 34, 42, 180, 0, 10, 8, 182, 0, 77, 3, 182, 0, 158, 28, 4, 160, 0, 8, 16, 49]
abbrev dktX0_areKnown_7 : List UInt8 := dkwX0_areKnown_7 ++ dktX0_areKnown_8
def dkwX0_areKnown_6 : List UInt8 := [178, 0, 254, 28, 47, 148, 154, 0, 50, 42, 4, 8, 4, 182, 0, 178, 178, 1, 1, 28, 47, 148]
abbrev dktX0_areKnown_6 : List UInt8 := dkwX0_areKnown_6 ++ dktX0_areKnown_7
def dkwX0_areKnown_5 : List UInt8 := [154, 0, 80, 42, 8, 182, 0, 89, 178, 0, 247, 28, 47, 148, 154, 0, 66, 42, 3, 8, 3, 182, 0, 178]
abbrev dktX0_areKnown_5 : List UInt8 := dkwX0_areKnown_5 ++ dktX0_areKnown_6
def dkwX0_areKnown_4 : List UInt8 := [162, 0, 112, 42, 180, 0, 10, 8, 28, 182, 0, 86, 155, 0, 92, 42, 180, 0, 10, 8, 28, 182, 0, 86]
abbrev dktX0_areKnown_4 : List UInt8 := dkwX0_areKnown_4 ++ dktX0_areKnown_5
def dkwX0_areKnown_3 : List UInt8 := [154, 0, 7, 4, 167, 0, 4, 3, 60, 132, 2, 1, 167, 255, 180, 3, 61, 27, 153, 0, 118, 28, 16, 8]
abbrev dktX0_areKnown_3 : List UInt8 := dkwX0_areKnown_3 ++ dktX0_areKnown_4
def dkwX0_areKnown_2 : List UInt8 := [178, 0, 254, 28, 47, 148, 154, 0, 24, 42, 4, 16, 6, 6, 182, 0, 178, 178, 1, 1, 28, 47, 148]
abbrev dktX0_areKnown_2 : List UInt8 := dkwX0_areKnown_2 ++ dktX0_areKnown_3
def dkwX0_areKnown_1 : List UInt8 := [16, 6, 182, 0, 89, 178, 0, 247, 28, 47, 148, 154, 0, 41, 42, 3, 16, 6, 5, 182, 0, 178]
abbrev dktX0_areKnown_1 : List UInt8 := dkwX0_areKnown_1 ++ dktX0_areKnown_2
def dkwX0_areKnown_0 : List UInt8 := [4, 60, 5, 61, 28, 16, 8, 162, 0, 76, 27, 153, 0, 64, 42, 28, 182, 0, 251, 153, 0, 56, 42]
abbrev dktX0_areKnown_0 : List UInt8 := dkwX0_areKnown_0 ++ dktX0_areKnown_1
theorem dksX0_areKnown_0 : cX0_areKnown.data.toList.drop 0 = dktX0_areKnown_0 := by decide +kernel
theorem dksX0_areKnown_1 : cX0_areKnown.data.toList.drop 23 = dktX0_areKnown_1 := dk_seg dksX0_areKnown_0 23 rfl rfl
theorem dksX0_areKnown_2 : cX0_areKnown.data.toList.drop 45 = dktX0_areKnown_2 := dk_seg dksX0_areKnown_1 22 rfl rfl
theorem dksX0_areKnown_3 : cX0_areKnown.data.toList.drop 68 = dktX0_areKnown_3 := dk_seg dksX0_areKnown_2 23 rfl rfl
theorem dksX0_areKnown_4 : cX0_areKnown.data.toList.drop 92 = dktX0_areKnown_4 := dk_seg dksX0_areKnown_3 24 rfl rfl
theorem dksX0_areKnown_5 : cX0_areKnown.data.toList.drop 116 = dktX0_areKnown_5 := dk_seg dksX0_areKnown_4 24 rfl rfl
theorem dksX0_areKnown_6 : cX0_areKnown.data.toList.drop 140 = dktX0_areKnown_6 := dk_seg dksX0_areKnown_5 24 rfl rfl
theorem dksX0_areKnown_7 : cX0_areKnown.data.toList.drop 162 = dktX0_areKnown_7 := dk_seg dksX0_areKnown_6 22 rfl rfl
theorem dksX0_areKnown_8 : cX0_areKnown.data.toList.drop 184 = dktX0_areKnown_8 := dk_seg dksX0_areKnown_7 22 rfl rfl
theorem dX0_areKnown_0 : decode cX0_areKnown 0 = .ok (.iconst 1, 1) := dk_4 (dk_at dksX0_areKnown_0 0 rfl rfl)
theorem dX0_areKnown_1 : decode cX0_areKnown 1 = .ok (.istore_n 1, 1) := dk_60 (dk_at dksX0_areKnown_0 1 rfl rfl)
theorem dX0_areKnown_2 : decode cX0_areKnown 2 = .ok (.iconst 2, 1) := dk_5 (dk_at dksX0_areKnown_0 2 rfl rfl)
theorem dX0_areKnown_3 : decode cX0_areKnown 3 = .ok (.istore_n 2, 1) := dk_61 (dk_at dksX0_areKnown_0 3 rfl rfl)
theorem dX0_areKnown_4 : decode cX0_areKnown 4 = .ok (.iload_n 2, 1) := dk_28 (dk_at dksX0_areKnown_0 4 rfl rfl)
theorem dX0_areKnown_5 : decode cX0_areKnown 5 = .ok (.bipush 8, 2) := dk_16 8 (dk_at dksX0_areKnown_0 5 rfl rfl)
theorem dX0_areKnown_7 : decode cX0_areKnown 7 = .ok (.if_icmp .ge 76, 3) := dk_162 0 76 (dk_at dksX0_areKnown_0 7 rfl rfl)
theorem dX0_areKnown_10 : decode cX0_areKnown 10 = .ok (.iload_n 1, 1) := dk_27 (dk_at dksX0_areKnown_0 10 rfl rfl)
theorem dX0_areKnown_11 : decode cX0_areKnown 11 = .ok (.ifCond .eq 64, 3) := dk_153 0 64 (dk_at dksX0_areKnown_0 11 rfl rfl)
theorem dX0_areKnown_14 : decode cX0_areKnown 14 = .ok (.aload_n 0, 1) := dk_42 (dk_at dksX0_areKnown_0 14 rfl rfl)
theorem dX0_areKnown_15 : decode cX0_areKnown 15 = .ok (.iload_n 2, 1) := dk_28 (dk_at dksX0_areKnown_0 15 rfl rfl)
theorem dX0_areKnown_16 : decode cX0_areKnown 16 = .ok (.invokevirtual 251, 3) := dk_182 0 251 (dk_at dksX0_areKnown_0 16 rfl rfl)
theorem dX0_areKnown_19 : decode cX0_areKnown 19 = .ok (.ifCond .eq 56, 3) := dk_153 0 56 (dk_at dksX0_areKnown_0 19 rfl rfl)
theorem dX0_areKnown_22 : decode cX0_areKnown 22 = .ok (.aload_n 0, 1) := dk_42 (dk_at dksX0_areKnown_0 22 rfl rfl)
theorem dX0_areKnown_23 : decode cX0_areKnown 23 = .ok (.bipush 6, 2) := dk_16 6 (dk_at dksX0_areKnown_1 0 rfl rfl)
theorem dX0_areKnown_25 : decode cX0_areKnown 25 = .ok (.invokevirtual 89, 3) := dk_182 0 89 (dk_at dksX0_areKnown_1 2 rfl rfl)
theorem dX0_areKnown_28 : decode cX0_areKnown 28 = .ok (.getstatic 247, 3) := dk_178 0 247 (dk_at dksX0_areKnown_1 5 rfl rfl)
theorem dX0_areKnown_31 : decode cX0_areKnown 31 = .ok (.iload_n 2, 1) := dk_28 (dk_at dksX0_areKnown_1 8 rfl rfl)
theorem dX0_areKnown_32 : decode cX0_areKnown 32 = .ok (.laload, 1) := dk_47 (dk_at dksX0_areKnown_1 9 rfl rfl)
theorem dX0_areKnown_33 : decode cX0_areKnown 33 = .ok (.lcmp, 1) := dk_148 (dk_at dksX0_areKnown_1 10 rfl rfl)
theorem dX0_areKnown_34 : decode cX0_areKnown 34 = .ok (.ifCond .ne 41, 3) := dk_154 0 41 (dk_at dksX0_areKnown_1 11 rfl rfl)
theorem dX0_areKnown_37 : decode cX0_areKnown 37 = .ok (.aload_n 0, 1) := dk_42 (dk_at dksX0_areKnown_1 14 rfl rfl)
theorem dX0_areKnown_38 : decode cX0_areKnown 38 = .ok (.iconst 0, 1) := dk_3 (dk_at dksX0_areKnown_1 15 rfl rfl)
theorem dX0_areKnown_39 : decode cX0_areKnown 39 = .ok (.bipush 6, 2) := dk_16 6 (dk_at dksX0_areKnown_1 16 rfl rfl)
theorem dX0_areKnown_41 : decode cX0_areKnown 41 = .ok (.iconst 2, 1) := dk_5 (dk_at dksX0_areKnown_1 18 rfl rfl)
theorem dX0_areKnown_42 : decode cX0_areKnown 42 = .ok (.invokevirtual 178, 3) := dk_182 0 178 (dk_at dksX0_areKnown_1 19 rfl rfl)
theorem dX0_areKnown_45 : decode cX0_areKnown 45 = .ok (.getstatic 254, 3) := dk_178 0 254 (dk_at dksX0_areKnown_2 0 rfl rfl)
theorem dX0_areKnown_48 : decode cX0_areKnown 48 = .ok (.iload_n 2, 1) := dk_28 (dk_at dksX0_areKnown_2 3 rfl rfl)
theorem dX0_areKnown_49 : decode cX0_areKnown 49 = .ok (.laload, 1) := dk_47 (dk_at dksX0_areKnown_2 4 rfl rfl)
theorem dX0_areKnown_50 : decode cX0_areKnown 50 = .ok (.lcmp, 1) := dk_148 (dk_at dksX0_areKnown_2 5 rfl rfl)
theorem dX0_areKnown_51 : decode cX0_areKnown 51 = .ok (.ifCond .ne 24, 3) := dk_154 0 24 (dk_at dksX0_areKnown_2 6 rfl rfl)
theorem dX0_areKnown_54 : decode cX0_areKnown 54 = .ok (.aload_n 0, 1) := dk_42 (dk_at dksX0_areKnown_2 9 rfl rfl)
theorem dX0_areKnown_55 : decode cX0_areKnown 55 = .ok (.iconst 1, 1) := dk_4 (dk_at dksX0_areKnown_2 10 rfl rfl)
theorem dX0_areKnown_56 : decode cX0_areKnown 56 = .ok (.bipush 6, 2) := dk_16 6 (dk_at dksX0_areKnown_2 11 rfl rfl)
theorem dX0_areKnown_58 : decode cX0_areKnown 58 = .ok (.iconst 3, 1) := dk_6 (dk_at dksX0_areKnown_2 13 rfl rfl)
theorem dX0_areKnown_59 : decode cX0_areKnown 59 = .ok (.invokevirtual 178, 3) := dk_182 0 178 (dk_at dksX0_areKnown_2 14 rfl rfl)
theorem dX0_areKnown_62 : decode cX0_areKnown 62 = .ok (.getstatic 257, 3) := dk_178 1 1 (dk_at dksX0_areKnown_2 17 rfl rfl)
theorem dX0_areKnown_65 : decode cX0_areKnown 65 = .ok (.iload_n 2, 1) := dk_28 (dk_at dksX0_areKnown_2 20 rfl rfl)
theorem dX0_areKnown_66 : decode cX0_areKnown 66 = .ok (.laload, 1) := dk_47 (dk_at dksX0_areKnown_2 21 rfl rfl)
theorem dX0_areKnown_67 : decode cX0_areKnown 67 = .ok (.lcmp, 1) := dk_148 (dk_at dksX0_areKnown_2 22 rfl rfl)
theorem dX0_areKnown_68 : decode cX0_areKnown 68 = .ok (.ifCond .ne 7, 3) := dk_154 0 7 (dk_at dksX0_areKnown_3 0 rfl rfl)
theorem dX0_areKnown_71 : decode cX0_areKnown 71 = .ok (.iconst 1, 1) := dk_4 (dk_at dksX0_areKnown_3 3 rfl rfl)
theorem dX0_areKnown_72 : decode cX0_areKnown 72 = .ok (.goto 4, 3) := dk_167 0 4 (dk_at dksX0_areKnown_3 4 rfl rfl)
theorem dX0_areKnown_75 : decode cX0_areKnown 75 = .ok (.iconst 0, 1) := dk_3 (dk_at dksX0_areKnown_3 7 rfl rfl)
theorem dX0_areKnown_76 : decode cX0_areKnown 76 = .ok (.istore_n 1, 1) := dk_60 (dk_at dksX0_areKnown_3 8 rfl rfl)
theorem dX0_areKnown_77 : decode cX0_areKnown 77 = .ok (.iinc 2 1, 3) := dk_132 2 1 (dk_at dksX0_areKnown_3 9 rfl rfl)
theorem dX0_areKnown_80 : decode cX0_areKnown 80 = .ok (.goto (-76), 3) := dk_167 255 180 (dk_at dksX0_areKnown_3 12 rfl rfl)
theorem dX0_areKnown_83 : decode cX0_areKnown 83 = .ok (.iconst 0, 1) := dk_3 (dk_at dksX0_areKnown_3 15 rfl rfl)
theorem dX0_areKnown_84 : decode cX0_areKnown 84 = .ok (.istore_n 2, 1) := dk_61 (dk_at dksX0_areKnown_3 16 rfl rfl)
theorem dX0_areKnown_85 : decode cX0_areKnown 85 = .ok (.iload_n 1, 1) := dk_27 (dk_at dksX0_areKnown_3 17 rfl rfl)
theorem dX0_areKnown_86 : decode cX0_areKnown 86 = .ok (.ifCond .eq 118, 3) := dk_153 0 118 (dk_at dksX0_areKnown_3 18 rfl rfl)
theorem dX0_areKnown_89 : decode cX0_areKnown 89 = .ok (.iload_n 2, 1) := dk_28 (dk_at dksX0_areKnown_3 21 rfl rfl)
theorem dX0_areKnown_90 : decode cX0_areKnown 90 = .ok (.bipush 8, 2) := dk_16 8 (dk_at dksX0_areKnown_3 22 rfl rfl)
theorem dX0_areKnown_92 : decode cX0_areKnown 92 = .ok (.if_icmp .ge 112, 3) := dk_162 0 112 (dk_at dksX0_areKnown_4 0 rfl rfl)
theorem dX0_areKnown_95 : decode cX0_areKnown 95 = .ok (.aload_n 0, 1) := dk_42 (dk_at dksX0_areKnown_4 3 rfl rfl)
theorem dX0_areKnown_96 : decode cX0_areKnown 96 = .ok (.getfield 10, 3) := dk_180 0 10 (dk_at dksX0_areKnown_4 4 rfl rfl)
theorem dX0_areKnown_99 : decode cX0_areKnown 99 = .ok (.iconst 5, 1) := dk_8 (dk_at dksX0_areKnown_4 7 rfl rfl)
theorem dX0_areKnown_100 : decode cX0_areKnown 100 = .ok (.iload_n 2, 1) := dk_28 (dk_at dksX0_areKnown_4 8 rfl rfl)
theorem dX0_areKnown_101 : decode cX0_areKnown 101 = .ok (.invokevirtual 86, 3) := dk_182 0 86 (dk_at dksX0_areKnown_4 9 rfl rfl)
theorem dX0_areKnown_104 : decode cX0_areKnown 104 = .ok (.ifCond .lt 92, 3) := dk_155 0 92 (dk_at dksX0_areKnown_4 12 rfl rfl)
theorem dX0_areKnown_107 : decode cX0_areKnown 107 = .ok (.aload_n 0, 1) := dk_42 (dk_at dksX0_areKnown_4 15 rfl rfl)
theorem dX0_areKnown_108 : decode cX0_areKnown 108 = .ok (.getfield 10, 3) := dk_180 0 10 (dk_at dksX0_areKnown_4 16 rfl rfl)
theorem dX0_areKnown_111 : decode cX0_areKnown 111 = .ok (.iconst 5, 1) := dk_8 (dk_at dksX0_areKnown_4 19 rfl rfl)
theorem dX0_areKnown_112 : decode cX0_areKnown 112 = .ok (.iload_n 2, 1) := dk_28 (dk_at dksX0_areKnown_4 20 rfl rfl)
theorem dX0_areKnown_113 : decode cX0_areKnown 113 = .ok (.invokevirtual 86, 3) := dk_182 0 86 (dk_at dksX0_areKnown_4 21 rfl rfl)
theorem dX0_areKnown_116 : decode cX0_areKnown 116 = .ok (.ifCond .ne 80, 3) := dk_154 0 80 (dk_at dksX0_areKnown_5 0 rfl rfl)
theorem dX0_areKnown_119 : decode cX0_areKnown 119 = .ok (.aload_n 0, 1) := dk_42 (dk_at dksX0_areKnown_5 3 rfl rfl)
theorem dX0_areKnown_120 : decode cX0_areKnown 120 = .ok (.iconst 5, 1) := dk_8 (dk_at dksX0_areKnown_5 4 rfl rfl)
theorem dX0_areKnown_121 : decode cX0_areKnown 121 = .ok (.invokevirtual 89, 3) := dk_182 0 89 (dk_at dksX0_areKnown_5 5 rfl rfl)
theorem dX0_areKnown_124 : decode cX0_areKnown 124 = .ok (.getstatic 247, 3) := dk_178 0 247 (dk_at dksX0_areKnown_5 8 rfl rfl)
theorem dX0_areKnown_127 : decode cX0_areKnown 127 = .ok (.iload_n 2, 1) := dk_28 (dk_at dksX0_areKnown_5 11 rfl rfl)
theorem dX0_areKnown_128 : decode cX0_areKnown 128 = .ok (.laload, 1) := dk_47 (dk_at dksX0_areKnown_5 12 rfl rfl)
theorem dX0_areKnown_129 : decode cX0_areKnown 129 = .ok (.lcmp, 1) := dk_148 (dk_at dksX0_areKnown_5 13 rfl rfl)
theorem dX0_areKnown_130 : decode cX0_areKnown 130 = .ok (.ifCond .ne 66, 3) := dk_154 0 66 (dk_at dksX0_areKnown_5 14 rfl rfl)
theorem dX0_areKnown_133 : decode cX0_areKnown 133 = .ok (.aload_n 0, 1) := dk_42 (dk_at dksX0_areKnown_5 17 rfl rfl)
theorem dX0_areKnown_134 : decode cX0_areKnown 134 = .ok (.iconst 0, 1) := dk_3 (dk_at dksX0_areKnown_5 18 rfl rfl)
theorem dX0_areKnown_135 : decode cX0_areKnown 135 = .ok (.iconst 5, 1) := dk_8 (dk_at dksX0_areKnown_5 19 rfl rfl)
theorem dX0_areKnown_136 : decode cX0_areKnown 136 = .ok (.iconst 0, 1) := dk_3 (dk_at dksX0_areKnown_5 20 rfl rfl)
theorem dX0_areKnown_137 : decode cX0_areKnown 137 = .ok (.invokevirtual 178, 3) := dk_182 0 178 (dk_at dksX0_areKnown_5 21 rfl rfl)
theorem dX0_areKnown_140 : decode cX0_areKnown 140 = .ok (.getstatic 254, 3) := dk_178 0 254 (dk_at dksX0_areKnown_6 0 rfl rfl)
theorem dX0_areKnown_143 : decode cX0_areKnown 143 = .ok (.iload_n 2, 1) := dk_28 (dk_at dksX0_areKnown_6 3 rfl rfl)
theorem dX0_areKnown_144 : decode cX0_areKnown 144 = .ok (.laload, 1) := dk_47 (dk_at dksX0_areKnown_6 4 rfl rfl)
theorem dX0_areKnown_145 : decode cX0_areKnown 145 = .ok (.lcmp, 1) := dk_148 (dk_at dksX0_areKnown_6 5 rfl rfl)
theorem dX0_areKnown_146 : decode cX0_areKnown 146 = .ok (.ifCond .ne 50, 3) := dk_154 0 50 (dk_at dksX0_areKnown_6 6 rfl rfl)
theorem dX0_areKnown_149 : decode cX0_areKnown 149 = .ok (.aload_n 0, 1) := dk_42 (dk_at dksX0_areKnown_6 9 rfl rfl)
theorem dX0_areKnown_150 : decode cX0_areKnown 150 = .ok (.iconst 1, 1) := dk_4 (dk_at dksX0_areKnown_6 10 rfl rfl)
theorem dX0_areKnown_151 : decode cX0_areKnown 151 = .ok (.iconst 5, 1) := dk_8 (dk_at dksX0_areKnown_6 11 rfl rfl)
theorem dX0_areKnown_152 : decode cX0_areKnown 152 = .ok (.iconst 1, 1) := dk_4 (dk_at dksX0_areKnown_6 12 rfl rfl)
theorem dX0_areKnown_153 : decode cX0_areKnown 153 = .ok (.invokevirtual 178, 3) := dk_182 0 178 (dk_at dksX0_areKnown_6 13 rfl rfl)
theorem dX0_areKnown_156 : decode cX0_areKnown 156 = .ok (.getstatic 257, 3) := dk_178 1 1 (dk_at dksX0_areKnown_6 16 rfl rfl)
theorem dX0_areKnown_159 : decode cX0_areKnown 159 = .ok (.iload_n 2, 1) := dk_28 (dk_at dksX0_areKnown_6 19 rfl rfl)
theorem dX0_areKnown_160 : decode cX0_areKnown 160 = .ok (.laload, 1) := dk_47 (dk_at dksX0_areKnown_6 20 rfl rfl)
theorem dX0_areKnown_161 : decode cX0_areKnown 161 = .ok (.lcmp, 1) := dk_148 (dk_at dksX0_areKnown_6 21 rfl rfl)
theorem dX0_areKnown_162 : decode cX0_areKnown 162 = .ok (.ifCond .ne 34, 3) := dk_154 0 34 (dk_at dksX0_areKnown_7 0 rfl rfl)
theorem dX0_areKnown_165 : decode cX0_areKnown 165 = .ok (.aload_n 0, 1) := dk_42 (dk_at dksX0_areKnown_7 3 rfl rfl)
theorem dX0_areKnown_166 : decode cX0_areKnown 166 = .ok (.getfield 10, 3) := dk_180 0 10 (dk_at dksX0_areKnown_7 4 rfl rfl)
theorem dX0_areKnown_169 : decode cX0_areKnown 169 = .ok (.iconst 5, 1) := dk_8 (dk_at dksX0_areKnown_7 7 rfl rfl)
theorem dX0_areKnown_170 : decode cX0_areKnown 170 = .ok (.invokevirtual 77, 3) := dk_182 0 77 (dk_at dksX0_areKnown_7 8 rfl rfl)
theorem dX0_areKnown_173 : decode cX0_areKnown 173 = .ok (.iconst 0, 1) := dk_3 (dk_at dksX0_areKnown_7 11 rfl rfl)
theorem dX0_areKnown_174 : decode cX0_areKnown 174 = .ok (.invokevirtual 158, 3) := dk_182 0 158 (dk_at dksX0_areKnown_7 12 rfl rfl)
theorem dX0_areKnown_177 : decode cX0_areKnown 177 = .ok (.iload_n 2, 1) := dk_28 (dk_at dksX0_areKnown_7 15 rfl rfl)
theorem dX0_areKnown_178 : decode cX0_areKnown 178 = .ok (.iconst 1, 1) := dk_4 (dk_at dksX0_areKnown_7 16 rfl rfl)
theorem dX0_areKnown_179 : decode cX0_areKnown 179 = .ok (.if_icmp .ne 8, 3) := dk_160 0 8 (dk_at dksX0_areKnown_7 17 rfl rfl)
theorem dX0_areKnown_182 : decode cX0_areKnown 182 = .ok (.bipush 49, 2) := dk_16 49 (dk_at dksX0_areKnown_7 20 rfl rfl)
theorem dX0_areKnown_184 : decode cX0_areKnown 184 = .ok (.goto 5, 3) := dk_167 0 5 (dk_at dksX0_areKnown_8 0 rfl rfl)
theorem dX0_areKnown_187 : decode cX0_areKnown 187 = .ok (.bipush 48, 2) := dk_16 48 (dk_at dksX0_areKnown_8 3 rfl rfl)
theorem dX0_areKnown_189 : decode cX0_areKnown 189 = .ok (.if_icmp .ne 7, 3) := dk_160 0 7 (dk_at dksX0_areKnown_8 5 rfl rfl)
theorem dX0_areKnown_192 : decode cX0_areKnown 192 = .ok (.iconst 1, 1) := dk_4 (dk_at dksX0_areKnown_8 8 rfl rfl)
theorem dX0_areKnown_193 : decode cX0_areKnown 193 = .ok (.goto 4, 3) := dk_167 0 4 (dk_at dksX0_areKnown_8 9 rfl rfl)
theorem dX0_areKnown_196 : decode cX0_areKnown 196 = .ok (.iconst 0, 1) := dk_3 (dk_at dksX0_areKnown_8 12 rfl rfl)
theorem dX0_areKnown_197 : decode cX0_areKnown 197 = .ok (.istore_n 1, 1) := dk_60 (dk_at dksX0_areKnown_8 13 rfl rfl)
theorem dX0_areKnown_198 : decode cX0_areKnown 198 = .ok (.iinc 2 1, 3) := dk_132 2 1 (dk_at dksX0_areKnown_8 14 rfl rfl)
theorem dX0_areKnown_201 : decode cX0_areKnown 201 = .ok (.goto (-116), 3) := dk_167 255 140 (dk_at dksX0_areKnown_8 17 rfl rfl)
theorem dX0_areKnown_204 : decode cX0_areKnown 204 = .ok (.iload_n 1, 1) := dk_27 (dk_at dksX0_areKnown_8 20 rfl rfl)
theorem dX0_areKnown_205 : decode cX0_areKnown 205 = .ok (.ireturn, 1) := dk_172 (dk_at dksX0_areKnown_8 21 rfl rfl)
abbrev cX0_comes : ByteArray := method_19_code
def yX0_comes : MethodName := ⟨RX0, "comes", "(I)Z"⟩
def dkwX0_comes_4 : List UInt8 := [182, 0, 136, 4, 160, 0, 7, 4, 167, 0, 4, 3, 172]
abbrev dktX0_comes_4 : List UInt8 := dkwX0_comes_4 ++ []
def dkwX0_comes_3 : List UInt8 := [178, 0, 247, 27, 47, 136, 182, 0, 110, 155, 0, 26, 27, 16, 7, 160, 0, 16, 42, 180, 0, 10, 16, 6]
abbrev dktX0_comes_3 : List UInt8 := dkwX0_comes_3 ++ dktX0_comes_4
def dkwX0_comes_2 : List UInt8 := [4, 167, 0, 4, 3, 172, 42, 180, 0, 10, 16, 6, 27, 16, 7, 160, 0, 9, 17, 5, 140, 167, 0, 9]
abbrev dktX0_comes_2 : List UInt8 := dkwX0_comes_2 ++ dktX0_comes_3
def dkwX0_comes_1 : List UInt8 := [167, 0, 5, 16, 33, 27, 7, 160, 0, 8, 16, 44, 167, 0, 5, 16, 8, 3, 182, 0, 97, 155, 0, 7]
abbrev dktX0_comes_1 : List UInt8 := dkwX0_comes_1 ++ dktX0_comes_2
def dkwX0_comes_0 : List UInt8 := [27, 7, 159, 0, 8, 27, 8, 160, 0, 46, 42, 180, 0, 10, 16, 6, 27, 7, 160, 0, 8, 16, 64]
abbrev dktX0_comes_0 : List UInt8 := dkwX0_comes_0 ++ dktX0_comes_1
theorem dksX0_comes_0 : cX0_comes.data.toList.drop 0 = dktX0_comes_0 := by decide +kernel
theorem dksX0_comes_1 : cX0_comes.data.toList.drop 23 = dktX0_comes_1 := dk_seg dksX0_comes_0 23 rfl rfl
theorem dksX0_comes_2 : cX0_comes.data.toList.drop 47 = dktX0_comes_2 := dk_seg dksX0_comes_1 24 rfl rfl
theorem dksX0_comes_3 : cX0_comes.data.toList.drop 71 = dktX0_comes_3 := dk_seg dksX0_comes_2 24 rfl rfl
theorem dksX0_comes_4 : cX0_comes.data.toList.drop 95 = dktX0_comes_4 := dk_seg dksX0_comes_3 24 rfl rfl
theorem dX0_comes_0 : decode cX0_comes 0 = .ok (.iload_n 1, 1) := dk_27 (dk_at dksX0_comes_0 0 rfl rfl)
theorem dX0_comes_1 : decode cX0_comes 1 = .ok (.iconst 4, 1) := dk_7 (dk_at dksX0_comes_0 1 rfl rfl)
theorem dX0_comes_2 : decode cX0_comes 2 = .ok (.if_icmp .eq 8, 3) := dk_159 0 8 (dk_at dksX0_comes_0 2 rfl rfl)
theorem dX0_comes_5 : decode cX0_comes 5 = .ok (.iload_n 1, 1) := dk_27 (dk_at dksX0_comes_0 5 rfl rfl)
theorem dX0_comes_6 : decode cX0_comes 6 = .ok (.iconst 5, 1) := dk_8 (dk_at dksX0_comes_0 6 rfl rfl)
theorem dX0_comes_7 : decode cX0_comes 7 = .ok (.if_icmp .ne 46, 3) := dk_160 0 46 (dk_at dksX0_comes_0 7 rfl rfl)
theorem dX0_comes_10 : decode cX0_comes 10 = .ok (.aload_n 0, 1) := dk_42 (dk_at dksX0_comes_0 10 rfl rfl)
theorem dX0_comes_11 : decode cX0_comes 11 = .ok (.getfield 10, 3) := dk_180 0 10 (dk_at dksX0_comes_0 11 rfl rfl)
theorem dX0_comes_14 : decode cX0_comes 14 = .ok (.bipush 6, 2) := dk_16 6 (dk_at dksX0_comes_0 14 rfl rfl)
theorem dX0_comes_16 : decode cX0_comes 16 = .ok (.iload_n 1, 1) := dk_27 (dk_at dksX0_comes_0 16 rfl rfl)
theorem dX0_comes_17 : decode cX0_comes 17 = .ok (.iconst 4, 1) := dk_7 (dk_at dksX0_comes_0 17 rfl rfl)
theorem dX0_comes_18 : decode cX0_comes 18 = .ok (.if_icmp .ne 8, 3) := dk_160 0 8 (dk_at dksX0_comes_0 18 rfl rfl)
theorem dX0_comes_21 : decode cX0_comes 21 = .ok (.bipush 64, 2) := dk_16 64 (dk_at dksX0_comes_0 21 rfl rfl)
theorem dX0_comes_23 : decode cX0_comes 23 = .ok (.goto 5, 3) := dk_167 0 5 (dk_at dksX0_comes_1 0 rfl rfl)
theorem dX0_comes_26 : decode cX0_comes 26 = .ok (.bipush 33, 2) := dk_16 33 (dk_at dksX0_comes_1 3 rfl rfl)
theorem dX0_comes_28 : decode cX0_comes 28 = .ok (.iload_n 1, 1) := dk_27 (dk_at dksX0_comes_1 5 rfl rfl)
theorem dX0_comes_29 : decode cX0_comes 29 = .ok (.iconst 4, 1) := dk_7 (dk_at dksX0_comes_1 6 rfl rfl)
theorem dX0_comes_30 : decode cX0_comes 30 = .ok (.if_icmp .ne 8, 3) := dk_160 0 8 (dk_at dksX0_comes_1 7 rfl rfl)
theorem dX0_comes_33 : decode cX0_comes 33 = .ok (.bipush 44, 2) := dk_16 44 (dk_at dksX0_comes_1 10 rfl rfl)
theorem dX0_comes_35 : decode cX0_comes 35 = .ok (.goto 5, 3) := dk_167 0 5 (dk_at dksX0_comes_1 12 rfl rfl)
theorem dX0_comes_38 : decode cX0_comes 38 = .ok (.bipush 8, 2) := dk_16 8 (dk_at dksX0_comes_1 15 rfl rfl)
theorem dX0_comes_40 : decode cX0_comes 40 = .ok (.iconst 0, 1) := dk_3 (dk_at dksX0_comes_1 17 rfl rfl)
theorem dX0_comes_41 : decode cX0_comes 41 = .ok (.invokevirtual 97, 3) := dk_182 0 97 (dk_at dksX0_comes_1 18 rfl rfl)
theorem dX0_comes_44 : decode cX0_comes 44 = .ok (.ifCond .lt 7, 3) := dk_155 0 7 (dk_at dksX0_comes_1 21 rfl rfl)
theorem dX0_comes_47 : decode cX0_comes 47 = .ok (.iconst 1, 1) := dk_4 (dk_at dksX0_comes_2 0 rfl rfl)
theorem dX0_comes_48 : decode cX0_comes 48 = .ok (.goto 4, 3) := dk_167 0 4 (dk_at dksX0_comes_2 1 rfl rfl)
theorem dX0_comes_51 : decode cX0_comes 51 = .ok (.iconst 0, 1) := dk_3 (dk_at dksX0_comes_2 4 rfl rfl)
theorem dX0_comes_52 : decode cX0_comes 52 = .ok (.ireturn, 1) := dk_172 (dk_at dksX0_comes_2 5 rfl rfl)
theorem dX0_comes_53 : decode cX0_comes 53 = .ok (.aload_n 0, 1) := dk_42 (dk_at dksX0_comes_2 6 rfl rfl)
theorem dX0_comes_54 : decode cX0_comes 54 = .ok (.getfield 10, 3) := dk_180 0 10 (dk_at dksX0_comes_2 7 rfl rfl)
theorem dX0_comes_57 : decode cX0_comes 57 = .ok (.bipush 6, 2) := dk_16 6 (dk_at dksX0_comes_2 10 rfl rfl)
theorem dX0_comes_59 : decode cX0_comes 59 = .ok (.iload_n 1, 1) := dk_27 (dk_at dksX0_comes_2 12 rfl rfl)
theorem dX0_comes_60 : decode cX0_comes 60 = .ok (.bipush 7, 2) := dk_16 7 (dk_at dksX0_comes_2 13 rfl rfl)
theorem dX0_comes_62 : decode cX0_comes 62 = .ok (.if_icmp .ne 9, 3) := dk_160 0 9 (dk_at dksX0_comes_2 15 rfl rfl)
theorem dX0_comes_65 : decode cX0_comes 65 = .ok (.sipush 1420, 3) := dk_17 5 140 (dk_at dksX0_comes_2 18 rfl rfl)
theorem dX0_comes_68 : decode cX0_comes 68 = .ok (.goto 9, 3) := dk_167 0 9 (dk_at dksX0_comes_2 21 rfl rfl)
theorem dX0_comes_71 : decode cX0_comes 71 = .ok (.getstatic 247, 3) := dk_178 0 247 (dk_at dksX0_comes_3 0 rfl rfl)
theorem dX0_comes_74 : decode cX0_comes 74 = .ok (.iload_n 1, 1) := dk_27 (dk_at dksX0_comes_3 3 rfl rfl)
theorem dX0_comes_75 : decode cX0_comes 75 = .ok (.laload, 1) := dk_47 (dk_at dksX0_comes_3 4 rfl rfl)
theorem dX0_comes_76 : decode cX0_comes 76 = .ok (.l2i, 1) := dk_136 (dk_at dksX0_comes_3 5 rfl rfl)
theorem dX0_comes_77 : decode cX0_comes 77 = .ok (.invokevirtual 110, 3) := dk_182 0 110 (dk_at dksX0_comes_3 6 rfl rfl)
theorem dX0_comes_80 : decode cX0_comes 80 = .ok (.ifCond .lt 26, 3) := dk_155 0 26 (dk_at dksX0_comes_3 9 rfl rfl)
theorem dX0_comes_83 : decode cX0_comes 83 = .ok (.iload_n 1, 1) := dk_27 (dk_at dksX0_comes_3 12 rfl rfl)
theorem dX0_comes_84 : decode cX0_comes 84 = .ok (.bipush 7, 2) := dk_16 7 (dk_at dksX0_comes_3 13 rfl rfl)
theorem dX0_comes_86 : decode cX0_comes 86 = .ok (.if_icmp .ne 16, 3) := dk_160 0 16 (dk_at dksX0_comes_3 15 rfl rfl)
theorem dX0_comes_89 : decode cX0_comes 89 = .ok (.aload_n 0, 1) := dk_42 (dk_at dksX0_comes_3 18 rfl rfl)
theorem dX0_comes_90 : decode cX0_comes 90 = .ok (.getfield 10, 3) := dk_180 0 10 (dk_at dksX0_comes_3 19 rfl rfl)
theorem dX0_comes_93 : decode cX0_comes 93 = .ok (.bipush 6, 2) := dk_16 6 (dk_at dksX0_comes_3 22 rfl rfl)
theorem dX0_comes_95 : decode cX0_comes 95 = .ok (.invokevirtual 136, 3) := dk_182 0 136 (dk_at dksX0_comes_4 0 rfl rfl)
theorem dX0_comes_98 : decode cX0_comes 98 = .ok (.iconst 1, 1) := dk_4 (dk_at dksX0_comes_4 3 rfl rfl)
theorem dX0_comes_99 : decode cX0_comes 99 = .ok (.if_icmp .ne 7, 3) := dk_160 0 7 (dk_at dksX0_comes_4 4 rfl rfl)
theorem dX0_comes_102 : decode cX0_comes 102 = .ok (.iconst 1, 1) := dk_4 (dk_at dksX0_comes_4 7 rfl rfl)
theorem dX0_comes_103 : decode cX0_comes 103 = .ok (.goto 4, 3) := dk_167 0 4 (dk_at dksX0_comes_4 8 rfl rfl)
theorem dX0_comes_106 : decode cX0_comes 106 = .ok (.iconst 0, 1) := dk_3 (dk_at dksX0_comes_4 11 rfl rfl)
theorem dX0_comes_107 : decode cX0_comes 107 = .ok (.ireturn, 1) := dk_172 (dk_at dksX0_comes_4 12 rfl rfl)
abbrev cX0_answer : ByteArray := method_6_code
def yX0_answer : MethodName := ⟨RX0, "answer", "(III)J"⟩
def dkwX0_answer_6 : List UInt8 := [167, 0, 6, 20, 0, 43, 173]
abbrev dktX0_answer_6 : List UInt8 := dkwX0_answer_6 ++ []
def dkwX0_answer_5 : List UInt8 := [153, 0, 26, 42, 180, 0, 10, 4, 182, 0, 47, 21, 4, 5, 96, 160, 0, 11, 42, 29, 182, 0, 63]
abbrev dktX0_answer_5 : List UInt8 := dkwX0_answer_5 ++ dktX0_answer_6
def dkwX0_answer_4 : List UInt8 := [159, 0, 7, 20, 0, 43, 173, 132, 6, 1, 167, 255, 183, 42, 180, 0, 10, 29, 27, 28, 182, 0, 50]
abbrev dktX0_answer_4 : List UInt8 := dkwX0_answer_4 ++ dktX0_answer_5
def dkwX0_answer_3 : List UInt8 := [42, 180, 0, 10, 28, 29, 182, 0, 60, 54, 7, 21, 7, 21, 6, 154, 0, 8, 21, 5, 167, 0, 4, 3]
abbrev dktX0_answer_3 : List UInt8 := dkwX0_answer_3 ++ dktX0_answer_4
def dkwX0_answer_2 : List UInt8 := [29, 182, 0, 54, 167, 0, 29, 27, 4, 160, 0, 15, 42, 180, 0, 10, 28, 29, 182, 0, 57, 167, 0, 12]
abbrev dktX0_answer_2 : List UInt8 := dkwX0_answer_2 ++ dktX0_answer_3
def dkwX0_answer_1 : List UInt8 := [167, 0, 4, 4, 54, 5, 3, 54, 6, 21, 6, 5, 162, 0, 73, 27, 154, 0, 15, 42, 180, 0, 10, 28]
abbrev dktX0_answer_1 : List UInt8 := dkwX0_answer_1 ++ dktX0_answer_2
def dkwX0_answer_0 : List UInt8 := [42, 180, 0, 10, 4, 182, 0, 47, 54, 4, 42, 180, 0, 10, 29, 27, 28, 182, 0, 50, 153, 0, 7, 3]
abbrev dktX0_answer_0 : List UInt8 := dkwX0_answer_0 ++ dktX0_answer_1
theorem dksX0_answer_0 : cX0_answer.data.toList.drop 0 = dktX0_answer_0 := by decide +kernel
theorem dksX0_answer_1 : cX0_answer.data.toList.drop 24 = dktX0_answer_1 := dk_seg dksX0_answer_0 24 rfl rfl
theorem dksX0_answer_2 : cX0_answer.data.toList.drop 48 = dktX0_answer_2 := dk_seg dksX0_answer_1 24 rfl rfl
theorem dksX0_answer_3 : cX0_answer.data.toList.drop 72 = dktX0_answer_3 := dk_seg dksX0_answer_2 24 rfl rfl
theorem dksX0_answer_4 : cX0_answer.data.toList.drop 96 = dktX0_answer_4 := dk_seg dksX0_answer_3 24 rfl rfl
theorem dksX0_answer_5 : cX0_answer.data.toList.drop 119 = dktX0_answer_5 := dk_seg dksX0_answer_4 23 rfl rfl
theorem dksX0_answer_6 : cX0_answer.data.toList.drop 142 = dktX0_answer_6 := dk_seg dksX0_answer_5 23 rfl rfl
theorem dX0_answer_0 : decode cX0_answer 0 = .ok (.aload_n 0, 1) := dk_42 (dk_at dksX0_answer_0 0 rfl rfl)
theorem dX0_answer_1 : decode cX0_answer 1 = .ok (.getfield 10, 3) := dk_180 0 10 (dk_at dksX0_answer_0 1 rfl rfl)
theorem dX0_answer_4 : decode cX0_answer 4 = .ok (.iconst 1, 1) := dk_4 (dk_at dksX0_answer_0 4 rfl rfl)
theorem dX0_answer_5 : decode cX0_answer 5 = .ok (.invokevirtual 47, 3) := dk_182 0 47 (dk_at dksX0_answer_0 5 rfl rfl)
theorem dX0_answer_8 : decode cX0_answer 8 = .ok (.istore 4, 2) := dk_54 4 (dk_at dksX0_answer_0 8 rfl rfl)
theorem dX0_answer_10 : decode cX0_answer 10 = .ok (.aload_n 0, 1) := dk_42 (dk_at dksX0_answer_0 10 rfl rfl)
theorem dX0_answer_11 : decode cX0_answer 11 = .ok (.getfield 10, 3) := dk_180 0 10 (dk_at dksX0_answer_0 11 rfl rfl)
theorem dX0_answer_14 : decode cX0_answer 14 = .ok (.iload_n 3, 1) := dk_29 (dk_at dksX0_answer_0 14 rfl rfl)
theorem dX0_answer_15 : decode cX0_answer 15 = .ok (.iload_n 1, 1) := dk_27 (dk_at dksX0_answer_0 15 rfl rfl)
theorem dX0_answer_16 : decode cX0_answer 16 = .ok (.iload_n 2, 1) := dk_28 (dk_at dksX0_answer_0 16 rfl rfl)
theorem dX0_answer_17 : decode cX0_answer 17 = .ok (.invokevirtual 50, 3) := dk_182 0 50 (dk_at dksX0_answer_0 17 rfl rfl)
theorem dX0_answer_20 : decode cX0_answer 20 = .ok (.ifCond .eq 7, 3) := dk_153 0 7 (dk_at dksX0_answer_0 20 rfl rfl)
theorem dX0_answer_23 : decode cX0_answer 23 = .ok (.iconst 0, 1) := dk_3 (dk_at dksX0_answer_0 23 rfl rfl)
theorem dX0_answer_24 : decode cX0_answer 24 = .ok (.goto 4, 3) := dk_167 0 4 (dk_at dksX0_answer_1 0 rfl rfl)
theorem dX0_answer_27 : decode cX0_answer 27 = .ok (.iconst 1, 1) := dk_4 (dk_at dksX0_answer_1 3 rfl rfl)
theorem dX0_answer_28 : decode cX0_answer 28 = .ok (.istore 5, 2) := dk_54 5 (dk_at dksX0_answer_1 4 rfl rfl)
theorem dX0_answer_30 : decode cX0_answer 30 = .ok (.iconst 0, 1) := dk_3 (dk_at dksX0_answer_1 6 rfl rfl)
theorem dX0_answer_31 : decode cX0_answer 31 = .ok (.istore 6, 2) := dk_54 6 (dk_at dksX0_answer_1 7 rfl rfl)
theorem dX0_answer_33 : decode cX0_answer 33 = .ok (.iload 6, 2) := dk_21 6 (dk_at dksX0_answer_1 9 rfl rfl)
theorem dX0_answer_35 : decode cX0_answer 35 = .ok (.iconst 2, 1) := dk_5 (dk_at dksX0_answer_1 11 rfl rfl)
theorem dX0_answer_36 : decode cX0_answer 36 = .ok (.if_icmp .ge 73, 3) := dk_162 0 73 (dk_at dksX0_answer_1 12 rfl rfl)
theorem dX0_answer_39 : decode cX0_answer 39 = .ok (.iload_n 1, 1) := dk_27 (dk_at dksX0_answer_1 15 rfl rfl)
theorem dX0_answer_40 : decode cX0_answer 40 = .ok (.ifCond .ne 15, 3) := dk_154 0 15 (dk_at dksX0_answer_1 16 rfl rfl)
theorem dX0_answer_43 : decode cX0_answer 43 = .ok (.aload_n 0, 1) := dk_42 (dk_at dksX0_answer_1 19 rfl rfl)
theorem dX0_answer_44 : decode cX0_answer 44 = .ok (.getfield 10, 3) := dk_180 0 10 (dk_at dksX0_answer_1 20 rfl rfl)
theorem dX0_answer_47 : decode cX0_answer 47 = .ok (.iload_n 2, 1) := dk_28 (dk_at dksX0_answer_1 23 rfl rfl)
theorem dX0_answer_48 : decode cX0_answer 48 = .ok (.iload_n 3, 1) := dk_29 (dk_at dksX0_answer_2 0 rfl rfl)
theorem dX0_answer_49 : decode cX0_answer 49 = .ok (.invokevirtual 54, 3) := dk_182 0 54 (dk_at dksX0_answer_2 1 rfl rfl)
theorem dX0_answer_52 : decode cX0_answer 52 = .ok (.goto 29, 3) := dk_167 0 29 (dk_at dksX0_answer_2 4 rfl rfl)
theorem dX0_answer_55 : decode cX0_answer 55 = .ok (.iload_n 1, 1) := dk_27 (dk_at dksX0_answer_2 7 rfl rfl)
theorem dX0_answer_56 : decode cX0_answer 56 = .ok (.iconst 1, 1) := dk_4 (dk_at dksX0_answer_2 8 rfl rfl)
theorem dX0_answer_57 : decode cX0_answer 57 = .ok (.if_icmp .ne 15, 3) := dk_160 0 15 (dk_at dksX0_answer_2 9 rfl rfl)
theorem dX0_answer_60 : decode cX0_answer 60 = .ok (.aload_n 0, 1) := dk_42 (dk_at dksX0_answer_2 12 rfl rfl)
theorem dX0_answer_61 : decode cX0_answer 61 = .ok (.getfield 10, 3) := dk_180 0 10 (dk_at dksX0_answer_2 13 rfl rfl)
theorem dX0_answer_64 : decode cX0_answer 64 = .ok (.iload_n 2, 1) := dk_28 (dk_at dksX0_answer_2 16 rfl rfl)
theorem dX0_answer_65 : decode cX0_answer 65 = .ok (.iload_n 3, 1) := dk_29 (dk_at dksX0_answer_2 17 rfl rfl)
theorem dX0_answer_66 : decode cX0_answer 66 = .ok (.invokevirtual 57, 3) := dk_182 0 57 (dk_at dksX0_answer_2 18 rfl rfl)
theorem dX0_answer_69 : decode cX0_answer 69 = .ok (.goto 12, 3) := dk_167 0 12 (dk_at dksX0_answer_2 21 rfl rfl)
theorem dX0_answer_72 : decode cX0_answer 72 = .ok (.aload_n 0, 1) := dk_42 (dk_at dksX0_answer_3 0 rfl rfl)
theorem dX0_answer_73 : decode cX0_answer 73 = .ok (.getfield 10, 3) := dk_180 0 10 (dk_at dksX0_answer_3 1 rfl rfl)
theorem dX0_answer_76 : decode cX0_answer 76 = .ok (.iload_n 2, 1) := dk_28 (dk_at dksX0_answer_3 4 rfl rfl)
theorem dX0_answer_77 : decode cX0_answer 77 = .ok (.iload_n 3, 1) := dk_29 (dk_at dksX0_answer_3 5 rfl rfl)
theorem dX0_answer_78 : decode cX0_answer 78 = .ok (.invokevirtual 60, 3) := dk_182 0 60 (dk_at dksX0_answer_3 6 rfl rfl)
theorem dX0_answer_81 : decode cX0_answer 81 = .ok (.istore 7, 2) := dk_54 7 (dk_at dksX0_answer_3 9 rfl rfl)
theorem dX0_answer_83 : decode cX0_answer 83 = .ok (.iload 7, 2) := dk_21 7 (dk_at dksX0_answer_3 11 rfl rfl)
theorem dX0_answer_85 : decode cX0_answer 85 = .ok (.iload 6, 2) := dk_21 6 (dk_at dksX0_answer_3 13 rfl rfl)
theorem dX0_answer_87 : decode cX0_answer 87 = .ok (.ifCond .ne 8, 3) := dk_154 0 8 (dk_at dksX0_answer_3 15 rfl rfl)
theorem dX0_answer_90 : decode cX0_answer 90 = .ok (.iload 5, 2) := dk_21 5 (dk_at dksX0_answer_3 18 rfl rfl)
theorem dX0_answer_92 : decode cX0_answer 92 = .ok (.goto 4, 3) := dk_167 0 4 (dk_at dksX0_answer_3 20 rfl rfl)
theorem dX0_answer_95 : decode cX0_answer 95 = .ok (.iconst 0, 1) := dk_3 (dk_at dksX0_answer_3 23 rfl rfl)
theorem dX0_answer_96 : decode cX0_answer 96 = .ok (.if_icmp .eq 7, 3) := dk_159 0 7 (dk_at dksX0_answer_4 0 rfl rfl)
theorem dX0_answer_99 : decode cX0_answer 99 = .ok (.ldc2_w 43, 3) := dk_20 0 43 (dk_at dksX0_answer_4 3 rfl rfl)
theorem dX0_answer_102 : decode cX0_answer 102 = .ok (.lreturn, 1) := dk_173 (dk_at dksX0_answer_4 6 rfl rfl)
theorem dX0_answer_103 : decode cX0_answer 103 = .ok (.iinc 6 1, 3) := dk_132 6 1 (dk_at dksX0_answer_4 7 rfl rfl)
theorem dX0_answer_106 : decode cX0_answer 106 = .ok (.goto (-73), 3) := dk_167 255 183 (dk_at dksX0_answer_4 10 rfl rfl)
theorem dX0_answer_109 : decode cX0_answer 109 = .ok (.aload_n 0, 1) := dk_42 (dk_at dksX0_answer_4 13 rfl rfl)
theorem dX0_answer_110 : decode cX0_answer 110 = .ok (.getfield 10, 3) := dk_180 0 10 (dk_at dksX0_answer_4 14 rfl rfl)
theorem dX0_answer_113 : decode cX0_answer 113 = .ok (.iload_n 3, 1) := dk_29 (dk_at dksX0_answer_4 17 rfl rfl)
theorem dX0_answer_114 : decode cX0_answer 114 = .ok (.iload_n 1, 1) := dk_27 (dk_at dksX0_answer_4 18 rfl rfl)
theorem dX0_answer_115 : decode cX0_answer 115 = .ok (.iload_n 2, 1) := dk_28 (dk_at dksX0_answer_4 19 rfl rfl)
theorem dX0_answer_116 : decode cX0_answer 116 = .ok (.invokevirtual 50, 3) := dk_182 0 50 (dk_at dksX0_answer_4 20 rfl rfl)
theorem dX0_answer_119 : decode cX0_answer 119 = .ok (.ifCond .eq 26, 3) := dk_153 0 26 (dk_at dksX0_answer_5 0 rfl rfl)
theorem dX0_answer_122 : decode cX0_answer 122 = .ok (.aload_n 0, 1) := dk_42 (dk_at dksX0_answer_5 3 rfl rfl)
theorem dX0_answer_123 : decode cX0_answer 123 = .ok (.getfield 10, 3) := dk_180 0 10 (dk_at dksX0_answer_5 4 rfl rfl)
theorem dX0_answer_126 : decode cX0_answer 126 = .ok (.iconst 1, 1) := dk_4 (dk_at dksX0_answer_5 7 rfl rfl)
theorem dX0_answer_127 : decode cX0_answer 127 = .ok (.invokevirtual 47, 3) := dk_182 0 47 (dk_at dksX0_answer_5 8 rfl rfl)
theorem dX0_answer_130 : decode cX0_answer 130 = .ok (.iload 4, 2) := dk_21 4 (dk_at dksX0_answer_5 11 rfl rfl)
theorem dX0_answer_132 : decode cX0_answer 132 = .ok (.iconst 2, 1) := dk_5 (dk_at dksX0_answer_5 13 rfl rfl)
theorem dX0_answer_133 : decode cX0_answer 133 = .ok (.iadd, 1) := dk_96 (dk_at dksX0_answer_5 14 rfl rfl)
theorem dX0_answer_134 : decode cX0_answer 134 = .ok (.if_icmp .ne 11, 3) := dk_160 0 11 (dk_at dksX0_answer_5 15 rfl rfl)
theorem dX0_answer_137 : decode cX0_answer 137 = .ok (.aload_n 0, 1) := dk_42 (dk_at dksX0_answer_5 18 rfl rfl)
theorem dX0_answer_138 : decode cX0_answer 138 = .ok (.iload_n 3, 1) := dk_29 (dk_at dksX0_answer_5 19 rfl rfl)
theorem dX0_answer_139 : decode cX0_answer 139 = .ok (.invokevirtual 63, 3) := dk_182 0 63 (dk_at dksX0_answer_5 20 rfl rfl)
theorem dX0_answer_142 : decode cX0_answer 142 = .ok (.goto 6, 3) := dk_167 0 6 (dk_at dksX0_answer_6 0 rfl rfl)
theorem dX0_answer_145 : decode cX0_answer 145 = .ok (.ldc2_w 43, 3) := dk_20 0 43 (dk_at dksX0_answer_6 3 rfl rfl)
theorem dX0_answer_148 : decode cX0_answer 148 = .ok (.lreturn, 1) := dk_173 (dk_at dksX0_answer_6 6 rfl rfl)
abbrev cX0_cell : ByteArray := method_2_code
def yX0_cell : MethodName := ⟨RX0, "cell", "([II)I"⟩
def dkwX0_cell_0 : List UInt8 := [27, 42, 190, 162, 0, 15, 27, 16, 16, 162, 0, 9, 42, 27, 46, 167, 0, 4, 3, 172]
abbrev dktX0_cell_0 : List UInt8 := dkwX0_cell_0 ++ []
theorem dksX0_cell_0 : cX0_cell.data.toList.drop 0 = dktX0_cell_0 := by decide +kernel
theorem dX0_cell_0 : decode cX0_cell 0 = .ok (.iload_n 1, 1) := dk_27 (dk_at dksX0_cell_0 0 rfl rfl)
theorem dX0_cell_1 : decode cX0_cell 1 = .ok (.aload_n 0, 1) := dk_42 (dk_at dksX0_cell_0 1 rfl rfl)
theorem dX0_cell_2 : decode cX0_cell 2 = .ok (.arraylength, 1) := dk_190 (dk_at dksX0_cell_0 2 rfl rfl)
theorem dX0_cell_3 : decode cX0_cell 3 = .ok (.if_icmp .ge 15, 3) := dk_162 0 15 (dk_at dksX0_cell_0 3 rfl rfl)
theorem dX0_cell_6 : decode cX0_cell 6 = .ok (.iload_n 1, 1) := dk_27 (dk_at dksX0_cell_0 6 rfl rfl)
theorem dX0_cell_7 : decode cX0_cell 7 = .ok (.bipush 16, 2) := dk_16 16 (dk_at dksX0_cell_0 7 rfl rfl)
theorem dX0_cell_9 : decode cX0_cell 9 = .ok (.if_icmp .ge 9, 3) := dk_162 0 9 (dk_at dksX0_cell_0 9 rfl rfl)
theorem dX0_cell_12 : decode cX0_cell 12 = .ok (.aload_n 0, 1) := dk_42 (dk_at dksX0_cell_0 12 rfl rfl)
theorem dX0_cell_13 : decode cX0_cell 13 = .ok (.iload_n 1, 1) := dk_27 (dk_at dksX0_cell_0 13 rfl rfl)
theorem dX0_cell_14 : decode cX0_cell 14 = .ok (.iaload, 1) := dk_46 (dk_at dksX0_cell_0 14 rfl rfl)
theorem dX0_cell_15 : decode cX0_cell 15 = .ok (.goto 4, 3) := dk_167 0 4 (dk_at dksX0_cell_0 15 rfl rfl)
theorem dX0_cell_18 : decode cX0_cell 18 = .ok (.iconst 0, 1) := dk_3 (dk_at dksX0_cell_0 18 rfl rfl)
theorem dX0_cell_19 : decode cX0_cell 19 = .ok (.ireturn, 1) := dk_172 (dk_at dksX0_cell_0 19 rfl rfl)
abbrev cX0_areAngles : ByteArray := method_12_code
def yX0_areAngles : MethodName := ⟨RX0, "areAngles", "(II)Z"⟩
def dkwX0_areAngles_42 : List UInt8 := [172]
abbrev dktX0_areAngles_42 : List UInt8 := dkwX0_areAngles_42 ++ []
def dkwX0_areAngles_41 : List UInt8 := [2, 167, 0, 15, 33, 22, 5, 148, 158, 0, 7, 4, 167, 0, 4, 3, 160, 0, 7, 4, 167, 0, 4, 3]
abbrev dktX0_areAngles_41 : List UInt8 := dkwX0_areAngles_41 ++ dktX0_areAngles_42
def dkwX0_areAngles_40 : List UInt8 := [182, 0, 155, 116, 160, 0, 43, 42, 180, 0, 10, 3, 4, 3, 182, 0, 155, 33, 22, 5, 148, 156, 0, 7]
abbrev dktX0_areAngles_40 : List UInt8 := dkwX0_areAngles_40 ++ dktX0_areAngles_41
def dkwX0_areAngles_39 : List UInt8 := [167, 0, 4, 3, 160, 0, 67, 42, 180, 0, 10, 3, 4, 3, 182, 0, 155, 42, 180, 0, 10, 4, 3, 4]
abbrev dktX0_areAngles_39 : List UInt8 := dkwX0_areAngles_39 ++ dktX0_areAngles_40
def dkwX0_areAngles_38 : List UInt8 := [182, 0, 122, 153, 0, 92, 42, 180, 0, 10, 3, 4, 4, 182, 0, 122, 33, 22, 5, 148, 154, 0, 7, 4]
abbrev dktX0_areAngles_38 : List UInt8 := dkwX0_areAngles_38 ++ dktX0_areAngles_39
def dkwX0_areAngles_37 : List UInt8 := [180, 0, 10, 16, 7, 182, 0, 149, 4, 21, 17, 100, 160, 0, 106, 42, 180, 0, 10, 16, 7, 3, 5]
abbrev dktX0_areAngles_37 : List UInt8 := dkwX0_areAngles_37 ++ dktX0_areAngles_38
def dkwX0_areAngles_36 : List UInt8 := [16, 6, 182, 0, 133, 4, 160, 0, 7, 4, 167, 0, 4, 3, 54, 10, 21, 10, 153, 0, 122, 42]
abbrev dktX0_areAngles_36 : List UInt8 := dkwX0_areAngles_36 ++ dktX0_areAngles_37
def dkwX0_areAngles_35 : List UInt8 := [154, 0, 36, 42, 180, 0, 10, 16, 7, 3, 4, 182, 0, 122, 154, 0, 22, 42, 180, 0, 10, 16, 7]
abbrev dktX0_areAngles_35 : List UInt8 := dkwX0_areAngles_35 ++ dktX0_areAngles_36
def dkwX0_areAngles_34 : List UInt8 := [3, 182, 0, 77, 4, 182, 0, 23, 182, 0, 125, 153, 0, 48, 42, 16, 7, 182, 0, 89, 33, 117, 148]
abbrev dktX0_areAngles_34 : List UInt8 := dkwX0_areAngles_34 ++ dktX0_areAngles_35
def dkwX0_areAngles_33 : List UInt8 := [167, 0, 4, 4, 160, 0, 79, 42, 180, 0, 10, 16, 7, 182, 0, 77, 4, 182, 0, 23, 42, 180, 0, 10]
abbrev dktX0_areAngles_33 : List UInt8 := dkwX0_areAngles_33 ++ dktX0_areAngles_34
def dkwX0_areAngles_32 : List UInt8 := [16, 48, 160, 0, 7, 4, 167, 0, 4, 3, 160, 0, 95, 21, 18, 21, 17, 4, 160, 0, 7, 2]
abbrev dktX0_areAngles_32 : List UInt8 := dkwX0_areAngles_32 ++ dktX0_areAngles_33
def dkwX0_areAngles_31 : List UInt8 := [182, 0, 155, 54, 18, 21, 10, 153, 0, 122, 21, 17, 42, 180, 0, 10, 3, 182, 0, 77, 3, 182, 0, 158]
abbrev dktX0_areAngles_31 : List UInt8 := dkwX0_areAngles_31 ++ dktX0_areAngles_32
def dkwX0_areAngles_30 : List UInt8 := [182, 0, 133, 87, 42, 180, 0, 10, 16, 7, 182, 0, 149, 54, 17, 42, 180, 0, 10, 16, 7, 3, 4]
abbrev dktX0_areAngles_30 : List UInt8 := dkwX0_areAngles_30 ++ dktX0_areAngles_31
def dkwX0_areAngles_29 : List UInt8 := [16, 6, 182, 0, 89, 33, 148, 154, 0, 7, 4, 167, 0, 4, 3, 54, 10, 42, 180, 0, 10, 3, 16, 7]
abbrev dktX0_areAngles_29 : List UInt8 := dkwX0_areAngles_29 ++ dktX0_areAngles_30
def dkwX0_areAngles_28 : List UInt8 := [42, 180, 0, 10, 16, 6, 21, 13, 154, 0, 7, 4, 167, 0, 4, 3, 182, 0, 152, 4, 160, 0, 18, 42]
abbrev dktX0_areAngles_28 : List UInt8 := dkwX0_areAngles_28 ++ dktX0_areAngles_29
def dkwX0_areAngles_27 : List UInt8 := [42, 180, 0, 10, 3, 16, 6, 3, 182, 0, 155, 21, 13, 153, 0, 7, 4, 167, 0, 4, 2, 160, 0, 41]
abbrev dktX0_areAngles_27 : List UInt8 := dkwX0_areAngles_27 ++ dktX0_areAngles_28
def dkwX0_areAngles_26 : List UInt8 := [160, 0, 86, 167, 0, 79, 21, 14, 4, 160, 0, 77, 42, 16, 6, 182, 0, 89, 22, 15, 148, 154, 0, 65]
abbrev dktX0_areAngles_26 : List UInt8 := dkwX0_areAngles_26 ++ dktX0_areAngles_27
def dkwX0_areAngles_25 : List UInt8 := [16, 6, 182, 0, 89, 33, 148, 154, 0, 101, 42, 180, 0, 10, 5, 182, 0, 47, 21, 7, 4, 96]
abbrev dktX0_areAngles_25 : List UInt8 := dkwX0_areAngles_25 ++ dktX0_areAngles_26
def dkwX0_areAngles_24 : List UInt8 := [148, 157, 0, 15, 22, 15, 184, 0, 67, 20, 0, 71, 148, 158, 0, 39, 21, 14, 16, 247, 160, 0, 112, 42]
abbrev dktX0_areAngles_24 : List UInt8 := dkwX0_areAngles_24 ++ dktX0_areAngles_25
def dkwX0_areAngles_23 : List UInt8 := [153, 0, 7, 2, 167, 0, 4, 4, 133, 97, 55, 15, 21, 10, 153, 0, 142, 33, 184, 0, 67, 20, 0, 71]
abbrev dktX0_areAngles_23 : List UInt8 := dkwX0_areAngles_23 ++ dktX0_areAngles_24
def dkwX0_areAngles_22 : List UInt8 := [167, 0, 4, 3, 54, 13, 42, 180, 0, 10, 16, 6, 21, 13, 182, 0, 152, 54, 14, 33, 21, 13]
abbrev dktX0_areAngles_22 : List UInt8 := dkwX0_areAngles_22 ++ dktX0_areAngles_23
def dkwX0_areAngles_21 : List UInt8 := [182, 0, 133, 87, 42, 180, 0, 10, 5, 182, 0, 47, 54, 7, 27, 16, 16, 126, 153, 0, 7, 4]
abbrev dktX0_areAngles_21 : List UInt8 := dkwX0_areAngles_21 ++ dktX0_areAngles_22
def dkwX0_areAngles_20 : List UInt8 := [182, 0, 47, 21, 7, 5, 96, 160, 0, 7, 4, 167, 0, 4, 3, 54, 10, 42, 180, 0, 10, 3, 16, 6]
abbrev dktX0_areAngles_20 : List UInt8 := dkwX0_areAngles_20 ++ dktX0_areAngles_21
def dkwX0_areAngles_19 : List UInt8 := [153, 0, 36, 21, 11, 16, 247, 160, 0, 29, 21, 12, 16, 247, 160, 0, 22, 42, 180, 0, 10, 5]
abbrev dktX0_areAngles_19 : List UInt8 := dkwX0_areAngles_19 ++ dktX0_areAngles_20
def dkwX0_areAngles_18 : List UInt8 := [180, 0, 10, 5, 182, 0, 47, 21, 7, 160, 0, 7, 4, 167, 0, 4, 3, 54, 10, 167, 0, 44, 21, 10]
abbrev dktX0_areAngles_18 : List UInt8 := dkwX0_areAngles_18 ++ dktX0_areAngles_19
def dkwX0_areAngles_17 : List UInt8 := [156, 0, 7, 4, 167, 0, 4, 3, 160, 0, 31, 42, 4, 182, 0, 89, 22, 5, 148, 154, 0, 20, 42]
abbrev dktX0_areAngles_17 : List UInt8 := dkwX0_areAngles_17 ++ dktX0_areAngles_18
def dkwX0_areAngles_16 : List UInt8 := [42, 8, 182, 0, 89, 33, 148, 154, 0, 54, 42, 180, 0, 10, 4, 182, 0, 149, 22, 5, 9, 148]
abbrev dktX0_areAngles_16 : List UInt8 := dkwX0_areAngles_16 ++ dktX0_areAngles_17
def dkwX0_areAngles_15 : List UInt8 := [180, 0, 10, 7, 4, 8, 182, 0, 139, 22, 5, 9, 148, 154, 0, 7, 3, 167, 0, 4, 4, 160, 0, 64]
abbrev dktX0_areAngles_15 : List UInt8 := dkwX0_areAngles_15 ++ dktX0_areAngles_16
def dkwX0_areAngles_14 : List UInt8 := [42, 180, 0, 10, 4, 182, 0, 149, 22, 5, 9, 148, 156, 0, 7, 3, 167, 0, 4, 4, 160, 0, 89, 42]
abbrev dktX0_areAngles_14 : List UInt8 := dkwX0_areAngles_14 ++ dktX0_areAngles_15
def dkwX0_areAngles_13 : List UInt8 := [7, 182, 0, 89, 33, 22, 5, 97, 148, 154, 0, 124, 42, 180, 0, 10, 7, 8, 182, 0, 133, 154, 0, 112]
abbrev dktX0_areAngles_13 : List UInt8 := dkwX0_areAngles_13 ++ dktX0_areAngles_14
def dkwX0_areAngles_12 : List UInt8 := [184, 0, 145, 153, 0, 160, 21, 10, 153, 0, 149, 21, 11, 4, 160, 0, 143, 21, 12, 4, 160, 0, 137, 42]
abbrev dktX0_areAngles_12 : List UInt8 := dkwX0_areAngles_12 ++ dktX0_areAngles_13
def dkwX0_areAngles_11 : List UInt8 := [3, 4, 7, 182, 0, 139, 54, 11, 42, 180, 0, 10, 4, 3, 8, 182, 0, 139, 54, 12, 33, 22, 5, 97]
abbrev dktX0_areAngles_11 : List UInt8 := dkwX0_areAngles_11 ++ dktX0_areAngles_12
def dkwX0_areAngles_10 : List UInt8 := [42, 180, 0, 10, 8, 4, 182, 0, 86, 87, 42, 180, 0, 10, 5, 182, 0, 47, 54, 7, 42, 180, 0, 10]
abbrev dktX0_areAngles_10 : List UInt8 := dkwX0_areAngles_10 ++ dktX0_areAngles_11
def dkwX0_areAngles_9 : List UInt8 := [21, 7, 5, 96, 160, 0, 7, 4, 167, 0, 4, 3, 54, 10, 42, 180, 0, 10, 7, 4, 182, 0, 86, 87]
abbrev dktX0_areAngles_9 : List UInt8 := dkwX0_areAngles_9 ++ dktX0_areAngles_10
def dkwX0_areAngles_8 : List UInt8 := [154, 0, 35, 42, 180, 0, 10, 6, 182, 0, 113, 18, 107, 160, 0, 22, 42, 180, 0, 10, 5, 182, 0, 47]
abbrev dktX0_areAngles_8 : List UInt8 := dkwX0_areAngles_8 ++ dktX0_areAngles_9
def dkwX0_areAngles_7 : List UInt8 := [167, 0, 60, 21, 8, 16, 247, 160, 0, 52, 21, 9, 16, 247, 160, 0, 45, 42, 5, 182, 0, 89, 33, 148]
abbrev dktX0_areAngles_7 : List UInt8 := dkwX0_areAngles_7 ++ dktX0_areAngles_8
def dkwX0_areAngles_6 : List UInt8 := [182, 0, 133, 154, 0, 20, 42, 180, 0, 10, 5, 182, 0, 47, 21, 7, 160, 0, 7, 4, 167, 0, 64, 3]
abbrev dktX0_areAngles_6 : List UInt8 := dkwX0_areAngles_6 ++ dktX0_areAngles_7
def dkwX0_areAngles_5 : List UInt8 := [4, 160, 0, 46, 42, 5, 182, 0, 89, 20, 0, 143, 33, 105, 148, 154, 0, 32, 42, 180, 0, 10, 5, 6]
abbrev dktX0_areAngles_5 : List UInt8 := dkwX0_areAngles_5 ++ dktX0_areAngles_6
def dkwX0_areAngles_4 : List UInt8 := [184, 0, 145, 153, 0, 72, 21, 8, 33, 9, 148, 154, 0, 7, 3, 167, 0, 4, 4, 160, 0, 52, 21, 9]
abbrev dktX0_areAngles_4 : List UInt8 := dkwX0_areAngles_4 ++ dktX0_areAngles_5
def dkwX0_areAngles_3 : List UInt8 := [182, 0, 136, 54, 8, 42, 180, 0, 10, 3, 3, 6, 182, 0, 139, 54, 9, 20, 0, 143, 33, 105]
abbrev dktX0_areAngles_3 : List UInt8 := dkwX0_areAngles_3 ++ dktX0_areAngles_4
def dkwX0_areAngles_2 : List UInt8 := [180, 0, 10, 3, 5, 182, 0, 133, 87, 42, 180, 0, 10, 6, 4, 182, 0, 86, 87, 42, 180, 0, 10, 5]
abbrev dktX0_areAngles_2 : List UInt8 := dkwX0_areAngles_2 ++ dktX0_areAngles_3
def dkwX0_areAngles_1 : List UInt8 := [182, 0, 89, 66, 42, 4, 182, 0, 89, 55, 5, 42, 180, 0, 10, 5, 182, 0, 47, 54, 7, 42]
abbrev dktX0_areAngles_1 : List UInt8 := dkwX0_areAngles_1 ++ dktX0_areAngles_2
def dkwX0_areAngles_0 : List UInt8 := [42, 3, 27, 182, 0, 129, 153, 0, 12, 42, 4, 28, 182, 0, 129, 154, 0, 5, 3, 172, 42, 3]
abbrev dktX0_areAngles_0 : List UInt8 := dkwX0_areAngles_0 ++ dktX0_areAngles_1
theorem dksX0_areAngles_0 : cX0_areAngles.data.toList.drop 0 = dktX0_areAngles_0 := by decide +kernel
theorem dksX0_areAngles_1 : cX0_areAngles.data.toList.drop 22 = dktX0_areAngles_1 := dk_seg dksX0_areAngles_0 22 rfl rfl
theorem dksX0_areAngles_2 : cX0_areAngles.data.toList.drop 44 = dktX0_areAngles_2 := dk_seg dksX0_areAngles_1 22 rfl rfl
theorem dksX0_areAngles_3 : cX0_areAngles.data.toList.drop 68 = dktX0_areAngles_3 := dk_seg dksX0_areAngles_2 24 rfl rfl
theorem dksX0_areAngles_4 : cX0_areAngles.data.toList.drop 90 = dktX0_areAngles_4 := dk_seg dksX0_areAngles_3 22 rfl rfl
theorem dksX0_areAngles_5 : cX0_areAngles.data.toList.drop 114 = dktX0_areAngles_5 := dk_seg dksX0_areAngles_4 24 rfl rfl
theorem dksX0_areAngles_6 : cX0_areAngles.data.toList.drop 138 = dktX0_areAngles_6 := dk_seg dksX0_areAngles_5 24 rfl rfl
theorem dksX0_areAngles_7 : cX0_areAngles.data.toList.drop 162 = dktX0_areAngles_7 := dk_seg dksX0_areAngles_6 24 rfl rfl
theorem dksX0_areAngles_8 : cX0_areAngles.data.toList.drop 186 = dktX0_areAngles_8 := dk_seg dksX0_areAngles_7 24 rfl rfl
theorem dksX0_areAngles_9 : cX0_areAngles.data.toList.drop 210 = dktX0_areAngles_9 := dk_seg dksX0_areAngles_8 24 rfl rfl
theorem dksX0_areAngles_10 : cX0_areAngles.data.toList.drop 234 = dktX0_areAngles_10 := dk_seg dksX0_areAngles_9 24 rfl rfl
theorem dksX0_areAngles_11 : cX0_areAngles.data.toList.drop 258 = dktX0_areAngles_11 := dk_seg dksX0_areAngles_10 24 rfl rfl
theorem dksX0_areAngles_12 : cX0_areAngles.data.toList.drop 282 = dktX0_areAngles_12 := dk_seg dksX0_areAngles_11 24 rfl rfl
theorem dksX0_areAngles_13 : cX0_areAngles.data.toList.drop 306 = dktX0_areAngles_13 := dk_seg dksX0_areAngles_12 24 rfl rfl
theorem dksX0_areAngles_14 : cX0_areAngles.data.toList.drop 330 = dktX0_areAngles_14 := dk_seg dksX0_areAngles_13 24 rfl rfl
theorem dksX0_areAngles_15 : cX0_areAngles.data.toList.drop 354 = dktX0_areAngles_15 := dk_seg dksX0_areAngles_14 24 rfl rfl
theorem dksX0_areAngles_16 : cX0_areAngles.data.toList.drop 378 = dktX0_areAngles_16 := dk_seg dksX0_areAngles_15 24 rfl rfl
theorem dksX0_areAngles_17 : cX0_areAngles.data.toList.drop 400 = dktX0_areAngles_17 := dk_seg dksX0_areAngles_16 22 rfl rfl
theorem dksX0_areAngles_18 : cX0_areAngles.data.toList.drop 423 = dktX0_areAngles_18 := dk_seg dksX0_areAngles_17 23 rfl rfl
theorem dksX0_areAngles_19 : cX0_areAngles.data.toList.drop 447 = dktX0_areAngles_19 := dk_seg dksX0_areAngles_18 24 rfl rfl
theorem dksX0_areAngles_20 : cX0_areAngles.data.toList.drop 469 = dktX0_areAngles_20 := dk_seg dksX0_areAngles_19 22 rfl rfl
theorem dksX0_areAngles_21 : cX0_areAngles.data.toList.drop 493 = dktX0_areAngles_21 := dk_seg dksX0_areAngles_20 24 rfl rfl
theorem dksX0_areAngles_22 : cX0_areAngles.data.toList.drop 515 = dktX0_areAngles_22 := dk_seg dksX0_areAngles_21 22 rfl rfl
theorem dksX0_areAngles_23 : cX0_areAngles.data.toList.drop 537 = dktX0_areAngles_23 := dk_seg dksX0_areAngles_22 22 rfl rfl
theorem dksX0_areAngles_24 : cX0_areAngles.data.toList.drop 561 = dktX0_areAngles_24 := dk_seg dksX0_areAngles_23 24 rfl rfl
theorem dksX0_areAngles_25 : cX0_areAngles.data.toList.drop 585 = dktX0_areAngles_25 := dk_seg dksX0_areAngles_24 24 rfl rfl
theorem dksX0_areAngles_26 : cX0_areAngles.data.toList.drop 607 = dktX0_areAngles_26 := dk_seg dksX0_areAngles_25 22 rfl rfl
theorem dksX0_areAngles_27 : cX0_areAngles.data.toList.drop 631 = dktX0_areAngles_27 := dk_seg dksX0_areAngles_26 24 rfl rfl
theorem dksX0_areAngles_28 : cX0_areAngles.data.toList.drop 655 = dktX0_areAngles_28 := dk_seg dksX0_areAngles_27 24 rfl rfl
theorem dksX0_areAngles_29 : cX0_areAngles.data.toList.drop 679 = dktX0_areAngles_29 := dk_seg dksX0_areAngles_28 24 rfl rfl
theorem dksX0_areAngles_30 : cX0_areAngles.data.toList.drop 703 = dktX0_areAngles_30 := dk_seg dksX0_areAngles_29 24 rfl rfl
theorem dksX0_areAngles_31 : cX0_areAngles.data.toList.drop 726 = dktX0_areAngles_31 := dk_seg dksX0_areAngles_30 23 rfl rfl
theorem dksX0_areAngles_32 : cX0_areAngles.data.toList.drop 750 = dktX0_areAngles_32 := dk_seg dksX0_areAngles_31 24 rfl rfl
theorem dksX0_areAngles_33 : cX0_areAngles.data.toList.drop 772 = dktX0_areAngles_33 := dk_seg dksX0_areAngles_32 22 rfl rfl
theorem dksX0_areAngles_34 : cX0_areAngles.data.toList.drop 796 = dktX0_areAngles_34 := dk_seg dksX0_areAngles_33 24 rfl rfl
theorem dksX0_areAngles_35 : cX0_areAngles.data.toList.drop 819 = dktX0_areAngles_35 := dk_seg dksX0_areAngles_34 23 rfl rfl
theorem dksX0_areAngles_36 : cX0_areAngles.data.toList.drop 842 = dktX0_areAngles_36 := dk_seg dksX0_areAngles_35 23 rfl rfl
theorem dksX0_areAngles_37 : cX0_areAngles.data.toList.drop 864 = dktX0_areAngles_37 := dk_seg dksX0_areAngles_36 22 rfl rfl
theorem dksX0_areAngles_38 : cX0_areAngles.data.toList.drop 887 = dktX0_areAngles_38 := dk_seg dksX0_areAngles_37 23 rfl rfl
theorem dksX0_areAngles_39 : cX0_areAngles.data.toList.drop 911 = dktX0_areAngles_39 := dk_seg dksX0_areAngles_38 24 rfl rfl
theorem dksX0_areAngles_40 : cX0_areAngles.data.toList.drop 935 = dktX0_areAngles_40 := dk_seg dksX0_areAngles_39 24 rfl rfl
theorem dksX0_areAngles_41 : cX0_areAngles.data.toList.drop 959 = dktX0_areAngles_41 := dk_seg dksX0_areAngles_40 24 rfl rfl
theorem dksX0_areAngles_42 : cX0_areAngles.data.toList.drop 983 = dktX0_areAngles_42 := dk_seg dksX0_areAngles_41 24 rfl rfl
theorem dX0_areAngles_0 : decode cX0_areAngles 0 = .ok (.aload_n 0, 1) := dk_42 (dk_at dksX0_areAngles_0 0 rfl rfl)
theorem dX0_areAngles_1 : decode cX0_areAngles 1 = .ok (.iconst 0, 1) := dk_3 (dk_at dksX0_areAngles_0 1 rfl rfl)
theorem dX0_areAngles_2 : decode cX0_areAngles 2 = .ok (.iload_n 1, 1) := dk_27 (dk_at dksX0_areAngles_0 2 rfl rfl)
theorem dX0_areAngles_3 : decode cX0_areAngles 3 = .ok (.invokevirtual 129, 3) := dk_182 0 129 (dk_at dksX0_areAngles_0 3 rfl rfl)
theorem dX0_areAngles_6 : decode cX0_areAngles 6 = .ok (.ifCond .eq 12, 3) := dk_153 0 12 (dk_at dksX0_areAngles_0 6 rfl rfl)
theorem dX0_areAngles_9 : decode cX0_areAngles 9 = .ok (.aload_n 0, 1) := dk_42 (dk_at dksX0_areAngles_0 9 rfl rfl)
theorem dX0_areAngles_10 : decode cX0_areAngles 10 = .ok (.iconst 1, 1) := dk_4 (dk_at dksX0_areAngles_0 10 rfl rfl)
theorem dX0_areAngles_11 : decode cX0_areAngles 11 = .ok (.iload_n 2, 1) := dk_28 (dk_at dksX0_areAngles_0 11 rfl rfl)
theorem dX0_areAngles_12 : decode cX0_areAngles 12 = .ok (.invokevirtual 129, 3) := dk_182 0 129 (dk_at dksX0_areAngles_0 12 rfl rfl)
theorem dX0_areAngles_15 : decode cX0_areAngles 15 = .ok (.ifCond .ne 5, 3) := dk_154 0 5 (dk_at dksX0_areAngles_0 15 rfl rfl)
theorem dX0_areAngles_18 : decode cX0_areAngles 18 = .ok (.iconst 0, 1) := dk_3 (dk_at dksX0_areAngles_0 18 rfl rfl)
theorem dX0_areAngles_19 : decode cX0_areAngles 19 = .ok (.ireturn, 1) := dk_172 (dk_at dksX0_areAngles_0 19 rfl rfl)
theorem dX0_areAngles_20 : decode cX0_areAngles 20 = .ok (.aload_n 0, 1) := dk_42 (dk_at dksX0_areAngles_0 20 rfl rfl)
theorem dX0_areAngles_21 : decode cX0_areAngles 21 = .ok (.iconst 0, 1) := dk_3 (dk_at dksX0_areAngles_0 21 rfl rfl)
theorem dX0_areAngles_22 : decode cX0_areAngles 22 = .ok (.invokevirtual 89, 3) := dk_182 0 89 (dk_at dksX0_areAngles_1 0 rfl rfl)
theorem dX0_areAngles_25 : decode cX0_areAngles 25 = .ok (.lstore_n 3, 1) := dk_66 (dk_at dksX0_areAngles_1 3 rfl rfl)
theorem dX0_areAngles_26 : decode cX0_areAngles 26 = .ok (.aload_n 0, 1) := dk_42 (dk_at dksX0_areAngles_1 4 rfl rfl)
theorem dX0_areAngles_27 : decode cX0_areAngles 27 = .ok (.iconst 1, 1) := dk_4 (dk_at dksX0_areAngles_1 5 rfl rfl)
theorem dX0_areAngles_28 : decode cX0_areAngles 28 = .ok (.invokevirtual 89, 3) := dk_182 0 89 (dk_at dksX0_areAngles_1 6 rfl rfl)
theorem dX0_areAngles_31 : decode cX0_areAngles 31 = .ok (.lstore 5, 2) := dk_55 5 (dk_at dksX0_areAngles_1 9 rfl rfl)
theorem dX0_areAngles_33 : decode cX0_areAngles 33 = .ok (.aload_n 0, 1) := dk_42 (dk_at dksX0_areAngles_1 11 rfl rfl)
theorem dX0_areAngles_34 : decode cX0_areAngles 34 = .ok (.getfield 10, 3) := dk_180 0 10 (dk_at dksX0_areAngles_1 12 rfl rfl)
theorem dX0_areAngles_37 : decode cX0_areAngles 37 = .ok (.iconst 2, 1) := dk_5 (dk_at dksX0_areAngles_1 15 rfl rfl)
theorem dX0_areAngles_38 : decode cX0_areAngles 38 = .ok (.invokevirtual 47, 3) := dk_182 0 47 (dk_at dksX0_areAngles_1 16 rfl rfl)
theorem dX0_areAngles_41 : decode cX0_areAngles 41 = .ok (.istore 7, 2) := dk_54 7 (dk_at dksX0_areAngles_1 19 rfl rfl)
theorem dX0_areAngles_43 : decode cX0_areAngles 43 = .ok (.aload_n 0, 1) := dk_42 (dk_at dksX0_areAngles_1 21 rfl rfl)
theorem dX0_areAngles_44 : decode cX0_areAngles 44 = .ok (.getfield 10, 3) := dk_180 0 10 (dk_at dksX0_areAngles_2 0 rfl rfl)
theorem dX0_areAngles_47 : decode cX0_areAngles 47 = .ok (.iconst 0, 1) := dk_3 (dk_at dksX0_areAngles_2 3 rfl rfl)
theorem dX0_areAngles_48 : decode cX0_areAngles 48 = .ok (.iconst 2, 1) := dk_5 (dk_at dksX0_areAngles_2 4 rfl rfl)
theorem dX0_areAngles_49 : decode cX0_areAngles 49 = .ok (.invokevirtual 133, 3) := dk_182 0 133 (dk_at dksX0_areAngles_2 5 rfl rfl)
theorem dX0_areAngles_52 : decode cX0_areAngles 52 = .ok (.pop, 1) := dk_87 (dk_at dksX0_areAngles_2 8 rfl rfl)
theorem dX0_areAngles_53 : decode cX0_areAngles 53 = .ok (.aload_n 0, 1) := dk_42 (dk_at dksX0_areAngles_2 9 rfl rfl)
theorem dX0_areAngles_54 : decode cX0_areAngles 54 = .ok (.getfield 10, 3) := dk_180 0 10 (dk_at dksX0_areAngles_2 10 rfl rfl)
theorem dX0_areAngles_57 : decode cX0_areAngles 57 = .ok (.iconst 3, 1) := dk_6 (dk_at dksX0_areAngles_2 13 rfl rfl)
theorem dX0_areAngles_58 : decode cX0_areAngles 58 = .ok (.iconst 1, 1) := dk_4 (dk_at dksX0_areAngles_2 14 rfl rfl)
theorem dX0_areAngles_59 : decode cX0_areAngles 59 = .ok (.invokevirtual 86, 3) := dk_182 0 86 (dk_at dksX0_areAngles_2 15 rfl rfl)
theorem dX0_areAngles_62 : decode cX0_areAngles 62 = .ok (.pop, 1) := dk_87 (dk_at dksX0_areAngles_2 18 rfl rfl)
theorem dX0_areAngles_63 : decode cX0_areAngles 63 = .ok (.aload_n 0, 1) := dk_42 (dk_at dksX0_areAngles_2 19 rfl rfl)
theorem dX0_areAngles_64 : decode cX0_areAngles 64 = .ok (.getfield 10, 3) := dk_180 0 10 (dk_at dksX0_areAngles_2 20 rfl rfl)
theorem dX0_areAngles_67 : decode cX0_areAngles 67 = .ok (.iconst 2, 1) := dk_5 (dk_at dksX0_areAngles_2 23 rfl rfl)
theorem dX0_areAngles_68 : decode cX0_areAngles 68 = .ok (.invokevirtual 136, 3) := dk_182 0 136 (dk_at dksX0_areAngles_3 0 rfl rfl)
theorem dX0_areAngles_71 : decode cX0_areAngles 71 = .ok (.istore 8, 2) := dk_54 8 (dk_at dksX0_areAngles_3 3 rfl rfl)
theorem dX0_areAngles_73 : decode cX0_areAngles 73 = .ok (.aload_n 0, 1) := dk_42 (dk_at dksX0_areAngles_3 5 rfl rfl)
theorem dX0_areAngles_74 : decode cX0_areAngles 74 = .ok (.getfield 10, 3) := dk_180 0 10 (dk_at dksX0_areAngles_3 6 rfl rfl)
theorem dX0_areAngles_77 : decode cX0_areAngles 77 = .ok (.iconst 0, 1) := dk_3 (dk_at dksX0_areAngles_3 9 rfl rfl)
theorem dX0_areAngles_78 : decode cX0_areAngles 78 = .ok (.iconst 0, 1) := dk_3 (dk_at dksX0_areAngles_3 10 rfl rfl)
theorem dX0_areAngles_79 : decode cX0_areAngles 79 = .ok (.iconst 3, 1) := dk_6 (dk_at dksX0_areAngles_3 11 rfl rfl)
theorem dX0_areAngles_80 : decode cX0_areAngles 80 = .ok (.invokevirtual 139, 3) := dk_182 0 139 (dk_at dksX0_areAngles_3 12 rfl rfl)
theorem dX0_areAngles_83 : decode cX0_areAngles 83 = .ok (.istore 9, 2) := dk_54 9 (dk_at dksX0_areAngles_3 15 rfl rfl)
theorem dX0_areAngles_85 : decode cX0_areAngles 85 = .ok (.ldc2_w 143, 3) := dk_20 0 143 (dk_at dksX0_areAngles_3 17 rfl rfl)
theorem dX0_areAngles_88 : decode cX0_areAngles 88 = .ok (.lload_n 3, 1) := dk_33 (dk_at dksX0_areAngles_3 20 rfl rfl)
theorem dX0_areAngles_89 : decode cX0_areAngles 89 = .ok (.lmul, 1) := dk_105 (dk_at dksX0_areAngles_3 21 rfl rfl)
theorem dX0_areAngles_90 : decode cX0_areAngles 90 = .ok (.invokestatic 145, 3) := dk_184 0 145 (dk_at dksX0_areAngles_4 0 rfl rfl)
theorem dX0_areAngles_93 : decode cX0_areAngles 93 = .ok (.ifCond .eq 72, 3) := dk_153 0 72 (dk_at dksX0_areAngles_4 3 rfl rfl)
theorem dX0_areAngles_96 : decode cX0_areAngles 96 = .ok (.iload 8, 2) := dk_21 8 (dk_at dksX0_areAngles_4 6 rfl rfl)
theorem dX0_areAngles_98 : decode cX0_areAngles 98 = .ok (.lload_n 3, 1) := dk_33 (dk_at dksX0_areAngles_4 8 rfl rfl)
theorem dX0_areAngles_99 : decode cX0_areAngles 99 = .ok (.lconst 0, 1) := dk_9 (dk_at dksX0_areAngles_4 9 rfl rfl)
theorem dX0_areAngles_100 : decode cX0_areAngles 100 = .ok (.lcmp, 1) := dk_148 (dk_at dksX0_areAngles_4 10 rfl rfl)
theorem dX0_areAngles_101 : decode cX0_areAngles 101 = .ok (.ifCond .ne 7, 3) := dk_154 0 7 (dk_at dksX0_areAngles_4 11 rfl rfl)
theorem dX0_areAngles_104 : decode cX0_areAngles 104 = .ok (.iconst 0, 1) := dk_3 (dk_at dksX0_areAngles_4 14 rfl rfl)
theorem dX0_areAngles_105 : decode cX0_areAngles 105 = .ok (.goto 4, 3) := dk_167 0 4 (dk_at dksX0_areAngles_4 15 rfl rfl)
theorem dX0_areAngles_108 : decode cX0_areAngles 108 = .ok (.iconst 1, 1) := dk_4 (dk_at dksX0_areAngles_4 18 rfl rfl)
theorem dX0_areAngles_109 : decode cX0_areAngles 109 = .ok (.if_icmp .ne 52, 3) := dk_160 0 52 (dk_at dksX0_areAngles_4 19 rfl rfl)
theorem dX0_areAngles_112 : decode cX0_areAngles 112 = .ok (.iload 9, 2) := dk_21 9 (dk_at dksX0_areAngles_4 22 rfl rfl)
theorem dX0_areAngles_114 : decode cX0_areAngles 114 = .ok (.iconst 1, 1) := dk_4 (dk_at dksX0_areAngles_5 0 rfl rfl)
theorem dX0_areAngles_115 : decode cX0_areAngles 115 = .ok (.if_icmp .ne 46, 3) := dk_160 0 46 (dk_at dksX0_areAngles_5 1 rfl rfl)
theorem dX0_areAngles_118 : decode cX0_areAngles 118 = .ok (.aload_n 0, 1) := dk_42 (dk_at dksX0_areAngles_5 4 rfl rfl)
theorem dX0_areAngles_119 : decode cX0_areAngles 119 = .ok (.iconst 2, 1) := dk_5 (dk_at dksX0_areAngles_5 5 rfl rfl)
theorem dX0_areAngles_120 : decode cX0_areAngles 120 = .ok (.invokevirtual 89, 3) := dk_182 0 89 (dk_at dksX0_areAngles_5 6 rfl rfl)
theorem dX0_areAngles_123 : decode cX0_areAngles 123 = .ok (.ldc2_w 143, 3) := dk_20 0 143 (dk_at dksX0_areAngles_5 9 rfl rfl)
theorem dX0_areAngles_126 : decode cX0_areAngles 126 = .ok (.lload_n 3, 1) := dk_33 (dk_at dksX0_areAngles_5 12 rfl rfl)
theorem dX0_areAngles_127 : decode cX0_areAngles 127 = .ok (.lmul, 1) := dk_105 (dk_at dksX0_areAngles_5 13 rfl rfl)
theorem dX0_areAngles_128 : decode cX0_areAngles 128 = .ok (.lcmp, 1) := dk_148 (dk_at dksX0_areAngles_5 14 rfl rfl)
theorem dX0_areAngles_129 : decode cX0_areAngles 129 = .ok (.ifCond .ne 32, 3) := dk_154 0 32 (dk_at dksX0_areAngles_5 15 rfl rfl)
theorem dX0_areAngles_132 : decode cX0_areAngles 132 = .ok (.aload_n 0, 1) := dk_42 (dk_at dksX0_areAngles_5 18 rfl rfl)
theorem dX0_areAngles_133 : decode cX0_areAngles 133 = .ok (.getfield 10, 3) := dk_180 0 10 (dk_at dksX0_areAngles_5 19 rfl rfl)
theorem dX0_areAngles_136 : decode cX0_areAngles 136 = .ok (.iconst 2, 1) := dk_5 (dk_at dksX0_areAngles_5 22 rfl rfl)
theorem dX0_areAngles_137 : decode cX0_areAngles 137 = .ok (.iconst 3, 1) := dk_6 (dk_at dksX0_areAngles_5 23 rfl rfl)
theorem dX0_areAngles_138 : decode cX0_areAngles 138 = .ok (.invokevirtual 133, 3) := dk_182 0 133 (dk_at dksX0_areAngles_6 0 rfl rfl)
theorem dX0_areAngles_141 : decode cX0_areAngles 141 = .ok (.ifCond .ne 20, 3) := dk_154 0 20 (dk_at dksX0_areAngles_6 3 rfl rfl)
theorem dX0_areAngles_144 : decode cX0_areAngles 144 = .ok (.aload_n 0, 1) := dk_42 (dk_at dksX0_areAngles_6 6 rfl rfl)
theorem dX0_areAngles_145 : decode cX0_areAngles 145 = .ok (.getfield 10, 3) := dk_180 0 10 (dk_at dksX0_areAngles_6 7 rfl rfl)
theorem dX0_areAngles_148 : decode cX0_areAngles 148 = .ok (.iconst 2, 1) := dk_5 (dk_at dksX0_areAngles_6 10 rfl rfl)
theorem dX0_areAngles_149 : decode cX0_areAngles 149 = .ok (.invokevirtual 47, 3) := dk_182 0 47 (dk_at dksX0_areAngles_6 11 rfl rfl)
theorem dX0_areAngles_152 : decode cX0_areAngles 152 = .ok (.iload 7, 2) := dk_21 7 (dk_at dksX0_areAngles_6 14 rfl rfl)
theorem dX0_areAngles_154 : decode cX0_areAngles 154 = .ok (.if_icmp .ne 7, 3) := dk_160 0 7 (dk_at dksX0_areAngles_6 16 rfl rfl)
theorem dX0_areAngles_157 : decode cX0_areAngles 157 = .ok (.iconst 1, 1) := dk_4 (dk_at dksX0_areAngles_6 19 rfl rfl)
theorem dX0_areAngles_158 : decode cX0_areAngles 158 = .ok (.goto 64, 3) := dk_167 0 64 (dk_at dksX0_areAngles_6 20 rfl rfl)
theorem dX0_areAngles_161 : decode cX0_areAngles 161 = .ok (.iconst 0, 1) := dk_3 (dk_at dksX0_areAngles_6 23 rfl rfl)
theorem dX0_areAngles_162 : decode cX0_areAngles 162 = .ok (.goto 60, 3) := dk_167 0 60 (dk_at dksX0_areAngles_7 0 rfl rfl)
theorem dX0_areAngles_165 : decode cX0_areAngles 165 = .ok (.iload 8, 2) := dk_21 8 (dk_at dksX0_areAngles_7 3 rfl rfl)
theorem dX0_areAngles_167 : decode cX0_areAngles 167 = .ok (.bipush (-9), 2) := dk_16 247 (dk_at dksX0_areAngles_7 5 rfl rfl)
theorem dX0_areAngles_169 : decode cX0_areAngles 169 = .ok (.if_icmp .ne 52, 3) := dk_160 0 52 (dk_at dksX0_areAngles_7 7 rfl rfl)
theorem dX0_areAngles_172 : decode cX0_areAngles 172 = .ok (.iload 9, 2) := dk_21 9 (dk_at dksX0_areAngles_7 10 rfl rfl)
theorem dX0_areAngles_174 : decode cX0_areAngles 174 = .ok (.bipush (-9), 2) := dk_16 247 (dk_at dksX0_areAngles_7 12 rfl rfl)
theorem dX0_areAngles_176 : decode cX0_areAngles 176 = .ok (.if_icmp .ne 45, 3) := dk_160 0 45 (dk_at dksX0_areAngles_7 14 rfl rfl)
theorem dX0_areAngles_179 : decode cX0_areAngles 179 = .ok (.aload_n 0, 1) := dk_42 (dk_at dksX0_areAngles_7 17 rfl rfl)
theorem dX0_areAngles_180 : decode cX0_areAngles 180 = .ok (.iconst 2, 1) := dk_5 (dk_at dksX0_areAngles_7 18 rfl rfl)
theorem dX0_areAngles_181 : decode cX0_areAngles 181 = .ok (.invokevirtual 89, 3) := dk_182 0 89 (dk_at dksX0_areAngles_7 19 rfl rfl)
theorem dX0_areAngles_184 : decode cX0_areAngles 184 = .ok (.lload_n 3, 1) := dk_33 (dk_at dksX0_areAngles_7 22 rfl rfl)
theorem dX0_areAngles_185 : decode cX0_areAngles 185 = .ok (.lcmp, 1) := dk_148 (dk_at dksX0_areAngles_7 23 rfl rfl)
theorem dX0_areAngles_186 : decode cX0_areAngles 186 = .ok (.ifCond .ne 35, 3) := dk_154 0 35 (dk_at dksX0_areAngles_8 0 rfl rfl)
theorem dX0_areAngles_189 : decode cX0_areAngles 189 = .ok (.aload_n 0, 1) := dk_42 (dk_at dksX0_areAngles_8 3 rfl rfl)
theorem dX0_areAngles_190 : decode cX0_areAngles 190 = .ok (.getfield 10, 3) := dk_180 0 10 (dk_at dksX0_areAngles_8 4 rfl rfl)
theorem dX0_areAngles_193 : decode cX0_areAngles 193 = .ok (.iconst 3, 1) := dk_6 (dk_at dksX0_areAngles_8 7 rfl rfl)
theorem dX0_areAngles_194 : decode cX0_areAngles 194 = .ok (.invokevirtual 113, 3) := dk_182 0 113 (dk_at dksX0_areAngles_8 8 rfl rfl)
theorem dX0_areAngles_197 : decode cX0_areAngles 197 = .ok (.ldc 107, 2) := dk_18 107 (dk_at dksX0_areAngles_8 11 rfl rfl)
theorem dX0_areAngles_199 : decode cX0_areAngles 199 = .ok (.if_icmp .ne 22, 3) := dk_160 0 22 (dk_at dksX0_areAngles_8 13 rfl rfl)
theorem dX0_areAngles_202 : decode cX0_areAngles 202 = .ok (.aload_n 0, 1) := dk_42 (dk_at dksX0_areAngles_8 16 rfl rfl)
theorem dX0_areAngles_203 : decode cX0_areAngles 203 = .ok (.getfield 10, 3) := dk_180 0 10 (dk_at dksX0_areAngles_8 17 rfl rfl)
theorem dX0_areAngles_206 : decode cX0_areAngles 206 = .ok (.iconst 2, 1) := dk_5 (dk_at dksX0_areAngles_8 20 rfl rfl)
theorem dX0_areAngles_207 : decode cX0_areAngles 207 = .ok (.invokevirtual 47, 3) := dk_182 0 47 (dk_at dksX0_areAngles_8 21 rfl rfl)
theorem dX0_areAngles_210 : decode cX0_areAngles 210 = .ok (.iload 7, 2) := dk_21 7 (dk_at dksX0_areAngles_9 0 rfl rfl)
theorem dX0_areAngles_212 : decode cX0_areAngles 212 = .ok (.iconst 2, 1) := dk_5 (dk_at dksX0_areAngles_9 2 rfl rfl)
theorem dX0_areAngles_213 : decode cX0_areAngles 213 = .ok (.iadd, 1) := dk_96 (dk_at dksX0_areAngles_9 3 rfl rfl)
theorem dX0_areAngles_214 : decode cX0_areAngles 214 = .ok (.if_icmp .ne 7, 3) := dk_160 0 7 (dk_at dksX0_areAngles_9 4 rfl rfl)
theorem dX0_areAngles_217 : decode cX0_areAngles 217 = .ok (.iconst 1, 1) := dk_4 (dk_at dksX0_areAngles_9 7 rfl rfl)
theorem dX0_areAngles_218 : decode cX0_areAngles 218 = .ok (.goto 4, 3) := dk_167 0 4 (dk_at dksX0_areAngles_9 8 rfl rfl)
theorem dX0_areAngles_221 : decode cX0_areAngles 221 = .ok (.iconst 0, 1) := dk_3 (dk_at dksX0_areAngles_9 11 rfl rfl)
theorem dX0_areAngles_222 : decode cX0_areAngles 222 = .ok (.istore 10, 2) := dk_54 10 (dk_at dksX0_areAngles_9 12 rfl rfl)
theorem dX0_areAngles_224 : decode cX0_areAngles 224 = .ok (.aload_n 0, 1) := dk_42 (dk_at dksX0_areAngles_9 14 rfl rfl)
theorem dX0_areAngles_225 : decode cX0_areAngles 225 = .ok (.getfield 10, 3) := dk_180 0 10 (dk_at dksX0_areAngles_9 15 rfl rfl)
theorem dX0_areAngles_228 : decode cX0_areAngles 228 = .ok (.iconst 4, 1) := dk_7 (dk_at dksX0_areAngles_9 18 rfl rfl)
theorem dX0_areAngles_229 : decode cX0_areAngles 229 = .ok (.iconst 1, 1) := dk_4 (dk_at dksX0_areAngles_9 19 rfl rfl)
theorem dX0_areAngles_230 : decode cX0_areAngles 230 = .ok (.invokevirtual 86, 3) := dk_182 0 86 (dk_at dksX0_areAngles_9 20 rfl rfl)
theorem dX0_areAngles_233 : decode cX0_areAngles 233 = .ok (.pop, 1) := dk_87 (dk_at dksX0_areAngles_9 23 rfl rfl)
theorem dX0_areAngles_234 : decode cX0_areAngles 234 = .ok (.aload_n 0, 1) := dk_42 (dk_at dksX0_areAngles_10 0 rfl rfl)
theorem dX0_areAngles_235 : decode cX0_areAngles 235 = .ok (.getfield 10, 3) := dk_180 0 10 (dk_at dksX0_areAngles_10 1 rfl rfl)
theorem dX0_areAngles_238 : decode cX0_areAngles 238 = .ok (.iconst 5, 1) := dk_8 (dk_at dksX0_areAngles_10 4 rfl rfl)
theorem dX0_areAngles_239 : decode cX0_areAngles 239 = .ok (.iconst 1, 1) := dk_4 (dk_at dksX0_areAngles_10 5 rfl rfl)
theorem dX0_areAngles_240 : decode cX0_areAngles 240 = .ok (.invokevirtual 86, 3) := dk_182 0 86 (dk_at dksX0_areAngles_10 6 rfl rfl)
theorem dX0_areAngles_243 : decode cX0_areAngles 243 = .ok (.pop, 1) := dk_87 (dk_at dksX0_areAngles_10 9 rfl rfl)
theorem dX0_areAngles_244 : decode cX0_areAngles 244 = .ok (.aload_n 0, 1) := dk_42 (dk_at dksX0_areAngles_10 10 rfl rfl)
theorem dX0_areAngles_245 : decode cX0_areAngles 245 = .ok (.getfield 10, 3) := dk_180 0 10 (dk_at dksX0_areAngles_10 11 rfl rfl)
theorem dX0_areAngles_248 : decode cX0_areAngles 248 = .ok (.iconst 2, 1) := dk_5 (dk_at dksX0_areAngles_10 14 rfl rfl)
theorem dX0_areAngles_249 : decode cX0_areAngles 249 = .ok (.invokevirtual 47, 3) := dk_182 0 47 (dk_at dksX0_areAngles_10 15 rfl rfl)
theorem dX0_areAngles_252 : decode cX0_areAngles 252 = .ok (.istore 7, 2) := dk_54 7 (dk_at dksX0_areAngles_10 18 rfl rfl)
theorem dX0_areAngles_254 : decode cX0_areAngles 254 = .ok (.aload_n 0, 1) := dk_42 (dk_at dksX0_areAngles_10 20 rfl rfl)
theorem dX0_areAngles_255 : decode cX0_areAngles 255 = .ok (.getfield 10, 3) := dk_180 0 10 (dk_at dksX0_areAngles_10 21 rfl rfl)
theorem dX0_areAngles_258 : decode cX0_areAngles 258 = .ok (.iconst 0, 1) := dk_3 (dk_at dksX0_areAngles_11 0 rfl rfl)
theorem dX0_areAngles_259 : decode cX0_areAngles 259 = .ok (.iconst 1, 1) := dk_4 (dk_at dksX0_areAngles_11 1 rfl rfl)
theorem dX0_areAngles_260 : decode cX0_areAngles 260 = .ok (.iconst 4, 1) := dk_7 (dk_at dksX0_areAngles_11 2 rfl rfl)
theorem dX0_areAngles_261 : decode cX0_areAngles 261 = .ok (.invokevirtual 139, 3) := dk_182 0 139 (dk_at dksX0_areAngles_11 3 rfl rfl)
theorem dX0_areAngles_264 : decode cX0_areAngles 264 = .ok (.istore 11, 2) := dk_54 11 (dk_at dksX0_areAngles_11 6 rfl rfl)
theorem dX0_areAngles_266 : decode cX0_areAngles 266 = .ok (.aload_n 0, 1) := dk_42 (dk_at dksX0_areAngles_11 8 rfl rfl)
theorem dX0_areAngles_267 : decode cX0_areAngles 267 = .ok (.getfield 10, 3) := dk_180 0 10 (dk_at dksX0_areAngles_11 9 rfl rfl)
theorem dX0_areAngles_270 : decode cX0_areAngles 270 = .ok (.iconst 1, 1) := dk_4 (dk_at dksX0_areAngles_11 12 rfl rfl)
theorem dX0_areAngles_271 : decode cX0_areAngles 271 = .ok (.iconst 0, 1) := dk_3 (dk_at dksX0_areAngles_11 13 rfl rfl)
theorem dX0_areAngles_272 : decode cX0_areAngles 272 = .ok (.iconst 5, 1) := dk_8 (dk_at dksX0_areAngles_11 14 rfl rfl)
theorem dX0_areAngles_273 : decode cX0_areAngles 273 = .ok (.invokevirtual 139, 3) := dk_182 0 139 (dk_at dksX0_areAngles_11 15 rfl rfl)
theorem dX0_areAngles_276 : decode cX0_areAngles 276 = .ok (.istore 12, 2) := dk_54 12 (dk_at dksX0_areAngles_11 18 rfl rfl)
theorem dX0_areAngles_278 : decode cX0_areAngles 278 = .ok (.lload_n 3, 1) := dk_33 (dk_at dksX0_areAngles_11 20 rfl rfl)
theorem dX0_areAngles_279 : decode cX0_areAngles 279 = .ok (.lload 5, 2) := dk_22 5 (dk_at dksX0_areAngles_11 21 rfl rfl)
theorem dX0_areAngles_281 : decode cX0_areAngles 281 = .ok (.ladd, 1) := dk_97 (dk_at dksX0_areAngles_11 23 rfl rfl)
theorem dX0_areAngles_282 : decode cX0_areAngles 282 = .ok (.invokestatic 145, 3) := dk_184 0 145 (dk_at dksX0_areAngles_12 0 rfl rfl)
theorem dX0_areAngles_285 : decode cX0_areAngles 285 = .ok (.ifCond .eq 160, 3) := dk_153 0 160 (dk_at dksX0_areAngles_12 3 rfl rfl)
theorem dX0_areAngles_288 : decode cX0_areAngles 288 = .ok (.iload 10, 2) := dk_21 10 (dk_at dksX0_areAngles_12 6 rfl rfl)
theorem dX0_areAngles_290 : decode cX0_areAngles 290 = .ok (.ifCond .eq 149, 3) := dk_153 0 149 (dk_at dksX0_areAngles_12 8 rfl rfl)
theorem dX0_areAngles_293 : decode cX0_areAngles 293 = .ok (.iload 11, 2) := dk_21 11 (dk_at dksX0_areAngles_12 11 rfl rfl)
theorem dX0_areAngles_295 : decode cX0_areAngles 295 = .ok (.iconst 1, 1) := dk_4 (dk_at dksX0_areAngles_12 13 rfl rfl)
theorem dX0_areAngles_296 : decode cX0_areAngles 296 = .ok (.if_icmp .ne 143, 3) := dk_160 0 143 (dk_at dksX0_areAngles_12 14 rfl rfl)
theorem dX0_areAngles_299 : decode cX0_areAngles 299 = .ok (.iload 12, 2) := dk_21 12 (dk_at dksX0_areAngles_12 17 rfl rfl)
theorem dX0_areAngles_301 : decode cX0_areAngles 301 = .ok (.iconst 1, 1) := dk_4 (dk_at dksX0_areAngles_12 19 rfl rfl)
theorem dX0_areAngles_302 : decode cX0_areAngles 302 = .ok (.if_icmp .ne 137, 3) := dk_160 0 137 (dk_at dksX0_areAngles_12 20 rfl rfl)
theorem dX0_areAngles_305 : decode cX0_areAngles 305 = .ok (.aload_n 0, 1) := dk_42 (dk_at dksX0_areAngles_12 23 rfl rfl)
theorem dX0_areAngles_306 : decode cX0_areAngles 306 = .ok (.iconst 4, 1) := dk_7 (dk_at dksX0_areAngles_13 0 rfl rfl)
theorem dX0_areAngles_307 : decode cX0_areAngles 307 = .ok (.invokevirtual 89, 3) := dk_182 0 89 (dk_at dksX0_areAngles_13 1 rfl rfl)
theorem dX0_areAngles_310 : decode cX0_areAngles 310 = .ok (.lload_n 3, 1) := dk_33 (dk_at dksX0_areAngles_13 4 rfl rfl)
theorem dX0_areAngles_311 : decode cX0_areAngles 311 = .ok (.lload 5, 2) := dk_22 5 (dk_at dksX0_areAngles_13 5 rfl rfl)
theorem dX0_areAngles_313 : decode cX0_areAngles 313 = .ok (.ladd, 1) := dk_97 (dk_at dksX0_areAngles_13 7 rfl rfl)
theorem dX0_areAngles_314 : decode cX0_areAngles 314 = .ok (.lcmp, 1) := dk_148 (dk_at dksX0_areAngles_13 8 rfl rfl)
theorem dX0_areAngles_315 : decode cX0_areAngles 315 = .ok (.ifCond .ne 124, 3) := dk_154 0 124 (dk_at dksX0_areAngles_13 9 rfl rfl)
theorem dX0_areAngles_318 : decode cX0_areAngles 318 = .ok (.aload_n 0, 1) := dk_42 (dk_at dksX0_areAngles_13 12 rfl rfl)
theorem dX0_areAngles_319 : decode cX0_areAngles 319 = .ok (.getfield 10, 3) := dk_180 0 10 (dk_at dksX0_areAngles_13 13 rfl rfl)
theorem dX0_areAngles_322 : decode cX0_areAngles 322 = .ok (.iconst 4, 1) := dk_7 (dk_at dksX0_areAngles_13 16 rfl rfl)
theorem dX0_areAngles_323 : decode cX0_areAngles 323 = .ok (.iconst 5, 1) := dk_8 (dk_at dksX0_areAngles_13 17 rfl rfl)
theorem dX0_areAngles_324 : decode cX0_areAngles 324 = .ok (.invokevirtual 133, 3) := dk_182 0 133 (dk_at dksX0_areAngles_13 18 rfl rfl)
theorem dX0_areAngles_327 : decode cX0_areAngles 327 = .ok (.ifCond .ne 112, 3) := dk_154 0 112 (dk_at dksX0_areAngles_13 21 rfl rfl)
theorem dX0_areAngles_330 : decode cX0_areAngles 330 = .ok (.aload_n 0, 1) := dk_42 (dk_at dksX0_areAngles_14 0 rfl rfl)
theorem dX0_areAngles_331 : decode cX0_areAngles 331 = .ok (.getfield 10, 3) := dk_180 0 10 (dk_at dksX0_areAngles_14 1 rfl rfl)
theorem dX0_areAngles_334 : decode cX0_areAngles 334 = .ok (.iconst 1, 1) := dk_4 (dk_at dksX0_areAngles_14 4 rfl rfl)
theorem dX0_areAngles_335 : decode cX0_areAngles 335 = .ok (.invokevirtual 149, 3) := dk_182 0 149 (dk_at dksX0_areAngles_14 5 rfl rfl)
theorem dX0_areAngles_338 : decode cX0_areAngles 338 = .ok (.lload 5, 2) := dk_22 5 (dk_at dksX0_areAngles_14 8 rfl rfl)
theorem dX0_areAngles_340 : decode cX0_areAngles 340 = .ok (.lconst 0, 1) := dk_9 (dk_at dksX0_areAngles_14 10 rfl rfl)
theorem dX0_areAngles_341 : decode cX0_areAngles 341 = .ok (.lcmp, 1) := dk_148 (dk_at dksX0_areAngles_14 11 rfl rfl)
theorem dX0_areAngles_342 : decode cX0_areAngles 342 = .ok (.ifCond .ge 7, 3) := dk_156 0 7 (dk_at dksX0_areAngles_14 12 rfl rfl)
theorem dX0_areAngles_345 : decode cX0_areAngles 345 = .ok (.iconst 0, 1) := dk_3 (dk_at dksX0_areAngles_14 15 rfl rfl)
theorem dX0_areAngles_346 : decode cX0_areAngles 346 = .ok (.goto 4, 3) := dk_167 0 4 (dk_at dksX0_areAngles_14 16 rfl rfl)
theorem dX0_areAngles_349 : decode cX0_areAngles 349 = .ok (.iconst 1, 1) := dk_4 (dk_at dksX0_areAngles_14 19 rfl rfl)
theorem dX0_areAngles_350 : decode cX0_areAngles 350 = .ok (.if_icmp .ne 89, 3) := dk_160 0 89 (dk_at dksX0_areAngles_14 20 rfl rfl)
theorem dX0_areAngles_353 : decode cX0_areAngles 353 = .ok (.aload_n 0, 1) := dk_42 (dk_at dksX0_areAngles_14 23 rfl rfl)
theorem dX0_areAngles_354 : decode cX0_areAngles 354 = .ok (.getfield 10, 3) := dk_180 0 10 (dk_at dksX0_areAngles_15 0 rfl rfl)
theorem dX0_areAngles_357 : decode cX0_areAngles 357 = .ok (.iconst 4, 1) := dk_7 (dk_at dksX0_areAngles_15 3 rfl rfl)
theorem dX0_areAngles_358 : decode cX0_areAngles 358 = .ok (.iconst 1, 1) := dk_4 (dk_at dksX0_areAngles_15 4 rfl rfl)
theorem dX0_areAngles_359 : decode cX0_areAngles 359 = .ok (.iconst 5, 1) := dk_8 (dk_at dksX0_areAngles_15 5 rfl rfl)
theorem dX0_areAngles_360 : decode cX0_areAngles 360 = .ok (.invokevirtual 139, 3) := dk_182 0 139 (dk_at dksX0_areAngles_15 6 rfl rfl)
theorem dX0_areAngles_363 : decode cX0_areAngles 363 = .ok (.lload 5, 2) := dk_22 5 (dk_at dksX0_areAngles_15 9 rfl rfl)
theorem dX0_areAngles_365 : decode cX0_areAngles 365 = .ok (.lconst 0, 1) := dk_9 (dk_at dksX0_areAngles_15 11 rfl rfl)
theorem dX0_areAngles_366 : decode cX0_areAngles 366 = .ok (.lcmp, 1) := dk_148 (dk_at dksX0_areAngles_15 12 rfl rfl)
theorem dX0_areAngles_367 : decode cX0_areAngles 367 = .ok (.ifCond .ne 7, 3) := dk_154 0 7 (dk_at dksX0_areAngles_15 13 rfl rfl)
theorem dX0_areAngles_370 : decode cX0_areAngles 370 = .ok (.iconst 0, 1) := dk_3 (dk_at dksX0_areAngles_15 16 rfl rfl)
theorem dX0_areAngles_371 : decode cX0_areAngles 371 = .ok (.goto 4, 3) := dk_167 0 4 (dk_at dksX0_areAngles_15 17 rfl rfl)
theorem dX0_areAngles_374 : decode cX0_areAngles 374 = .ok (.iconst 1, 1) := dk_4 (dk_at dksX0_areAngles_15 20 rfl rfl)
theorem dX0_areAngles_375 : decode cX0_areAngles 375 = .ok (.if_icmp .ne 64, 3) := dk_160 0 64 (dk_at dksX0_areAngles_15 21 rfl rfl)
theorem dX0_areAngles_378 : decode cX0_areAngles 378 = .ok (.aload_n 0, 1) := dk_42 (dk_at dksX0_areAngles_16 0 rfl rfl)
theorem dX0_areAngles_379 : decode cX0_areAngles 379 = .ok (.iconst 5, 1) := dk_8 (dk_at dksX0_areAngles_16 1 rfl rfl)
theorem dX0_areAngles_380 : decode cX0_areAngles 380 = .ok (.invokevirtual 89, 3) := dk_182 0 89 (dk_at dksX0_areAngles_16 2 rfl rfl)
theorem dX0_areAngles_383 : decode cX0_areAngles 383 = .ok (.lload_n 3, 1) := dk_33 (dk_at dksX0_areAngles_16 5 rfl rfl)
theorem dX0_areAngles_384 : decode cX0_areAngles 384 = .ok (.lcmp, 1) := dk_148 (dk_at dksX0_areAngles_16 6 rfl rfl)
theorem dX0_areAngles_385 : decode cX0_areAngles 385 = .ok (.ifCond .ne 54, 3) := dk_154 0 54 (dk_at dksX0_areAngles_16 7 rfl rfl)
theorem dX0_areAngles_388 : decode cX0_areAngles 388 = .ok (.aload_n 0, 1) := dk_42 (dk_at dksX0_areAngles_16 10 rfl rfl)
theorem dX0_areAngles_389 : decode cX0_areAngles 389 = .ok (.getfield 10, 3) := dk_180 0 10 (dk_at dksX0_areAngles_16 11 rfl rfl)
theorem dX0_areAngles_392 : decode cX0_areAngles 392 = .ok (.iconst 1, 1) := dk_4 (dk_at dksX0_areAngles_16 14 rfl rfl)
theorem dX0_areAngles_393 : decode cX0_areAngles 393 = .ok (.invokevirtual 149, 3) := dk_182 0 149 (dk_at dksX0_areAngles_16 15 rfl rfl)
theorem dX0_areAngles_396 : decode cX0_areAngles 396 = .ok (.lload 5, 2) := dk_22 5 (dk_at dksX0_areAngles_16 18 rfl rfl)
theorem dX0_areAngles_398 : decode cX0_areAngles 398 = .ok (.lconst 0, 1) := dk_9 (dk_at dksX0_areAngles_16 20 rfl rfl)
theorem dX0_areAngles_399 : decode cX0_areAngles 399 = .ok (.lcmp, 1) := dk_148 (dk_at dksX0_areAngles_16 21 rfl rfl)
theorem dX0_areAngles_400 : decode cX0_areAngles 400 = .ok (.ifCond .ge 7, 3) := dk_156 0 7 (dk_at dksX0_areAngles_17 0 rfl rfl)
theorem dX0_areAngles_403 : decode cX0_areAngles 403 = .ok (.iconst 1, 1) := dk_4 (dk_at dksX0_areAngles_17 3 rfl rfl)
theorem dX0_areAngles_404 : decode cX0_areAngles 404 = .ok (.goto 4, 3) := dk_167 0 4 (dk_at dksX0_areAngles_17 4 rfl rfl)
theorem dX0_areAngles_407 : decode cX0_areAngles 407 = .ok (.iconst 0, 1) := dk_3 (dk_at dksX0_areAngles_17 7 rfl rfl)
theorem dX0_areAngles_408 : decode cX0_areAngles 408 = .ok (.if_icmp .ne 31, 3) := dk_160 0 31 (dk_at dksX0_areAngles_17 8 rfl rfl)
theorem dX0_areAngles_411 : decode cX0_areAngles 411 = .ok (.aload_n 0, 1) := dk_42 (dk_at dksX0_areAngles_17 11 rfl rfl)
theorem dX0_areAngles_412 : decode cX0_areAngles 412 = .ok (.iconst 1, 1) := dk_4 (dk_at dksX0_areAngles_17 12 rfl rfl)
theorem dX0_areAngles_413 : decode cX0_areAngles 413 = .ok (.invokevirtual 89, 3) := dk_182 0 89 (dk_at dksX0_areAngles_17 13 rfl rfl)
theorem dX0_areAngles_416 : decode cX0_areAngles 416 = .ok (.lload 5, 2) := dk_22 5 (dk_at dksX0_areAngles_17 16 rfl rfl)
theorem dX0_areAngles_418 : decode cX0_areAngles 418 = .ok (.lcmp, 1) := dk_148 (dk_at dksX0_areAngles_17 18 rfl rfl)
theorem dX0_areAngles_419 : decode cX0_areAngles 419 = .ok (.ifCond .ne 20, 3) := dk_154 0 20 (dk_at dksX0_areAngles_17 19 rfl rfl)
theorem dX0_areAngles_422 : decode cX0_areAngles 422 = .ok (.aload_n 0, 1) := dk_42 (dk_at dksX0_areAngles_17 22 rfl rfl)
theorem dX0_areAngles_423 : decode cX0_areAngles 423 = .ok (.getfield 10, 3) := dk_180 0 10 (dk_at dksX0_areAngles_18 0 rfl rfl)
theorem dX0_areAngles_426 : decode cX0_areAngles 426 = .ok (.iconst 2, 1) := dk_5 (dk_at dksX0_areAngles_18 3 rfl rfl)
theorem dX0_areAngles_427 : decode cX0_areAngles 427 = .ok (.invokevirtual 47, 3) := dk_182 0 47 (dk_at dksX0_areAngles_18 4 rfl rfl)
theorem dX0_areAngles_430 : decode cX0_areAngles 430 = .ok (.iload 7, 2) := dk_21 7 (dk_at dksX0_areAngles_18 7 rfl rfl)
theorem dX0_areAngles_432 : decode cX0_areAngles 432 = .ok (.if_icmp .ne 7, 3) := dk_160 0 7 (dk_at dksX0_areAngles_18 9 rfl rfl)
theorem dX0_areAngles_435 : decode cX0_areAngles 435 = .ok (.iconst 1, 1) := dk_4 (dk_at dksX0_areAngles_18 12 rfl rfl)
theorem dX0_areAngles_436 : decode cX0_areAngles 436 = .ok (.goto 4, 3) := dk_167 0 4 (dk_at dksX0_areAngles_18 13 rfl rfl)
theorem dX0_areAngles_439 : decode cX0_areAngles 439 = .ok (.iconst 0, 1) := dk_3 (dk_at dksX0_areAngles_18 16 rfl rfl)
theorem dX0_areAngles_440 : decode cX0_areAngles 440 = .ok (.istore 10, 2) := dk_54 10 (dk_at dksX0_areAngles_18 17 rfl rfl)
theorem dX0_areAngles_442 : decode cX0_areAngles 442 = .ok (.goto 44, 3) := dk_167 0 44 (dk_at dksX0_areAngles_18 19 rfl rfl)
theorem dX0_areAngles_445 : decode cX0_areAngles 445 = .ok (.iload 10, 2) := dk_21 10 (dk_at dksX0_areAngles_18 22 rfl rfl)
theorem dX0_areAngles_447 : decode cX0_areAngles 447 = .ok (.ifCond .eq 36, 3) := dk_153 0 36 (dk_at dksX0_areAngles_19 0 rfl rfl)
theorem dX0_areAngles_450 : decode cX0_areAngles 450 = .ok (.iload 11, 2) := dk_21 11 (dk_at dksX0_areAngles_19 3 rfl rfl)
theorem dX0_areAngles_452 : decode cX0_areAngles 452 = .ok (.bipush (-9), 2) := dk_16 247 (dk_at dksX0_areAngles_19 5 rfl rfl)
theorem dX0_areAngles_454 : decode cX0_areAngles 454 = .ok (.if_icmp .ne 29, 3) := dk_160 0 29 (dk_at dksX0_areAngles_19 7 rfl rfl)
theorem dX0_areAngles_457 : decode cX0_areAngles 457 = .ok (.iload 12, 2) := dk_21 12 (dk_at dksX0_areAngles_19 10 rfl rfl)
theorem dX0_areAngles_459 : decode cX0_areAngles 459 = .ok (.bipush (-9), 2) := dk_16 247 (dk_at dksX0_areAngles_19 12 rfl rfl)
theorem dX0_areAngles_461 : decode cX0_areAngles 461 = .ok (.if_icmp .ne 22, 3) := dk_160 0 22 (dk_at dksX0_areAngles_19 14 rfl rfl)
theorem dX0_areAngles_464 : decode cX0_areAngles 464 = .ok (.aload_n 0, 1) := dk_42 (dk_at dksX0_areAngles_19 17 rfl rfl)
theorem dX0_areAngles_465 : decode cX0_areAngles 465 = .ok (.getfield 10, 3) := dk_180 0 10 (dk_at dksX0_areAngles_19 18 rfl rfl)
theorem dX0_areAngles_468 : decode cX0_areAngles 468 = .ok (.iconst 2, 1) := dk_5 (dk_at dksX0_areAngles_19 21 rfl rfl)
theorem dX0_areAngles_469 : decode cX0_areAngles 469 = .ok (.invokevirtual 47, 3) := dk_182 0 47 (dk_at dksX0_areAngles_20 0 rfl rfl)
theorem dX0_areAngles_472 : decode cX0_areAngles 472 = .ok (.iload 7, 2) := dk_21 7 (dk_at dksX0_areAngles_20 3 rfl rfl)
theorem dX0_areAngles_474 : decode cX0_areAngles 474 = .ok (.iconst 2, 1) := dk_5 (dk_at dksX0_areAngles_20 5 rfl rfl)
theorem dX0_areAngles_475 : decode cX0_areAngles 475 = .ok (.iadd, 1) := dk_96 (dk_at dksX0_areAngles_20 6 rfl rfl)
theorem dX0_areAngles_476 : decode cX0_areAngles 476 = .ok (.if_icmp .ne 7, 3) := dk_160 0 7 (dk_at dksX0_areAngles_20 7 rfl rfl)
theorem dX0_areAngles_479 : decode cX0_areAngles 479 = .ok (.iconst 1, 1) := dk_4 (dk_at dksX0_areAngles_20 10 rfl rfl)
theorem dX0_areAngles_480 : decode cX0_areAngles 480 = .ok (.goto 4, 3) := dk_167 0 4 (dk_at dksX0_areAngles_20 11 rfl rfl)
theorem dX0_areAngles_483 : decode cX0_areAngles 483 = .ok (.iconst 0, 1) := dk_3 (dk_at dksX0_areAngles_20 14 rfl rfl)
theorem dX0_areAngles_484 : decode cX0_areAngles 484 = .ok (.istore 10, 2) := dk_54 10 (dk_at dksX0_areAngles_20 15 rfl rfl)
theorem dX0_areAngles_486 : decode cX0_areAngles 486 = .ok (.aload_n 0, 1) := dk_42 (dk_at dksX0_areAngles_20 17 rfl rfl)
theorem dX0_areAngles_487 : decode cX0_areAngles 487 = .ok (.getfield 10, 3) := dk_180 0 10 (dk_at dksX0_areAngles_20 18 rfl rfl)
theorem dX0_areAngles_490 : decode cX0_areAngles 490 = .ok (.iconst 0, 1) := dk_3 (dk_at dksX0_areAngles_20 21 rfl rfl)
theorem dX0_areAngles_491 : decode cX0_areAngles 491 = .ok (.bipush 6, 2) := dk_16 6 (dk_at dksX0_areAngles_20 22 rfl rfl)
theorem dX0_areAngles_493 : decode cX0_areAngles 493 = .ok (.invokevirtual 133, 3) := dk_182 0 133 (dk_at dksX0_areAngles_21 0 rfl rfl)
theorem dX0_areAngles_496 : decode cX0_areAngles 496 = .ok (.pop, 1) := dk_87 (dk_at dksX0_areAngles_21 3 rfl rfl)
theorem dX0_areAngles_497 : decode cX0_areAngles 497 = .ok (.aload_n 0, 1) := dk_42 (dk_at dksX0_areAngles_21 4 rfl rfl)
theorem dX0_areAngles_498 : decode cX0_areAngles 498 = .ok (.getfield 10, 3) := dk_180 0 10 (dk_at dksX0_areAngles_21 5 rfl rfl)
theorem dX0_areAngles_501 : decode cX0_areAngles 501 = .ok (.iconst 2, 1) := dk_5 (dk_at dksX0_areAngles_21 8 rfl rfl)
theorem dX0_areAngles_502 : decode cX0_areAngles 502 = .ok (.invokevirtual 47, 3) := dk_182 0 47 (dk_at dksX0_areAngles_21 9 rfl rfl)
theorem dX0_areAngles_505 : decode cX0_areAngles 505 = .ok (.istore 7, 2) := dk_54 7 (dk_at dksX0_areAngles_21 12 rfl rfl)
theorem dX0_areAngles_507 : decode cX0_areAngles 507 = .ok (.iload_n 1, 1) := dk_27 (dk_at dksX0_areAngles_21 14 rfl rfl)
theorem dX0_areAngles_508 : decode cX0_areAngles 508 = .ok (.bipush 16, 2) := dk_16 16 (dk_at dksX0_areAngles_21 15 rfl rfl)
theorem dX0_areAngles_510 : decode cX0_areAngles 510 = .ok (.iand, 1) := dk_126 (dk_at dksX0_areAngles_21 17 rfl rfl)
theorem dX0_areAngles_511 : decode cX0_areAngles 511 = .ok (.ifCond .eq 7, 3) := dk_153 0 7 (dk_at dksX0_areAngles_21 18 rfl rfl)
theorem dX0_areAngles_514 : decode cX0_areAngles 514 = .ok (.iconst 1, 1) := dk_4 (dk_at dksX0_areAngles_21 21 rfl rfl)
theorem dX0_areAngles_515 : decode cX0_areAngles 515 = .ok (.goto 4, 3) := dk_167 0 4 (dk_at dksX0_areAngles_22 0 rfl rfl)
theorem dX0_areAngles_518 : decode cX0_areAngles 518 = .ok (.iconst 0, 1) := dk_3 (dk_at dksX0_areAngles_22 3 rfl rfl)
theorem dX0_areAngles_519 : decode cX0_areAngles 519 = .ok (.istore 13, 2) := dk_54 13 (dk_at dksX0_areAngles_22 4 rfl rfl)
theorem dX0_areAngles_521 : decode cX0_areAngles 521 = .ok (.aload_n 0, 1) := dk_42 (dk_at dksX0_areAngles_22 6 rfl rfl)
theorem dX0_areAngles_522 : decode cX0_areAngles 522 = .ok (.getfield 10, 3) := dk_180 0 10 (dk_at dksX0_areAngles_22 7 rfl rfl)
theorem dX0_areAngles_525 : decode cX0_areAngles 525 = .ok (.bipush 6, 2) := dk_16 6 (dk_at dksX0_areAngles_22 10 rfl rfl)
theorem dX0_areAngles_527 : decode cX0_areAngles 527 = .ok (.iload 13, 2) := dk_21 13 (dk_at dksX0_areAngles_22 12 rfl rfl)
theorem dX0_areAngles_529 : decode cX0_areAngles 529 = .ok (.invokevirtual 152, 3) := dk_182 0 152 (dk_at dksX0_areAngles_22 14 rfl rfl)
theorem dX0_areAngles_532 : decode cX0_areAngles 532 = .ok (.istore 14, 2) := dk_54 14 (dk_at dksX0_areAngles_22 17 rfl rfl)
theorem dX0_areAngles_534 : decode cX0_areAngles 534 = .ok (.lload_n 3, 1) := dk_33 (dk_at dksX0_areAngles_22 19 rfl rfl)
theorem dX0_areAngles_535 : decode cX0_areAngles 535 = .ok (.iload 13, 2) := dk_21 13 (dk_at dksX0_areAngles_22 20 rfl rfl)
theorem dX0_areAngles_537 : decode cX0_areAngles 537 = .ok (.ifCond .eq 7, 3) := dk_153 0 7 (dk_at dksX0_areAngles_23 0 rfl rfl)
theorem dX0_areAngles_540 : decode cX0_areAngles 540 = .ok (.iconst (-1), 1) := dk_2 (dk_at dksX0_areAngles_23 3 rfl rfl)
theorem dX0_areAngles_541 : decode cX0_areAngles 541 = .ok (.goto 4, 3) := dk_167 0 4 (dk_at dksX0_areAngles_23 4 rfl rfl)
theorem dX0_areAngles_544 : decode cX0_areAngles 544 = .ok (.iconst 1, 1) := dk_4 (dk_at dksX0_areAngles_23 7 rfl rfl)
theorem dX0_areAngles_545 : decode cX0_areAngles 545 = .ok (.i2l, 1) := dk_133 (dk_at dksX0_areAngles_23 8 rfl rfl)
theorem dX0_areAngles_546 : decode cX0_areAngles 546 = .ok (.ladd, 1) := dk_97 (dk_at dksX0_areAngles_23 9 rfl rfl)
theorem dX0_areAngles_547 : decode cX0_areAngles 547 = .ok (.lstore 15, 2) := dk_55 15 (dk_at dksX0_areAngles_23 10 rfl rfl)
theorem dX0_areAngles_549 : decode cX0_areAngles 549 = .ok (.iload 10, 2) := dk_21 10 (dk_at dksX0_areAngles_23 12 rfl rfl)
theorem dX0_areAngles_551 : decode cX0_areAngles 551 = .ok (.ifCond .eq 142, 3) := dk_153 0 142 (dk_at dksX0_areAngles_23 14 rfl rfl)
theorem dX0_areAngles_554 : decode cX0_areAngles 554 = .ok (.lload_n 3, 1) := dk_33 (dk_at dksX0_areAngles_23 17 rfl rfl)
theorem dX0_areAngles_555 : decode cX0_areAngles 555 = .ok (.invokestatic 67, 3) := dk_184 0 67 (dk_at dksX0_areAngles_23 18 rfl rfl)
theorem dX0_areAngles_558 : decode cX0_areAngles 558 = .ok (.ldc2_w 71, 3) := dk_20 0 71 (dk_at dksX0_areAngles_23 21 rfl rfl)
theorem dX0_areAngles_561 : decode cX0_areAngles 561 = .ok (.lcmp, 1) := dk_148 (dk_at dksX0_areAngles_24 0 rfl rfl)
theorem dX0_areAngles_562 : decode cX0_areAngles 562 = .ok (.ifCond .gt 15, 3) := dk_157 0 15 (dk_at dksX0_areAngles_24 1 rfl rfl)
theorem dX0_areAngles_565 : decode cX0_areAngles 565 = .ok (.lload 15, 2) := dk_22 15 (dk_at dksX0_areAngles_24 4 rfl rfl)
theorem dX0_areAngles_567 : decode cX0_areAngles 567 = .ok (.invokestatic 67, 3) := dk_184 0 67 (dk_at dksX0_areAngles_24 6 rfl rfl)
theorem dX0_areAngles_570 : decode cX0_areAngles 570 = .ok (.ldc2_w 71, 3) := dk_20 0 71 (dk_at dksX0_areAngles_24 9 rfl rfl)
theorem dX0_areAngles_573 : decode cX0_areAngles 573 = .ok (.lcmp, 1) := dk_148 (dk_at dksX0_areAngles_24 12 rfl rfl)
theorem dX0_areAngles_574 : decode cX0_areAngles 574 = .ok (.ifCond .le 39, 3) := dk_158 0 39 (dk_at dksX0_areAngles_24 13 rfl rfl)
theorem dX0_areAngles_577 : decode cX0_areAngles 577 = .ok (.iload 14, 2) := dk_21 14 (dk_at dksX0_areAngles_24 16 rfl rfl)
theorem dX0_areAngles_579 : decode cX0_areAngles 579 = .ok (.bipush (-9), 2) := dk_16 247 (dk_at dksX0_areAngles_24 18 rfl rfl)
theorem dX0_areAngles_581 : decode cX0_areAngles 581 = .ok (.if_icmp .ne 112, 3) := dk_160 0 112 (dk_at dksX0_areAngles_24 20 rfl rfl)
theorem dX0_areAngles_584 : decode cX0_areAngles 584 = .ok (.aload_n 0, 1) := dk_42 (dk_at dksX0_areAngles_24 23 rfl rfl)
theorem dX0_areAngles_585 : decode cX0_areAngles 585 = .ok (.bipush 6, 2) := dk_16 6 (dk_at dksX0_areAngles_25 0 rfl rfl)
theorem dX0_areAngles_587 : decode cX0_areAngles 587 = .ok (.invokevirtual 89, 3) := dk_182 0 89 (dk_at dksX0_areAngles_25 2 rfl rfl)
theorem dX0_areAngles_590 : decode cX0_areAngles 590 = .ok (.lload_n 3, 1) := dk_33 (dk_at dksX0_areAngles_25 5 rfl rfl)
theorem dX0_areAngles_591 : decode cX0_areAngles 591 = .ok (.lcmp, 1) := dk_148 (dk_at dksX0_areAngles_25 6 rfl rfl)
theorem dX0_areAngles_592 : decode cX0_areAngles 592 = .ok (.ifCond .ne 101, 3) := dk_154 0 101 (dk_at dksX0_areAngles_25 7 rfl rfl)
theorem dX0_areAngles_595 : decode cX0_areAngles 595 = .ok (.aload_n 0, 1) := dk_42 (dk_at dksX0_areAngles_25 10 rfl rfl)
theorem dX0_areAngles_596 : decode cX0_areAngles 596 = .ok (.getfield 10, 3) := dk_180 0 10 (dk_at dksX0_areAngles_25 11 rfl rfl)
theorem dX0_areAngles_599 : decode cX0_areAngles 599 = .ok (.iconst 2, 1) := dk_5 (dk_at dksX0_areAngles_25 14 rfl rfl)
theorem dX0_areAngles_600 : decode cX0_areAngles 600 = .ok (.invokevirtual 47, 3) := dk_182 0 47 (dk_at dksX0_areAngles_25 15 rfl rfl)
theorem dX0_areAngles_603 : decode cX0_areAngles 603 = .ok (.iload 7, 2) := dk_21 7 (dk_at dksX0_areAngles_25 18 rfl rfl)
theorem dX0_areAngles_605 : decode cX0_areAngles 605 = .ok (.iconst 1, 1) := dk_4 (dk_at dksX0_areAngles_25 20 rfl rfl)
theorem dX0_areAngles_606 : decode cX0_areAngles 606 = .ok (.iadd, 1) := dk_96 (dk_at dksX0_areAngles_25 21 rfl rfl)
theorem dX0_areAngles_607 : decode cX0_areAngles 607 = .ok (.if_icmp .ne 86, 3) := dk_160 0 86 (dk_at dksX0_areAngles_26 0 rfl rfl)
theorem dX0_areAngles_610 : decode cX0_areAngles 610 = .ok (.goto 79, 3) := dk_167 0 79 (dk_at dksX0_areAngles_26 3 rfl rfl)
theorem dX0_areAngles_613 : decode cX0_areAngles 613 = .ok (.iload 14, 2) := dk_21 14 (dk_at dksX0_areAngles_26 6 rfl rfl)
theorem dX0_areAngles_615 : decode cX0_areAngles 615 = .ok (.iconst 1, 1) := dk_4 (dk_at dksX0_areAngles_26 8 rfl rfl)
theorem dX0_areAngles_616 : decode cX0_areAngles 616 = .ok (.if_icmp .ne 77, 3) := dk_160 0 77 (dk_at dksX0_areAngles_26 9 rfl rfl)
theorem dX0_areAngles_619 : decode cX0_areAngles 619 = .ok (.aload_n 0, 1) := dk_42 (dk_at dksX0_areAngles_26 12 rfl rfl)
theorem dX0_areAngles_620 : decode cX0_areAngles 620 = .ok (.bipush 6, 2) := dk_16 6 (dk_at dksX0_areAngles_26 13 rfl rfl)
theorem dX0_areAngles_622 : decode cX0_areAngles 622 = .ok (.invokevirtual 89, 3) := dk_182 0 89 (dk_at dksX0_areAngles_26 15 rfl rfl)
theorem dX0_areAngles_625 : decode cX0_areAngles 625 = .ok (.lload 15, 2) := dk_22 15 (dk_at dksX0_areAngles_26 18 rfl rfl)
theorem dX0_areAngles_627 : decode cX0_areAngles 627 = .ok (.lcmp, 1) := dk_148 (dk_at dksX0_areAngles_26 20 rfl rfl)
theorem dX0_areAngles_628 : decode cX0_areAngles 628 = .ok (.ifCond .ne 65, 3) := dk_154 0 65 (dk_at dksX0_areAngles_26 21 rfl rfl)
theorem dX0_areAngles_631 : decode cX0_areAngles 631 = .ok (.aload_n 0, 1) := dk_42 (dk_at dksX0_areAngles_27 0 rfl rfl)
theorem dX0_areAngles_632 : decode cX0_areAngles 632 = .ok (.getfield 10, 3) := dk_180 0 10 (dk_at dksX0_areAngles_27 1 rfl rfl)
theorem dX0_areAngles_635 : decode cX0_areAngles 635 = .ok (.iconst 0, 1) := dk_3 (dk_at dksX0_areAngles_27 4 rfl rfl)
theorem dX0_areAngles_636 : decode cX0_areAngles 636 = .ok (.bipush 6, 2) := dk_16 6 (dk_at dksX0_areAngles_27 5 rfl rfl)
theorem dX0_areAngles_638 : decode cX0_areAngles 638 = .ok (.iconst 0, 1) := dk_3 (dk_at dksX0_areAngles_27 7 rfl rfl)
theorem dX0_areAngles_639 : decode cX0_areAngles 639 = .ok (.invokevirtual 155, 3) := dk_182 0 155 (dk_at dksX0_areAngles_27 8 rfl rfl)
theorem dX0_areAngles_642 : decode cX0_areAngles 642 = .ok (.iload 13, 2) := dk_21 13 (dk_at dksX0_areAngles_27 11 rfl rfl)
theorem dX0_areAngles_644 : decode cX0_areAngles 644 = .ok (.ifCond .eq 7, 3) := dk_153 0 7 (dk_at dksX0_areAngles_27 13 rfl rfl)
theorem dX0_areAngles_647 : decode cX0_areAngles 647 = .ok (.iconst 1, 1) := dk_4 (dk_at dksX0_areAngles_27 16 rfl rfl)
theorem dX0_areAngles_648 : decode cX0_areAngles 648 = .ok (.goto 4, 3) := dk_167 0 4 (dk_at dksX0_areAngles_27 17 rfl rfl)
theorem dX0_areAngles_651 : decode cX0_areAngles 651 = .ok (.iconst (-1), 1) := dk_2 (dk_at dksX0_areAngles_27 20 rfl rfl)
theorem dX0_areAngles_652 : decode cX0_areAngles 652 = .ok (.if_icmp .ne 41, 3) := dk_160 0 41 (dk_at dksX0_areAngles_27 21 rfl rfl)
theorem dX0_areAngles_655 : decode cX0_areAngles 655 = .ok (.aload_n 0, 1) := dk_42 (dk_at dksX0_areAngles_28 0 rfl rfl)
theorem dX0_areAngles_656 : decode cX0_areAngles 656 = .ok (.getfield 10, 3) := dk_180 0 10 (dk_at dksX0_areAngles_28 1 rfl rfl)
theorem dX0_areAngles_659 : decode cX0_areAngles 659 = .ok (.bipush 6, 2) := dk_16 6 (dk_at dksX0_areAngles_28 4 rfl rfl)
theorem dX0_areAngles_661 : decode cX0_areAngles 661 = .ok (.iload 13, 2) := dk_21 13 (dk_at dksX0_areAngles_28 6 rfl rfl)
theorem dX0_areAngles_663 : decode cX0_areAngles 663 = .ok (.ifCond .ne 7, 3) := dk_154 0 7 (dk_at dksX0_areAngles_28 8 rfl rfl)
theorem dX0_areAngles_666 : decode cX0_areAngles 666 = .ok (.iconst 1, 1) := dk_4 (dk_at dksX0_areAngles_28 11 rfl rfl)
theorem dX0_areAngles_667 : decode cX0_areAngles 667 = .ok (.goto 4, 3) := dk_167 0 4 (dk_at dksX0_areAngles_28 12 rfl rfl)
theorem dX0_areAngles_670 : decode cX0_areAngles 670 = .ok (.iconst 0, 1) := dk_3 (dk_at dksX0_areAngles_28 15 rfl rfl)
theorem dX0_areAngles_671 : decode cX0_areAngles 671 = .ok (.invokevirtual 152, 3) := dk_182 0 152 (dk_at dksX0_areAngles_28 16 rfl rfl)
theorem dX0_areAngles_674 : decode cX0_areAngles 674 = .ok (.iconst 1, 1) := dk_4 (dk_at dksX0_areAngles_28 19 rfl rfl)
theorem dX0_areAngles_675 : decode cX0_areAngles 675 = .ok (.if_icmp .ne 18, 3) := dk_160 0 18 (dk_at dksX0_areAngles_28 20 rfl rfl)
theorem dX0_areAngles_678 : decode cX0_areAngles 678 = .ok (.aload_n 0, 1) := dk_42 (dk_at dksX0_areAngles_28 23 rfl rfl)
theorem dX0_areAngles_679 : decode cX0_areAngles 679 = .ok (.bipush 6, 2) := dk_16 6 (dk_at dksX0_areAngles_29 0 rfl rfl)
theorem dX0_areAngles_681 : decode cX0_areAngles 681 = .ok (.invokevirtual 89, 3) := dk_182 0 89 (dk_at dksX0_areAngles_29 2 rfl rfl)
theorem dX0_areAngles_684 : decode cX0_areAngles 684 = .ok (.lload_n 3, 1) := dk_33 (dk_at dksX0_areAngles_29 5 rfl rfl)
theorem dX0_areAngles_685 : decode cX0_areAngles 685 = .ok (.lcmp, 1) := dk_148 (dk_at dksX0_areAngles_29 6 rfl rfl)
theorem dX0_areAngles_686 : decode cX0_areAngles 686 = .ok (.ifCond .ne 7, 3) := dk_154 0 7 (dk_at dksX0_areAngles_29 7 rfl rfl)
theorem dX0_areAngles_689 : decode cX0_areAngles 689 = .ok (.iconst 1, 1) := dk_4 (dk_at dksX0_areAngles_29 10 rfl rfl)
theorem dX0_areAngles_690 : decode cX0_areAngles 690 = .ok (.goto 4, 3) := dk_167 0 4 (dk_at dksX0_areAngles_29 11 rfl rfl)
theorem dX0_areAngles_693 : decode cX0_areAngles 693 = .ok (.iconst 0, 1) := dk_3 (dk_at dksX0_areAngles_29 14 rfl rfl)
theorem dX0_areAngles_694 : decode cX0_areAngles 694 = .ok (.istore 10, 2) := dk_54 10 (dk_at dksX0_areAngles_29 15 rfl rfl)
theorem dX0_areAngles_696 : decode cX0_areAngles 696 = .ok (.aload_n 0, 1) := dk_42 (dk_at dksX0_areAngles_29 17 rfl rfl)
theorem dX0_areAngles_697 : decode cX0_areAngles 697 = .ok (.getfield 10, 3) := dk_180 0 10 (dk_at dksX0_areAngles_29 18 rfl rfl)
theorem dX0_areAngles_700 : decode cX0_areAngles 700 = .ok (.iconst 0, 1) := dk_3 (dk_at dksX0_areAngles_29 21 rfl rfl)
theorem dX0_areAngles_701 : decode cX0_areAngles 701 = .ok (.bipush 7, 2) := dk_16 7 (dk_at dksX0_areAngles_29 22 rfl rfl)
theorem dX0_areAngles_703 : decode cX0_areAngles 703 = .ok (.invokevirtual 133, 3) := dk_182 0 133 (dk_at dksX0_areAngles_30 0 rfl rfl)
theorem dX0_areAngles_706 : decode cX0_areAngles 706 = .ok (.pop, 1) := dk_87 (dk_at dksX0_areAngles_30 3 rfl rfl)
theorem dX0_areAngles_707 : decode cX0_areAngles 707 = .ok (.aload_n 0, 1) := dk_42 (dk_at dksX0_areAngles_30 4 rfl rfl)
theorem dX0_areAngles_708 : decode cX0_areAngles 708 = .ok (.getfield 10, 3) := dk_180 0 10 (dk_at dksX0_areAngles_30 5 rfl rfl)
theorem dX0_areAngles_711 : decode cX0_areAngles 711 = .ok (.bipush 7, 2) := dk_16 7 (dk_at dksX0_areAngles_30 8 rfl rfl)
theorem dX0_areAngles_713 : decode cX0_areAngles 713 = .ok (.invokevirtual 149, 3) := dk_182 0 149 (dk_at dksX0_areAngles_30 10 rfl rfl)
theorem dX0_areAngles_716 : decode cX0_areAngles 716 = .ok (.istore 17, 2) := dk_54 17 (dk_at dksX0_areAngles_30 13 rfl rfl)
theorem dX0_areAngles_718 : decode cX0_areAngles 718 = .ok (.aload_n 0, 1) := dk_42 (dk_at dksX0_areAngles_30 15 rfl rfl)
theorem dX0_areAngles_719 : decode cX0_areAngles 719 = .ok (.getfield 10, 3) := dk_180 0 10 (dk_at dksX0_areAngles_30 16 rfl rfl)
theorem dX0_areAngles_722 : decode cX0_areAngles 722 = .ok (.bipush 7, 2) := dk_16 7 (dk_at dksX0_areAngles_30 19 rfl rfl)
theorem dX0_areAngles_724 : decode cX0_areAngles 724 = .ok (.iconst 0, 1) := dk_3 (dk_at dksX0_areAngles_30 21 rfl rfl)
theorem dX0_areAngles_725 : decode cX0_areAngles 725 = .ok (.iconst 1, 1) := dk_4 (dk_at dksX0_areAngles_30 22 rfl rfl)
theorem dX0_areAngles_726 : decode cX0_areAngles 726 = .ok (.invokevirtual 155, 3) := dk_182 0 155 (dk_at dksX0_areAngles_31 0 rfl rfl)
theorem dX0_areAngles_729 : decode cX0_areAngles 729 = .ok (.istore 18, 2) := dk_54 18 (dk_at dksX0_areAngles_31 3 rfl rfl)
theorem dX0_areAngles_731 : decode cX0_areAngles 731 = .ok (.iload 10, 2) := dk_21 10 (dk_at dksX0_areAngles_31 5 rfl rfl)
theorem dX0_areAngles_733 : decode cX0_areAngles 733 = .ok (.ifCond .eq 122, 3) := dk_153 0 122 (dk_at dksX0_areAngles_31 7 rfl rfl)
theorem dX0_areAngles_736 : decode cX0_areAngles 736 = .ok (.iload 17, 2) := dk_21 17 (dk_at dksX0_areAngles_31 10 rfl rfl)
theorem dX0_areAngles_738 : decode cX0_areAngles 738 = .ok (.aload_n 0, 1) := dk_42 (dk_at dksX0_areAngles_31 12 rfl rfl)
theorem dX0_areAngles_739 : decode cX0_areAngles 739 = .ok (.getfield 10, 3) := dk_180 0 10 (dk_at dksX0_areAngles_31 13 rfl rfl)
theorem dX0_areAngles_742 : decode cX0_areAngles 742 = .ok (.iconst 0, 1) := dk_3 (dk_at dksX0_areAngles_31 16 rfl rfl)
theorem dX0_areAngles_743 : decode cX0_areAngles 743 = .ok (.invokevirtual 77, 3) := dk_182 0 77 (dk_at dksX0_areAngles_31 17 rfl rfl)
theorem dX0_areAngles_746 : decode cX0_areAngles 746 = .ok (.iconst 0, 1) := dk_3 (dk_at dksX0_areAngles_31 20 rfl rfl)
theorem dX0_areAngles_747 : decode cX0_areAngles 747 = .ok (.invokevirtual 158, 3) := dk_182 0 158 (dk_at dksX0_areAngles_31 21 rfl rfl)
theorem dX0_areAngles_750 : decode cX0_areAngles 750 = .ok (.bipush 48, 2) := dk_16 48 (dk_at dksX0_areAngles_32 0 rfl rfl)
theorem dX0_areAngles_752 : decode cX0_areAngles 752 = .ok (.if_icmp .ne 7, 3) := dk_160 0 7 (dk_at dksX0_areAngles_32 2 rfl rfl)
theorem dX0_areAngles_755 : decode cX0_areAngles 755 = .ok (.iconst 1, 1) := dk_4 (dk_at dksX0_areAngles_32 5 rfl rfl)
theorem dX0_areAngles_756 : decode cX0_areAngles 756 = .ok (.goto 4, 3) := dk_167 0 4 (dk_at dksX0_areAngles_32 6 rfl rfl)
theorem dX0_areAngles_759 : decode cX0_areAngles 759 = .ok (.iconst 0, 1) := dk_3 (dk_at dksX0_areAngles_32 9 rfl rfl)
theorem dX0_areAngles_760 : decode cX0_areAngles 760 = .ok (.if_icmp .ne 95, 3) := dk_160 0 95 (dk_at dksX0_areAngles_32 10 rfl rfl)
theorem dX0_areAngles_763 : decode cX0_areAngles 763 = .ok (.iload 18, 2) := dk_21 18 (dk_at dksX0_areAngles_32 13 rfl rfl)
theorem dX0_areAngles_765 : decode cX0_areAngles 765 = .ok (.iload 17, 2) := dk_21 17 (dk_at dksX0_areAngles_32 15 rfl rfl)
theorem dX0_areAngles_767 : decode cX0_areAngles 767 = .ok (.iconst 1, 1) := dk_4 (dk_at dksX0_areAngles_32 17 rfl rfl)
theorem dX0_areAngles_768 : decode cX0_areAngles 768 = .ok (.if_icmp .ne 7, 3) := dk_160 0 7 (dk_at dksX0_areAngles_32 18 rfl rfl)
theorem dX0_areAngles_771 : decode cX0_areAngles 771 = .ok (.iconst (-1), 1) := dk_2 (dk_at dksX0_areAngles_32 21 rfl rfl)
theorem dX0_areAngles_772 : decode cX0_areAngles 772 = .ok (.goto 4, 3) := dk_167 0 4 (dk_at dksX0_areAngles_33 0 rfl rfl)
theorem dX0_areAngles_775 : decode cX0_areAngles 775 = .ok (.iconst 1, 1) := dk_4 (dk_at dksX0_areAngles_33 3 rfl rfl)
theorem dX0_areAngles_776 : decode cX0_areAngles 776 = .ok (.if_icmp .ne 79, 3) := dk_160 0 79 (dk_at dksX0_areAngles_33 4 rfl rfl)
theorem dX0_areAngles_779 : decode cX0_areAngles 779 = .ok (.aload_n 0, 1) := dk_42 (dk_at dksX0_areAngles_33 7 rfl rfl)
theorem dX0_areAngles_780 : decode cX0_areAngles 780 = .ok (.getfield 10, 3) := dk_180 0 10 (dk_at dksX0_areAngles_33 8 rfl rfl)
theorem dX0_areAngles_783 : decode cX0_areAngles 783 = .ok (.bipush 7, 2) := dk_16 7 (dk_at dksX0_areAngles_33 11 rfl rfl)
theorem dX0_areAngles_785 : decode cX0_areAngles 785 = .ok (.invokevirtual 77, 3) := dk_182 0 77 (dk_at dksX0_areAngles_33 13 rfl rfl)
theorem dX0_areAngles_788 : decode cX0_areAngles 788 = .ok (.iconst 1, 1) := dk_4 (dk_at dksX0_areAngles_33 16 rfl rfl)
theorem dX0_areAngles_789 : decode cX0_areAngles 789 = .ok (.invokevirtual 23, 3) := dk_182 0 23 (dk_at dksX0_areAngles_33 17 rfl rfl)
theorem dX0_areAngles_792 : decode cX0_areAngles 792 = .ok (.aload_n 0, 1) := dk_42 (dk_at dksX0_areAngles_33 20 rfl rfl)
theorem dX0_areAngles_793 : decode cX0_areAngles 793 = .ok (.getfield 10, 3) := dk_180 0 10 (dk_at dksX0_areAngles_33 21 rfl rfl)
theorem dX0_areAngles_796 : decode cX0_areAngles 796 = .ok (.iconst 0, 1) := dk_3 (dk_at dksX0_areAngles_34 0 rfl rfl)
theorem dX0_areAngles_797 : decode cX0_areAngles 797 = .ok (.invokevirtual 77, 3) := dk_182 0 77 (dk_at dksX0_areAngles_34 1 rfl rfl)
theorem dX0_areAngles_800 : decode cX0_areAngles 800 = .ok (.iconst 1, 1) := dk_4 (dk_at dksX0_areAngles_34 4 rfl rfl)
theorem dX0_areAngles_801 : decode cX0_areAngles 801 = .ok (.invokevirtual 23, 3) := dk_182 0 23 (dk_at dksX0_areAngles_34 5 rfl rfl)
theorem dX0_areAngles_804 : decode cX0_areAngles 804 = .ok (.invokevirtual 125, 3) := dk_182 0 125 (dk_at dksX0_areAngles_34 8 rfl rfl)
theorem dX0_areAngles_807 : decode cX0_areAngles 807 = .ok (.ifCond .eq 48, 3) := dk_153 0 48 (dk_at dksX0_areAngles_34 11 rfl rfl)
theorem dX0_areAngles_810 : decode cX0_areAngles 810 = .ok (.aload_n 0, 1) := dk_42 (dk_at dksX0_areAngles_34 14 rfl rfl)
theorem dX0_areAngles_811 : decode cX0_areAngles 811 = .ok (.bipush 7, 2) := dk_16 7 (dk_at dksX0_areAngles_34 15 rfl rfl)
theorem dX0_areAngles_813 : decode cX0_areAngles 813 = .ok (.invokevirtual 89, 3) := dk_182 0 89 (dk_at dksX0_areAngles_34 17 rfl rfl)
theorem dX0_areAngles_816 : decode cX0_areAngles 816 = .ok (.lload_n 3, 1) := dk_33 (dk_at dksX0_areAngles_34 20 rfl rfl)
theorem dX0_areAngles_817 : decode cX0_areAngles 817 = .ok (.lneg, 1) := dk_117 (dk_at dksX0_areAngles_34 21 rfl rfl)
theorem dX0_areAngles_818 : decode cX0_areAngles 818 = .ok (.lcmp, 1) := dk_148 (dk_at dksX0_areAngles_34 22 rfl rfl)
theorem dX0_areAngles_819 : decode cX0_areAngles 819 = .ok (.ifCond .ne 36, 3) := dk_154 0 36 (dk_at dksX0_areAngles_35 0 rfl rfl)
theorem dX0_areAngles_822 : decode cX0_areAngles 822 = .ok (.aload_n 0, 1) := dk_42 (dk_at dksX0_areAngles_35 3 rfl rfl)
theorem dX0_areAngles_823 : decode cX0_areAngles 823 = .ok (.getfield 10, 3) := dk_180 0 10 (dk_at dksX0_areAngles_35 4 rfl rfl)
theorem dX0_areAngles_826 : decode cX0_areAngles 826 = .ok (.bipush 7, 2) := dk_16 7 (dk_at dksX0_areAngles_35 7 rfl rfl)
theorem dX0_areAngles_828 : decode cX0_areAngles 828 = .ok (.iconst 0, 1) := dk_3 (dk_at dksX0_areAngles_35 9 rfl rfl)
theorem dX0_areAngles_829 : decode cX0_areAngles 829 = .ok (.iconst 1, 1) := dk_4 (dk_at dksX0_areAngles_35 10 rfl rfl)
theorem dX0_areAngles_830 : decode cX0_areAngles 830 = .ok (.invokevirtual 122, 3) := dk_182 0 122 (dk_at dksX0_areAngles_35 11 rfl rfl)
theorem dX0_areAngles_833 : decode cX0_areAngles 833 = .ok (.ifCond .ne 22, 3) := dk_154 0 22 (dk_at dksX0_areAngles_35 14 rfl rfl)
theorem dX0_areAngles_836 : decode cX0_areAngles 836 = .ok (.aload_n 0, 1) := dk_42 (dk_at dksX0_areAngles_35 17 rfl rfl)
theorem dX0_areAngles_837 : decode cX0_areAngles 837 = .ok (.getfield 10, 3) := dk_180 0 10 (dk_at dksX0_areAngles_35 18 rfl rfl)
theorem dX0_areAngles_840 : decode cX0_areAngles 840 = .ok (.bipush 7, 2) := dk_16 7 (dk_at dksX0_areAngles_35 21 rfl rfl)
theorem dX0_areAngles_842 : decode cX0_areAngles 842 = .ok (.bipush 6, 2) := dk_16 6 (dk_at dksX0_areAngles_36 0 rfl rfl)
theorem dX0_areAngles_844 : decode cX0_areAngles 844 = .ok (.invokevirtual 133, 3) := dk_182 0 133 (dk_at dksX0_areAngles_36 2 rfl rfl)
theorem dX0_areAngles_847 : decode cX0_areAngles 847 = .ok (.iconst 1, 1) := dk_4 (dk_at dksX0_areAngles_36 5 rfl rfl)
theorem dX0_areAngles_848 : decode cX0_areAngles 848 = .ok (.if_icmp .ne 7, 3) := dk_160 0 7 (dk_at dksX0_areAngles_36 6 rfl rfl)
theorem dX0_areAngles_851 : decode cX0_areAngles 851 = .ok (.iconst 1, 1) := dk_4 (dk_at dksX0_areAngles_36 9 rfl rfl)
theorem dX0_areAngles_852 : decode cX0_areAngles 852 = .ok (.goto 4, 3) := dk_167 0 4 (dk_at dksX0_areAngles_36 10 rfl rfl)
theorem dX0_areAngles_855 : decode cX0_areAngles 855 = .ok (.iconst 0, 1) := dk_3 (dk_at dksX0_areAngles_36 13 rfl rfl)
theorem dX0_areAngles_856 : decode cX0_areAngles 856 = .ok (.istore 10, 2) := dk_54 10 (dk_at dksX0_areAngles_36 14 rfl rfl)
theorem dX0_areAngles_858 : decode cX0_areAngles 858 = .ok (.iload 10, 2) := dk_21 10 (dk_at dksX0_areAngles_36 16 rfl rfl)
theorem dX0_areAngles_860 : decode cX0_areAngles 860 = .ok (.ifCond .eq 122, 3) := dk_153 0 122 (dk_at dksX0_areAngles_36 18 rfl rfl)
theorem dX0_areAngles_863 : decode cX0_areAngles 863 = .ok (.aload_n 0, 1) := dk_42 (dk_at dksX0_areAngles_36 21 rfl rfl)
theorem dX0_areAngles_864 : decode cX0_areAngles 864 = .ok (.getfield 10, 3) := dk_180 0 10 (dk_at dksX0_areAngles_37 0 rfl rfl)
theorem dX0_areAngles_867 : decode cX0_areAngles 867 = .ok (.bipush 7, 2) := dk_16 7 (dk_at dksX0_areAngles_37 3 rfl rfl)
theorem dX0_areAngles_869 : decode cX0_areAngles 869 = .ok (.invokevirtual 149, 3) := dk_182 0 149 (dk_at dksX0_areAngles_37 5 rfl rfl)
theorem dX0_areAngles_872 : decode cX0_areAngles 872 = .ok (.iconst 1, 1) := dk_4 (dk_at dksX0_areAngles_37 8 rfl rfl)
theorem dX0_areAngles_873 : decode cX0_areAngles 873 = .ok (.iload 17, 2) := dk_21 17 (dk_at dksX0_areAngles_37 9 rfl rfl)
theorem dX0_areAngles_875 : decode cX0_areAngles 875 = .ok (.isub, 1) := dk_100 (dk_at dksX0_areAngles_37 11 rfl rfl)
theorem dX0_areAngles_876 : decode cX0_areAngles 876 = .ok (.if_icmp .ne 106, 3) := dk_160 0 106 (dk_at dksX0_areAngles_37 12 rfl rfl)
theorem dX0_areAngles_879 : decode cX0_areAngles 879 = .ok (.aload_n 0, 1) := dk_42 (dk_at dksX0_areAngles_37 15 rfl rfl)
theorem dX0_areAngles_880 : decode cX0_areAngles 880 = .ok (.getfield 10, 3) := dk_180 0 10 (dk_at dksX0_areAngles_37 16 rfl rfl)
theorem dX0_areAngles_883 : decode cX0_areAngles 883 = .ok (.bipush 7, 2) := dk_16 7 (dk_at dksX0_areAngles_37 19 rfl rfl)
theorem dX0_areAngles_885 : decode cX0_areAngles 885 = .ok (.iconst 0, 1) := dk_3 (dk_at dksX0_areAngles_37 21 rfl rfl)
theorem dX0_areAngles_886 : decode cX0_areAngles 886 = .ok (.iconst 2, 1) := dk_5 (dk_at dksX0_areAngles_37 22 rfl rfl)
theorem dX0_areAngles_887 : decode cX0_areAngles 887 = .ok (.invokevirtual 122, 3) := dk_182 0 122 (dk_at dksX0_areAngles_38 0 rfl rfl)
theorem dX0_areAngles_890 : decode cX0_areAngles 890 = .ok (.ifCond .eq 92, 3) := dk_153 0 92 (dk_at dksX0_areAngles_38 3 rfl rfl)
theorem dX0_areAngles_893 : decode cX0_areAngles 893 = .ok (.aload_n 0, 1) := dk_42 (dk_at dksX0_areAngles_38 6 rfl rfl)
theorem dX0_areAngles_894 : decode cX0_areAngles 894 = .ok (.getfield 10, 3) := dk_180 0 10 (dk_at dksX0_areAngles_38 7 rfl rfl)
theorem dX0_areAngles_897 : decode cX0_areAngles 897 = .ok (.iconst 0, 1) := dk_3 (dk_at dksX0_areAngles_38 10 rfl rfl)
theorem dX0_areAngles_898 : decode cX0_areAngles 898 = .ok (.iconst 1, 1) := dk_4 (dk_at dksX0_areAngles_38 11 rfl rfl)
theorem dX0_areAngles_899 : decode cX0_areAngles 899 = .ok (.iconst 1, 1) := dk_4 (dk_at dksX0_areAngles_38 12 rfl rfl)
theorem dX0_areAngles_900 : decode cX0_areAngles 900 = .ok (.invokevirtual 122, 3) := dk_182 0 122 (dk_at dksX0_areAngles_38 13 rfl rfl)
theorem dX0_areAngles_903 : decode cX0_areAngles 903 = .ok (.lload_n 3, 1) := dk_33 (dk_at dksX0_areAngles_38 16 rfl rfl)
theorem dX0_areAngles_904 : decode cX0_areAngles 904 = .ok (.lload 5, 2) := dk_22 5 (dk_at dksX0_areAngles_38 17 rfl rfl)
theorem dX0_areAngles_906 : decode cX0_areAngles 906 = .ok (.lcmp, 1) := dk_148 (dk_at dksX0_areAngles_38 19 rfl rfl)
theorem dX0_areAngles_907 : decode cX0_areAngles 907 = .ok (.ifCond .ne 7, 3) := dk_154 0 7 (dk_at dksX0_areAngles_38 20 rfl rfl)
theorem dX0_areAngles_910 : decode cX0_areAngles 910 = .ok (.iconst 1, 1) := dk_4 (dk_at dksX0_areAngles_38 23 rfl rfl)
theorem dX0_areAngles_911 : decode cX0_areAngles 911 = .ok (.goto 4, 3) := dk_167 0 4 (dk_at dksX0_areAngles_39 0 rfl rfl)
theorem dX0_areAngles_914 : decode cX0_areAngles 914 = .ok (.iconst 0, 1) := dk_3 (dk_at dksX0_areAngles_39 3 rfl rfl)
theorem dX0_areAngles_915 : decode cX0_areAngles 915 = .ok (.if_icmp .ne 67, 3) := dk_160 0 67 (dk_at dksX0_areAngles_39 4 rfl rfl)
theorem dX0_areAngles_918 : decode cX0_areAngles 918 = .ok (.aload_n 0, 1) := dk_42 (dk_at dksX0_areAngles_39 7 rfl rfl)
theorem dX0_areAngles_919 : decode cX0_areAngles 919 = .ok (.getfield 10, 3) := dk_180 0 10 (dk_at dksX0_areAngles_39 8 rfl rfl)
theorem dX0_areAngles_922 : decode cX0_areAngles 922 = .ok (.iconst 0, 1) := dk_3 (dk_at dksX0_areAngles_39 11 rfl rfl)
theorem dX0_areAngles_923 : decode cX0_areAngles 923 = .ok (.iconst 1, 1) := dk_4 (dk_at dksX0_areAngles_39 12 rfl rfl)
theorem dX0_areAngles_924 : decode cX0_areAngles 924 = .ok (.iconst 0, 1) := dk_3 (dk_at dksX0_areAngles_39 13 rfl rfl)
theorem dX0_areAngles_925 : decode cX0_areAngles 925 = .ok (.invokevirtual 155, 3) := dk_182 0 155 (dk_at dksX0_areAngles_39 14 rfl rfl)
theorem dX0_areAngles_928 : decode cX0_areAngles 928 = .ok (.aload_n 0, 1) := dk_42 (dk_at dksX0_areAngles_39 17 rfl rfl)
theorem dX0_areAngles_929 : decode cX0_areAngles 929 = .ok (.getfield 10, 3) := dk_180 0 10 (dk_at dksX0_areAngles_39 18 rfl rfl)
theorem dX0_areAngles_932 : decode cX0_areAngles 932 = .ok (.iconst 1, 1) := dk_4 (dk_at dksX0_areAngles_39 21 rfl rfl)
theorem dX0_areAngles_933 : decode cX0_areAngles 933 = .ok (.iconst 0, 1) := dk_3 (dk_at dksX0_areAngles_39 22 rfl rfl)
theorem dX0_areAngles_934 : decode cX0_areAngles 934 = .ok (.iconst 1, 1) := dk_4 (dk_at dksX0_areAngles_39 23 rfl rfl)
theorem dX0_areAngles_935 : decode cX0_areAngles 935 = .ok (.invokevirtual 155, 3) := dk_182 0 155 (dk_at dksX0_areAngles_40 0 rfl rfl)
theorem dX0_areAngles_938 : decode cX0_areAngles 938 = .ok (.ineg, 1) := dk_116 (dk_at dksX0_areAngles_40 3 rfl rfl)
theorem dX0_areAngles_939 : decode cX0_areAngles 939 = .ok (.if_icmp .ne 43, 3) := dk_160 0 43 (dk_at dksX0_areAngles_40 4 rfl rfl)
theorem dX0_areAngles_942 : decode cX0_areAngles 942 = .ok (.aload_n 0, 1) := dk_42 (dk_at dksX0_areAngles_40 7 rfl rfl)
theorem dX0_areAngles_943 : decode cX0_areAngles 943 = .ok (.getfield 10, 3) := dk_180 0 10 (dk_at dksX0_areAngles_40 8 rfl rfl)
theorem dX0_areAngles_946 : decode cX0_areAngles 946 = .ok (.iconst 0, 1) := dk_3 (dk_at dksX0_areAngles_40 11 rfl rfl)
theorem dX0_areAngles_947 : decode cX0_areAngles 947 = .ok (.iconst 1, 1) := dk_4 (dk_at dksX0_areAngles_40 12 rfl rfl)
theorem dX0_areAngles_948 : decode cX0_areAngles 948 = .ok (.iconst 0, 1) := dk_3 (dk_at dksX0_areAngles_40 13 rfl rfl)
theorem dX0_areAngles_949 : decode cX0_areAngles 949 = .ok (.invokevirtual 155, 3) := dk_182 0 155 (dk_at dksX0_areAngles_40 14 rfl rfl)
theorem dX0_areAngles_952 : decode cX0_areAngles 952 = .ok (.lload_n 3, 1) := dk_33 (dk_at dksX0_areAngles_40 17 rfl rfl)
theorem dX0_areAngles_953 : decode cX0_areAngles 953 = .ok (.lload 5, 2) := dk_22 5 (dk_at dksX0_areAngles_40 18 rfl rfl)
theorem dX0_areAngles_955 : decode cX0_areAngles 955 = .ok (.lcmp, 1) := dk_148 (dk_at dksX0_areAngles_40 20 rfl rfl)
theorem dX0_areAngles_956 : decode cX0_areAngles 956 = .ok (.ifCond .ge 7, 3) := dk_156 0 7 (dk_at dksX0_areAngles_40 21 rfl rfl)
theorem dX0_areAngles_959 : decode cX0_areAngles 959 = .ok (.iconst (-1), 1) := dk_2 (dk_at dksX0_areAngles_41 0 rfl rfl)
theorem dX0_areAngles_960 : decode cX0_areAngles 960 = .ok (.goto 15, 3) := dk_167 0 15 (dk_at dksX0_areAngles_41 1 rfl rfl)
theorem dX0_areAngles_963 : decode cX0_areAngles 963 = .ok (.lload_n 3, 1) := dk_33 (dk_at dksX0_areAngles_41 4 rfl rfl)
theorem dX0_areAngles_964 : decode cX0_areAngles 964 = .ok (.lload 5, 2) := dk_22 5 (dk_at dksX0_areAngles_41 5 rfl rfl)
theorem dX0_areAngles_966 : decode cX0_areAngles 966 = .ok (.lcmp, 1) := dk_148 (dk_at dksX0_areAngles_41 7 rfl rfl)
theorem dX0_areAngles_967 : decode cX0_areAngles 967 = .ok (.ifCond .le 7, 3) := dk_158 0 7 (dk_at dksX0_areAngles_41 8 rfl rfl)
theorem dX0_areAngles_970 : decode cX0_areAngles 970 = .ok (.iconst 1, 1) := dk_4 (dk_at dksX0_areAngles_41 11 rfl rfl)
theorem dX0_areAngles_971 : decode cX0_areAngles 971 = .ok (.goto 4, 3) := dk_167 0 4 (dk_at dksX0_areAngles_41 12 rfl rfl)
theorem dX0_areAngles_974 : decode cX0_areAngles 974 = .ok (.iconst 0, 1) := dk_3 (dk_at dksX0_areAngles_41 15 rfl rfl)
theorem dX0_areAngles_975 : decode cX0_areAngles 975 = .ok (.if_icmp .ne 7, 3) := dk_160 0 7 (dk_at dksX0_areAngles_41 16 rfl rfl)
theorem dX0_areAngles_978 : decode cX0_areAngles 978 = .ok (.iconst 1, 1) := dk_4 (dk_at dksX0_areAngles_41 19 rfl rfl)
theorem dX0_areAngles_979 : decode cX0_areAngles 979 = .ok (.goto 4, 3) := dk_167 0 4 (dk_at dksX0_areAngles_41 20 rfl rfl)
theorem dX0_areAngles_982 : decode cX0_areAngles 982 = .ok (.iconst 0, 1) := dk_3 (dk_at dksX0_areAngles_41 23 rfl rfl)
theorem dX0_areAngles_983 : decode cX0_areAngles 983 = .ok (.ireturn, 1) := dk_172 (dk_at dksX0_areAngles_42 0 rfl rfl)
abbrev cX0_puts : ByteArray := method_11_code
def yX0_puts : MethodName := ⟨RX0, "puts", "(II)Z"⟩
def dkwX0_puts_24 : List UInt8 := [25, 7, 182, 0, 125, 160, 0, 7, 4, 167, 0, 4, 3, 54, 6, 132, 12, 1, 167, 255, 141, 21, 6, 172]
abbrev dktX0_puts_24 : List UInt8 := dkwX0_puts_24 ++ []
def dkwX0_puts_23 : List UInt8 := [154, 0, 35, 42, 180, 0, 10, 21, 12, 27, 3, 182, 0, 122, 42, 180, 0, 10, 21, 12, 182, 0, 77]
abbrev dktX0_puts_23 : List UInt8 := dkwX0_puts_23 ++ dktX0_puts_24
def dkwX0_puts_22 : List UInt8 := [164, 0, 10, 21, 12, 21, 11, 161, 0, 20, 42, 180, 0, 10, 21, 12, 27, 21, 12, 6, 112, 182, 0, 122]
abbrev dktX0_puts_22 : List UInt8 := dkwX0_puts_22 ++ dktX0_puts_23
def dkwX0_puts_21 : List UInt8 := [180, 0, 10, 21, 12, 27, 21, 12, 6, 112, 182, 0, 122, 153, 0, 69, 167, 0, 34, 21, 12, 21, 10]
abbrev dktX0_puts_21 : List UInt8 := dkwX0_puts_21 ++ dktX0_puts_22
def dkwX0_puts_20 : List UInt8 := [162, 0, 114, 21, 6, 153, 0, 100, 21, 12, 21, 10, 159, 0, 10, 21, 12, 21, 11, 160, 0, 23, 42]
abbrev dktX0_puts_20 : List UInt8 := dkwX0_puts_20 ++ dktX0_puts_21
def dkwX0_puts_19 : List UInt8 := [182, 0, 118, 54, 10, 42, 180, 0, 10, 27, 4, 182, 0, 118, 54, 11, 3, 54, 12, 21, 12, 16, 8]
abbrev dktX0_puts_19 : List UInt8 := dkwX0_puts_19 ++ dktX0_puts_20
def dkwX0_puts_18 : List UInt8 := [20, 0, 116, 127, 9, 148, 154, 0, 7, 4, 167, 0, 4, 3, 54, 6, 42, 180, 0, 10, 27, 3]
abbrev dktX0_puts_18 : List UInt8 := dkwX0_puts_18 ++ dktX0_puts_19
def dkwX0_puts_17 : List UInt8 := [25, 7, 4, 184, 0, 80, 136, 16, 20, 120, 128, 22, 8, 16, 32, 123, 136, 128, 160, 0, 18, 22, 8]
abbrev dktX0_puts_17 : List UInt8 := dkwX0_puts_17 ++ dktX0_puts_18
def dkwX0_puts_16 : List UInt8 := [29, 6, 96, 160, 0, 57, 42, 180, 0, 10, 27, 182, 0, 113, 25, 7, 3, 184, 0, 80, 136, 16, 31, 120]
abbrev dktX0_puts_16 : List UInt8 := dkwX0_puts_16 ++ dktX0_puts_17
def dkwX0_puts_15 : List UInt8 := [21, 6, 153, 0, 82, 42, 27, 182, 0, 89, 22, 4, 148, 154, 0, 71, 42, 180, 0, 10, 3, 182, 0, 47]
abbrev dktX0_puts_15 : List UInt8 := dkwX0_puts_15 ++ dktX0_puts_16
def dkwX0_puts_14 : List UInt8 := [167, 0, 4, 3, 54, 6, 42, 180, 0, 10, 27, 182, 0, 77, 58, 7, 25, 7, 5, 184, 0, 80, 55, 8]
abbrev dktX0_puts_14 : List UInt8 := dkwX0_puts_14 ++ dktX0_puts_15
def dkwX0_puts_13 : List UInt8 := [27, 182, 0, 101, 2, 160, 0, 20, 42, 180, 0, 10, 27, 182, 0, 104, 21, 7, 160, 0, 7, 4]
abbrev dktX0_puts_13 : List UInt8 := dkwX0_puts_13 ++ dktX0_puts_14
def dkwX0_puts_12 : List UInt8 := [182, 0, 110, 4, 160, 0, 45, 42, 180, 0, 10, 27, 21, 7, 182, 0, 110, 154, 0, 32, 42, 180, 0, 10]
abbrev dktX0_puts_12 : List UInt8 := dkwX0_puts_12 ++ dktX0_puts_13
def dkwX0_puts_11 : List UInt8 := [18, 109, 100, 54, 7, 21, 7, 133, 55, 4, 21, 6, 153, 0, 59, 42, 180, 0, 10, 27, 21, 7]
abbrev dktX0_puts_11 : List UInt8 := dkwX0_puts_11 ++ dktX0_puts_12
def dkwX0_puts_10 : List UInt8 := [17, 0, 200, 167, 0, 5, 18, 108, 184, 0, 94, 28, 6, 126, 4, 160, 0, 8, 16, 100, 167, 0, 5]
abbrev dktX0_puts_10 : List UInt8 := dkwX0_puts_10 ++ dktX0_puts_11
def dkwX0_puts_9 : List UInt8 := [16, 33, 184, 0, 94, 16, 16, 100, 104, 167, 0, 39, 28, 6, 122, 28, 6, 126, 4, 160, 0, 9]
abbrev dktX0_puts_9 : List UInt8 := dkwX0_puts_9 ++ dktX0_puts_10
def dkwX0_puts_8 : List UInt8 := [167, 0, 4, 3, 54, 6, 167, 0, 137, 28, 16, 7, 126, 16, 7, 160, 0, 21, 17, 8, 0, 28, 6, 122]
abbrev dktX0_puts_8 : List UInt8 := dkwX0_puts_8 ++ dktX0_puts_9
def dkwX0_puts_7 : List UInt8 := [27, 182, 0, 101, 21, 8, 160, 0, 20, 42, 180, 0, 10, 27, 182, 0, 104, 18, 107, 160, 0, 7, 4]
abbrev dktX0_puts_7 : List UInt8 := dkwX0_puts_7 ++ dktX0_puts_8
def dkwX0_puts_6 : List UInt8 := [160, 0, 50, 42, 180, 0, 10, 27, 21, 7, 21, 8, 21, 9, 182, 0, 97, 154, 0, 33, 42, 180, 0, 10]
abbrev dktX0_puts_6 : List UInt8 := dkwX0_puts_6 ++ dktX0_puts_7
def dkwX0_puts_5 : List UInt8 := [27, 21, 7, 21, 8, 21, 9, 182, 0, 97, 22, 4, 20, 0, 92, 148, 154, 0, 7, 3, 167, 0, 4, 4]
abbrev dktX0_puts_5 : List UInt8 := dkwX0_puts_5 ++ dktX0_puts_6
def dkwX0_puts_4 : List UInt8 := [121, 21, 9, 153, 0, 7, 2, 167, 0, 4, 4, 133, 105, 55, 4, 21, 6, 153, 0, 81, 42, 180, 0, 10]
abbrev dktX0_puts_4 : List UInt8 := dkwX0_puts_4 ++ dktX0_puts_5
def dkwX0_puts_3 : List UInt8 := [96, 54, 8, 28, 16, 8, 126, 153, 0, 7, 4, 167, 0, 4, 3, 54, 9, 21, 7, 133, 21, 8, 6, 96]
abbrev dktX0_puts_3 : List UInt8 := dkwX0_puts_3 ++ dktX0_puts_4
def dkwX0_puts_2 : List UInt8 := [16, 33, 28, 7, 122, 16, 32, 184, 0, 94, 96, 54, 7, 16, 8, 28, 16, 10, 122, 16, 37, 184, 0, 94]
abbrev dktX0_puts_2 : List UInt8 := dkwX0_puts_2 ++ dktX0_puts_3
def dkwX0_puts_1 : List UInt8 := [182, 0, 89, 20, 0, 92, 148, 154, 0, 7, 4, 167, 0, 4, 3, 54, 6, 28, 16, 7, 126, 154, 0, 155]
abbrev dktX0_puts_1 : List UInt8 := dkwX0_puts_1 ++ dktX0_puts_2
def dkwX0_puts_0 : List UInt8 := [42, 180, 0, 10, 3, 182, 0, 47, 62, 42, 180, 0, 10, 27, 7, 182, 0, 86, 155, 0, 19, 42, 27]
abbrev dktX0_puts_0 : List UInt8 := dkwX0_puts_0 ++ dktX0_puts_1
theorem dksX0_puts_0 : cX0_puts.data.toList.drop 0 = dktX0_puts_0 := by decide +kernel
theorem dksX0_puts_1 : cX0_puts.data.toList.drop 23 = dktX0_puts_1 := dk_seg dksX0_puts_0 23 rfl rfl
theorem dksX0_puts_2 : cX0_puts.data.toList.drop 47 = dktX0_puts_2 := dk_seg dksX0_puts_1 24 rfl rfl
theorem dksX0_puts_3 : cX0_puts.data.toList.drop 71 = dktX0_puts_3 := dk_seg dksX0_puts_2 24 rfl rfl
theorem dksX0_puts_4 : cX0_puts.data.toList.drop 95 = dktX0_puts_4 := dk_seg dksX0_puts_3 24 rfl rfl
theorem dksX0_puts_5 : cX0_puts.data.toList.drop 119 = dktX0_puts_5 := dk_seg dksX0_puts_4 24 rfl rfl
theorem dksX0_puts_6 : cX0_puts.data.toList.drop 143 = dktX0_puts_6 := dk_seg dksX0_puts_5 24 rfl rfl
theorem dksX0_puts_7 : cX0_puts.data.toList.drop 167 = dktX0_puts_7 := dk_seg dksX0_puts_6 24 rfl rfl
theorem dksX0_puts_8 : cX0_puts.data.toList.drop 190 = dktX0_puts_8 := dk_seg dksX0_puts_7 23 rfl rfl
theorem dksX0_puts_9 : cX0_puts.data.toList.drop 214 = dktX0_puts_9 := dk_seg dksX0_puts_8 24 rfl rfl
theorem dksX0_puts_10 : cX0_puts.data.toList.drop 236 = dktX0_puts_10 := dk_seg dksX0_puts_9 22 rfl rfl
theorem dksX0_puts_11 : cX0_puts.data.toList.drop 259 = dktX0_puts_11 := dk_seg dksX0_puts_10 23 rfl rfl
theorem dksX0_puts_12 : cX0_puts.data.toList.drop 281 = dktX0_puts_12 := dk_seg dksX0_puts_11 22 rfl rfl
theorem dksX0_puts_13 : cX0_puts.data.toList.drop 305 = dktX0_puts_13 := dk_seg dksX0_puts_12 24 rfl rfl
theorem dksX0_puts_14 : cX0_puts.data.toList.drop 327 = dktX0_puts_14 := dk_seg dksX0_puts_13 22 rfl rfl
theorem dksX0_puts_15 : cX0_puts.data.toList.drop 351 = dktX0_puts_15 := dk_seg dksX0_puts_14 24 rfl rfl
theorem dksX0_puts_16 : cX0_puts.data.toList.drop 375 = dktX0_puts_16 := dk_seg dksX0_puts_15 24 rfl rfl
theorem dksX0_puts_17 : cX0_puts.data.toList.drop 399 = dktX0_puts_17 := dk_seg dksX0_puts_16 24 rfl rfl
theorem dksX0_puts_18 : cX0_puts.data.toList.drop 422 = dktX0_puts_18 := dk_seg dksX0_puts_17 23 rfl rfl
theorem dksX0_puts_19 : cX0_puts.data.toList.drop 444 = dktX0_puts_19 := dk_seg dksX0_puts_18 22 rfl rfl
theorem dksX0_puts_20 : cX0_puts.data.toList.drop 467 = dktX0_puts_20 := dk_seg dksX0_puts_19 23 rfl rfl
theorem dksX0_puts_21 : cX0_puts.data.toList.drop 490 = dktX0_puts_21 := dk_seg dksX0_puts_20 23 rfl rfl
theorem dksX0_puts_22 : cX0_puts.data.toList.drop 513 = dktX0_puts_22 := dk_seg dksX0_puts_21 23 rfl rfl
theorem dksX0_puts_23 : cX0_puts.data.toList.drop 537 = dktX0_puts_23 := dk_seg dksX0_puts_22 24 rfl rfl
theorem dksX0_puts_24 : cX0_puts.data.toList.drop 560 = dktX0_puts_24 := dk_seg dksX0_puts_23 23 rfl rfl
theorem dX0_puts_0 : decode cX0_puts 0 = .ok (.aload_n 0, 1) := dk_42 (dk_at dksX0_puts_0 0 rfl rfl)
theorem dX0_puts_1 : decode cX0_puts 1 = .ok (.getfield 10, 3) := dk_180 0 10 (dk_at dksX0_puts_0 1 rfl rfl)
theorem dX0_puts_4 : decode cX0_puts 4 = .ok (.iconst 0, 1) := dk_3 (dk_at dksX0_puts_0 4 rfl rfl)
theorem dX0_puts_5 : decode cX0_puts 5 = .ok (.invokevirtual 47, 3) := dk_182 0 47 (dk_at dksX0_puts_0 5 rfl rfl)
theorem dX0_puts_8 : decode cX0_puts 8 = .ok (.istore_n 3, 1) := dk_62 (dk_at dksX0_puts_0 8 rfl rfl)
theorem dX0_puts_9 : decode cX0_puts 9 = .ok (.aload_n 0, 1) := dk_42 (dk_at dksX0_puts_0 9 rfl rfl)
theorem dX0_puts_10 : decode cX0_puts 10 = .ok (.getfield 10, 3) := dk_180 0 10 (dk_at dksX0_puts_0 10 rfl rfl)
theorem dX0_puts_13 : decode cX0_puts 13 = .ok (.iload_n 1, 1) := dk_27 (dk_at dksX0_puts_0 13 rfl rfl)
theorem dX0_puts_14 : decode cX0_puts 14 = .ok (.iconst 4, 1) := dk_7 (dk_at dksX0_puts_0 14 rfl rfl)
theorem dX0_puts_15 : decode cX0_puts 15 = .ok (.invokevirtual 86, 3) := dk_182 0 86 (dk_at dksX0_puts_0 15 rfl rfl)
theorem dX0_puts_18 : decode cX0_puts 18 = .ok (.ifCond .lt 19, 3) := dk_155 0 19 (dk_at dksX0_puts_0 18 rfl rfl)
theorem dX0_puts_21 : decode cX0_puts 21 = .ok (.aload_n 0, 1) := dk_42 (dk_at dksX0_puts_0 21 rfl rfl)
theorem dX0_puts_22 : decode cX0_puts 22 = .ok (.iload_n 1, 1) := dk_27 (dk_at dksX0_puts_0 22 rfl rfl)
theorem dX0_puts_23 : decode cX0_puts 23 = .ok (.invokevirtual 89, 3) := dk_182 0 89 (dk_at dksX0_puts_1 0 rfl rfl)
theorem dX0_puts_26 : decode cX0_puts 26 = .ok (.ldc2_w 92, 3) := dk_20 0 92 (dk_at dksX0_puts_1 3 rfl rfl)
theorem dX0_puts_29 : decode cX0_puts 29 = .ok (.lcmp, 1) := dk_148 (dk_at dksX0_puts_1 6 rfl rfl)
theorem dX0_puts_30 : decode cX0_puts 30 = .ok (.ifCond .ne 7, 3) := dk_154 0 7 (dk_at dksX0_puts_1 7 rfl rfl)
theorem dX0_puts_33 : decode cX0_puts 33 = .ok (.iconst 1, 1) := dk_4 (dk_at dksX0_puts_1 10 rfl rfl)
theorem dX0_puts_34 : decode cX0_puts 34 = .ok (.goto 4, 3) := dk_167 0 4 (dk_at dksX0_puts_1 11 rfl rfl)
theorem dX0_puts_37 : decode cX0_puts 37 = .ok (.iconst 0, 1) := dk_3 (dk_at dksX0_puts_1 14 rfl rfl)
theorem dX0_puts_38 : decode cX0_puts 38 = .ok (.istore 6, 2) := dk_54 6 (dk_at dksX0_puts_1 15 rfl rfl)
theorem dX0_puts_40 : decode cX0_puts 40 = .ok (.iload_n 2, 1) := dk_28 (dk_at dksX0_puts_1 17 rfl rfl)
theorem dX0_puts_41 : decode cX0_puts 41 = .ok (.bipush 7, 2) := dk_16 7 (dk_at dksX0_puts_1 18 rfl rfl)
theorem dX0_puts_43 : decode cX0_puts 43 = .ok (.iand, 1) := dk_126 (dk_at dksX0_puts_1 20 rfl rfl)
theorem dX0_puts_44 : decode cX0_puts 44 = .ok (.ifCond .ne 155, 3) := dk_154 0 155 (dk_at dksX0_puts_1 21 rfl rfl)
theorem dX0_puts_47 : decode cX0_puts 47 = .ok (.bipush 33, 2) := dk_16 33 (dk_at dksX0_puts_2 0 rfl rfl)
theorem dX0_puts_49 : decode cX0_puts 49 = .ok (.iload_n 2, 1) := dk_28 (dk_at dksX0_puts_2 2 rfl rfl)
theorem dX0_puts_50 : decode cX0_puts 50 = .ok (.iconst 4, 1) := dk_7 (dk_at dksX0_puts_2 3 rfl rfl)
theorem dX0_puts_51 : decode cX0_puts 51 = .ok (.ishr, 1) := dk_122 (dk_at dksX0_puts_2 4 rfl rfl)
theorem dX0_puts_52 : decode cX0_puts 52 = .ok (.bipush 32, 2) := dk_16 32 (dk_at dksX0_puts_2 5 rfl rfl)
theorem dX0_puts_54 : decode cX0_puts 54 = .ok (.invokestatic 94, 3) := dk_184 0 94 (dk_at dksX0_puts_2 7 rfl rfl)
theorem dX0_puts_57 : decode cX0_puts 57 = .ok (.iadd, 1) := dk_96 (dk_at dksX0_puts_2 10 rfl rfl)
theorem dX0_puts_58 : decode cX0_puts 58 = .ok (.istore 7, 2) := dk_54 7 (dk_at dksX0_puts_2 11 rfl rfl)
theorem dX0_puts_60 : decode cX0_puts 60 = .ok (.bipush 8, 2) := dk_16 8 (dk_at dksX0_puts_2 13 rfl rfl)
theorem dX0_puts_62 : decode cX0_puts 62 = .ok (.iload_n 2, 1) := dk_28 (dk_at dksX0_puts_2 15 rfl rfl)
theorem dX0_puts_63 : decode cX0_puts 63 = .ok (.bipush 10, 2) := dk_16 10 (dk_at dksX0_puts_2 16 rfl rfl)
theorem dX0_puts_65 : decode cX0_puts 65 = .ok (.ishr, 1) := dk_122 (dk_at dksX0_puts_2 18 rfl rfl)
theorem dX0_puts_66 : decode cX0_puts 66 = .ok (.bipush 37, 2) := dk_16 37 (dk_at dksX0_puts_2 19 rfl rfl)
theorem dX0_puts_68 : decode cX0_puts 68 = .ok (.invokestatic 94, 3) := dk_184 0 94 (dk_at dksX0_puts_2 21 rfl rfl)
theorem dX0_puts_71 : decode cX0_puts 71 = .ok (.iadd, 1) := dk_96 (dk_at dksX0_puts_3 0 rfl rfl)
theorem dX0_puts_72 : decode cX0_puts 72 = .ok (.istore 8, 2) := dk_54 8 (dk_at dksX0_puts_3 1 rfl rfl)
theorem dX0_puts_74 : decode cX0_puts 74 = .ok (.iload_n 2, 1) := dk_28 (dk_at dksX0_puts_3 3 rfl rfl)
theorem dX0_puts_75 : decode cX0_puts 75 = .ok (.bipush 8, 2) := dk_16 8 (dk_at dksX0_puts_3 4 rfl rfl)
theorem dX0_puts_77 : decode cX0_puts 77 = .ok (.iand, 1) := dk_126 (dk_at dksX0_puts_3 6 rfl rfl)
theorem dX0_puts_78 : decode cX0_puts 78 = .ok (.ifCond .eq 7, 3) := dk_153 0 7 (dk_at dksX0_puts_3 7 rfl rfl)
theorem dX0_puts_81 : decode cX0_puts 81 = .ok (.iconst 1, 1) := dk_4 (dk_at dksX0_puts_3 10 rfl rfl)
theorem dX0_puts_82 : decode cX0_puts 82 = .ok (.goto 4, 3) := dk_167 0 4 (dk_at dksX0_puts_3 11 rfl rfl)
theorem dX0_puts_85 : decode cX0_puts 85 = .ok (.iconst 0, 1) := dk_3 (dk_at dksX0_puts_3 14 rfl rfl)
theorem dX0_puts_86 : decode cX0_puts 86 = .ok (.istore 9, 2) := dk_54 9 (dk_at dksX0_puts_3 15 rfl rfl)
theorem dX0_puts_88 : decode cX0_puts 88 = .ok (.iload 7, 2) := dk_21 7 (dk_at dksX0_puts_3 17 rfl rfl)
theorem dX0_puts_90 : decode cX0_puts 90 = .ok (.i2l, 1) := dk_133 (dk_at dksX0_puts_3 19 rfl rfl)
theorem dX0_puts_91 : decode cX0_puts 91 = .ok (.iload 8, 2) := dk_21 8 (dk_at dksX0_puts_3 20 rfl rfl)
theorem dX0_puts_93 : decode cX0_puts 93 = .ok (.iconst 3, 1) := dk_6 (dk_at dksX0_puts_3 22 rfl rfl)
theorem dX0_puts_94 : decode cX0_puts 94 = .ok (.iadd, 1) := dk_96 (dk_at dksX0_puts_3 23 rfl rfl)
theorem dX0_puts_95 : decode cX0_puts 95 = .ok (.lshl, 1) := dk_121 (dk_at dksX0_puts_4 0 rfl rfl)
theorem dX0_puts_96 : decode cX0_puts 96 = .ok (.iload 9, 2) := dk_21 9 (dk_at dksX0_puts_4 1 rfl rfl)
theorem dX0_puts_98 : decode cX0_puts 98 = .ok (.ifCond .eq 7, 3) := dk_153 0 7 (dk_at dksX0_puts_4 3 rfl rfl)
theorem dX0_puts_101 : decode cX0_puts 101 = .ok (.iconst (-1), 1) := dk_2 (dk_at dksX0_puts_4 6 rfl rfl)
theorem dX0_puts_102 : decode cX0_puts 102 = .ok (.goto 4, 3) := dk_167 0 4 (dk_at dksX0_puts_4 7 rfl rfl)
theorem dX0_puts_105 : decode cX0_puts 105 = .ok (.iconst 1, 1) := dk_4 (dk_at dksX0_puts_4 10 rfl rfl)
theorem dX0_puts_106 : decode cX0_puts 106 = .ok (.i2l, 1) := dk_133 (dk_at dksX0_puts_4 11 rfl rfl)
theorem dX0_puts_107 : decode cX0_puts 107 = .ok (.lmul, 1) := dk_105 (dk_at dksX0_puts_4 12 rfl rfl)
theorem dX0_puts_108 : decode cX0_puts 108 = .ok (.lstore 4, 2) := dk_55 4 (dk_at dksX0_puts_4 13 rfl rfl)
theorem dX0_puts_110 : decode cX0_puts 110 = .ok (.iload 6, 2) := dk_21 6 (dk_at dksX0_puts_4 15 rfl rfl)
theorem dX0_puts_112 : decode cX0_puts 112 = .ok (.ifCond .eq 81, 3) := dk_153 0 81 (dk_at dksX0_puts_4 17 rfl rfl)
theorem dX0_puts_115 : decode cX0_puts 115 = .ok (.aload_n 0, 1) := dk_42 (dk_at dksX0_puts_4 20 rfl rfl)
theorem dX0_puts_116 : decode cX0_puts 116 = .ok (.getfield 10, 3) := dk_180 0 10 (dk_at dksX0_puts_4 21 rfl rfl)
theorem dX0_puts_119 : decode cX0_puts 119 = .ok (.iload_n 1, 1) := dk_27 (dk_at dksX0_puts_5 0 rfl rfl)
theorem dX0_puts_120 : decode cX0_puts 120 = .ok (.iload 7, 2) := dk_21 7 (dk_at dksX0_puts_5 1 rfl rfl)
theorem dX0_puts_122 : decode cX0_puts 122 = .ok (.iload 8, 2) := dk_21 8 (dk_at dksX0_puts_5 3 rfl rfl)
theorem dX0_puts_124 : decode cX0_puts 124 = .ok (.iload 9, 2) := dk_21 9 (dk_at dksX0_puts_5 5 rfl rfl)
theorem dX0_puts_126 : decode cX0_puts 126 = .ok (.invokevirtual 97, 3) := dk_182 0 97 (dk_at dksX0_puts_5 7 rfl rfl)
theorem dX0_puts_129 : decode cX0_puts 129 = .ok (.lload 4, 2) := dk_22 4 (dk_at dksX0_puts_5 10 rfl rfl)
theorem dX0_puts_131 : decode cX0_puts 131 = .ok (.ldc2_w 92, 3) := dk_20 0 92 (dk_at dksX0_puts_5 12 rfl rfl)
theorem dX0_puts_134 : decode cX0_puts 134 = .ok (.lcmp, 1) := dk_148 (dk_at dksX0_puts_5 15 rfl rfl)
theorem dX0_puts_135 : decode cX0_puts 135 = .ok (.ifCond .ne 7, 3) := dk_154 0 7 (dk_at dksX0_puts_5 16 rfl rfl)
theorem dX0_puts_138 : decode cX0_puts 138 = .ok (.iconst 0, 1) := dk_3 (dk_at dksX0_puts_5 19 rfl rfl)
theorem dX0_puts_139 : decode cX0_puts 139 = .ok (.goto 4, 3) := dk_167 0 4 (dk_at dksX0_puts_5 20 rfl rfl)
theorem dX0_puts_142 : decode cX0_puts 142 = .ok (.iconst 1, 1) := dk_4 (dk_at dksX0_puts_5 23 rfl rfl)
theorem dX0_puts_143 : decode cX0_puts 143 = .ok (.if_icmp .ne 50, 3) := dk_160 0 50 (dk_at dksX0_puts_6 0 rfl rfl)
theorem dX0_puts_146 : decode cX0_puts 146 = .ok (.aload_n 0, 1) := dk_42 (dk_at dksX0_puts_6 3 rfl rfl)
theorem dX0_puts_147 : decode cX0_puts 147 = .ok (.getfield 10, 3) := dk_180 0 10 (dk_at dksX0_puts_6 4 rfl rfl)
theorem dX0_puts_150 : decode cX0_puts 150 = .ok (.iload_n 1, 1) := dk_27 (dk_at dksX0_puts_6 7 rfl rfl)
theorem dX0_puts_151 : decode cX0_puts 151 = .ok (.iload 7, 2) := dk_21 7 (dk_at dksX0_puts_6 8 rfl rfl)
theorem dX0_puts_153 : decode cX0_puts 153 = .ok (.iload 8, 2) := dk_21 8 (dk_at dksX0_puts_6 10 rfl rfl)
theorem dX0_puts_155 : decode cX0_puts 155 = .ok (.iload 9, 2) := dk_21 9 (dk_at dksX0_puts_6 12 rfl rfl)
theorem dX0_puts_157 : decode cX0_puts 157 = .ok (.invokevirtual 97, 3) := dk_182 0 97 (dk_at dksX0_puts_6 14 rfl rfl)
theorem dX0_puts_160 : decode cX0_puts 160 = .ok (.ifCond .ne 33, 3) := dk_154 0 33 (dk_at dksX0_puts_6 17 rfl rfl)
theorem dX0_puts_163 : decode cX0_puts 163 = .ok (.aload_n 0, 1) := dk_42 (dk_at dksX0_puts_6 20 rfl rfl)
theorem dX0_puts_164 : decode cX0_puts 164 = .ok (.getfield 10, 3) := dk_180 0 10 (dk_at dksX0_puts_6 21 rfl rfl)
theorem dX0_puts_167 : decode cX0_puts 167 = .ok (.iload_n 1, 1) := dk_27 (dk_at dksX0_puts_7 0 rfl rfl)
theorem dX0_puts_168 : decode cX0_puts 168 = .ok (.invokevirtual 101, 3) := dk_182 0 101 (dk_at dksX0_puts_7 1 rfl rfl)
theorem dX0_puts_171 : decode cX0_puts 171 = .ok (.iload 8, 2) := dk_21 8 (dk_at dksX0_puts_7 4 rfl rfl)
theorem dX0_puts_173 : decode cX0_puts 173 = .ok (.if_icmp .ne 20, 3) := dk_160 0 20 (dk_at dksX0_puts_7 6 rfl rfl)
theorem dX0_puts_176 : decode cX0_puts 176 = .ok (.aload_n 0, 1) := dk_42 (dk_at dksX0_puts_7 9 rfl rfl)
theorem dX0_puts_177 : decode cX0_puts 177 = .ok (.getfield 10, 3) := dk_180 0 10 (dk_at dksX0_puts_7 10 rfl rfl)
theorem dX0_puts_180 : decode cX0_puts 180 = .ok (.iload_n 1, 1) := dk_27 (dk_at dksX0_puts_7 13 rfl rfl)
theorem dX0_puts_181 : decode cX0_puts 181 = .ok (.invokevirtual 104, 3) := dk_182 0 104 (dk_at dksX0_puts_7 14 rfl rfl)
theorem dX0_puts_184 : decode cX0_puts 184 = .ok (.ldc 107, 2) := dk_18 107 (dk_at dksX0_puts_7 17 rfl rfl)
theorem dX0_puts_186 : decode cX0_puts 186 = .ok (.if_icmp .ne 7, 3) := dk_160 0 7 (dk_at dksX0_puts_7 19 rfl rfl)
theorem dX0_puts_189 : decode cX0_puts 189 = .ok (.iconst 1, 1) := dk_4 (dk_at dksX0_puts_7 22 rfl rfl)
theorem dX0_puts_190 : decode cX0_puts 190 = .ok (.goto 4, 3) := dk_167 0 4 (dk_at dksX0_puts_8 0 rfl rfl)
theorem dX0_puts_193 : decode cX0_puts 193 = .ok (.iconst 0, 1) := dk_3 (dk_at dksX0_puts_8 3 rfl rfl)
theorem dX0_puts_194 : decode cX0_puts 194 = .ok (.istore 6, 2) := dk_54 6 (dk_at dksX0_puts_8 4 rfl rfl)
theorem dX0_puts_196 : decode cX0_puts 196 = .ok (.goto 137, 3) := dk_167 0 137 (dk_at dksX0_puts_8 6 rfl rfl)
theorem dX0_puts_199 : decode cX0_puts 199 = .ok (.iload_n 2, 1) := dk_28 (dk_at dksX0_puts_8 9 rfl rfl)
theorem dX0_puts_200 : decode cX0_puts 200 = .ok (.bipush 7, 2) := dk_16 7 (dk_at dksX0_puts_8 10 rfl rfl)
theorem dX0_puts_202 : decode cX0_puts 202 = .ok (.iand, 1) := dk_126 (dk_at dksX0_puts_8 12 rfl rfl)
theorem dX0_puts_203 : decode cX0_puts 203 = .ok (.bipush 7, 2) := dk_16 7 (dk_at dksX0_puts_8 13 rfl rfl)
theorem dX0_puts_205 : decode cX0_puts 205 = .ok (.if_icmp .ne 21, 3) := dk_160 0 21 (dk_at dksX0_puts_8 15 rfl rfl)
theorem dX0_puts_208 : decode cX0_puts 208 = .ok (.sipush 2048, 3) := dk_17 8 0 (dk_at dksX0_puts_8 18 rfl rfl)
theorem dX0_puts_211 : decode cX0_puts 211 = .ok (.iload_n 2, 1) := dk_28 (dk_at dksX0_puts_8 21 rfl rfl)
theorem dX0_puts_212 : decode cX0_puts 212 = .ok (.iconst 3, 1) := dk_6 (dk_at dksX0_puts_8 22 rfl rfl)
theorem dX0_puts_213 : decode cX0_puts 213 = .ok (.ishr, 1) := dk_122 (dk_at dksX0_puts_8 23 rfl rfl)
theorem dX0_puts_214 : decode cX0_puts 214 = .ok (.bipush 33, 2) := dk_16 33 (dk_at dksX0_puts_9 0 rfl rfl)
theorem dX0_puts_216 : decode cX0_puts 216 = .ok (.invokestatic 94, 3) := dk_184 0 94 (dk_at dksX0_puts_9 2 rfl rfl)
theorem dX0_puts_219 : decode cX0_puts 219 = .ok (.bipush 16, 2) := dk_16 16 (dk_at dksX0_puts_9 5 rfl rfl)
theorem dX0_puts_221 : decode cX0_puts 221 = .ok (.isub, 1) := dk_100 (dk_at dksX0_puts_9 7 rfl rfl)
theorem dX0_puts_222 : decode cX0_puts 222 = .ok (.imul, 1) := dk_104 (dk_at dksX0_puts_9 8 rfl rfl)
theorem dX0_puts_223 : decode cX0_puts 223 = .ok (.goto 39, 3) := dk_167 0 39 (dk_at dksX0_puts_9 9 rfl rfl)
theorem dX0_puts_226 : decode cX0_puts 226 = .ok (.iload_n 2, 1) := dk_28 (dk_at dksX0_puts_9 12 rfl rfl)
theorem dX0_puts_227 : decode cX0_puts 227 = .ok (.iconst 3, 1) := dk_6 (dk_at dksX0_puts_9 13 rfl rfl)
theorem dX0_puts_228 : decode cX0_puts 228 = .ok (.ishr, 1) := dk_122 (dk_at dksX0_puts_9 14 rfl rfl)
theorem dX0_puts_229 : decode cX0_puts 229 = .ok (.iload_n 2, 1) := dk_28 (dk_at dksX0_puts_9 15 rfl rfl)
theorem dX0_puts_230 : decode cX0_puts 230 = .ok (.iconst 3, 1) := dk_6 (dk_at dksX0_puts_9 16 rfl rfl)
theorem dX0_puts_231 : decode cX0_puts 231 = .ok (.iand, 1) := dk_126 (dk_at dksX0_puts_9 17 rfl rfl)
theorem dX0_puts_232 : decode cX0_puts 232 = .ok (.iconst 1, 1) := dk_4 (dk_at dksX0_puts_9 18 rfl rfl)
theorem dX0_puts_233 : decode cX0_puts 233 = .ok (.if_icmp .ne 9, 3) := dk_160 0 9 (dk_at dksX0_puts_9 19 rfl rfl)
theorem dX0_puts_236 : decode cX0_puts 236 = .ok (.sipush 200, 3) := dk_17 0 200 (dk_at dksX0_puts_10 0 rfl rfl)
theorem dX0_puts_239 : decode cX0_puts 239 = .ok (.goto 5, 3) := dk_167 0 5 (dk_at dksX0_puts_10 3 rfl rfl)
theorem dX0_puts_242 : decode cX0_puts 242 = .ok (.ldc 108, 2) := dk_18 108 (dk_at dksX0_puts_10 6 rfl rfl)
theorem dX0_puts_244 : decode cX0_puts 244 = .ok (.invokestatic 94, 3) := dk_184 0 94 (dk_at dksX0_puts_10 8 rfl rfl)
theorem dX0_puts_247 : decode cX0_puts 247 = .ok (.iload_n 2, 1) := dk_28 (dk_at dksX0_puts_10 11 rfl rfl)
theorem dX0_puts_248 : decode cX0_puts 248 = .ok (.iconst 3, 1) := dk_6 (dk_at dksX0_puts_10 12 rfl rfl)
theorem dX0_puts_249 : decode cX0_puts 249 = .ok (.iand, 1) := dk_126 (dk_at dksX0_puts_10 13 rfl rfl)
theorem dX0_puts_250 : decode cX0_puts 250 = .ok (.iconst 1, 1) := dk_4 (dk_at dksX0_puts_10 14 rfl rfl)
theorem dX0_puts_251 : decode cX0_puts 251 = .ok (.if_icmp .ne 8, 3) := dk_160 0 8 (dk_at dksX0_puts_10 15 rfl rfl)
theorem dX0_puts_254 : decode cX0_puts 254 = .ok (.bipush 100, 2) := dk_16 100 (dk_at dksX0_puts_10 18 rfl rfl)
theorem dX0_puts_256 : decode cX0_puts 256 = .ok (.goto 5, 3) := dk_167 0 5 (dk_at dksX0_puts_10 20 rfl rfl)
theorem dX0_puts_259 : decode cX0_puts 259 = .ok (.ldc 109, 2) := dk_18 109 (dk_at dksX0_puts_11 0 rfl rfl)
theorem dX0_puts_261 : decode cX0_puts 261 = .ok (.isub, 1) := dk_100 (dk_at dksX0_puts_11 2 rfl rfl)
theorem dX0_puts_262 : decode cX0_puts 262 = .ok (.istore 7, 2) := dk_54 7 (dk_at dksX0_puts_11 3 rfl rfl)
theorem dX0_puts_264 : decode cX0_puts 264 = .ok (.iload 7, 2) := dk_21 7 (dk_at dksX0_puts_11 5 rfl rfl)
theorem dX0_puts_266 : decode cX0_puts 266 = .ok (.i2l, 1) := dk_133 (dk_at dksX0_puts_11 7 rfl rfl)
theorem dX0_puts_267 : decode cX0_puts 267 = .ok (.lstore 4, 2) := dk_55 4 (dk_at dksX0_puts_11 8 rfl rfl)
theorem dX0_puts_269 : decode cX0_puts 269 = .ok (.iload 6, 2) := dk_21 6 (dk_at dksX0_puts_11 10 rfl rfl)
theorem dX0_puts_271 : decode cX0_puts 271 = .ok (.ifCond .eq 59, 3) := dk_153 0 59 (dk_at dksX0_puts_11 12 rfl rfl)
theorem dX0_puts_274 : decode cX0_puts 274 = .ok (.aload_n 0, 1) := dk_42 (dk_at dksX0_puts_11 15 rfl rfl)
theorem dX0_puts_275 : decode cX0_puts 275 = .ok (.getfield 10, 3) := dk_180 0 10 (dk_at dksX0_puts_11 16 rfl rfl)
theorem dX0_puts_278 : decode cX0_puts 278 = .ok (.iload_n 1, 1) := dk_27 (dk_at dksX0_puts_11 19 rfl rfl)
theorem dX0_puts_279 : decode cX0_puts 279 = .ok (.iload 7, 2) := dk_21 7 (dk_at dksX0_puts_11 20 rfl rfl)
theorem dX0_puts_281 : decode cX0_puts 281 = .ok (.invokevirtual 110, 3) := dk_182 0 110 (dk_at dksX0_puts_12 0 rfl rfl)
theorem dX0_puts_284 : decode cX0_puts 284 = .ok (.iconst 1, 1) := dk_4 (dk_at dksX0_puts_12 3 rfl rfl)
theorem dX0_puts_285 : decode cX0_puts 285 = .ok (.if_icmp .ne 45, 3) := dk_160 0 45 (dk_at dksX0_puts_12 4 rfl rfl)
theorem dX0_puts_288 : decode cX0_puts 288 = .ok (.aload_n 0, 1) := dk_42 (dk_at dksX0_puts_12 7 rfl rfl)
theorem dX0_puts_289 : decode cX0_puts 289 = .ok (.getfield 10, 3) := dk_180 0 10 (dk_at dksX0_puts_12 8 rfl rfl)
theorem dX0_puts_292 : decode cX0_puts 292 = .ok (.iload_n 1, 1) := dk_27 (dk_at dksX0_puts_12 11 rfl rfl)
theorem dX0_puts_293 : decode cX0_puts 293 = .ok (.iload 7, 2) := dk_21 7 (dk_at dksX0_puts_12 12 rfl rfl)
theorem dX0_puts_295 : decode cX0_puts 295 = .ok (.invokevirtual 110, 3) := dk_182 0 110 (dk_at dksX0_puts_12 14 rfl rfl)
theorem dX0_puts_298 : decode cX0_puts 298 = .ok (.ifCond .ne 32, 3) := dk_154 0 32 (dk_at dksX0_puts_12 17 rfl rfl)
theorem dX0_puts_301 : decode cX0_puts 301 = .ok (.aload_n 0, 1) := dk_42 (dk_at dksX0_puts_12 20 rfl rfl)
theorem dX0_puts_302 : decode cX0_puts 302 = .ok (.getfield 10, 3) := dk_180 0 10 (dk_at dksX0_puts_12 21 rfl rfl)
theorem dX0_puts_305 : decode cX0_puts 305 = .ok (.iload_n 1, 1) := dk_27 (dk_at dksX0_puts_13 0 rfl rfl)
theorem dX0_puts_306 : decode cX0_puts 306 = .ok (.invokevirtual 101, 3) := dk_182 0 101 (dk_at dksX0_puts_13 1 rfl rfl)
theorem dX0_puts_309 : decode cX0_puts 309 = .ok (.iconst (-1), 1) := dk_2 (dk_at dksX0_puts_13 4 rfl rfl)
theorem dX0_puts_310 : decode cX0_puts 310 = .ok (.if_icmp .ne 20, 3) := dk_160 0 20 (dk_at dksX0_puts_13 5 rfl rfl)
theorem dX0_puts_313 : decode cX0_puts 313 = .ok (.aload_n 0, 1) := dk_42 (dk_at dksX0_puts_13 8 rfl rfl)
theorem dX0_puts_314 : decode cX0_puts 314 = .ok (.getfield 10, 3) := dk_180 0 10 (dk_at dksX0_puts_13 9 rfl rfl)
theorem dX0_puts_317 : decode cX0_puts 317 = .ok (.iload_n 1, 1) := dk_27 (dk_at dksX0_puts_13 12 rfl rfl)
theorem dX0_puts_318 : decode cX0_puts 318 = .ok (.invokevirtual 104, 3) := dk_182 0 104 (dk_at dksX0_puts_13 13 rfl rfl)
theorem dX0_puts_321 : decode cX0_puts 321 = .ok (.iload 7, 2) := dk_21 7 (dk_at dksX0_puts_13 16 rfl rfl)
theorem dX0_puts_323 : decode cX0_puts 323 = .ok (.if_icmp .ne 7, 3) := dk_160 0 7 (dk_at dksX0_puts_13 18 rfl rfl)
theorem dX0_puts_326 : decode cX0_puts 326 = .ok (.iconst 1, 1) := dk_4 (dk_at dksX0_puts_13 21 rfl rfl)
theorem dX0_puts_327 : decode cX0_puts 327 = .ok (.goto 4, 3) := dk_167 0 4 (dk_at dksX0_puts_14 0 rfl rfl)
theorem dX0_puts_330 : decode cX0_puts 330 = .ok (.iconst 0, 1) := dk_3 (dk_at dksX0_puts_14 3 rfl rfl)
theorem dX0_puts_331 : decode cX0_puts 331 = .ok (.istore 6, 2) := dk_54 6 (dk_at dksX0_puts_14 4 rfl rfl)
theorem dX0_puts_333 : decode cX0_puts 333 = .ok (.aload_n 0, 1) := dk_42 (dk_at dksX0_puts_14 6 rfl rfl)
theorem dX0_puts_334 : decode cX0_puts 334 = .ok (.getfield 10, 3) := dk_180 0 10 (dk_at dksX0_puts_14 7 rfl rfl)
theorem dX0_puts_337 : decode cX0_puts 337 = .ok (.iload_n 1, 1) := dk_27 (dk_at dksX0_puts_14 10 rfl rfl)
theorem dX0_puts_338 : decode cX0_puts 338 = .ok (.invokevirtual 77, 3) := dk_182 0 77 (dk_at dksX0_puts_14 11 rfl rfl)
theorem dX0_puts_341 : decode cX0_puts 341 = .ok (.astore 7, 2) := dk_58 7 (dk_at dksX0_puts_14 14 rfl rfl)
theorem dX0_puts_343 : decode cX0_puts 343 = .ok (.aload 7, 2) := dk_25 7 (dk_at dksX0_puts_14 16 rfl rfl)
theorem dX0_puts_345 : decode cX0_puts 345 = .ok (.iconst 2, 1) := dk_5 (dk_at dksX0_puts_14 18 rfl rfl)
theorem dX0_puts_346 : decode cX0_puts 346 = .ok (.invokestatic 80, 3) := dk_184 0 80 (dk_at dksX0_puts_14 19 rfl rfl)
theorem dX0_puts_349 : decode cX0_puts 349 = .ok (.lstore 8, 2) := dk_55 8 (dk_at dksX0_puts_14 22 rfl rfl)
theorem dX0_puts_351 : decode cX0_puts 351 = .ok (.iload 6, 2) := dk_21 6 (dk_at dksX0_puts_15 0 rfl rfl)
theorem dX0_puts_353 : decode cX0_puts 353 = .ok (.ifCond .eq 82, 3) := dk_153 0 82 (dk_at dksX0_puts_15 2 rfl rfl)
theorem dX0_puts_356 : decode cX0_puts 356 = .ok (.aload_n 0, 1) := dk_42 (dk_at dksX0_puts_15 5 rfl rfl)
theorem dX0_puts_357 : decode cX0_puts 357 = .ok (.iload_n 1, 1) := dk_27 (dk_at dksX0_puts_15 6 rfl rfl)
theorem dX0_puts_358 : decode cX0_puts 358 = .ok (.invokevirtual 89, 3) := dk_182 0 89 (dk_at dksX0_puts_15 7 rfl rfl)
theorem dX0_puts_361 : decode cX0_puts 361 = .ok (.lload 4, 2) := dk_22 4 (dk_at dksX0_puts_15 10 rfl rfl)
theorem dX0_puts_363 : decode cX0_puts 363 = .ok (.lcmp, 1) := dk_148 (dk_at dksX0_puts_15 12 rfl rfl)
theorem dX0_puts_364 : decode cX0_puts 364 = .ok (.ifCond .ne 71, 3) := dk_154 0 71 (dk_at dksX0_puts_15 13 rfl rfl)
theorem dX0_puts_367 : decode cX0_puts 367 = .ok (.aload_n 0, 1) := dk_42 (dk_at dksX0_puts_15 16 rfl rfl)
theorem dX0_puts_368 : decode cX0_puts 368 = .ok (.getfield 10, 3) := dk_180 0 10 (dk_at dksX0_puts_15 17 rfl rfl)
theorem dX0_puts_371 : decode cX0_puts 371 = .ok (.iconst 0, 1) := dk_3 (dk_at dksX0_puts_15 20 rfl rfl)
theorem dX0_puts_372 : decode cX0_puts 372 = .ok (.invokevirtual 47, 3) := dk_182 0 47 (dk_at dksX0_puts_15 21 rfl rfl)
theorem dX0_puts_375 : decode cX0_puts 375 = .ok (.iload_n 3, 1) := dk_29 (dk_at dksX0_puts_16 0 rfl rfl)
theorem dX0_puts_376 : decode cX0_puts 376 = .ok (.iconst 3, 1) := dk_6 (dk_at dksX0_puts_16 1 rfl rfl)
theorem dX0_puts_377 : decode cX0_puts 377 = .ok (.iadd, 1) := dk_96 (dk_at dksX0_puts_16 2 rfl rfl)
theorem dX0_puts_378 : decode cX0_puts 378 = .ok (.if_icmp .ne 57, 3) := dk_160 0 57 (dk_at dksX0_puts_16 3 rfl rfl)
theorem dX0_puts_381 : decode cX0_puts 381 = .ok (.aload_n 0, 1) := dk_42 (dk_at dksX0_puts_16 6 rfl rfl)
theorem dX0_puts_382 : decode cX0_puts 382 = .ok (.getfield 10, 3) := dk_180 0 10 (dk_at dksX0_puts_16 7 rfl rfl)
theorem dX0_puts_385 : decode cX0_puts 385 = .ok (.iload_n 1, 1) := dk_27 (dk_at dksX0_puts_16 10 rfl rfl)
theorem dX0_puts_386 : decode cX0_puts 386 = .ok (.invokevirtual 113, 3) := dk_182 0 113 (dk_at dksX0_puts_16 11 rfl rfl)
theorem dX0_puts_389 : decode cX0_puts 389 = .ok (.aload 7, 2) := dk_25 7 (dk_at dksX0_puts_16 14 rfl rfl)
theorem dX0_puts_391 : decode cX0_puts 391 = .ok (.iconst 0, 1) := dk_3 (dk_at dksX0_puts_16 16 rfl rfl)
theorem dX0_puts_392 : decode cX0_puts 392 = .ok (.invokestatic 80, 3) := dk_184 0 80 (dk_at dksX0_puts_16 17 rfl rfl)
theorem dX0_puts_395 : decode cX0_puts 395 = .ok (.l2i, 1) := dk_136 (dk_at dksX0_puts_16 20 rfl rfl)
theorem dX0_puts_396 : decode cX0_puts 396 = .ok (.bipush 31, 2) := dk_16 31 (dk_at dksX0_puts_16 21 rfl rfl)
theorem dX0_puts_398 : decode cX0_puts 398 = .ok (.ishl, 1) := dk_120 (dk_at dksX0_puts_16 23 rfl rfl)
theorem dX0_puts_399 : decode cX0_puts 399 = .ok (.aload 7, 2) := dk_25 7 (dk_at dksX0_puts_17 0 rfl rfl)
theorem dX0_puts_401 : decode cX0_puts 401 = .ok (.iconst 1, 1) := dk_4 (dk_at dksX0_puts_17 2 rfl rfl)
theorem dX0_puts_402 : decode cX0_puts 402 = .ok (.invokestatic 80, 3) := dk_184 0 80 (dk_at dksX0_puts_17 3 rfl rfl)
theorem dX0_puts_405 : decode cX0_puts 405 = .ok (.l2i, 1) := dk_136 (dk_at dksX0_puts_17 6 rfl rfl)
theorem dX0_puts_406 : decode cX0_puts 406 = .ok (.bipush 20, 2) := dk_16 20 (dk_at dksX0_puts_17 7 rfl rfl)
theorem dX0_puts_408 : decode cX0_puts 408 = .ok (.ishl, 1) := dk_120 (dk_at dksX0_puts_17 9 rfl rfl)
theorem dX0_puts_409 : decode cX0_puts 409 = .ok (.ior, 1) := dk_128 (dk_at dksX0_puts_17 10 rfl rfl)
theorem dX0_puts_410 : decode cX0_puts 410 = .ok (.lload 8, 2) := dk_22 8 (dk_at dksX0_puts_17 11 rfl rfl)
theorem dX0_puts_412 : decode cX0_puts 412 = .ok (.bipush 32, 2) := dk_16 32 (dk_at dksX0_puts_17 13 rfl rfl)
theorem dX0_puts_414 : decode cX0_puts 414 = .ok (.lshr, 1) := dk_123 (dk_at dksX0_puts_17 15 rfl rfl)
theorem dX0_puts_415 : decode cX0_puts 415 = .ok (.l2i, 1) := dk_136 (dk_at dksX0_puts_17 16 rfl rfl)
theorem dX0_puts_416 : decode cX0_puts 416 = .ok (.ior, 1) := dk_128 (dk_at dksX0_puts_17 17 rfl rfl)
theorem dX0_puts_417 : decode cX0_puts 417 = .ok (.if_icmp .ne 18, 3) := dk_160 0 18 (dk_at dksX0_puts_17 18 rfl rfl)
theorem dX0_puts_420 : decode cX0_puts 420 = .ok (.lload 8, 2) := dk_22 8 (dk_at dksX0_puts_17 21 rfl rfl)
theorem dX0_puts_422 : decode cX0_puts 422 = .ok (.ldc2_w 116, 3) := dk_20 0 116 (dk_at dksX0_puts_18 0 rfl rfl)
theorem dX0_puts_425 : decode cX0_puts 425 = .ok (.land, 1) := dk_127 (dk_at dksX0_puts_18 3 rfl rfl)
theorem dX0_puts_426 : decode cX0_puts 426 = .ok (.lconst 0, 1) := dk_9 (dk_at dksX0_puts_18 4 rfl rfl)
theorem dX0_puts_427 : decode cX0_puts 427 = .ok (.lcmp, 1) := dk_148 (dk_at dksX0_puts_18 5 rfl rfl)
theorem dX0_puts_428 : decode cX0_puts 428 = .ok (.ifCond .ne 7, 3) := dk_154 0 7 (dk_at dksX0_puts_18 6 rfl rfl)
theorem dX0_puts_431 : decode cX0_puts 431 = .ok (.iconst 1, 1) := dk_4 (dk_at dksX0_puts_18 9 rfl rfl)
theorem dX0_puts_432 : decode cX0_puts 432 = .ok (.goto 4, 3) := dk_167 0 4 (dk_at dksX0_puts_18 10 rfl rfl)
theorem dX0_puts_435 : decode cX0_puts 435 = .ok (.iconst 0, 1) := dk_3 (dk_at dksX0_puts_18 13 rfl rfl)
theorem dX0_puts_436 : decode cX0_puts 436 = .ok (.istore 6, 2) := dk_54 6 (dk_at dksX0_puts_18 14 rfl rfl)
theorem dX0_puts_438 : decode cX0_puts 438 = .ok (.aload_n 0, 1) := dk_42 (dk_at dksX0_puts_18 16 rfl rfl)
theorem dX0_puts_439 : decode cX0_puts 439 = .ok (.getfield 10, 3) := dk_180 0 10 (dk_at dksX0_puts_18 17 rfl rfl)
theorem dX0_puts_442 : decode cX0_puts 442 = .ok (.iload_n 1, 1) := dk_27 (dk_at dksX0_puts_18 20 rfl rfl)
theorem dX0_puts_443 : decode cX0_puts 443 = .ok (.iconst 0, 1) := dk_3 (dk_at dksX0_puts_18 21 rfl rfl)
theorem dX0_puts_444 : decode cX0_puts 444 = .ok (.invokevirtual 118, 3) := dk_182 0 118 (dk_at dksX0_puts_19 0 rfl rfl)
theorem dX0_puts_447 : decode cX0_puts 447 = .ok (.istore 10, 2) := dk_54 10 (dk_at dksX0_puts_19 3 rfl rfl)
theorem dX0_puts_449 : decode cX0_puts 449 = .ok (.aload_n 0, 1) := dk_42 (dk_at dksX0_puts_19 5 rfl rfl)
theorem dX0_puts_450 : decode cX0_puts 450 = .ok (.getfield 10, 3) := dk_180 0 10 (dk_at dksX0_puts_19 6 rfl rfl)
theorem dX0_puts_453 : decode cX0_puts 453 = .ok (.iload_n 1, 1) := dk_27 (dk_at dksX0_puts_19 9 rfl rfl)
theorem dX0_puts_454 : decode cX0_puts 454 = .ok (.iconst 1, 1) := dk_4 (dk_at dksX0_puts_19 10 rfl rfl)
theorem dX0_puts_455 : decode cX0_puts 455 = .ok (.invokevirtual 118, 3) := dk_182 0 118 (dk_at dksX0_puts_19 11 rfl rfl)
theorem dX0_puts_458 : decode cX0_puts 458 = .ok (.istore 11, 2) := dk_54 11 (dk_at dksX0_puts_19 14 rfl rfl)
theorem dX0_puts_460 : decode cX0_puts 460 = .ok (.iconst 0, 1) := dk_3 (dk_at dksX0_puts_19 16 rfl rfl)
theorem dX0_puts_461 : decode cX0_puts 461 = .ok (.istore 12, 2) := dk_54 12 (dk_at dksX0_puts_19 17 rfl rfl)
theorem dX0_puts_463 : decode cX0_puts 463 = .ok (.iload 12, 2) := dk_21 12 (dk_at dksX0_puts_19 19 rfl rfl)
theorem dX0_puts_465 : decode cX0_puts 465 = .ok (.bipush 8, 2) := dk_16 8 (dk_at dksX0_puts_19 21 rfl rfl)
theorem dX0_puts_467 : decode cX0_puts 467 = .ok (.if_icmp .ge 114, 3) := dk_162 0 114 (dk_at dksX0_puts_20 0 rfl rfl)
theorem dX0_puts_470 : decode cX0_puts 470 = .ok (.iload 6, 2) := dk_21 6 (dk_at dksX0_puts_20 3 rfl rfl)
theorem dX0_puts_472 : decode cX0_puts 472 = .ok (.ifCond .eq 100, 3) := dk_153 0 100 (dk_at dksX0_puts_20 5 rfl rfl)
theorem dX0_puts_475 : decode cX0_puts 475 = .ok (.iload 12, 2) := dk_21 12 (dk_at dksX0_puts_20 8 rfl rfl)
theorem dX0_puts_477 : decode cX0_puts 477 = .ok (.iload 10, 2) := dk_21 10 (dk_at dksX0_puts_20 10 rfl rfl)
theorem dX0_puts_479 : decode cX0_puts 479 = .ok (.if_icmp .eq 10, 3) := dk_159 0 10 (dk_at dksX0_puts_20 12 rfl rfl)
theorem dX0_puts_482 : decode cX0_puts 482 = .ok (.iload 12, 2) := dk_21 12 (dk_at dksX0_puts_20 15 rfl rfl)
theorem dX0_puts_484 : decode cX0_puts 484 = .ok (.iload 11, 2) := dk_21 11 (dk_at dksX0_puts_20 17 rfl rfl)
theorem dX0_puts_486 : decode cX0_puts 486 = .ok (.if_icmp .ne 23, 3) := dk_160 0 23 (dk_at dksX0_puts_20 19 rfl rfl)
theorem dX0_puts_489 : decode cX0_puts 489 = .ok (.aload_n 0, 1) := dk_42 (dk_at dksX0_puts_20 22 rfl rfl)
theorem dX0_puts_490 : decode cX0_puts 490 = .ok (.getfield 10, 3) := dk_180 0 10 (dk_at dksX0_puts_21 0 rfl rfl)
theorem dX0_puts_493 : decode cX0_puts 493 = .ok (.iload 12, 2) := dk_21 12 (dk_at dksX0_puts_21 3 rfl rfl)
theorem dX0_puts_495 : decode cX0_puts 495 = .ok (.iload_n 1, 1) := dk_27 (dk_at dksX0_puts_21 5 rfl rfl)
theorem dX0_puts_496 : decode cX0_puts 496 = .ok (.iload 12, 2) := dk_21 12 (dk_at dksX0_puts_21 6 rfl rfl)
theorem dX0_puts_498 : decode cX0_puts 498 = .ok (.iconst 3, 1) := dk_6 (dk_at dksX0_puts_21 8 rfl rfl)
theorem dX0_puts_499 : decode cX0_puts 499 = .ok (.irem, 1) := dk_112 (dk_at dksX0_puts_21 9 rfl rfl)
theorem dX0_puts_500 : decode cX0_puts 500 = .ok (.invokevirtual 122, 3) := dk_182 0 122 (dk_at dksX0_puts_21 10 rfl rfl)
theorem dX0_puts_503 : decode cX0_puts 503 = .ok (.ifCond .eq 69, 3) := dk_153 0 69 (dk_at dksX0_puts_21 13 rfl rfl)
theorem dX0_puts_506 : decode cX0_puts 506 = .ok (.goto 34, 3) := dk_167 0 34 (dk_at dksX0_puts_21 16 rfl rfl)
theorem dX0_puts_509 : decode cX0_puts 509 = .ok (.iload 12, 2) := dk_21 12 (dk_at dksX0_puts_21 19 rfl rfl)
theorem dX0_puts_511 : decode cX0_puts 511 = .ok (.iload 10, 2) := dk_21 10 (dk_at dksX0_puts_21 21 rfl rfl)
theorem dX0_puts_513 : decode cX0_puts 513 = .ok (.if_icmp .le 10, 3) := dk_164 0 10 (dk_at dksX0_puts_22 0 rfl rfl)
theorem dX0_puts_516 : decode cX0_puts 516 = .ok (.iload 12, 2) := dk_21 12 (dk_at dksX0_puts_22 3 rfl rfl)
theorem dX0_puts_518 : decode cX0_puts 518 = .ok (.iload 11, 2) := dk_21 11 (dk_at dksX0_puts_22 5 rfl rfl)
theorem dX0_puts_520 : decode cX0_puts 520 = .ok (.if_icmp .lt 20, 3) := dk_161 0 20 (dk_at dksX0_puts_22 7 rfl rfl)
theorem dX0_puts_523 : decode cX0_puts 523 = .ok (.aload_n 0, 1) := dk_42 (dk_at dksX0_puts_22 10 rfl rfl)
theorem dX0_puts_524 : decode cX0_puts 524 = .ok (.getfield 10, 3) := dk_180 0 10 (dk_at dksX0_puts_22 11 rfl rfl)
theorem dX0_puts_527 : decode cX0_puts 527 = .ok (.iload 12, 2) := dk_21 12 (dk_at dksX0_puts_22 14 rfl rfl)
theorem dX0_puts_529 : decode cX0_puts 529 = .ok (.iload_n 1, 1) := dk_27 (dk_at dksX0_puts_22 16 rfl rfl)
theorem dX0_puts_530 : decode cX0_puts 530 = .ok (.iload 12, 2) := dk_21 12 (dk_at dksX0_puts_22 17 rfl rfl)
theorem dX0_puts_532 : decode cX0_puts 532 = .ok (.iconst 3, 1) := dk_6 (dk_at dksX0_puts_22 19 rfl rfl)
theorem dX0_puts_533 : decode cX0_puts 533 = .ok (.irem, 1) := dk_112 (dk_at dksX0_puts_22 20 rfl rfl)
theorem dX0_puts_534 : decode cX0_puts 534 = .ok (.invokevirtual 122, 3) := dk_182 0 122 (dk_at dksX0_puts_22 21 rfl rfl)
theorem dX0_puts_537 : decode cX0_puts 537 = .ok (.ifCond .ne 35, 3) := dk_154 0 35 (dk_at dksX0_puts_23 0 rfl rfl)
theorem dX0_puts_540 : decode cX0_puts 540 = .ok (.aload_n 0, 1) := dk_42 (dk_at dksX0_puts_23 3 rfl rfl)
theorem dX0_puts_541 : decode cX0_puts 541 = .ok (.getfield 10, 3) := dk_180 0 10 (dk_at dksX0_puts_23 4 rfl rfl)
theorem dX0_puts_544 : decode cX0_puts 544 = .ok (.iload 12, 2) := dk_21 12 (dk_at dksX0_puts_23 7 rfl rfl)
theorem dX0_puts_546 : decode cX0_puts 546 = .ok (.iload_n 1, 1) := dk_27 (dk_at dksX0_puts_23 9 rfl rfl)
theorem dX0_puts_547 : decode cX0_puts 547 = .ok (.iconst 0, 1) := dk_3 (dk_at dksX0_puts_23 10 rfl rfl)
theorem dX0_puts_548 : decode cX0_puts 548 = .ok (.invokevirtual 122, 3) := dk_182 0 122 (dk_at dksX0_puts_23 11 rfl rfl)
theorem dX0_puts_551 : decode cX0_puts 551 = .ok (.aload_n 0, 1) := dk_42 (dk_at dksX0_puts_23 14 rfl rfl)
theorem dX0_puts_552 : decode cX0_puts 552 = .ok (.getfield 10, 3) := dk_180 0 10 (dk_at dksX0_puts_23 15 rfl rfl)
theorem dX0_puts_555 : decode cX0_puts 555 = .ok (.iload 12, 2) := dk_21 12 (dk_at dksX0_puts_23 18 rfl rfl)
theorem dX0_puts_557 : decode cX0_puts 557 = .ok (.invokevirtual 77, 3) := dk_182 0 77 (dk_at dksX0_puts_23 20 rfl rfl)
theorem dX0_puts_560 : decode cX0_puts 560 = .ok (.aload 7, 2) := dk_25 7 (dk_at dksX0_puts_24 0 rfl rfl)
theorem dX0_puts_562 : decode cX0_puts 562 = .ok (.invokevirtual 125, 3) := dk_182 0 125 (dk_at dksX0_puts_24 2 rfl rfl)
theorem dX0_puts_565 : decode cX0_puts 565 = .ok (.if_icmp .ne 7, 3) := dk_160 0 7 (dk_at dksX0_puts_24 5 rfl rfl)
theorem dX0_puts_568 : decode cX0_puts 568 = .ok (.iconst 1, 1) := dk_4 (dk_at dksX0_puts_24 8 rfl rfl)
theorem dX0_puts_569 : decode cX0_puts 569 = .ok (.goto 4, 3) := dk_167 0 4 (dk_at dksX0_puts_24 9 rfl rfl)
theorem dX0_puts_572 : decode cX0_puts 572 = .ok (.iconst 0, 1) := dk_3 (dk_at dksX0_puts_24 12 rfl rfl)
theorem dX0_puts_573 : decode cX0_puts 573 = .ok (.istore 6, 2) := dk_54 6 (dk_at dksX0_puts_24 13 rfl rfl)
theorem dX0_puts_575 : decode cX0_puts 575 = .ok (.iinc 12 1, 3) := dk_132 12 1 (dk_at dksX0_puts_24 15 rfl rfl)
theorem dX0_puts_578 : decode cX0_puts 578 = .ok (.goto (-115), 3) := dk_167 255 141 (dk_at dksX0_puts_24 18 rfl rfl)
theorem dX0_puts_581 : decode cX0_puts 581 = .ok (.iload 6, 2) := dk_21 6 (dk_at dksX0_puts_24 21 rfl rfl)
theorem dX0_puts_583 : decode cX0_puts 583 = .ok (.ireturn, 1) := dk_172 (dk_at dksX0_puts_24 23 rfl rfl)
abbrev cX0_isIn : ByteArray := method_9_code
def yX0_isIn : MethodName := ⟨RX0, "isIn", "(J)Z"⟩
def dkwX0_isIn_3 : List UInt8 := [167, 0, 4, 3, 54, 4, 132, 5, 1, 167, 255, 201, 21, 4, 172]
abbrev dktX0_isIn_3 : List UInt8 := dkwX0_isIn_3 ++ []
def dkwX0_isIn_2 : List UInt8 := [21, 5, 123, 20, 0, 73, 148, 158, 0, 18, 32, 21, 5, 123, 20, 0, 75, 148, 156, 0, 7, 4]
abbrev dktX0_isIn_2 : List UInt8 := dkwX0_isIn_2 ++ dktX0_isIn_3
def dkwX0_isIn_1 : List UInt8 := [21, 5, 16, 48, 162, 0, 54, 21, 4, 154, 0, 36, 32, 10, 21, 5, 121, 113, 9, 148, 154, 0, 29, 32]
abbrev dktX0_isIn_1 : List UInt8 := dkwX0_isIn_1 ++ dktX0_isIn_2
def dkwX0_isIn_0 : List UInt8 := [30, 184, 0, 67, 65, 32, 20, 0, 71, 148, 157, 0, 7, 4, 167, 0, 4, 3, 54, 4, 16, 11, 54, 5]
abbrev dktX0_isIn_0 : List UInt8 := dkwX0_isIn_0 ++ dktX0_isIn_1
theorem dksX0_isIn_0 : cX0_isIn.data.toList.drop 0 = dktX0_isIn_0 := by decide +kernel
theorem dksX0_isIn_1 : cX0_isIn.data.toList.drop 24 = dktX0_isIn_1 := dk_seg dksX0_isIn_0 24 rfl rfl
theorem dksX0_isIn_2 : cX0_isIn.data.toList.drop 48 = dktX0_isIn_2 := dk_seg dksX0_isIn_1 24 rfl rfl
theorem dksX0_isIn_3 : cX0_isIn.data.toList.drop 70 = dktX0_isIn_3 := dk_seg dksX0_isIn_2 22 rfl rfl
theorem dX0_isIn_0 : decode cX0_isIn 0 = .ok (.lload_n 0, 1) := dk_30 (dk_at dksX0_isIn_0 0 rfl rfl)
theorem dX0_isIn_1 : decode cX0_isIn 1 = .ok (.invokestatic 67, 3) := dk_184 0 67 (dk_at dksX0_isIn_0 1 rfl rfl)
theorem dX0_isIn_4 : decode cX0_isIn 4 = .ok (.lstore_n 2, 1) := dk_65 (dk_at dksX0_isIn_0 4 rfl rfl)
theorem dX0_isIn_5 : decode cX0_isIn 5 = .ok (.lload_n 2, 1) := dk_32 (dk_at dksX0_isIn_0 5 rfl rfl)
theorem dX0_isIn_6 : decode cX0_isIn 6 = .ok (.ldc2_w 71, 3) := dk_20 0 71 (dk_at dksX0_isIn_0 6 rfl rfl)
theorem dX0_isIn_9 : decode cX0_isIn 9 = .ok (.lcmp, 1) := dk_148 (dk_at dksX0_isIn_0 9 rfl rfl)
theorem dX0_isIn_10 : decode cX0_isIn 10 = .ok (.ifCond .gt 7, 3) := dk_157 0 7 (dk_at dksX0_isIn_0 10 rfl rfl)
theorem dX0_isIn_13 : decode cX0_isIn 13 = .ok (.iconst 1, 1) := dk_4 (dk_at dksX0_isIn_0 13 rfl rfl)
theorem dX0_isIn_14 : decode cX0_isIn 14 = .ok (.goto 4, 3) := dk_167 0 4 (dk_at dksX0_isIn_0 14 rfl rfl)
theorem dX0_isIn_17 : decode cX0_isIn 17 = .ok (.iconst 0, 1) := dk_3 (dk_at dksX0_isIn_0 17 rfl rfl)
theorem dX0_isIn_18 : decode cX0_isIn 18 = .ok (.istore 4, 2) := dk_54 4 (dk_at dksX0_isIn_0 18 rfl rfl)
theorem dX0_isIn_20 : decode cX0_isIn 20 = .ok (.bipush 11, 2) := dk_16 11 (dk_at dksX0_isIn_0 20 rfl rfl)
theorem dX0_isIn_22 : decode cX0_isIn 22 = .ok (.istore 5, 2) := dk_54 5 (dk_at dksX0_isIn_0 22 rfl rfl)
theorem dX0_isIn_24 : decode cX0_isIn 24 = .ok (.iload 5, 2) := dk_21 5 (dk_at dksX0_isIn_1 0 rfl rfl)
theorem dX0_isIn_26 : decode cX0_isIn 26 = .ok (.bipush 48, 2) := dk_16 48 (dk_at dksX0_isIn_1 2 rfl rfl)
theorem dX0_isIn_28 : decode cX0_isIn 28 = .ok (.if_icmp .ge 54, 3) := dk_162 0 54 (dk_at dksX0_isIn_1 4 rfl rfl)
theorem dX0_isIn_31 : decode cX0_isIn 31 = .ok (.iload 4, 2) := dk_21 4 (dk_at dksX0_isIn_1 7 rfl rfl)
theorem dX0_isIn_33 : decode cX0_isIn 33 = .ok (.ifCond .ne 36, 3) := dk_154 0 36 (dk_at dksX0_isIn_1 9 rfl rfl)
theorem dX0_isIn_36 : decode cX0_isIn 36 = .ok (.lload_n 2, 1) := dk_32 (dk_at dksX0_isIn_1 12 rfl rfl)
theorem dX0_isIn_37 : decode cX0_isIn 37 = .ok (.lconst 1, 1) := dk_10 (dk_at dksX0_isIn_1 13 rfl rfl)
theorem dX0_isIn_38 : decode cX0_isIn 38 = .ok (.iload 5, 2) := dk_21 5 (dk_at dksX0_isIn_1 14 rfl rfl)
theorem dX0_isIn_40 : decode cX0_isIn 40 = .ok (.lshl, 1) := dk_121 (dk_at dksX0_isIn_1 16 rfl rfl)
theorem dX0_isIn_41 : decode cX0_isIn 41 = .ok (.lrem, 1) := dk_113 (dk_at dksX0_isIn_1 17 rfl rfl)
theorem dX0_isIn_42 : decode cX0_isIn 42 = .ok (.lconst 0, 1) := dk_9 (dk_at dksX0_isIn_1 18 rfl rfl)
theorem dX0_isIn_43 : decode cX0_isIn 43 = .ok (.lcmp, 1) := dk_148 (dk_at dksX0_isIn_1 19 rfl rfl)
theorem dX0_isIn_44 : decode cX0_isIn 44 = .ok (.ifCond .ne 29, 3) := dk_154 0 29 (dk_at dksX0_isIn_1 20 rfl rfl)
theorem dX0_isIn_47 : decode cX0_isIn 47 = .ok (.lload_n 2, 1) := dk_32 (dk_at dksX0_isIn_1 23 rfl rfl)
theorem dX0_isIn_48 : decode cX0_isIn 48 = .ok (.iload 5, 2) := dk_21 5 (dk_at dksX0_isIn_2 0 rfl rfl)
theorem dX0_isIn_50 : decode cX0_isIn 50 = .ok (.lshr, 1) := dk_123 (dk_at dksX0_isIn_2 2 rfl rfl)
theorem dX0_isIn_51 : decode cX0_isIn 51 = .ok (.ldc2_w 73, 3) := dk_20 0 73 (dk_at dksX0_isIn_2 3 rfl rfl)
theorem dX0_isIn_54 : decode cX0_isIn 54 = .ok (.lcmp, 1) := dk_148 (dk_at dksX0_isIn_2 6 rfl rfl)
theorem dX0_isIn_55 : decode cX0_isIn 55 = .ok (.ifCond .le 18, 3) := dk_158 0 18 (dk_at dksX0_isIn_2 7 rfl rfl)
theorem dX0_isIn_58 : decode cX0_isIn 58 = .ok (.lload_n 2, 1) := dk_32 (dk_at dksX0_isIn_2 10 rfl rfl)
theorem dX0_isIn_59 : decode cX0_isIn 59 = .ok (.iload 5, 2) := dk_21 5 (dk_at dksX0_isIn_2 11 rfl rfl)
theorem dX0_isIn_61 : decode cX0_isIn 61 = .ok (.lshr, 1) := dk_123 (dk_at dksX0_isIn_2 13 rfl rfl)
theorem dX0_isIn_62 : decode cX0_isIn 62 = .ok (.ldc2_w 75, 3) := dk_20 0 75 (dk_at dksX0_isIn_2 14 rfl rfl)
theorem dX0_isIn_65 : decode cX0_isIn 65 = .ok (.lcmp, 1) := dk_148 (dk_at dksX0_isIn_2 17 rfl rfl)
theorem dX0_isIn_66 : decode cX0_isIn 66 = .ok (.ifCond .ge 7, 3) := dk_156 0 7 (dk_at dksX0_isIn_2 18 rfl rfl)
theorem dX0_isIn_69 : decode cX0_isIn 69 = .ok (.iconst 1, 1) := dk_4 (dk_at dksX0_isIn_2 21 rfl rfl)
theorem dX0_isIn_70 : decode cX0_isIn 70 = .ok (.goto 4, 3) := dk_167 0 4 (dk_at dksX0_isIn_3 0 rfl rfl)
theorem dX0_isIn_73 : decode cX0_isIn 73 = .ok (.iconst 0, 1) := dk_3 (dk_at dksX0_isIn_3 3 rfl rfl)
theorem dX0_isIn_74 : decode cX0_isIn 74 = .ok (.istore 4, 2) := dk_54 4 (dk_at dksX0_isIn_3 4 rfl rfl)
theorem dX0_isIn_76 : decode cX0_isIn 76 = .ok (.iinc 5 1, 3) := dk_132 5 1 (dk_at dksX0_isIn_3 6 rfl rfl)
theorem dX0_isIn_79 : decode cX0_isIn 79 = .ok (.goto (-55), 3) := dk_167 255 201 (dk_at dksX0_isIn_3 9 rfl rfl)
theorem dX0_isIn_82 : decode cX0_isIn 82 = .ok (.iload 4, 2) := dk_21 4 (dk_at dksX0_isIn_3 12 rfl rfl)
theorem dX0_isIn_84 : decode cX0_isIn 84 = .ok (.ireturn, 1) := dk_172 (dk_at dksX0_isIn_3 14 rfl rfl)
abbrev cX0_size : ByteArray := method_8_code
def yX0_size : MethodName := ⟨RX0, "size", "(J)J"⟩
def dkwX0_size_0 : List UInt8 := [30, 9, 148, 156, 0, 8, 30, 117, 167, 0, 4, 30, 173]
abbrev dktX0_size_0 : List UInt8 := dkwX0_size_0 ++ []
theorem dksX0_size_0 : cX0_size.data.toList.drop 0 = dktX0_size_0 := by decide +kernel
theorem dX0_size_0 : decode cX0_size 0 = .ok (.lload_n 0, 1) := dk_30 (dk_at dksX0_size_0 0 rfl rfl)
theorem dX0_size_1 : decode cX0_size 1 = .ok (.lconst 0, 1) := dk_9 (dk_at dksX0_size_0 1 rfl rfl)
theorem dX0_size_2 : decode cX0_size 2 = .ok (.lcmp, 1) := dk_148 (dk_at dksX0_size_0 2 rfl rfl)
theorem dX0_size_3 : decode cX0_size 3 = .ok (.ifCond .ge 8, 3) := dk_156 0 8 (dk_at dksX0_size_0 3 rfl rfl)
theorem dX0_size_6 : decode cX0_size 6 = .ok (.lload_n 0, 1) := dk_30 (dk_at dksX0_size_0 6 rfl rfl)
theorem dX0_size_7 : decode cX0_size 7 = .ok (.lneg, 1) := dk_117 (dk_at dksX0_size_0 7 rfl rfl)
theorem dX0_size_8 : decode cX0_size 8 = .ok (.goto 4, 3) := dk_167 0 4 (dk_at dksX0_size_0 8 rfl rfl)
theorem dX0_size_11 : decode cX0_size 11 = .ok (.lload_n 0, 1) := dk_30 (dk_at dksX0_size_0 11 rfl rfl)
theorem dX0_size_12 : decode cX0_size 12 = .ok (.lreturn, 1) := dk_173 (dk_at dksX0_size_0 12 rfl rfl)
abbrev cX0_areAnswers : ByteArray := method_15_code
def yX0_areAnswers : MethodName := ⟨RX0, "areAnswers", "(II)Z"⟩
def dkwX0_areAnswers_37 : List UInt8 := [182, 0, 178, 20, 0, 45, 105, 22, 20, 184, 0, 184, 153, 0, 7, 4, 167, 0, 4, 3, 172]
abbrev dktX0_areAnswers_37 : List UInt8 := dkwX0_areAnswers_37 ++ []
def dkwX0_areAnswers_36 : List UInt8 := [22, 20, 184, 0, 184, 153, 0, 37, 22, 5, 22, 5, 105, 33, 33, 105, 101, 42, 4, 16, 6, 16, 7]
abbrev dktX0_areAnswers_36 : List UInt8 := dkwX0_areAnswers_36 ++ dktX0_areAnswers_37
def dkwX0_areAnswers_35 : List UInt8 := [153, 0, 66, 20, 0, 143, 33, 105, 22, 5, 105, 42, 3, 16, 6, 16, 6, 182, 0, 178, 20, 0, 45, 105]
abbrev dktX0_areAnswers_35 : List UInt8 := dkwX0_areAnswers_35 ++ dktX0_areAnswers_36
def dkwX0_areAnswers_34 : List UInt8 := [184, 0, 67, 22, 5, 184, 0, 67, 97, 105, 20, 0, 143, 97, 20, 0, 45, 97, 55, 20, 21, 9]
abbrev dktX0_areAnswers_34 : List UInt8 := dkwX0_areAnswers_34 ++ dktX0_areAnswers_35
def dkwX0_areAnswers_33 : List UInt8 := [160, 0, 7, 4, 167, 0, 4, 3, 54, 9, 21, 19, 16, 247, 160, 0, 6, 21, 9, 172, 20, 0, 143, 33]
abbrev dktX0_areAnswers_33 : List UInt8 := dkwX0_areAnswers_33 ++ dktX0_areAnswers_34
def dkwX0_areAnswers_32 : List UInt8 := [182, 0, 227, 21, 12, 18, 107, 159, 0, 10, 21, 12, 18, 109, 160, 0, 8, 16, 247, 167, 0, 4, 4]
abbrev dktX0_areAnswers_32 : List UInt8 := dkwX0_areAnswers_32 ++ dktX0_areAnswers_33
def dkwX0_areAnswers_31 : List UInt8 := [16, 247, 160, 0, 8, 16, 247, 167, 0, 4, 4, 160, 0, 41, 42, 180, 0, 10, 27, 28, 4, 126]
abbrev dktX0_areAnswers_31 : List UInt8 := dkwX0_areAnswers_31 ++ dktX0_areAnswers_32
def dkwX0_areAnswers_30 : List UInt8 := [160, 0, 8, 16, 247, 167, 0, 4, 4, 160, 0, 66, 42, 180, 0, 10, 27, 4, 182, 0, 224, 21, 19]
abbrev dktX0_areAnswers_30 : List UInt8 := dkwX0_areAnswers_30 ++ dktX0_areAnswers_31
def dkwX0_areAnswers_29 : List UInt8 := [182, 0, 136, 54, 19, 21, 9, 153, 0, 91, 42, 180, 0, 10, 27, 3, 182, 0, 224, 21, 19, 16, 247]
abbrev dktX0_areAnswers_29 : List UInt8 := dkwX0_areAnswers_29 ++ dktX0_areAnswers_30
def dkwX0_areAnswers_28 : List UInt8 := [4, 167, 0, 4, 3, 54, 9, 42, 180, 0, 10, 27, 16, 6, 182, 0, 133, 87, 42, 180, 0, 10, 16, 6]
abbrev dktX0_areAnswers_28 : List UInt8 := dkwX0_areAnswers_28 ++ dktX0_areAnswers_29
def dkwX0_areAnswers_27 : List UInt8 := [180, 0, 10, 27, 182, 0, 221, 153, 0, 21, 42, 180, 0, 10, 4, 27, 16, 7, 182, 0, 211, 154, 0, 7]
abbrev dktX0_areAnswers_27 : List UInt8 := dkwX0_areAnswers_27 ++ dktX0_areAnswers_28
def dkwX0_areAnswers_26 : List UInt8 := [180, 0, 10, 27, 4, 182, 0, 214, 153, 0, 43, 42, 180, 0, 10, 27, 182, 0, 217, 153, 0, 32, 42]
abbrev dktX0_areAnswers_26 : List UInt8 := dkwX0_areAnswers_26 ++ dktX0_areAnswers_27
def dkwX0_areAnswers_25 : List UInt8 := [132, 19, 1, 167, 255, 186, 21, 9, 153, 0, 67, 42, 180, 0, 10, 27, 3, 182, 0, 214, 153, 0, 55, 42]
abbrev dktX0_areAnswers_25 : List UInt8 := dkwX0_areAnswers_25 ++ dktX0_areAnswers_26
def dkwX0_areAnswers_24 : List UInt8 := [180, 0, 10, 21, 19, 16, 7, 27, 182, 0, 211, 116, 160, 0, 7, 4, 167, 0, 4, 3, 54, 9]
abbrev dktX0_areAnswers_24 : List UInt8 := dkwX0_areAnswers_24 ++ dktX0_areAnswers_25
def dkwX0_areAnswers_23 : List UInt8 := [184, 0, 94, 182, 0, 208, 153, 0, 35, 42, 180, 0, 10, 21, 19, 27, 16, 7, 182, 0, 211, 42]
abbrev dktX0_areAnswers_23 : List UInt8 := dkwX0_areAnswers_23 ++ dktX0_areAnswers_24
def dkwX0_areAnswers_22 : List UInt8 := [21, 19, 6, 162, 0, 70, 21, 9, 153, 0, 56, 42, 180, 0, 10, 27, 21, 19, 28, 21, 19, 122, 6]
abbrev dktX0_areAnswers_22 : List UInt8 := dkwX0_areAnswers_22 ++ dktX0_areAnswers_23
def dkwX0_areAnswers_21 : List UInt8 := [180, 0, 10, 6, 3, 16, 7, 182, 0, 50, 154, 0, 7, 4, 167, 0, 4, 3, 54, 9, 3, 54, 19]
abbrev dktX0_areAnswers_21 : List UInt8 := dkwX0_areAnswers_21 ++ dktX0_areAnswers_22
def dkwX0_areAnswers_20 : List UInt8 := [8, 5, 5, 182, 0, 197, 153, 0, 34, 42, 180, 0, 10, 6, 3, 27, 182, 0, 50, 153, 0, 21, 42]
abbrev dktX0_areAnswers_20 : List UInt8 := dkwX0_areAnswers_20 ++ dktX0_areAnswers_21
def dkwX0_areAnswers_19 : List UInt8 := [182, 0, 205, 133, 42, 180, 0, 10, 5, 182, 0, 169, 3, 184, 0, 80, 148, 154, 0, 47, 42, 180, 0, 10]
abbrev dktX0_areAnswers_19 : List UInt8 := dkwX0_areAnswers_19 ++ dktX0_areAnswers_20
def dkwX0_areAnswers_18 : List UInt8 := [148, 154, 0, 85, 42, 180, 0, 10, 6, 3, 4, 182, 0, 197, 153, 0, 72, 42, 180, 0, 10, 8]
abbrev dktX0_areAnswers_18 : List UInt8 := dkwX0_areAnswers_18 ++ dktX0_areAnswers_19
def dkwX0_areAnswers_17 : List UInt8 := [153, 0, 110, 42, 180, 0, 10, 6, 182, 0, 205, 133, 42, 180, 0, 10, 3, 182, 0, 169, 3, 184, 0, 80]
abbrev dktX0_areAnswers_17 : List UInt8 := dkwX0_areAnswers_17 ++ dktX0_areAnswers_18
def dkwX0_areAnswers_16 : List UInt8 := [154, 0, 19, 42, 180, 0, 10, 8, 5, 182, 0, 202, 154, 0, 7, 4, 167, 0, 4, 3, 54, 9, 21, 9]
abbrev dktX0_areAnswers_16 : List UInt8 := dkwX0_areAnswers_16 ++ dktX0_areAnswers_17
def dkwX0_areAnswers_15 : List UInt8 := [42, 180, 0, 10, 6, 3, 3, 182, 0, 197, 154, 0, 31, 42, 180, 0, 10, 6, 3, 182, 0, 202]
abbrev dktX0_areAnswers_15 : List UInt8 := dkwX0_areAnswers_15 ++ dktX0_areAnswers_16
def dkwX0_areAnswers_14 : List UInt8 := [154, 0, 65, 22, 17, 21, 12, 154, 0, 7, 9, 167, 0, 9, 20, 0, 200, 22, 7, 101, 148, 154, 0, 44]
abbrev dktX0_areAnswers_14 : List UInt8 := dkwX0_areAnswers_14 ++ dktX0_areAnswers_15
def dkwX0_areAnswers_13 : List UInt8 := [182, 0, 197, 153, 0, 85, 22, 13, 21, 12, 154, 0, 7, 9, 167, 0, 8, 20, 0, 200, 33, 101, 148]
abbrev dktX0_areAnswers_13 : List UInt8 := dkwX0_areAnswers_13 ++ dktX0_areAnswers_14
def dkwX0_areAnswers_12 : List UInt8 := [55, 17, 21, 9, 153, 0, 108, 22, 15, 22, 5, 148, 154, 0, 100, 42, 180, 0, 10, 7, 4, 28, 4, 126]
abbrev dktX0_areAnswers_12 : List UInt8 := dkwX0_areAnswers_12 ++ dktX0_areAnswers_13
def dkwX0_areAnswers_11 : List UInt8 := [6, 182, 0, 178, 55, 13, 42, 4, 16, 7, 7, 182, 0, 178, 55, 15, 42, 5, 16, 7, 8, 182, 0, 178]
abbrev dktX0_areAnswers_11 : List UInt8 := dkwX0_areAnswers_11 ++ dktX0_areAnswers_12
def dkwX0_areAnswers_10 : List UInt8 := [180, 0, 10, 27, 16, 7, 182, 0, 133, 87, 42, 180, 0, 10, 16, 7, 182, 0, 149, 87, 42, 3, 16, 7]
abbrev dktX0_areAnswers_10 : List UInt8 := dkwX0_areAnswers_10 ++ dktX0_areAnswers_11
def dkwX0_areAnswers_9 : List UInt8 := [97, 136, 160, 0, 7, 4, 167, 0, 4, 3, 54, 9, 42, 180, 0, 10, 27, 182, 0, 104, 54, 12, 42]
abbrev dktX0_areAnswers_9 : List UInt8 := dkwX0_areAnswers_9 ++ dktX0_areAnswers_10
def dkwX0_areAnswers_8 : List UInt8 := [180, 0, 10, 3, 182, 0, 169, 3, 184, 0, 80, 105, 42, 180, 0, 10, 4, 182, 0, 169, 3, 184, 0, 80]
abbrev dktX0_areAnswers_8 : List UInt8 := dkwX0_areAnswers_8 ++ dktX0_areAnswers_9
def dkwX0_areAnswers_7 : List UInt8 := [20, 0, 192, 97, 184, 0, 184, 153, 0, 48, 42, 180, 0, 10, 27, 182, 0, 194, 20, 0, 143, 42]
abbrev dktX0_areAnswers_7 : List UInt8 := dkwX0_areAnswers_7 ++ dktX0_areAnswers_8
def dkwX0_areAnswers_6 : List UInt8 := [153, 0, 78, 22, 10, 22, 5, 105, 33, 16, 12, 121, 22, 10, 184, 0, 67, 22, 5, 184, 0, 67, 97]
abbrev dktX0_areAnswers_6 : List UInt8 := dkwX0_areAnswers_6 ++ dktX0_areAnswers_7
def dkwX0_areAnswers_5 : List UInt8 := [182, 0, 188, 153, 0, 7, 4, 167, 0, 4, 3, 54, 9, 22, 7, 16, 18, 123, 55, 10, 21, 9]
abbrev dktX0_areAnswers_5 : List UInt8 := dkwX0_areAnswers_5 ++ dktX0_areAnswers_6
def dkwX0_areAnswers_4 : List UInt8 := [42, 3, 33, 182, 0, 188, 153, 0, 27, 42, 4, 22, 5, 182, 0, 188, 153, 0, 17, 42, 5, 22, 7]
abbrev dktX0_areAnswers_4 : List UInt8 := dkwX0_areAnswers_4 ++ dktX0_areAnswers_5
def dkwX0_areAnswers_3 : List UInt8 := [20, 0, 143, 33, 184, 0, 67, 22, 5, 184, 0, 67, 97, 105, 20, 0, 143, 97, 184, 0, 184, 153, 0, 36]
abbrev dktX0_areAnswers_3 : List UInt8 := dkwX0_areAnswers_3 ++ dktX0_areAnswers_4
def dkwX0_areAnswers_2 : List UInt8 := [157, 0, 81, 22, 7, 20, 0, 43, 148, 158, 0, 72, 33, 33, 105, 22, 5, 22, 5, 105, 97, 20, 0, 182]
abbrev dktX0_areAnswers_2 : List UInt8 := dkwX0_areAnswers_2 ++ dktX0_areAnswers_3
def dkwX0_areAnswers_1 : List UInt8 := [55, 7, 33, 184, 0, 67, 20, 0, 45, 148, 157, 0, 93, 22, 5, 184, 0, 67, 20, 0, 45, 148]
abbrev dktX0_areAnswers_1 : List UInt8 := dkwX0_areAnswers_1 ++ dktX0_areAnswers_2
def dkwX0_areAnswers_0 : List UInt8 := [42, 3, 27, 3, 182, 0, 178, 66, 42, 4, 27, 4, 182, 0, 178, 55, 5, 42, 5, 27, 5, 182, 0, 178]
abbrev dktX0_areAnswers_0 : List UInt8 := dkwX0_areAnswers_0 ++ dktX0_areAnswers_1
theorem dksX0_areAnswers_0 : cX0_areAnswers.data.toList.drop 0 = dktX0_areAnswers_0 := by decide +kernel
theorem dksX0_areAnswers_1 : cX0_areAnswers.data.toList.drop 24 = dktX0_areAnswers_1 := dk_seg dksX0_areAnswers_0 24 rfl rfl
theorem dksX0_areAnswers_2 : cX0_areAnswers.data.toList.drop 46 = dktX0_areAnswers_2 := dk_seg dksX0_areAnswers_1 22 rfl rfl
theorem dksX0_areAnswers_3 : cX0_areAnswers.data.toList.drop 70 = dktX0_areAnswers_3 := dk_seg dksX0_areAnswers_2 24 rfl rfl
theorem dksX0_areAnswers_4 : cX0_areAnswers.data.toList.drop 94 = dktX0_areAnswers_4 := dk_seg dksX0_areAnswers_3 24 rfl rfl
theorem dksX0_areAnswers_5 : cX0_areAnswers.data.toList.drop 117 = dktX0_areAnswers_5 := dk_seg dksX0_areAnswers_4 23 rfl rfl
theorem dksX0_areAnswers_6 : cX0_areAnswers.data.toList.drop 139 = dktX0_areAnswers_6 := dk_seg dksX0_areAnswers_5 22 rfl rfl
theorem dksX0_areAnswers_7 : cX0_areAnswers.data.toList.drop 162 = dktX0_areAnswers_7 := dk_seg dksX0_areAnswers_6 23 rfl rfl
theorem dksX0_areAnswers_8 : cX0_areAnswers.data.toList.drop 184 = dktX0_areAnswers_8 := dk_seg dksX0_areAnswers_7 22 rfl rfl
theorem dksX0_areAnswers_9 : cX0_areAnswers.data.toList.drop 208 = dktX0_areAnswers_9 := dk_seg dksX0_areAnswers_8 24 rfl rfl
theorem dksX0_areAnswers_10 : cX0_areAnswers.data.toList.drop 231 = dktX0_areAnswers_10 := dk_seg dksX0_areAnswers_9 23 rfl rfl
theorem dksX0_areAnswers_11 : cX0_areAnswers.data.toList.drop 255 = dktX0_areAnswers_11 := dk_seg dksX0_areAnswers_10 24 rfl rfl
theorem dksX0_areAnswers_12 : cX0_areAnswers.data.toList.drop 279 = dktX0_areAnswers_12 := dk_seg dksX0_areAnswers_11 24 rfl rfl
theorem dksX0_areAnswers_13 : cX0_areAnswers.data.toList.drop 303 = dktX0_areAnswers_13 := dk_seg dksX0_areAnswers_12 24 rfl rfl
theorem dksX0_areAnswers_14 : cX0_areAnswers.data.toList.drop 326 = dktX0_areAnswers_14 := dk_seg dksX0_areAnswers_13 23 rfl rfl
theorem dksX0_areAnswers_15 : cX0_areAnswers.data.toList.drop 350 = dktX0_areAnswers_15 := dk_seg dksX0_areAnswers_14 24 rfl rfl
theorem dksX0_areAnswers_16 : cX0_areAnswers.data.toList.drop 372 = dktX0_areAnswers_16 := dk_seg dksX0_areAnswers_15 22 rfl rfl
theorem dksX0_areAnswers_17 : cX0_areAnswers.data.toList.drop 396 = dktX0_areAnswers_17 := dk_seg dksX0_areAnswers_16 24 rfl rfl
theorem dksX0_areAnswers_18 : cX0_areAnswers.data.toList.drop 420 = dktX0_areAnswers_18 := dk_seg dksX0_areAnswers_17 24 rfl rfl
theorem dksX0_areAnswers_19 : cX0_areAnswers.data.toList.drop 442 = dktX0_areAnswers_19 := dk_seg dksX0_areAnswers_18 22 rfl rfl
theorem dksX0_areAnswers_20 : cX0_areAnswers.data.toList.drop 466 = dktX0_areAnswers_20 := dk_seg dksX0_areAnswers_19 24 rfl rfl
theorem dksX0_areAnswers_21 : cX0_areAnswers.data.toList.drop 489 = dktX0_areAnswers_21 := dk_seg dksX0_areAnswers_20 23 rfl rfl
theorem dksX0_areAnswers_22 : cX0_areAnswers.data.toList.drop 512 = dktX0_areAnswers_22 := dk_seg dksX0_areAnswers_21 23 rfl rfl
theorem dksX0_areAnswers_23 : cX0_areAnswers.data.toList.drop 535 = dktX0_areAnswers_23 := dk_seg dksX0_areAnswers_22 23 rfl rfl
theorem dksX0_areAnswers_24 : cX0_areAnswers.data.toList.drop 557 = dktX0_areAnswers_24 := dk_seg dksX0_areAnswers_23 22 rfl rfl
theorem dksX0_areAnswers_25 : cX0_areAnswers.data.toList.drop 579 = dktX0_areAnswers_25 := dk_seg dksX0_areAnswers_24 22 rfl rfl
theorem dksX0_areAnswers_26 : cX0_areAnswers.data.toList.drop 603 = dktX0_areAnswers_26 := dk_seg dksX0_areAnswers_25 24 rfl rfl
theorem dksX0_areAnswers_27 : cX0_areAnswers.data.toList.drop 626 = dktX0_areAnswers_27 := dk_seg dksX0_areAnswers_26 23 rfl rfl
theorem dksX0_areAnswers_28 : cX0_areAnswers.data.toList.drop 650 = dktX0_areAnswers_28 := dk_seg dksX0_areAnswers_27 24 rfl rfl
theorem dksX0_areAnswers_29 : cX0_areAnswers.data.toList.drop 674 = dktX0_areAnswers_29 := dk_seg dksX0_areAnswers_28 24 rfl rfl
theorem dksX0_areAnswers_30 : cX0_areAnswers.data.toList.drop 697 = dktX0_areAnswers_30 := dk_seg dksX0_areAnswers_29 23 rfl rfl
theorem dksX0_areAnswers_31 : cX0_areAnswers.data.toList.drop 720 = dktX0_areAnswers_31 := dk_seg dksX0_areAnswers_30 23 rfl rfl
theorem dksX0_areAnswers_32 : cX0_areAnswers.data.toList.drop 742 = dktX0_areAnswers_32 := dk_seg dksX0_areAnswers_31 22 rfl rfl
theorem dksX0_areAnswers_33 : cX0_areAnswers.data.toList.drop 765 = dktX0_areAnswers_33 := dk_seg dksX0_areAnswers_32 23 rfl rfl
theorem dksX0_areAnswers_34 : cX0_areAnswers.data.toList.drop 789 = dktX0_areAnswers_34 := dk_seg dksX0_areAnswers_33 24 rfl rfl
theorem dksX0_areAnswers_35 : cX0_areAnswers.data.toList.drop 811 = dktX0_areAnswers_35 := dk_seg dksX0_areAnswers_34 22 rfl rfl
theorem dksX0_areAnswers_36 : cX0_areAnswers.data.toList.drop 835 = dktX0_areAnswers_36 := dk_seg dksX0_areAnswers_35 24 rfl rfl
theorem dksX0_areAnswers_37 : cX0_areAnswers.data.toList.drop 858 = dktX0_areAnswers_37 := dk_seg dksX0_areAnswers_36 23 rfl rfl
theorem dX0_areAnswers_0 : decode cX0_areAnswers 0 = .ok (.aload_n 0, 1) := dk_42 (dk_at dksX0_areAnswers_0 0 rfl rfl)
theorem dX0_areAnswers_1 : decode cX0_areAnswers 1 = .ok (.iconst 0, 1) := dk_3 (dk_at dksX0_areAnswers_0 1 rfl rfl)
theorem dX0_areAnswers_2 : decode cX0_areAnswers 2 = .ok (.iload_n 1, 1) := dk_27 (dk_at dksX0_areAnswers_0 2 rfl rfl)
theorem dX0_areAnswers_3 : decode cX0_areAnswers 3 = .ok (.iconst 0, 1) := dk_3 (dk_at dksX0_areAnswers_0 3 rfl rfl)
theorem dX0_areAnswers_4 : decode cX0_areAnswers 4 = .ok (.invokevirtual 178, 3) := dk_182 0 178 (dk_at dksX0_areAnswers_0 4 rfl rfl)
theorem dX0_areAnswers_7 : decode cX0_areAnswers 7 = .ok (.lstore_n 3, 1) := dk_66 (dk_at dksX0_areAnswers_0 7 rfl rfl)
theorem dX0_areAnswers_8 : decode cX0_areAnswers 8 = .ok (.aload_n 0, 1) := dk_42 (dk_at dksX0_areAnswers_0 8 rfl rfl)
theorem dX0_areAnswers_9 : decode cX0_areAnswers 9 = .ok (.iconst 1, 1) := dk_4 (dk_at dksX0_areAnswers_0 9 rfl rfl)
theorem dX0_areAnswers_10 : decode cX0_areAnswers 10 = .ok (.iload_n 1, 1) := dk_27 (dk_at dksX0_areAnswers_0 10 rfl rfl)
theorem dX0_areAnswers_11 : decode cX0_areAnswers 11 = .ok (.iconst 1, 1) := dk_4 (dk_at dksX0_areAnswers_0 11 rfl rfl)
theorem dX0_areAnswers_12 : decode cX0_areAnswers 12 = .ok (.invokevirtual 178, 3) := dk_182 0 178 (dk_at dksX0_areAnswers_0 12 rfl rfl)
theorem dX0_areAnswers_15 : decode cX0_areAnswers 15 = .ok (.lstore 5, 2) := dk_55 5 (dk_at dksX0_areAnswers_0 15 rfl rfl)
theorem dX0_areAnswers_17 : decode cX0_areAnswers 17 = .ok (.aload_n 0, 1) := dk_42 (dk_at dksX0_areAnswers_0 17 rfl rfl)
theorem dX0_areAnswers_18 : decode cX0_areAnswers 18 = .ok (.iconst 2, 1) := dk_5 (dk_at dksX0_areAnswers_0 18 rfl rfl)
theorem dX0_areAnswers_19 : decode cX0_areAnswers 19 = .ok (.iload_n 1, 1) := dk_27 (dk_at dksX0_areAnswers_0 19 rfl rfl)
theorem dX0_areAnswers_20 : decode cX0_areAnswers 20 = .ok (.iconst 2, 1) := dk_5 (dk_at dksX0_areAnswers_0 20 rfl rfl)
theorem dX0_areAnswers_21 : decode cX0_areAnswers 21 = .ok (.invokevirtual 178, 3) := dk_182 0 178 (dk_at dksX0_areAnswers_0 21 rfl rfl)
theorem dX0_areAnswers_24 : decode cX0_areAnswers 24 = .ok (.lstore 7, 2) := dk_55 7 (dk_at dksX0_areAnswers_1 0 rfl rfl)
theorem dX0_areAnswers_26 : decode cX0_areAnswers 26 = .ok (.lload_n 3, 1) := dk_33 (dk_at dksX0_areAnswers_1 2 rfl rfl)
theorem dX0_areAnswers_27 : decode cX0_areAnswers 27 = .ok (.invokestatic 67, 3) := dk_184 0 67 (dk_at dksX0_areAnswers_1 3 rfl rfl)
theorem dX0_areAnswers_30 : decode cX0_areAnswers 30 = .ok (.ldc2_w 45, 3) := dk_20 0 45 (dk_at dksX0_areAnswers_1 6 rfl rfl)
theorem dX0_areAnswers_33 : decode cX0_areAnswers 33 = .ok (.lcmp, 1) := dk_148 (dk_at dksX0_areAnswers_1 9 rfl rfl)
theorem dX0_areAnswers_34 : decode cX0_areAnswers 34 = .ok (.ifCond .gt 93, 3) := dk_157 0 93 (dk_at dksX0_areAnswers_1 10 rfl rfl)
theorem dX0_areAnswers_37 : decode cX0_areAnswers 37 = .ok (.lload 5, 2) := dk_22 5 (dk_at dksX0_areAnswers_1 13 rfl rfl)
theorem dX0_areAnswers_39 : decode cX0_areAnswers 39 = .ok (.invokestatic 67, 3) := dk_184 0 67 (dk_at dksX0_areAnswers_1 15 rfl rfl)
theorem dX0_areAnswers_42 : decode cX0_areAnswers 42 = .ok (.ldc2_w 45, 3) := dk_20 0 45 (dk_at dksX0_areAnswers_1 18 rfl rfl)
theorem dX0_areAnswers_45 : decode cX0_areAnswers 45 = .ok (.lcmp, 1) := dk_148 (dk_at dksX0_areAnswers_1 21 rfl rfl)
theorem dX0_areAnswers_46 : decode cX0_areAnswers 46 = .ok (.ifCond .gt 81, 3) := dk_157 0 81 (dk_at dksX0_areAnswers_2 0 rfl rfl)
theorem dX0_areAnswers_49 : decode cX0_areAnswers 49 = .ok (.lload 7, 2) := dk_22 7 (dk_at dksX0_areAnswers_2 3 rfl rfl)
theorem dX0_areAnswers_51 : decode cX0_areAnswers 51 = .ok (.ldc2_w 43, 3) := dk_20 0 43 (dk_at dksX0_areAnswers_2 5 rfl rfl)
theorem dX0_areAnswers_54 : decode cX0_areAnswers 54 = .ok (.lcmp, 1) := dk_148 (dk_at dksX0_areAnswers_2 8 rfl rfl)
theorem dX0_areAnswers_55 : decode cX0_areAnswers 55 = .ok (.ifCond .le 72, 3) := dk_158 0 72 (dk_at dksX0_areAnswers_2 9 rfl rfl)
theorem dX0_areAnswers_58 : decode cX0_areAnswers 58 = .ok (.lload_n 3, 1) := dk_33 (dk_at dksX0_areAnswers_2 12 rfl rfl)
theorem dX0_areAnswers_59 : decode cX0_areAnswers 59 = .ok (.lload_n 3, 1) := dk_33 (dk_at dksX0_areAnswers_2 13 rfl rfl)
theorem dX0_areAnswers_60 : decode cX0_areAnswers 60 = .ok (.lmul, 1) := dk_105 (dk_at dksX0_areAnswers_2 14 rfl rfl)
theorem dX0_areAnswers_61 : decode cX0_areAnswers 61 = .ok (.lload 5, 2) := dk_22 5 (dk_at dksX0_areAnswers_2 15 rfl rfl)
theorem dX0_areAnswers_63 : decode cX0_areAnswers 63 = .ok (.lload 5, 2) := dk_22 5 (dk_at dksX0_areAnswers_2 17 rfl rfl)
theorem dX0_areAnswers_65 : decode cX0_areAnswers 65 = .ok (.lmul, 1) := dk_105 (dk_at dksX0_areAnswers_2 19 rfl rfl)
theorem dX0_areAnswers_66 : decode cX0_areAnswers 66 = .ok (.ladd, 1) := dk_97 (dk_at dksX0_areAnswers_2 20 rfl rfl)
theorem dX0_areAnswers_67 : decode cX0_areAnswers 67 = .ok (.ldc2_w 182, 3) := dk_20 0 182 (dk_at dksX0_areAnswers_2 21 rfl rfl)
theorem dX0_areAnswers_70 : decode cX0_areAnswers 70 = .ok (.ldc2_w 143, 3) := dk_20 0 143 (dk_at dksX0_areAnswers_3 0 rfl rfl)
theorem dX0_areAnswers_73 : decode cX0_areAnswers 73 = .ok (.lload_n 3, 1) := dk_33 (dk_at dksX0_areAnswers_3 3 rfl rfl)
theorem dX0_areAnswers_74 : decode cX0_areAnswers 74 = .ok (.invokestatic 67, 3) := dk_184 0 67 (dk_at dksX0_areAnswers_3 4 rfl rfl)
theorem dX0_areAnswers_77 : decode cX0_areAnswers 77 = .ok (.lload 5, 2) := dk_22 5 (dk_at dksX0_areAnswers_3 7 rfl rfl)
theorem dX0_areAnswers_79 : decode cX0_areAnswers 79 = .ok (.invokestatic 67, 3) := dk_184 0 67 (dk_at dksX0_areAnswers_3 9 rfl rfl)
theorem dX0_areAnswers_82 : decode cX0_areAnswers 82 = .ok (.ladd, 1) := dk_97 (dk_at dksX0_areAnswers_3 12 rfl rfl)
theorem dX0_areAnswers_83 : decode cX0_areAnswers 83 = .ok (.lmul, 1) := dk_105 (dk_at dksX0_areAnswers_3 13 rfl rfl)
theorem dX0_areAnswers_84 : decode cX0_areAnswers 84 = .ok (.ldc2_w 143, 3) := dk_20 0 143 (dk_at dksX0_areAnswers_3 14 rfl rfl)
theorem dX0_areAnswers_87 : decode cX0_areAnswers 87 = .ok (.ladd, 1) := dk_97 (dk_at dksX0_areAnswers_3 17 rfl rfl)
theorem dX0_areAnswers_88 : decode cX0_areAnswers 88 = .ok (.invokestatic 184, 3) := dk_184 0 184 (dk_at dksX0_areAnswers_3 18 rfl rfl)
theorem dX0_areAnswers_91 : decode cX0_areAnswers 91 = .ok (.ifCond .eq 36, 3) := dk_153 0 36 (dk_at dksX0_areAnswers_3 21 rfl rfl)
theorem dX0_areAnswers_94 : decode cX0_areAnswers 94 = .ok (.aload_n 0, 1) := dk_42 (dk_at dksX0_areAnswers_4 0 rfl rfl)
theorem dX0_areAnswers_95 : decode cX0_areAnswers 95 = .ok (.iconst 0, 1) := dk_3 (dk_at dksX0_areAnswers_4 1 rfl rfl)
theorem dX0_areAnswers_96 : decode cX0_areAnswers 96 = .ok (.lload_n 3, 1) := dk_33 (dk_at dksX0_areAnswers_4 2 rfl rfl)
theorem dX0_areAnswers_97 : decode cX0_areAnswers 97 = .ok (.invokevirtual 188, 3) := dk_182 0 188 (dk_at dksX0_areAnswers_4 3 rfl rfl)
theorem dX0_areAnswers_100 : decode cX0_areAnswers 100 = .ok (.ifCond .eq 27, 3) := dk_153 0 27 (dk_at dksX0_areAnswers_4 6 rfl rfl)
theorem dX0_areAnswers_103 : decode cX0_areAnswers 103 = .ok (.aload_n 0, 1) := dk_42 (dk_at dksX0_areAnswers_4 9 rfl rfl)
theorem dX0_areAnswers_104 : decode cX0_areAnswers 104 = .ok (.iconst 1, 1) := dk_4 (dk_at dksX0_areAnswers_4 10 rfl rfl)
theorem dX0_areAnswers_105 : decode cX0_areAnswers 105 = .ok (.lload 5, 2) := dk_22 5 (dk_at dksX0_areAnswers_4 11 rfl rfl)
theorem dX0_areAnswers_107 : decode cX0_areAnswers 107 = .ok (.invokevirtual 188, 3) := dk_182 0 188 (dk_at dksX0_areAnswers_4 13 rfl rfl)
theorem dX0_areAnswers_110 : decode cX0_areAnswers 110 = .ok (.ifCond .eq 17, 3) := dk_153 0 17 (dk_at dksX0_areAnswers_4 16 rfl rfl)
theorem dX0_areAnswers_113 : decode cX0_areAnswers 113 = .ok (.aload_n 0, 1) := dk_42 (dk_at dksX0_areAnswers_4 19 rfl rfl)
theorem dX0_areAnswers_114 : decode cX0_areAnswers 114 = .ok (.iconst 2, 1) := dk_5 (dk_at dksX0_areAnswers_4 20 rfl rfl)
theorem dX0_areAnswers_115 : decode cX0_areAnswers 115 = .ok (.lload 7, 2) := dk_22 7 (dk_at dksX0_areAnswers_4 21 rfl rfl)
theorem dX0_areAnswers_117 : decode cX0_areAnswers 117 = .ok (.invokevirtual 188, 3) := dk_182 0 188 (dk_at dksX0_areAnswers_5 0 rfl rfl)
theorem dX0_areAnswers_120 : decode cX0_areAnswers 120 = .ok (.ifCond .eq 7, 3) := dk_153 0 7 (dk_at dksX0_areAnswers_5 3 rfl rfl)
theorem dX0_areAnswers_123 : decode cX0_areAnswers 123 = .ok (.iconst 1, 1) := dk_4 (dk_at dksX0_areAnswers_5 6 rfl rfl)
theorem dX0_areAnswers_124 : decode cX0_areAnswers 124 = .ok (.goto 4, 3) := dk_167 0 4 (dk_at dksX0_areAnswers_5 7 rfl rfl)
theorem dX0_areAnswers_127 : decode cX0_areAnswers 127 = .ok (.iconst 0, 1) := dk_3 (dk_at dksX0_areAnswers_5 10 rfl rfl)
theorem dX0_areAnswers_128 : decode cX0_areAnswers 128 = .ok (.istore 9, 2) := dk_54 9 (dk_at dksX0_areAnswers_5 11 rfl rfl)
theorem dX0_areAnswers_130 : decode cX0_areAnswers 130 = .ok (.lload 7, 2) := dk_22 7 (dk_at dksX0_areAnswers_5 13 rfl rfl)
theorem dX0_areAnswers_132 : decode cX0_areAnswers 132 = .ok (.bipush 18, 2) := dk_16 18 (dk_at dksX0_areAnswers_5 15 rfl rfl)
theorem dX0_areAnswers_134 : decode cX0_areAnswers 134 = .ok (.lshr, 1) := dk_123 (dk_at dksX0_areAnswers_5 17 rfl rfl)
theorem dX0_areAnswers_135 : decode cX0_areAnswers 135 = .ok (.lstore 10, 2) := dk_55 10 (dk_at dksX0_areAnswers_5 18 rfl rfl)
theorem dX0_areAnswers_137 : decode cX0_areAnswers 137 = .ok (.iload 9, 2) := dk_21 9 (dk_at dksX0_areAnswers_5 20 rfl rfl)
theorem dX0_areAnswers_139 : decode cX0_areAnswers 139 = .ok (.ifCond .eq 78, 3) := dk_153 0 78 (dk_at dksX0_areAnswers_6 0 rfl rfl)
theorem dX0_areAnswers_142 : decode cX0_areAnswers 142 = .ok (.lload 10, 2) := dk_22 10 (dk_at dksX0_areAnswers_6 3 rfl rfl)
theorem dX0_areAnswers_144 : decode cX0_areAnswers 144 = .ok (.lload 5, 2) := dk_22 5 (dk_at dksX0_areAnswers_6 5 rfl rfl)
theorem dX0_areAnswers_146 : decode cX0_areAnswers 146 = .ok (.lmul, 1) := dk_105 (dk_at dksX0_areAnswers_6 7 rfl rfl)
theorem dX0_areAnswers_147 : decode cX0_areAnswers 147 = .ok (.lload_n 3, 1) := dk_33 (dk_at dksX0_areAnswers_6 8 rfl rfl)
theorem dX0_areAnswers_148 : decode cX0_areAnswers 148 = .ok (.bipush 12, 2) := dk_16 12 (dk_at dksX0_areAnswers_6 9 rfl rfl)
theorem dX0_areAnswers_150 : decode cX0_areAnswers 150 = .ok (.lshl, 1) := dk_121 (dk_at dksX0_areAnswers_6 11 rfl rfl)
theorem dX0_areAnswers_151 : decode cX0_areAnswers 151 = .ok (.lload 10, 2) := dk_22 10 (dk_at dksX0_areAnswers_6 12 rfl rfl)
theorem dX0_areAnswers_153 : decode cX0_areAnswers 153 = .ok (.invokestatic 67, 3) := dk_184 0 67 (dk_at dksX0_areAnswers_6 14 rfl rfl)
theorem dX0_areAnswers_156 : decode cX0_areAnswers 156 = .ok (.lload 5, 2) := dk_22 5 (dk_at dksX0_areAnswers_6 17 rfl rfl)
theorem dX0_areAnswers_158 : decode cX0_areAnswers 158 = .ok (.invokestatic 67, 3) := dk_184 0 67 (dk_at dksX0_areAnswers_6 19 rfl rfl)
theorem dX0_areAnswers_161 : decode cX0_areAnswers 161 = .ok (.ladd, 1) := dk_97 (dk_at dksX0_areAnswers_6 22 rfl rfl)
theorem dX0_areAnswers_162 : decode cX0_areAnswers 162 = .ok (.ldc2_w 192, 3) := dk_20 0 192 (dk_at dksX0_areAnswers_7 0 rfl rfl)
theorem dX0_areAnswers_165 : decode cX0_areAnswers 165 = .ok (.ladd, 1) := dk_97 (dk_at dksX0_areAnswers_7 3 rfl rfl)
theorem dX0_areAnswers_166 : decode cX0_areAnswers 166 = .ok (.invokestatic 184, 3) := dk_184 0 184 (dk_at dksX0_areAnswers_7 4 rfl rfl)
theorem dX0_areAnswers_169 : decode cX0_areAnswers 169 = .ok (.ifCond .eq 48, 3) := dk_153 0 48 (dk_at dksX0_areAnswers_7 7 rfl rfl)
theorem dX0_areAnswers_172 : decode cX0_areAnswers 172 = .ok (.aload_n 0, 1) := dk_42 (dk_at dksX0_areAnswers_7 10 rfl rfl)
theorem dX0_areAnswers_173 : decode cX0_areAnswers 173 = .ok (.getfield 10, 3) := dk_180 0 10 (dk_at dksX0_areAnswers_7 11 rfl rfl)
theorem dX0_areAnswers_176 : decode cX0_areAnswers 176 = .ok (.iload_n 1, 1) := dk_27 (dk_at dksX0_areAnswers_7 14 rfl rfl)
theorem dX0_areAnswers_177 : decode cX0_areAnswers 177 = .ok (.invokevirtual 194, 3) := dk_182 0 194 (dk_at dksX0_areAnswers_7 15 rfl rfl)
theorem dX0_areAnswers_180 : decode cX0_areAnswers 180 = .ok (.ldc2_w 143, 3) := dk_20 0 143 (dk_at dksX0_areAnswers_7 18 rfl rfl)
theorem dX0_areAnswers_183 : decode cX0_areAnswers 183 = .ok (.aload_n 0, 1) := dk_42 (dk_at dksX0_areAnswers_7 21 rfl rfl)
theorem dX0_areAnswers_184 : decode cX0_areAnswers 184 = .ok (.getfield 10, 3) := dk_180 0 10 (dk_at dksX0_areAnswers_8 0 rfl rfl)
theorem dX0_areAnswers_187 : decode cX0_areAnswers 187 = .ok (.iconst 0, 1) := dk_3 (dk_at dksX0_areAnswers_8 3 rfl rfl)
theorem dX0_areAnswers_188 : decode cX0_areAnswers 188 = .ok (.invokevirtual 169, 3) := dk_182 0 169 (dk_at dksX0_areAnswers_8 4 rfl rfl)
theorem dX0_areAnswers_191 : decode cX0_areAnswers 191 = .ok (.iconst 0, 1) := dk_3 (dk_at dksX0_areAnswers_8 7 rfl rfl)
theorem dX0_areAnswers_192 : decode cX0_areAnswers 192 = .ok (.invokestatic 80, 3) := dk_184 0 80 (dk_at dksX0_areAnswers_8 8 rfl rfl)
theorem dX0_areAnswers_195 : decode cX0_areAnswers 195 = .ok (.lmul, 1) := dk_105 (dk_at dksX0_areAnswers_8 11 rfl rfl)
theorem dX0_areAnswers_196 : decode cX0_areAnswers 196 = .ok (.aload_n 0, 1) := dk_42 (dk_at dksX0_areAnswers_8 12 rfl rfl)
theorem dX0_areAnswers_197 : decode cX0_areAnswers 197 = .ok (.getfield 10, 3) := dk_180 0 10 (dk_at dksX0_areAnswers_8 13 rfl rfl)
theorem dX0_areAnswers_200 : decode cX0_areAnswers 200 = .ok (.iconst 1, 1) := dk_4 (dk_at dksX0_areAnswers_8 16 rfl rfl)
theorem dX0_areAnswers_201 : decode cX0_areAnswers 201 = .ok (.invokevirtual 169, 3) := dk_182 0 169 (dk_at dksX0_areAnswers_8 17 rfl rfl)
theorem dX0_areAnswers_204 : decode cX0_areAnswers 204 = .ok (.iconst 0, 1) := dk_3 (dk_at dksX0_areAnswers_8 20 rfl rfl)
theorem dX0_areAnswers_205 : decode cX0_areAnswers 205 = .ok (.invokestatic 80, 3) := dk_184 0 80 (dk_at dksX0_areAnswers_8 21 rfl rfl)
theorem dX0_areAnswers_208 : decode cX0_areAnswers 208 = .ok (.ladd, 1) := dk_97 (dk_at dksX0_areAnswers_9 0 rfl rfl)
theorem dX0_areAnswers_209 : decode cX0_areAnswers 209 = .ok (.l2i, 1) := dk_136 (dk_at dksX0_areAnswers_9 1 rfl rfl)
theorem dX0_areAnswers_210 : decode cX0_areAnswers 210 = .ok (.if_icmp .ne 7, 3) := dk_160 0 7 (dk_at dksX0_areAnswers_9 2 rfl rfl)
theorem dX0_areAnswers_213 : decode cX0_areAnswers 213 = .ok (.iconst 1, 1) := dk_4 (dk_at dksX0_areAnswers_9 5 rfl rfl)
theorem dX0_areAnswers_214 : decode cX0_areAnswers 214 = .ok (.goto 4, 3) := dk_167 0 4 (dk_at dksX0_areAnswers_9 6 rfl rfl)
theorem dX0_areAnswers_217 : decode cX0_areAnswers 217 = .ok (.iconst 0, 1) := dk_3 (dk_at dksX0_areAnswers_9 9 rfl rfl)
theorem dX0_areAnswers_218 : decode cX0_areAnswers 218 = .ok (.istore 9, 2) := dk_54 9 (dk_at dksX0_areAnswers_9 10 rfl rfl)
theorem dX0_areAnswers_220 : decode cX0_areAnswers 220 = .ok (.aload_n 0, 1) := dk_42 (dk_at dksX0_areAnswers_9 12 rfl rfl)
theorem dX0_areAnswers_221 : decode cX0_areAnswers 221 = .ok (.getfield 10, 3) := dk_180 0 10 (dk_at dksX0_areAnswers_9 13 rfl rfl)
theorem dX0_areAnswers_224 : decode cX0_areAnswers 224 = .ok (.iload_n 1, 1) := dk_27 (dk_at dksX0_areAnswers_9 16 rfl rfl)
theorem dX0_areAnswers_225 : decode cX0_areAnswers 225 = .ok (.invokevirtual 104, 3) := dk_182 0 104 (dk_at dksX0_areAnswers_9 17 rfl rfl)
theorem dX0_areAnswers_228 : decode cX0_areAnswers 228 = .ok (.istore 12, 2) := dk_54 12 (dk_at dksX0_areAnswers_9 20 rfl rfl)
theorem dX0_areAnswers_230 : decode cX0_areAnswers 230 = .ok (.aload_n 0, 1) := dk_42 (dk_at dksX0_areAnswers_9 22 rfl rfl)
theorem dX0_areAnswers_231 : decode cX0_areAnswers 231 = .ok (.getfield 10, 3) := dk_180 0 10 (dk_at dksX0_areAnswers_10 0 rfl rfl)
theorem dX0_areAnswers_234 : decode cX0_areAnswers 234 = .ok (.iload_n 1, 1) := dk_27 (dk_at dksX0_areAnswers_10 3 rfl rfl)
theorem dX0_areAnswers_235 : decode cX0_areAnswers 235 = .ok (.bipush 7, 2) := dk_16 7 (dk_at dksX0_areAnswers_10 4 rfl rfl)
theorem dX0_areAnswers_237 : decode cX0_areAnswers 237 = .ok (.invokevirtual 133, 3) := dk_182 0 133 (dk_at dksX0_areAnswers_10 6 rfl rfl)
theorem dX0_areAnswers_240 : decode cX0_areAnswers 240 = .ok (.pop, 1) := dk_87 (dk_at dksX0_areAnswers_10 9 rfl rfl)
theorem dX0_areAnswers_241 : decode cX0_areAnswers 241 = .ok (.aload_n 0, 1) := dk_42 (dk_at dksX0_areAnswers_10 10 rfl rfl)
theorem dX0_areAnswers_242 : decode cX0_areAnswers 242 = .ok (.getfield 10, 3) := dk_180 0 10 (dk_at dksX0_areAnswers_10 11 rfl rfl)
theorem dX0_areAnswers_245 : decode cX0_areAnswers 245 = .ok (.bipush 7, 2) := dk_16 7 (dk_at dksX0_areAnswers_10 14 rfl rfl)
theorem dX0_areAnswers_247 : decode cX0_areAnswers 247 = .ok (.invokevirtual 149, 3) := dk_182 0 149 (dk_at dksX0_areAnswers_10 16 rfl rfl)
theorem dX0_areAnswers_250 : decode cX0_areAnswers 250 = .ok (.pop, 1) := dk_87 (dk_at dksX0_areAnswers_10 19 rfl rfl)
theorem dX0_areAnswers_251 : decode cX0_areAnswers 251 = .ok (.aload_n 0, 1) := dk_42 (dk_at dksX0_areAnswers_10 20 rfl rfl)
theorem dX0_areAnswers_252 : decode cX0_areAnswers 252 = .ok (.iconst 0, 1) := dk_3 (dk_at dksX0_areAnswers_10 21 rfl rfl)
theorem dX0_areAnswers_253 : decode cX0_areAnswers 253 = .ok (.bipush 7, 2) := dk_16 7 (dk_at dksX0_areAnswers_10 22 rfl rfl)
theorem dX0_areAnswers_255 : decode cX0_areAnswers 255 = .ok (.iconst 3, 1) := dk_6 (dk_at dksX0_areAnswers_11 0 rfl rfl)
theorem dX0_areAnswers_256 : decode cX0_areAnswers 256 = .ok (.invokevirtual 178, 3) := dk_182 0 178 (dk_at dksX0_areAnswers_11 1 rfl rfl)
theorem dX0_areAnswers_259 : decode cX0_areAnswers 259 = .ok (.lstore 13, 2) := dk_55 13 (dk_at dksX0_areAnswers_11 4 rfl rfl)
theorem dX0_areAnswers_261 : decode cX0_areAnswers 261 = .ok (.aload_n 0, 1) := dk_42 (dk_at dksX0_areAnswers_11 6 rfl rfl)
theorem dX0_areAnswers_262 : decode cX0_areAnswers 262 = .ok (.iconst 1, 1) := dk_4 (dk_at dksX0_areAnswers_11 7 rfl rfl)
theorem dX0_areAnswers_263 : decode cX0_areAnswers 263 = .ok (.bipush 7, 2) := dk_16 7 (dk_at dksX0_areAnswers_11 8 rfl rfl)
theorem dX0_areAnswers_265 : decode cX0_areAnswers 265 = .ok (.iconst 4, 1) := dk_7 (dk_at dksX0_areAnswers_11 10 rfl rfl)
theorem dX0_areAnswers_266 : decode cX0_areAnswers 266 = .ok (.invokevirtual 178, 3) := dk_182 0 178 (dk_at dksX0_areAnswers_11 11 rfl rfl)
theorem dX0_areAnswers_269 : decode cX0_areAnswers 269 = .ok (.lstore 15, 2) := dk_55 15 (dk_at dksX0_areAnswers_11 14 rfl rfl)
theorem dX0_areAnswers_271 : decode cX0_areAnswers 271 = .ok (.aload_n 0, 1) := dk_42 (dk_at dksX0_areAnswers_11 16 rfl rfl)
theorem dX0_areAnswers_272 : decode cX0_areAnswers 272 = .ok (.iconst 2, 1) := dk_5 (dk_at dksX0_areAnswers_11 17 rfl rfl)
theorem dX0_areAnswers_273 : decode cX0_areAnswers 273 = .ok (.bipush 7, 2) := dk_16 7 (dk_at dksX0_areAnswers_11 18 rfl rfl)
theorem dX0_areAnswers_275 : decode cX0_areAnswers 275 = .ok (.iconst 5, 1) := dk_8 (dk_at dksX0_areAnswers_11 20 rfl rfl)
theorem dX0_areAnswers_276 : decode cX0_areAnswers 276 = .ok (.invokevirtual 178, 3) := dk_182 0 178 (dk_at dksX0_areAnswers_11 21 rfl rfl)
theorem dX0_areAnswers_279 : decode cX0_areAnswers 279 = .ok (.lstore 17, 2) := dk_55 17 (dk_at dksX0_areAnswers_12 0 rfl rfl)
theorem dX0_areAnswers_281 : decode cX0_areAnswers 281 = .ok (.iload 9, 2) := dk_21 9 (dk_at dksX0_areAnswers_12 2 rfl rfl)
theorem dX0_areAnswers_283 : decode cX0_areAnswers 283 = .ok (.ifCond .eq 108, 3) := dk_153 0 108 (dk_at dksX0_areAnswers_12 4 rfl rfl)
theorem dX0_areAnswers_286 : decode cX0_areAnswers 286 = .ok (.lload 15, 2) := dk_22 15 (dk_at dksX0_areAnswers_12 7 rfl rfl)
theorem dX0_areAnswers_288 : decode cX0_areAnswers 288 = .ok (.lload 5, 2) := dk_22 5 (dk_at dksX0_areAnswers_12 9 rfl rfl)
theorem dX0_areAnswers_290 : decode cX0_areAnswers 290 = .ok (.lcmp, 1) := dk_148 (dk_at dksX0_areAnswers_12 11 rfl rfl)
theorem dX0_areAnswers_291 : decode cX0_areAnswers 291 = .ok (.ifCond .ne 100, 3) := dk_154 0 100 (dk_at dksX0_areAnswers_12 12 rfl rfl)
theorem dX0_areAnswers_294 : decode cX0_areAnswers 294 = .ok (.aload_n 0, 1) := dk_42 (dk_at dksX0_areAnswers_12 15 rfl rfl)
theorem dX0_areAnswers_295 : decode cX0_areAnswers 295 = .ok (.getfield 10, 3) := dk_180 0 10 (dk_at dksX0_areAnswers_12 16 rfl rfl)
theorem dX0_areAnswers_298 : decode cX0_areAnswers 298 = .ok (.iconst 4, 1) := dk_7 (dk_at dksX0_areAnswers_12 19 rfl rfl)
theorem dX0_areAnswers_299 : decode cX0_areAnswers 299 = .ok (.iconst 1, 1) := dk_4 (dk_at dksX0_areAnswers_12 20 rfl rfl)
theorem dX0_areAnswers_300 : decode cX0_areAnswers 300 = .ok (.iload_n 2, 1) := dk_28 (dk_at dksX0_areAnswers_12 21 rfl rfl)
theorem dX0_areAnswers_301 : decode cX0_areAnswers 301 = .ok (.iconst 1, 1) := dk_4 (dk_at dksX0_areAnswers_12 22 rfl rfl)
theorem dX0_areAnswers_302 : decode cX0_areAnswers 302 = .ok (.iand, 1) := dk_126 (dk_at dksX0_areAnswers_12 23 rfl rfl)
theorem dX0_areAnswers_303 : decode cX0_areAnswers 303 = .ok (.invokevirtual 197, 3) := dk_182 0 197 (dk_at dksX0_areAnswers_13 0 rfl rfl)
theorem dX0_areAnswers_306 : decode cX0_areAnswers 306 = .ok (.ifCond .eq 85, 3) := dk_153 0 85 (dk_at dksX0_areAnswers_13 3 rfl rfl)
theorem dX0_areAnswers_309 : decode cX0_areAnswers 309 = .ok (.lload 13, 2) := dk_22 13 (dk_at dksX0_areAnswers_13 6 rfl rfl)
theorem dX0_areAnswers_311 : decode cX0_areAnswers 311 = .ok (.iload 12, 2) := dk_21 12 (dk_at dksX0_areAnswers_13 8 rfl rfl)
theorem dX0_areAnswers_313 : decode cX0_areAnswers 313 = .ok (.ifCond .ne 7, 3) := dk_154 0 7 (dk_at dksX0_areAnswers_13 10 rfl rfl)
theorem dX0_areAnswers_316 : decode cX0_areAnswers 316 = .ok (.lconst 0, 1) := dk_9 (dk_at dksX0_areAnswers_13 13 rfl rfl)
theorem dX0_areAnswers_317 : decode cX0_areAnswers 317 = .ok (.goto 8, 3) := dk_167 0 8 (dk_at dksX0_areAnswers_13 14 rfl rfl)
theorem dX0_areAnswers_320 : decode cX0_areAnswers 320 = .ok (.ldc2_w 200, 3) := dk_20 0 200 (dk_at dksX0_areAnswers_13 17 rfl rfl)
theorem dX0_areAnswers_323 : decode cX0_areAnswers 323 = .ok (.lload_n 3, 1) := dk_33 (dk_at dksX0_areAnswers_13 20 rfl rfl)
theorem dX0_areAnswers_324 : decode cX0_areAnswers 324 = .ok (.lsub, 1) := dk_101 (dk_at dksX0_areAnswers_13 21 rfl rfl)
theorem dX0_areAnswers_325 : decode cX0_areAnswers 325 = .ok (.lcmp, 1) := dk_148 (dk_at dksX0_areAnswers_13 22 rfl rfl)
theorem dX0_areAnswers_326 : decode cX0_areAnswers 326 = .ok (.ifCond .ne 65, 3) := dk_154 0 65 (dk_at dksX0_areAnswers_14 0 rfl rfl)
theorem dX0_areAnswers_329 : decode cX0_areAnswers 329 = .ok (.lload 17, 2) := dk_22 17 (dk_at dksX0_areAnswers_14 3 rfl rfl)
theorem dX0_areAnswers_331 : decode cX0_areAnswers 331 = .ok (.iload 12, 2) := dk_21 12 (dk_at dksX0_areAnswers_14 5 rfl rfl)
theorem dX0_areAnswers_333 : decode cX0_areAnswers 333 = .ok (.ifCond .ne 7, 3) := dk_154 0 7 (dk_at dksX0_areAnswers_14 7 rfl rfl)
theorem dX0_areAnswers_336 : decode cX0_areAnswers 336 = .ok (.lconst 0, 1) := dk_9 (dk_at dksX0_areAnswers_14 10 rfl rfl)
theorem dX0_areAnswers_337 : decode cX0_areAnswers 337 = .ok (.goto 9, 3) := dk_167 0 9 (dk_at dksX0_areAnswers_14 11 rfl rfl)
theorem dX0_areAnswers_340 : decode cX0_areAnswers 340 = .ok (.ldc2_w 200, 3) := dk_20 0 200 (dk_at dksX0_areAnswers_14 14 rfl rfl)
theorem dX0_areAnswers_343 : decode cX0_areAnswers 343 = .ok (.lload 7, 2) := dk_22 7 (dk_at dksX0_areAnswers_14 17 rfl rfl)
theorem dX0_areAnswers_345 : decode cX0_areAnswers 345 = .ok (.lsub, 1) := dk_101 (dk_at dksX0_areAnswers_14 19 rfl rfl)
theorem dX0_areAnswers_346 : decode cX0_areAnswers 346 = .ok (.lcmp, 1) := dk_148 (dk_at dksX0_areAnswers_14 20 rfl rfl)
theorem dX0_areAnswers_347 : decode cX0_areAnswers 347 = .ok (.ifCond .ne 44, 3) := dk_154 0 44 (dk_at dksX0_areAnswers_14 21 rfl rfl)
theorem dX0_areAnswers_350 : decode cX0_areAnswers 350 = .ok (.aload_n 0, 1) := dk_42 (dk_at dksX0_areAnswers_15 0 rfl rfl)
theorem dX0_areAnswers_351 : decode cX0_areAnswers 351 = .ok (.getfield 10, 3) := dk_180 0 10 (dk_at dksX0_areAnswers_15 1 rfl rfl)
theorem dX0_areAnswers_354 : decode cX0_areAnswers 354 = .ok (.iconst 3, 1) := dk_6 (dk_at dksX0_areAnswers_15 4 rfl rfl)
theorem dX0_areAnswers_355 : decode cX0_areAnswers 355 = .ok (.iconst 0, 1) := dk_3 (dk_at dksX0_areAnswers_15 5 rfl rfl)
theorem dX0_areAnswers_356 : decode cX0_areAnswers 356 = .ok (.iconst 0, 1) := dk_3 (dk_at dksX0_areAnswers_15 6 rfl rfl)
theorem dX0_areAnswers_357 : decode cX0_areAnswers 357 = .ok (.invokevirtual 197, 3) := dk_182 0 197 (dk_at dksX0_areAnswers_15 7 rfl rfl)
theorem dX0_areAnswers_360 : decode cX0_areAnswers 360 = .ok (.ifCond .ne 31, 3) := dk_154 0 31 (dk_at dksX0_areAnswers_15 10 rfl rfl)
theorem dX0_areAnswers_363 : decode cX0_areAnswers 363 = .ok (.aload_n 0, 1) := dk_42 (dk_at dksX0_areAnswers_15 13 rfl rfl)
theorem dX0_areAnswers_364 : decode cX0_areAnswers 364 = .ok (.getfield 10, 3) := dk_180 0 10 (dk_at dksX0_areAnswers_15 14 rfl rfl)
theorem dX0_areAnswers_367 : decode cX0_areAnswers 367 = .ok (.iconst 3, 1) := dk_6 (dk_at dksX0_areAnswers_15 17 rfl rfl)
theorem dX0_areAnswers_368 : decode cX0_areAnswers 368 = .ok (.iconst 0, 1) := dk_3 (dk_at dksX0_areAnswers_15 18 rfl rfl)
theorem dX0_areAnswers_369 : decode cX0_areAnswers 369 = .ok (.invokevirtual 202, 3) := dk_182 0 202 (dk_at dksX0_areAnswers_15 19 rfl rfl)
theorem dX0_areAnswers_372 : decode cX0_areAnswers 372 = .ok (.ifCond .ne 19, 3) := dk_154 0 19 (dk_at dksX0_areAnswers_16 0 rfl rfl)
theorem dX0_areAnswers_375 : decode cX0_areAnswers 375 = .ok (.aload_n 0, 1) := dk_42 (dk_at dksX0_areAnswers_16 3 rfl rfl)
theorem dX0_areAnswers_376 : decode cX0_areAnswers 376 = .ok (.getfield 10, 3) := dk_180 0 10 (dk_at dksX0_areAnswers_16 4 rfl rfl)
theorem dX0_areAnswers_379 : decode cX0_areAnswers 379 = .ok (.iconst 5, 1) := dk_8 (dk_at dksX0_areAnswers_16 7 rfl rfl)
theorem dX0_areAnswers_380 : decode cX0_areAnswers 380 = .ok (.iconst 2, 1) := dk_5 (dk_at dksX0_areAnswers_16 8 rfl rfl)
theorem dX0_areAnswers_381 : decode cX0_areAnswers 381 = .ok (.invokevirtual 202, 3) := dk_182 0 202 (dk_at dksX0_areAnswers_16 9 rfl rfl)
theorem dX0_areAnswers_384 : decode cX0_areAnswers 384 = .ok (.ifCond .ne 7, 3) := dk_154 0 7 (dk_at dksX0_areAnswers_16 12 rfl rfl)
theorem dX0_areAnswers_387 : decode cX0_areAnswers 387 = .ok (.iconst 1, 1) := dk_4 (dk_at dksX0_areAnswers_16 15 rfl rfl)
theorem dX0_areAnswers_388 : decode cX0_areAnswers 388 = .ok (.goto 4, 3) := dk_167 0 4 (dk_at dksX0_areAnswers_16 16 rfl rfl)
theorem dX0_areAnswers_391 : decode cX0_areAnswers 391 = .ok (.iconst 0, 1) := dk_3 (dk_at dksX0_areAnswers_16 19 rfl rfl)
theorem dX0_areAnswers_392 : decode cX0_areAnswers 392 = .ok (.istore 9, 2) := dk_54 9 (dk_at dksX0_areAnswers_16 20 rfl rfl)
theorem dX0_areAnswers_394 : decode cX0_areAnswers 394 = .ok (.iload 9, 2) := dk_21 9 (dk_at dksX0_areAnswers_16 22 rfl rfl)
theorem dX0_areAnswers_396 : decode cX0_areAnswers 396 = .ok (.ifCond .eq 110, 3) := dk_153 0 110 (dk_at dksX0_areAnswers_17 0 rfl rfl)
theorem dX0_areAnswers_399 : decode cX0_areAnswers 399 = .ok (.aload_n 0, 1) := dk_42 (dk_at dksX0_areAnswers_17 3 rfl rfl)
theorem dX0_areAnswers_400 : decode cX0_areAnswers 400 = .ok (.getfield 10, 3) := dk_180 0 10 (dk_at dksX0_areAnswers_17 4 rfl rfl)
theorem dX0_areAnswers_403 : decode cX0_areAnswers 403 = .ok (.iconst 3, 1) := dk_6 (dk_at dksX0_areAnswers_17 7 rfl rfl)
theorem dX0_areAnswers_404 : decode cX0_areAnswers 404 = .ok (.invokevirtual 205, 3) := dk_182 0 205 (dk_at dksX0_areAnswers_17 8 rfl rfl)
theorem dX0_areAnswers_407 : decode cX0_areAnswers 407 = .ok (.i2l, 1) := dk_133 (dk_at dksX0_areAnswers_17 11 rfl rfl)
theorem dX0_areAnswers_408 : decode cX0_areAnswers 408 = .ok (.aload_n 0, 1) := dk_42 (dk_at dksX0_areAnswers_17 12 rfl rfl)
theorem dX0_areAnswers_409 : decode cX0_areAnswers 409 = .ok (.getfield 10, 3) := dk_180 0 10 (dk_at dksX0_areAnswers_17 13 rfl rfl)
theorem dX0_areAnswers_412 : decode cX0_areAnswers 412 = .ok (.iconst 0, 1) := dk_3 (dk_at dksX0_areAnswers_17 16 rfl rfl)
theorem dX0_areAnswers_413 : decode cX0_areAnswers 413 = .ok (.invokevirtual 169, 3) := dk_182 0 169 (dk_at dksX0_areAnswers_17 17 rfl rfl)
theorem dX0_areAnswers_416 : decode cX0_areAnswers 416 = .ok (.iconst 0, 1) := dk_3 (dk_at dksX0_areAnswers_17 20 rfl rfl)
theorem dX0_areAnswers_417 : decode cX0_areAnswers 417 = .ok (.invokestatic 80, 3) := dk_184 0 80 (dk_at dksX0_areAnswers_17 21 rfl rfl)
theorem dX0_areAnswers_420 : decode cX0_areAnswers 420 = .ok (.lcmp, 1) := dk_148 (dk_at dksX0_areAnswers_18 0 rfl rfl)
theorem dX0_areAnswers_421 : decode cX0_areAnswers 421 = .ok (.ifCond .ne 85, 3) := dk_154 0 85 (dk_at dksX0_areAnswers_18 1 rfl rfl)
theorem dX0_areAnswers_424 : decode cX0_areAnswers 424 = .ok (.aload_n 0, 1) := dk_42 (dk_at dksX0_areAnswers_18 4 rfl rfl)
theorem dX0_areAnswers_425 : decode cX0_areAnswers 425 = .ok (.getfield 10, 3) := dk_180 0 10 (dk_at dksX0_areAnswers_18 5 rfl rfl)
theorem dX0_areAnswers_428 : decode cX0_areAnswers 428 = .ok (.iconst 3, 1) := dk_6 (dk_at dksX0_areAnswers_18 8 rfl rfl)
theorem dX0_areAnswers_429 : decode cX0_areAnswers 429 = .ok (.iconst 0, 1) := dk_3 (dk_at dksX0_areAnswers_18 9 rfl rfl)
theorem dX0_areAnswers_430 : decode cX0_areAnswers 430 = .ok (.iconst 1, 1) := dk_4 (dk_at dksX0_areAnswers_18 10 rfl rfl)
theorem dX0_areAnswers_431 : decode cX0_areAnswers 431 = .ok (.invokevirtual 197, 3) := dk_182 0 197 (dk_at dksX0_areAnswers_18 11 rfl rfl)
theorem dX0_areAnswers_434 : decode cX0_areAnswers 434 = .ok (.ifCond .eq 72, 3) := dk_153 0 72 (dk_at dksX0_areAnswers_18 14 rfl rfl)
theorem dX0_areAnswers_437 : decode cX0_areAnswers 437 = .ok (.aload_n 0, 1) := dk_42 (dk_at dksX0_areAnswers_18 17 rfl rfl)
theorem dX0_areAnswers_438 : decode cX0_areAnswers 438 = .ok (.getfield 10, 3) := dk_180 0 10 (dk_at dksX0_areAnswers_18 18 rfl rfl)
theorem dX0_areAnswers_441 : decode cX0_areAnswers 441 = .ok (.iconst 5, 1) := dk_8 (dk_at dksX0_areAnswers_18 21 rfl rfl)
theorem dX0_areAnswers_442 : decode cX0_areAnswers 442 = .ok (.invokevirtual 205, 3) := dk_182 0 205 (dk_at dksX0_areAnswers_19 0 rfl rfl)
theorem dX0_areAnswers_445 : decode cX0_areAnswers 445 = .ok (.i2l, 1) := dk_133 (dk_at dksX0_areAnswers_19 3 rfl rfl)
theorem dX0_areAnswers_446 : decode cX0_areAnswers 446 = .ok (.aload_n 0, 1) := dk_42 (dk_at dksX0_areAnswers_19 4 rfl rfl)
theorem dX0_areAnswers_447 : decode cX0_areAnswers 447 = .ok (.getfield 10, 3) := dk_180 0 10 (dk_at dksX0_areAnswers_19 5 rfl rfl)
theorem dX0_areAnswers_450 : decode cX0_areAnswers 450 = .ok (.iconst 2, 1) := dk_5 (dk_at dksX0_areAnswers_19 8 rfl rfl)
theorem dX0_areAnswers_451 : decode cX0_areAnswers 451 = .ok (.invokevirtual 169, 3) := dk_182 0 169 (dk_at dksX0_areAnswers_19 9 rfl rfl)
theorem dX0_areAnswers_454 : decode cX0_areAnswers 454 = .ok (.iconst 0, 1) := dk_3 (dk_at dksX0_areAnswers_19 12 rfl rfl)
theorem dX0_areAnswers_455 : decode cX0_areAnswers 455 = .ok (.invokestatic 80, 3) := dk_184 0 80 (dk_at dksX0_areAnswers_19 13 rfl rfl)
theorem dX0_areAnswers_458 : decode cX0_areAnswers 458 = .ok (.lcmp, 1) := dk_148 (dk_at dksX0_areAnswers_19 16 rfl rfl)
theorem dX0_areAnswers_459 : decode cX0_areAnswers 459 = .ok (.ifCond .ne 47, 3) := dk_154 0 47 (dk_at dksX0_areAnswers_19 17 rfl rfl)
theorem dX0_areAnswers_462 : decode cX0_areAnswers 462 = .ok (.aload_n 0, 1) := dk_42 (dk_at dksX0_areAnswers_19 20 rfl rfl)
theorem dX0_areAnswers_463 : decode cX0_areAnswers 463 = .ok (.getfield 10, 3) := dk_180 0 10 (dk_at dksX0_areAnswers_19 21 rfl rfl)
theorem dX0_areAnswers_466 : decode cX0_areAnswers 466 = .ok (.iconst 5, 1) := dk_8 (dk_at dksX0_areAnswers_20 0 rfl rfl)
theorem dX0_areAnswers_467 : decode cX0_areAnswers 467 = .ok (.iconst 2, 1) := dk_5 (dk_at dksX0_areAnswers_20 1 rfl rfl)
theorem dX0_areAnswers_468 : decode cX0_areAnswers 468 = .ok (.iconst 2, 1) := dk_5 (dk_at dksX0_areAnswers_20 2 rfl rfl)
theorem dX0_areAnswers_469 : decode cX0_areAnswers 469 = .ok (.invokevirtual 197, 3) := dk_182 0 197 (dk_at dksX0_areAnswers_20 3 rfl rfl)
theorem dX0_areAnswers_472 : decode cX0_areAnswers 472 = .ok (.ifCond .eq 34, 3) := dk_153 0 34 (dk_at dksX0_areAnswers_20 6 rfl rfl)
theorem dX0_areAnswers_475 : decode cX0_areAnswers 475 = .ok (.aload_n 0, 1) := dk_42 (dk_at dksX0_areAnswers_20 9 rfl rfl)
theorem dX0_areAnswers_476 : decode cX0_areAnswers 476 = .ok (.getfield 10, 3) := dk_180 0 10 (dk_at dksX0_areAnswers_20 10 rfl rfl)
theorem dX0_areAnswers_479 : decode cX0_areAnswers 479 = .ok (.iconst 3, 1) := dk_6 (dk_at dksX0_areAnswers_20 13 rfl rfl)
theorem dX0_areAnswers_480 : decode cX0_areAnswers 480 = .ok (.iconst 0, 1) := dk_3 (dk_at dksX0_areAnswers_20 14 rfl rfl)
theorem dX0_areAnswers_481 : decode cX0_areAnswers 481 = .ok (.iload_n 1, 1) := dk_27 (dk_at dksX0_areAnswers_20 15 rfl rfl)
theorem dX0_areAnswers_482 : decode cX0_areAnswers 482 = .ok (.invokevirtual 50, 3) := dk_182 0 50 (dk_at dksX0_areAnswers_20 16 rfl rfl)
theorem dX0_areAnswers_485 : decode cX0_areAnswers 485 = .ok (.ifCond .eq 21, 3) := dk_153 0 21 (dk_at dksX0_areAnswers_20 19 rfl rfl)
theorem dX0_areAnswers_488 : decode cX0_areAnswers 488 = .ok (.aload_n 0, 1) := dk_42 (dk_at dksX0_areAnswers_20 22 rfl rfl)
theorem dX0_areAnswers_489 : decode cX0_areAnswers 489 = .ok (.getfield 10, 3) := dk_180 0 10 (dk_at dksX0_areAnswers_21 0 rfl rfl)
theorem dX0_areAnswers_492 : decode cX0_areAnswers 492 = .ok (.iconst 3, 1) := dk_6 (dk_at dksX0_areAnswers_21 3 rfl rfl)
theorem dX0_areAnswers_493 : decode cX0_areAnswers 493 = .ok (.iconst 0, 1) := dk_3 (dk_at dksX0_areAnswers_21 4 rfl rfl)
theorem dX0_areAnswers_494 : decode cX0_areAnswers 494 = .ok (.bipush 7, 2) := dk_16 7 (dk_at dksX0_areAnswers_21 5 rfl rfl)
theorem dX0_areAnswers_496 : decode cX0_areAnswers 496 = .ok (.invokevirtual 50, 3) := dk_182 0 50 (dk_at dksX0_areAnswers_21 7 rfl rfl)
theorem dX0_areAnswers_499 : decode cX0_areAnswers 499 = .ok (.ifCond .ne 7, 3) := dk_154 0 7 (dk_at dksX0_areAnswers_21 10 rfl rfl)
theorem dX0_areAnswers_502 : decode cX0_areAnswers 502 = .ok (.iconst 1, 1) := dk_4 (dk_at dksX0_areAnswers_21 13 rfl rfl)
theorem dX0_areAnswers_503 : decode cX0_areAnswers 503 = .ok (.goto 4, 3) := dk_167 0 4 (dk_at dksX0_areAnswers_21 14 rfl rfl)
theorem dX0_areAnswers_506 : decode cX0_areAnswers 506 = .ok (.iconst 0, 1) := dk_3 (dk_at dksX0_areAnswers_21 17 rfl rfl)
theorem dX0_areAnswers_507 : decode cX0_areAnswers 507 = .ok (.istore 9, 2) := dk_54 9 (dk_at dksX0_areAnswers_21 18 rfl rfl)
theorem dX0_areAnswers_509 : decode cX0_areAnswers 509 = .ok (.iconst 0, 1) := dk_3 (dk_at dksX0_areAnswers_21 20 rfl rfl)
theorem dX0_areAnswers_510 : decode cX0_areAnswers 510 = .ok (.istore 19, 2) := dk_54 19 (dk_at dksX0_areAnswers_21 21 rfl rfl)
theorem dX0_areAnswers_512 : decode cX0_areAnswers 512 = .ok (.iload 19, 2) := dk_21 19 (dk_at dksX0_areAnswers_22 0 rfl rfl)
theorem dX0_areAnswers_514 : decode cX0_areAnswers 514 = .ok (.iconst 3, 1) := dk_6 (dk_at dksX0_areAnswers_22 2 rfl rfl)
theorem dX0_areAnswers_515 : decode cX0_areAnswers 515 = .ok (.if_icmp .ge 70, 3) := dk_162 0 70 (dk_at dksX0_areAnswers_22 3 rfl rfl)
theorem dX0_areAnswers_518 : decode cX0_areAnswers 518 = .ok (.iload 9, 2) := dk_21 9 (dk_at dksX0_areAnswers_22 6 rfl rfl)
theorem dX0_areAnswers_520 : decode cX0_areAnswers 520 = .ok (.ifCond .eq 56, 3) := dk_153 0 56 (dk_at dksX0_areAnswers_22 8 rfl rfl)
theorem dX0_areAnswers_523 : decode cX0_areAnswers 523 = .ok (.aload_n 0, 1) := dk_42 (dk_at dksX0_areAnswers_22 11 rfl rfl)
theorem dX0_areAnswers_524 : decode cX0_areAnswers 524 = .ok (.getfield 10, 3) := dk_180 0 10 (dk_at dksX0_areAnswers_22 12 rfl rfl)
theorem dX0_areAnswers_527 : decode cX0_areAnswers 527 = .ok (.iload_n 1, 1) := dk_27 (dk_at dksX0_areAnswers_22 15 rfl rfl)
theorem dX0_areAnswers_528 : decode cX0_areAnswers 528 = .ok (.iload 19, 2) := dk_21 19 (dk_at dksX0_areAnswers_22 16 rfl rfl)
theorem dX0_areAnswers_530 : decode cX0_areAnswers 530 = .ok (.iload_n 2, 1) := dk_28 (dk_at dksX0_areAnswers_22 18 rfl rfl)
theorem dX0_areAnswers_531 : decode cX0_areAnswers 531 = .ok (.iload 19, 2) := dk_21 19 (dk_at dksX0_areAnswers_22 19 rfl rfl)
theorem dX0_areAnswers_533 : decode cX0_areAnswers 533 = .ok (.ishr, 1) := dk_122 (dk_at dksX0_areAnswers_22 21 rfl rfl)
theorem dX0_areAnswers_534 : decode cX0_areAnswers 534 = .ok (.iconst 3, 1) := dk_6 (dk_at dksX0_areAnswers_22 22 rfl rfl)
theorem dX0_areAnswers_535 : decode cX0_areAnswers 535 = .ok (.invokestatic 94, 3) := dk_184 0 94 (dk_at dksX0_areAnswers_23 0 rfl rfl)
theorem dX0_areAnswers_538 : decode cX0_areAnswers 538 = .ok (.invokevirtual 208, 3) := dk_182 0 208 (dk_at dksX0_areAnswers_23 3 rfl rfl)
theorem dX0_areAnswers_541 : decode cX0_areAnswers 541 = .ok (.ifCond .eq 35, 3) := dk_153 0 35 (dk_at dksX0_areAnswers_23 6 rfl rfl)
theorem dX0_areAnswers_544 : decode cX0_areAnswers 544 = .ok (.aload_n 0, 1) := dk_42 (dk_at dksX0_areAnswers_23 9 rfl rfl)
theorem dX0_areAnswers_545 : decode cX0_areAnswers 545 = .ok (.getfield 10, 3) := dk_180 0 10 (dk_at dksX0_areAnswers_23 10 rfl rfl)
theorem dX0_areAnswers_548 : decode cX0_areAnswers 548 = .ok (.iload 19, 2) := dk_21 19 (dk_at dksX0_areAnswers_23 13 rfl rfl)
theorem dX0_areAnswers_550 : decode cX0_areAnswers 550 = .ok (.iload_n 1, 1) := dk_27 (dk_at dksX0_areAnswers_23 15 rfl rfl)
theorem dX0_areAnswers_551 : decode cX0_areAnswers 551 = .ok (.bipush 7, 2) := dk_16 7 (dk_at dksX0_areAnswers_23 16 rfl rfl)
theorem dX0_areAnswers_553 : decode cX0_areAnswers 553 = .ok (.invokevirtual 211, 3) := dk_182 0 211 (dk_at dksX0_areAnswers_23 18 rfl rfl)
theorem dX0_areAnswers_556 : decode cX0_areAnswers 556 = .ok (.aload_n 0, 1) := dk_42 (dk_at dksX0_areAnswers_23 21 rfl rfl)
theorem dX0_areAnswers_557 : decode cX0_areAnswers 557 = .ok (.getfield 10, 3) := dk_180 0 10 (dk_at dksX0_areAnswers_24 0 rfl rfl)
theorem dX0_areAnswers_560 : decode cX0_areAnswers 560 = .ok (.iload 19, 2) := dk_21 19 (dk_at dksX0_areAnswers_24 3 rfl rfl)
theorem dX0_areAnswers_562 : decode cX0_areAnswers 562 = .ok (.bipush 7, 2) := dk_16 7 (dk_at dksX0_areAnswers_24 5 rfl rfl)
theorem dX0_areAnswers_564 : decode cX0_areAnswers 564 = .ok (.iload_n 1, 1) := dk_27 (dk_at dksX0_areAnswers_24 7 rfl rfl)
theorem dX0_areAnswers_565 : decode cX0_areAnswers 565 = .ok (.invokevirtual 211, 3) := dk_182 0 211 (dk_at dksX0_areAnswers_24 8 rfl rfl)
theorem dX0_areAnswers_568 : decode cX0_areAnswers 568 = .ok (.ineg, 1) := dk_116 (dk_at dksX0_areAnswers_24 11 rfl rfl)
theorem dX0_areAnswers_569 : decode cX0_areAnswers 569 = .ok (.if_icmp .ne 7, 3) := dk_160 0 7 (dk_at dksX0_areAnswers_24 12 rfl rfl)
theorem dX0_areAnswers_572 : decode cX0_areAnswers 572 = .ok (.iconst 1, 1) := dk_4 (dk_at dksX0_areAnswers_24 15 rfl rfl)
theorem dX0_areAnswers_573 : decode cX0_areAnswers 573 = .ok (.goto 4, 3) := dk_167 0 4 (dk_at dksX0_areAnswers_24 16 rfl rfl)
theorem dX0_areAnswers_576 : decode cX0_areAnswers 576 = .ok (.iconst 0, 1) := dk_3 (dk_at dksX0_areAnswers_24 19 rfl rfl)
theorem dX0_areAnswers_577 : decode cX0_areAnswers 577 = .ok (.istore 9, 2) := dk_54 9 (dk_at dksX0_areAnswers_24 20 rfl rfl)
theorem dX0_areAnswers_579 : decode cX0_areAnswers 579 = .ok (.iinc 19 1, 3) := dk_132 19 1 (dk_at dksX0_areAnswers_25 0 rfl rfl)
theorem dX0_areAnswers_582 : decode cX0_areAnswers 582 = .ok (.goto (-70), 3) := dk_167 255 186 (dk_at dksX0_areAnswers_25 3 rfl rfl)
theorem dX0_areAnswers_585 : decode cX0_areAnswers 585 = .ok (.iload 9, 2) := dk_21 9 (dk_at dksX0_areAnswers_25 6 rfl rfl)
theorem dX0_areAnswers_587 : decode cX0_areAnswers 587 = .ok (.ifCond .eq 67, 3) := dk_153 0 67 (dk_at dksX0_areAnswers_25 8 rfl rfl)
theorem dX0_areAnswers_590 : decode cX0_areAnswers 590 = .ok (.aload_n 0, 1) := dk_42 (dk_at dksX0_areAnswers_25 11 rfl rfl)
theorem dX0_areAnswers_591 : decode cX0_areAnswers 591 = .ok (.getfield 10, 3) := dk_180 0 10 (dk_at dksX0_areAnswers_25 12 rfl rfl)
theorem dX0_areAnswers_594 : decode cX0_areAnswers 594 = .ok (.iload_n 1, 1) := dk_27 (dk_at dksX0_areAnswers_25 15 rfl rfl)
theorem dX0_areAnswers_595 : decode cX0_areAnswers 595 = .ok (.iconst 0, 1) := dk_3 (dk_at dksX0_areAnswers_25 16 rfl rfl)
theorem dX0_areAnswers_596 : decode cX0_areAnswers 596 = .ok (.invokevirtual 214, 3) := dk_182 0 214 (dk_at dksX0_areAnswers_25 17 rfl rfl)
theorem dX0_areAnswers_599 : decode cX0_areAnswers 599 = .ok (.ifCond .eq 55, 3) := dk_153 0 55 (dk_at dksX0_areAnswers_25 20 rfl rfl)
theorem dX0_areAnswers_602 : decode cX0_areAnswers 602 = .ok (.aload_n 0, 1) := dk_42 (dk_at dksX0_areAnswers_25 23 rfl rfl)
theorem dX0_areAnswers_603 : decode cX0_areAnswers 603 = .ok (.getfield 10, 3) := dk_180 0 10 (dk_at dksX0_areAnswers_26 0 rfl rfl)
theorem dX0_areAnswers_606 : decode cX0_areAnswers 606 = .ok (.iload_n 1, 1) := dk_27 (dk_at dksX0_areAnswers_26 3 rfl rfl)
theorem dX0_areAnswers_607 : decode cX0_areAnswers 607 = .ok (.iconst 1, 1) := dk_4 (dk_at dksX0_areAnswers_26 4 rfl rfl)
theorem dX0_areAnswers_608 : decode cX0_areAnswers 608 = .ok (.invokevirtual 214, 3) := dk_182 0 214 (dk_at dksX0_areAnswers_26 5 rfl rfl)
theorem dX0_areAnswers_611 : decode cX0_areAnswers 611 = .ok (.ifCond .eq 43, 3) := dk_153 0 43 (dk_at dksX0_areAnswers_26 8 rfl rfl)
theorem dX0_areAnswers_614 : decode cX0_areAnswers 614 = .ok (.aload_n 0, 1) := dk_42 (dk_at dksX0_areAnswers_26 11 rfl rfl)
theorem dX0_areAnswers_615 : decode cX0_areAnswers 615 = .ok (.getfield 10, 3) := dk_180 0 10 (dk_at dksX0_areAnswers_26 12 rfl rfl)
theorem dX0_areAnswers_618 : decode cX0_areAnswers 618 = .ok (.iload_n 1, 1) := dk_27 (dk_at dksX0_areAnswers_26 15 rfl rfl)
theorem dX0_areAnswers_619 : decode cX0_areAnswers 619 = .ok (.invokevirtual 217, 3) := dk_182 0 217 (dk_at dksX0_areAnswers_26 16 rfl rfl)
theorem dX0_areAnswers_622 : decode cX0_areAnswers 622 = .ok (.ifCond .eq 32, 3) := dk_153 0 32 (dk_at dksX0_areAnswers_26 19 rfl rfl)
theorem dX0_areAnswers_625 : decode cX0_areAnswers 625 = .ok (.aload_n 0, 1) := dk_42 (dk_at dksX0_areAnswers_26 22 rfl rfl)
theorem dX0_areAnswers_626 : decode cX0_areAnswers 626 = .ok (.getfield 10, 3) := dk_180 0 10 (dk_at dksX0_areAnswers_27 0 rfl rfl)
theorem dX0_areAnswers_629 : decode cX0_areAnswers 629 = .ok (.iload_n 1, 1) := dk_27 (dk_at dksX0_areAnswers_27 3 rfl rfl)
theorem dX0_areAnswers_630 : decode cX0_areAnswers 630 = .ok (.invokevirtual 221, 3) := dk_182 0 221 (dk_at dksX0_areAnswers_27 4 rfl rfl)
theorem dX0_areAnswers_633 : decode cX0_areAnswers 633 = .ok (.ifCond .eq 21, 3) := dk_153 0 21 (dk_at dksX0_areAnswers_27 7 rfl rfl)
theorem dX0_areAnswers_636 : decode cX0_areAnswers 636 = .ok (.aload_n 0, 1) := dk_42 (dk_at dksX0_areAnswers_27 10 rfl rfl)
theorem dX0_areAnswers_637 : decode cX0_areAnswers 637 = .ok (.getfield 10, 3) := dk_180 0 10 (dk_at dksX0_areAnswers_27 11 rfl rfl)
theorem dX0_areAnswers_640 : decode cX0_areAnswers 640 = .ok (.iconst 1, 1) := dk_4 (dk_at dksX0_areAnswers_27 14 rfl rfl)
theorem dX0_areAnswers_641 : decode cX0_areAnswers 641 = .ok (.iload_n 1, 1) := dk_27 (dk_at dksX0_areAnswers_27 15 rfl rfl)
theorem dX0_areAnswers_642 : decode cX0_areAnswers 642 = .ok (.bipush 7, 2) := dk_16 7 (dk_at dksX0_areAnswers_27 16 rfl rfl)
theorem dX0_areAnswers_644 : decode cX0_areAnswers 644 = .ok (.invokevirtual 211, 3) := dk_182 0 211 (dk_at dksX0_areAnswers_27 18 rfl rfl)
theorem dX0_areAnswers_647 : decode cX0_areAnswers 647 = .ok (.ifCond .ne 7, 3) := dk_154 0 7 (dk_at dksX0_areAnswers_27 21 rfl rfl)
theorem dX0_areAnswers_650 : decode cX0_areAnswers 650 = .ok (.iconst 1, 1) := dk_4 (dk_at dksX0_areAnswers_28 0 rfl rfl)
theorem dX0_areAnswers_651 : decode cX0_areAnswers 651 = .ok (.goto 4, 3) := dk_167 0 4 (dk_at dksX0_areAnswers_28 1 rfl rfl)
theorem dX0_areAnswers_654 : decode cX0_areAnswers 654 = .ok (.iconst 0, 1) := dk_3 (dk_at dksX0_areAnswers_28 4 rfl rfl)
theorem dX0_areAnswers_655 : decode cX0_areAnswers 655 = .ok (.istore 9, 2) := dk_54 9 (dk_at dksX0_areAnswers_28 5 rfl rfl)
theorem dX0_areAnswers_657 : decode cX0_areAnswers 657 = .ok (.aload_n 0, 1) := dk_42 (dk_at dksX0_areAnswers_28 7 rfl rfl)
theorem dX0_areAnswers_658 : decode cX0_areAnswers 658 = .ok (.getfield 10, 3) := dk_180 0 10 (dk_at dksX0_areAnswers_28 8 rfl rfl)
theorem dX0_areAnswers_661 : decode cX0_areAnswers 661 = .ok (.iload_n 1, 1) := dk_27 (dk_at dksX0_areAnswers_28 11 rfl rfl)
theorem dX0_areAnswers_662 : decode cX0_areAnswers 662 = .ok (.bipush 6, 2) := dk_16 6 (dk_at dksX0_areAnswers_28 12 rfl rfl)
theorem dX0_areAnswers_664 : decode cX0_areAnswers 664 = .ok (.invokevirtual 133, 3) := dk_182 0 133 (dk_at dksX0_areAnswers_28 14 rfl rfl)
theorem dX0_areAnswers_667 : decode cX0_areAnswers 667 = .ok (.pop, 1) := dk_87 (dk_at dksX0_areAnswers_28 17 rfl rfl)
theorem dX0_areAnswers_668 : decode cX0_areAnswers 668 = .ok (.aload_n 0, 1) := dk_42 (dk_at dksX0_areAnswers_28 18 rfl rfl)
theorem dX0_areAnswers_669 : decode cX0_areAnswers 669 = .ok (.getfield 10, 3) := dk_180 0 10 (dk_at dksX0_areAnswers_28 19 rfl rfl)
theorem dX0_areAnswers_672 : decode cX0_areAnswers 672 = .ok (.bipush 6, 2) := dk_16 6 (dk_at dksX0_areAnswers_28 22 rfl rfl)
theorem dX0_areAnswers_674 : decode cX0_areAnswers 674 = .ok (.invokevirtual 136, 3) := dk_182 0 136 (dk_at dksX0_areAnswers_29 0 rfl rfl)
theorem dX0_areAnswers_677 : decode cX0_areAnswers 677 = .ok (.istore 19, 2) := dk_54 19 (dk_at dksX0_areAnswers_29 3 rfl rfl)
theorem dX0_areAnswers_679 : decode cX0_areAnswers 679 = .ok (.iload 9, 2) := dk_21 9 (dk_at dksX0_areAnswers_29 5 rfl rfl)
theorem dX0_areAnswers_681 : decode cX0_areAnswers 681 = .ok (.ifCond .eq 91, 3) := dk_153 0 91 (dk_at dksX0_areAnswers_29 7 rfl rfl)
theorem dX0_areAnswers_684 : decode cX0_areAnswers 684 = .ok (.aload_n 0, 1) := dk_42 (dk_at dksX0_areAnswers_29 10 rfl rfl)
theorem dX0_areAnswers_685 : decode cX0_areAnswers 685 = .ok (.getfield 10, 3) := dk_180 0 10 (dk_at dksX0_areAnswers_29 11 rfl rfl)
theorem dX0_areAnswers_688 : decode cX0_areAnswers 688 = .ok (.iload_n 1, 1) := dk_27 (dk_at dksX0_areAnswers_29 14 rfl rfl)
theorem dX0_areAnswers_689 : decode cX0_areAnswers 689 = .ok (.iconst 0, 1) := dk_3 (dk_at dksX0_areAnswers_29 15 rfl rfl)
theorem dX0_areAnswers_690 : decode cX0_areAnswers 690 = .ok (.invokevirtual 224, 3) := dk_182 0 224 (dk_at dksX0_areAnswers_29 16 rfl rfl)
theorem dX0_areAnswers_693 : decode cX0_areAnswers 693 = .ok (.iload 19, 2) := dk_21 19 (dk_at dksX0_areAnswers_29 19 rfl rfl)
theorem dX0_areAnswers_695 : decode cX0_areAnswers 695 = .ok (.bipush (-9), 2) := dk_16 247 (dk_at dksX0_areAnswers_29 21 rfl rfl)
theorem dX0_areAnswers_697 : decode cX0_areAnswers 697 = .ok (.if_icmp .ne 8, 3) := dk_160 0 8 (dk_at dksX0_areAnswers_30 0 rfl rfl)
theorem dX0_areAnswers_700 : decode cX0_areAnswers 700 = .ok (.bipush (-9), 2) := dk_16 247 (dk_at dksX0_areAnswers_30 3 rfl rfl)
theorem dX0_areAnswers_702 : decode cX0_areAnswers 702 = .ok (.goto 4, 3) := dk_167 0 4 (dk_at dksX0_areAnswers_30 5 rfl rfl)
theorem dX0_areAnswers_705 : decode cX0_areAnswers 705 = .ok (.iconst 1, 1) := dk_4 (dk_at dksX0_areAnswers_30 8 rfl rfl)
theorem dX0_areAnswers_706 : decode cX0_areAnswers 706 = .ok (.if_icmp .ne 66, 3) := dk_160 0 66 (dk_at dksX0_areAnswers_30 9 rfl rfl)
theorem dX0_areAnswers_709 : decode cX0_areAnswers 709 = .ok (.aload_n 0, 1) := dk_42 (dk_at dksX0_areAnswers_30 12 rfl rfl)
theorem dX0_areAnswers_710 : decode cX0_areAnswers 710 = .ok (.getfield 10, 3) := dk_180 0 10 (dk_at dksX0_areAnswers_30 13 rfl rfl)
theorem dX0_areAnswers_713 : decode cX0_areAnswers 713 = .ok (.iload_n 1, 1) := dk_27 (dk_at dksX0_areAnswers_30 16 rfl rfl)
theorem dX0_areAnswers_714 : decode cX0_areAnswers 714 = .ok (.iconst 1, 1) := dk_4 (dk_at dksX0_areAnswers_30 17 rfl rfl)
theorem dX0_areAnswers_715 : decode cX0_areAnswers 715 = .ok (.invokevirtual 224, 3) := dk_182 0 224 (dk_at dksX0_areAnswers_30 18 rfl rfl)
theorem dX0_areAnswers_718 : decode cX0_areAnswers 718 = .ok (.iload 19, 2) := dk_21 19 (dk_at dksX0_areAnswers_30 21 rfl rfl)
theorem dX0_areAnswers_720 : decode cX0_areAnswers 720 = .ok (.bipush (-9), 2) := dk_16 247 (dk_at dksX0_areAnswers_31 0 rfl rfl)
theorem dX0_areAnswers_722 : decode cX0_areAnswers 722 = .ok (.if_icmp .ne 8, 3) := dk_160 0 8 (dk_at dksX0_areAnswers_31 2 rfl rfl)
theorem dX0_areAnswers_725 : decode cX0_areAnswers 725 = .ok (.bipush (-9), 2) := dk_16 247 (dk_at dksX0_areAnswers_31 5 rfl rfl)
theorem dX0_areAnswers_727 : decode cX0_areAnswers 727 = .ok (.goto 4, 3) := dk_167 0 4 (dk_at dksX0_areAnswers_31 7 rfl rfl)
theorem dX0_areAnswers_730 : decode cX0_areAnswers 730 = .ok (.iconst 1, 1) := dk_4 (dk_at dksX0_areAnswers_31 10 rfl rfl)
theorem dX0_areAnswers_731 : decode cX0_areAnswers 731 = .ok (.if_icmp .ne 41, 3) := dk_160 0 41 (dk_at dksX0_areAnswers_31 11 rfl rfl)
theorem dX0_areAnswers_734 : decode cX0_areAnswers 734 = .ok (.aload_n 0, 1) := dk_42 (dk_at dksX0_areAnswers_31 14 rfl rfl)
theorem dX0_areAnswers_735 : decode cX0_areAnswers 735 = .ok (.getfield 10, 3) := dk_180 0 10 (dk_at dksX0_areAnswers_31 15 rfl rfl)
theorem dX0_areAnswers_738 : decode cX0_areAnswers 738 = .ok (.iload_n 1, 1) := dk_27 (dk_at dksX0_areAnswers_31 18 rfl rfl)
theorem dX0_areAnswers_739 : decode cX0_areAnswers 739 = .ok (.iload_n 2, 1) := dk_28 (dk_at dksX0_areAnswers_31 19 rfl rfl)
theorem dX0_areAnswers_740 : decode cX0_areAnswers 740 = .ok (.iconst 1, 1) := dk_4 (dk_at dksX0_areAnswers_31 20 rfl rfl)
theorem dX0_areAnswers_741 : decode cX0_areAnswers 741 = .ok (.iand, 1) := dk_126 (dk_at dksX0_areAnswers_31 21 rfl rfl)
theorem dX0_areAnswers_742 : decode cX0_areAnswers 742 = .ok (.invokevirtual 227, 3) := dk_182 0 227 (dk_at dksX0_areAnswers_32 0 rfl rfl)
theorem dX0_areAnswers_745 : decode cX0_areAnswers 745 = .ok (.iload 12, 2) := dk_21 12 (dk_at dksX0_areAnswers_32 3 rfl rfl)
theorem dX0_areAnswers_747 : decode cX0_areAnswers 747 = .ok (.ldc 107, 2) := dk_18 107 (dk_at dksX0_areAnswers_32 5 rfl rfl)
theorem dX0_areAnswers_749 : decode cX0_areAnswers 749 = .ok (.if_icmp .eq 10, 3) := dk_159 0 10 (dk_at dksX0_areAnswers_32 7 rfl rfl)
theorem dX0_areAnswers_752 : decode cX0_areAnswers 752 = .ok (.iload 12, 2) := dk_21 12 (dk_at dksX0_areAnswers_32 10 rfl rfl)
theorem dX0_areAnswers_754 : decode cX0_areAnswers 754 = .ok (.ldc 109, 2) := dk_18 109 (dk_at dksX0_areAnswers_32 12 rfl rfl)
theorem dX0_areAnswers_756 : decode cX0_areAnswers 756 = .ok (.if_icmp .ne 8, 3) := dk_160 0 8 (dk_at dksX0_areAnswers_32 14 rfl rfl)
theorem dX0_areAnswers_759 : decode cX0_areAnswers 759 = .ok (.bipush (-9), 2) := dk_16 247 (dk_at dksX0_areAnswers_32 17 rfl rfl)
theorem dX0_areAnswers_761 : decode cX0_areAnswers 761 = .ok (.goto 4, 3) := dk_167 0 4 (dk_at dksX0_areAnswers_32 19 rfl rfl)
theorem dX0_areAnswers_764 : decode cX0_areAnswers 764 = .ok (.iconst 1, 1) := dk_4 (dk_at dksX0_areAnswers_32 22 rfl rfl)
theorem dX0_areAnswers_765 : decode cX0_areAnswers 765 = .ok (.if_icmp .ne 7, 3) := dk_160 0 7 (dk_at dksX0_areAnswers_33 0 rfl rfl)
theorem dX0_areAnswers_768 : decode cX0_areAnswers 768 = .ok (.iconst 1, 1) := dk_4 (dk_at dksX0_areAnswers_33 3 rfl rfl)
theorem dX0_areAnswers_769 : decode cX0_areAnswers 769 = .ok (.goto 4, 3) := dk_167 0 4 (dk_at dksX0_areAnswers_33 4 rfl rfl)
theorem dX0_areAnswers_772 : decode cX0_areAnswers 772 = .ok (.iconst 0, 1) := dk_3 (dk_at dksX0_areAnswers_33 7 rfl rfl)
theorem dX0_areAnswers_773 : decode cX0_areAnswers 773 = .ok (.istore 9, 2) := dk_54 9 (dk_at dksX0_areAnswers_33 8 rfl rfl)
theorem dX0_areAnswers_775 : decode cX0_areAnswers 775 = .ok (.iload 19, 2) := dk_21 19 (dk_at dksX0_areAnswers_33 10 rfl rfl)
theorem dX0_areAnswers_777 : decode cX0_areAnswers 777 = .ok (.bipush (-9), 2) := dk_16 247 (dk_at dksX0_areAnswers_33 12 rfl rfl)
theorem dX0_areAnswers_779 : decode cX0_areAnswers 779 = .ok (.if_icmp .ne 6, 3) := dk_160 0 6 (dk_at dksX0_areAnswers_33 14 rfl rfl)
theorem dX0_areAnswers_782 : decode cX0_areAnswers 782 = .ok (.iload 9, 2) := dk_21 9 (dk_at dksX0_areAnswers_33 17 rfl rfl)
theorem dX0_areAnswers_784 : decode cX0_areAnswers 784 = .ok (.ireturn, 1) := dk_172 (dk_at dksX0_areAnswers_33 19 rfl rfl)
theorem dX0_areAnswers_785 : decode cX0_areAnswers 785 = .ok (.ldc2_w 143, 3) := dk_20 0 143 (dk_at dksX0_areAnswers_33 20 rfl rfl)
theorem dX0_areAnswers_788 : decode cX0_areAnswers 788 = .ok (.lload_n 3, 1) := dk_33 (dk_at dksX0_areAnswers_33 23 rfl rfl)
theorem dX0_areAnswers_789 : decode cX0_areAnswers 789 = .ok (.invokestatic 67, 3) := dk_184 0 67 (dk_at dksX0_areAnswers_34 0 rfl rfl)
theorem dX0_areAnswers_792 : decode cX0_areAnswers 792 = .ok (.lload 5, 2) := dk_22 5 (dk_at dksX0_areAnswers_34 3 rfl rfl)
theorem dX0_areAnswers_794 : decode cX0_areAnswers 794 = .ok (.invokestatic 67, 3) := dk_184 0 67 (dk_at dksX0_areAnswers_34 5 rfl rfl)
theorem dX0_areAnswers_797 : decode cX0_areAnswers 797 = .ok (.ladd, 1) := dk_97 (dk_at dksX0_areAnswers_34 8 rfl rfl)
theorem dX0_areAnswers_798 : decode cX0_areAnswers 798 = .ok (.lmul, 1) := dk_105 (dk_at dksX0_areAnswers_34 9 rfl rfl)
theorem dX0_areAnswers_799 : decode cX0_areAnswers 799 = .ok (.ldc2_w 143, 3) := dk_20 0 143 (dk_at dksX0_areAnswers_34 10 rfl rfl)
theorem dX0_areAnswers_802 : decode cX0_areAnswers 802 = .ok (.ladd, 1) := dk_97 (dk_at dksX0_areAnswers_34 13 rfl rfl)
theorem dX0_areAnswers_803 : decode cX0_areAnswers 803 = .ok (.ldc2_w 45, 3) := dk_20 0 45 (dk_at dksX0_areAnswers_34 14 rfl rfl)
theorem dX0_areAnswers_806 : decode cX0_areAnswers 806 = .ok (.ladd, 1) := dk_97 (dk_at dksX0_areAnswers_34 17 rfl rfl)
theorem dX0_areAnswers_807 : decode cX0_areAnswers 807 = .ok (.lstore 20, 2) := dk_55 20 (dk_at dksX0_areAnswers_34 18 rfl rfl)
theorem dX0_areAnswers_809 : decode cX0_areAnswers 809 = .ok (.iload 9, 2) := dk_21 9 (dk_at dksX0_areAnswers_34 20 rfl rfl)
theorem dX0_areAnswers_811 : decode cX0_areAnswers 811 = .ok (.ifCond .eq 66, 3) := dk_153 0 66 (dk_at dksX0_areAnswers_35 0 rfl rfl)
theorem dX0_areAnswers_814 : decode cX0_areAnswers 814 = .ok (.ldc2_w 143, 3) := dk_20 0 143 (dk_at dksX0_areAnswers_35 3 rfl rfl)
theorem dX0_areAnswers_817 : decode cX0_areAnswers 817 = .ok (.lload_n 3, 1) := dk_33 (dk_at dksX0_areAnswers_35 6 rfl rfl)
theorem dX0_areAnswers_818 : decode cX0_areAnswers 818 = .ok (.lmul, 1) := dk_105 (dk_at dksX0_areAnswers_35 7 rfl rfl)
theorem dX0_areAnswers_819 : decode cX0_areAnswers 819 = .ok (.lload 5, 2) := dk_22 5 (dk_at dksX0_areAnswers_35 8 rfl rfl)
theorem dX0_areAnswers_821 : decode cX0_areAnswers 821 = .ok (.lmul, 1) := dk_105 (dk_at dksX0_areAnswers_35 10 rfl rfl)
theorem dX0_areAnswers_822 : decode cX0_areAnswers 822 = .ok (.aload_n 0, 1) := dk_42 (dk_at dksX0_areAnswers_35 11 rfl rfl)
theorem dX0_areAnswers_823 : decode cX0_areAnswers 823 = .ok (.iconst 0, 1) := dk_3 (dk_at dksX0_areAnswers_35 12 rfl rfl)
theorem dX0_areAnswers_824 : decode cX0_areAnswers 824 = .ok (.bipush 6, 2) := dk_16 6 (dk_at dksX0_areAnswers_35 13 rfl rfl)
theorem dX0_areAnswers_826 : decode cX0_areAnswers 826 = .ok (.bipush 6, 2) := dk_16 6 (dk_at dksX0_areAnswers_35 15 rfl rfl)
theorem dX0_areAnswers_828 : decode cX0_areAnswers 828 = .ok (.invokevirtual 178, 3) := dk_182 0 178 (dk_at dksX0_areAnswers_35 17 rfl rfl)
theorem dX0_areAnswers_831 : decode cX0_areAnswers 831 = .ok (.ldc2_w 45, 3) := dk_20 0 45 (dk_at dksX0_areAnswers_35 20 rfl rfl)
theorem dX0_areAnswers_834 : decode cX0_areAnswers 834 = .ok (.lmul, 1) := dk_105 (dk_at dksX0_areAnswers_35 23 rfl rfl)
theorem dX0_areAnswers_835 : decode cX0_areAnswers 835 = .ok (.lload 20, 2) := dk_22 20 (dk_at dksX0_areAnswers_36 0 rfl rfl)
theorem dX0_areAnswers_837 : decode cX0_areAnswers 837 = .ok (.invokestatic 184, 3) := dk_184 0 184 (dk_at dksX0_areAnswers_36 2 rfl rfl)
theorem dX0_areAnswers_840 : decode cX0_areAnswers 840 = .ok (.ifCond .eq 37, 3) := dk_153 0 37 (dk_at dksX0_areAnswers_36 5 rfl rfl)
theorem dX0_areAnswers_843 : decode cX0_areAnswers 843 = .ok (.lload 5, 2) := dk_22 5 (dk_at dksX0_areAnswers_36 8 rfl rfl)
theorem dX0_areAnswers_845 : decode cX0_areAnswers 845 = .ok (.lload 5, 2) := dk_22 5 (dk_at dksX0_areAnswers_36 10 rfl rfl)
theorem dX0_areAnswers_847 : decode cX0_areAnswers 847 = .ok (.lmul, 1) := dk_105 (dk_at dksX0_areAnswers_36 12 rfl rfl)
theorem dX0_areAnswers_848 : decode cX0_areAnswers 848 = .ok (.lload_n 3, 1) := dk_33 (dk_at dksX0_areAnswers_36 13 rfl rfl)
theorem dX0_areAnswers_849 : decode cX0_areAnswers 849 = .ok (.lload_n 3, 1) := dk_33 (dk_at dksX0_areAnswers_36 14 rfl rfl)
theorem dX0_areAnswers_850 : decode cX0_areAnswers 850 = .ok (.lmul, 1) := dk_105 (dk_at dksX0_areAnswers_36 15 rfl rfl)
theorem dX0_areAnswers_851 : decode cX0_areAnswers 851 = .ok (.lsub, 1) := dk_101 (dk_at dksX0_areAnswers_36 16 rfl rfl)
theorem dX0_areAnswers_852 : decode cX0_areAnswers 852 = .ok (.aload_n 0, 1) := dk_42 (dk_at dksX0_areAnswers_36 17 rfl rfl)
theorem dX0_areAnswers_853 : decode cX0_areAnswers 853 = .ok (.iconst 1, 1) := dk_4 (dk_at dksX0_areAnswers_36 18 rfl rfl)
theorem dX0_areAnswers_854 : decode cX0_areAnswers 854 = .ok (.bipush 6, 2) := dk_16 6 (dk_at dksX0_areAnswers_36 19 rfl rfl)
theorem dX0_areAnswers_856 : decode cX0_areAnswers 856 = .ok (.bipush 7, 2) := dk_16 7 (dk_at dksX0_areAnswers_36 21 rfl rfl)
theorem dX0_areAnswers_858 : decode cX0_areAnswers 858 = .ok (.invokevirtual 178, 3) := dk_182 0 178 (dk_at dksX0_areAnswers_37 0 rfl rfl)
theorem dX0_areAnswers_861 : decode cX0_areAnswers 861 = .ok (.ldc2_w 45, 3) := dk_20 0 45 (dk_at dksX0_areAnswers_37 3 rfl rfl)
theorem dX0_areAnswers_864 : decode cX0_areAnswers 864 = .ok (.lmul, 1) := dk_105 (dk_at dksX0_areAnswers_37 6 rfl rfl)
theorem dX0_areAnswers_865 : decode cX0_areAnswers 865 = .ok (.lload 20, 2) := dk_22 20 (dk_at dksX0_areAnswers_37 7 rfl rfl)
theorem dX0_areAnswers_867 : decode cX0_areAnswers 867 = .ok (.invokestatic 184, 3) := dk_184 0 184 (dk_at dksX0_areAnswers_37 9 rfl rfl)
theorem dX0_areAnswers_870 : decode cX0_areAnswers 870 = .ok (.ifCond .eq 7, 3) := dk_153 0 7 (dk_at dksX0_areAnswers_37 12 rfl rfl)
theorem dX0_areAnswers_873 : decode cX0_areAnswers 873 = .ok (.iconst 1, 1) := dk_4 (dk_at dksX0_areAnswers_37 15 rfl rfl)
theorem dX0_areAnswers_874 : decode cX0_areAnswers 874 = .ok (.goto 4, 3) := dk_167 0 4 (dk_at dksX0_areAnswers_37 16 rfl rfl)
theorem dX0_areAnswers_877 : decode cX0_areAnswers 877 = .ok (.iconst 0, 1) := dk_3 (dk_at dksX0_areAnswers_37 19 rfl rfl)
theorem dX0_areAnswers_878 : decode cX0_areAnswers 878 = .ok (.ireturn, 1) := dk_172 (dk_at dksX0_areAnswers_37 20 rfl rfl)
abbrev cX0_isNear : ByteArray := method_7_code
def yX0_isNear : MethodName := ⟨RX0, "isNear", "(JJJ)Z"⟩
def dkwX0_isNear_0 : List UInt8 := [30, 32, 101, 22, 4, 148, 157, 0, 16, 32, 30, 101, 22, 4, 148, 157, 0, 7, 4, 167, 0, 4, 3, 172]
abbrev dktX0_isNear_0 : List UInt8 := dkwX0_isNear_0 ++ []
theorem dksX0_isNear_0 : cX0_isNear.data.toList.drop 0 = dktX0_isNear_0 := by decide +kernel
theorem dX0_isNear_0 : decode cX0_isNear 0 = .ok (.lload_n 0, 1) := dk_30 (dk_at dksX0_isNear_0 0 rfl rfl)
theorem dX0_isNear_1 : decode cX0_isNear 1 = .ok (.lload_n 2, 1) := dk_32 (dk_at dksX0_isNear_0 1 rfl rfl)
theorem dX0_isNear_2 : decode cX0_isNear 2 = .ok (.lsub, 1) := dk_101 (dk_at dksX0_isNear_0 2 rfl rfl)
theorem dX0_isNear_3 : decode cX0_isNear 3 = .ok (.lload 4, 2) := dk_22 4 (dk_at dksX0_isNear_0 3 rfl rfl)
theorem dX0_isNear_5 : decode cX0_isNear 5 = .ok (.lcmp, 1) := dk_148 (dk_at dksX0_isNear_0 5 rfl rfl)
theorem dX0_isNear_6 : decode cX0_isNear 6 = .ok (.ifCond .gt 16, 3) := dk_157 0 16 (dk_at dksX0_isNear_0 6 rfl rfl)
theorem dX0_isNear_9 : decode cX0_isNear 9 = .ok (.lload_n 2, 1) := dk_32 (dk_at dksX0_isNear_0 9 rfl rfl)
theorem dX0_isNear_10 : decode cX0_isNear 10 = .ok (.lload_n 0, 1) := dk_30 (dk_at dksX0_isNear_0 10 rfl rfl)
theorem dX0_isNear_11 : decode cX0_isNear 11 = .ok (.lsub, 1) := dk_101 (dk_at dksX0_isNear_0 11 rfl rfl)
theorem dX0_isNear_12 : decode cX0_isNear 12 = .ok (.lload 4, 2) := dk_22 4 (dk_at dksX0_isNear_0 12 rfl rfl)
theorem dX0_isNear_14 : decode cX0_isNear 14 = .ok (.lcmp, 1) := dk_148 (dk_at dksX0_isNear_0 14 rfl rfl)
theorem dX0_isNear_15 : decode cX0_isNear 15 = .ok (.ifCond .gt 7, 3) := dk_157 0 7 (dk_at dksX0_isNear_0 15 rfl rfl)
theorem dX0_isNear_18 : decode cX0_isNear 18 = .ok (.iconst 1, 1) := dk_4 (dk_at dksX0_isNear_0 18 rfl rfl)
theorem dX0_isNear_19 : decode cX0_isNear 19 = .ok (.goto 4, 3) := dk_167 0 4 (dk_at dksX0_isNear_0 19 rfl rfl)
theorem dX0_isNear_22 : decode cX0_isNear 22 = .ok (.iconst 0, 1) := dk_3 (dk_at dksX0_isNear_0 22 rfl rfl)
theorem dX0_isNear_23 : decode cX0_isNear 23 = .ok (.ireturn, 1) := dk_172 (dk_at dksX0_isNear_0 23 rfl rfl)
abbrev cX0_areDigits : ByteArray := method_14_code
def yX0_areDigits : MethodName := ⟨RX0, "areDigits", "(IJ)Z"⟩
def dkwX0_areDigits_12 : List UInt8 := [157, 0, 15, 32, 22, 10, 117, 148, 157, 0, 7, 4, 167, 0, 4, 3, 172]
abbrev dktX0_areDigits_12 : List UInt8 := dkwX0_areDigits_12 ++ []
def dkwX0_areDigits_11 : List UInt8 := [22, 10, 32, 148, 157, 0, 35, 32, 22, 12, 148, 157, 0, 28, 167, 0, 21, 22, 12, 117, 10, 101, 32, 148]
abbrev dktX0_areDigits_11 : List UInt8 := dkwX0_areDigits_11 ++ dktX0_areDigits_12
def dkwX0_areDigits_10 : List UInt8 := [21, 9, 153, 0, 61, 21, 8, 16, 238, 164, 0, 54, 21, 8, 16, 18, 162, 0, 47, 21, 5, 154, 0, 20]
abbrev dktX0_areDigits_10 : List UInt8 := dkwX0_areDigits_10 ++ dktX0_areDigits_11
def dkwX0_areDigits_9 : List UInt8 := [156, 0, 8, 22, 10, 167, 0, 17, 20, 0, 45, 21, 7, 133, 97, 10, 97, 21, 8, 121, 10, 101, 55, 12]
abbrev dktX0_areDigits_9 : List UInt8 := dkwX0_areDigits_9 ++ dktX0_areDigits_10
def dkwX0_areDigits_8 : List UInt8 := [133, 97, 21, 8, 116, 123, 167, 0, 13, 20, 0, 45, 21, 7, 133, 97, 21, 8, 121, 55, 10, 21, 8]
abbrev dktX0_areDigits_8 : List UInt8 := dkwX0_areDigits_8 ++ dktX0_areDigits_9
def dkwX0_areDigits_7 : List UInt8 := [154, 0, 12, 21, 7, 154, 0, 7, 4, 167, 0, 4, 3, 172, 21, 8, 156, 0, 17, 20, 0, 45, 21, 7]
abbrev dktX0_areDigits_7 : List UInt8 := dkwX0_areDigits_7 ++ dktX0_areDigits_8
def dkwX0_areDigits_6 : List UInt8 := [3, 54, 9, 132, 10, 4, 167, 255, 213, 21, 6, 154, 0, 25, 21, 9, 153, 0, 18, 32, 9, 148]
abbrev dktX0_areDigits_6 : List UInt8 := dkwX0_areDigits_6 ++ dktX0_areDigits_7
def dkwX0_areDigits_5 : List UInt8 := [180, 0, 10, 27, 21, 10, 182, 0, 172, 21, 7, 16, 30, 21, 10, 100, 122, 160, 0, 7, 4, 167, 0, 4]
abbrev dktX0_areDigits_5 : List UInt8 := dkwX0_areDigits_5 ++ dktX0_areDigits_6
def dkwX0_areDigits_4 : List UInt8 := [167, 0, 4, 3, 54, 9, 3, 54, 10, 21, 10, 16, 30, 162, 0, 42, 21, 9, 153, 0, 28, 42]
abbrev dktX0_areDigits_4 : List UInt8 := dkwX0_areDigits_4 ++ dktX0_areDigits_5
def dkwX0_areDigits_3 : List UInt8 := [182, 0, 175, 21, 5, 16, 31, 120, 21, 6, 16, 20, 120, 128, 21, 7, 16, 10, 122, 128, 160, 0, 7, 4]
abbrev dktX0_areDigits_3 : List UInt8 := dkwX0_areDigits_3 ++ dktX0_areDigits_4
def dkwX0_areDigits_2 : List UInt8 := [54, 8, 25, 4, 5, 184, 0, 80, 21, 7, 16, 10, 122, 133, 148, 154, 0, 35, 42, 180, 0, 10, 27]
abbrev dktX0_areDigits_2 : List UInt8 := dkwX0_areDigits_2 ++ dktX0_areDigits_3
def dkwX0_areDigits_1 : List UInt8 := [184, 0, 80, 136, 54, 6, 42, 180, 0, 10, 27, 16, 30, 182, 0, 172, 54, 7, 21, 6, 17, 3, 255, 100]
abbrev dktX0_areDigits_1 : List UInt8 := dkwX0_areDigits_1 ++ dktX0_areDigits_2
def dkwX0_areDigits_0 : List UInt8 := [42, 180, 0, 10, 27, 182, 0, 169, 58, 4, 25, 4, 3, 184, 0, 80, 136, 54, 5, 25, 4, 4]
abbrev dktX0_areDigits_0 : List UInt8 := dkwX0_areDigits_0 ++ dktX0_areDigits_1
theorem dksX0_areDigits_0 : cX0_areDigits.data.toList.drop 0 = dktX0_areDigits_0 := by decide +kernel
theorem dksX0_areDigits_1 : cX0_areDigits.data.toList.drop 22 = dktX0_areDigits_1 := dk_seg dksX0_areDigits_0 22 rfl rfl
theorem dksX0_areDigits_2 : cX0_areDigits.data.toList.drop 46 = dktX0_areDigits_2 := dk_seg dksX0_areDigits_1 24 rfl rfl
theorem dksX0_areDigits_3 : cX0_areDigits.data.toList.drop 69 = dktX0_areDigits_3 := dk_seg dksX0_areDigits_2 23 rfl rfl
theorem dksX0_areDigits_4 : cX0_areDigits.data.toList.drop 93 = dktX0_areDigits_4 := dk_seg dksX0_areDigits_3 24 rfl rfl
theorem dksX0_areDigits_5 : cX0_areDigits.data.toList.drop 115 = dktX0_areDigits_5 := dk_seg dksX0_areDigits_4 22 rfl rfl
theorem dksX0_areDigits_6 : cX0_areDigits.data.toList.drop 139 = dktX0_areDigits_6 := dk_seg dksX0_areDigits_5 24 rfl rfl
theorem dksX0_areDigits_7 : cX0_areDigits.data.toList.drop 161 = dktX0_areDigits_7 := dk_seg dksX0_areDigits_6 22 rfl rfl
theorem dksX0_areDigits_8 : cX0_areDigits.data.toList.drop 185 = dktX0_areDigits_8 := dk_seg dksX0_areDigits_7 24 rfl rfl
theorem dksX0_areDigits_9 : cX0_areDigits.data.toList.drop 208 = dktX0_areDigits_9 := dk_seg dksX0_areDigits_8 23 rfl rfl
theorem dksX0_areDigits_10 : cX0_areDigits.data.toList.drop 232 = dktX0_areDigits_10 := dk_seg dksX0_areDigits_9 24 rfl rfl
theorem dksX0_areDigits_11 : cX0_areDigits.data.toList.drop 256 = dktX0_areDigits_11 := dk_seg dksX0_areDigits_10 24 rfl rfl
theorem dksX0_areDigits_12 : cX0_areDigits.data.toList.drop 280 = dktX0_areDigits_12 := dk_seg dksX0_areDigits_11 24 rfl rfl
theorem dX0_areDigits_0 : decode cX0_areDigits 0 = .ok (.aload_n 0, 1) := dk_42 (dk_at dksX0_areDigits_0 0 rfl rfl)
theorem dX0_areDigits_1 : decode cX0_areDigits 1 = .ok (.getfield 10, 3) := dk_180 0 10 (dk_at dksX0_areDigits_0 1 rfl rfl)
theorem dX0_areDigits_4 : decode cX0_areDigits 4 = .ok (.iload_n 1, 1) := dk_27 (dk_at dksX0_areDigits_0 4 rfl rfl)
theorem dX0_areDigits_5 : decode cX0_areDigits 5 = .ok (.invokevirtual 169, 3) := dk_182 0 169 (dk_at dksX0_areDigits_0 5 rfl rfl)
theorem dX0_areDigits_8 : decode cX0_areDigits 8 = .ok (.astore 4, 2) := dk_58 4 (dk_at dksX0_areDigits_0 8 rfl rfl)
theorem dX0_areDigits_10 : decode cX0_areDigits 10 = .ok (.aload 4, 2) := dk_25 4 (dk_at dksX0_areDigits_0 10 rfl rfl)
theorem dX0_areDigits_12 : decode cX0_areDigits 12 = .ok (.iconst 0, 1) := dk_3 (dk_at dksX0_areDigits_0 12 rfl rfl)
theorem dX0_areDigits_13 : decode cX0_areDigits 13 = .ok (.invokestatic 80, 3) := dk_184 0 80 (dk_at dksX0_areDigits_0 13 rfl rfl)
theorem dX0_areDigits_16 : decode cX0_areDigits 16 = .ok (.l2i, 1) := dk_136 (dk_at dksX0_areDigits_0 16 rfl rfl)
theorem dX0_areDigits_17 : decode cX0_areDigits 17 = .ok (.istore 5, 2) := dk_54 5 (dk_at dksX0_areDigits_0 17 rfl rfl)
theorem dX0_areDigits_19 : decode cX0_areDigits 19 = .ok (.aload 4, 2) := dk_25 4 (dk_at dksX0_areDigits_0 19 rfl rfl)
theorem dX0_areDigits_21 : decode cX0_areDigits 21 = .ok (.iconst 1, 1) := dk_4 (dk_at dksX0_areDigits_0 21 rfl rfl)
theorem dX0_areDigits_22 : decode cX0_areDigits 22 = .ok (.invokestatic 80, 3) := dk_184 0 80 (dk_at dksX0_areDigits_1 0 rfl rfl)
theorem dX0_areDigits_25 : decode cX0_areDigits 25 = .ok (.l2i, 1) := dk_136 (dk_at dksX0_areDigits_1 3 rfl rfl)
theorem dX0_areDigits_26 : decode cX0_areDigits 26 = .ok (.istore 6, 2) := dk_54 6 (dk_at dksX0_areDigits_1 4 rfl rfl)
theorem dX0_areDigits_28 : decode cX0_areDigits 28 = .ok (.aload_n 0, 1) := dk_42 (dk_at dksX0_areDigits_1 6 rfl rfl)
theorem dX0_areDigits_29 : decode cX0_areDigits 29 = .ok (.getfield 10, 3) := dk_180 0 10 (dk_at dksX0_areDigits_1 7 rfl rfl)
theorem dX0_areDigits_32 : decode cX0_areDigits 32 = .ok (.iload_n 1, 1) := dk_27 (dk_at dksX0_areDigits_1 10 rfl rfl)
theorem dX0_areDigits_33 : decode cX0_areDigits 33 = .ok (.bipush 30, 2) := dk_16 30 (dk_at dksX0_areDigits_1 11 rfl rfl)
theorem dX0_areDigits_35 : decode cX0_areDigits 35 = .ok (.invokevirtual 172, 3) := dk_182 0 172 (dk_at dksX0_areDigits_1 13 rfl rfl)
theorem dX0_areDigits_38 : decode cX0_areDigits 38 = .ok (.istore 7, 2) := dk_54 7 (dk_at dksX0_areDigits_1 16 rfl rfl)
theorem dX0_areDigits_40 : decode cX0_areDigits 40 = .ok (.iload 6, 2) := dk_21 6 (dk_at dksX0_areDigits_1 18 rfl rfl)
theorem dX0_areDigits_42 : decode cX0_areDigits 42 = .ok (.sipush 1023, 3) := dk_17 3 255 (dk_at dksX0_areDigits_1 20 rfl rfl)
theorem dX0_areDigits_45 : decode cX0_areDigits 45 = .ok (.isub, 1) := dk_100 (dk_at dksX0_areDigits_1 23 rfl rfl)
theorem dX0_areDigits_46 : decode cX0_areDigits 46 = .ok (.istore 8, 2) := dk_54 8 (dk_at dksX0_areDigits_2 0 rfl rfl)
theorem dX0_areDigits_48 : decode cX0_areDigits 48 = .ok (.aload 4, 2) := dk_25 4 (dk_at dksX0_areDigits_2 2 rfl rfl)
theorem dX0_areDigits_50 : decode cX0_areDigits 50 = .ok (.iconst 2, 1) := dk_5 (dk_at dksX0_areDigits_2 4 rfl rfl)
theorem dX0_areDigits_51 : decode cX0_areDigits 51 = .ok (.invokestatic 80, 3) := dk_184 0 80 (dk_at dksX0_areDigits_2 5 rfl rfl)
theorem dX0_areDigits_54 : decode cX0_areDigits 54 = .ok (.iload 7, 2) := dk_21 7 (dk_at dksX0_areDigits_2 8 rfl rfl)
theorem dX0_areDigits_56 : decode cX0_areDigits 56 = .ok (.bipush 10, 2) := dk_16 10 (dk_at dksX0_areDigits_2 10 rfl rfl)
theorem dX0_areDigits_58 : decode cX0_areDigits 58 = .ok (.ishr, 1) := dk_122 (dk_at dksX0_areDigits_2 12 rfl rfl)
theorem dX0_areDigits_59 : decode cX0_areDigits 59 = .ok (.i2l, 1) := dk_133 (dk_at dksX0_areDigits_2 13 rfl rfl)
theorem dX0_areDigits_60 : decode cX0_areDigits 60 = .ok (.lcmp, 1) := dk_148 (dk_at dksX0_areDigits_2 14 rfl rfl)
theorem dX0_areDigits_61 : decode cX0_areDigits 61 = .ok (.ifCond .ne 35, 3) := dk_154 0 35 (dk_at dksX0_areDigits_2 15 rfl rfl)
theorem dX0_areDigits_64 : decode cX0_areDigits 64 = .ok (.aload_n 0, 1) := dk_42 (dk_at dksX0_areDigits_2 18 rfl rfl)
theorem dX0_areDigits_65 : decode cX0_areDigits 65 = .ok (.getfield 10, 3) := dk_180 0 10 (dk_at dksX0_areDigits_2 19 rfl rfl)
theorem dX0_areDigits_68 : decode cX0_areDigits 68 = .ok (.iload_n 1, 1) := dk_27 (dk_at dksX0_areDigits_2 22 rfl rfl)
theorem dX0_areDigits_69 : decode cX0_areDigits 69 = .ok (.invokevirtual 175, 3) := dk_182 0 175 (dk_at dksX0_areDigits_3 0 rfl rfl)
theorem dX0_areDigits_72 : decode cX0_areDigits 72 = .ok (.iload 5, 2) := dk_21 5 (dk_at dksX0_areDigits_3 3 rfl rfl)
theorem dX0_areDigits_74 : decode cX0_areDigits 74 = .ok (.bipush 31, 2) := dk_16 31 (dk_at dksX0_areDigits_3 5 rfl rfl)
theorem dX0_areDigits_76 : decode cX0_areDigits 76 = .ok (.ishl, 1) := dk_120 (dk_at dksX0_areDigits_3 7 rfl rfl)
theorem dX0_areDigits_77 : decode cX0_areDigits 77 = .ok (.iload 6, 2) := dk_21 6 (dk_at dksX0_areDigits_3 8 rfl rfl)
theorem dX0_areDigits_79 : decode cX0_areDigits 79 = .ok (.bipush 20, 2) := dk_16 20 (dk_at dksX0_areDigits_3 10 rfl rfl)
theorem dX0_areDigits_81 : decode cX0_areDigits 81 = .ok (.ishl, 1) := dk_120 (dk_at dksX0_areDigits_3 12 rfl rfl)
theorem dX0_areDigits_82 : decode cX0_areDigits 82 = .ok (.ior, 1) := dk_128 (dk_at dksX0_areDigits_3 13 rfl rfl)
theorem dX0_areDigits_83 : decode cX0_areDigits 83 = .ok (.iload 7, 2) := dk_21 7 (dk_at dksX0_areDigits_3 14 rfl rfl)
theorem dX0_areDigits_85 : decode cX0_areDigits 85 = .ok (.bipush 10, 2) := dk_16 10 (dk_at dksX0_areDigits_3 16 rfl rfl)
theorem dX0_areDigits_87 : decode cX0_areDigits 87 = .ok (.ishr, 1) := dk_122 (dk_at dksX0_areDigits_3 18 rfl rfl)
theorem dX0_areDigits_88 : decode cX0_areDigits 88 = .ok (.ior, 1) := dk_128 (dk_at dksX0_areDigits_3 19 rfl rfl)
theorem dX0_areDigits_89 : decode cX0_areDigits 89 = .ok (.if_icmp .ne 7, 3) := dk_160 0 7 (dk_at dksX0_areDigits_3 20 rfl rfl)
theorem dX0_areDigits_92 : decode cX0_areDigits 92 = .ok (.iconst 1, 1) := dk_4 (dk_at dksX0_areDigits_3 23 rfl rfl)
theorem dX0_areDigits_93 : decode cX0_areDigits 93 = .ok (.goto 4, 3) := dk_167 0 4 (dk_at dksX0_areDigits_4 0 rfl rfl)
theorem dX0_areDigits_96 : decode cX0_areDigits 96 = .ok (.iconst 0, 1) := dk_3 (dk_at dksX0_areDigits_4 3 rfl rfl)
theorem dX0_areDigits_97 : decode cX0_areDigits 97 = .ok (.istore 9, 2) := dk_54 9 (dk_at dksX0_areDigits_4 4 rfl rfl)
theorem dX0_areDigits_99 : decode cX0_areDigits 99 = .ok (.iconst 0, 1) := dk_3 (dk_at dksX0_areDigits_4 6 rfl rfl)
theorem dX0_areDigits_100 : decode cX0_areDigits 100 = .ok (.istore 10, 2) := dk_54 10 (dk_at dksX0_areDigits_4 7 rfl rfl)
theorem dX0_areDigits_102 : decode cX0_areDigits 102 = .ok (.iload 10, 2) := dk_21 10 (dk_at dksX0_areDigits_4 9 rfl rfl)
theorem dX0_areDigits_104 : decode cX0_areDigits 104 = .ok (.bipush 30, 2) := dk_16 30 (dk_at dksX0_areDigits_4 11 rfl rfl)
theorem dX0_areDigits_106 : decode cX0_areDigits 106 = .ok (.if_icmp .ge 42, 3) := dk_162 0 42 (dk_at dksX0_areDigits_4 13 rfl rfl)
theorem dX0_areDigits_109 : decode cX0_areDigits 109 = .ok (.iload 9, 2) := dk_21 9 (dk_at dksX0_areDigits_4 16 rfl rfl)
theorem dX0_areDigits_111 : decode cX0_areDigits 111 = .ok (.ifCond .eq 28, 3) := dk_153 0 28 (dk_at dksX0_areDigits_4 18 rfl rfl)
theorem dX0_areDigits_114 : decode cX0_areDigits 114 = .ok (.aload_n 0, 1) := dk_42 (dk_at dksX0_areDigits_4 21 rfl rfl)
theorem dX0_areDigits_115 : decode cX0_areDigits 115 = .ok (.getfield 10, 3) := dk_180 0 10 (dk_at dksX0_areDigits_5 0 rfl rfl)
theorem dX0_areDigits_118 : decode cX0_areDigits 118 = .ok (.iload_n 1, 1) := dk_27 (dk_at dksX0_areDigits_5 3 rfl rfl)
theorem dX0_areDigits_119 : decode cX0_areDigits 119 = .ok (.iload 10, 2) := dk_21 10 (dk_at dksX0_areDigits_5 4 rfl rfl)
theorem dX0_areDigits_121 : decode cX0_areDigits 121 = .ok (.invokevirtual 172, 3) := dk_182 0 172 (dk_at dksX0_areDigits_5 6 rfl rfl)
theorem dX0_areDigits_124 : decode cX0_areDigits 124 = .ok (.iload 7, 2) := dk_21 7 (dk_at dksX0_areDigits_5 9 rfl rfl)
theorem dX0_areDigits_126 : decode cX0_areDigits 126 = .ok (.bipush 30, 2) := dk_16 30 (dk_at dksX0_areDigits_5 11 rfl rfl)
theorem dX0_areDigits_128 : decode cX0_areDigits 128 = .ok (.iload 10, 2) := dk_21 10 (dk_at dksX0_areDigits_5 13 rfl rfl)
theorem dX0_areDigits_130 : decode cX0_areDigits 130 = .ok (.isub, 1) := dk_100 (dk_at dksX0_areDigits_5 15 rfl rfl)
theorem dX0_areDigits_131 : decode cX0_areDigits 131 = .ok (.ishr, 1) := dk_122 (dk_at dksX0_areDigits_5 16 rfl rfl)
theorem dX0_areDigits_132 : decode cX0_areDigits 132 = .ok (.if_icmp .ne 7, 3) := dk_160 0 7 (dk_at dksX0_areDigits_5 17 rfl rfl)
theorem dX0_areDigits_135 : decode cX0_areDigits 135 = .ok (.iconst 1, 1) := dk_4 (dk_at dksX0_areDigits_5 20 rfl rfl)
theorem dX0_areDigits_136 : decode cX0_areDigits 136 = .ok (.goto 4, 3) := dk_167 0 4 (dk_at dksX0_areDigits_5 21 rfl rfl)
theorem dX0_areDigits_139 : decode cX0_areDigits 139 = .ok (.iconst 0, 1) := dk_3 (dk_at dksX0_areDigits_6 0 rfl rfl)
theorem dX0_areDigits_140 : decode cX0_areDigits 140 = .ok (.istore 9, 2) := dk_54 9 (dk_at dksX0_areDigits_6 1 rfl rfl)
theorem dX0_areDigits_142 : decode cX0_areDigits 142 = .ok (.iinc 10 4, 3) := dk_132 10 4 (dk_at dksX0_areDigits_6 3 rfl rfl)
theorem dX0_areDigits_145 : decode cX0_areDigits 145 = .ok (.goto (-43), 3) := dk_167 255 213 (dk_at dksX0_areDigits_6 6 rfl rfl)
theorem dX0_areDigits_148 : decode cX0_areDigits 148 = .ok (.iload 6, 2) := dk_21 6 (dk_at dksX0_areDigits_6 9 rfl rfl)
theorem dX0_areDigits_150 : decode cX0_areDigits 150 = .ok (.ifCond .ne 25, 3) := dk_154 0 25 (dk_at dksX0_areDigits_6 11 rfl rfl)
theorem dX0_areDigits_153 : decode cX0_areDigits 153 = .ok (.iload 9, 2) := dk_21 9 (dk_at dksX0_areDigits_6 14 rfl rfl)
theorem dX0_areDigits_155 : decode cX0_areDigits 155 = .ok (.ifCond .eq 18, 3) := dk_153 0 18 (dk_at dksX0_areDigits_6 16 rfl rfl)
theorem dX0_areDigits_158 : decode cX0_areDigits 158 = .ok (.lload_n 2, 1) := dk_32 (dk_at dksX0_areDigits_6 19 rfl rfl)
theorem dX0_areDigits_159 : decode cX0_areDigits 159 = .ok (.lconst 0, 1) := dk_9 (dk_at dksX0_areDigits_6 20 rfl rfl)
theorem dX0_areDigits_160 : decode cX0_areDigits 160 = .ok (.lcmp, 1) := dk_148 (dk_at dksX0_areDigits_6 21 rfl rfl)
theorem dX0_areDigits_161 : decode cX0_areDigits 161 = .ok (.ifCond .ne 12, 3) := dk_154 0 12 (dk_at dksX0_areDigits_7 0 rfl rfl)
theorem dX0_areDigits_164 : decode cX0_areDigits 164 = .ok (.iload 7, 2) := dk_21 7 (dk_at dksX0_areDigits_7 3 rfl rfl)
theorem dX0_areDigits_166 : decode cX0_areDigits 166 = .ok (.ifCond .ne 7, 3) := dk_154 0 7 (dk_at dksX0_areDigits_7 5 rfl rfl)
theorem dX0_areDigits_169 : decode cX0_areDigits 169 = .ok (.iconst 1, 1) := dk_4 (dk_at dksX0_areDigits_7 8 rfl rfl)
theorem dX0_areDigits_170 : decode cX0_areDigits 170 = .ok (.goto 4, 3) := dk_167 0 4 (dk_at dksX0_areDigits_7 9 rfl rfl)
theorem dX0_areDigits_173 : decode cX0_areDigits 173 = .ok (.iconst 0, 1) := dk_3 (dk_at dksX0_areDigits_7 12 rfl rfl)
theorem dX0_areDigits_174 : decode cX0_areDigits 174 = .ok (.ireturn, 1) := dk_172 (dk_at dksX0_areDigits_7 13 rfl rfl)
theorem dX0_areDigits_175 : decode cX0_areDigits 175 = .ok (.iload 8, 2) := dk_21 8 (dk_at dksX0_areDigits_7 14 rfl rfl)
theorem dX0_areDigits_177 : decode cX0_areDigits 177 = .ok (.ifCond .ge 17, 3) := dk_156 0 17 (dk_at dksX0_areDigits_7 16 rfl rfl)
theorem dX0_areDigits_180 : decode cX0_areDigits 180 = .ok (.ldc2_w 45, 3) := dk_20 0 45 (dk_at dksX0_areDigits_7 19 rfl rfl)
theorem dX0_areDigits_183 : decode cX0_areDigits 183 = .ok (.iload 7, 2) := dk_21 7 (dk_at dksX0_areDigits_7 22 rfl rfl)
theorem dX0_areDigits_185 : decode cX0_areDigits 185 = .ok (.i2l, 1) := dk_133 (dk_at dksX0_areDigits_8 0 rfl rfl)
theorem dX0_areDigits_186 : decode cX0_areDigits 186 = .ok (.ladd, 1) := dk_97 (dk_at dksX0_areDigits_8 1 rfl rfl)
theorem dX0_areDigits_187 : decode cX0_areDigits 187 = .ok (.iload 8, 2) := dk_21 8 (dk_at dksX0_areDigits_8 2 rfl rfl)
theorem dX0_areDigits_189 : decode cX0_areDigits 189 = .ok (.ineg, 1) := dk_116 (dk_at dksX0_areDigits_8 4 rfl rfl)
theorem dX0_areDigits_190 : decode cX0_areDigits 190 = .ok (.lshr, 1) := dk_123 (dk_at dksX0_areDigits_8 5 rfl rfl)
theorem dX0_areDigits_191 : decode cX0_areDigits 191 = .ok (.goto 13, 3) := dk_167 0 13 (dk_at dksX0_areDigits_8 6 rfl rfl)
theorem dX0_areDigits_194 : decode cX0_areDigits 194 = .ok (.ldc2_w 45, 3) := dk_20 0 45 (dk_at dksX0_areDigits_8 9 rfl rfl)
theorem dX0_areDigits_197 : decode cX0_areDigits 197 = .ok (.iload 7, 2) := dk_21 7 (dk_at dksX0_areDigits_8 12 rfl rfl)
theorem dX0_areDigits_199 : decode cX0_areDigits 199 = .ok (.i2l, 1) := dk_133 (dk_at dksX0_areDigits_8 14 rfl rfl)
theorem dX0_areDigits_200 : decode cX0_areDigits 200 = .ok (.ladd, 1) := dk_97 (dk_at dksX0_areDigits_8 15 rfl rfl)
theorem dX0_areDigits_201 : decode cX0_areDigits 201 = .ok (.iload 8, 2) := dk_21 8 (dk_at dksX0_areDigits_8 16 rfl rfl)
theorem dX0_areDigits_203 : decode cX0_areDigits 203 = .ok (.lshl, 1) := dk_121 (dk_at dksX0_areDigits_8 18 rfl rfl)
theorem dX0_areDigits_204 : decode cX0_areDigits 204 = .ok (.lstore 10, 2) := dk_55 10 (dk_at dksX0_areDigits_8 19 rfl rfl)
theorem dX0_areDigits_206 : decode cX0_areDigits 206 = .ok (.iload 8, 2) := dk_21 8 (dk_at dksX0_areDigits_8 21 rfl rfl)
theorem dX0_areDigits_208 : decode cX0_areDigits 208 = .ok (.ifCond .ge 8, 3) := dk_156 0 8 (dk_at dksX0_areDigits_9 0 rfl rfl)
theorem dX0_areDigits_211 : decode cX0_areDigits 211 = .ok (.lload 10, 2) := dk_22 10 (dk_at dksX0_areDigits_9 3 rfl rfl)
theorem dX0_areDigits_213 : decode cX0_areDigits 213 = .ok (.goto 17, 3) := dk_167 0 17 (dk_at dksX0_areDigits_9 5 rfl rfl)
theorem dX0_areDigits_216 : decode cX0_areDigits 216 = .ok (.ldc2_w 45, 3) := dk_20 0 45 (dk_at dksX0_areDigits_9 8 rfl rfl)
theorem dX0_areDigits_219 : decode cX0_areDigits 219 = .ok (.iload 7, 2) := dk_21 7 (dk_at dksX0_areDigits_9 11 rfl rfl)
theorem dX0_areDigits_221 : decode cX0_areDigits 221 = .ok (.i2l, 1) := dk_133 (dk_at dksX0_areDigits_9 13 rfl rfl)
theorem dX0_areDigits_222 : decode cX0_areDigits 222 = .ok (.ladd, 1) := dk_97 (dk_at dksX0_areDigits_9 14 rfl rfl)
theorem dX0_areDigits_223 : decode cX0_areDigits 223 = .ok (.lconst 1, 1) := dk_10 (dk_at dksX0_areDigits_9 15 rfl rfl)
theorem dX0_areDigits_224 : decode cX0_areDigits 224 = .ok (.ladd, 1) := dk_97 (dk_at dksX0_areDigits_9 16 rfl rfl)
theorem dX0_areDigits_225 : decode cX0_areDigits 225 = .ok (.iload 8, 2) := dk_21 8 (dk_at dksX0_areDigits_9 17 rfl rfl)
theorem dX0_areDigits_227 : decode cX0_areDigits 227 = .ok (.lshl, 1) := dk_121 (dk_at dksX0_areDigits_9 19 rfl rfl)
theorem dX0_areDigits_228 : decode cX0_areDigits 228 = .ok (.lconst 1, 1) := dk_10 (dk_at dksX0_areDigits_9 20 rfl rfl)
theorem dX0_areDigits_229 : decode cX0_areDigits 229 = .ok (.lsub, 1) := dk_101 (dk_at dksX0_areDigits_9 21 rfl rfl)
theorem dX0_areDigits_230 : decode cX0_areDigits 230 = .ok (.lstore 12, 2) := dk_55 12 (dk_at dksX0_areDigits_9 22 rfl rfl)
theorem dX0_areDigits_232 : decode cX0_areDigits 232 = .ok (.iload 9, 2) := dk_21 9 (dk_at dksX0_areDigits_10 0 rfl rfl)
theorem dX0_areDigits_234 : decode cX0_areDigits 234 = .ok (.ifCond .eq 61, 3) := dk_153 0 61 (dk_at dksX0_areDigits_10 2 rfl rfl)
theorem dX0_areDigits_237 : decode cX0_areDigits 237 = .ok (.iload 8, 2) := dk_21 8 (dk_at dksX0_areDigits_10 5 rfl rfl)
theorem dX0_areDigits_239 : decode cX0_areDigits 239 = .ok (.bipush (-18), 2) := dk_16 238 (dk_at dksX0_areDigits_10 7 rfl rfl)
theorem dX0_areDigits_241 : decode cX0_areDigits 241 = .ok (.if_icmp .le 54, 3) := dk_164 0 54 (dk_at dksX0_areDigits_10 9 rfl rfl)
theorem dX0_areDigits_244 : decode cX0_areDigits 244 = .ok (.iload 8, 2) := dk_21 8 (dk_at dksX0_areDigits_10 12 rfl rfl)
theorem dX0_areDigits_246 : decode cX0_areDigits 246 = .ok (.bipush 18, 2) := dk_16 18 (dk_at dksX0_areDigits_10 14 rfl rfl)
theorem dX0_areDigits_248 : decode cX0_areDigits 248 = .ok (.if_icmp .ge 47, 3) := dk_162 0 47 (dk_at dksX0_areDigits_10 16 rfl rfl)
theorem dX0_areDigits_251 : decode cX0_areDigits 251 = .ok (.iload 5, 2) := dk_21 5 (dk_at dksX0_areDigits_10 19 rfl rfl)
theorem dX0_areDigits_253 : decode cX0_areDigits 253 = .ok (.ifCond .ne 20, 3) := dk_154 0 20 (dk_at dksX0_areDigits_10 21 rfl rfl)
theorem dX0_areDigits_256 : decode cX0_areDigits 256 = .ok (.lload 10, 2) := dk_22 10 (dk_at dksX0_areDigits_11 0 rfl rfl)
theorem dX0_areDigits_258 : decode cX0_areDigits 258 = .ok (.lload_n 2, 1) := dk_32 (dk_at dksX0_areDigits_11 2 rfl rfl)
theorem dX0_areDigits_259 : decode cX0_areDigits 259 = .ok (.lcmp, 1) := dk_148 (dk_at dksX0_areDigits_11 3 rfl rfl)
theorem dX0_areDigits_260 : decode cX0_areDigits 260 = .ok (.ifCond .gt 35, 3) := dk_157 0 35 (dk_at dksX0_areDigits_11 4 rfl rfl)
theorem dX0_areDigits_263 : decode cX0_areDigits 263 = .ok (.lload_n 2, 1) := dk_32 (dk_at dksX0_areDigits_11 7 rfl rfl)
theorem dX0_areDigits_264 : decode cX0_areDigits 264 = .ok (.lload 12, 2) := dk_22 12 (dk_at dksX0_areDigits_11 8 rfl rfl)
theorem dX0_areDigits_266 : decode cX0_areDigits 266 = .ok (.lcmp, 1) := dk_148 (dk_at dksX0_areDigits_11 10 rfl rfl)
theorem dX0_areDigits_267 : decode cX0_areDigits 267 = .ok (.ifCond .gt 28, 3) := dk_157 0 28 (dk_at dksX0_areDigits_11 11 rfl rfl)
theorem dX0_areDigits_270 : decode cX0_areDigits 270 = .ok (.goto 21, 3) := dk_167 0 21 (dk_at dksX0_areDigits_11 14 rfl rfl)
theorem dX0_areDigits_273 : decode cX0_areDigits 273 = .ok (.lload 12, 2) := dk_22 12 (dk_at dksX0_areDigits_11 17 rfl rfl)
theorem dX0_areDigits_275 : decode cX0_areDigits 275 = .ok (.lneg, 1) := dk_117 (dk_at dksX0_areDigits_11 19 rfl rfl)
theorem dX0_areDigits_276 : decode cX0_areDigits 276 = .ok (.lconst 1, 1) := dk_10 (dk_at dksX0_areDigits_11 20 rfl rfl)
theorem dX0_areDigits_277 : decode cX0_areDigits 277 = .ok (.lsub, 1) := dk_101 (dk_at dksX0_areDigits_11 21 rfl rfl)
theorem dX0_areDigits_278 : decode cX0_areDigits 278 = .ok (.lload_n 2, 1) := dk_32 (dk_at dksX0_areDigits_11 22 rfl rfl)
theorem dX0_areDigits_279 : decode cX0_areDigits 279 = .ok (.lcmp, 1) := dk_148 (dk_at dksX0_areDigits_11 23 rfl rfl)
theorem dX0_areDigits_280 : decode cX0_areDigits 280 = .ok (.ifCond .gt 15, 3) := dk_157 0 15 (dk_at dksX0_areDigits_12 0 rfl rfl)
theorem dX0_areDigits_283 : decode cX0_areDigits 283 = .ok (.lload_n 2, 1) := dk_32 (dk_at dksX0_areDigits_12 3 rfl rfl)
theorem dX0_areDigits_284 : decode cX0_areDigits 284 = .ok (.lload 10, 2) := dk_22 10 (dk_at dksX0_areDigits_12 4 rfl rfl)
theorem dX0_areDigits_286 : decode cX0_areDigits 286 = .ok (.lneg, 1) := dk_117 (dk_at dksX0_areDigits_12 6 rfl rfl)
theorem dX0_areDigits_287 : decode cX0_areDigits 287 = .ok (.lcmp, 1) := dk_148 (dk_at dksX0_areDigits_12 7 rfl rfl)
theorem dX0_areDigits_288 : decode cX0_areDigits 288 = .ok (.ifCond .gt 7, 3) := dk_157 0 7 (dk_at dksX0_areDigits_12 8 rfl rfl)
theorem dX0_areDigits_291 : decode cX0_areDigits 291 = .ok (.iconst 1, 1) := dk_4 (dk_at dksX0_areDigits_12 11 rfl rfl)
theorem dX0_areDigits_292 : decode cX0_areDigits 292 = .ok (.goto 4, 3) := dk_167 0 4 (dk_at dksX0_areDigits_12 12 rfl rfl)
theorem dX0_areDigits_295 : decode cX0_areDigits 295 = .ok (.iconst 0, 1) := dk_3 (dk_at dksX0_areDigits_12 15 rfl rfl)
theorem dX0_areDigits_296 : decode cX0_areDigits 296 = .ok (.ireturn, 1) := dk_172 (dk_at dksX0_areDigits_12 16 rfl rfl)
abbrev cX0_areSums : ByteArray := method_16_code
def yX0_areSums : MethodName := ⟨RX0, "areSums", "(II)Z"⟩
def dkwX0_areSums_12 : List UInt8 := [153, 0, 7, 4, 167, 0, 4, 3, 172]
abbrev dktX0_areSums_12 : List UInt8 := dkwX0_areSums_12 ++ []
def dkwX0_areSums_11 : List UInt8 := [160, 0, 31, 42, 180, 0, 10, 16, 7, 182, 0, 217, 153, 0, 19, 42, 180, 0, 10, 16, 7, 182, 0, 221]
abbrev dktX0_areSums_11 : List UInt8 := dkwX0_areSums_11 ++ dktX0_areSums_12
def dkwX0_areSums_10 : List UInt8 := [160, 0, 54, 42, 180, 0, 10, 4, 27, 28, 182, 0, 211, 42, 180, 0, 10, 4, 6, 4, 182, 0, 230]
abbrev dktX0_areSums_10 : List UInt8 := dkwX0_areSums_10 ++ dktX0_areSums_11
def dkwX0_areSums_9 : List UInt8 := [153, 0, 77, 42, 180, 0, 10, 3, 27, 28, 182, 0, 211, 42, 180, 0, 10, 3, 5, 3, 182, 0, 230]
abbrev dktX0_areSums_9 : List UInt8 := dkwX0_areSums_9 ++ dktX0_areSums_10
def dkwX0_areSums_8 : List UInt8 := [182, 0, 178, 20, 0, 45, 105, 22, 11, 184, 0, 184, 153, 0, 7, 4, 167, 0, 4, 3, 54, 13, 21, 13]
abbrev dktX0_areSums_8 : List UInt8 := dkwX0_areSums_8 ++ dktX0_areSums_9
def dkwX0_areSums_7 : List UInt8 := [22, 11, 184, 0, 184, 153, 0, 37, 22, 5, 22, 9, 105, 33, 22, 7, 105, 101, 42, 4, 16, 7, 8]
abbrev dktX0_areSums_7 : List UInt8 := dkwX0_areSums_7 ++ dktX0_areSums_8
def dkwX0_areSums_6 : List UInt8 := [55, 11, 33, 22, 9, 105, 22, 5, 22, 7, 105, 97, 42, 3, 16, 7, 7, 182, 0, 178, 20, 0, 45, 105]
abbrev dktX0_areSums_6 : List UInt8 := dkwX0_areSums_6 ++ dktX0_areSums_7
def dkwX0_areSums_5 : List UInt8 := [184, 0, 67, 97, 22, 7, 184, 0, 67, 97, 22, 9, 184, 0, 67, 97, 20, 0, 143, 97, 20, 0, 45, 97]
abbrev dktX0_areSums_5 : List UInt8 := dkwX0_areSums_5 ++ dktX0_areSums_6
def dkwX0_areSums_4 : List UInt8 := [42, 3, 28, 5, 182, 0, 178, 55, 7, 42, 4, 28, 6, 182, 0, 178, 55, 9, 33, 184, 0, 67, 22, 5]
abbrev dktX0_areSums_4 : List UInt8 := dkwX0_areSums_4 ++ dktX0_areSums_5
def dkwX0_areSums_3 : List UInt8 := [97, 148, 153, 0, 5, 3, 172, 42, 3, 27, 3, 182, 0, 178, 66, 42, 4, 27, 4, 182, 0, 178, 55, 5]
abbrev dktX0_areSums_3 : List UInt8 := dkwX0_areSums_3 ++ dktX0_areSums_4
def dkwX0_areSums_2 : List UInt8 := [182, 0, 139, 16, 247, 159, 0, 24, 42, 16, 7, 182, 0, 89, 42, 27, 182, 0, 89, 42, 28, 182, 0, 89]
abbrev dktX0_areSums_2 : List UInt8 := dkwX0_areSums_2 ++ dktX0_areSums_3
def dkwX0_areSums_1 : List UInt8 := [16, 7, 182, 0, 139, 16, 247, 160, 0, 7, 4, 167, 0, 4, 3, 172, 42, 180, 0, 10, 27, 28, 16, 7]
abbrev dktX0_areSums_1 : List UInt8 := dkwX0_areSums_1 ++ dktX0_areSums_2
def dkwX0_areSums_0 : List UInt8 := [42, 27, 182, 0, 89, 42, 28, 182, 0, 89, 97, 184, 0, 145, 154, 0, 25, 42, 180, 0, 10, 27, 28]
abbrev dktX0_areSums_0 : List UInt8 := dkwX0_areSums_0 ++ dktX0_areSums_1
theorem dksX0_areSums_0 : cX0_areSums.data.toList.drop 0 = dktX0_areSums_0 := by decide +kernel
theorem dksX0_areSums_1 : cX0_areSums.data.toList.drop 23 = dktX0_areSums_1 := dk_seg dksX0_areSums_0 23 rfl rfl
theorem dksX0_areSums_2 : cX0_areSums.data.toList.drop 47 = dktX0_areSums_2 := dk_seg dksX0_areSums_1 24 rfl rfl
theorem dksX0_areSums_3 : cX0_areSums.data.toList.drop 71 = dktX0_areSums_3 := dk_seg dksX0_areSums_2 24 rfl rfl
theorem dksX0_areSums_4 : cX0_areSums.data.toList.drop 95 = dktX0_areSums_4 := dk_seg dksX0_areSums_3 24 rfl rfl
theorem dksX0_areSums_5 : cX0_areSums.data.toList.drop 119 = dktX0_areSums_5 := dk_seg dksX0_areSums_4 24 rfl rfl
theorem dksX0_areSums_6 : cX0_areSums.data.toList.drop 143 = dktX0_areSums_6 := dk_seg dksX0_areSums_5 24 rfl rfl
theorem dksX0_areSums_7 : cX0_areSums.data.toList.drop 167 = dktX0_areSums_7 := dk_seg dksX0_areSums_6 24 rfl rfl
theorem dksX0_areSums_8 : cX0_areSums.data.toList.drop 190 = dktX0_areSums_8 := dk_seg dksX0_areSums_7 23 rfl rfl
theorem dksX0_areSums_9 : cX0_areSums.data.toList.drop 214 = dktX0_areSums_9 := dk_seg dksX0_areSums_8 24 rfl rfl
theorem dksX0_areSums_10 : cX0_areSums.data.toList.drop 237 = dktX0_areSums_10 := dk_seg dksX0_areSums_9 23 rfl rfl
theorem dksX0_areSums_11 : cX0_areSums.data.toList.drop 260 = dktX0_areSums_11 := dk_seg dksX0_areSums_10 23 rfl rfl
theorem dksX0_areSums_12 : cX0_areSums.data.toList.drop 284 = dktX0_areSums_12 := dk_seg dksX0_areSums_11 24 rfl rfl
theorem dX0_areSums_0 : decode cX0_areSums 0 = .ok (.aload_n 0, 1) := dk_42 (dk_at dksX0_areSums_0 0 rfl rfl)
theorem dX0_areSums_1 : decode cX0_areSums 1 = .ok (.iload_n 1, 1) := dk_27 (dk_at dksX0_areSums_0 1 rfl rfl)
theorem dX0_areSums_2 : decode cX0_areSums 2 = .ok (.invokevirtual 89, 3) := dk_182 0 89 (dk_at dksX0_areSums_0 2 rfl rfl)
theorem dX0_areSums_5 : decode cX0_areSums 5 = .ok (.aload_n 0, 1) := dk_42 (dk_at dksX0_areSums_0 5 rfl rfl)
theorem dX0_areSums_6 : decode cX0_areSums 6 = .ok (.iload_n 2, 1) := dk_28 (dk_at dksX0_areSums_0 6 rfl rfl)
theorem dX0_areSums_7 : decode cX0_areSums 7 = .ok (.invokevirtual 89, 3) := dk_182 0 89 (dk_at dksX0_areSums_0 7 rfl rfl)
theorem dX0_areSums_10 : decode cX0_areSums 10 = .ok (.ladd, 1) := dk_97 (dk_at dksX0_areSums_0 10 rfl rfl)
theorem dX0_areSums_11 : decode cX0_areSums 11 = .ok (.invokestatic 145, 3) := dk_184 0 145 (dk_at dksX0_areSums_0 11 rfl rfl)
theorem dX0_areSums_14 : decode cX0_areSums 14 = .ok (.ifCond .ne 25, 3) := dk_154 0 25 (dk_at dksX0_areSums_0 14 rfl rfl)
theorem dX0_areSums_17 : decode cX0_areSums 17 = .ok (.aload_n 0, 1) := dk_42 (dk_at dksX0_areSums_0 17 rfl rfl)
theorem dX0_areSums_18 : decode cX0_areSums 18 = .ok (.getfield 10, 3) := dk_180 0 10 (dk_at dksX0_areSums_0 18 rfl rfl)
theorem dX0_areSums_21 : decode cX0_areSums 21 = .ok (.iload_n 1, 1) := dk_27 (dk_at dksX0_areSums_0 21 rfl rfl)
theorem dX0_areSums_22 : decode cX0_areSums 22 = .ok (.iload_n 2, 1) := dk_28 (dk_at dksX0_areSums_0 22 rfl rfl)
theorem dX0_areSums_23 : decode cX0_areSums 23 = .ok (.bipush 7, 2) := dk_16 7 (dk_at dksX0_areSums_1 0 rfl rfl)
theorem dX0_areSums_25 : decode cX0_areSums 25 = .ok (.invokevirtual 139, 3) := dk_182 0 139 (dk_at dksX0_areSums_1 2 rfl rfl)
theorem dX0_areSums_28 : decode cX0_areSums 28 = .ok (.bipush (-9), 2) := dk_16 247 (dk_at dksX0_areSums_1 5 rfl rfl)
theorem dX0_areSums_30 : decode cX0_areSums 30 = .ok (.if_icmp .ne 7, 3) := dk_160 0 7 (dk_at dksX0_areSums_1 7 rfl rfl)
theorem dX0_areSums_33 : decode cX0_areSums 33 = .ok (.iconst 1, 1) := dk_4 (dk_at dksX0_areSums_1 10 rfl rfl)
theorem dX0_areSums_34 : decode cX0_areSums 34 = .ok (.goto 4, 3) := dk_167 0 4 (dk_at dksX0_areSums_1 11 rfl rfl)
theorem dX0_areSums_37 : decode cX0_areSums 37 = .ok (.iconst 0, 1) := dk_3 (dk_at dksX0_areSums_1 14 rfl rfl)
theorem dX0_areSums_38 : decode cX0_areSums 38 = .ok (.ireturn, 1) := dk_172 (dk_at dksX0_areSums_1 15 rfl rfl)
theorem dX0_areSums_39 : decode cX0_areSums 39 = .ok (.aload_n 0, 1) := dk_42 (dk_at dksX0_areSums_1 16 rfl rfl)
theorem dX0_areSums_40 : decode cX0_areSums 40 = .ok (.getfield 10, 3) := dk_180 0 10 (dk_at dksX0_areSums_1 17 rfl rfl)
theorem dX0_areSums_43 : decode cX0_areSums 43 = .ok (.iload_n 1, 1) := dk_27 (dk_at dksX0_areSums_1 20 rfl rfl)
theorem dX0_areSums_44 : decode cX0_areSums 44 = .ok (.iload_n 2, 1) := dk_28 (dk_at dksX0_areSums_1 21 rfl rfl)
theorem dX0_areSums_45 : decode cX0_areSums 45 = .ok (.bipush 7, 2) := dk_16 7 (dk_at dksX0_areSums_1 22 rfl rfl)
theorem dX0_areSums_47 : decode cX0_areSums 47 = .ok (.invokevirtual 139, 3) := dk_182 0 139 (dk_at dksX0_areSums_2 0 rfl rfl)
theorem dX0_areSums_50 : decode cX0_areSums 50 = .ok (.bipush (-9), 2) := dk_16 247 (dk_at dksX0_areSums_2 3 rfl rfl)
theorem dX0_areSums_52 : decode cX0_areSums 52 = .ok (.if_icmp .eq 24, 3) := dk_159 0 24 (dk_at dksX0_areSums_2 5 rfl rfl)
theorem dX0_areSums_55 : decode cX0_areSums 55 = .ok (.aload_n 0, 1) := dk_42 (dk_at dksX0_areSums_2 8 rfl rfl)
theorem dX0_areSums_56 : decode cX0_areSums 56 = .ok (.bipush 7, 2) := dk_16 7 (dk_at dksX0_areSums_2 9 rfl rfl)
theorem dX0_areSums_58 : decode cX0_areSums 58 = .ok (.invokevirtual 89, 3) := dk_182 0 89 (dk_at dksX0_areSums_2 11 rfl rfl)
theorem dX0_areSums_61 : decode cX0_areSums 61 = .ok (.aload_n 0, 1) := dk_42 (dk_at dksX0_areSums_2 14 rfl rfl)
theorem dX0_areSums_62 : decode cX0_areSums 62 = .ok (.iload_n 1, 1) := dk_27 (dk_at dksX0_areSums_2 15 rfl rfl)
theorem dX0_areSums_63 : decode cX0_areSums 63 = .ok (.invokevirtual 89, 3) := dk_182 0 89 (dk_at dksX0_areSums_2 16 rfl rfl)
theorem dX0_areSums_66 : decode cX0_areSums 66 = .ok (.aload_n 0, 1) := dk_42 (dk_at dksX0_areSums_2 19 rfl rfl)
theorem dX0_areSums_67 : decode cX0_areSums 67 = .ok (.iload_n 2, 1) := dk_28 (dk_at dksX0_areSums_2 20 rfl rfl)
theorem dX0_areSums_68 : decode cX0_areSums 68 = .ok (.invokevirtual 89, 3) := dk_182 0 89 (dk_at dksX0_areSums_2 21 rfl rfl)
theorem dX0_areSums_71 : decode cX0_areSums 71 = .ok (.ladd, 1) := dk_97 (dk_at dksX0_areSums_3 0 rfl rfl)
theorem dX0_areSums_72 : decode cX0_areSums 72 = .ok (.lcmp, 1) := dk_148 (dk_at dksX0_areSums_3 1 rfl rfl)
theorem dX0_areSums_73 : decode cX0_areSums 73 = .ok (.ifCond .eq 5, 3) := dk_153 0 5 (dk_at dksX0_areSums_3 2 rfl rfl)
theorem dX0_areSums_76 : decode cX0_areSums 76 = .ok (.iconst 0, 1) := dk_3 (dk_at dksX0_areSums_3 5 rfl rfl)
theorem dX0_areSums_77 : decode cX0_areSums 77 = .ok (.ireturn, 1) := dk_172 (dk_at dksX0_areSums_3 6 rfl rfl)
theorem dX0_areSums_78 : decode cX0_areSums 78 = .ok (.aload_n 0, 1) := dk_42 (dk_at dksX0_areSums_3 7 rfl rfl)
theorem dX0_areSums_79 : decode cX0_areSums 79 = .ok (.iconst 0, 1) := dk_3 (dk_at dksX0_areSums_3 8 rfl rfl)
theorem dX0_areSums_80 : decode cX0_areSums 80 = .ok (.iload_n 1, 1) := dk_27 (dk_at dksX0_areSums_3 9 rfl rfl)
theorem dX0_areSums_81 : decode cX0_areSums 81 = .ok (.iconst 0, 1) := dk_3 (dk_at dksX0_areSums_3 10 rfl rfl)
theorem dX0_areSums_82 : decode cX0_areSums 82 = .ok (.invokevirtual 178, 3) := dk_182 0 178 (dk_at dksX0_areSums_3 11 rfl rfl)
theorem dX0_areSums_85 : decode cX0_areSums 85 = .ok (.lstore_n 3, 1) := dk_66 (dk_at dksX0_areSums_3 14 rfl rfl)
theorem dX0_areSums_86 : decode cX0_areSums 86 = .ok (.aload_n 0, 1) := dk_42 (dk_at dksX0_areSums_3 15 rfl rfl)
theorem dX0_areSums_87 : decode cX0_areSums 87 = .ok (.iconst 1, 1) := dk_4 (dk_at dksX0_areSums_3 16 rfl rfl)
theorem dX0_areSums_88 : decode cX0_areSums 88 = .ok (.iload_n 1, 1) := dk_27 (dk_at dksX0_areSums_3 17 rfl rfl)
theorem dX0_areSums_89 : decode cX0_areSums 89 = .ok (.iconst 1, 1) := dk_4 (dk_at dksX0_areSums_3 18 rfl rfl)
theorem dX0_areSums_90 : decode cX0_areSums 90 = .ok (.invokevirtual 178, 3) := dk_182 0 178 (dk_at dksX0_areSums_3 19 rfl rfl)
theorem dX0_areSums_93 : decode cX0_areSums 93 = .ok (.lstore 5, 2) := dk_55 5 (dk_at dksX0_areSums_3 22 rfl rfl)
theorem dX0_areSums_95 : decode cX0_areSums 95 = .ok (.aload_n 0, 1) := dk_42 (dk_at dksX0_areSums_4 0 rfl rfl)
theorem dX0_areSums_96 : decode cX0_areSums 96 = .ok (.iconst 0, 1) := dk_3 (dk_at dksX0_areSums_4 1 rfl rfl)
theorem dX0_areSums_97 : decode cX0_areSums 97 = .ok (.iload_n 2, 1) := dk_28 (dk_at dksX0_areSums_4 2 rfl rfl)
theorem dX0_areSums_98 : decode cX0_areSums 98 = .ok (.iconst 2, 1) := dk_5 (dk_at dksX0_areSums_4 3 rfl rfl)
theorem dX0_areSums_99 : decode cX0_areSums 99 = .ok (.invokevirtual 178, 3) := dk_182 0 178 (dk_at dksX0_areSums_4 4 rfl rfl)
theorem dX0_areSums_102 : decode cX0_areSums 102 = .ok (.lstore 7, 2) := dk_55 7 (dk_at dksX0_areSums_4 7 rfl rfl)
theorem dX0_areSums_104 : decode cX0_areSums 104 = .ok (.aload_n 0, 1) := dk_42 (dk_at dksX0_areSums_4 9 rfl rfl)
theorem dX0_areSums_105 : decode cX0_areSums 105 = .ok (.iconst 1, 1) := dk_4 (dk_at dksX0_areSums_4 10 rfl rfl)
theorem dX0_areSums_106 : decode cX0_areSums 106 = .ok (.iload_n 2, 1) := dk_28 (dk_at dksX0_areSums_4 11 rfl rfl)
theorem dX0_areSums_107 : decode cX0_areSums 107 = .ok (.iconst 3, 1) := dk_6 (dk_at dksX0_areSums_4 12 rfl rfl)
theorem dX0_areSums_108 : decode cX0_areSums 108 = .ok (.invokevirtual 178, 3) := dk_182 0 178 (dk_at dksX0_areSums_4 13 rfl rfl)
theorem dX0_areSums_111 : decode cX0_areSums 111 = .ok (.lstore 9, 2) := dk_55 9 (dk_at dksX0_areSums_4 16 rfl rfl)
theorem dX0_areSums_113 : decode cX0_areSums 113 = .ok (.lload_n 3, 1) := dk_33 (dk_at dksX0_areSums_4 18 rfl rfl)
theorem dX0_areSums_114 : decode cX0_areSums 114 = .ok (.invokestatic 67, 3) := dk_184 0 67 (dk_at dksX0_areSums_4 19 rfl rfl)
theorem dX0_areSums_117 : decode cX0_areSums 117 = .ok (.lload 5, 2) := dk_22 5 (dk_at dksX0_areSums_4 22 rfl rfl)
theorem dX0_areSums_119 : decode cX0_areSums 119 = .ok (.invokestatic 67, 3) := dk_184 0 67 (dk_at dksX0_areSums_5 0 rfl rfl)
theorem dX0_areSums_122 : decode cX0_areSums 122 = .ok (.ladd, 1) := dk_97 (dk_at dksX0_areSums_5 3 rfl rfl)
theorem dX0_areSums_123 : decode cX0_areSums 123 = .ok (.lload 7, 2) := dk_22 7 (dk_at dksX0_areSums_5 4 rfl rfl)
theorem dX0_areSums_125 : decode cX0_areSums 125 = .ok (.invokestatic 67, 3) := dk_184 0 67 (dk_at dksX0_areSums_5 6 rfl rfl)
theorem dX0_areSums_128 : decode cX0_areSums 128 = .ok (.ladd, 1) := dk_97 (dk_at dksX0_areSums_5 9 rfl rfl)
theorem dX0_areSums_129 : decode cX0_areSums 129 = .ok (.lload 9, 2) := dk_22 9 (dk_at dksX0_areSums_5 10 rfl rfl)
theorem dX0_areSums_131 : decode cX0_areSums 131 = .ok (.invokestatic 67, 3) := dk_184 0 67 (dk_at dksX0_areSums_5 12 rfl rfl)
theorem dX0_areSums_134 : decode cX0_areSums 134 = .ok (.ladd, 1) := dk_97 (dk_at dksX0_areSums_5 15 rfl rfl)
theorem dX0_areSums_135 : decode cX0_areSums 135 = .ok (.ldc2_w 143, 3) := dk_20 0 143 (dk_at dksX0_areSums_5 16 rfl rfl)
theorem dX0_areSums_138 : decode cX0_areSums 138 = .ok (.ladd, 1) := dk_97 (dk_at dksX0_areSums_5 19 rfl rfl)
theorem dX0_areSums_139 : decode cX0_areSums 139 = .ok (.ldc2_w 45, 3) := dk_20 0 45 (dk_at dksX0_areSums_5 20 rfl rfl)
theorem dX0_areSums_142 : decode cX0_areSums 142 = .ok (.ladd, 1) := dk_97 (dk_at dksX0_areSums_5 23 rfl rfl)
theorem dX0_areSums_143 : decode cX0_areSums 143 = .ok (.lstore 11, 2) := dk_55 11 (dk_at dksX0_areSums_6 0 rfl rfl)
theorem dX0_areSums_145 : decode cX0_areSums 145 = .ok (.lload_n 3, 1) := dk_33 (dk_at dksX0_areSums_6 2 rfl rfl)
theorem dX0_areSums_146 : decode cX0_areSums 146 = .ok (.lload 9, 2) := dk_22 9 (dk_at dksX0_areSums_6 3 rfl rfl)
theorem dX0_areSums_148 : decode cX0_areSums 148 = .ok (.lmul, 1) := dk_105 (dk_at dksX0_areSums_6 5 rfl rfl)
theorem dX0_areSums_149 : decode cX0_areSums 149 = .ok (.lload 5, 2) := dk_22 5 (dk_at dksX0_areSums_6 6 rfl rfl)
theorem dX0_areSums_151 : decode cX0_areSums 151 = .ok (.lload 7, 2) := dk_22 7 (dk_at dksX0_areSums_6 8 rfl rfl)
theorem dX0_areSums_153 : decode cX0_areSums 153 = .ok (.lmul, 1) := dk_105 (dk_at dksX0_areSums_6 10 rfl rfl)
theorem dX0_areSums_154 : decode cX0_areSums 154 = .ok (.ladd, 1) := dk_97 (dk_at dksX0_areSums_6 11 rfl rfl)
theorem dX0_areSums_155 : decode cX0_areSums 155 = .ok (.aload_n 0, 1) := dk_42 (dk_at dksX0_areSums_6 12 rfl rfl)
theorem dX0_areSums_156 : decode cX0_areSums 156 = .ok (.iconst 0, 1) := dk_3 (dk_at dksX0_areSums_6 13 rfl rfl)
theorem dX0_areSums_157 : decode cX0_areSums 157 = .ok (.bipush 7, 2) := dk_16 7 (dk_at dksX0_areSums_6 14 rfl rfl)
theorem dX0_areSums_159 : decode cX0_areSums 159 = .ok (.iconst 4, 1) := dk_7 (dk_at dksX0_areSums_6 16 rfl rfl)
theorem dX0_areSums_160 : decode cX0_areSums 160 = .ok (.invokevirtual 178, 3) := dk_182 0 178 (dk_at dksX0_areSums_6 17 rfl rfl)
theorem dX0_areSums_163 : decode cX0_areSums 163 = .ok (.ldc2_w 45, 3) := dk_20 0 45 (dk_at dksX0_areSums_6 20 rfl rfl)
theorem dX0_areSums_166 : decode cX0_areSums 166 = .ok (.lmul, 1) := dk_105 (dk_at dksX0_areSums_6 23 rfl rfl)
theorem dX0_areSums_167 : decode cX0_areSums 167 = .ok (.lload 11, 2) := dk_22 11 (dk_at dksX0_areSums_7 0 rfl rfl)
theorem dX0_areSums_169 : decode cX0_areSums 169 = .ok (.invokestatic 184, 3) := dk_184 0 184 (dk_at dksX0_areSums_7 2 rfl rfl)
theorem dX0_areSums_172 : decode cX0_areSums 172 = .ok (.ifCond .eq 37, 3) := dk_153 0 37 (dk_at dksX0_areSums_7 5 rfl rfl)
theorem dX0_areSums_175 : decode cX0_areSums 175 = .ok (.lload 5, 2) := dk_22 5 (dk_at dksX0_areSums_7 8 rfl rfl)
theorem dX0_areSums_177 : decode cX0_areSums 177 = .ok (.lload 9, 2) := dk_22 9 (dk_at dksX0_areSums_7 10 rfl rfl)
theorem dX0_areSums_179 : decode cX0_areSums 179 = .ok (.lmul, 1) := dk_105 (dk_at dksX0_areSums_7 12 rfl rfl)
theorem dX0_areSums_180 : decode cX0_areSums 180 = .ok (.lload_n 3, 1) := dk_33 (dk_at dksX0_areSums_7 13 rfl rfl)
theorem dX0_areSums_181 : decode cX0_areSums 181 = .ok (.lload 7, 2) := dk_22 7 (dk_at dksX0_areSums_7 14 rfl rfl)
theorem dX0_areSums_183 : decode cX0_areSums 183 = .ok (.lmul, 1) := dk_105 (dk_at dksX0_areSums_7 16 rfl rfl)
theorem dX0_areSums_184 : decode cX0_areSums 184 = .ok (.lsub, 1) := dk_101 (dk_at dksX0_areSums_7 17 rfl rfl)
theorem dX0_areSums_185 : decode cX0_areSums 185 = .ok (.aload_n 0, 1) := dk_42 (dk_at dksX0_areSums_7 18 rfl rfl)
theorem dX0_areSums_186 : decode cX0_areSums 186 = .ok (.iconst 1, 1) := dk_4 (dk_at dksX0_areSums_7 19 rfl rfl)
theorem dX0_areSums_187 : decode cX0_areSums 187 = .ok (.bipush 7, 2) := dk_16 7 (dk_at dksX0_areSums_7 20 rfl rfl)
theorem dX0_areSums_189 : decode cX0_areSums 189 = .ok (.iconst 5, 1) := dk_8 (dk_at dksX0_areSums_7 22 rfl rfl)
theorem dX0_areSums_190 : decode cX0_areSums 190 = .ok (.invokevirtual 178, 3) := dk_182 0 178 (dk_at dksX0_areSums_8 0 rfl rfl)
theorem dX0_areSums_193 : decode cX0_areSums 193 = .ok (.ldc2_w 45, 3) := dk_20 0 45 (dk_at dksX0_areSums_8 3 rfl rfl)
theorem dX0_areSums_196 : decode cX0_areSums 196 = .ok (.lmul, 1) := dk_105 (dk_at dksX0_areSums_8 6 rfl rfl)
theorem dX0_areSums_197 : decode cX0_areSums 197 = .ok (.lload 11, 2) := dk_22 11 (dk_at dksX0_areSums_8 7 rfl rfl)
theorem dX0_areSums_199 : decode cX0_areSums 199 = .ok (.invokestatic 184, 3) := dk_184 0 184 (dk_at dksX0_areSums_8 9 rfl rfl)
theorem dX0_areSums_202 : decode cX0_areSums 202 = .ok (.ifCond .eq 7, 3) := dk_153 0 7 (dk_at dksX0_areSums_8 12 rfl rfl)
theorem dX0_areSums_205 : decode cX0_areSums 205 = .ok (.iconst 1, 1) := dk_4 (dk_at dksX0_areSums_8 15 rfl rfl)
theorem dX0_areSums_206 : decode cX0_areSums 206 = .ok (.goto 4, 3) := dk_167 0 4 (dk_at dksX0_areSums_8 16 rfl rfl)
theorem dX0_areSums_209 : decode cX0_areSums 209 = .ok (.iconst 0, 1) := dk_3 (dk_at dksX0_areSums_8 19 rfl rfl)
theorem dX0_areSums_210 : decode cX0_areSums 210 = .ok (.istore 13, 2) := dk_54 13 (dk_at dksX0_areSums_8 20 rfl rfl)
theorem dX0_areSums_212 : decode cX0_areSums 212 = .ok (.iload 13, 2) := dk_21 13 (dk_at dksX0_areSums_8 22 rfl rfl)
theorem dX0_areSums_214 : decode cX0_areSums 214 = .ok (.ifCond .eq 77, 3) := dk_153 0 77 (dk_at dksX0_areSums_9 0 rfl rfl)
theorem dX0_areSums_217 : decode cX0_areSums 217 = .ok (.aload_n 0, 1) := dk_42 (dk_at dksX0_areSums_9 3 rfl rfl)
theorem dX0_areSums_218 : decode cX0_areSums 218 = .ok (.getfield 10, 3) := dk_180 0 10 (dk_at dksX0_areSums_9 4 rfl rfl)
theorem dX0_areSums_221 : decode cX0_areSums 221 = .ok (.iconst 0, 1) := dk_3 (dk_at dksX0_areSums_9 7 rfl rfl)
theorem dX0_areSums_222 : decode cX0_areSums 222 = .ok (.iload_n 1, 1) := dk_27 (dk_at dksX0_areSums_9 8 rfl rfl)
theorem dX0_areSums_223 : decode cX0_areSums 223 = .ok (.iload_n 2, 1) := dk_28 (dk_at dksX0_areSums_9 9 rfl rfl)
theorem dX0_areSums_224 : decode cX0_areSums 224 = .ok (.invokevirtual 211, 3) := dk_182 0 211 (dk_at dksX0_areSums_9 10 rfl rfl)
theorem dX0_areSums_227 : decode cX0_areSums 227 = .ok (.aload_n 0, 1) := dk_42 (dk_at dksX0_areSums_9 13 rfl rfl)
theorem dX0_areSums_228 : decode cX0_areSums 228 = .ok (.getfield 10, 3) := dk_180 0 10 (dk_at dksX0_areSums_9 14 rfl rfl)
theorem dX0_areSums_231 : decode cX0_areSums 231 = .ok (.iconst 0, 1) := dk_3 (dk_at dksX0_areSums_9 17 rfl rfl)
theorem dX0_areSums_232 : decode cX0_areSums 232 = .ok (.iconst 2, 1) := dk_5 (dk_at dksX0_areSums_9 18 rfl rfl)
theorem dX0_areSums_233 : decode cX0_areSums 233 = .ok (.iconst 0, 1) := dk_3 (dk_at dksX0_areSums_9 19 rfl rfl)
theorem dX0_areSums_234 : decode cX0_areSums 234 = .ok (.invokevirtual 230, 3) := dk_182 0 230 (dk_at dksX0_areSums_9 20 rfl rfl)
theorem dX0_areSums_237 : decode cX0_areSums 237 = .ok (.if_icmp .ne 54, 3) := dk_160 0 54 (dk_at dksX0_areSums_10 0 rfl rfl)
theorem dX0_areSums_240 : decode cX0_areSums 240 = .ok (.aload_n 0, 1) := dk_42 (dk_at dksX0_areSums_10 3 rfl rfl)
theorem dX0_areSums_241 : decode cX0_areSums 241 = .ok (.getfield 10, 3) := dk_180 0 10 (dk_at dksX0_areSums_10 4 rfl rfl)
theorem dX0_areSums_244 : decode cX0_areSums 244 = .ok (.iconst 1, 1) := dk_4 (dk_at dksX0_areSums_10 7 rfl rfl)
theorem dX0_areSums_245 : decode cX0_areSums 245 = .ok (.iload_n 1, 1) := dk_27 (dk_at dksX0_areSums_10 8 rfl rfl)
theorem dX0_areSums_246 : decode cX0_areSums 246 = .ok (.iload_n 2, 1) := dk_28 (dk_at dksX0_areSums_10 9 rfl rfl)
theorem dX0_areSums_247 : decode cX0_areSums 247 = .ok (.invokevirtual 211, 3) := dk_182 0 211 (dk_at dksX0_areSums_10 10 rfl rfl)
theorem dX0_areSums_250 : decode cX0_areSums 250 = .ok (.aload_n 0, 1) := dk_42 (dk_at dksX0_areSums_10 13 rfl rfl)
theorem dX0_areSums_251 : decode cX0_areSums 251 = .ok (.getfield 10, 3) := dk_180 0 10 (dk_at dksX0_areSums_10 14 rfl rfl)
theorem dX0_areSums_254 : decode cX0_areSums 254 = .ok (.iconst 1, 1) := dk_4 (dk_at dksX0_areSums_10 17 rfl rfl)
theorem dX0_areSums_255 : decode cX0_areSums 255 = .ok (.iconst 3, 1) := dk_6 (dk_at dksX0_areSums_10 18 rfl rfl)
theorem dX0_areSums_256 : decode cX0_areSums 256 = .ok (.iconst 1, 1) := dk_4 (dk_at dksX0_areSums_10 19 rfl rfl)
theorem dX0_areSums_257 : decode cX0_areSums 257 = .ok (.invokevirtual 230, 3) := dk_182 0 230 (dk_at dksX0_areSums_10 20 rfl rfl)
theorem dX0_areSums_260 : decode cX0_areSums 260 = .ok (.if_icmp .ne 31, 3) := dk_160 0 31 (dk_at dksX0_areSums_11 0 rfl rfl)
theorem dX0_areSums_263 : decode cX0_areSums 263 = .ok (.aload_n 0, 1) := dk_42 (dk_at dksX0_areSums_11 3 rfl rfl)
theorem dX0_areSums_264 : decode cX0_areSums 264 = .ok (.getfield 10, 3) := dk_180 0 10 (dk_at dksX0_areSums_11 4 rfl rfl)
theorem dX0_areSums_267 : decode cX0_areSums 267 = .ok (.bipush 7, 2) := dk_16 7 (dk_at dksX0_areSums_11 7 rfl rfl)
theorem dX0_areSums_269 : decode cX0_areSums 269 = .ok (.invokevirtual 217, 3) := dk_182 0 217 (dk_at dksX0_areSums_11 9 rfl rfl)
theorem dX0_areSums_272 : decode cX0_areSums 272 = .ok (.ifCond .eq 19, 3) := dk_153 0 19 (dk_at dksX0_areSums_11 12 rfl rfl)
theorem dX0_areSums_275 : decode cX0_areSums 275 = .ok (.aload_n 0, 1) := dk_42 (dk_at dksX0_areSums_11 15 rfl rfl)
theorem dX0_areSums_276 : decode cX0_areSums 276 = .ok (.getfield 10, 3) := dk_180 0 10 (dk_at dksX0_areSums_11 16 rfl rfl)
theorem dX0_areSums_279 : decode cX0_areSums 279 = .ok (.bipush 7, 2) := dk_16 7 (dk_at dksX0_areSums_11 19 rfl rfl)
theorem dX0_areSums_281 : decode cX0_areSums 281 = .ok (.invokevirtual 221, 3) := dk_182 0 221 (dk_at dksX0_areSums_11 21 rfl rfl)
theorem dX0_areSums_284 : decode cX0_areSums 284 = .ok (.ifCond .eq 7, 3) := dk_153 0 7 (dk_at dksX0_areSums_12 0 rfl rfl)
theorem dX0_areSums_287 : decode cX0_areSums 287 = .ok (.iconst 1, 1) := dk_4 (dk_at dksX0_areSums_12 3 rfl rfl)
theorem dX0_areSums_288 : decode cX0_areSums 288 = .ok (.goto 4, 3) := dk_167 0 4 (dk_at dksX0_areSums_12 4 rfl rfl)
theorem dX0_areSums_291 : decode cX0_areSums 291 = .ok (.iconst 0, 1) := dk_3 (dk_at dksX0_areSums_12 7 rfl rfl)
theorem dX0_areSums_292 : decode cX0_areSums 292 = .ok (.ireturn, 1) := dk_172 (dk_at dksX0_areSums_12 8 rfl rfl)
abbrev cX0_isSorted : ByteArray := method_13_code
def yX0_isSorted : MethodName := ⟨RX0, "isSorted", "()Z"⟩
def dkwX0_isSorted_6 : List UInt8 := [154, 0, 7, 4, 167, 0, 4, 3, 172]
abbrev dktX0_isSorted_6 : List UInt8 := dkwX0_isSorted_6 ++ []
def dkwX0_isSorted_5 : List UInt8 := [157, 0, 7, 4, 167, 0, 4, 3, 54, 5, 132, 6, 1, 167, 255, 193, 21, 5, 153, 0, 13, 31, 33, 148]
abbrev dktX0_isSorted_5 : List UInt8 := dkwX0_isSorted_5 ++ dktX0_isSorted_6
def dkwX0_isSorted_4 : List UInt8 := [21, 6, 153, 0, 23, 42, 180, 0, 10, 21, 6, 4, 100, 21, 6, 21, 6, 4, 126, 182, 0, 155]
abbrev dktX0_isSorted_4 : List UInt8 := dkwX0_isSorted_4 ++ dktX0_isSorted_5
def dkwX0_isSorted_3 : List UInt8 := [162, 0, 62, 33, 42, 180, 0, 10, 21, 6, 182, 0, 77, 182, 0, 162, 133, 97, 66, 21, 5, 153, 0, 32]
abbrev dktX0_isSorted_3 : List UInt8 := dkwX0_isSorted_3 ++ dktX0_isSorted_4
def dkwX0_isSorted_2 : List UInt8 := [180, 0, 10, 182, 0, 166, 154, 0, 7, 4, 167, 0, 4, 3, 54, 5, 3, 54, 6, 21, 6, 16, 8]
abbrev dktX0_isSorted_2 : List UInt8 := dkwX0_isSorted_2 ++ dktX0_isSorted_3
def dkwX0_isSorted_1 : List UInt8 := [182, 0, 162, 133, 97, 64, 132, 5, 1, 167, 255, 230, 42, 180, 0, 10, 182, 0, 166, 155, 0, 17, 42]
abbrev dktX0_isSorted_1 : List UInt8 := dkwX0_isSorted_1 ++ dktX0_isSorted_2
def dkwX0_isSorted_0 : List UInt8 := [9, 64, 9, 66, 3, 54, 5, 21, 5, 16, 8, 162, 0, 25, 31, 42, 180, 0, 10, 21, 5, 182, 0, 77]
abbrev dktX0_isSorted_0 : List UInt8 := dkwX0_isSorted_0 ++ dktX0_isSorted_1
theorem dksX0_isSorted_0 : cX0_isSorted.data.toList.drop 0 = dktX0_isSorted_0 := by decide +kernel
theorem dksX0_isSorted_1 : cX0_isSorted.data.toList.drop 24 = dktX0_isSorted_1 := dk_seg dksX0_isSorted_0 24 rfl rfl
theorem dksX0_isSorted_2 : cX0_isSorted.data.toList.drop 47 = dktX0_isSorted_2 := dk_seg dksX0_isSorted_1 23 rfl rfl
theorem dksX0_isSorted_3 : cX0_isSorted.data.toList.drop 70 = dktX0_isSorted_3 := dk_seg dksX0_isSorted_2 23 rfl rfl
theorem dksX0_isSorted_4 : cX0_isSorted.data.toList.drop 94 = dktX0_isSorted_4 := dk_seg dksX0_isSorted_3 24 rfl rfl
theorem dksX0_isSorted_5 : cX0_isSorted.data.toList.drop 116 = dktX0_isSorted_5 := dk_seg dksX0_isSorted_4 22 rfl rfl
theorem dksX0_isSorted_6 : cX0_isSorted.data.toList.drop 140 = dktX0_isSorted_6 := dk_seg dksX0_isSorted_5 24 rfl rfl
theorem dX0_isSorted_0 : decode cX0_isSorted 0 = .ok (.lconst 0, 1) := dk_9 (dk_at dksX0_isSorted_0 0 rfl rfl)
theorem dX0_isSorted_1 : decode cX0_isSorted 1 = .ok (.lstore_n 1, 1) := dk_64 (dk_at dksX0_isSorted_0 1 rfl rfl)
theorem dX0_isSorted_2 : decode cX0_isSorted 2 = .ok (.lconst 0, 1) := dk_9 (dk_at dksX0_isSorted_0 2 rfl rfl)
theorem dX0_isSorted_3 : decode cX0_isSorted 3 = .ok (.lstore_n 3, 1) := dk_66 (dk_at dksX0_isSorted_0 3 rfl rfl)
theorem dX0_isSorted_4 : decode cX0_isSorted 4 = .ok (.iconst 0, 1) := dk_3 (dk_at dksX0_isSorted_0 4 rfl rfl)
theorem dX0_isSorted_5 : decode cX0_isSorted 5 = .ok (.istore 5, 2) := dk_54 5 (dk_at dksX0_isSorted_0 5 rfl rfl)
theorem dX0_isSorted_7 : decode cX0_isSorted 7 = .ok (.iload 5, 2) := dk_21 5 (dk_at dksX0_isSorted_0 7 rfl rfl)
theorem dX0_isSorted_9 : decode cX0_isSorted 9 = .ok (.bipush 8, 2) := dk_16 8 (dk_at dksX0_isSorted_0 9 rfl rfl)
theorem dX0_isSorted_11 : decode cX0_isSorted 11 = .ok (.if_icmp .ge 25, 3) := dk_162 0 25 (dk_at dksX0_isSorted_0 11 rfl rfl)
theorem dX0_isSorted_14 : decode cX0_isSorted 14 = .ok (.lload_n 1, 1) := dk_31 (dk_at dksX0_isSorted_0 14 rfl rfl)
theorem dX0_isSorted_15 : decode cX0_isSorted 15 = .ok (.aload_n 0, 1) := dk_42 (dk_at dksX0_isSorted_0 15 rfl rfl)
theorem dX0_isSorted_16 : decode cX0_isSorted 16 = .ok (.getfield 10, 3) := dk_180 0 10 (dk_at dksX0_isSorted_0 16 rfl rfl)
theorem dX0_isSorted_19 : decode cX0_isSorted 19 = .ok (.iload 5, 2) := dk_21 5 (dk_at dksX0_isSorted_0 19 rfl rfl)
theorem dX0_isSorted_21 : decode cX0_isSorted 21 = .ok (.invokevirtual 77, 3) := dk_182 0 77 (dk_at dksX0_isSorted_0 21 rfl rfl)
theorem dX0_isSorted_24 : decode cX0_isSorted 24 = .ok (.invokevirtual 162, 3) := dk_182 0 162 (dk_at dksX0_isSorted_1 0 rfl rfl)
theorem dX0_isSorted_27 : decode cX0_isSorted 27 = .ok (.i2l, 1) := dk_133 (dk_at dksX0_isSorted_1 3 rfl rfl)
theorem dX0_isSorted_28 : decode cX0_isSorted 28 = .ok (.ladd, 1) := dk_97 (dk_at dksX0_isSorted_1 4 rfl rfl)
theorem dX0_isSorted_29 : decode cX0_isSorted 29 = .ok (.lstore_n 1, 1) := dk_64 (dk_at dksX0_isSorted_1 5 rfl rfl)
theorem dX0_isSorted_30 : decode cX0_isSorted 30 = .ok (.iinc 5 1, 3) := dk_132 5 1 (dk_at dksX0_isSorted_1 6 rfl rfl)
theorem dX0_isSorted_33 : decode cX0_isSorted 33 = .ok (.goto (-26), 3) := dk_167 255 230 (dk_at dksX0_isSorted_1 9 rfl rfl)
theorem dX0_isSorted_36 : decode cX0_isSorted 36 = .ok (.aload_n 0, 1) := dk_42 (dk_at dksX0_isSorted_1 12 rfl rfl)
theorem dX0_isSorted_37 : decode cX0_isSorted 37 = .ok (.getfield 10, 3) := dk_180 0 10 (dk_at dksX0_isSorted_1 13 rfl rfl)
theorem dX0_isSorted_40 : decode cX0_isSorted 40 = .ok (.invokevirtual 166, 3) := dk_182 0 166 (dk_at dksX0_isSorted_1 16 rfl rfl)
theorem dX0_isSorted_43 : decode cX0_isSorted 43 = .ok (.ifCond .lt 17, 3) := dk_155 0 17 (dk_at dksX0_isSorted_1 19 rfl rfl)
theorem dX0_isSorted_46 : decode cX0_isSorted 46 = .ok (.aload_n 0, 1) := dk_42 (dk_at dksX0_isSorted_1 22 rfl rfl)
theorem dX0_isSorted_47 : decode cX0_isSorted 47 = .ok (.getfield 10, 3) := dk_180 0 10 (dk_at dksX0_isSorted_2 0 rfl rfl)
theorem dX0_isSorted_50 : decode cX0_isSorted 50 = .ok (.invokevirtual 166, 3) := dk_182 0 166 (dk_at dksX0_isSorted_2 3 rfl rfl)
theorem dX0_isSorted_53 : decode cX0_isSorted 53 = .ok (.ifCond .ne 7, 3) := dk_154 0 7 (dk_at dksX0_isSorted_2 6 rfl rfl)
theorem dX0_isSorted_56 : decode cX0_isSorted 56 = .ok (.iconst 1, 1) := dk_4 (dk_at dksX0_isSorted_2 9 rfl rfl)
theorem dX0_isSorted_57 : decode cX0_isSorted 57 = .ok (.goto 4, 3) := dk_167 0 4 (dk_at dksX0_isSorted_2 10 rfl rfl)
theorem dX0_isSorted_60 : decode cX0_isSorted 60 = .ok (.iconst 0, 1) := dk_3 (dk_at dksX0_isSorted_2 13 rfl rfl)
theorem dX0_isSorted_61 : decode cX0_isSorted 61 = .ok (.istore 5, 2) := dk_54 5 (dk_at dksX0_isSorted_2 14 rfl rfl)
theorem dX0_isSorted_63 : decode cX0_isSorted 63 = .ok (.iconst 0, 1) := dk_3 (dk_at dksX0_isSorted_2 16 rfl rfl)
theorem dX0_isSorted_64 : decode cX0_isSorted 64 = .ok (.istore 6, 2) := dk_54 6 (dk_at dksX0_isSorted_2 17 rfl rfl)
theorem dX0_isSorted_66 : decode cX0_isSorted 66 = .ok (.iload 6, 2) := dk_21 6 (dk_at dksX0_isSorted_2 19 rfl rfl)
theorem dX0_isSorted_68 : decode cX0_isSorted 68 = .ok (.bipush 8, 2) := dk_16 8 (dk_at dksX0_isSorted_2 21 rfl rfl)
theorem dX0_isSorted_70 : decode cX0_isSorted 70 = .ok (.if_icmp .ge 62, 3) := dk_162 0 62 (dk_at dksX0_isSorted_3 0 rfl rfl)
theorem dX0_isSorted_73 : decode cX0_isSorted 73 = .ok (.lload_n 3, 1) := dk_33 (dk_at dksX0_isSorted_3 3 rfl rfl)
theorem dX0_isSorted_74 : decode cX0_isSorted 74 = .ok (.aload_n 0, 1) := dk_42 (dk_at dksX0_isSorted_3 4 rfl rfl)
theorem dX0_isSorted_75 : decode cX0_isSorted 75 = .ok (.getfield 10, 3) := dk_180 0 10 (dk_at dksX0_isSorted_3 5 rfl rfl)
theorem dX0_isSorted_78 : decode cX0_isSorted 78 = .ok (.iload 6, 2) := dk_21 6 (dk_at dksX0_isSorted_3 8 rfl rfl)
theorem dX0_isSorted_80 : decode cX0_isSorted 80 = .ok (.invokevirtual 77, 3) := dk_182 0 77 (dk_at dksX0_isSorted_3 10 rfl rfl)
theorem dX0_isSorted_83 : decode cX0_isSorted 83 = .ok (.invokevirtual 162, 3) := dk_182 0 162 (dk_at dksX0_isSorted_3 13 rfl rfl)
theorem dX0_isSorted_86 : decode cX0_isSorted 86 = .ok (.i2l, 1) := dk_133 (dk_at dksX0_isSorted_3 16 rfl rfl)
theorem dX0_isSorted_87 : decode cX0_isSorted 87 = .ok (.ladd, 1) := dk_97 (dk_at dksX0_isSorted_3 17 rfl rfl)
theorem dX0_isSorted_88 : decode cX0_isSorted 88 = .ok (.lstore_n 3, 1) := dk_66 (dk_at dksX0_isSorted_3 18 rfl rfl)
theorem dX0_isSorted_89 : decode cX0_isSorted 89 = .ok (.iload 5, 2) := dk_21 5 (dk_at dksX0_isSorted_3 19 rfl rfl)
theorem dX0_isSorted_91 : decode cX0_isSorted 91 = .ok (.ifCond .eq 32, 3) := dk_153 0 32 (dk_at dksX0_isSorted_3 21 rfl rfl)
theorem dX0_isSorted_94 : decode cX0_isSorted 94 = .ok (.iload 6, 2) := dk_21 6 (dk_at dksX0_isSorted_4 0 rfl rfl)
theorem dX0_isSorted_96 : decode cX0_isSorted 96 = .ok (.ifCond .eq 23, 3) := dk_153 0 23 (dk_at dksX0_isSorted_4 2 rfl rfl)
theorem dX0_isSorted_99 : decode cX0_isSorted 99 = .ok (.aload_n 0, 1) := dk_42 (dk_at dksX0_isSorted_4 5 rfl rfl)
theorem dX0_isSorted_100 : decode cX0_isSorted 100 = .ok (.getfield 10, 3) := dk_180 0 10 (dk_at dksX0_isSorted_4 6 rfl rfl)
theorem dX0_isSorted_103 : decode cX0_isSorted 103 = .ok (.iload 6, 2) := dk_21 6 (dk_at dksX0_isSorted_4 9 rfl rfl)
theorem dX0_isSorted_105 : decode cX0_isSorted 105 = .ok (.iconst 1, 1) := dk_4 (dk_at dksX0_isSorted_4 11 rfl rfl)
theorem dX0_isSorted_106 : decode cX0_isSorted 106 = .ok (.isub, 1) := dk_100 (dk_at dksX0_isSorted_4 12 rfl rfl)
theorem dX0_isSorted_107 : decode cX0_isSorted 107 = .ok (.iload 6, 2) := dk_21 6 (dk_at dksX0_isSorted_4 13 rfl rfl)
theorem dX0_isSorted_109 : decode cX0_isSorted 109 = .ok (.iload 6, 2) := dk_21 6 (dk_at dksX0_isSorted_4 15 rfl rfl)
theorem dX0_isSorted_111 : decode cX0_isSorted 111 = .ok (.iconst 1, 1) := dk_4 (dk_at dksX0_isSorted_4 17 rfl rfl)
theorem dX0_isSorted_112 : decode cX0_isSorted 112 = .ok (.iand, 1) := dk_126 (dk_at dksX0_isSorted_4 18 rfl rfl)
theorem dX0_isSorted_113 : decode cX0_isSorted 113 = .ok (.invokevirtual 155, 3) := dk_182 0 155 (dk_at dksX0_isSorted_4 19 rfl rfl)
theorem dX0_isSorted_116 : decode cX0_isSorted 116 = .ok (.ifCond .gt 7, 3) := dk_157 0 7 (dk_at dksX0_isSorted_5 0 rfl rfl)
theorem dX0_isSorted_119 : decode cX0_isSorted 119 = .ok (.iconst 1, 1) := dk_4 (dk_at dksX0_isSorted_5 3 rfl rfl)
theorem dX0_isSorted_120 : decode cX0_isSorted 120 = .ok (.goto 4, 3) := dk_167 0 4 (dk_at dksX0_isSorted_5 4 rfl rfl)
theorem dX0_isSorted_123 : decode cX0_isSorted 123 = .ok (.iconst 0, 1) := dk_3 (dk_at dksX0_isSorted_5 7 rfl rfl)
theorem dX0_isSorted_124 : decode cX0_isSorted 124 = .ok (.istore 5, 2) := dk_54 5 (dk_at dksX0_isSorted_5 8 rfl rfl)
theorem dX0_isSorted_126 : decode cX0_isSorted 126 = .ok (.iinc 6 1, 3) := dk_132 6 1 (dk_at dksX0_isSorted_5 10 rfl rfl)
theorem dX0_isSorted_129 : decode cX0_isSorted 129 = .ok (.goto (-63), 3) := dk_167 255 193 (dk_at dksX0_isSorted_5 13 rfl rfl)
theorem dX0_isSorted_132 : decode cX0_isSorted 132 = .ok (.iload 5, 2) := dk_21 5 (dk_at dksX0_isSorted_5 16 rfl rfl)
theorem dX0_isSorted_134 : decode cX0_isSorted 134 = .ok (.ifCond .eq 13, 3) := dk_153 0 13 (dk_at dksX0_isSorted_5 18 rfl rfl)
theorem dX0_isSorted_137 : decode cX0_isSorted 137 = .ok (.lload_n 1, 1) := dk_31 (dk_at dksX0_isSorted_5 21 rfl rfl)
theorem dX0_isSorted_138 : decode cX0_isSorted 138 = .ok (.lload_n 3, 1) := dk_33 (dk_at dksX0_isSorted_5 22 rfl rfl)
theorem dX0_isSorted_139 : decode cX0_isSorted 139 = .ok (.lcmp, 1) := dk_148 (dk_at dksX0_isSorted_5 23 rfl rfl)
theorem dX0_isSorted_140 : decode cX0_isSorted 140 = .ok (.ifCond .ne 7, 3) := dk_154 0 7 (dk_at dksX0_isSorted_6 0 rfl rfl)
theorem dX0_isSorted_143 : decode cX0_isSorted 143 = .ok (.iconst 1, 1) := dk_4 (dk_at dksX0_isSorted_6 3 rfl rfl)
theorem dX0_isSorted_144 : decode cX0_isSorted 144 = .ok (.goto 4, 3) := dk_167 0 4 (dk_at dksX0_isSorted_6 4 rfl rfl)
theorem dX0_isSorted_147 : decode cX0_isSorted 147 = .ok (.iconst 0, 1) := dk_3 (dk_at dksX0_isSorted_6 7 rfl rfl)
theorem dX0_isSorted_148 : decode cX0_isSorted 148 = .ok (.ireturn, 1) := dk_172 (dk_at dksX0_isSorted_6 8 rfl rfl)
abbrev cX0_areRows : ByteArray := method_17_code
def yX0_areRows : MethodName := ⟨RX0, "areRows", "(II)Z"⟩
def dkwX0_areRows_13 : List UInt8 := [180, 0, 10, 29, 21, 5, 21, 4, 16, 7, 182, 0, 243, 21, 8, 160, 0, 7, 4, 167, 0, 4, 3, 172]
abbrev dktX0_areRows_13 : List UInt8 := dkwX0_areRows_13 ++ []
def dkwX0_areRows_12 : List UInt8 := [21, 6, 160, 0, 43, 42, 180, 0, 10, 29, 21, 5, 21, 4, 182, 0, 240, 21, 7, 160, 0, 26, 42]
abbrev dktX0_areRows_12 : List UInt8 := dkwX0_areRows_12 ++ dktX0_areRows_13
def dkwX0_areRows_11 : List UInt8 := [132, 11, 1, 167, 255, 120, 21, 10, 153, 0, 60, 42, 180, 0, 10, 29, 21, 5, 21, 4, 182, 0, 237]
abbrev dktX0_areRows_11 : List UInt8 := dkwX0_areRows_11 ++ dktX0_areRows_12
def dkwX0_areRows_10 : List UInt8 := [4, 16, 7, 4, 182, 0, 230, 156, 0, 7, 4, 167, 0, 4, 3, 96, 54, 8, 21, 12, 54, 9]
abbrev dktX0_areRows_10 : List UInt8 := dkwX0_areRows_10 ++ dktX0_areRows_11
def dkwX0_areRows_9 : List UInt8 := [158, 0, 14, 21, 12, 21, 9, 159, 0, 7, 4, 167, 0, 4, 3, 96, 54, 7, 21, 8, 42, 180, 0, 10]
abbrev dktX0_areRows_9 : List UInt8 := dkwX0_areRows_9 ++ dktX0_areRows_10
def dkwX0_areRows_8 : List UInt8 := [42, 180, 0, 10, 4, 182, 0, 175, 156, 0, 7, 4, 167, 0, 4, 3, 54, 12, 21, 7, 21, 11]
abbrev dktX0_areRows_8 : List UInt8 := dkwX0_areRows_8 ++ dktX0_areRows_9
def dkwX0_areRows_7 : List UInt8 := [182, 0, 230, 158, 0, 21, 42, 180, 0, 10, 4, 4, 3, 182, 0, 234, 87, 21, 5, 21, 11, 96, 54, 6]
abbrev dktX0_areRows_7 : List UInt8 := dkwX0_areRows_7 ++ dktX0_areRows_8
def dkwX0_areRows_6 : List UInt8 := [182, 0, 110, 87, 42, 29, 4, 4, 182, 0, 178, 88, 21, 11, 153, 0, 16, 42, 180, 0, 10, 4, 3, 3]
abbrev dktX0_areRows_6 : List UInt8 := dkwX0_areRows_6 ++ dktX0_areRows_7
def dkwX0_areRows_5 : List UInt8 := [4, 54, 10, 3, 54, 11, 21, 11, 21, 4, 162, 0, 135, 42, 180, 0, 10, 4, 21, 5, 21, 11, 96]
abbrev dktX0_areRows_5 : List UInt8 := dkwX0_areRows_5 ++ dktX0_areRows_6
def dkwX0_areRows_4 : List UInt8 := [16, 7, 182, 0, 178, 88, 27, 17, 0, 128, 126, 153, 0, 13, 42, 180, 0, 10, 16, 7, 182, 0, 205, 87]
abbrev dktX0_areRows_4 : List UInt8 := dkwX0_areRows_4 ++ dktX0_areRows_5
def dkwX0_areRows_3 : List UInt8 := [180, 0, 10, 3, 21, 5, 28, 16, 9, 122, 21, 4, 184, 0, 94, 96, 182, 0, 110, 87, 42, 29, 3]
abbrev dktX0_areRows_3 : List UInt8 := dkwX0_areRows_3 ++ dktX0_areRows_4
def dkwX0_areRows_2 : List UInt8 := [184, 0, 94, 18, 109, 100, 54, 5, 21, 5, 54, 6, 3, 54, 7, 3, 54, 8, 3, 54, 9, 42]
abbrev dktX0_areRows_2 : List UInt8 := dkwX0_areRows_2 ++ dktX0_areRows_3
def dkwX0_areRows_1 : List UInt8 := [154, 0, 17, 28, 17, 1, 144, 184, 0, 94, 17, 0, 200, 100, 167, 0, 15, 28, 18, 233, 21, 4, 100]
abbrev dktX0_areRows_1 : List UInt8 := dkwX0_areRows_1 ++ dktX0_areRows_2
def dkwX0_areRows_0 : List UInt8 := [27, 6, 184, 0, 94, 62, 4, 27, 5, 122, 16, 16, 184, 0, 94, 96, 54, 4, 27, 16, 64, 126]
abbrev dktX0_areRows_0 : List UInt8 := dkwX0_areRows_0 ++ dktX0_areRows_1
theorem dksX0_areRows_0 : cX0_areRows.data.toList.drop 0 = dktX0_areRows_0 := by decide +kernel
theorem dksX0_areRows_1 : cX0_areRows.data.toList.drop 22 = dktX0_areRows_1 := dk_seg dksX0_areRows_0 22 rfl rfl
theorem dksX0_areRows_2 : cX0_areRows.data.toList.drop 45 = dktX0_areRows_2 := dk_seg dksX0_areRows_1 23 rfl rfl
theorem dksX0_areRows_3 : cX0_areRows.data.toList.drop 67 = dktX0_areRows_3 := dk_seg dksX0_areRows_2 22 rfl rfl
theorem dksX0_areRows_4 : cX0_areRows.data.toList.drop 90 = dktX0_areRows_4 := dk_seg dksX0_areRows_3 23 rfl rfl
theorem dksX0_areRows_5 : cX0_areRows.data.toList.drop 114 = dktX0_areRows_5 := dk_seg dksX0_areRows_4 24 rfl rfl
theorem dksX0_areRows_6 : cX0_areRows.data.toList.drop 137 = dktX0_areRows_6 := dk_seg dksX0_areRows_5 23 rfl rfl
theorem dksX0_areRows_7 : cX0_areRows.data.toList.drop 161 = dktX0_areRows_7 := dk_seg dksX0_areRows_6 24 rfl rfl
theorem dksX0_areRows_8 : cX0_areRows.data.toList.drop 185 = dktX0_areRows_8 := dk_seg dksX0_areRows_7 24 rfl rfl
theorem dksX0_areRows_9 : cX0_areRows.data.toList.drop 207 = dktX0_areRows_9 := dk_seg dksX0_areRows_8 22 rfl rfl
theorem dksX0_areRows_10 : cX0_areRows.data.toList.drop 231 = dktX0_areRows_10 := dk_seg dksX0_areRows_9 24 rfl rfl
theorem dksX0_areRows_11 : cX0_areRows.data.toList.drop 253 = dktX0_areRows_11 := dk_seg dksX0_areRows_10 22 rfl rfl
theorem dksX0_areRows_12 : cX0_areRows.data.toList.drop 276 = dktX0_areRows_12 := dk_seg dksX0_areRows_11 23 rfl rfl
theorem dksX0_areRows_13 : cX0_areRows.data.toList.drop 299 = dktX0_areRows_13 := dk_seg dksX0_areRows_12 23 rfl rfl
theorem dX0_areRows_0 : decode cX0_areRows 0 = .ok (.iload_n 1, 1) := dk_27 (dk_at dksX0_areRows_0 0 rfl rfl)
theorem dX0_areRows_1 : decode cX0_areRows 1 = .ok (.iconst 3, 1) := dk_6 (dk_at dksX0_areRows_0 1 rfl rfl)
theorem dX0_areRows_2 : decode cX0_areRows 2 = .ok (.invokestatic 94, 3) := dk_184 0 94 (dk_at dksX0_areRows_0 2 rfl rfl)
theorem dX0_areRows_5 : decode cX0_areRows 5 = .ok (.istore_n 3, 1) := dk_62 (dk_at dksX0_areRows_0 5 rfl rfl)
theorem dX0_areRows_6 : decode cX0_areRows 6 = .ok (.iconst 1, 1) := dk_4 (dk_at dksX0_areRows_0 6 rfl rfl)
theorem dX0_areRows_7 : decode cX0_areRows 7 = .ok (.iload_n 1, 1) := dk_27 (dk_at dksX0_areRows_0 7 rfl rfl)
theorem dX0_areRows_8 : decode cX0_areRows 8 = .ok (.iconst 2, 1) := dk_5 (dk_at dksX0_areRows_0 8 rfl rfl)
theorem dX0_areRows_9 : decode cX0_areRows 9 = .ok (.ishr, 1) := dk_122 (dk_at dksX0_areRows_0 9 rfl rfl)
theorem dX0_areRows_10 : decode cX0_areRows 10 = .ok (.bipush 16, 2) := dk_16 16 (dk_at dksX0_areRows_0 10 rfl rfl)
theorem dX0_areRows_12 : decode cX0_areRows 12 = .ok (.invokestatic 94, 3) := dk_184 0 94 (dk_at dksX0_areRows_0 12 rfl rfl)
theorem dX0_areRows_15 : decode cX0_areRows 15 = .ok (.iadd, 1) := dk_96 (dk_at dksX0_areRows_0 15 rfl rfl)
theorem dX0_areRows_16 : decode cX0_areRows 16 = .ok (.istore 4, 2) := dk_54 4 (dk_at dksX0_areRows_0 16 rfl rfl)
theorem dX0_areRows_18 : decode cX0_areRows 18 = .ok (.iload_n 1, 1) := dk_27 (dk_at dksX0_areRows_0 18 rfl rfl)
theorem dX0_areRows_19 : decode cX0_areRows 19 = .ok (.bipush 64, 2) := dk_16 64 (dk_at dksX0_areRows_0 19 rfl rfl)
theorem dX0_areRows_21 : decode cX0_areRows 21 = .ok (.iand, 1) := dk_126 (dk_at dksX0_areRows_0 21 rfl rfl)
theorem dX0_areRows_22 : decode cX0_areRows 22 = .ok (.ifCond .ne 17, 3) := dk_154 0 17 (dk_at dksX0_areRows_1 0 rfl rfl)
theorem dX0_areRows_25 : decode cX0_areRows 25 = .ok (.iload_n 2, 1) := dk_28 (dk_at dksX0_areRows_1 3 rfl rfl)
theorem dX0_areRows_26 : decode cX0_areRows 26 = .ok (.sipush 400, 3) := dk_17 1 144 (dk_at dksX0_areRows_1 4 rfl rfl)
theorem dX0_areRows_29 : decode cX0_areRows 29 = .ok (.invokestatic 94, 3) := dk_184 0 94 (dk_at dksX0_areRows_1 7 rfl rfl)
theorem dX0_areRows_32 : decode cX0_areRows 32 = .ok (.sipush 200, 3) := dk_17 0 200 (dk_at dksX0_areRows_1 10 rfl rfl)
theorem dX0_areRows_35 : decode cX0_areRows 35 = .ok (.isub, 1) := dk_100 (dk_at dksX0_areRows_1 13 rfl rfl)
theorem dX0_areRows_36 : decode cX0_areRows 36 = .ok (.goto 15, 3) := dk_167 0 15 (dk_at dksX0_areRows_1 14 rfl rfl)
theorem dX0_areRows_39 : decode cX0_areRows 39 = .ok (.iload_n 2, 1) := dk_28 (dk_at dksX0_areRows_1 17 rfl rfl)
theorem dX0_areRows_40 : decode cX0_areRows 40 = .ok (.ldc 233, 2) := dk_18 233 (dk_at dksX0_areRows_1 18 rfl rfl)
theorem dX0_areRows_42 : decode cX0_areRows 42 = .ok (.iload 4, 2) := dk_21 4 (dk_at dksX0_areRows_1 20 rfl rfl)
theorem dX0_areRows_44 : decode cX0_areRows 44 = .ok (.isub, 1) := dk_100 (dk_at dksX0_areRows_1 22 rfl rfl)
theorem dX0_areRows_45 : decode cX0_areRows 45 = .ok (.invokestatic 94, 3) := dk_184 0 94 (dk_at dksX0_areRows_2 0 rfl rfl)
theorem dX0_areRows_48 : decode cX0_areRows 48 = .ok (.ldc 109, 2) := dk_18 109 (dk_at dksX0_areRows_2 3 rfl rfl)
theorem dX0_areRows_50 : decode cX0_areRows 50 = .ok (.isub, 1) := dk_100 (dk_at dksX0_areRows_2 5 rfl rfl)
theorem dX0_areRows_51 : decode cX0_areRows 51 = .ok (.istore 5, 2) := dk_54 5 (dk_at dksX0_areRows_2 6 rfl rfl)
theorem dX0_areRows_53 : decode cX0_areRows 53 = .ok (.iload 5, 2) := dk_21 5 (dk_at dksX0_areRows_2 8 rfl rfl)
theorem dX0_areRows_55 : decode cX0_areRows 55 = .ok (.istore 6, 2) := dk_54 6 (dk_at dksX0_areRows_2 10 rfl rfl)
theorem dX0_areRows_57 : decode cX0_areRows 57 = .ok (.iconst 0, 1) := dk_3 (dk_at dksX0_areRows_2 12 rfl rfl)
theorem dX0_areRows_58 : decode cX0_areRows 58 = .ok (.istore 7, 2) := dk_54 7 (dk_at dksX0_areRows_2 13 rfl rfl)
theorem dX0_areRows_60 : decode cX0_areRows 60 = .ok (.iconst 0, 1) := dk_3 (dk_at dksX0_areRows_2 15 rfl rfl)
theorem dX0_areRows_61 : decode cX0_areRows 61 = .ok (.istore 8, 2) := dk_54 8 (dk_at dksX0_areRows_2 16 rfl rfl)
theorem dX0_areRows_63 : decode cX0_areRows 63 = .ok (.iconst 0, 1) := dk_3 (dk_at dksX0_areRows_2 18 rfl rfl)
theorem dX0_areRows_64 : decode cX0_areRows 64 = .ok (.istore 9, 2) := dk_54 9 (dk_at dksX0_areRows_2 19 rfl rfl)
theorem dX0_areRows_66 : decode cX0_areRows 66 = .ok (.aload_n 0, 1) := dk_42 (dk_at dksX0_areRows_2 21 rfl rfl)
theorem dX0_areRows_67 : decode cX0_areRows 67 = .ok (.getfield 10, 3) := dk_180 0 10 (dk_at dksX0_areRows_3 0 rfl rfl)
theorem dX0_areRows_70 : decode cX0_areRows 70 = .ok (.iconst 0, 1) := dk_3 (dk_at dksX0_areRows_3 3 rfl rfl)
theorem dX0_areRows_71 : decode cX0_areRows 71 = .ok (.iload 5, 2) := dk_21 5 (dk_at dksX0_areRows_3 4 rfl rfl)
theorem dX0_areRows_73 : decode cX0_areRows 73 = .ok (.iload_n 2, 1) := dk_28 (dk_at dksX0_areRows_3 6 rfl rfl)
theorem dX0_areRows_74 : decode cX0_areRows 74 = .ok (.bipush 9, 2) := dk_16 9 (dk_at dksX0_areRows_3 7 rfl rfl)
theorem dX0_areRows_76 : decode cX0_areRows 76 = .ok (.ishr, 1) := dk_122 (dk_at dksX0_areRows_3 9 rfl rfl)
theorem dX0_areRows_77 : decode cX0_areRows 77 = .ok (.iload 4, 2) := dk_21 4 (dk_at dksX0_areRows_3 10 rfl rfl)
theorem dX0_areRows_79 : decode cX0_areRows 79 = .ok (.invokestatic 94, 3) := dk_184 0 94 (dk_at dksX0_areRows_3 12 rfl rfl)
theorem dX0_areRows_82 : decode cX0_areRows 82 = .ok (.iadd, 1) := dk_96 (dk_at dksX0_areRows_3 15 rfl rfl)
theorem dX0_areRows_83 : decode cX0_areRows 83 = .ok (.invokevirtual 110, 3) := dk_182 0 110 (dk_at dksX0_areRows_3 16 rfl rfl)
theorem dX0_areRows_86 : decode cX0_areRows 86 = .ok (.pop, 1) := dk_87 (dk_at dksX0_areRows_3 19 rfl rfl)
theorem dX0_areRows_87 : decode cX0_areRows 87 = .ok (.aload_n 0, 1) := dk_42 (dk_at dksX0_areRows_3 20 rfl rfl)
theorem dX0_areRows_88 : decode cX0_areRows 88 = .ok (.iload_n 3, 1) := dk_29 (dk_at dksX0_areRows_3 21 rfl rfl)
theorem dX0_areRows_89 : decode cX0_areRows 89 = .ok (.iconst 0, 1) := dk_3 (dk_at dksX0_areRows_3 22 rfl rfl)
theorem dX0_areRows_90 : decode cX0_areRows 90 = .ok (.bipush 7, 2) := dk_16 7 (dk_at dksX0_areRows_4 0 rfl rfl)
theorem dX0_areRows_92 : decode cX0_areRows 92 = .ok (.invokevirtual 178, 3) := dk_182 0 178 (dk_at dksX0_areRows_4 2 rfl rfl)
theorem dX0_areRows_95 : decode cX0_areRows 95 = .ok (.pop2, 1) := dk_88 (dk_at dksX0_areRows_4 5 rfl rfl)
theorem dX0_areRows_96 : decode cX0_areRows 96 = .ok (.iload_n 1, 1) := dk_27 (dk_at dksX0_areRows_4 6 rfl rfl)
theorem dX0_areRows_97 : decode cX0_areRows 97 = .ok (.sipush 128, 3) := dk_17 0 128 (dk_at dksX0_areRows_4 7 rfl rfl)
theorem dX0_areRows_100 : decode cX0_areRows 100 = .ok (.iand, 1) := dk_126 (dk_at dksX0_areRows_4 10 rfl rfl)
theorem dX0_areRows_101 : decode cX0_areRows 101 = .ok (.ifCond .eq 13, 3) := dk_153 0 13 (dk_at dksX0_areRows_4 11 rfl rfl)
theorem dX0_areRows_104 : decode cX0_areRows 104 = .ok (.aload_n 0, 1) := dk_42 (dk_at dksX0_areRows_4 14 rfl rfl)
theorem dX0_areRows_105 : decode cX0_areRows 105 = .ok (.getfield 10, 3) := dk_180 0 10 (dk_at dksX0_areRows_4 15 rfl rfl)
theorem dX0_areRows_108 : decode cX0_areRows 108 = .ok (.bipush 7, 2) := dk_16 7 (dk_at dksX0_areRows_4 18 rfl rfl)
theorem dX0_areRows_110 : decode cX0_areRows 110 = .ok (.invokevirtual 205, 3) := dk_182 0 205 (dk_at dksX0_areRows_4 20 rfl rfl)
theorem dX0_areRows_113 : decode cX0_areRows 113 = .ok (.pop, 1) := dk_87 (dk_at dksX0_areRows_4 23 rfl rfl)
theorem dX0_areRows_114 : decode cX0_areRows 114 = .ok (.iconst 1, 1) := dk_4 (dk_at dksX0_areRows_5 0 rfl rfl)
theorem dX0_areRows_115 : decode cX0_areRows 115 = .ok (.istore 10, 2) := dk_54 10 (dk_at dksX0_areRows_5 1 rfl rfl)
theorem dX0_areRows_117 : decode cX0_areRows 117 = .ok (.iconst 0, 1) := dk_3 (dk_at dksX0_areRows_5 3 rfl rfl)
theorem dX0_areRows_118 : decode cX0_areRows 118 = .ok (.istore 11, 2) := dk_54 11 (dk_at dksX0_areRows_5 4 rfl rfl)
theorem dX0_areRows_120 : decode cX0_areRows 120 = .ok (.iload 11, 2) := dk_21 11 (dk_at dksX0_areRows_5 6 rfl rfl)
theorem dX0_areRows_122 : decode cX0_areRows 122 = .ok (.iload 4, 2) := dk_21 4 (dk_at dksX0_areRows_5 8 rfl rfl)
theorem dX0_areRows_124 : decode cX0_areRows 124 = .ok (.if_icmp .ge 135, 3) := dk_162 0 135 (dk_at dksX0_areRows_5 10 rfl rfl)
theorem dX0_areRows_127 : decode cX0_areRows 127 = .ok (.aload_n 0, 1) := dk_42 (dk_at dksX0_areRows_5 13 rfl rfl)
theorem dX0_areRows_128 : decode cX0_areRows 128 = .ok (.getfield 10, 3) := dk_180 0 10 (dk_at dksX0_areRows_5 14 rfl rfl)
theorem dX0_areRows_131 : decode cX0_areRows 131 = .ok (.iconst 1, 1) := dk_4 (dk_at dksX0_areRows_5 17 rfl rfl)
theorem dX0_areRows_132 : decode cX0_areRows 132 = .ok (.iload 5, 2) := dk_21 5 (dk_at dksX0_areRows_5 18 rfl rfl)
theorem dX0_areRows_134 : decode cX0_areRows 134 = .ok (.iload 11, 2) := dk_21 11 (dk_at dksX0_areRows_5 20 rfl rfl)
theorem dX0_areRows_136 : decode cX0_areRows 136 = .ok (.iadd, 1) := dk_96 (dk_at dksX0_areRows_5 22 rfl rfl)
theorem dX0_areRows_137 : decode cX0_areRows 137 = .ok (.invokevirtual 110, 3) := dk_182 0 110 (dk_at dksX0_areRows_6 0 rfl rfl)
theorem dX0_areRows_140 : decode cX0_areRows 140 = .ok (.pop, 1) := dk_87 (dk_at dksX0_areRows_6 3 rfl rfl)
theorem dX0_areRows_141 : decode cX0_areRows 141 = .ok (.aload_n 0, 1) := dk_42 (dk_at dksX0_areRows_6 4 rfl rfl)
theorem dX0_areRows_142 : decode cX0_areRows 142 = .ok (.iload_n 3, 1) := dk_29 (dk_at dksX0_areRows_6 5 rfl rfl)
theorem dX0_areRows_143 : decode cX0_areRows 143 = .ok (.iconst 1, 1) := dk_4 (dk_at dksX0_areRows_6 6 rfl rfl)
theorem dX0_areRows_144 : decode cX0_areRows 144 = .ok (.iconst 1, 1) := dk_4 (dk_at dksX0_areRows_6 7 rfl rfl)
theorem dX0_areRows_145 : decode cX0_areRows 145 = .ok (.invokevirtual 178, 3) := dk_182 0 178 (dk_at dksX0_areRows_6 8 rfl rfl)
theorem dX0_areRows_148 : decode cX0_areRows 148 = .ok (.pop2, 1) := dk_88 (dk_at dksX0_areRows_6 11 rfl rfl)
theorem dX0_areRows_149 : decode cX0_areRows 149 = .ok (.iload 11, 2) := dk_21 11 (dk_at dksX0_areRows_6 12 rfl rfl)
theorem dX0_areRows_151 : decode cX0_areRows 151 = .ok (.ifCond .eq 16, 3) := dk_153 0 16 (dk_at dksX0_areRows_6 14 rfl rfl)
theorem dX0_areRows_154 : decode cX0_areRows 154 = .ok (.aload_n 0, 1) := dk_42 (dk_at dksX0_areRows_6 17 rfl rfl)
theorem dX0_areRows_155 : decode cX0_areRows 155 = .ok (.getfield 10, 3) := dk_180 0 10 (dk_at dksX0_areRows_6 18 rfl rfl)
theorem dX0_areRows_158 : decode cX0_areRows 158 = .ok (.iconst 1, 1) := dk_4 (dk_at dksX0_areRows_6 21 rfl rfl)
theorem dX0_areRows_159 : decode cX0_areRows 159 = .ok (.iconst 0, 1) := dk_3 (dk_at dksX0_areRows_6 22 rfl rfl)
theorem dX0_areRows_160 : decode cX0_areRows 160 = .ok (.iconst 0, 1) := dk_3 (dk_at dksX0_areRows_6 23 rfl rfl)
theorem dX0_areRows_161 : decode cX0_areRows 161 = .ok (.invokevirtual 230, 3) := dk_182 0 230 (dk_at dksX0_areRows_7 0 rfl rfl)
theorem dX0_areRows_164 : decode cX0_areRows 164 = .ok (.ifCond .le 21, 3) := dk_158 0 21 (dk_at dksX0_areRows_7 3 rfl rfl)
theorem dX0_areRows_167 : decode cX0_areRows 167 = .ok (.aload_n 0, 1) := dk_42 (dk_at dksX0_areRows_7 6 rfl rfl)
theorem dX0_areRows_168 : decode cX0_areRows 168 = .ok (.getfield 10, 3) := dk_180 0 10 (dk_at dksX0_areRows_7 7 rfl rfl)
theorem dX0_areRows_171 : decode cX0_areRows 171 = .ok (.iconst 1, 1) := dk_4 (dk_at dksX0_areRows_7 10 rfl rfl)
theorem dX0_areRows_172 : decode cX0_areRows 172 = .ok (.iconst 1, 1) := dk_4 (dk_at dksX0_areRows_7 11 rfl rfl)
theorem dX0_areRows_173 : decode cX0_areRows 173 = .ok (.iconst 0, 1) := dk_3 (dk_at dksX0_areRows_7 12 rfl rfl)
theorem dX0_areRows_174 : decode cX0_areRows 174 = .ok (.invokevirtual 234, 3) := dk_182 0 234 (dk_at dksX0_areRows_7 13 rfl rfl)
theorem dX0_areRows_177 : decode cX0_areRows 177 = .ok (.pop, 1) := dk_87 (dk_at dksX0_areRows_7 16 rfl rfl)
theorem dX0_areRows_178 : decode cX0_areRows 178 = .ok (.iload 5, 2) := dk_21 5 (dk_at dksX0_areRows_7 17 rfl rfl)
theorem dX0_areRows_180 : decode cX0_areRows 180 = .ok (.iload 11, 2) := dk_21 11 (dk_at dksX0_areRows_7 19 rfl rfl)
theorem dX0_areRows_182 : decode cX0_areRows 182 = .ok (.iadd, 1) := dk_96 (dk_at dksX0_areRows_7 21 rfl rfl)
theorem dX0_areRows_183 : decode cX0_areRows 183 = .ok (.istore 6, 2) := dk_54 6 (dk_at dksX0_areRows_7 22 rfl rfl)
theorem dX0_areRows_185 : decode cX0_areRows 185 = .ok (.aload_n 0, 1) := dk_42 (dk_at dksX0_areRows_8 0 rfl rfl)
theorem dX0_areRows_186 : decode cX0_areRows 186 = .ok (.getfield 10, 3) := dk_180 0 10 (dk_at dksX0_areRows_8 1 rfl rfl)
theorem dX0_areRows_189 : decode cX0_areRows 189 = .ok (.iconst 1, 1) := dk_4 (dk_at dksX0_areRows_8 4 rfl rfl)
theorem dX0_areRows_190 : decode cX0_areRows 190 = .ok (.invokevirtual 175, 3) := dk_182 0 175 (dk_at dksX0_areRows_8 5 rfl rfl)
theorem dX0_areRows_193 : decode cX0_areRows 193 = .ok (.ifCond .ge 7, 3) := dk_156 0 7 (dk_at dksX0_areRows_8 8 rfl rfl)
theorem dX0_areRows_196 : decode cX0_areRows 196 = .ok (.iconst 1, 1) := dk_4 (dk_at dksX0_areRows_8 11 rfl rfl)
theorem dX0_areRows_197 : decode cX0_areRows 197 = .ok (.goto 4, 3) := dk_167 0 4 (dk_at dksX0_areRows_8 12 rfl rfl)
theorem dX0_areRows_200 : decode cX0_areRows 200 = .ok (.iconst 0, 1) := dk_3 (dk_at dksX0_areRows_8 15 rfl rfl)
theorem dX0_areRows_201 : decode cX0_areRows 201 = .ok (.istore 12, 2) := dk_54 12 (dk_at dksX0_areRows_8 16 rfl rfl)
theorem dX0_areRows_203 : decode cX0_areRows 203 = .ok (.iload 7, 2) := dk_21 7 (dk_at dksX0_areRows_8 18 rfl rfl)
theorem dX0_areRows_205 : decode cX0_areRows 205 = .ok (.iload 11, 2) := dk_21 11 (dk_at dksX0_areRows_8 20 rfl rfl)
theorem dX0_areRows_207 : decode cX0_areRows 207 = .ok (.ifCond .le 14, 3) := dk_158 0 14 (dk_at dksX0_areRows_9 0 rfl rfl)
theorem dX0_areRows_210 : decode cX0_areRows 210 = .ok (.iload 12, 2) := dk_21 12 (dk_at dksX0_areRows_9 3 rfl rfl)
theorem dX0_areRows_212 : decode cX0_areRows 212 = .ok (.iload 9, 2) := dk_21 9 (dk_at dksX0_areRows_9 5 rfl rfl)
theorem dX0_areRows_214 : decode cX0_areRows 214 = .ok (.if_icmp .eq 7, 3) := dk_159 0 7 (dk_at dksX0_areRows_9 7 rfl rfl)
theorem dX0_areRows_217 : decode cX0_areRows 217 = .ok (.iconst 1, 1) := dk_4 (dk_at dksX0_areRows_9 10 rfl rfl)
theorem dX0_areRows_218 : decode cX0_areRows 218 = .ok (.goto 4, 3) := dk_167 0 4 (dk_at dksX0_areRows_9 11 rfl rfl)
theorem dX0_areRows_221 : decode cX0_areRows 221 = .ok (.iconst 0, 1) := dk_3 (dk_at dksX0_areRows_9 14 rfl rfl)
theorem dX0_areRows_222 : decode cX0_areRows 222 = .ok (.iadd, 1) := dk_96 (dk_at dksX0_areRows_9 15 rfl rfl)
theorem dX0_areRows_223 : decode cX0_areRows 223 = .ok (.istore 7, 2) := dk_54 7 (dk_at dksX0_areRows_9 16 rfl rfl)
theorem dX0_areRows_225 : decode cX0_areRows 225 = .ok (.iload 8, 2) := dk_21 8 (dk_at dksX0_areRows_9 18 rfl rfl)
theorem dX0_areRows_227 : decode cX0_areRows 227 = .ok (.aload_n 0, 1) := dk_42 (dk_at dksX0_areRows_9 20 rfl rfl)
theorem dX0_areRows_228 : decode cX0_areRows 228 = .ok (.getfield 10, 3) := dk_180 0 10 (dk_at dksX0_areRows_9 21 rfl rfl)
theorem dX0_areRows_231 : decode cX0_areRows 231 = .ok (.iconst 1, 1) := dk_4 (dk_at dksX0_areRows_10 0 rfl rfl)
theorem dX0_areRows_232 : decode cX0_areRows 232 = .ok (.bipush 7, 2) := dk_16 7 (dk_at dksX0_areRows_10 1 rfl rfl)
theorem dX0_areRows_234 : decode cX0_areRows 234 = .ok (.iconst 1, 1) := dk_4 (dk_at dksX0_areRows_10 3 rfl rfl)
theorem dX0_areRows_235 : decode cX0_areRows 235 = .ok (.invokevirtual 230, 3) := dk_182 0 230 (dk_at dksX0_areRows_10 4 rfl rfl)
theorem dX0_areRows_238 : decode cX0_areRows 238 = .ok (.ifCond .ge 7, 3) := dk_156 0 7 (dk_at dksX0_areRows_10 7 rfl rfl)
theorem dX0_areRows_241 : decode cX0_areRows 241 = .ok (.iconst 1, 1) := dk_4 (dk_at dksX0_areRows_10 10 rfl rfl)
theorem dX0_areRows_242 : decode cX0_areRows 242 = .ok (.goto 4, 3) := dk_167 0 4 (dk_at dksX0_areRows_10 11 rfl rfl)
theorem dX0_areRows_245 : decode cX0_areRows 245 = .ok (.iconst 0, 1) := dk_3 (dk_at dksX0_areRows_10 14 rfl rfl)
theorem dX0_areRows_246 : decode cX0_areRows 246 = .ok (.iadd, 1) := dk_96 (dk_at dksX0_areRows_10 15 rfl rfl)
theorem dX0_areRows_247 : decode cX0_areRows 247 = .ok (.istore 8, 2) := dk_54 8 (dk_at dksX0_areRows_10 16 rfl rfl)
theorem dX0_areRows_249 : decode cX0_areRows 249 = .ok (.iload 12, 2) := dk_21 12 (dk_at dksX0_areRows_10 18 rfl rfl)
theorem dX0_areRows_251 : decode cX0_areRows 251 = .ok (.istore 9, 2) := dk_54 9 (dk_at dksX0_areRows_10 20 rfl rfl)
theorem dX0_areRows_253 : decode cX0_areRows 253 = .ok (.iinc 11 1, 3) := dk_132 11 1 (dk_at dksX0_areRows_11 0 rfl rfl)
theorem dX0_areRows_256 : decode cX0_areRows 256 = .ok (.goto (-136), 3) := dk_167 255 120 (dk_at dksX0_areRows_11 3 rfl rfl)
theorem dX0_areRows_259 : decode cX0_areRows 259 = .ok (.iload 10, 2) := dk_21 10 (dk_at dksX0_areRows_11 6 rfl rfl)
theorem dX0_areRows_261 : decode cX0_areRows 261 = .ok (.ifCond .eq 60, 3) := dk_153 0 60 (dk_at dksX0_areRows_11 8 rfl rfl)
theorem dX0_areRows_264 : decode cX0_areRows 264 = .ok (.aload_n 0, 1) := dk_42 (dk_at dksX0_areRows_11 11 rfl rfl)
theorem dX0_areRows_265 : decode cX0_areRows 265 = .ok (.getfield 10, 3) := dk_180 0 10 (dk_at dksX0_areRows_11 12 rfl rfl)
theorem dX0_areRows_268 : decode cX0_areRows 268 = .ok (.iload_n 3, 1) := dk_29 (dk_at dksX0_areRows_11 15 rfl rfl)
theorem dX0_areRows_269 : decode cX0_areRows 269 = .ok (.iload 5, 2) := dk_21 5 (dk_at dksX0_areRows_11 16 rfl rfl)
theorem dX0_areRows_271 : decode cX0_areRows 271 = .ok (.iload 4, 2) := dk_21 4 (dk_at dksX0_areRows_11 18 rfl rfl)
theorem dX0_areRows_273 : decode cX0_areRows 273 = .ok (.invokevirtual 237, 3) := dk_182 0 237 (dk_at dksX0_areRows_11 20 rfl rfl)
theorem dX0_areRows_276 : decode cX0_areRows 276 = .ok (.iload 6, 2) := dk_21 6 (dk_at dksX0_areRows_12 0 rfl rfl)
theorem dX0_areRows_278 : decode cX0_areRows 278 = .ok (.if_icmp .ne 43, 3) := dk_160 0 43 (dk_at dksX0_areRows_12 2 rfl rfl)
theorem dX0_areRows_281 : decode cX0_areRows 281 = .ok (.aload_n 0, 1) := dk_42 (dk_at dksX0_areRows_12 5 rfl rfl)
theorem dX0_areRows_282 : decode cX0_areRows 282 = .ok (.getfield 10, 3) := dk_180 0 10 (dk_at dksX0_areRows_12 6 rfl rfl)
theorem dX0_areRows_285 : decode cX0_areRows 285 = .ok (.iload_n 3, 1) := dk_29 (dk_at dksX0_areRows_12 9 rfl rfl)
theorem dX0_areRows_286 : decode cX0_areRows 286 = .ok (.iload 5, 2) := dk_21 5 (dk_at dksX0_areRows_12 10 rfl rfl)
theorem dX0_areRows_288 : decode cX0_areRows 288 = .ok (.iload 4, 2) := dk_21 4 (dk_at dksX0_areRows_12 12 rfl rfl)
theorem dX0_areRows_290 : decode cX0_areRows 290 = .ok (.invokevirtual 240, 3) := dk_182 0 240 (dk_at dksX0_areRows_12 14 rfl rfl)
theorem dX0_areRows_293 : decode cX0_areRows 293 = .ok (.iload 7, 2) := dk_21 7 (dk_at dksX0_areRows_12 17 rfl rfl)
theorem dX0_areRows_295 : decode cX0_areRows 295 = .ok (.if_icmp .ne 26, 3) := dk_160 0 26 (dk_at dksX0_areRows_12 19 rfl rfl)
theorem dX0_areRows_298 : decode cX0_areRows 298 = .ok (.aload_n 0, 1) := dk_42 (dk_at dksX0_areRows_12 22 rfl rfl)
theorem dX0_areRows_299 : decode cX0_areRows 299 = .ok (.getfield 10, 3) := dk_180 0 10 (dk_at dksX0_areRows_13 0 rfl rfl)
theorem dX0_areRows_302 : decode cX0_areRows 302 = .ok (.iload_n 3, 1) := dk_29 (dk_at dksX0_areRows_13 3 rfl rfl)
theorem dX0_areRows_303 : decode cX0_areRows 303 = .ok (.iload 5, 2) := dk_21 5 (dk_at dksX0_areRows_13 4 rfl rfl)
theorem dX0_areRows_305 : decode cX0_areRows 305 = .ok (.iload 4, 2) := dk_21 4 (dk_at dksX0_areRows_13 6 rfl rfl)
theorem dX0_areRows_307 : decode cX0_areRows 307 = .ok (.bipush 7, 2) := dk_16 7 (dk_at dksX0_areRows_13 8 rfl rfl)
theorem dX0_areRows_309 : decode cX0_areRows 309 = .ok (.invokevirtual 243, 3) := dk_182 0 243 (dk_at dksX0_areRows_13 10 rfl rfl)
theorem dX0_areRows_312 : decode cX0_areRows 312 = .ok (.iload 8, 2) := dk_21 8 (dk_at dksX0_areRows_13 13 rfl rfl)
theorem dX0_areRows_314 : decode cX0_areRows 314 = .ok (.if_icmp .ne 7, 3) := dk_160 0 7 (dk_at dksX0_areRows_13 15 rfl rfl)
theorem dX0_areRows_317 : decode cX0_areRows 317 = .ok (.iconst 1, 1) := dk_4 (dk_at dksX0_areRows_13 18 rfl rfl)
theorem dX0_areRows_318 : decode cX0_areRows 318 = .ok (.goto 4, 3) := dk_167 0 4 (dk_at dksX0_areRows_13 19 rfl rfl)
theorem dX0_areRows_321 : decode cX0_areRows 321 = .ok (.iconst 0, 1) := dk_3 (dk_at dksX0_areRows_13 22 rfl rfl)
theorem dX0_areRows_322 : decode cX0_areRows 322 = .ok (.ireturn, 1) := dk_172 (dk_at dksX0_areRows_13 23 rfl rfl)
abbrev cX0_areOrdered : ByteArray := method_21_code
def yX0_areOrdered : MethodName := ⟨RX0, "areOrdered", "(I)Z"⟩
def dkwX0_areOrdered_33 : List UInt8 := [153, 0, 7, 4, 167, 0, 4, 3, 172]
abbrev dktX0_areOrdered_33 : List UInt8 := dkwX0_areOrdered_33 ++ []
def dkwX0_areOrdered_32 : List UInt8 := [153, 0, 29, 42, 180, 0, 10, 16, 6, 7, 4, 182, 0, 197, 153, 0, 15, 42, 27, 182, 1, 24]
abbrev dktX0_areOrdered_32 : List UInt8 := dkwX0_areOrdered_32 ++ dktX0_areOrdered_33
def dkwX0_areOrdered_31 : List UInt8 := [6, 7, 16, 6, 182, 1, 17, 87, 21, 6, 153, 0, 42, 42, 180, 0, 10, 8, 6, 3, 182, 0, 197]
abbrev dktX0_areOrdered_31 : List UInt8 := dkwX0_areOrdered_31 ++ dktX0_areOrdered_32
def dkwX0_areOrdered_30 : List UInt8 := [3, 54, 6, 132, 7, 1, 167, 255, 206, 42, 180, 0, 10, 6, 7, 8, 182, 0, 234, 87, 42, 180, 0, 10]
abbrev dktX0_areOrdered_30 : List UInt8 := dkwX0_areOrdered_30 ++ dktX0_areOrdered_31
def dkwX0_areOrdered_29 : List UInt8 := [182, 0, 230, 157, 0, 21, 42, 180, 0, 10, 7, 21, 7, 4, 182, 0, 230, 157, 0, 7, 4, 167, 0, 4]
abbrev dktX0_areOrdered_29 : List UInt8 := dkwX0_areOrdered_29 ++ dktX0_areOrdered_30
def dkwX0_areOrdered_28 : List UInt8 := [54, 7, 21, 7, 16, 8, 162, 0, 49, 21, 6, 153, 0, 35, 42, 180, 0, 10, 21, 7, 6, 3]
abbrev dktX0_areOrdered_28 : List UInt8 := dkwX0_areOrdered_28 ++ dktX0_areOrdered_29
def dkwX0_areOrdered_27 : List UInt8 := [54, 6, 42, 180, 0, 10, 4, 6, 182, 1, 20, 87, 42, 180, 0, 10, 3, 7, 182, 1, 20, 87, 3]
abbrev dktX0_areOrdered_27 : List UInt8 := dkwX0_areOrdered_27 ++ dktX0_areOrdered_28
def dkwX0_areOrdered_26 : List UInt8 := [180, 0, 10, 27, 16, 8, 184, 0, 94, 16, 7, 16, 7, 182, 0, 234, 154, 0, 7, 4, 167, 0, 4, 3]
abbrev dktX0_areOrdered_26 : List UInt8 := dkwX0_areOrdered_26 ++ dktX0_areOrdered_27
def dkwX0_areOrdered_25 : List UInt8 := [148, 154, 0, 45, 42, 180, 0, 10, 27, 16, 8, 184, 0, 94, 3, 3, 182, 1, 17, 154, 0, 27, 42]
abbrev dktX0_areOrdered_25 : List UInt8 := dkwX0_areOrdered_25 ++ dktX0_areOrdered_26
def dkwX0_areOrdered_24 : List UInt8 := [157, 0, 7, 4, 167, 0, 4, 3, 54, 6, 132, 7, 1, 167, 255, 201, 21, 6, 153, 0, 52, 32, 22, 4]
abbrev dktX0_areOrdered_24 : List UInt8 := dkwX0_areOrdered_24 ++ dktX0_areOrdered_25
def dkwX0_areOrdered_23 : List UInt8 := [21, 6, 153, 0, 29, 21, 7, 153, 0, 20, 42, 180, 0, 10, 21, 7, 4, 100, 21, 7, 3, 182, 0, 230]
abbrev dktX0_areOrdered_23 : List UInt8 := dkwX0_areOrdered_23 ++ dktX0_areOrdered_24
def dkwX0_areOrdered_22 : List UInt8 := [54, 6, 3, 54, 7, 21, 7, 16, 8, 162, 0, 54, 22, 4, 42, 21, 7, 182, 0, 63, 97, 55, 4]
abbrev dktX0_areOrdered_22 : List UInt8 := dkwX0_areOrdered_22 ++ dktX0_areOrdered_23
def dkwX0_areOrdered_21 : List UInt8 := [180, 0, 10, 182, 1, 14, 155, 0, 17, 42, 180, 0, 10, 182, 1, 14, 154, 0, 7, 4, 167, 0, 4, 3]
abbrev dktX0_areOrdered_21 : List UInt8 := dkwX0_areOrdered_21 ++ dktX0_areOrdered_22
def dkwX0_areOrdered_20 : List UInt8 := [21, 9, 160, 0, 7, 4, 167, 0, 4, 3, 54, 6, 132, 7, 1, 167, 254, 79, 21, 6, 153, 0, 27, 42]
abbrev dktX0_areOrdered_20 : List UInt8 := dkwX0_areOrdered_20 ++ dktX0_areOrdered_21
def dkwX0_areOrdered_19 : List UInt8 := [180, 0, 10, 21, 7, 3, 182, 1, 11, 21, 8, 160, 0, 22, 42, 180, 0, 10, 21, 7, 4, 182, 1, 11]
abbrev dktX0_areOrdered_19 : List UInt8 := dkwX0_areOrdered_19 ++ dktX0_areOrdered_20
def dkwX0_areOrdered_18 : List UInt8 := [167, 0, 5, 21, 8, 54, 8, 21, 10, 54, 9, 132, 10, 1, 167, 254, 153, 21, 6, 153, 0, 37, 42]
abbrev dktX0_areOrdered_18 : List UInt8 := dkwX0_areOrdered_18 ++ dktX0_areOrdered_19
def dkwX0_areOrdered_17 : List UInt8 := [160, 0, 7, 4, 167, 0, 4, 3, 54, 6, 21, 11, 154, 0, 23, 21, 10, 21, 8, 162, 0, 8, 21, 10]
abbrev dktX0_areOrdered_17 : List UInt8 := dkwX0_areOrdered_17 ++ dktX0_areOrdered_18
def dkwX0_areOrdered_16 : List UInt8 := [182, 0, 202, 42, 21, 7, 182, 1, 8, 42, 21, 10, 182, 1, 8, 148, 156, 0, 7, 2, 167, 0, 4, 4]
abbrev dktX0_areOrdered_16 : List UInt8 := dkwX0_areOrdered_16 ++ dktX0_areOrdered_17
def dkwX0_areOrdered_15 : List UInt8 := [182, 1, 8, 42, 21, 10, 182, 1, 8, 10, 184, 0, 184, 154, 0, 38, 42, 180, 0, 10, 21, 7, 21, 10]
abbrev dktX0_areOrdered_15 : List UInt8 := dkwX0_areOrdered_15 ++ dktX0_areOrdered_16
def dkwX0_areOrdered_14 : List UInt8 := [21, 10, 182, 0, 202, 42, 180, 0, 10, 21, 10, 21, 7, 182, 0, 202, 116, 160, 0, 61, 42, 21, 7]
abbrev dktX0_areOrdered_14 : List UInt8 := dkwX0_areOrdered_14 ++ dktX0_areOrdered_15
def dkwX0_areOrdered_13 : List UInt8 := [21, 11, 158, 0, 8, 21, 14, 153, 0, 7, 4, 167, 0, 4, 3, 160, 0, 87, 42, 180, 0, 10, 21, 7]
abbrev dktX0_areOrdered_13 : List UInt8 := dkwX0_areOrdered_13 ++ dktX0_areOrdered_14
def dkwX0_areOrdered_12 : List UInt8 := [154, 0, 7, 4, 167, 0, 4, 3, 160, 0, 117, 42, 180, 0, 10, 21, 7, 21, 10, 4, 182, 1, 4]
abbrev dktX0_areOrdered_12 : List UInt8 := dkwX0_areOrdered_12 ++ dktX0_areOrdered_13
def dkwX0_areOrdered_11 : List UInt8 := [160, 0, 147, 42, 180, 0, 10, 21, 7, 21, 10, 3, 182, 1, 4, 21, 11, 156, 0, 12, 21, 14]
abbrev dktX0_areOrdered_11 : List UInt8 := dkwX0_areOrdered_11 ++ dktX0_areOrdered_12
def dkwX0_areOrdered_10 : List UInt8 := [180, 0, 10, 21, 7, 21, 10, 21, 10, 6, 112, 182, 0, 197, 21, 11, 154, 0, 7, 4, 167, 0, 4, 3]
abbrev dktX0_areOrdered_10 : List UInt8 := dkwX0_areOrdered_10 ++ dktX0_areOrdered_11
def dkwX0_areOrdered_9 : List UInt8 := [156, 0, 7, 4, 167, 0, 4, 3, 21, 11, 156, 0, 7, 4, 167, 0, 4, 3, 160, 0, 175, 42]
abbrev dktX0_areOrdered_9 : List UInt8 := dkwX0_areOrdered_9 ++ dktX0_areOrdered_10
def dkwX0_areOrdered_8 : List UInt8 := [154, 0, 13, 22, 12, 9, 148, 154, 0, 210, 167, 0, 35, 22, 12, 9, 148, 153, 0, 28, 22, 12, 9, 148]
abbrev dktX0_areOrdered_8 : List UInt8 := dkwX0_areOrdered_8 ++ dktX0_areOrdered_9
def dkwX0_areOrdered_7 : List UInt8 := [153, 0, 240, 21, 11, 42, 180, 0, 10, 21, 10, 21, 7, 3, 182, 0, 230, 116, 160, 0, 222, 21, 11]
abbrev dktX0_areOrdered_7 : List UInt8 := dkwX0_areOrdered_7 ++ dktX0_areOrdered_8
def dkwX0_areOrdered_6 : List UInt8 := [180, 0, 10, 21, 10, 182, 0, 175, 18, 16, 126, 154, 0, 7, 4, 167, 0, 4, 3, 54, 14, 21, 6]
abbrev dktX0_areOrdered_6 : List UInt8 := dkwX0_areOrdered_6 ++ dktX0_areOrdered_7
def dkwX0_areOrdered_5 : List UInt8 := [22, 12, 9, 148, 154, 0, 37, 42, 180, 0, 10, 21, 7, 182, 0, 175, 18, 16, 126, 154, 0, 22, 42]
abbrev dktX0_areOrdered_5 : List UInt8 := dkwX0_areOrdered_5 ++ dktX0_areOrdered_6
def dkwX0_areOrdered_4 : List UInt8 := [96, 4, 126, 182, 0, 230, 54, 11, 42, 21, 7, 182, 0, 63, 42, 21, 10, 182, 0, 63, 101, 55, 12]
abbrev dktX0_areOrdered_4 : List UInt8 := dkwX0_areOrdered_4 ++ dktX0_areOrdered_5
def dkwX0_areOrdered_3 : List UInt8 := [54, 9, 3, 54, 10, 21, 10, 16, 8, 162, 1, 102, 42, 180, 0, 10, 21, 7, 21, 10, 21, 7, 21, 10]
abbrev dktX0_areOrdered_3 : List UInt8 := dkwX0_areOrdered_3 ++ dktX0_areOrdered_4
def dkwX0_areOrdered_2 : List UInt8 := [54, 7, 21, 7, 16, 8, 162, 1, 176, 32, 42, 21, 7, 182, 0, 63, 97, 65, 16, 8, 54, 8, 2]
abbrev dktX0_areOrdered_2 : List UInt8 := dkwX0_areOrdered_2 ++ dktX0_areOrdered_3
def dkwX0_areOrdered_1 : List UInt8 := [184, 0, 94, 28, 182, 0, 178, 88, 132, 2, 1, 167, 255, 224, 9, 65, 9, 55, 4, 4, 54, 6, 3]
abbrev dktX0_areOrdered_1 : List UInt8 := dkwX0_areOrdered_1 ++ dktX0_areOrdered_2
def dkwX0_areOrdered_0 : List UInt8 := [3, 61, 28, 16, 8, 162, 0, 32, 42, 27, 28, 122, 6, 184, 0, 94, 27, 5, 28, 104, 122, 16, 8]
abbrev dktX0_areOrdered_0 : List UInt8 := dkwX0_areOrdered_0 ++ dktX0_areOrdered_1
theorem dksX0_areOrdered_0 : cX0_areOrdered.data.toList.drop 0 = dktX0_areOrdered_0 := by decide +kernel
theorem dksX0_areOrdered_1 : cX0_areOrdered.data.toList.drop 23 = dktX0_areOrdered_1 := dk_seg dksX0_areOrdered_0 23 rfl rfl
theorem dksX0_areOrdered_2 : cX0_areOrdered.data.toList.drop 46 = dktX0_areOrdered_2 := dk_seg dksX0_areOrdered_1 23 rfl rfl
theorem dksX0_areOrdered_3 : cX0_areOrdered.data.toList.drop 69 = dktX0_areOrdered_3 := dk_seg dksX0_areOrdered_2 23 rfl rfl
theorem dksX0_areOrdered_4 : cX0_areOrdered.data.toList.drop 93 = dktX0_areOrdered_4 := dk_seg dksX0_areOrdered_3 24 rfl rfl
theorem dksX0_areOrdered_5 : cX0_areOrdered.data.toList.drop 116 = dktX0_areOrdered_5 := dk_seg dksX0_areOrdered_4 23 rfl rfl
theorem dksX0_areOrdered_6 : cX0_areOrdered.data.toList.drop 139 = dktX0_areOrdered_6 := dk_seg dksX0_areOrdered_5 23 rfl rfl
theorem dksX0_areOrdered_7 : cX0_areOrdered.data.toList.drop 162 = dktX0_areOrdered_7 := dk_seg dksX0_areOrdered_6 23 rfl rfl
theorem dksX0_areOrdered_8 : cX0_areOrdered.data.toList.drop 185 = dktX0_areOrdered_8 := dk_seg dksX0_areOrdered_7 23 rfl rfl
theorem dksX0_areOrdered_9 : cX0_areOrdered.data.toList.drop 209 = dktX0_areOrdered_9 := dk_seg dksX0_areOrdered_8 24 rfl rfl
theorem dksX0_areOrdered_10 : cX0_areOrdered.data.toList.drop 231 = dktX0_areOrdered_10 := dk_seg dksX0_areOrdered_9 22 rfl rfl
theorem dksX0_areOrdered_11 : cX0_areOrdered.data.toList.drop 255 = dktX0_areOrdered_11 := dk_seg dksX0_areOrdered_10 24 rfl rfl
theorem dksX0_areOrdered_12 : cX0_areOrdered.data.toList.drop 277 = dktX0_areOrdered_12 := dk_seg dksX0_areOrdered_11 22 rfl rfl
theorem dksX0_areOrdered_13 : cX0_areOrdered.data.toList.drop 300 = dktX0_areOrdered_13 := dk_seg dksX0_areOrdered_12 23 rfl rfl
theorem dksX0_areOrdered_14 : cX0_areOrdered.data.toList.drop 324 = dktX0_areOrdered_14 := dk_seg dksX0_areOrdered_13 24 rfl rfl
theorem dksX0_areOrdered_15 : cX0_areOrdered.data.toList.drop 347 = dktX0_areOrdered_15 := dk_seg dksX0_areOrdered_14 23 rfl rfl
theorem dksX0_areOrdered_16 : cX0_areOrdered.data.toList.drop 371 = dktX0_areOrdered_16 := dk_seg dksX0_areOrdered_15 24 rfl rfl
theorem dksX0_areOrdered_17 : cX0_areOrdered.data.toList.drop 395 = dktX0_areOrdered_17 := dk_seg dksX0_areOrdered_16 24 rfl rfl
theorem dksX0_areOrdered_18 : cX0_areOrdered.data.toList.drop 419 = dktX0_areOrdered_18 := dk_seg dksX0_areOrdered_17 24 rfl rfl
theorem dksX0_areOrdered_19 : cX0_areOrdered.data.toList.drop 442 = dktX0_areOrdered_19 := dk_seg dksX0_areOrdered_18 23 rfl rfl
theorem dksX0_areOrdered_20 : cX0_areOrdered.data.toList.drop 466 = dktX0_areOrdered_20 := dk_seg dksX0_areOrdered_19 24 rfl rfl
theorem dksX0_areOrdered_21 : cX0_areOrdered.data.toList.drop 490 = dktX0_areOrdered_21 := dk_seg dksX0_areOrdered_20 24 rfl rfl
theorem dksX0_areOrdered_22 : cX0_areOrdered.data.toList.drop 514 = dktX0_areOrdered_22 := dk_seg dksX0_areOrdered_21 24 rfl rfl
theorem dksX0_areOrdered_23 : cX0_areOrdered.data.toList.drop 537 = dktX0_areOrdered_23 := dk_seg dksX0_areOrdered_22 23 rfl rfl
theorem dksX0_areOrdered_24 : cX0_areOrdered.data.toList.drop 561 = dktX0_areOrdered_24 := dk_seg dksX0_areOrdered_23 24 rfl rfl
theorem dksX0_areOrdered_25 : cX0_areOrdered.data.toList.drop 585 = dktX0_areOrdered_25 := dk_seg dksX0_areOrdered_24 24 rfl rfl
theorem dksX0_areOrdered_26 : cX0_areOrdered.data.toList.drop 608 = dktX0_areOrdered_26 := dk_seg dksX0_areOrdered_25 23 rfl rfl
theorem dksX0_areOrdered_27 : cX0_areOrdered.data.toList.drop 632 = dktX0_areOrdered_27 := dk_seg dksX0_areOrdered_26 24 rfl rfl
theorem dksX0_areOrdered_28 : cX0_areOrdered.data.toList.drop 655 = dktX0_areOrdered_28 := dk_seg dksX0_areOrdered_27 23 rfl rfl
theorem dksX0_areOrdered_29 : cX0_areOrdered.data.toList.drop 677 = dktX0_areOrdered_29 := dk_seg dksX0_areOrdered_28 22 rfl rfl
theorem dksX0_areOrdered_30 : cX0_areOrdered.data.toList.drop 701 = dktX0_areOrdered_30 := dk_seg dksX0_areOrdered_29 24 rfl rfl
theorem dksX0_areOrdered_31 : cX0_areOrdered.data.toList.drop 725 = dktX0_areOrdered_31 := dk_seg dksX0_areOrdered_30 24 rfl rfl
theorem dksX0_areOrdered_32 : cX0_areOrdered.data.toList.drop 748 = dktX0_areOrdered_32 := dk_seg dksX0_areOrdered_31 23 rfl rfl
theorem dksX0_areOrdered_33 : cX0_areOrdered.data.toList.drop 770 = dktX0_areOrdered_33 := dk_seg dksX0_areOrdered_32 22 rfl rfl
theorem dX0_areOrdered_0 : decode cX0_areOrdered 0 = .ok (.iconst 0, 1) := dk_3 (dk_at dksX0_areOrdered_0 0 rfl rfl)
theorem dX0_areOrdered_1 : decode cX0_areOrdered 1 = .ok (.istore_n 2, 1) := dk_61 (dk_at dksX0_areOrdered_0 1 rfl rfl)
theorem dX0_areOrdered_2 : decode cX0_areOrdered 2 = .ok (.iload_n 2, 1) := dk_28 (dk_at dksX0_areOrdered_0 2 rfl rfl)
theorem dX0_areOrdered_3 : decode cX0_areOrdered 3 = .ok (.bipush 8, 2) := dk_16 8 (dk_at dksX0_areOrdered_0 3 rfl rfl)
theorem dX0_areOrdered_5 : decode cX0_areOrdered 5 = .ok (.if_icmp .ge 32, 3) := dk_162 0 32 (dk_at dksX0_areOrdered_0 5 rfl rfl)
theorem dX0_areOrdered_8 : decode cX0_areOrdered 8 = .ok (.aload_n 0, 1) := dk_42 (dk_at dksX0_areOrdered_0 8 rfl rfl)
theorem dX0_areOrdered_9 : decode cX0_areOrdered 9 = .ok (.iload_n 1, 1) := dk_27 (dk_at dksX0_areOrdered_0 9 rfl rfl)
theorem dX0_areOrdered_10 : decode cX0_areOrdered 10 = .ok (.iload_n 2, 1) := dk_28 (dk_at dksX0_areOrdered_0 10 rfl rfl)
theorem dX0_areOrdered_11 : decode cX0_areOrdered 11 = .ok (.ishr, 1) := dk_122 (dk_at dksX0_areOrdered_0 11 rfl rfl)
theorem dX0_areOrdered_12 : decode cX0_areOrdered 12 = .ok (.iconst 3, 1) := dk_6 (dk_at dksX0_areOrdered_0 12 rfl rfl)
theorem dX0_areOrdered_13 : decode cX0_areOrdered 13 = .ok (.invokestatic 94, 3) := dk_184 0 94 (dk_at dksX0_areOrdered_0 13 rfl rfl)
theorem dX0_areOrdered_16 : decode cX0_areOrdered 16 = .ok (.iload_n 1, 1) := dk_27 (dk_at dksX0_areOrdered_0 16 rfl rfl)
theorem dX0_areOrdered_17 : decode cX0_areOrdered 17 = .ok (.iconst 2, 1) := dk_5 (dk_at dksX0_areOrdered_0 17 rfl rfl)
theorem dX0_areOrdered_18 : decode cX0_areOrdered 18 = .ok (.iload_n 2, 1) := dk_28 (dk_at dksX0_areOrdered_0 18 rfl rfl)
theorem dX0_areOrdered_19 : decode cX0_areOrdered 19 = .ok (.imul, 1) := dk_104 (dk_at dksX0_areOrdered_0 19 rfl rfl)
theorem dX0_areOrdered_20 : decode cX0_areOrdered 20 = .ok (.ishr, 1) := dk_122 (dk_at dksX0_areOrdered_0 20 rfl rfl)
theorem dX0_areOrdered_21 : decode cX0_areOrdered 21 = .ok (.bipush 8, 2) := dk_16 8 (dk_at dksX0_areOrdered_0 21 rfl rfl)
theorem dX0_areOrdered_23 : decode cX0_areOrdered 23 = .ok (.invokestatic 94, 3) := dk_184 0 94 (dk_at dksX0_areOrdered_1 0 rfl rfl)
theorem dX0_areOrdered_26 : decode cX0_areOrdered 26 = .ok (.iload_n 2, 1) := dk_28 (dk_at dksX0_areOrdered_1 3 rfl rfl)
theorem dX0_areOrdered_27 : decode cX0_areOrdered 27 = .ok (.invokevirtual 178, 3) := dk_182 0 178 (dk_at dksX0_areOrdered_1 4 rfl rfl)
theorem dX0_areOrdered_30 : decode cX0_areOrdered 30 = .ok (.pop2, 1) := dk_88 (dk_at dksX0_areOrdered_1 7 rfl rfl)
theorem dX0_areOrdered_31 : decode cX0_areOrdered 31 = .ok (.iinc 2 1, 3) := dk_132 2 1 (dk_at dksX0_areOrdered_1 8 rfl rfl)
theorem dX0_areOrdered_34 : decode cX0_areOrdered 34 = .ok (.goto (-32), 3) := dk_167 255 224 (dk_at dksX0_areOrdered_1 11 rfl rfl)
theorem dX0_areOrdered_37 : decode cX0_areOrdered 37 = .ok (.lconst 0, 1) := dk_9 (dk_at dksX0_areOrdered_1 14 rfl rfl)
theorem dX0_areOrdered_38 : decode cX0_areOrdered 38 = .ok (.lstore_n 2, 1) := dk_65 (dk_at dksX0_areOrdered_1 15 rfl rfl)
theorem dX0_areOrdered_39 : decode cX0_areOrdered 39 = .ok (.lconst 0, 1) := dk_9 (dk_at dksX0_areOrdered_1 16 rfl rfl)
theorem dX0_areOrdered_40 : decode cX0_areOrdered 40 = .ok (.lstore 4, 2) := dk_55 4 (dk_at dksX0_areOrdered_1 17 rfl rfl)
theorem dX0_areOrdered_42 : decode cX0_areOrdered 42 = .ok (.iconst 1, 1) := dk_4 (dk_at dksX0_areOrdered_1 19 rfl rfl)
theorem dX0_areOrdered_43 : decode cX0_areOrdered 43 = .ok (.istore 6, 2) := dk_54 6 (dk_at dksX0_areOrdered_1 20 rfl rfl)
theorem dX0_areOrdered_45 : decode cX0_areOrdered 45 = .ok (.iconst 0, 1) := dk_3 (dk_at dksX0_areOrdered_1 22 rfl rfl)
theorem dX0_areOrdered_46 : decode cX0_areOrdered 46 = .ok (.istore 7, 2) := dk_54 7 (dk_at dksX0_areOrdered_2 0 rfl rfl)
theorem dX0_areOrdered_48 : decode cX0_areOrdered 48 = .ok (.iload 7, 2) := dk_21 7 (dk_at dksX0_areOrdered_2 2 rfl rfl)
theorem dX0_areOrdered_50 : decode cX0_areOrdered 50 = .ok (.bipush 8, 2) := dk_16 8 (dk_at dksX0_areOrdered_2 4 rfl rfl)
theorem dX0_areOrdered_52 : decode cX0_areOrdered 52 = .ok (.if_icmp .ge 432, 3) := dk_162 1 176 (dk_at dksX0_areOrdered_2 6 rfl rfl)
theorem dX0_areOrdered_55 : decode cX0_areOrdered 55 = .ok (.lload_n 2, 1) := dk_32 (dk_at dksX0_areOrdered_2 9 rfl rfl)
theorem dX0_areOrdered_56 : decode cX0_areOrdered 56 = .ok (.aload_n 0, 1) := dk_42 (dk_at dksX0_areOrdered_2 10 rfl rfl)
theorem dX0_areOrdered_57 : decode cX0_areOrdered 57 = .ok (.iload 7, 2) := dk_21 7 (dk_at dksX0_areOrdered_2 11 rfl rfl)
theorem dX0_areOrdered_59 : decode cX0_areOrdered 59 = .ok (.invokevirtual 63, 3) := dk_182 0 63 (dk_at dksX0_areOrdered_2 13 rfl rfl)
theorem dX0_areOrdered_62 : decode cX0_areOrdered 62 = .ok (.ladd, 1) := dk_97 (dk_at dksX0_areOrdered_2 16 rfl rfl)
theorem dX0_areOrdered_63 : decode cX0_areOrdered 63 = .ok (.lstore_n 2, 1) := dk_65 (dk_at dksX0_areOrdered_2 17 rfl rfl)
theorem dX0_areOrdered_64 : decode cX0_areOrdered 64 = .ok (.bipush 8, 2) := dk_16 8 (dk_at dksX0_areOrdered_2 18 rfl rfl)
theorem dX0_areOrdered_66 : decode cX0_areOrdered 66 = .ok (.istore 8, 2) := dk_54 8 (dk_at dksX0_areOrdered_2 20 rfl rfl)
theorem dX0_areOrdered_68 : decode cX0_areOrdered 68 = .ok (.iconst (-1), 1) := dk_2 (dk_at dksX0_areOrdered_2 22 rfl rfl)
theorem dX0_areOrdered_69 : decode cX0_areOrdered 69 = .ok (.istore 9, 2) := dk_54 9 (dk_at dksX0_areOrdered_3 0 rfl rfl)
theorem dX0_areOrdered_71 : decode cX0_areOrdered 71 = .ok (.iconst 0, 1) := dk_3 (dk_at dksX0_areOrdered_3 2 rfl rfl)
theorem dX0_areOrdered_72 : decode cX0_areOrdered 72 = .ok (.istore 10, 2) := dk_54 10 (dk_at dksX0_areOrdered_3 3 rfl rfl)
theorem dX0_areOrdered_74 : decode cX0_areOrdered 74 = .ok (.iload 10, 2) := dk_21 10 (dk_at dksX0_areOrdered_3 5 rfl rfl)
theorem dX0_areOrdered_76 : decode cX0_areOrdered 76 = .ok (.bipush 8, 2) := dk_16 8 (dk_at dksX0_areOrdered_3 7 rfl rfl)
theorem dX0_areOrdered_78 : decode cX0_areOrdered 78 = .ok (.if_icmp .ge 358, 3) := dk_162 1 102 (dk_at dksX0_areOrdered_3 9 rfl rfl)
theorem dX0_areOrdered_81 : decode cX0_areOrdered 81 = .ok (.aload_n 0, 1) := dk_42 (dk_at dksX0_areOrdered_3 12 rfl rfl)
theorem dX0_areOrdered_82 : decode cX0_areOrdered 82 = .ok (.getfield 10, 3) := dk_180 0 10 (dk_at dksX0_areOrdered_3 13 rfl rfl)
theorem dX0_areOrdered_85 : decode cX0_areOrdered 85 = .ok (.iload 7, 2) := dk_21 7 (dk_at dksX0_areOrdered_3 16 rfl rfl)
theorem dX0_areOrdered_87 : decode cX0_areOrdered 87 = .ok (.iload 10, 2) := dk_21 10 (dk_at dksX0_areOrdered_3 18 rfl rfl)
theorem dX0_areOrdered_89 : decode cX0_areOrdered 89 = .ok (.iload 7, 2) := dk_21 7 (dk_at dksX0_areOrdered_3 20 rfl rfl)
theorem dX0_areOrdered_91 : decode cX0_areOrdered 91 = .ok (.iload 10, 2) := dk_21 10 (dk_at dksX0_areOrdered_3 22 rfl rfl)
theorem dX0_areOrdered_93 : decode cX0_areOrdered 93 = .ok (.iadd, 1) := dk_96 (dk_at dksX0_areOrdered_4 0 rfl rfl)
theorem dX0_areOrdered_94 : decode cX0_areOrdered 94 = .ok (.iconst 1, 1) := dk_4 (dk_at dksX0_areOrdered_4 1 rfl rfl)
theorem dX0_areOrdered_95 : decode cX0_areOrdered 95 = .ok (.iand, 1) := dk_126 (dk_at dksX0_areOrdered_4 2 rfl rfl)
theorem dX0_areOrdered_96 : decode cX0_areOrdered 96 = .ok (.invokevirtual 230, 3) := dk_182 0 230 (dk_at dksX0_areOrdered_4 3 rfl rfl)
theorem dX0_areOrdered_99 : decode cX0_areOrdered 99 = .ok (.istore 11, 2) := dk_54 11 (dk_at dksX0_areOrdered_4 6 rfl rfl)
theorem dX0_areOrdered_101 : decode cX0_areOrdered 101 = .ok (.aload_n 0, 1) := dk_42 (dk_at dksX0_areOrdered_4 8 rfl rfl)
theorem dX0_areOrdered_102 : decode cX0_areOrdered 102 = .ok (.iload 7, 2) := dk_21 7 (dk_at dksX0_areOrdered_4 9 rfl rfl)
theorem dX0_areOrdered_104 : decode cX0_areOrdered 104 = .ok (.invokevirtual 63, 3) := dk_182 0 63 (dk_at dksX0_areOrdered_4 11 rfl rfl)
theorem dX0_areOrdered_107 : decode cX0_areOrdered 107 = .ok (.aload_n 0, 1) := dk_42 (dk_at dksX0_areOrdered_4 14 rfl rfl)
theorem dX0_areOrdered_108 : decode cX0_areOrdered 108 = .ok (.iload 10, 2) := dk_21 10 (dk_at dksX0_areOrdered_4 15 rfl rfl)
theorem dX0_areOrdered_110 : decode cX0_areOrdered 110 = .ok (.invokevirtual 63, 3) := dk_182 0 63 (dk_at dksX0_areOrdered_4 17 rfl rfl)
theorem dX0_areOrdered_113 : decode cX0_areOrdered 113 = .ok (.lsub, 1) := dk_101 (dk_at dksX0_areOrdered_4 20 rfl rfl)
theorem dX0_areOrdered_114 : decode cX0_areOrdered 114 = .ok (.lstore 12, 2) := dk_55 12 (dk_at dksX0_areOrdered_4 21 rfl rfl)
theorem dX0_areOrdered_116 : decode cX0_areOrdered 116 = .ok (.lload 12, 2) := dk_22 12 (dk_at dksX0_areOrdered_5 0 rfl rfl)
theorem dX0_areOrdered_118 : decode cX0_areOrdered 118 = .ok (.lconst 0, 1) := dk_9 (dk_at dksX0_areOrdered_5 2 rfl rfl)
theorem dX0_areOrdered_119 : decode cX0_areOrdered 119 = .ok (.lcmp, 1) := dk_148 (dk_at dksX0_areOrdered_5 3 rfl rfl)
theorem dX0_areOrdered_120 : decode cX0_areOrdered 120 = .ok (.ifCond .ne 37, 3) := dk_154 0 37 (dk_at dksX0_areOrdered_5 4 rfl rfl)
theorem dX0_areOrdered_123 : decode cX0_areOrdered 123 = .ok (.aload_n 0, 1) := dk_42 (dk_at dksX0_areOrdered_5 7 rfl rfl)
theorem dX0_areOrdered_124 : decode cX0_areOrdered 124 = .ok (.getfield 10, 3) := dk_180 0 10 (dk_at dksX0_areOrdered_5 8 rfl rfl)
theorem dX0_areOrdered_127 : decode cX0_areOrdered 127 = .ok (.iload 7, 2) := dk_21 7 (dk_at dksX0_areOrdered_5 11 rfl rfl)
theorem dX0_areOrdered_129 : decode cX0_areOrdered 129 = .ok (.invokevirtual 175, 3) := dk_182 0 175 (dk_at dksX0_areOrdered_5 13 rfl rfl)
theorem dX0_areOrdered_132 : decode cX0_areOrdered 132 = .ok (.ldc 16, 2) := dk_18 16 (dk_at dksX0_areOrdered_5 16 rfl rfl)
theorem dX0_areOrdered_134 : decode cX0_areOrdered 134 = .ok (.iand, 1) := dk_126 (dk_at dksX0_areOrdered_5 18 rfl rfl)
theorem dX0_areOrdered_135 : decode cX0_areOrdered 135 = .ok (.ifCond .ne 22, 3) := dk_154 0 22 (dk_at dksX0_areOrdered_5 19 rfl rfl)
theorem dX0_areOrdered_138 : decode cX0_areOrdered 138 = .ok (.aload_n 0, 1) := dk_42 (dk_at dksX0_areOrdered_5 22 rfl rfl)
theorem dX0_areOrdered_139 : decode cX0_areOrdered 139 = .ok (.getfield 10, 3) := dk_180 0 10 (dk_at dksX0_areOrdered_6 0 rfl rfl)
theorem dX0_areOrdered_142 : decode cX0_areOrdered 142 = .ok (.iload 10, 2) := dk_21 10 (dk_at dksX0_areOrdered_6 3 rfl rfl)
theorem dX0_areOrdered_144 : decode cX0_areOrdered 144 = .ok (.invokevirtual 175, 3) := dk_182 0 175 (dk_at dksX0_areOrdered_6 5 rfl rfl)
theorem dX0_areOrdered_147 : decode cX0_areOrdered 147 = .ok (.ldc 16, 2) := dk_18 16 (dk_at dksX0_areOrdered_6 8 rfl rfl)
theorem dX0_areOrdered_149 : decode cX0_areOrdered 149 = .ok (.iand, 1) := dk_126 (dk_at dksX0_areOrdered_6 10 rfl rfl)
theorem dX0_areOrdered_150 : decode cX0_areOrdered 150 = .ok (.ifCond .ne 7, 3) := dk_154 0 7 (dk_at dksX0_areOrdered_6 11 rfl rfl)
theorem dX0_areOrdered_153 : decode cX0_areOrdered 153 = .ok (.iconst 1, 1) := dk_4 (dk_at dksX0_areOrdered_6 14 rfl rfl)
theorem dX0_areOrdered_154 : decode cX0_areOrdered 154 = .ok (.goto 4, 3) := dk_167 0 4 (dk_at dksX0_areOrdered_6 15 rfl rfl)
theorem dX0_areOrdered_157 : decode cX0_areOrdered 157 = .ok (.iconst 0, 1) := dk_3 (dk_at dksX0_areOrdered_6 18 rfl rfl)
theorem dX0_areOrdered_158 : decode cX0_areOrdered 158 = .ok (.istore 14, 2) := dk_54 14 (dk_at dksX0_areOrdered_6 19 rfl rfl)
theorem dX0_areOrdered_160 : decode cX0_areOrdered 160 = .ok (.iload 6, 2) := dk_21 6 (dk_at dksX0_areOrdered_6 21 rfl rfl)
theorem dX0_areOrdered_162 : decode cX0_areOrdered 162 = .ok (.ifCond .eq 240, 3) := dk_153 0 240 (dk_at dksX0_areOrdered_7 0 rfl rfl)
theorem dX0_areOrdered_165 : decode cX0_areOrdered 165 = .ok (.iload 11, 2) := dk_21 11 (dk_at dksX0_areOrdered_7 3 rfl rfl)
theorem dX0_areOrdered_167 : decode cX0_areOrdered 167 = .ok (.aload_n 0, 1) := dk_42 (dk_at dksX0_areOrdered_7 5 rfl rfl)
theorem dX0_areOrdered_168 : decode cX0_areOrdered 168 = .ok (.getfield 10, 3) := dk_180 0 10 (dk_at dksX0_areOrdered_7 6 rfl rfl)
theorem dX0_areOrdered_171 : decode cX0_areOrdered 171 = .ok (.iload 10, 2) := dk_21 10 (dk_at dksX0_areOrdered_7 9 rfl rfl)
theorem dX0_areOrdered_173 : decode cX0_areOrdered 173 = .ok (.iload 7, 2) := dk_21 7 (dk_at dksX0_areOrdered_7 11 rfl rfl)
theorem dX0_areOrdered_175 : decode cX0_areOrdered 175 = .ok (.iconst 0, 1) := dk_3 (dk_at dksX0_areOrdered_7 13 rfl rfl)
theorem dX0_areOrdered_176 : decode cX0_areOrdered 176 = .ok (.invokevirtual 230, 3) := dk_182 0 230 (dk_at dksX0_areOrdered_7 14 rfl rfl)
theorem dX0_areOrdered_179 : decode cX0_areOrdered 179 = .ok (.ineg, 1) := dk_116 (dk_at dksX0_areOrdered_7 17 rfl rfl)
theorem dX0_areOrdered_180 : decode cX0_areOrdered 180 = .ok (.if_icmp .ne 222, 3) := dk_160 0 222 (dk_at dksX0_areOrdered_7 18 rfl rfl)
theorem dX0_areOrdered_183 : decode cX0_areOrdered 183 = .ok (.iload 11, 2) := dk_21 11 (dk_at dksX0_areOrdered_7 21 rfl rfl)
theorem dX0_areOrdered_185 : decode cX0_areOrdered 185 = .ok (.ifCond .ne 13, 3) := dk_154 0 13 (dk_at dksX0_areOrdered_8 0 rfl rfl)
theorem dX0_areOrdered_188 : decode cX0_areOrdered 188 = .ok (.lload 12, 2) := dk_22 12 (dk_at dksX0_areOrdered_8 3 rfl rfl)
theorem dX0_areOrdered_190 : decode cX0_areOrdered 190 = .ok (.lconst 0, 1) := dk_9 (dk_at dksX0_areOrdered_8 5 rfl rfl)
theorem dX0_areOrdered_191 : decode cX0_areOrdered 191 = .ok (.lcmp, 1) := dk_148 (dk_at dksX0_areOrdered_8 6 rfl rfl)
theorem dX0_areOrdered_192 : decode cX0_areOrdered 192 = .ok (.ifCond .ne 210, 3) := dk_154 0 210 (dk_at dksX0_areOrdered_8 7 rfl rfl)
theorem dX0_areOrdered_195 : decode cX0_areOrdered 195 = .ok (.goto 35, 3) := dk_167 0 35 (dk_at dksX0_areOrdered_8 10 rfl rfl)
theorem dX0_areOrdered_198 : decode cX0_areOrdered 198 = .ok (.lload 12, 2) := dk_22 12 (dk_at dksX0_areOrdered_8 13 rfl rfl)
theorem dX0_areOrdered_200 : decode cX0_areOrdered 200 = .ok (.lconst 0, 1) := dk_9 (dk_at dksX0_areOrdered_8 15 rfl rfl)
theorem dX0_areOrdered_201 : decode cX0_areOrdered 201 = .ok (.lcmp, 1) := dk_148 (dk_at dksX0_areOrdered_8 16 rfl rfl)
theorem dX0_areOrdered_202 : decode cX0_areOrdered 202 = .ok (.ifCond .eq 28, 3) := dk_153 0 28 (dk_at dksX0_areOrdered_8 17 rfl rfl)
theorem dX0_areOrdered_205 : decode cX0_areOrdered 205 = .ok (.lload 12, 2) := dk_22 12 (dk_at dksX0_areOrdered_8 20 rfl rfl)
theorem dX0_areOrdered_207 : decode cX0_areOrdered 207 = .ok (.lconst 0, 1) := dk_9 (dk_at dksX0_areOrdered_8 22 rfl rfl)
theorem dX0_areOrdered_208 : decode cX0_areOrdered 208 = .ok (.lcmp, 1) := dk_148 (dk_at dksX0_areOrdered_8 23 rfl rfl)
theorem dX0_areOrdered_209 : decode cX0_areOrdered 209 = .ok (.ifCond .ge 7, 3) := dk_156 0 7 (dk_at dksX0_areOrdered_9 0 rfl rfl)
theorem dX0_areOrdered_212 : decode cX0_areOrdered 212 = .ok (.iconst 1, 1) := dk_4 (dk_at dksX0_areOrdered_9 3 rfl rfl)
theorem dX0_areOrdered_213 : decode cX0_areOrdered 213 = .ok (.goto 4, 3) := dk_167 0 4 (dk_at dksX0_areOrdered_9 4 rfl rfl)
theorem dX0_areOrdered_216 : decode cX0_areOrdered 216 = .ok (.iconst 0, 1) := dk_3 (dk_at dksX0_areOrdered_9 7 rfl rfl)
theorem dX0_areOrdered_217 : decode cX0_areOrdered 217 = .ok (.iload 11, 2) := dk_21 11 (dk_at dksX0_areOrdered_9 8 rfl rfl)
theorem dX0_areOrdered_219 : decode cX0_areOrdered 219 = .ok (.ifCond .ge 7, 3) := dk_156 0 7 (dk_at dksX0_areOrdered_9 10 rfl rfl)
theorem dX0_areOrdered_222 : decode cX0_areOrdered 222 = .ok (.iconst 1, 1) := dk_4 (dk_at dksX0_areOrdered_9 13 rfl rfl)
theorem dX0_areOrdered_223 : decode cX0_areOrdered 223 = .ok (.goto 4, 3) := dk_167 0 4 (dk_at dksX0_areOrdered_9 14 rfl rfl)
theorem dX0_areOrdered_226 : decode cX0_areOrdered 226 = .ok (.iconst 0, 1) := dk_3 (dk_at dksX0_areOrdered_9 17 rfl rfl)
theorem dX0_areOrdered_227 : decode cX0_areOrdered 227 = .ok (.if_icmp .ne 175, 3) := dk_160 0 175 (dk_at dksX0_areOrdered_9 18 rfl rfl)
theorem dX0_areOrdered_230 : decode cX0_areOrdered 230 = .ok (.aload_n 0, 1) := dk_42 (dk_at dksX0_areOrdered_9 21 rfl rfl)
theorem dX0_areOrdered_231 : decode cX0_areOrdered 231 = .ok (.getfield 10, 3) := dk_180 0 10 (dk_at dksX0_areOrdered_10 0 rfl rfl)
theorem dX0_areOrdered_234 : decode cX0_areOrdered 234 = .ok (.iload 7, 2) := dk_21 7 (dk_at dksX0_areOrdered_10 3 rfl rfl)
theorem dX0_areOrdered_236 : decode cX0_areOrdered 236 = .ok (.iload 10, 2) := dk_21 10 (dk_at dksX0_areOrdered_10 5 rfl rfl)
theorem dX0_areOrdered_238 : decode cX0_areOrdered 238 = .ok (.iload 10, 2) := dk_21 10 (dk_at dksX0_areOrdered_10 7 rfl rfl)
theorem dX0_areOrdered_240 : decode cX0_areOrdered 240 = .ok (.iconst 3, 1) := dk_6 (dk_at dksX0_areOrdered_10 9 rfl rfl)
theorem dX0_areOrdered_241 : decode cX0_areOrdered 241 = .ok (.irem, 1) := dk_112 (dk_at dksX0_areOrdered_10 10 rfl rfl)
theorem dX0_areOrdered_242 : decode cX0_areOrdered 242 = .ok (.invokevirtual 197, 3) := dk_182 0 197 (dk_at dksX0_areOrdered_10 11 rfl rfl)
theorem dX0_areOrdered_245 : decode cX0_areOrdered 245 = .ok (.iload 11, 2) := dk_21 11 (dk_at dksX0_areOrdered_10 14 rfl rfl)
theorem dX0_areOrdered_247 : decode cX0_areOrdered 247 = .ok (.ifCond .ne 7, 3) := dk_154 0 7 (dk_at dksX0_areOrdered_10 16 rfl rfl)
theorem dX0_areOrdered_250 : decode cX0_areOrdered 250 = .ok (.iconst 1, 1) := dk_4 (dk_at dksX0_areOrdered_10 19 rfl rfl)
theorem dX0_areOrdered_251 : decode cX0_areOrdered 251 = .ok (.goto 4, 3) := dk_167 0 4 (dk_at dksX0_areOrdered_10 20 rfl rfl)
theorem dX0_areOrdered_254 : decode cX0_areOrdered 254 = .ok (.iconst 0, 1) := dk_3 (dk_at dksX0_areOrdered_10 23 rfl rfl)
theorem dX0_areOrdered_255 : decode cX0_areOrdered 255 = .ok (.if_icmp .ne 147, 3) := dk_160 0 147 (dk_at dksX0_areOrdered_11 0 rfl rfl)
theorem dX0_areOrdered_258 : decode cX0_areOrdered 258 = .ok (.aload_n 0, 1) := dk_42 (dk_at dksX0_areOrdered_11 3 rfl rfl)
theorem dX0_areOrdered_259 : decode cX0_areOrdered 259 = .ok (.getfield 10, 3) := dk_180 0 10 (dk_at dksX0_areOrdered_11 4 rfl rfl)
theorem dX0_areOrdered_262 : decode cX0_areOrdered 262 = .ok (.iload 7, 2) := dk_21 7 (dk_at dksX0_areOrdered_11 7 rfl rfl)
theorem dX0_areOrdered_264 : decode cX0_areOrdered 264 = .ok (.iload 10, 2) := dk_21 10 (dk_at dksX0_areOrdered_11 9 rfl rfl)
theorem dX0_areOrdered_266 : decode cX0_areOrdered 266 = .ok (.iconst 0, 1) := dk_3 (dk_at dksX0_areOrdered_11 11 rfl rfl)
theorem dX0_areOrdered_267 : decode cX0_areOrdered 267 = .ok (.invokevirtual 260, 3) := dk_182 1 4 (dk_at dksX0_areOrdered_11 12 rfl rfl)
theorem dX0_areOrdered_270 : decode cX0_areOrdered 270 = .ok (.iload 11, 2) := dk_21 11 (dk_at dksX0_areOrdered_11 15 rfl rfl)
theorem dX0_areOrdered_272 : decode cX0_areOrdered 272 = .ok (.ifCond .ge 12, 3) := dk_156 0 12 (dk_at dksX0_areOrdered_11 17 rfl rfl)
theorem dX0_areOrdered_275 : decode cX0_areOrdered 275 = .ok (.iload 14, 2) := dk_21 14 (dk_at dksX0_areOrdered_11 20 rfl rfl)
theorem dX0_areOrdered_277 : decode cX0_areOrdered 277 = .ok (.ifCond .ne 7, 3) := dk_154 0 7 (dk_at dksX0_areOrdered_12 0 rfl rfl)
theorem dX0_areOrdered_280 : decode cX0_areOrdered 280 = .ok (.iconst 1, 1) := dk_4 (dk_at dksX0_areOrdered_12 3 rfl rfl)
theorem dX0_areOrdered_281 : decode cX0_areOrdered 281 = .ok (.goto 4, 3) := dk_167 0 4 (dk_at dksX0_areOrdered_12 4 rfl rfl)
theorem dX0_areOrdered_284 : decode cX0_areOrdered 284 = .ok (.iconst 0, 1) := dk_3 (dk_at dksX0_areOrdered_12 7 rfl rfl)
theorem dX0_areOrdered_285 : decode cX0_areOrdered 285 = .ok (.if_icmp .ne 117, 3) := dk_160 0 117 (dk_at dksX0_areOrdered_12 8 rfl rfl)
theorem dX0_areOrdered_288 : decode cX0_areOrdered 288 = .ok (.aload_n 0, 1) := dk_42 (dk_at dksX0_areOrdered_12 11 rfl rfl)
theorem dX0_areOrdered_289 : decode cX0_areOrdered 289 = .ok (.getfield 10, 3) := dk_180 0 10 (dk_at dksX0_areOrdered_12 12 rfl rfl)
theorem dX0_areOrdered_292 : decode cX0_areOrdered 292 = .ok (.iload 7, 2) := dk_21 7 (dk_at dksX0_areOrdered_12 15 rfl rfl)
theorem dX0_areOrdered_294 : decode cX0_areOrdered 294 = .ok (.iload 10, 2) := dk_21 10 (dk_at dksX0_areOrdered_12 17 rfl rfl)
theorem dX0_areOrdered_296 : decode cX0_areOrdered 296 = .ok (.iconst 1, 1) := dk_4 (dk_at dksX0_areOrdered_12 19 rfl rfl)
theorem dX0_areOrdered_297 : decode cX0_areOrdered 297 = .ok (.invokevirtual 260, 3) := dk_182 1 4 (dk_at dksX0_areOrdered_12 20 rfl rfl)
theorem dX0_areOrdered_300 : decode cX0_areOrdered 300 = .ok (.iload 11, 2) := dk_21 11 (dk_at dksX0_areOrdered_13 0 rfl rfl)
theorem dX0_areOrdered_302 : decode cX0_areOrdered 302 = .ok (.ifCond .le 8, 3) := dk_158 0 8 (dk_at dksX0_areOrdered_13 2 rfl rfl)
theorem dX0_areOrdered_305 : decode cX0_areOrdered 305 = .ok (.iload 14, 2) := dk_21 14 (dk_at dksX0_areOrdered_13 5 rfl rfl)
theorem dX0_areOrdered_307 : decode cX0_areOrdered 307 = .ok (.ifCond .eq 7, 3) := dk_153 0 7 (dk_at dksX0_areOrdered_13 7 rfl rfl)
theorem dX0_areOrdered_310 : decode cX0_areOrdered 310 = .ok (.iconst 1, 1) := dk_4 (dk_at dksX0_areOrdered_13 10 rfl rfl)
theorem dX0_areOrdered_311 : decode cX0_areOrdered 311 = .ok (.goto 4, 3) := dk_167 0 4 (dk_at dksX0_areOrdered_13 11 rfl rfl)
theorem dX0_areOrdered_314 : decode cX0_areOrdered 314 = .ok (.iconst 0, 1) := dk_3 (dk_at dksX0_areOrdered_13 14 rfl rfl)
theorem dX0_areOrdered_315 : decode cX0_areOrdered 315 = .ok (.if_icmp .ne 87, 3) := dk_160 0 87 (dk_at dksX0_areOrdered_13 15 rfl rfl)
theorem dX0_areOrdered_318 : decode cX0_areOrdered 318 = .ok (.aload_n 0, 1) := dk_42 (dk_at dksX0_areOrdered_13 18 rfl rfl)
theorem dX0_areOrdered_319 : decode cX0_areOrdered 319 = .ok (.getfield 10, 3) := dk_180 0 10 (dk_at dksX0_areOrdered_13 19 rfl rfl)
theorem dX0_areOrdered_322 : decode cX0_areOrdered 322 = .ok (.iload 7, 2) := dk_21 7 (dk_at dksX0_areOrdered_13 22 rfl rfl)
theorem dX0_areOrdered_324 : decode cX0_areOrdered 324 = .ok (.iload 10, 2) := dk_21 10 (dk_at dksX0_areOrdered_14 0 rfl rfl)
theorem dX0_areOrdered_326 : decode cX0_areOrdered 326 = .ok (.invokevirtual 202, 3) := dk_182 0 202 (dk_at dksX0_areOrdered_14 2 rfl rfl)
theorem dX0_areOrdered_329 : decode cX0_areOrdered 329 = .ok (.aload_n 0, 1) := dk_42 (dk_at dksX0_areOrdered_14 5 rfl rfl)
theorem dX0_areOrdered_330 : decode cX0_areOrdered 330 = .ok (.getfield 10, 3) := dk_180 0 10 (dk_at dksX0_areOrdered_14 6 rfl rfl)
theorem dX0_areOrdered_333 : decode cX0_areOrdered 333 = .ok (.iload 10, 2) := dk_21 10 (dk_at dksX0_areOrdered_14 9 rfl rfl)
theorem dX0_areOrdered_335 : decode cX0_areOrdered 335 = .ok (.iload 7, 2) := dk_21 7 (dk_at dksX0_areOrdered_14 11 rfl rfl)
theorem dX0_areOrdered_337 : decode cX0_areOrdered 337 = .ok (.invokevirtual 202, 3) := dk_182 0 202 (dk_at dksX0_areOrdered_14 13 rfl rfl)
theorem dX0_areOrdered_340 : decode cX0_areOrdered 340 = .ok (.ineg, 1) := dk_116 (dk_at dksX0_areOrdered_14 16 rfl rfl)
theorem dX0_areOrdered_341 : decode cX0_areOrdered 341 = .ok (.if_icmp .ne 61, 3) := dk_160 0 61 (dk_at dksX0_areOrdered_14 17 rfl rfl)
theorem dX0_areOrdered_344 : decode cX0_areOrdered 344 = .ok (.aload_n 0, 1) := dk_42 (dk_at dksX0_areOrdered_14 20 rfl rfl)
theorem dX0_areOrdered_345 : decode cX0_areOrdered 345 = .ok (.iload 7, 2) := dk_21 7 (dk_at dksX0_areOrdered_14 21 rfl rfl)
theorem dX0_areOrdered_347 : decode cX0_areOrdered 347 = .ok (.invokevirtual 264, 3) := dk_182 1 8 (dk_at dksX0_areOrdered_15 0 rfl rfl)
theorem dX0_areOrdered_350 : decode cX0_areOrdered 350 = .ok (.aload_n 0, 1) := dk_42 (dk_at dksX0_areOrdered_15 3 rfl rfl)
theorem dX0_areOrdered_351 : decode cX0_areOrdered 351 = .ok (.iload 10, 2) := dk_21 10 (dk_at dksX0_areOrdered_15 4 rfl rfl)
theorem dX0_areOrdered_353 : decode cX0_areOrdered 353 = .ok (.invokevirtual 264, 3) := dk_182 1 8 (dk_at dksX0_areOrdered_15 6 rfl rfl)
theorem dX0_areOrdered_356 : decode cX0_areOrdered 356 = .ok (.lconst 1, 1) := dk_10 (dk_at dksX0_areOrdered_15 9 rfl rfl)
theorem dX0_areOrdered_357 : decode cX0_areOrdered 357 = .ok (.invokestatic 184, 3) := dk_184 0 184 (dk_at dksX0_areOrdered_15 10 rfl rfl)
theorem dX0_areOrdered_360 : decode cX0_areOrdered 360 = .ok (.ifCond .ne 38, 3) := dk_154 0 38 (dk_at dksX0_areOrdered_15 13 rfl rfl)
theorem dX0_areOrdered_363 : decode cX0_areOrdered 363 = .ok (.aload_n 0, 1) := dk_42 (dk_at dksX0_areOrdered_15 16 rfl rfl)
theorem dX0_areOrdered_364 : decode cX0_areOrdered 364 = .ok (.getfield 10, 3) := dk_180 0 10 (dk_at dksX0_areOrdered_15 17 rfl rfl)
theorem dX0_areOrdered_367 : decode cX0_areOrdered 367 = .ok (.iload 7, 2) := dk_21 7 (dk_at dksX0_areOrdered_15 20 rfl rfl)
theorem dX0_areOrdered_369 : decode cX0_areOrdered 369 = .ok (.iload 10, 2) := dk_21 10 (dk_at dksX0_areOrdered_15 22 rfl rfl)
theorem dX0_areOrdered_371 : decode cX0_areOrdered 371 = .ok (.invokevirtual 202, 3) := dk_182 0 202 (dk_at dksX0_areOrdered_16 0 rfl rfl)
theorem dX0_areOrdered_374 : decode cX0_areOrdered 374 = .ok (.aload_n 0, 1) := dk_42 (dk_at dksX0_areOrdered_16 3 rfl rfl)
theorem dX0_areOrdered_375 : decode cX0_areOrdered 375 = .ok (.iload 7, 2) := dk_21 7 (dk_at dksX0_areOrdered_16 4 rfl rfl)
theorem dX0_areOrdered_377 : decode cX0_areOrdered 377 = .ok (.invokevirtual 264, 3) := dk_182 1 8 (dk_at dksX0_areOrdered_16 6 rfl rfl)
theorem dX0_areOrdered_380 : decode cX0_areOrdered 380 = .ok (.aload_n 0, 1) := dk_42 (dk_at dksX0_areOrdered_16 9 rfl rfl)
theorem dX0_areOrdered_381 : decode cX0_areOrdered 381 = .ok (.iload 10, 2) := dk_21 10 (dk_at dksX0_areOrdered_16 10 rfl rfl)
theorem dX0_areOrdered_383 : decode cX0_areOrdered 383 = .ok (.invokevirtual 264, 3) := dk_182 1 8 (dk_at dksX0_areOrdered_16 12 rfl rfl)
theorem dX0_areOrdered_386 : decode cX0_areOrdered 386 = .ok (.lcmp, 1) := dk_148 (dk_at dksX0_areOrdered_16 15 rfl rfl)
theorem dX0_areOrdered_387 : decode cX0_areOrdered 387 = .ok (.ifCond .ge 7, 3) := dk_156 0 7 (dk_at dksX0_areOrdered_16 16 rfl rfl)
theorem dX0_areOrdered_390 : decode cX0_areOrdered 390 = .ok (.iconst (-1), 1) := dk_2 (dk_at dksX0_areOrdered_16 19 rfl rfl)
theorem dX0_areOrdered_391 : decode cX0_areOrdered 391 = .ok (.goto 4, 3) := dk_167 0 4 (dk_at dksX0_areOrdered_16 20 rfl rfl)
theorem dX0_areOrdered_394 : decode cX0_areOrdered 394 = .ok (.iconst 1, 1) := dk_4 (dk_at dksX0_areOrdered_16 23 rfl rfl)
theorem dX0_areOrdered_395 : decode cX0_areOrdered 395 = .ok (.if_icmp .ne 7, 3) := dk_160 0 7 (dk_at dksX0_areOrdered_17 0 rfl rfl)
theorem dX0_areOrdered_398 : decode cX0_areOrdered 398 = .ok (.iconst 1, 1) := dk_4 (dk_at dksX0_areOrdered_17 3 rfl rfl)
theorem dX0_areOrdered_399 : decode cX0_areOrdered 399 = .ok (.goto 4, 3) := dk_167 0 4 (dk_at dksX0_areOrdered_17 4 rfl rfl)
theorem dX0_areOrdered_402 : decode cX0_areOrdered 402 = .ok (.iconst 0, 1) := dk_3 (dk_at dksX0_areOrdered_17 7 rfl rfl)
theorem dX0_areOrdered_403 : decode cX0_areOrdered 403 = .ok (.istore 6, 2) := dk_54 6 (dk_at dksX0_areOrdered_17 8 rfl rfl)
theorem dX0_areOrdered_405 : decode cX0_areOrdered 405 = .ok (.iload 11, 2) := dk_21 11 (dk_at dksX0_areOrdered_17 10 rfl rfl)
theorem dX0_areOrdered_407 : decode cX0_areOrdered 407 = .ok (.ifCond .ne 23, 3) := dk_154 0 23 (dk_at dksX0_areOrdered_17 12 rfl rfl)
theorem dX0_areOrdered_410 : decode cX0_areOrdered 410 = .ok (.iload 10, 2) := dk_21 10 (dk_at dksX0_areOrdered_17 15 rfl rfl)
theorem dX0_areOrdered_412 : decode cX0_areOrdered 412 = .ok (.iload 8, 2) := dk_21 8 (dk_at dksX0_areOrdered_17 17 rfl rfl)
theorem dX0_areOrdered_414 : decode cX0_areOrdered 414 = .ok (.if_icmp .ge 8, 3) := dk_162 0 8 (dk_at dksX0_areOrdered_17 19 rfl rfl)
theorem dX0_areOrdered_417 : decode cX0_areOrdered 417 = .ok (.iload 10, 2) := dk_21 10 (dk_at dksX0_areOrdered_17 22 rfl rfl)
theorem dX0_areOrdered_419 : decode cX0_areOrdered 419 = .ok (.goto 5, 3) := dk_167 0 5 (dk_at dksX0_areOrdered_18 0 rfl rfl)
theorem dX0_areOrdered_422 : decode cX0_areOrdered 422 = .ok (.iload 8, 2) := dk_21 8 (dk_at dksX0_areOrdered_18 3 rfl rfl)
theorem dX0_areOrdered_424 : decode cX0_areOrdered 424 = .ok (.istore 8, 2) := dk_54 8 (dk_at dksX0_areOrdered_18 5 rfl rfl)
theorem dX0_areOrdered_426 : decode cX0_areOrdered 426 = .ok (.iload 10, 2) := dk_21 10 (dk_at dksX0_areOrdered_18 7 rfl rfl)
theorem dX0_areOrdered_428 : decode cX0_areOrdered 428 = .ok (.istore 9, 2) := dk_54 9 (dk_at dksX0_areOrdered_18 9 rfl rfl)
theorem dX0_areOrdered_430 : decode cX0_areOrdered 430 = .ok (.iinc 10 1, 3) := dk_132 10 1 (dk_at dksX0_areOrdered_18 11 rfl rfl)
theorem dX0_areOrdered_433 : decode cX0_areOrdered 433 = .ok (.goto (-359), 3) := dk_167 254 153 (dk_at dksX0_areOrdered_18 14 rfl rfl)
theorem dX0_areOrdered_436 : decode cX0_areOrdered 436 = .ok (.iload 6, 2) := dk_21 6 (dk_at dksX0_areOrdered_18 17 rfl rfl)
theorem dX0_areOrdered_438 : decode cX0_areOrdered 438 = .ok (.ifCond .eq 37, 3) := dk_153 0 37 (dk_at dksX0_areOrdered_18 19 rfl rfl)
theorem dX0_areOrdered_441 : decode cX0_areOrdered 441 = .ok (.aload_n 0, 1) := dk_42 (dk_at dksX0_areOrdered_18 22 rfl rfl)
theorem dX0_areOrdered_442 : decode cX0_areOrdered 442 = .ok (.getfield 10, 3) := dk_180 0 10 (dk_at dksX0_areOrdered_19 0 rfl rfl)
theorem dX0_areOrdered_445 : decode cX0_areOrdered 445 = .ok (.iload 7, 2) := dk_21 7 (dk_at dksX0_areOrdered_19 3 rfl rfl)
theorem dX0_areOrdered_447 : decode cX0_areOrdered 447 = .ok (.iconst 0, 1) := dk_3 (dk_at dksX0_areOrdered_19 5 rfl rfl)
theorem dX0_areOrdered_448 : decode cX0_areOrdered 448 = .ok (.invokevirtual 267, 3) := dk_182 1 11 (dk_at dksX0_areOrdered_19 6 rfl rfl)
theorem dX0_areOrdered_451 : decode cX0_areOrdered 451 = .ok (.iload 8, 2) := dk_21 8 (dk_at dksX0_areOrdered_19 9 rfl rfl)
theorem dX0_areOrdered_453 : decode cX0_areOrdered 453 = .ok (.if_icmp .ne 22, 3) := dk_160 0 22 (dk_at dksX0_areOrdered_19 11 rfl rfl)
theorem dX0_areOrdered_456 : decode cX0_areOrdered 456 = .ok (.aload_n 0, 1) := dk_42 (dk_at dksX0_areOrdered_19 14 rfl rfl)
theorem dX0_areOrdered_457 : decode cX0_areOrdered 457 = .ok (.getfield 10, 3) := dk_180 0 10 (dk_at dksX0_areOrdered_19 15 rfl rfl)
theorem dX0_areOrdered_460 : decode cX0_areOrdered 460 = .ok (.iload 7, 2) := dk_21 7 (dk_at dksX0_areOrdered_19 18 rfl rfl)
theorem dX0_areOrdered_462 : decode cX0_areOrdered 462 = .ok (.iconst 1, 1) := dk_4 (dk_at dksX0_areOrdered_19 20 rfl rfl)
theorem dX0_areOrdered_463 : decode cX0_areOrdered 463 = .ok (.invokevirtual 267, 3) := dk_182 1 11 (dk_at dksX0_areOrdered_19 21 rfl rfl)
theorem dX0_areOrdered_466 : decode cX0_areOrdered 466 = .ok (.iload 9, 2) := dk_21 9 (dk_at dksX0_areOrdered_20 0 rfl rfl)
theorem dX0_areOrdered_468 : decode cX0_areOrdered 468 = .ok (.if_icmp .ne 7, 3) := dk_160 0 7 (dk_at dksX0_areOrdered_20 2 rfl rfl)
theorem dX0_areOrdered_471 : decode cX0_areOrdered 471 = .ok (.iconst 1, 1) := dk_4 (dk_at dksX0_areOrdered_20 5 rfl rfl)
theorem dX0_areOrdered_472 : decode cX0_areOrdered 472 = .ok (.goto 4, 3) := dk_167 0 4 (dk_at dksX0_areOrdered_20 6 rfl rfl)
theorem dX0_areOrdered_475 : decode cX0_areOrdered 475 = .ok (.iconst 0, 1) := dk_3 (dk_at dksX0_areOrdered_20 9 rfl rfl)
theorem dX0_areOrdered_476 : decode cX0_areOrdered 476 = .ok (.istore 6, 2) := dk_54 6 (dk_at dksX0_areOrdered_20 10 rfl rfl)
theorem dX0_areOrdered_478 : decode cX0_areOrdered 478 = .ok (.iinc 7 1, 3) := dk_132 7 1 (dk_at dksX0_areOrdered_20 12 rfl rfl)
theorem dX0_areOrdered_481 : decode cX0_areOrdered 481 = .ok (.goto (-433), 3) := dk_167 254 79 (dk_at dksX0_areOrdered_20 15 rfl rfl)
theorem dX0_areOrdered_484 : decode cX0_areOrdered 484 = .ok (.iload 6, 2) := dk_21 6 (dk_at dksX0_areOrdered_20 18 rfl rfl)
theorem dX0_areOrdered_486 : decode cX0_areOrdered 486 = .ok (.ifCond .eq 27, 3) := dk_153 0 27 (dk_at dksX0_areOrdered_20 20 rfl rfl)
theorem dX0_areOrdered_489 : decode cX0_areOrdered 489 = .ok (.aload_n 0, 1) := dk_42 (dk_at dksX0_areOrdered_20 23 rfl rfl)
theorem dX0_areOrdered_490 : decode cX0_areOrdered 490 = .ok (.getfield 10, 3) := dk_180 0 10 (dk_at dksX0_areOrdered_21 0 rfl rfl)
theorem dX0_areOrdered_493 : decode cX0_areOrdered 493 = .ok (.invokevirtual 270, 3) := dk_182 1 14 (dk_at dksX0_areOrdered_21 3 rfl rfl)
theorem dX0_areOrdered_496 : decode cX0_areOrdered 496 = .ok (.ifCond .lt 17, 3) := dk_155 0 17 (dk_at dksX0_areOrdered_21 6 rfl rfl)
theorem dX0_areOrdered_499 : decode cX0_areOrdered 499 = .ok (.aload_n 0, 1) := dk_42 (dk_at dksX0_areOrdered_21 9 rfl rfl)
theorem dX0_areOrdered_500 : decode cX0_areOrdered 500 = .ok (.getfield 10, 3) := dk_180 0 10 (dk_at dksX0_areOrdered_21 10 rfl rfl)
theorem dX0_areOrdered_503 : decode cX0_areOrdered 503 = .ok (.invokevirtual 270, 3) := dk_182 1 14 (dk_at dksX0_areOrdered_21 13 rfl rfl)
theorem dX0_areOrdered_506 : decode cX0_areOrdered 506 = .ok (.ifCond .ne 7, 3) := dk_154 0 7 (dk_at dksX0_areOrdered_21 16 rfl rfl)
theorem dX0_areOrdered_509 : decode cX0_areOrdered 509 = .ok (.iconst 1, 1) := dk_4 (dk_at dksX0_areOrdered_21 19 rfl rfl)
theorem dX0_areOrdered_510 : decode cX0_areOrdered 510 = .ok (.goto 4, 3) := dk_167 0 4 (dk_at dksX0_areOrdered_21 20 rfl rfl)
theorem dX0_areOrdered_513 : decode cX0_areOrdered 513 = .ok (.iconst 0, 1) := dk_3 (dk_at dksX0_areOrdered_21 23 rfl rfl)
theorem dX0_areOrdered_514 : decode cX0_areOrdered 514 = .ok (.istore 6, 2) := dk_54 6 (dk_at dksX0_areOrdered_22 0 rfl rfl)
theorem dX0_areOrdered_516 : decode cX0_areOrdered 516 = .ok (.iconst 0, 1) := dk_3 (dk_at dksX0_areOrdered_22 2 rfl rfl)
theorem dX0_areOrdered_517 : decode cX0_areOrdered 517 = .ok (.istore 7, 2) := dk_54 7 (dk_at dksX0_areOrdered_22 3 rfl rfl)
theorem dX0_areOrdered_519 : decode cX0_areOrdered 519 = .ok (.iload 7, 2) := dk_21 7 (dk_at dksX0_areOrdered_22 5 rfl rfl)
theorem dX0_areOrdered_521 : decode cX0_areOrdered 521 = .ok (.bipush 8, 2) := dk_16 8 (dk_at dksX0_areOrdered_22 7 rfl rfl)
theorem dX0_areOrdered_523 : decode cX0_areOrdered 523 = .ok (.if_icmp .ge 54, 3) := dk_162 0 54 (dk_at dksX0_areOrdered_22 9 rfl rfl)
theorem dX0_areOrdered_526 : decode cX0_areOrdered 526 = .ok (.lload 4, 2) := dk_22 4 (dk_at dksX0_areOrdered_22 12 rfl rfl)
theorem dX0_areOrdered_528 : decode cX0_areOrdered 528 = .ok (.aload_n 0, 1) := dk_42 (dk_at dksX0_areOrdered_22 14 rfl rfl)
theorem dX0_areOrdered_529 : decode cX0_areOrdered 529 = .ok (.iload 7, 2) := dk_21 7 (dk_at dksX0_areOrdered_22 15 rfl rfl)
theorem dX0_areOrdered_531 : decode cX0_areOrdered 531 = .ok (.invokevirtual 63, 3) := dk_182 0 63 (dk_at dksX0_areOrdered_22 17 rfl rfl)
theorem dX0_areOrdered_534 : decode cX0_areOrdered 534 = .ok (.ladd, 1) := dk_97 (dk_at dksX0_areOrdered_22 20 rfl rfl)
theorem dX0_areOrdered_535 : decode cX0_areOrdered 535 = .ok (.lstore 4, 2) := dk_55 4 (dk_at dksX0_areOrdered_22 21 rfl rfl)
theorem dX0_areOrdered_537 : decode cX0_areOrdered 537 = .ok (.iload 6, 2) := dk_21 6 (dk_at dksX0_areOrdered_23 0 rfl rfl)
theorem dX0_areOrdered_539 : decode cX0_areOrdered 539 = .ok (.ifCond .eq 29, 3) := dk_153 0 29 (dk_at dksX0_areOrdered_23 2 rfl rfl)
theorem dX0_areOrdered_542 : decode cX0_areOrdered 542 = .ok (.iload 7, 2) := dk_21 7 (dk_at dksX0_areOrdered_23 5 rfl rfl)
theorem dX0_areOrdered_544 : decode cX0_areOrdered 544 = .ok (.ifCond .eq 20, 3) := dk_153 0 20 (dk_at dksX0_areOrdered_23 7 rfl rfl)
theorem dX0_areOrdered_547 : decode cX0_areOrdered 547 = .ok (.aload_n 0, 1) := dk_42 (dk_at dksX0_areOrdered_23 10 rfl rfl)
theorem dX0_areOrdered_548 : decode cX0_areOrdered 548 = .ok (.getfield 10, 3) := dk_180 0 10 (dk_at dksX0_areOrdered_23 11 rfl rfl)
theorem dX0_areOrdered_551 : decode cX0_areOrdered 551 = .ok (.iload 7, 2) := dk_21 7 (dk_at dksX0_areOrdered_23 14 rfl rfl)
theorem dX0_areOrdered_553 : decode cX0_areOrdered 553 = .ok (.iconst 1, 1) := dk_4 (dk_at dksX0_areOrdered_23 16 rfl rfl)
theorem dX0_areOrdered_554 : decode cX0_areOrdered 554 = .ok (.isub, 1) := dk_100 (dk_at dksX0_areOrdered_23 17 rfl rfl)
theorem dX0_areOrdered_555 : decode cX0_areOrdered 555 = .ok (.iload 7, 2) := dk_21 7 (dk_at dksX0_areOrdered_23 18 rfl rfl)
theorem dX0_areOrdered_557 : decode cX0_areOrdered 557 = .ok (.iconst 0, 1) := dk_3 (dk_at dksX0_areOrdered_23 20 rfl rfl)
theorem dX0_areOrdered_558 : decode cX0_areOrdered 558 = .ok (.invokevirtual 230, 3) := dk_182 0 230 (dk_at dksX0_areOrdered_23 21 rfl rfl)
theorem dX0_areOrdered_561 : decode cX0_areOrdered 561 = .ok (.ifCond .gt 7, 3) := dk_157 0 7 (dk_at dksX0_areOrdered_24 0 rfl rfl)
theorem dX0_areOrdered_564 : decode cX0_areOrdered 564 = .ok (.iconst 1, 1) := dk_4 (dk_at dksX0_areOrdered_24 3 rfl rfl)
theorem dX0_areOrdered_565 : decode cX0_areOrdered 565 = .ok (.goto 4, 3) := dk_167 0 4 (dk_at dksX0_areOrdered_24 4 rfl rfl)
theorem dX0_areOrdered_568 : decode cX0_areOrdered 568 = .ok (.iconst 0, 1) := dk_3 (dk_at dksX0_areOrdered_24 7 rfl rfl)
theorem dX0_areOrdered_569 : decode cX0_areOrdered 569 = .ok (.istore 6, 2) := dk_54 6 (dk_at dksX0_areOrdered_24 8 rfl rfl)
theorem dX0_areOrdered_571 : decode cX0_areOrdered 571 = .ok (.iinc 7 1, 3) := dk_132 7 1 (dk_at dksX0_areOrdered_24 10 rfl rfl)
theorem dX0_areOrdered_574 : decode cX0_areOrdered 574 = .ok (.goto (-55), 3) := dk_167 255 201 (dk_at dksX0_areOrdered_24 13 rfl rfl)
theorem dX0_areOrdered_577 : decode cX0_areOrdered 577 = .ok (.iload 6, 2) := dk_21 6 (dk_at dksX0_areOrdered_24 16 rfl rfl)
theorem dX0_areOrdered_579 : decode cX0_areOrdered 579 = .ok (.ifCond .eq 52, 3) := dk_153 0 52 (dk_at dksX0_areOrdered_24 18 rfl rfl)
theorem dX0_areOrdered_582 : decode cX0_areOrdered 582 = .ok (.lload_n 2, 1) := dk_32 (dk_at dksX0_areOrdered_24 21 rfl rfl)
theorem dX0_areOrdered_583 : decode cX0_areOrdered 583 = .ok (.lload 4, 2) := dk_22 4 (dk_at dksX0_areOrdered_24 22 rfl rfl)
theorem dX0_areOrdered_585 : decode cX0_areOrdered 585 = .ok (.lcmp, 1) := dk_148 (dk_at dksX0_areOrdered_25 0 rfl rfl)
theorem dX0_areOrdered_586 : decode cX0_areOrdered 586 = .ok (.ifCond .ne 45, 3) := dk_154 0 45 (dk_at dksX0_areOrdered_25 1 rfl rfl)
theorem dX0_areOrdered_589 : decode cX0_areOrdered 589 = .ok (.aload_n 0, 1) := dk_42 (dk_at dksX0_areOrdered_25 4 rfl rfl)
theorem dX0_areOrdered_590 : decode cX0_areOrdered 590 = .ok (.getfield 10, 3) := dk_180 0 10 (dk_at dksX0_areOrdered_25 5 rfl rfl)
theorem dX0_areOrdered_593 : decode cX0_areOrdered 593 = .ok (.iload_n 1, 1) := dk_27 (dk_at dksX0_areOrdered_25 8 rfl rfl)
theorem dX0_areOrdered_594 : decode cX0_areOrdered 594 = .ok (.bipush 8, 2) := dk_16 8 (dk_at dksX0_areOrdered_25 9 rfl rfl)
theorem dX0_areOrdered_596 : decode cX0_areOrdered 596 = .ok (.invokestatic 94, 3) := dk_184 0 94 (dk_at dksX0_areOrdered_25 11 rfl rfl)
theorem dX0_areOrdered_599 : decode cX0_areOrdered 599 = .ok (.iconst 0, 1) := dk_3 (dk_at dksX0_areOrdered_25 14 rfl rfl)
theorem dX0_areOrdered_600 : decode cX0_areOrdered 600 = .ok (.iconst 0, 1) := dk_3 (dk_at dksX0_areOrdered_25 15 rfl rfl)
theorem dX0_areOrdered_601 : decode cX0_areOrdered 601 = .ok (.invokevirtual 273, 3) := dk_182 1 17 (dk_at dksX0_areOrdered_25 16 rfl rfl)
theorem dX0_areOrdered_604 : decode cX0_areOrdered 604 = .ok (.ifCond .ne 27, 3) := dk_154 0 27 (dk_at dksX0_areOrdered_25 19 rfl rfl)
theorem dX0_areOrdered_607 : decode cX0_areOrdered 607 = .ok (.aload_n 0, 1) := dk_42 (dk_at dksX0_areOrdered_25 22 rfl rfl)
theorem dX0_areOrdered_608 : decode cX0_areOrdered 608 = .ok (.getfield 10, 3) := dk_180 0 10 (dk_at dksX0_areOrdered_26 0 rfl rfl)
theorem dX0_areOrdered_611 : decode cX0_areOrdered 611 = .ok (.iload_n 1, 1) := dk_27 (dk_at dksX0_areOrdered_26 3 rfl rfl)
theorem dX0_areOrdered_612 : decode cX0_areOrdered 612 = .ok (.bipush 8, 2) := dk_16 8 (dk_at dksX0_areOrdered_26 4 rfl rfl)
theorem dX0_areOrdered_614 : decode cX0_areOrdered 614 = .ok (.invokestatic 94, 3) := dk_184 0 94 (dk_at dksX0_areOrdered_26 6 rfl rfl)
theorem dX0_areOrdered_617 : decode cX0_areOrdered 617 = .ok (.bipush 7, 2) := dk_16 7 (dk_at dksX0_areOrdered_26 9 rfl rfl)
theorem dX0_areOrdered_619 : decode cX0_areOrdered 619 = .ok (.bipush 7, 2) := dk_16 7 (dk_at dksX0_areOrdered_26 11 rfl rfl)
theorem dX0_areOrdered_621 : decode cX0_areOrdered 621 = .ok (.invokevirtual 234, 3) := dk_182 0 234 (dk_at dksX0_areOrdered_26 13 rfl rfl)
theorem dX0_areOrdered_624 : decode cX0_areOrdered 624 = .ok (.ifCond .ne 7, 3) := dk_154 0 7 (dk_at dksX0_areOrdered_26 16 rfl rfl)
theorem dX0_areOrdered_627 : decode cX0_areOrdered 627 = .ok (.iconst 1, 1) := dk_4 (dk_at dksX0_areOrdered_26 19 rfl rfl)
theorem dX0_areOrdered_628 : decode cX0_areOrdered 628 = .ok (.goto 4, 3) := dk_167 0 4 (dk_at dksX0_areOrdered_26 20 rfl rfl)
theorem dX0_areOrdered_631 : decode cX0_areOrdered 631 = .ok (.iconst 0, 1) := dk_3 (dk_at dksX0_areOrdered_26 23 rfl rfl)
theorem dX0_areOrdered_632 : decode cX0_areOrdered 632 = .ok (.istore 6, 2) := dk_54 6 (dk_at dksX0_areOrdered_27 0 rfl rfl)
theorem dX0_areOrdered_634 : decode cX0_areOrdered 634 = .ok (.aload_n 0, 1) := dk_42 (dk_at dksX0_areOrdered_27 2 rfl rfl)
theorem dX0_areOrdered_635 : decode cX0_areOrdered 635 = .ok (.getfield 10, 3) := dk_180 0 10 (dk_at dksX0_areOrdered_27 3 rfl rfl)
theorem dX0_areOrdered_638 : decode cX0_areOrdered 638 = .ok (.iconst 1, 1) := dk_4 (dk_at dksX0_areOrdered_27 6 rfl rfl)
theorem dX0_areOrdered_639 : decode cX0_areOrdered 639 = .ok (.iconst 3, 1) := dk_6 (dk_at dksX0_areOrdered_27 7 rfl rfl)
theorem dX0_areOrdered_640 : decode cX0_areOrdered 640 = .ok (.invokevirtual 276, 3) := dk_182 1 20 (dk_at dksX0_areOrdered_27 8 rfl rfl)
theorem dX0_areOrdered_643 : decode cX0_areOrdered 643 = .ok (.pop, 1) := dk_87 (dk_at dksX0_areOrdered_27 11 rfl rfl)
theorem dX0_areOrdered_644 : decode cX0_areOrdered 644 = .ok (.aload_n 0, 1) := dk_42 (dk_at dksX0_areOrdered_27 12 rfl rfl)
theorem dX0_areOrdered_645 : decode cX0_areOrdered 645 = .ok (.getfield 10, 3) := dk_180 0 10 (dk_at dksX0_areOrdered_27 13 rfl rfl)
theorem dX0_areOrdered_648 : decode cX0_areOrdered 648 = .ok (.iconst 0, 1) := dk_3 (dk_at dksX0_areOrdered_27 16 rfl rfl)
theorem dX0_areOrdered_649 : decode cX0_areOrdered 649 = .ok (.iconst 4, 1) := dk_7 (dk_at dksX0_areOrdered_27 17 rfl rfl)
theorem dX0_areOrdered_650 : decode cX0_areOrdered 650 = .ok (.invokevirtual 276, 3) := dk_182 1 20 (dk_at dksX0_areOrdered_27 18 rfl rfl)
theorem dX0_areOrdered_653 : decode cX0_areOrdered 653 = .ok (.pop, 1) := dk_87 (dk_at dksX0_areOrdered_27 21 rfl rfl)
theorem dX0_areOrdered_654 : decode cX0_areOrdered 654 = .ok (.iconst 0, 1) := dk_3 (dk_at dksX0_areOrdered_27 22 rfl rfl)
theorem dX0_areOrdered_655 : decode cX0_areOrdered 655 = .ok (.istore 7, 2) := dk_54 7 (dk_at dksX0_areOrdered_28 0 rfl rfl)
theorem dX0_areOrdered_657 : decode cX0_areOrdered 657 = .ok (.iload 7, 2) := dk_21 7 (dk_at dksX0_areOrdered_28 2 rfl rfl)
theorem dX0_areOrdered_659 : decode cX0_areOrdered 659 = .ok (.bipush 8, 2) := dk_16 8 (dk_at dksX0_areOrdered_28 4 rfl rfl)
theorem dX0_areOrdered_661 : decode cX0_areOrdered 661 = .ok (.if_icmp .ge 49, 3) := dk_162 0 49 (dk_at dksX0_areOrdered_28 6 rfl rfl)
theorem dX0_areOrdered_664 : decode cX0_areOrdered 664 = .ok (.iload 6, 2) := dk_21 6 (dk_at dksX0_areOrdered_28 9 rfl rfl)
theorem dX0_areOrdered_666 : decode cX0_areOrdered 666 = .ok (.ifCond .eq 35, 3) := dk_153 0 35 (dk_at dksX0_areOrdered_28 11 rfl rfl)
theorem dX0_areOrdered_669 : decode cX0_areOrdered 669 = .ok (.aload_n 0, 1) := dk_42 (dk_at dksX0_areOrdered_28 14 rfl rfl)
theorem dX0_areOrdered_670 : decode cX0_areOrdered 670 = .ok (.getfield 10, 3) := dk_180 0 10 (dk_at dksX0_areOrdered_28 15 rfl rfl)
theorem dX0_areOrdered_673 : decode cX0_areOrdered 673 = .ok (.iload 7, 2) := dk_21 7 (dk_at dksX0_areOrdered_28 18 rfl rfl)
theorem dX0_areOrdered_675 : decode cX0_areOrdered 675 = .ok (.iconst 3, 1) := dk_6 (dk_at dksX0_areOrdered_28 20 rfl rfl)
theorem dX0_areOrdered_676 : decode cX0_areOrdered 676 = .ok (.iconst 0, 1) := dk_3 (dk_at dksX0_areOrdered_28 21 rfl rfl)
theorem dX0_areOrdered_677 : decode cX0_areOrdered 677 = .ok (.invokevirtual 230, 3) := dk_182 0 230 (dk_at dksX0_areOrdered_29 0 rfl rfl)
theorem dX0_areOrdered_680 : decode cX0_areOrdered 680 = .ok (.ifCond .gt 21, 3) := dk_157 0 21 (dk_at dksX0_areOrdered_29 3 rfl rfl)
theorem dX0_areOrdered_683 : decode cX0_areOrdered 683 = .ok (.aload_n 0, 1) := dk_42 (dk_at dksX0_areOrdered_29 6 rfl rfl)
theorem dX0_areOrdered_684 : decode cX0_areOrdered 684 = .ok (.getfield 10, 3) := dk_180 0 10 (dk_at dksX0_areOrdered_29 7 rfl rfl)
theorem dX0_areOrdered_687 : decode cX0_areOrdered 687 = .ok (.iconst 4, 1) := dk_7 (dk_at dksX0_areOrdered_29 10 rfl rfl)
theorem dX0_areOrdered_688 : decode cX0_areOrdered 688 = .ok (.iload 7, 2) := dk_21 7 (dk_at dksX0_areOrdered_29 11 rfl rfl)
theorem dX0_areOrdered_690 : decode cX0_areOrdered 690 = .ok (.iconst 1, 1) := dk_4 (dk_at dksX0_areOrdered_29 13 rfl rfl)
theorem dX0_areOrdered_691 : decode cX0_areOrdered 691 = .ok (.invokevirtual 230, 3) := dk_182 0 230 (dk_at dksX0_areOrdered_29 14 rfl rfl)
theorem dX0_areOrdered_694 : decode cX0_areOrdered 694 = .ok (.ifCond .gt 7, 3) := dk_157 0 7 (dk_at dksX0_areOrdered_29 17 rfl rfl)
theorem dX0_areOrdered_697 : decode cX0_areOrdered 697 = .ok (.iconst 1, 1) := dk_4 (dk_at dksX0_areOrdered_29 20 rfl rfl)
theorem dX0_areOrdered_698 : decode cX0_areOrdered 698 = .ok (.goto 4, 3) := dk_167 0 4 (dk_at dksX0_areOrdered_29 21 rfl rfl)
theorem dX0_areOrdered_701 : decode cX0_areOrdered 701 = .ok (.iconst 0, 1) := dk_3 (dk_at dksX0_areOrdered_30 0 rfl rfl)
theorem dX0_areOrdered_702 : decode cX0_areOrdered 702 = .ok (.istore 6, 2) := dk_54 6 (dk_at dksX0_areOrdered_30 1 rfl rfl)
theorem dX0_areOrdered_704 : decode cX0_areOrdered 704 = .ok (.iinc 7 1, 3) := dk_132 7 1 (dk_at dksX0_areOrdered_30 3 rfl rfl)
theorem dX0_areOrdered_707 : decode cX0_areOrdered 707 = .ok (.goto (-50), 3) := dk_167 255 206 (dk_at dksX0_areOrdered_30 6 rfl rfl)
theorem dX0_areOrdered_710 : decode cX0_areOrdered 710 = .ok (.aload_n 0, 1) := dk_42 (dk_at dksX0_areOrdered_30 9 rfl rfl)
theorem dX0_areOrdered_711 : decode cX0_areOrdered 711 = .ok (.getfield 10, 3) := dk_180 0 10 (dk_at dksX0_areOrdered_30 10 rfl rfl)
theorem dX0_areOrdered_714 : decode cX0_areOrdered 714 = .ok (.iconst 3, 1) := dk_6 (dk_at dksX0_areOrdered_30 13 rfl rfl)
theorem dX0_areOrdered_715 : decode cX0_areOrdered 715 = .ok (.iconst 4, 1) := dk_7 (dk_at dksX0_areOrdered_30 14 rfl rfl)
theorem dX0_areOrdered_716 : decode cX0_areOrdered 716 = .ok (.iconst 5, 1) := dk_8 (dk_at dksX0_areOrdered_30 15 rfl rfl)
theorem dX0_areOrdered_717 : decode cX0_areOrdered 717 = .ok (.invokevirtual 234, 3) := dk_182 0 234 (dk_at dksX0_areOrdered_30 16 rfl rfl)
theorem dX0_areOrdered_720 : decode cX0_areOrdered 720 = .ok (.pop, 1) := dk_87 (dk_at dksX0_areOrdered_30 19 rfl rfl)
theorem dX0_areOrdered_721 : decode cX0_areOrdered 721 = .ok (.aload_n 0, 1) := dk_42 (dk_at dksX0_areOrdered_30 20 rfl rfl)
theorem dX0_areOrdered_722 : decode cX0_areOrdered 722 = .ok (.getfield 10, 3) := dk_180 0 10 (dk_at dksX0_areOrdered_30 21 rfl rfl)
theorem dX0_areOrdered_725 : decode cX0_areOrdered 725 = .ok (.iconst 3, 1) := dk_6 (dk_at dksX0_areOrdered_31 0 rfl rfl)
theorem dX0_areOrdered_726 : decode cX0_areOrdered 726 = .ok (.iconst 4, 1) := dk_7 (dk_at dksX0_areOrdered_31 1 rfl rfl)
theorem dX0_areOrdered_727 : decode cX0_areOrdered 727 = .ok (.bipush 6, 2) := dk_16 6 (dk_at dksX0_areOrdered_31 2 rfl rfl)
theorem dX0_areOrdered_729 : decode cX0_areOrdered 729 = .ok (.invokevirtual 273, 3) := dk_182 1 17 (dk_at dksX0_areOrdered_31 4 rfl rfl)
theorem dX0_areOrdered_732 : decode cX0_areOrdered 732 = .ok (.pop, 1) := dk_87 (dk_at dksX0_areOrdered_31 7 rfl rfl)
theorem dX0_areOrdered_733 : decode cX0_areOrdered 733 = .ok (.iload 6, 2) := dk_21 6 (dk_at dksX0_areOrdered_31 8 rfl rfl)
theorem dX0_areOrdered_735 : decode cX0_areOrdered 735 = .ok (.ifCond .eq 42, 3) := dk_153 0 42 (dk_at dksX0_areOrdered_31 10 rfl rfl)
theorem dX0_areOrdered_738 : decode cX0_areOrdered 738 = .ok (.aload_n 0, 1) := dk_42 (dk_at dksX0_areOrdered_31 13 rfl rfl)
theorem dX0_areOrdered_739 : decode cX0_areOrdered 739 = .ok (.getfield 10, 3) := dk_180 0 10 (dk_at dksX0_areOrdered_31 14 rfl rfl)
theorem dX0_areOrdered_742 : decode cX0_areOrdered 742 = .ok (.iconst 5, 1) := dk_8 (dk_at dksX0_areOrdered_31 17 rfl rfl)
theorem dX0_areOrdered_743 : decode cX0_areOrdered 743 = .ok (.iconst 3, 1) := dk_6 (dk_at dksX0_areOrdered_31 18 rfl rfl)
theorem dX0_areOrdered_744 : decode cX0_areOrdered 744 = .ok (.iconst 0, 1) := dk_3 (dk_at dksX0_areOrdered_31 19 rfl rfl)
theorem dX0_areOrdered_745 : decode cX0_areOrdered 745 = .ok (.invokevirtual 197, 3) := dk_182 0 197 (dk_at dksX0_areOrdered_31 20 rfl rfl)
theorem dX0_areOrdered_748 : decode cX0_areOrdered 748 = .ok (.ifCond .eq 29, 3) := dk_153 0 29 (dk_at dksX0_areOrdered_32 0 rfl rfl)
theorem dX0_areOrdered_751 : decode cX0_areOrdered 751 = .ok (.aload_n 0, 1) := dk_42 (dk_at dksX0_areOrdered_32 3 rfl rfl)
theorem dX0_areOrdered_752 : decode cX0_areOrdered 752 = .ok (.getfield 10, 3) := dk_180 0 10 (dk_at dksX0_areOrdered_32 4 rfl rfl)
theorem dX0_areOrdered_755 : decode cX0_areOrdered 755 = .ok (.bipush 6, 2) := dk_16 6 (dk_at dksX0_areOrdered_32 7 rfl rfl)
theorem dX0_areOrdered_757 : decode cX0_areOrdered 757 = .ok (.iconst 4, 1) := dk_7 (dk_at dksX0_areOrdered_32 9 rfl rfl)
theorem dX0_areOrdered_758 : decode cX0_areOrdered 758 = .ok (.iconst 1, 1) := dk_4 (dk_at dksX0_areOrdered_32 10 rfl rfl)
theorem dX0_areOrdered_759 : decode cX0_areOrdered 759 = .ok (.invokevirtual 197, 3) := dk_182 0 197 (dk_at dksX0_areOrdered_32 11 rfl rfl)
theorem dX0_areOrdered_762 : decode cX0_areOrdered 762 = .ok (.ifCond .eq 15, 3) := dk_153 0 15 (dk_at dksX0_areOrdered_32 14 rfl rfl)
theorem dX0_areOrdered_765 : decode cX0_areOrdered 765 = .ok (.aload_n 0, 1) := dk_42 (dk_at dksX0_areOrdered_32 17 rfl rfl)
theorem dX0_areOrdered_766 : decode cX0_areOrdered 766 = .ok (.iload_n 1, 1) := dk_27 (dk_at dksX0_areOrdered_32 18 rfl rfl)
theorem dX0_areOrdered_767 : decode cX0_areOrdered 767 = .ok (.invokevirtual 280, 3) := dk_182 1 24 (dk_at dksX0_areOrdered_32 19 rfl rfl)
theorem dX0_areOrdered_770 : decode cX0_areOrdered 770 = .ok (.ifCond .eq 7, 3) := dk_153 0 7 (dk_at dksX0_areOrdered_33 0 rfl rfl)
theorem dX0_areOrdered_773 : decode cX0_areOrdered 773 = .ok (.iconst 1, 1) := dk_4 (dk_at dksX0_areOrdered_33 3 rfl rfl)
theorem dX0_areOrdered_774 : decode cX0_areOrdered 774 = .ok (.goto 4, 3) := dk_167 0 4 (dk_at dksX0_areOrdered_33 4 rfl rfl)
theorem dX0_areOrdered_777 : decode cX0_areOrdered 777 = .ok (.iconst 0, 1) := dk_3 (dk_at dksX0_areOrdered_33 7 rfl rfl)
theorem dX0_areOrdered_778 : decode cX0_areOrdered 778 = .ok (.ireturn, 1) := dk_172 (dk_at dksX0_areOrdered_33 8 rfl rfl)
abbrev cX0_plain : ByteArray := method_18_code
def yX0_plain : MethodName := ⟨RX0, "plain", "(I)J"⟩
def dkwX0_plain_1 : List UInt8 := [182, 0, 63, 173]
abbrev dktX0_plain_1 : List UInt8 := dkwX0_plain_1 ++ []
def dkwX0_plain_0 : List UInt8 := [42, 27, 182, 0, 63, 9, 148, 156, 0, 15, 20, 0, 200, 42, 27, 182, 0, 63, 101, 167, 0, 8, 42, 27]
abbrev dktX0_plain_0 : List UInt8 := dkwX0_plain_0 ++ dktX0_plain_1
theorem dksX0_plain_0 : cX0_plain.data.toList.drop 0 = dktX0_plain_0 := by decide +kernel
theorem dksX0_plain_1 : cX0_plain.data.toList.drop 24 = dktX0_plain_1 := dk_seg dksX0_plain_0 24 rfl rfl
theorem dX0_plain_0 : decode cX0_plain 0 = .ok (.aload_n 0, 1) := dk_42 (dk_at dksX0_plain_0 0 rfl rfl)
theorem dX0_plain_1 : decode cX0_plain 1 = .ok (.iload_n 1, 1) := dk_27 (dk_at dksX0_plain_0 1 rfl rfl)
theorem dX0_plain_2 : decode cX0_plain 2 = .ok (.invokevirtual 63, 3) := dk_182 0 63 (dk_at dksX0_plain_0 2 rfl rfl)
theorem dX0_plain_5 : decode cX0_plain 5 = .ok (.lconst 0, 1) := dk_9 (dk_at dksX0_plain_0 5 rfl rfl)
theorem dX0_plain_6 : decode cX0_plain 6 = .ok (.lcmp, 1) := dk_148 (dk_at dksX0_plain_0 6 rfl rfl)
theorem dX0_plain_7 : decode cX0_plain 7 = .ok (.ifCond .ge 15, 3) := dk_156 0 15 (dk_at dksX0_plain_0 7 rfl rfl)
theorem dX0_plain_10 : decode cX0_plain 10 = .ok (.ldc2_w 200, 3) := dk_20 0 200 (dk_at dksX0_plain_0 10 rfl rfl)
theorem dX0_plain_13 : decode cX0_plain 13 = .ok (.aload_n 0, 1) := dk_42 (dk_at dksX0_plain_0 13 rfl rfl)
theorem dX0_plain_14 : decode cX0_plain 14 = .ok (.iload_n 1, 1) := dk_27 (dk_at dksX0_plain_0 14 rfl rfl)
theorem dX0_plain_15 : decode cX0_plain 15 = .ok (.invokevirtual 63, 3) := dk_182 0 63 (dk_at dksX0_plain_0 15 rfl rfl)
theorem dX0_plain_18 : decode cX0_plain 18 = .ok (.lsub, 1) := dk_101 (dk_at dksX0_plain_0 18 rfl rfl)
theorem dX0_plain_19 : decode cX0_plain 19 = .ok (.goto 8, 3) := dk_167 0 8 (dk_at dksX0_plain_0 19 rfl rfl)
theorem dX0_plain_22 : decode cX0_plain 22 = .ok (.aload_n 0, 1) := dk_42 (dk_at dksX0_plain_0 22 rfl rfl)
theorem dX0_plain_23 : decode cX0_plain 23 = .ok (.iload_n 1, 1) := dk_27 (dk_at dksX0_plain_0 23 rfl rfl)
theorem dX0_plain_24 : decode cX0_plain 24 = .ok (.invokevirtual 63, 3) := dk_182 0 63 (dk_at dksX0_plain_1 0 rfl rfl)
theorem dX0_plain_27 : decode cX0_plain 27 = .ok (.lreturn, 1) := dk_173 (dk_at dksX0_plain_1 3 rfl rfl)
abbrev cX0_isFilled : ByteArray := method_22_code
def yX0_isFilled : MethodName := ⟨RX0, "isFilled", "(I)Z"⟩
def dkwX0_isFilled_5 : List UInt8 := [160, 0, 7, 4, 167, 0, 4, 3, 62, 132, 4, 1, 167, 255, 205, 29, 172]
abbrev dktX0_isFilled_5 : List UInt8 := dkwX0_isFilled_5 ++ []
def dkwX0_isFilled_4 : List UInt8 := [28, 21, 4, 4, 100, 21, 4, 182, 0, 211, 42, 180, 0, 10, 21, 4, 4, 100, 21, 4, 3, 182, 0, 230]
abbrev dktX0_isFilled_4 : List UInt8 := dkwX0_isFilled_4 ++ dktX0_isFilled_5
def dkwX0_isFilled_3 : List UInt8 := [132, 4, 1, 167, 255, 221, 4, 54, 4, 21, 4, 16, 8, 162, 0, 50, 29, 153, 0, 38, 42, 180, 0, 10]
abbrev dktX0_isFilled_3 : List UInt8 := dkwX0_isFilled_3 ++ dktX0_isFilled_4
def dkwX0_isFilled_2 : List UInt8 := [153, 0, 22, 42, 180, 0, 10, 21, 4, 28, 21, 4, 182, 0, 50, 153, 0, 7, 4, 167, 0, 4, 3, 62]
abbrev dktX0_isFilled_2 : List UInt8 := dkwX0_isFilled_2 ++ dktX0_isFilled_3
def dkwX0_isFilled_1 : List UInt8 := [182, 1, 27, 154, 0, 7, 4, 167, 0, 4, 3, 62, 3, 54, 4, 21, 4, 16, 8, 162, 0, 34, 29]
abbrev dktX0_isFilled_1 : List UInt8 := dkwX0_isFilled_1 ++ dktX0_isFilled_2
def dkwX0_isFilled_0 : List UInt8 := [27, 6, 122, 6, 184, 0, 94, 61, 42, 180, 0, 10, 28, 182, 1, 27, 155, 0, 18, 42, 180, 0, 10, 28]
abbrev dktX0_isFilled_0 : List UInt8 := dkwX0_isFilled_0 ++ dktX0_isFilled_1
theorem dksX0_isFilled_0 : cX0_isFilled.data.toList.drop 0 = dktX0_isFilled_0 := by decide +kernel
theorem dksX0_isFilled_1 : cX0_isFilled.data.toList.drop 24 = dktX0_isFilled_1 := dk_seg dksX0_isFilled_0 24 rfl rfl
theorem dksX0_isFilled_2 : cX0_isFilled.data.toList.drop 47 = dktX0_isFilled_2 := dk_seg dksX0_isFilled_1 23 rfl rfl
theorem dksX0_isFilled_3 : cX0_isFilled.data.toList.drop 71 = dktX0_isFilled_3 := dk_seg dksX0_isFilled_2 24 rfl rfl
theorem dksX0_isFilled_4 : cX0_isFilled.data.toList.drop 95 = dktX0_isFilled_4 := dk_seg dksX0_isFilled_3 24 rfl rfl
theorem dksX0_isFilled_5 : cX0_isFilled.data.toList.drop 119 = dktX0_isFilled_5 := dk_seg dksX0_isFilled_4 24 rfl rfl
theorem dX0_isFilled_0 : decode cX0_isFilled 0 = .ok (.iload_n 1, 1) := dk_27 (dk_at dksX0_isFilled_0 0 rfl rfl)
theorem dX0_isFilled_1 : decode cX0_isFilled 1 = .ok (.iconst 3, 1) := dk_6 (dk_at dksX0_isFilled_0 1 rfl rfl)
theorem dX0_isFilled_2 : decode cX0_isFilled 2 = .ok (.ishr, 1) := dk_122 (dk_at dksX0_isFilled_0 2 rfl rfl)
theorem dX0_isFilled_3 : decode cX0_isFilled 3 = .ok (.iconst 3, 1) := dk_6 (dk_at dksX0_isFilled_0 3 rfl rfl)
theorem dX0_isFilled_4 : decode cX0_isFilled 4 = .ok (.invokestatic 94, 3) := dk_184 0 94 (dk_at dksX0_isFilled_0 4 rfl rfl)
theorem dX0_isFilled_7 : decode cX0_isFilled 7 = .ok (.istore_n 2, 1) := dk_61 (dk_at dksX0_isFilled_0 7 rfl rfl)
theorem dX0_isFilled_8 : decode cX0_isFilled 8 = .ok (.aload_n 0, 1) := dk_42 (dk_at dksX0_isFilled_0 8 rfl rfl)
theorem dX0_isFilled_9 : decode cX0_isFilled 9 = .ok (.getfield 10, 3) := dk_180 0 10 (dk_at dksX0_isFilled_0 9 rfl rfl)
theorem dX0_isFilled_12 : decode cX0_isFilled 12 = .ok (.iload_n 2, 1) := dk_28 (dk_at dksX0_isFilled_0 12 rfl rfl)
theorem dX0_isFilled_13 : decode cX0_isFilled 13 = .ok (.invokevirtual 283, 3) := dk_182 1 27 (dk_at dksX0_isFilled_0 13 rfl rfl)
theorem dX0_isFilled_16 : decode cX0_isFilled 16 = .ok (.ifCond .lt 18, 3) := dk_155 0 18 (dk_at dksX0_isFilled_0 16 rfl rfl)
theorem dX0_isFilled_19 : decode cX0_isFilled 19 = .ok (.aload_n 0, 1) := dk_42 (dk_at dksX0_isFilled_0 19 rfl rfl)
theorem dX0_isFilled_20 : decode cX0_isFilled 20 = .ok (.getfield 10, 3) := dk_180 0 10 (dk_at dksX0_isFilled_0 20 rfl rfl)
theorem dX0_isFilled_23 : decode cX0_isFilled 23 = .ok (.iload_n 2, 1) := dk_28 (dk_at dksX0_isFilled_0 23 rfl rfl)
theorem dX0_isFilled_24 : decode cX0_isFilled 24 = .ok (.invokevirtual 283, 3) := dk_182 1 27 (dk_at dksX0_isFilled_1 0 rfl rfl)
theorem dX0_isFilled_27 : decode cX0_isFilled 27 = .ok (.ifCond .ne 7, 3) := dk_154 0 7 (dk_at dksX0_isFilled_1 3 rfl rfl)
theorem dX0_isFilled_30 : decode cX0_isFilled 30 = .ok (.iconst 1, 1) := dk_4 (dk_at dksX0_isFilled_1 6 rfl rfl)
theorem dX0_isFilled_31 : decode cX0_isFilled 31 = .ok (.goto 4, 3) := dk_167 0 4 (dk_at dksX0_isFilled_1 7 rfl rfl)
theorem dX0_isFilled_34 : decode cX0_isFilled 34 = .ok (.iconst 0, 1) := dk_3 (dk_at dksX0_isFilled_1 10 rfl rfl)
theorem dX0_isFilled_35 : decode cX0_isFilled 35 = .ok (.istore_n 3, 1) := dk_62 (dk_at dksX0_isFilled_1 11 rfl rfl)
theorem dX0_isFilled_36 : decode cX0_isFilled 36 = .ok (.iconst 0, 1) := dk_3 (dk_at dksX0_isFilled_1 12 rfl rfl)
theorem dX0_isFilled_37 : decode cX0_isFilled 37 = .ok (.istore 4, 2) := dk_54 4 (dk_at dksX0_isFilled_1 13 rfl rfl)
theorem dX0_isFilled_39 : decode cX0_isFilled 39 = .ok (.iload 4, 2) := dk_21 4 (dk_at dksX0_isFilled_1 15 rfl rfl)
theorem dX0_isFilled_41 : decode cX0_isFilled 41 = .ok (.bipush 8, 2) := dk_16 8 (dk_at dksX0_isFilled_1 17 rfl rfl)
theorem dX0_isFilled_43 : decode cX0_isFilled 43 = .ok (.if_icmp .ge 34, 3) := dk_162 0 34 (dk_at dksX0_isFilled_1 19 rfl rfl)
theorem dX0_isFilled_46 : decode cX0_isFilled 46 = .ok (.iload_n 3, 1) := dk_29 (dk_at dksX0_isFilled_1 22 rfl rfl)
theorem dX0_isFilled_47 : decode cX0_isFilled 47 = .ok (.ifCond .eq 22, 3) := dk_153 0 22 (dk_at dksX0_isFilled_2 0 rfl rfl)
theorem dX0_isFilled_50 : decode cX0_isFilled 50 = .ok (.aload_n 0, 1) := dk_42 (dk_at dksX0_isFilled_2 3 rfl rfl)
theorem dX0_isFilled_51 : decode cX0_isFilled 51 = .ok (.getfield 10, 3) := dk_180 0 10 (dk_at dksX0_isFilled_2 4 rfl rfl)
theorem dX0_isFilled_54 : decode cX0_isFilled 54 = .ok (.iload 4, 2) := dk_21 4 (dk_at dksX0_isFilled_2 7 rfl rfl)
theorem dX0_isFilled_56 : decode cX0_isFilled 56 = .ok (.iload_n 2, 1) := dk_28 (dk_at dksX0_isFilled_2 9 rfl rfl)
theorem dX0_isFilled_57 : decode cX0_isFilled 57 = .ok (.iload 4, 2) := dk_21 4 (dk_at dksX0_isFilled_2 10 rfl rfl)
theorem dX0_isFilled_59 : decode cX0_isFilled 59 = .ok (.invokevirtual 50, 3) := dk_182 0 50 (dk_at dksX0_isFilled_2 12 rfl rfl)
theorem dX0_isFilled_62 : decode cX0_isFilled 62 = .ok (.ifCond .eq 7, 3) := dk_153 0 7 (dk_at dksX0_isFilled_2 15 rfl rfl)
theorem dX0_isFilled_65 : decode cX0_isFilled 65 = .ok (.iconst 1, 1) := dk_4 (dk_at dksX0_isFilled_2 18 rfl rfl)
theorem dX0_isFilled_66 : decode cX0_isFilled 66 = .ok (.goto 4, 3) := dk_167 0 4 (dk_at dksX0_isFilled_2 19 rfl rfl)
theorem dX0_isFilled_69 : decode cX0_isFilled 69 = .ok (.iconst 0, 1) := dk_3 (dk_at dksX0_isFilled_2 22 rfl rfl)
theorem dX0_isFilled_70 : decode cX0_isFilled 70 = .ok (.istore_n 3, 1) := dk_62 (dk_at dksX0_isFilled_2 23 rfl rfl)
theorem dX0_isFilled_71 : decode cX0_isFilled 71 = .ok (.iinc 4 1, 3) := dk_132 4 1 (dk_at dksX0_isFilled_3 0 rfl rfl)
theorem dX0_isFilled_74 : decode cX0_isFilled 74 = .ok (.goto (-35), 3) := dk_167 255 221 (dk_at dksX0_isFilled_3 3 rfl rfl)
theorem dX0_isFilled_77 : decode cX0_isFilled 77 = .ok (.iconst 1, 1) := dk_4 (dk_at dksX0_isFilled_3 6 rfl rfl)
theorem dX0_isFilled_78 : decode cX0_isFilled 78 = .ok (.istore 4, 2) := dk_54 4 (dk_at dksX0_isFilled_3 7 rfl rfl)
theorem dX0_isFilled_80 : decode cX0_isFilled 80 = .ok (.iload 4, 2) := dk_21 4 (dk_at dksX0_isFilled_3 9 rfl rfl)
theorem dX0_isFilled_82 : decode cX0_isFilled 82 = .ok (.bipush 8, 2) := dk_16 8 (dk_at dksX0_isFilled_3 11 rfl rfl)
theorem dX0_isFilled_84 : decode cX0_isFilled 84 = .ok (.if_icmp .ge 50, 3) := dk_162 0 50 (dk_at dksX0_isFilled_3 13 rfl rfl)
theorem dX0_isFilled_87 : decode cX0_isFilled 87 = .ok (.iload_n 3, 1) := dk_29 (dk_at dksX0_isFilled_3 16 rfl rfl)
theorem dX0_isFilled_88 : decode cX0_isFilled 88 = .ok (.ifCond .eq 38, 3) := dk_153 0 38 (dk_at dksX0_isFilled_3 17 rfl rfl)
theorem dX0_isFilled_91 : decode cX0_isFilled 91 = .ok (.aload_n 0, 1) := dk_42 (dk_at dksX0_isFilled_3 20 rfl rfl)
theorem dX0_isFilled_92 : decode cX0_isFilled 92 = .ok (.getfield 10, 3) := dk_180 0 10 (dk_at dksX0_isFilled_3 21 rfl rfl)
theorem dX0_isFilled_95 : decode cX0_isFilled 95 = .ok (.iload_n 2, 1) := dk_28 (dk_at dksX0_isFilled_4 0 rfl rfl)
theorem dX0_isFilled_96 : decode cX0_isFilled 96 = .ok (.iload 4, 2) := dk_21 4 (dk_at dksX0_isFilled_4 1 rfl rfl)
theorem dX0_isFilled_98 : decode cX0_isFilled 98 = .ok (.iconst 1, 1) := dk_4 (dk_at dksX0_isFilled_4 3 rfl rfl)
theorem dX0_isFilled_99 : decode cX0_isFilled 99 = .ok (.isub, 1) := dk_100 (dk_at dksX0_isFilled_4 4 rfl rfl)
theorem dX0_isFilled_100 : decode cX0_isFilled 100 = .ok (.iload 4, 2) := dk_21 4 (dk_at dksX0_isFilled_4 5 rfl rfl)
theorem dX0_isFilled_102 : decode cX0_isFilled 102 = .ok (.invokevirtual 211, 3) := dk_182 0 211 (dk_at dksX0_isFilled_4 7 rfl rfl)
theorem dX0_isFilled_105 : decode cX0_isFilled 105 = .ok (.aload_n 0, 1) := dk_42 (dk_at dksX0_isFilled_4 10 rfl rfl)
theorem dX0_isFilled_106 : decode cX0_isFilled 106 = .ok (.getfield 10, 3) := dk_180 0 10 (dk_at dksX0_isFilled_4 11 rfl rfl)
theorem dX0_isFilled_109 : decode cX0_isFilled 109 = .ok (.iload 4, 2) := dk_21 4 (dk_at dksX0_isFilled_4 14 rfl rfl)
theorem dX0_isFilled_111 : decode cX0_isFilled 111 = .ok (.iconst 1, 1) := dk_4 (dk_at dksX0_isFilled_4 16 rfl rfl)
theorem dX0_isFilled_112 : decode cX0_isFilled 112 = .ok (.isub, 1) := dk_100 (dk_at dksX0_isFilled_4 17 rfl rfl)
theorem dX0_isFilled_113 : decode cX0_isFilled 113 = .ok (.iload 4, 2) := dk_21 4 (dk_at dksX0_isFilled_4 18 rfl rfl)
theorem dX0_isFilled_115 : decode cX0_isFilled 115 = .ok (.iconst 0, 1) := dk_3 (dk_at dksX0_isFilled_4 20 rfl rfl)
theorem dX0_isFilled_116 : decode cX0_isFilled 116 = .ok (.invokevirtual 230, 3) := dk_182 0 230 (dk_at dksX0_isFilled_4 21 rfl rfl)
theorem dX0_isFilled_119 : decode cX0_isFilled 119 = .ok (.if_icmp .ne 7, 3) := dk_160 0 7 (dk_at dksX0_isFilled_5 0 rfl rfl)
theorem dX0_isFilled_122 : decode cX0_isFilled 122 = .ok (.iconst 1, 1) := dk_4 (dk_at dksX0_isFilled_5 3 rfl rfl)
theorem dX0_isFilled_123 : decode cX0_isFilled 123 = .ok (.goto 4, 3) := dk_167 0 4 (dk_at dksX0_isFilled_5 4 rfl rfl)
theorem dX0_isFilled_126 : decode cX0_isFilled 126 = .ok (.iconst 0, 1) := dk_3 (dk_at dksX0_isFilled_5 7 rfl rfl)
theorem dX0_isFilled_127 : decode cX0_isFilled 127 = .ok (.istore_n 3, 1) := dk_62 (dk_at dksX0_isFilled_5 8 rfl rfl)
theorem dX0_isFilled_128 : decode cX0_isFilled 128 = .ok (.iinc 4 1, 3) := dk_132 4 1 (dk_at dksX0_isFilled_5 9 rfl rfl)
theorem dX0_isFilled_131 : decode cX0_isFilled 131 = .ok (.goto (-51), 3) := dk_167 255 205 (dk_at dksX0_isFilled_5 12 rfl rfl)
theorem dX0_isFilled_134 : decode cX0_isFilled 134 = .ok (.iload_n 3, 1) := dk_29 (dk_at dksX0_isFilled_5 15 rfl rfl)
theorem dX0_isFilled_135 : decode cX0_isFilled 135 = .ok (.ireturn, 1) := dk_172 (dk_at dksX0_isFilled_5 16 rfl rfl)
abbrev cX0_isSummed : ByteArray := method_24_code
def yX0_isSummed : MethodName := ⟨RX0, "isSummed", "()Z"⟩
def dkwX0_isSummed_15 : List UInt8 := [20, 1, 30, 97, 148, 154, 0, 7, 4, 167, 0, 4, 3, 172]
abbrev dktX0_isSummed_15 : List UInt8 := dkwX0_isSummed_15 ++ []
def dkwX0_isSummed_14 : List UInt8 := [180, 0, 10, 6, 182, 0, 47, 21, 5, 4, 96, 160, 0, 23, 42, 180, 0, 10, 182, 1, 34, 33]
abbrev dktX0_isSummed_14 : List UInt8 := dkwX0_isSummed_14 ++ dktX0_isSummed_15
def dkwX0_isSummed_13 : List UInt8 := [182, 1, 34, 33, 148, 154, 0, 52, 42, 180, 0, 10, 182, 1, 46, 21, 5, 4, 96, 160, 0, 38, 42]
abbrev dktX0_isSummed_13 : List UInt8 := dkwX0_isSummed_13 ++ dktX0_isSummed_14
def dkwX0_isSummed_12 : List UInt8 := [42, 180, 0, 10, 182, 1, 42, 153, 0, 74, 33, 31, 10, 184, 1, 38, 148, 154, 0, 64, 42, 180, 0, 10]
abbrev dktX0_isSummed_12 : List UInt8 := dkwX0_isSummed_12 ++ dktX0_isSummed_13
def dkwX0_isSummed_11 : List UInt8 := [182, 0, 47, 133, 184, 1, 38, 64, 132, 5, 1, 167, 255, 232, 42, 180, 0, 10, 6, 182, 0, 47, 54, 5]
abbrev dktX0_isSummed_11 : List UInt8 := dkwX0_isSummed_11 ++ dktX0_isSummed_12
def dkwX0_isSummed_10 : List UInt8 := [132, 5, 1, 167, 255, 194, 3, 54, 5, 21, 5, 7, 162, 0, 24, 31, 42, 180, 0, 10, 21, 5]
abbrev dktX0_isSummed_10 : List UInt8 := dkwX0_isSummed_10 ++ dktX0_isSummed_11
def dkwX0_isSummed_9 : List UInt8 := [42, 180, 0, 10, 21, 5, 21, 6, 182, 0, 202, 133, 184, 1, 38, 64, 132, 6, 1, 167, 255, 213]
abbrev dktX0_isSummed_9 : List UInt8 := dkwX0_isSummed_9 ++ dktX0_isSummed_10
def dkwX0_isSummed_8 : List UInt8 := [21, 6, 16, 8, 162, 0, 42, 31, 42, 180, 0, 10, 21, 5, 21, 6, 3, 182, 0, 230, 133, 184, 1, 38]
abbrev dktX0_isSummed_8 : List UInt8 := dkwX0_isSummed_8 ++ dktX0_isSummed_9
def dkwX0_isSummed_7 : List UInt8 := [64, 132, 5, 1, 167, 255, 175, 3, 54, 5, 21, 5, 16, 8, 162, 0, 61, 21, 5, 4, 96, 54, 6]
abbrev dktX0_isSummed_7 : List UInt8 := dkwX0_isSummed_7 ++ dktX0_isSummed_8
def dkwX0_isSummed_6 : List UInt8 := [21, 5, 3, 182, 1, 11, 133, 184, 1, 38, 42, 180, 0, 10, 21, 5, 4, 182, 1, 11, 133, 184, 1, 38]
abbrev dktX0_isSummed_6 : List UInt8 := dkwX0_isSummed_6 ++ dktX0_isSummed_7
def dkwX0_isSummed_5 : List UInt8 := [182, 0, 40, 133, 184, 1, 38, 42, 180, 0, 10, 21, 5, 182, 0, 175, 133, 184, 1, 38, 42, 180, 0, 10]
abbrev dktX0_isSummed_5 : List UInt8 := dkwX0_isSummed_5 ++ dktX0_isSummed_6
def dkwX0_isSummed_4 : List UInt8 := [31, 42, 180, 0, 10, 21, 5, 182, 0, 36, 133, 184, 1, 38, 42, 180, 0, 10, 21, 5, 16, 30]
abbrev dktX0_isSummed_4 : List UInt8 := dkwX0_isSummed_4 ++ dktX0_isSummed_5
def dkwX0_isSummed_3 : List UInt8 := [182, 0, 194, 133, 184, 1, 38, 64, 132, 5, 1, 167, 255, 190, 3, 54, 5, 21, 5, 16, 8, 162, 0, 80]
abbrev dktX0_isSummed_3 : List UInt8 := dkwX0_isSummed_3 ++ dktX0_isSummed_4
def dkwX0_isSummed_2 : List UInt8 := [184, 1, 38, 42, 180, 0, 10, 21, 5, 4, 182, 0, 118, 133, 184, 1, 38, 42, 180, 0, 10, 21, 5]
abbrev dktX0_isSummed_2 : List UInt8 := dkwX0_isSummed_2 ++ dktX0_isSummed_3
def dkwX0_isSummed_1 : List UInt8 := [180, 0, 10, 21, 5, 182, 0, 113, 133, 184, 1, 38, 42, 180, 0, 10, 21, 5, 3, 182, 0, 118, 133]
abbrev dktX0_isSummed_1 : List UInt8 := dkwX0_isSummed_1 ++ dktX0_isSummed_2
def dkwX0_isSummed_0 : List UInt8 := [20, 1, 32, 64, 42, 180, 0, 10, 182, 1, 34, 66, 3, 54, 5, 21, 5, 16, 8, 162, 0, 65, 31, 42]
abbrev dktX0_isSummed_0 : List UInt8 := dkwX0_isSummed_0 ++ dktX0_isSummed_1
theorem dksX0_isSummed_0 : cX0_isSummed.data.toList.drop 0 = dktX0_isSummed_0 := by decide +kernel
theorem dksX0_isSummed_1 : cX0_isSummed.data.toList.drop 24 = dktX0_isSummed_1 := dk_seg dksX0_isSummed_0 24 rfl rfl
theorem dksX0_isSummed_2 : cX0_isSummed.data.toList.drop 47 = dktX0_isSummed_2 := dk_seg dksX0_isSummed_1 23 rfl rfl
theorem dksX0_isSummed_3 : cX0_isSummed.data.toList.drop 70 = dktX0_isSummed_3 := dk_seg dksX0_isSummed_2 23 rfl rfl
theorem dksX0_isSummed_4 : cX0_isSummed.data.toList.drop 94 = dktX0_isSummed_4 := dk_seg dksX0_isSummed_3 24 rfl rfl
theorem dksX0_isSummed_5 : cX0_isSummed.data.toList.drop 116 = dktX0_isSummed_5 := dk_seg dksX0_isSummed_4 22 rfl rfl
theorem dksX0_isSummed_6 : cX0_isSummed.data.toList.drop 140 = dktX0_isSummed_6 := dk_seg dksX0_isSummed_5 24 rfl rfl
theorem dksX0_isSummed_7 : cX0_isSummed.data.toList.drop 164 = dktX0_isSummed_7 := dk_seg dksX0_isSummed_6 24 rfl rfl
theorem dksX0_isSummed_8 : cX0_isSummed.data.toList.drop 187 = dktX0_isSummed_8 := dk_seg dksX0_isSummed_7 23 rfl rfl
theorem dksX0_isSummed_9 : cX0_isSummed.data.toList.drop 211 = dktX0_isSummed_9 := dk_seg dksX0_isSummed_8 24 rfl rfl
theorem dksX0_isSummed_10 : cX0_isSummed.data.toList.drop 233 = dktX0_isSummed_10 := dk_seg dksX0_isSummed_9 22 rfl rfl
theorem dksX0_isSummed_11 : cX0_isSummed.data.toList.drop 255 = dktX0_isSummed_11 := dk_seg dksX0_isSummed_10 22 rfl rfl
theorem dksX0_isSummed_12 : cX0_isSummed.data.toList.drop 279 = dktX0_isSummed_12 := dk_seg dksX0_isSummed_11 24 rfl rfl
theorem dksX0_isSummed_13 : cX0_isSummed.data.toList.drop 303 = dktX0_isSummed_13 := dk_seg dksX0_isSummed_12 24 rfl rfl
theorem dksX0_isSummed_14 : cX0_isSummed.data.toList.drop 326 = dktX0_isSummed_14 := dk_seg dksX0_isSummed_13 23 rfl rfl
theorem dksX0_isSummed_15 : cX0_isSummed.data.toList.drop 348 = dktX0_isSummed_15 := dk_seg dksX0_isSummed_14 22 rfl rfl
theorem dX0_isSummed_0 : decode cX0_isSummed 0 = .ok (.ldc2_w 288, 3) := dk_20 1 32 (dk_at dksX0_isSummed_0 0 rfl rfl)
theorem dX0_isSummed_3 : decode cX0_isSummed 3 = .ok (.lstore_n 1, 1) := dk_64 (dk_at dksX0_isSummed_0 3 rfl rfl)
theorem dX0_isSummed_4 : decode cX0_isSummed 4 = .ok (.aload_n 0, 1) := dk_42 (dk_at dksX0_isSummed_0 4 rfl rfl)
theorem dX0_isSummed_5 : decode cX0_isSummed 5 = .ok (.getfield 10, 3) := dk_180 0 10 (dk_at dksX0_isSummed_0 5 rfl rfl)
theorem dX0_isSummed_8 : decode cX0_isSummed 8 = .ok (.invokevirtual 290, 3) := dk_182 1 34 (dk_at dksX0_isSummed_0 8 rfl rfl)
theorem dX0_isSummed_11 : decode cX0_isSummed 11 = .ok (.lstore_n 3, 1) := dk_66 (dk_at dksX0_isSummed_0 11 rfl rfl)
theorem dX0_isSummed_12 : decode cX0_isSummed 12 = .ok (.iconst 0, 1) := dk_3 (dk_at dksX0_isSummed_0 12 rfl rfl)
theorem dX0_isSummed_13 : decode cX0_isSummed 13 = .ok (.istore 5, 2) := dk_54 5 (dk_at dksX0_isSummed_0 13 rfl rfl)
theorem dX0_isSummed_15 : decode cX0_isSummed 15 = .ok (.iload 5, 2) := dk_21 5 (dk_at dksX0_isSummed_0 15 rfl rfl)
theorem dX0_isSummed_17 : decode cX0_isSummed 17 = .ok (.bipush 8, 2) := dk_16 8 (dk_at dksX0_isSummed_0 17 rfl rfl)
theorem dX0_isSummed_19 : decode cX0_isSummed 19 = .ok (.if_icmp .ge 65, 3) := dk_162 0 65 (dk_at dksX0_isSummed_0 19 rfl rfl)
theorem dX0_isSummed_22 : decode cX0_isSummed 22 = .ok (.lload_n 1, 1) := dk_31 (dk_at dksX0_isSummed_0 22 rfl rfl)
theorem dX0_isSummed_23 : decode cX0_isSummed 23 = .ok (.aload_n 0, 1) := dk_42 (dk_at dksX0_isSummed_0 23 rfl rfl)
theorem dX0_isSummed_24 : decode cX0_isSummed 24 = .ok (.getfield 10, 3) := dk_180 0 10 (dk_at dksX0_isSummed_1 0 rfl rfl)
theorem dX0_isSummed_27 : decode cX0_isSummed 27 = .ok (.iload 5, 2) := dk_21 5 (dk_at dksX0_isSummed_1 3 rfl rfl)
theorem dX0_isSummed_29 : decode cX0_isSummed 29 = .ok (.invokevirtual 113, 3) := dk_182 0 113 (dk_at dksX0_isSummed_1 5 rfl rfl)
theorem dX0_isSummed_32 : decode cX0_isSummed 32 = .ok (.i2l, 1) := dk_133 (dk_at dksX0_isSummed_1 8 rfl rfl)
theorem dX0_isSummed_33 : decode cX0_isSummed 33 = .ok (.invokestatic 294, 3) := dk_184 1 38 (dk_at dksX0_isSummed_1 9 rfl rfl)
theorem dX0_isSummed_36 : decode cX0_isSummed 36 = .ok (.aload_n 0, 1) := dk_42 (dk_at dksX0_isSummed_1 12 rfl rfl)
theorem dX0_isSummed_37 : decode cX0_isSummed 37 = .ok (.getfield 10, 3) := dk_180 0 10 (dk_at dksX0_isSummed_1 13 rfl rfl)
theorem dX0_isSummed_40 : decode cX0_isSummed 40 = .ok (.iload 5, 2) := dk_21 5 (dk_at dksX0_isSummed_1 16 rfl rfl)
theorem dX0_isSummed_42 : decode cX0_isSummed 42 = .ok (.iconst 0, 1) := dk_3 (dk_at dksX0_isSummed_1 18 rfl rfl)
theorem dX0_isSummed_43 : decode cX0_isSummed 43 = .ok (.invokevirtual 118, 3) := dk_182 0 118 (dk_at dksX0_isSummed_1 19 rfl rfl)
theorem dX0_isSummed_46 : decode cX0_isSummed 46 = .ok (.i2l, 1) := dk_133 (dk_at dksX0_isSummed_1 22 rfl rfl)
theorem dX0_isSummed_47 : decode cX0_isSummed 47 = .ok (.invokestatic 294, 3) := dk_184 1 38 (dk_at dksX0_isSummed_2 0 rfl rfl)
theorem dX0_isSummed_50 : decode cX0_isSummed 50 = .ok (.aload_n 0, 1) := dk_42 (dk_at dksX0_isSummed_2 3 rfl rfl)
theorem dX0_isSummed_51 : decode cX0_isSummed 51 = .ok (.getfield 10, 3) := dk_180 0 10 (dk_at dksX0_isSummed_2 4 rfl rfl)
theorem dX0_isSummed_54 : decode cX0_isSummed 54 = .ok (.iload 5, 2) := dk_21 5 (dk_at dksX0_isSummed_2 7 rfl rfl)
theorem dX0_isSummed_56 : decode cX0_isSummed 56 = .ok (.iconst 1, 1) := dk_4 (dk_at dksX0_isSummed_2 9 rfl rfl)
theorem dX0_isSummed_57 : decode cX0_isSummed 57 = .ok (.invokevirtual 118, 3) := dk_182 0 118 (dk_at dksX0_isSummed_2 10 rfl rfl)
theorem dX0_isSummed_60 : decode cX0_isSummed 60 = .ok (.i2l, 1) := dk_133 (dk_at dksX0_isSummed_2 13 rfl rfl)
theorem dX0_isSummed_61 : decode cX0_isSummed 61 = .ok (.invokestatic 294, 3) := dk_184 1 38 (dk_at dksX0_isSummed_2 14 rfl rfl)
theorem dX0_isSummed_64 : decode cX0_isSummed 64 = .ok (.aload_n 0, 1) := dk_42 (dk_at dksX0_isSummed_2 17 rfl rfl)
theorem dX0_isSummed_65 : decode cX0_isSummed 65 = .ok (.getfield 10, 3) := dk_180 0 10 (dk_at dksX0_isSummed_2 18 rfl rfl)
theorem dX0_isSummed_68 : decode cX0_isSummed 68 = .ok (.iload 5, 2) := dk_21 5 (dk_at dksX0_isSummed_2 21 rfl rfl)
theorem dX0_isSummed_70 : decode cX0_isSummed 70 = .ok (.invokevirtual 194, 3) := dk_182 0 194 (dk_at dksX0_isSummed_3 0 rfl rfl)
theorem dX0_isSummed_73 : decode cX0_isSummed 73 = .ok (.i2l, 1) := dk_133 (dk_at dksX0_isSummed_3 3 rfl rfl)
theorem dX0_isSummed_74 : decode cX0_isSummed 74 = .ok (.invokestatic 294, 3) := dk_184 1 38 (dk_at dksX0_isSummed_3 4 rfl rfl)
theorem dX0_isSummed_77 : decode cX0_isSummed 77 = .ok (.lstore_n 1, 1) := dk_64 (dk_at dksX0_isSummed_3 7 rfl rfl)
theorem dX0_isSummed_78 : decode cX0_isSummed 78 = .ok (.iinc 5 1, 3) := dk_132 5 1 (dk_at dksX0_isSummed_3 8 rfl rfl)
theorem dX0_isSummed_81 : decode cX0_isSummed 81 = .ok (.goto (-66), 3) := dk_167 255 190 (dk_at dksX0_isSummed_3 11 rfl rfl)
theorem dX0_isSummed_84 : decode cX0_isSummed 84 = .ok (.iconst 0, 1) := dk_3 (dk_at dksX0_isSummed_3 14 rfl rfl)
theorem dX0_isSummed_85 : decode cX0_isSummed 85 = .ok (.istore 5, 2) := dk_54 5 (dk_at dksX0_isSummed_3 15 rfl rfl)
theorem dX0_isSummed_87 : decode cX0_isSummed 87 = .ok (.iload 5, 2) := dk_21 5 (dk_at dksX0_isSummed_3 17 rfl rfl)
theorem dX0_isSummed_89 : decode cX0_isSummed 89 = .ok (.bipush 8, 2) := dk_16 8 (dk_at dksX0_isSummed_3 19 rfl rfl)
theorem dX0_isSummed_91 : decode cX0_isSummed 91 = .ok (.if_icmp .ge 80, 3) := dk_162 0 80 (dk_at dksX0_isSummed_3 21 rfl rfl)
theorem dX0_isSummed_94 : decode cX0_isSummed 94 = .ok (.lload_n 1, 1) := dk_31 (dk_at dksX0_isSummed_4 0 rfl rfl)
theorem dX0_isSummed_95 : decode cX0_isSummed 95 = .ok (.aload_n 0, 1) := dk_42 (dk_at dksX0_isSummed_4 1 rfl rfl)
theorem dX0_isSummed_96 : decode cX0_isSummed 96 = .ok (.getfield 10, 3) := dk_180 0 10 (dk_at dksX0_isSummed_4 2 rfl rfl)
theorem dX0_isSummed_99 : decode cX0_isSummed 99 = .ok (.iload 5, 2) := dk_21 5 (dk_at dksX0_isSummed_4 5 rfl rfl)
theorem dX0_isSummed_101 : decode cX0_isSummed 101 = .ok (.invokevirtual 36, 3) := dk_182 0 36 (dk_at dksX0_isSummed_4 7 rfl rfl)
theorem dX0_isSummed_104 : decode cX0_isSummed 104 = .ok (.i2l, 1) := dk_133 (dk_at dksX0_isSummed_4 10 rfl rfl)
theorem dX0_isSummed_105 : decode cX0_isSummed 105 = .ok (.invokestatic 294, 3) := dk_184 1 38 (dk_at dksX0_isSummed_4 11 rfl rfl)
theorem dX0_isSummed_108 : decode cX0_isSummed 108 = .ok (.aload_n 0, 1) := dk_42 (dk_at dksX0_isSummed_4 14 rfl rfl)
theorem dX0_isSummed_109 : decode cX0_isSummed 109 = .ok (.getfield 10, 3) := dk_180 0 10 (dk_at dksX0_isSummed_4 15 rfl rfl)
theorem dX0_isSummed_112 : decode cX0_isSummed 112 = .ok (.iload 5, 2) := dk_21 5 (dk_at dksX0_isSummed_4 18 rfl rfl)
theorem dX0_isSummed_114 : decode cX0_isSummed 114 = .ok (.bipush 30, 2) := dk_16 30 (dk_at dksX0_isSummed_4 20 rfl rfl)
theorem dX0_isSummed_116 : decode cX0_isSummed 116 = .ok (.invokevirtual 40, 3) := dk_182 0 40 (dk_at dksX0_isSummed_5 0 rfl rfl)
theorem dX0_isSummed_119 : decode cX0_isSummed 119 = .ok (.i2l, 1) := dk_133 (dk_at dksX0_isSummed_5 3 rfl rfl)
theorem dX0_isSummed_120 : decode cX0_isSummed 120 = .ok (.invokestatic 294, 3) := dk_184 1 38 (dk_at dksX0_isSummed_5 4 rfl rfl)
theorem dX0_isSummed_123 : decode cX0_isSummed 123 = .ok (.aload_n 0, 1) := dk_42 (dk_at dksX0_isSummed_5 7 rfl rfl)
theorem dX0_isSummed_124 : decode cX0_isSummed 124 = .ok (.getfield 10, 3) := dk_180 0 10 (dk_at dksX0_isSummed_5 8 rfl rfl)
theorem dX0_isSummed_127 : decode cX0_isSummed 127 = .ok (.iload 5, 2) := dk_21 5 (dk_at dksX0_isSummed_5 11 rfl rfl)
theorem dX0_isSummed_129 : decode cX0_isSummed 129 = .ok (.invokevirtual 175, 3) := dk_182 0 175 (dk_at dksX0_isSummed_5 13 rfl rfl)
theorem dX0_isSummed_132 : decode cX0_isSummed 132 = .ok (.i2l, 1) := dk_133 (dk_at dksX0_isSummed_5 16 rfl rfl)
theorem dX0_isSummed_133 : decode cX0_isSummed 133 = .ok (.invokestatic 294, 3) := dk_184 1 38 (dk_at dksX0_isSummed_5 17 rfl rfl)
theorem dX0_isSummed_136 : decode cX0_isSummed 136 = .ok (.aload_n 0, 1) := dk_42 (dk_at dksX0_isSummed_5 20 rfl rfl)
theorem dX0_isSummed_137 : decode cX0_isSummed 137 = .ok (.getfield 10, 3) := dk_180 0 10 (dk_at dksX0_isSummed_5 21 rfl rfl)
theorem dX0_isSummed_140 : decode cX0_isSummed 140 = .ok (.iload 5, 2) := dk_21 5 (dk_at dksX0_isSummed_6 0 rfl rfl)
theorem dX0_isSummed_142 : decode cX0_isSummed 142 = .ok (.iconst 0, 1) := dk_3 (dk_at dksX0_isSummed_6 2 rfl rfl)
theorem dX0_isSummed_143 : decode cX0_isSummed 143 = .ok (.invokevirtual 267, 3) := dk_182 1 11 (dk_at dksX0_isSummed_6 3 rfl rfl)
theorem dX0_isSummed_146 : decode cX0_isSummed 146 = .ok (.i2l, 1) := dk_133 (dk_at dksX0_isSummed_6 6 rfl rfl)
theorem dX0_isSummed_147 : decode cX0_isSummed 147 = .ok (.invokestatic 294, 3) := dk_184 1 38 (dk_at dksX0_isSummed_6 7 rfl rfl)
theorem dX0_isSummed_150 : decode cX0_isSummed 150 = .ok (.aload_n 0, 1) := dk_42 (dk_at dksX0_isSummed_6 10 rfl rfl)
theorem dX0_isSummed_151 : decode cX0_isSummed 151 = .ok (.getfield 10, 3) := dk_180 0 10 (dk_at dksX0_isSummed_6 11 rfl rfl)
theorem dX0_isSummed_154 : decode cX0_isSummed 154 = .ok (.iload 5, 2) := dk_21 5 (dk_at dksX0_isSummed_6 14 rfl rfl)
theorem dX0_isSummed_156 : decode cX0_isSummed 156 = .ok (.iconst 1, 1) := dk_4 (dk_at dksX0_isSummed_6 16 rfl rfl)
theorem dX0_isSummed_157 : decode cX0_isSummed 157 = .ok (.invokevirtual 267, 3) := dk_182 1 11 (dk_at dksX0_isSummed_6 17 rfl rfl)
theorem dX0_isSummed_160 : decode cX0_isSummed 160 = .ok (.i2l, 1) := dk_133 (dk_at dksX0_isSummed_6 20 rfl rfl)
theorem dX0_isSummed_161 : decode cX0_isSummed 161 = .ok (.invokestatic 294, 3) := dk_184 1 38 (dk_at dksX0_isSummed_6 21 rfl rfl)
theorem dX0_isSummed_164 : decode cX0_isSummed 164 = .ok (.lstore_n 1, 1) := dk_64 (dk_at dksX0_isSummed_7 0 rfl rfl)
theorem dX0_isSummed_165 : decode cX0_isSummed 165 = .ok (.iinc 5 1, 3) := dk_132 5 1 (dk_at dksX0_isSummed_7 1 rfl rfl)
theorem dX0_isSummed_168 : decode cX0_isSummed 168 = .ok (.goto (-81), 3) := dk_167 255 175 (dk_at dksX0_isSummed_7 4 rfl rfl)
theorem dX0_isSummed_171 : decode cX0_isSummed 171 = .ok (.iconst 0, 1) := dk_3 (dk_at dksX0_isSummed_7 7 rfl rfl)
theorem dX0_isSummed_172 : decode cX0_isSummed 172 = .ok (.istore 5, 2) := dk_54 5 (dk_at dksX0_isSummed_7 8 rfl rfl)
theorem dX0_isSummed_174 : decode cX0_isSummed 174 = .ok (.iload 5, 2) := dk_21 5 (dk_at dksX0_isSummed_7 10 rfl rfl)
theorem dX0_isSummed_176 : decode cX0_isSummed 176 = .ok (.bipush 8, 2) := dk_16 8 (dk_at dksX0_isSummed_7 12 rfl rfl)
theorem dX0_isSummed_178 : decode cX0_isSummed 178 = .ok (.if_icmp .ge 61, 3) := dk_162 0 61 (dk_at dksX0_isSummed_7 14 rfl rfl)
theorem dX0_isSummed_181 : decode cX0_isSummed 181 = .ok (.iload 5, 2) := dk_21 5 (dk_at dksX0_isSummed_7 17 rfl rfl)
theorem dX0_isSummed_183 : decode cX0_isSummed 183 = .ok (.iconst 1, 1) := dk_4 (dk_at dksX0_isSummed_7 19 rfl rfl)
theorem dX0_isSummed_184 : decode cX0_isSummed 184 = .ok (.iadd, 1) := dk_96 (dk_at dksX0_isSummed_7 20 rfl rfl)
theorem dX0_isSummed_185 : decode cX0_isSummed 185 = .ok (.istore 6, 2) := dk_54 6 (dk_at dksX0_isSummed_7 21 rfl rfl)
theorem dX0_isSummed_187 : decode cX0_isSummed 187 = .ok (.iload 6, 2) := dk_21 6 (dk_at dksX0_isSummed_8 0 rfl rfl)
theorem dX0_isSummed_189 : decode cX0_isSummed 189 = .ok (.bipush 8, 2) := dk_16 8 (dk_at dksX0_isSummed_8 2 rfl rfl)
theorem dX0_isSummed_191 : decode cX0_isSummed 191 = .ok (.if_icmp .ge 42, 3) := dk_162 0 42 (dk_at dksX0_isSummed_8 4 rfl rfl)
theorem dX0_isSummed_194 : decode cX0_isSummed 194 = .ok (.lload_n 1, 1) := dk_31 (dk_at dksX0_isSummed_8 7 rfl rfl)
theorem dX0_isSummed_195 : decode cX0_isSummed 195 = .ok (.aload_n 0, 1) := dk_42 (dk_at dksX0_isSummed_8 8 rfl rfl)
theorem dX0_isSummed_196 : decode cX0_isSummed 196 = .ok (.getfield 10, 3) := dk_180 0 10 (dk_at dksX0_isSummed_8 9 rfl rfl)
theorem dX0_isSummed_199 : decode cX0_isSummed 199 = .ok (.iload 5, 2) := dk_21 5 (dk_at dksX0_isSummed_8 12 rfl rfl)
theorem dX0_isSummed_201 : decode cX0_isSummed 201 = .ok (.iload 6, 2) := dk_21 6 (dk_at dksX0_isSummed_8 14 rfl rfl)
theorem dX0_isSummed_203 : decode cX0_isSummed 203 = .ok (.iconst 0, 1) := dk_3 (dk_at dksX0_isSummed_8 16 rfl rfl)
theorem dX0_isSummed_204 : decode cX0_isSummed 204 = .ok (.invokevirtual 230, 3) := dk_182 0 230 (dk_at dksX0_isSummed_8 17 rfl rfl)
theorem dX0_isSummed_207 : decode cX0_isSummed 207 = .ok (.i2l, 1) := dk_133 (dk_at dksX0_isSummed_8 20 rfl rfl)
theorem dX0_isSummed_208 : decode cX0_isSummed 208 = .ok (.invokestatic 294, 3) := dk_184 1 38 (dk_at dksX0_isSummed_8 21 rfl rfl)
theorem dX0_isSummed_211 : decode cX0_isSummed 211 = .ok (.aload_n 0, 1) := dk_42 (dk_at dksX0_isSummed_9 0 rfl rfl)
theorem dX0_isSummed_212 : decode cX0_isSummed 212 = .ok (.getfield 10, 3) := dk_180 0 10 (dk_at dksX0_isSummed_9 1 rfl rfl)
theorem dX0_isSummed_215 : decode cX0_isSummed 215 = .ok (.iload 5, 2) := dk_21 5 (dk_at dksX0_isSummed_9 4 rfl rfl)
theorem dX0_isSummed_217 : decode cX0_isSummed 217 = .ok (.iload 6, 2) := dk_21 6 (dk_at dksX0_isSummed_9 6 rfl rfl)
theorem dX0_isSummed_219 : decode cX0_isSummed 219 = .ok (.invokevirtual 202, 3) := dk_182 0 202 (dk_at dksX0_isSummed_9 8 rfl rfl)
theorem dX0_isSummed_222 : decode cX0_isSummed 222 = .ok (.i2l, 1) := dk_133 (dk_at dksX0_isSummed_9 11 rfl rfl)
theorem dX0_isSummed_223 : decode cX0_isSummed 223 = .ok (.invokestatic 294, 3) := dk_184 1 38 (dk_at dksX0_isSummed_9 12 rfl rfl)
theorem dX0_isSummed_226 : decode cX0_isSummed 226 = .ok (.lstore_n 1, 1) := dk_64 (dk_at dksX0_isSummed_9 15 rfl rfl)
theorem dX0_isSummed_227 : decode cX0_isSummed 227 = .ok (.iinc 6 1, 3) := dk_132 6 1 (dk_at dksX0_isSummed_9 16 rfl rfl)
theorem dX0_isSummed_230 : decode cX0_isSummed 230 = .ok (.goto (-43), 3) := dk_167 255 213 (dk_at dksX0_isSummed_9 19 rfl rfl)
theorem dX0_isSummed_233 : decode cX0_isSummed 233 = .ok (.iinc 5 1, 3) := dk_132 5 1 (dk_at dksX0_isSummed_10 0 rfl rfl)
theorem dX0_isSummed_236 : decode cX0_isSummed 236 = .ok (.goto (-62), 3) := dk_167 255 194 (dk_at dksX0_isSummed_10 3 rfl rfl)
theorem dX0_isSummed_239 : decode cX0_isSummed 239 = .ok (.iconst 0, 1) := dk_3 (dk_at dksX0_isSummed_10 6 rfl rfl)
theorem dX0_isSummed_240 : decode cX0_isSummed 240 = .ok (.istore 5, 2) := dk_54 5 (dk_at dksX0_isSummed_10 7 rfl rfl)
theorem dX0_isSummed_242 : decode cX0_isSummed 242 = .ok (.iload 5, 2) := dk_21 5 (dk_at dksX0_isSummed_10 9 rfl rfl)
theorem dX0_isSummed_244 : decode cX0_isSummed 244 = .ok (.iconst 4, 1) := dk_7 (dk_at dksX0_isSummed_10 11 rfl rfl)
theorem dX0_isSummed_245 : decode cX0_isSummed 245 = .ok (.if_icmp .ge 24, 3) := dk_162 0 24 (dk_at dksX0_isSummed_10 12 rfl rfl)
theorem dX0_isSummed_248 : decode cX0_isSummed 248 = .ok (.lload_n 1, 1) := dk_31 (dk_at dksX0_isSummed_10 15 rfl rfl)
theorem dX0_isSummed_249 : decode cX0_isSummed 249 = .ok (.aload_n 0, 1) := dk_42 (dk_at dksX0_isSummed_10 16 rfl rfl)
theorem dX0_isSummed_250 : decode cX0_isSummed 250 = .ok (.getfield 10, 3) := dk_180 0 10 (dk_at dksX0_isSummed_10 17 rfl rfl)
theorem dX0_isSummed_253 : decode cX0_isSummed 253 = .ok (.iload 5, 2) := dk_21 5 (dk_at dksX0_isSummed_10 20 rfl rfl)
theorem dX0_isSummed_255 : decode cX0_isSummed 255 = .ok (.invokevirtual 47, 3) := dk_182 0 47 (dk_at dksX0_isSummed_11 0 rfl rfl)
theorem dX0_isSummed_258 : decode cX0_isSummed 258 = .ok (.i2l, 1) := dk_133 (dk_at dksX0_isSummed_11 3 rfl rfl)
theorem dX0_isSummed_259 : decode cX0_isSummed 259 = .ok (.invokestatic 294, 3) := dk_184 1 38 (dk_at dksX0_isSummed_11 4 rfl rfl)
theorem dX0_isSummed_262 : decode cX0_isSummed 262 = .ok (.lstore_n 1, 1) := dk_64 (dk_at dksX0_isSummed_11 7 rfl rfl)
theorem dX0_isSummed_263 : decode cX0_isSummed 263 = .ok (.iinc 5 1, 3) := dk_132 5 1 (dk_at dksX0_isSummed_11 8 rfl rfl)
theorem dX0_isSummed_266 : decode cX0_isSummed 266 = .ok (.goto (-24), 3) := dk_167 255 232 (dk_at dksX0_isSummed_11 11 rfl rfl)
theorem dX0_isSummed_269 : decode cX0_isSummed 269 = .ok (.aload_n 0, 1) := dk_42 (dk_at dksX0_isSummed_11 14 rfl rfl)
theorem dX0_isSummed_270 : decode cX0_isSummed 270 = .ok (.getfield 10, 3) := dk_180 0 10 (dk_at dksX0_isSummed_11 15 rfl rfl)
theorem dX0_isSummed_273 : decode cX0_isSummed 273 = .ok (.iconst 3, 1) := dk_6 (dk_at dksX0_isSummed_11 18 rfl rfl)
theorem dX0_isSummed_274 : decode cX0_isSummed 274 = .ok (.invokevirtual 47, 3) := dk_182 0 47 (dk_at dksX0_isSummed_11 19 rfl rfl)
theorem dX0_isSummed_277 : decode cX0_isSummed 277 = .ok (.istore 5, 2) := dk_54 5 (dk_at dksX0_isSummed_11 22 rfl rfl)
theorem dX0_isSummed_279 : decode cX0_isSummed 279 = .ok (.aload_n 0, 1) := dk_42 (dk_at dksX0_isSummed_12 0 rfl rfl)
theorem dX0_isSummed_280 : decode cX0_isSummed 280 = .ok (.getfield 10, 3) := dk_180 0 10 (dk_at dksX0_isSummed_12 1 rfl rfl)
theorem dX0_isSummed_283 : decode cX0_isSummed 283 = .ok (.invokevirtual 298, 3) := dk_182 1 42 (dk_at dksX0_isSummed_12 4 rfl rfl)
theorem dX0_isSummed_286 : decode cX0_isSummed 286 = .ok (.ifCond .eq 74, 3) := dk_153 0 74 (dk_at dksX0_isSummed_12 7 rfl rfl)
theorem dX0_isSummed_289 : decode cX0_isSummed 289 = .ok (.lload_n 3, 1) := dk_33 (dk_at dksX0_isSummed_12 10 rfl rfl)
theorem dX0_isSummed_290 : decode cX0_isSummed 290 = .ok (.lload_n 1, 1) := dk_31 (dk_at dksX0_isSummed_12 11 rfl rfl)
theorem dX0_isSummed_291 : decode cX0_isSummed 291 = .ok (.lconst 1, 1) := dk_10 (dk_at dksX0_isSummed_12 12 rfl rfl)
theorem dX0_isSummed_292 : decode cX0_isSummed 292 = .ok (.invokestatic 294, 3) := dk_184 1 38 (dk_at dksX0_isSummed_12 13 rfl rfl)
theorem dX0_isSummed_295 : decode cX0_isSummed 295 = .ok (.lcmp, 1) := dk_148 (dk_at dksX0_isSummed_12 16 rfl rfl)
theorem dX0_isSummed_296 : decode cX0_isSummed 296 = .ok (.ifCond .ne 64, 3) := dk_154 0 64 (dk_at dksX0_isSummed_12 17 rfl rfl)
theorem dX0_isSummed_299 : decode cX0_isSummed 299 = .ok (.aload_n 0, 1) := dk_42 (dk_at dksX0_isSummed_12 20 rfl rfl)
theorem dX0_isSummed_300 : decode cX0_isSummed 300 = .ok (.getfield 10, 3) := dk_180 0 10 (dk_at dksX0_isSummed_12 21 rfl rfl)
theorem dX0_isSummed_303 : decode cX0_isSummed 303 = .ok (.invokevirtual 290, 3) := dk_182 1 34 (dk_at dksX0_isSummed_13 0 rfl rfl)
theorem dX0_isSummed_306 : decode cX0_isSummed 306 = .ok (.lload_n 3, 1) := dk_33 (dk_at dksX0_isSummed_13 3 rfl rfl)
theorem dX0_isSummed_307 : decode cX0_isSummed 307 = .ok (.lcmp, 1) := dk_148 (dk_at dksX0_isSummed_13 4 rfl rfl)
theorem dX0_isSummed_308 : decode cX0_isSummed 308 = .ok (.ifCond .ne 52, 3) := dk_154 0 52 (dk_at dksX0_isSummed_13 5 rfl rfl)
theorem dX0_isSummed_311 : decode cX0_isSummed 311 = .ok (.aload_n 0, 1) := dk_42 (dk_at dksX0_isSummed_13 8 rfl rfl)
theorem dX0_isSummed_312 : decode cX0_isSummed 312 = .ok (.getfield 10, 3) := dk_180 0 10 (dk_at dksX0_isSummed_13 9 rfl rfl)
theorem dX0_isSummed_315 : decode cX0_isSummed 315 = .ok (.invokevirtual 302, 3) := dk_182 1 46 (dk_at dksX0_isSummed_13 12 rfl rfl)
theorem dX0_isSummed_318 : decode cX0_isSummed 318 = .ok (.iload 5, 2) := dk_21 5 (dk_at dksX0_isSummed_13 15 rfl rfl)
theorem dX0_isSummed_320 : decode cX0_isSummed 320 = .ok (.iconst 1, 1) := dk_4 (dk_at dksX0_isSummed_13 17 rfl rfl)
theorem dX0_isSummed_321 : decode cX0_isSummed 321 = .ok (.iadd, 1) := dk_96 (dk_at dksX0_isSummed_13 18 rfl rfl)
theorem dX0_isSummed_322 : decode cX0_isSummed 322 = .ok (.if_icmp .ne 38, 3) := dk_160 0 38 (dk_at dksX0_isSummed_13 19 rfl rfl)
theorem dX0_isSummed_325 : decode cX0_isSummed 325 = .ok (.aload_n 0, 1) := dk_42 (dk_at dksX0_isSummed_13 22 rfl rfl)
theorem dX0_isSummed_326 : decode cX0_isSummed 326 = .ok (.getfield 10, 3) := dk_180 0 10 (dk_at dksX0_isSummed_14 0 rfl rfl)
theorem dX0_isSummed_329 : decode cX0_isSummed 329 = .ok (.iconst 3, 1) := dk_6 (dk_at dksX0_isSummed_14 3 rfl rfl)
theorem dX0_isSummed_330 : decode cX0_isSummed 330 = .ok (.invokevirtual 47, 3) := dk_182 0 47 (dk_at dksX0_isSummed_14 4 rfl rfl)
theorem dX0_isSummed_333 : decode cX0_isSummed 333 = .ok (.iload 5, 2) := dk_21 5 (dk_at dksX0_isSummed_14 7 rfl rfl)
theorem dX0_isSummed_335 : decode cX0_isSummed 335 = .ok (.iconst 1, 1) := dk_4 (dk_at dksX0_isSummed_14 9 rfl rfl)
theorem dX0_isSummed_336 : decode cX0_isSummed 336 = .ok (.iadd, 1) := dk_96 (dk_at dksX0_isSummed_14 10 rfl rfl)
theorem dX0_isSummed_337 : decode cX0_isSummed 337 = .ok (.if_icmp .ne 23, 3) := dk_160 0 23 (dk_at dksX0_isSummed_14 11 rfl rfl)
theorem dX0_isSummed_340 : decode cX0_isSummed 340 = .ok (.aload_n 0, 1) := dk_42 (dk_at dksX0_isSummed_14 14 rfl rfl)
theorem dX0_isSummed_341 : decode cX0_isSummed 341 = .ok (.getfield 10, 3) := dk_180 0 10 (dk_at dksX0_isSummed_14 15 rfl rfl)
theorem dX0_isSummed_344 : decode cX0_isSummed 344 = .ok (.invokevirtual 290, 3) := dk_182 1 34 (dk_at dksX0_isSummed_14 18 rfl rfl)
theorem dX0_isSummed_347 : decode cX0_isSummed 347 = .ok (.lload_n 3, 1) := dk_33 (dk_at dksX0_isSummed_14 21 rfl rfl)
theorem dX0_isSummed_348 : decode cX0_isSummed 348 = .ok (.ldc2_w 286, 3) := dk_20 1 30 (dk_at dksX0_isSummed_15 0 rfl rfl)
theorem dX0_isSummed_351 : decode cX0_isSummed 351 = .ok (.ladd, 1) := dk_97 (dk_at dksX0_isSummed_15 3 rfl rfl)
theorem dX0_isSummed_352 : decode cX0_isSummed 352 = .ok (.lcmp, 1) := dk_148 (dk_at dksX0_isSummed_15 4 rfl rfl)
theorem dX0_isSummed_353 : decode cX0_isSummed 353 = .ok (.ifCond .ne 7, 3) := dk_154 0 7 (dk_at dksX0_isSummed_15 5 rfl rfl)
theorem dX0_isSummed_356 : decode cX0_isSummed 356 = .ok (.iconst 1, 1) := dk_4 (dk_at dksX0_isSummed_15 8 rfl rfl)
theorem dX0_isSummed_357 : decode cX0_isSummed 357 = .ok (.goto 4, 3) := dk_167 0 4 (dk_at dksX0_isSummed_15 9 rfl rfl)
theorem dX0_isSummed_360 : decode cX0_isSummed 360 = .ok (.iconst 0, 1) := dk_3 (dk_at dksX0_isSummed_15 12 rfl rfl)
theorem dX0_isSummed_361 : decode cX0_isSummed 361 = .ok (.ireturn, 1) := dk_172 (dk_at dksX0_isSummed_15 13 rfl rfl)
abbrev cX0_sum : ByteArray := method_23_code
def yX0_sum : MethodName := ⟨RX0, "sum", "(JJ)J"⟩
def dkwX0_sum_0 : List UInt8 := [30, 20, 1, 30, 105, 32, 97, 173]
abbrev dktX0_sum_0 : List UInt8 := dkwX0_sum_0 ++ []
theorem dksX0_sum_0 : cX0_sum.data.toList.drop 0 = dktX0_sum_0 := by decide +kernel
theorem dX0_sum_0 : decode cX0_sum 0 = .ok (.lload_n 0, 1) := dk_30 (dk_at dksX0_sum_0 0 rfl rfl)
theorem dX0_sum_1 : decode cX0_sum 1 = .ok (.ldc2_w 286, 3) := dk_20 1 30 (dk_at dksX0_sum_0 1 rfl rfl)
theorem dX0_sum_4 : decode cX0_sum 4 = .ok (.lmul, 1) := dk_105 (dk_at dksX0_sum_0 4 rfl rfl)
theorem dX0_sum_5 : decode cX0_sum 5 = .ok (.lload_n 2, 1) := dk_32 (dk_at dksX0_sum_0 5 rfl rfl)
theorem dX0_sum_6 : decode cX0_sum 6 = .ok (.ladd, 1) := dk_97 (dk_at dksX0_sum_0 6 rfl rfl)
theorem dX0_sum_7 : decode cX0_sum 7 = .ok (.lreturn, 1) := dk_173 (dk_at dksX0_sum_0 7 rfl rfl)
theorem q39 : (Jvm.Cond.initialized "AnglewheelLaw") ∈ lw_all := lw_g (lw_at lw_m1 0 rfl) rfl
theorem q75 : (Jvm.Cond.methodLink "AnglewheelLaw" (348 : Nat) ({ cls := "AnglewheelLaw", name := "told", desc := "([I)Z" } : Jvm.MethodName)) ∈ lw_all := lw_g (lw_at lw_m1 36 rfl) rfl
theorem q76 : (Jvm.Cond.static ({ cls := "AnglewheelLaw", name := "told", desc := "([I)Z" } : Jvm.MethodName)) ∈ lw_all := lw_g (lw_at lw_m1 37 rfl) rfl
theorem q77 : (Jvm.Cond.codeWith ({ cls := "AnglewheelLaw", name := "told", desc := "([I)Z" } : Jvm.MethodName) method_30_code (2 : Nat) (Option.some Jvm.ClassFile.FieldType.boolean) [((0 : Nat), (11 : Nat), (12 : Nat), (310 : Nat)), ((0 : Nat), (11 : Nat), (15 : Nat), (312 : Nat))]) ∈ lw_all := lw_g (lw_at lw_m1 38 rfl) rfl
theorem q78 : (Jvm.Cond.classLink "AnglewheelLaw" (310 : Nat) "java/lang/IndexOutOfBoundsException") ∈ lw_all := lw_g (lw_at lw_m1 39 rfl) rfl
theorem q157 : (Jvm.Cond.classLink "AnglewheelLaw" (312 : Nat) "java/lang/IllegalArgumentException") ∈ lw_all := lw_g (lw_at lw_m1 118 rfl) rfl
theorem q158 : (Jvm.Cond.classLink "AnglewheelLaw" (11 : Nat) "AnglewheelLaw") ∈ lw_all := lw_g (lw_at lw_m1 119 rfl) rfl
theorem q159 : (Jvm.Cond.instantiable "AnglewheelLaw" (1 : Nat)) ∈ lw_all := lw_g (lw_at lw_m1 120 rfl) rfl
theorem q160 : (Jvm.Cond.methodLink "AnglewheelLaw" (351 : Nat) ({ cls := "AnglewheelLaw", name := "<init>", desc := "()V" } : Jvm.MethodName)) ∈ lw_all := lw_g (lw_at lw_m1 121 rfl) rfl
theorem q161 : (Jvm.Cond.instanceMethod ({ cls := "AnglewheelLaw", name := "<init>", desc := "()V" } : Jvm.MethodName)) ∈ lw_all := lw_g (lw_at lw_m1 122 rfl) rfl
theorem q162 : (Jvm.Cond.code ({ cls := "AnglewheelLaw", name := "<init>", desc := "()V" } : Jvm.MethodName) method_1_code (1 : Nat) (Option.none : Option Jvm.ClassFile.FieldType)) ∈ lw_all := lw_g (lw_at lw_m1 123 rfl) rfl
theorem q163 : (Jvm.Cond.methodLink "AnglewheelLaw" (1 : Nat) ({ cls := "java/lang/Object", name := "<init>", desc := "()V" } : Jvm.MethodName)) ∈ lw_all := lw_g (lw_at lw_m1 124 rfl) rfl
theorem q164 : (Jvm.Cond.classLink "AnglewheelLaw" (7 : Nat) "Anglewheel") ∈ lw_all := lw_g (lw_at lw_m1 125 rfl) rfl
theorem q166 : (Jvm.Cond.methodLink "AnglewheelLaw" (9 : Nat) ({ cls := "Anglewheel", name := "<init>", desc := "()V" } : Jvm.MethodName)) ∈ lw_all := lw_g (lw_at lw_m1 127 rfl) rfl
theorem q936 : (Jvm.Cond.fieldLink "AnglewheelLaw" (10 : Nat) "AnglewheelLaw" "o" "LAnglewheel;") ∈ lw_all := lw_g (lw_at lw_m4 177 rfl) rfl
theorem q937 : (Jvm.Cond.laysFinal "AnglewheelLaw" "AnglewheelLaw" "o" "LAnglewheel;") ∈ lw_all := lw_g (lw_at lw_m4 178 rfl) rfl
theorem q938 : (Jvm.Cond.soleField "AnglewheelLaw" "o") ∈ lw_all := lw_g (lw_at lw_m4 179 rfl) rfl
theorem q939 : (Jvm.Cond.superclass "AnglewheelLaw" "java/lang/Object") ∈ lw_all := lw_g (lw_at lw_m4 180 rfl) rfl
theorem q940 : (Jvm.Cond.methodLink "AnglewheelLaw" (352 : Nat) ({ cls := "AnglewheelLaw", name := "holds", desc := "([I)Z" } : Jvm.MethodName)) ∈ lw_all := lw_g (lw_at lw_m4 181 rfl) rfl
theorem q941 : (Jvm.Cond.privateMethod ({ cls := "AnglewheelLaw", name := "holds", desc := "([I)Z" } : Jvm.MethodName)) ∈ lw_tbl := lw_at lw_m4 182 rfl
theorem q942 : (Jvm.Cond.instanceMethod ({ cls := "AnglewheelLaw", name := "holds", desc := "([I)Z" } : Jvm.MethodName)) ∈ lw_all := lw_g (lw_at lw_m4 183 rfl) rfl
theorem q943 : (Jvm.Cond.code ({ cls := "AnglewheelLaw", name := "holds", desc := "([I)Z" } : Jvm.MethodName) method_28_code (8 : Nat) (Option.some Jvm.ClassFile.FieldType.boolean)) ∈ lw_all := lw_g (lw_at lw_m4 184 rfl) rfl
theorem q944 : (Jvm.Cond.methodLink "AnglewheelLaw" (89 : Nat) ({ cls := "AnglewheelLaw", name := "its", desc := "(I)J" } : Jvm.MethodName)) ∈ lw_all := lw_g (lw_at lw_m4 185 rfl) rfl
theorem q945 : (Jvm.Cond.privateMethod ({ cls := "AnglewheelLaw", name := "its", desc := "(I)J" } : Jvm.MethodName)) ∈ lw_tbl := lw_at lw_m4 186 rfl
theorem q946 : (Jvm.Cond.instanceMethod ({ cls := "AnglewheelLaw", name := "its", desc := "(I)J" } : Jvm.MethodName)) ∈ lw_all := lw_g (lw_at lw_m4 187 rfl) rfl
theorem q947 : (Jvm.Cond.code ({ cls := "AnglewheelLaw", name := "its", desc := "(I)J" } : Jvm.MethodName) method_10_code (8 : Nat) (Option.some Jvm.ClassFile.FieldType.long)) ∈ lw_all := lw_g (lw_at lw_m4 188 rfl) rfl
theorem q948 : (Jvm.Cond.methodLink "AnglewheelLaw" (77 : Nat) ({ cls := "Anglewheel", name := "angleText", desc := "(I)Ljava/lang/String;" } : Jvm.MethodName)) ∈ lw_all := lw_g (lw_at lw_m4 189 rfl) rfl
theorem q1033 : (Jvm.Cond.methodLink "AnglewheelLaw" (80 : Nat) ({ cls := "AnglewheelLaw", name := "part", desc := "(Ljava/lang/String;I)J" } : Jvm.MethodName)) ∈ lw_all := lw_g (lw_at lw_m5 34 rfl) rfl
theorem q1034 : (Jvm.Cond.static ({ cls := "AnglewheelLaw", name := "part", desc := "(Ljava/lang/String;I)J" } : Jvm.MethodName)) ∈ lw_all := lw_g (lw_at lw_m5 35 rfl) rfl
theorem q1035 : (Jvm.Cond.code ({ cls := "AnglewheelLaw", name := "part", desc := "(Ljava/lang/String;I)J" } : Jvm.MethodName) method_4_code (4 : Nat) (Option.some Jvm.ClassFile.FieldType.long)) ∈ lw_all := lw_g (lw_at lw_m5 36 rfl) rfl
theorem q1036 : (Jvm.Cond.methodLink "AnglewheelLaw" (17 : Nat) ({ cls := "java/lang/String", name := "indexOf", desc := "(II)I" } : Jvm.MethodName)) ∈ lw_all := lw_g (lw_at lw_m5 37 rfl) rfl
theorem q1082 : (Jvm.Cond.methodLink "AnglewheelLaw" (23 : Nat) ({ cls := "java/lang/String", name := "substring", desc := "(I)Ljava/lang/String;" } : Jvm.MethodName)) ∈ lw_all := lw_g (lw_at lw_m5 83 rfl) rfl
theorem q1109 : (Jvm.Cond.methodLink "AnglewheelLaw" (27 : Nat) ({ cls := "java/lang/String", name := "substring", desc := "(II)Ljava/lang/String;" } : Jvm.MethodName)) ∈ lw_all := lw_g (lw_at lw_m5 110 rfl) rfl
theorem q1110 : (Jvm.Cond.methodLink "AnglewheelLaw" (30 : Nat) ({ cls := "java/lang/Long", name := "parseLong", desc := "(Ljava/lang/String;)J" } : Jvm.MethodName)) ∈ lw_all := lw_g (lw_at lw_m5 111 rfl) rfl
theorem q1189 : (Jvm.Cond.constantLong "AnglewheelLaw" (84 : Nat) (4503599627370496 : Int64)) ∈ lw_all := lw_g (lw_at lw_m5 190 rfl) rfl
theorem q1190 : (Jvm.Cond.methodLink "AnglewheelLaw" (113 : Nat) ({ cls := "Anglewheel", name := "angleUpper", desc := "(I)I" } : Jvm.MethodName)) ∈ lw_all := lw_g (lw_at lw_m5 191 rfl) rfl
theorem q1194 : (Jvm.Cond.methodLink "AnglewheelLaw" (63 : Nat) ({ cls := "AnglewheelLaw", name := "told", desc := "(I)J" } : Jvm.MethodName)) ∈ lw_all := lw_g (lw_at lw_m5 195 rfl) rfl
theorem q1195 : (Jvm.Cond.privateMethod ({ cls := "AnglewheelLaw", name := "told", desc := "(I)J" } : Jvm.MethodName)) ∈ lw_tbl := lw_at lw_m5 196 rfl
theorem q1196 : (Jvm.Cond.instanceMethod ({ cls := "AnglewheelLaw", name := "told", desc := "(I)J" } : Jvm.MethodName)) ∈ lw_all := lw_g (lw_at lw_m5 197 rfl) rfl
theorem q1197 : (Jvm.Cond.code ({ cls := "AnglewheelLaw", name := "told", desc := "(I)J" } : Jvm.MethodName) method_5_code (7 : Nat) (Option.some Jvm.ClassFile.FieldType.long)) ∈ lw_all := lw_g (lw_at lw_m5 198 rfl) rfl
theorem q1198 : (Jvm.Cond.methodLink "AnglewheelLaw" (36 : Nat) ({ cls := "Anglewheel", name := "whole", desc := "(I)I" } : Jvm.MethodName)) ∈ lw_all := lw_g (lw_at lw_m5 199 rfl) rfl
theorem q1226 : (Jvm.Cond.methodLink "AnglewheelLaw" (40 : Nat) ({ cls := "Anglewheel", name := "steps", desc := "(II)I" } : Jvm.MethodName)) ∈ lw_all := lw_g (lw_at lw_m5 227 rfl) rfl
theorem q1238 : (Jvm.Cond.constantLong "AnglewheelLaw" (43 : Nat) (-9223372036854775808 : Int64)) ∈ lw_all := lw_g (lw_at lw_m5 239 rfl) rfl
theorem q1239 : (Jvm.Cond.constantLong "AnglewheelLaw" (45 : Nat) (1073741824 : Int64)) ∈ lw_all := lw_g (lw_at lw_m6 0 rfl) rfl
theorem q1240 : (Jvm.Cond.methodLink "AnglewheelLaw" (175 : Nat) ({ cls := "Anglewheel", name := "upper", desc := "(I)I" } : Jvm.MethodName)) ∈ lw_all := lw_g (lw_at lw_m6 1 rfl) rfl
theorem q1244 : (Jvm.Cond.methodLink "AnglewheelLaw" (94 : Nat) ({ cls := "AnglewheelLaw", name := "some", desc := "(II)I" } : Jvm.MethodName)) ∈ lw_all := lw_g (lw_at lw_m6 5 rfl) rfl
theorem q1245 : (Jvm.Cond.static ({ cls := "AnglewheelLaw", name := "some", desc := "(II)I" } : Jvm.MethodName)) ∈ lw_all := lw_g (lw_at lw_m6 6 rfl) rfl
theorem q1246 : (Jvm.Cond.code ({ cls := "AnglewheelLaw", name := "some", desc := "(II)I" } : Jvm.MethodName) method_3_code (2 : Nat) (Option.some Jvm.ClassFile.FieldType.int)) ∈ lw_all := lw_g (lw_at lw_m6 7 rfl) rfl
theorem q1247 : (Jvm.Cond.constant "AnglewheelLaw" (16 : Nat) (2147483647 : Int32)) ∈ lw_all := lw_g (lw_at lw_m6 8 rfl) rfl
theorem q1248 : (Jvm.Cond.methodLink "AnglewheelLaw" (47 : Nat) ({ cls := "Anglewheel", name := "house", desc := "(I)I" } : Jvm.MethodName)) ∈ lw_all := lw_g (lw_at lw_m6 9 rfl) rfl
theorem q1252 : (Jvm.Cond.methodLink "AnglewheelLaw" (317 : Nat) ({ cls := "AnglewheelLaw", name := "isOut", desc := "()Z" } : Jvm.MethodName)) ∈ lw_all := lw_g (lw_at lw_m6 13 rfl) rfl
theorem q1253 : (Jvm.Cond.privateMethod ({ cls := "AnglewheelLaw", name := "isOut", desc := "()Z" } : Jvm.MethodName)) ∈ lw_tbl := lw_at lw_m6 14 rfl
theorem q1254 : (Jvm.Cond.instanceMethod ({ cls := "AnglewheelLaw", name := "isOut", desc := "()Z" } : Jvm.MethodName)) ∈ lw_all := lw_g (lw_at lw_m6 15 rfl) rfl
theorem q1255 : (Jvm.Cond.code ({ cls := "AnglewheelLaw", name := "isOut", desc := "()Z" } : Jvm.MethodName) method_27_code (6 : Nat) (Option.some Jvm.ClassFile.FieldType.boolean)) ∈ lw_all := lw_g (lw_at lw_m6 16 rfl) rfl
theorem q1256 : (Jvm.Cond.methodLink "AnglewheelLaw" (290 : Nat) ({ cls := "Anglewheel", name := "digest", desc := "()J" } : Jvm.MethodName)) ∈ lw_all := lw_g (lw_at lw_m6 17 rfl) rfl
theorem q1339 : (Jvm.Cond.methodLink "AnglewheelLaw" (314 : Nat) ({ cls := "AnglewheelLaw", name := "out", desc := "(I)I" } : Jvm.MethodName)) ∈ lw_all := lw_g (lw_at lw_m6 100 rfl) rfl
theorem q1340 : (Jvm.Cond.privateMethod ({ cls := "AnglewheelLaw", name := "out", desc := "(I)I" } : Jvm.MethodName)) ∈ lw_tbl := lw_at lw_m6 101 rfl
theorem q1341 : (Jvm.Cond.instanceMethod ({ cls := "AnglewheelLaw", name := "out", desc := "(I)I" } : Jvm.MethodName)) ∈ lw_all := lw_g (lw_at lw_m6 102 rfl) rfl
theorem q1342 : (Jvm.Cond.codeWith ({ cls := "AnglewheelLaw", name := "out", desc := "(I)I" } : Jvm.MethodName) method_26_code (3 : Nat) (Option.some Jvm.ClassFile.FieldType.int) [((0 : Nat), (7 : Nat), (8 : Nat), (310 : Nat)), ((0 : Nat), (7 : Nat), (13 : Nat), (312 : Nat))]) ∈ lw_all := lw_g (lw_at lw_m6 103 rfl) rfl
theorem q1343 : (Jvm.Cond.methodLink "AnglewheelLaw" (307 : Nat) ({ cls := "AnglewheelLaw", name := "call", desc := "(I)I" } : Jvm.MethodName)) ∈ lw_all := lw_g (lw_at lw_m6 104 rfl) rfl
theorem q1344 : (Jvm.Cond.privateMethod ({ cls := "AnglewheelLaw", name := "call", desc := "(I)I" } : Jvm.MethodName)) ∈ lw_tbl := lw_at lw_m6 105 rfl
theorem q1345 : (Jvm.Cond.instanceMethod ({ cls := "AnglewheelLaw", name := "call", desc := "(I)I" } : Jvm.MethodName)) ∈ lw_all := lw_g (lw_at lw_m6 106 rfl) rfl
theorem q1346 : (Jvm.Cond.code ({ cls := "AnglewheelLaw", name := "call", desc := "(I)I" } : Jvm.MethodName) method_25_code (2 : Nat) (Option.some Jvm.ClassFile.FieldType.int)) ∈ lw_all := lw_g (lw_at lw_m6 107 rfl) rfl
theorem q1347 : (Jvm.Cond.constant "AnglewheelLaw" (305 : Nat) (40000 : Int32)) ∈ lw_all := lw_g (lw_at lw_m6 108 rfl) rfl
theorem q1348 : (Jvm.Cond.methodLink "AnglewheelLaw" (110 : Nat) ({ cls := "Anglewheel", name := "eighths", desc := "(II)I" } : Jvm.MethodName)) ∈ lw_all := lw_g (lw_at lw_m6 109 rfl) rfl
theorem q1357 : (Jvm.Cond.constant "AnglewheelLaw" (306 : Nat) (32769 : Int32)) ∈ lw_all := lw_g (lw_at lw_m6 118 rfl) rfl
theorem q1358 : (Jvm.Cond.methodLink "AnglewheelLaw" (97 : Nat) ({ cls := "Anglewheel", name := "great", desc := "(IIIZ)I" } : Jvm.MethodName)) ∈ lw_all := lw_g (lw_at lw_m6 119 rfl) rfl
theorem q1362 : (Jvm.Cond.methodLink "AnglewheelLaw" (139 : Nat) ({ cls := "Anglewheel", name := "angleSum", desc := "(III)I" } : Jvm.MethodName)) ∈ lw_all := lw_g (lw_at lw_m6 123 rfl) rfl
theorem q1373 : (Jvm.Cond.methodLink "AnglewheelLaw" (54 : Nat) ({ cls := "Anglewheel", name := "sine", desc := "(II)I" } : Jvm.MethodName)) ∈ lw_all := lw_g (lw_at lw_m6 134 rfl) rfl
theorem q1381 : (Jvm.Cond.methodLink "AnglewheelLaw" (283 : Nat) ({ cls := "Anglewheel", name := "fill", desc := "(I)I" } : Jvm.MethodName)) ∈ lw_all := lw_g (lw_at lw_m6 142 rfl) rfl
theorem q1385 : (Jvm.Cond.constant "AnglewheelLaw" (109 : Nat) (32768 : Int32)) ∈ lw_all := lw_g (lw_at lw_m6 146 rfl) rfl
theorem q1386 : (Jvm.Cond.methodLink "AnglewheelLaw" (237 : Nat) ({ cls := "Anglewheel", name := "peak", desc := "(III)I" } : Jvm.MethodName)) ∈ lw_all := lw_g (lw_at lw_m6 147 rfl) rfl
theorem q1393 : (Jvm.Cond.methodLink "AnglewheelLaw" (240 : Nat) ({ cls := "Anglewheel", name := "crossings", desc := "(III)I" } : Jvm.MethodName)) ∈ lw_all := lw_g (lw_at lw_m6 154 rfl) rfl
theorem q1397 : (Jvm.Cond.methodLink "AnglewheelLaw" (243 : Nat) ({ cls := "Anglewheel", name := "ahead", desc := "(IIII)I" } : Jvm.MethodName)) ∈ lw_all := lw_g (lw_at lw_m6 158 rfl) rfl
theorem q1401 : (Jvm.Cond.methodLink "AnglewheelLaw" (320 : Nat) ({ cls := "AnglewheelLaw", name := "areKnown", desc := "()Z" } : Jvm.MethodName)) ∈ lw_all := lw_g (lw_at lw_m6 162 rfl) rfl
theorem q1402 : (Jvm.Cond.privateMethod ({ cls := "AnglewheelLaw", name := "areKnown", desc := "()Z" } : Jvm.MethodName)) ∈ lw_tbl := lw_at lw_m6 163 rfl
theorem q1403 : (Jvm.Cond.instanceMethod ({ cls := "AnglewheelLaw", name := "areKnown", desc := "()Z" } : Jvm.MethodName)) ∈ lw_all := lw_g (lw_at lw_m6 164 rfl) rfl
theorem q1404 : (Jvm.Cond.code ({ cls := "AnglewheelLaw", name := "areKnown", desc := "()Z" } : Jvm.MethodName) method_20_code (3 : Nat) (Option.some Jvm.ClassFile.FieldType.boolean)) ∈ lw_all := lw_g (lw_at lw_m6 165 rfl) rfl
theorem q1405 : (Jvm.Cond.methodLink "AnglewheelLaw" (251 : Nat) ({ cls := "AnglewheelLaw", name := "comes", desc := "(I)Z" } : Jvm.MethodName)) ∈ lw_all := lw_g (lw_at lw_m6 166 rfl) rfl
theorem q1406 : (Jvm.Cond.privateMethod ({ cls := "AnglewheelLaw", name := "comes", desc := "(I)Z" } : Jvm.MethodName)) ∈ lw_tbl := lw_at lw_m6 167 rfl
theorem q1407 : (Jvm.Cond.instanceMethod ({ cls := "AnglewheelLaw", name := "comes", desc := "(I)Z" } : Jvm.MethodName)) ∈ lw_all := lw_g (lw_at lw_m6 168 rfl) rfl
theorem q1408 : (Jvm.Cond.code ({ cls := "AnglewheelLaw", name := "comes", desc := "(I)Z" } : Jvm.MethodName) method_19_code (2 : Nat) (Option.some Jvm.ClassFile.FieldType.boolean)) ∈ lw_all := lw_g (lw_at lw_m6 169 rfl) rfl
theorem q1409 : (Jvm.Cond.fieldLink "AnglewheelLaw" (247 : Nat) "AnglewheelLaw" "EIGHTHS" "[J") ∈ lw_all := lw_g (lw_at lw_m6 170 rfl) rfl
theorem q1410 : (Jvm.Cond.laysStatic "AnglewheelLaw" "EIGHTHS" "[J") ∈ lw_tbl := lw_at lw_m6 171 rfl
theorem q1411 : (Jvm.Cond.methodLink "AnglewheelLaw" (136 : Nat) ({ cls := "Anglewheel", name := "angleTwice", desc := "(I)I" } : Jvm.MethodName)) ∈ lw_all := lw_g (lw_at lw_m6 172 rfl) rfl
theorem q1415 : (Jvm.Cond.methodLink "AnglewheelLaw" (178 : Nat) ({ cls := "AnglewheelLaw", name := "answer", desc := "(III)J" } : Jvm.MethodName)) ∈ lw_all := lw_g (lw_at lw_m6 176 rfl) rfl
theorem q1416 : (Jvm.Cond.privateMethod ({ cls := "AnglewheelLaw", name := "answer", desc := "(III)J" } : Jvm.MethodName)) ∈ lw_tbl := lw_at lw_m6 177 rfl
theorem q1417 : (Jvm.Cond.instanceMethod ({ cls := "AnglewheelLaw", name := "answer", desc := "(III)J" } : Jvm.MethodName)) ∈ lw_all := lw_g (lw_at lw_m6 178 rfl) rfl
theorem q1418 : (Jvm.Cond.code ({ cls := "AnglewheelLaw", name := "answer", desc := "(III)J" } : Jvm.MethodName) method_6_code (8 : Nat) (Option.some Jvm.ClassFile.FieldType.long)) ∈ lw_all := lw_g (lw_at lw_m6 179 rfl) rfl
theorem q1419 : (Jvm.Cond.methodLink "AnglewheelLaw" (50 : Nat) ({ cls := "Anglewheel", name := "isAnswer", desc := "(III)Z" } : Jvm.MethodName)) ∈ lw_all := lw_g (lw_at lw_m6 180 rfl) rfl
theorem q1434 : (Jvm.Cond.selects "AnglewheelLaw" ({ cls := "java/lang/Object", name := "equals", desc := "(Ljava/lang/Object;)Z" } : Jvm.MethodName) ({ cls := "java/lang/Object", name := "equals", desc := "(Ljava/lang/Object;)Z" } : Jvm.MethodName)) ∈ lw_all := lw_g (lw_at lw_m6 195 rfl) rfl
theorem q1459 : (Jvm.Cond.methodLink "AnglewheelLaw" (57 : Nat) ({ cls := "Anglewheel", name := "cosine", desc := "(II)I" } : Jvm.MethodName)) ∈ lw_all := lw_g (lw_at lw_m6 220 rfl) rfl
theorem q1463 : (Jvm.Cond.methodLink "AnglewheelLaw" (60 : Nat) ({ cls := "Anglewheel", name := "tangent", desc := "(II)I" } : Jvm.MethodName)) ∈ lw_all := lw_g (lw_at lw_m6 224 rfl) rfl
theorem q1467 : (Jvm.Cond.fieldLink "AnglewheelLaw" (254 : Nat) "AnglewheelLaw" "SINES" "[J") ∈ lw_all := lw_g (lw_at lw_m6 228 rfl) rfl
theorem q1468 : (Jvm.Cond.laysStatic "AnglewheelLaw" "SINES" "[J") ∈ lw_tbl := lw_at lw_m6 229 rfl
theorem q1469 : (Jvm.Cond.fieldLink "AnglewheelLaw" (257 : Nat) "AnglewheelLaw" "COSINES" "[J") ∈ lw_all := lw_g (lw_at lw_m6 230 rfl) rfl
theorem q1470 : (Jvm.Cond.laysStatic "AnglewheelLaw" "COSINES" "[J") ∈ lw_tbl := lw_at lw_m6 231 rfl
theorem q1471 : (Jvm.Cond.methodLink "AnglewheelLaw" (86 : Nat) ({ cls := "Anglewheel", name := "angleKnown", desc := "(II)I" } : Jvm.MethodName)) ∈ lw_all := lw_g (lw_at lw_m6 232 rfl) rfl
theorem q1484 : (Jvm.Cond.methodLink "AnglewheelLaw" (158 : Nat) ({ cls := "java/lang/String", name := "charAt", desc := "(I)C" } : Jvm.MethodName)) ∈ lw_all := lw_g (lw_at lw_m7 5 rfl) rfl
theorem q1485 : (Jvm.Cond.methodLink "AnglewheelLaw" (323 : Nat) ({ cls := "AnglewheelLaw", name := "cell", desc := "([II)I" } : Jvm.MethodName)) ∈ lw_all := lw_g (lw_at lw_m7 6 rfl) rfl
theorem q1486 : (Jvm.Cond.static ({ cls := "AnglewheelLaw", name := "cell", desc := "([II)I" } : Jvm.MethodName)) ∈ lw_all := lw_g (lw_at lw_m7 7 rfl) rfl
theorem q1487 : (Jvm.Cond.code ({ cls := "AnglewheelLaw", name := "cell", desc := "([II)I" } : Jvm.MethodName) method_2_code (2 : Nat) (Option.some Jvm.ClassFile.FieldType.int)) ∈ lw_all := lw_g (lw_at lw_m7 8 rfl) rfl
theorem q1488 : (Jvm.Cond.methodLink "AnglewheelLaw" (327 : Nat) ({ cls := "AnglewheelLaw", name := "areAngles", desc := "(II)Z" } : Jvm.MethodName)) ∈ lw_all := lw_g (lw_at lw_m7 9 rfl) rfl
theorem q1489 : (Jvm.Cond.privateMethod ({ cls := "AnglewheelLaw", name := "areAngles", desc := "(II)Z" } : Jvm.MethodName)) ∈ lw_tbl := lw_at lw_m7 10 rfl
theorem q1490 : (Jvm.Cond.instanceMethod ({ cls := "AnglewheelLaw", name := "areAngles", desc := "(II)Z" } : Jvm.MethodName)) ∈ lw_all := lw_g (lw_at lw_m7 11 rfl) rfl
theorem q1491 : (Jvm.Cond.code ({ cls := "AnglewheelLaw", name := "areAngles", desc := "(II)Z" } : Jvm.MethodName) method_12_code (19 : Nat) (Option.some Jvm.ClassFile.FieldType.boolean)) ∈ lw_all := lw_g (lw_at lw_m7 12 rfl) rfl
theorem q1492 : (Jvm.Cond.methodLink "AnglewheelLaw" (129 : Nat) ({ cls := "AnglewheelLaw", name := "puts", desc := "(II)Z" } : Jvm.MethodName)) ∈ lw_all := lw_g (lw_at lw_m7 13 rfl) rfl
theorem q1493 : (Jvm.Cond.privateMethod ({ cls := "AnglewheelLaw", name := "puts", desc := "(II)Z" } : Jvm.MethodName)) ∈ lw_tbl := lw_at lw_m7 14 rfl
theorem q1494 : (Jvm.Cond.instanceMethod ({ cls := "AnglewheelLaw", name := "puts", desc := "(II)Z" } : Jvm.MethodName)) ∈ lw_all := lw_g (lw_at lw_m7 15 rfl) rfl
theorem q1495 : (Jvm.Cond.code ({ cls := "AnglewheelLaw", name := "puts", desc := "(II)Z" } : Jvm.MethodName) method_11_code (13 : Nat) (Option.some Jvm.ClassFile.FieldType.boolean)) ∈ lw_all := lw_g (lw_at lw_m7 16 rfl) rfl
theorem q1496 : (Jvm.Cond.constantLong "AnglewheelLaw" (92 : Nat) (9007199254740992 : Int64)) ∈ lw_all := lw_g (lw_at lw_m7 17 rfl) rfl
theorem q1497 : (Jvm.Cond.methodLink "AnglewheelLaw" (101 : Nat) ({ cls := "Anglewheel", name := "angleDoublings", desc := "(I)I" } : Jvm.MethodName)) ∈ lw_all := lw_g (lw_at lw_m7 18 rfl) rfl
theorem q1501 : (Jvm.Cond.methodLink "AnglewheelLaw" (104 : Nat) ({ cls := "Anglewheel", name := "angleEighths", desc := "(I)I" } : Jvm.MethodName)) ∈ lw_all := lw_g (lw_at lw_m7 22 rfl) rfl
theorem q1505 : (Jvm.Cond.constant "AnglewheelLaw" (107 : Nat) (-2147483648 : Int32)) ∈ lw_all := lw_g (lw_at lw_m7 26 rfl) rfl
theorem q1506 : (Jvm.Cond.constant "AnglewheelLaw" (108 : Nat) (65537 : Int32)) ∈ lw_all := lw_g (lw_at lw_m7 27 rfl) rfl
theorem q1507 : (Jvm.Cond.constantLong "AnglewheelLaw" (116 : Nat) (4294967295 : Int64)) ∈ lw_all := lw_g (lw_at lw_m7 28 rfl) rfl
theorem q1508 : (Jvm.Cond.methodLink "AnglewheelLaw" (118 : Nat) ({ cls := "Anglewheel", name := "angleFind", desc := "(IZ)I" } : Jvm.MethodName)) ∈ lw_all := lw_g (lw_at lw_m7 29 rfl) rfl
theorem q1509 : (Jvm.Cond.methodLink "AnglewheelLaw" (122 : Nat) ({ cls := "Anglewheel", name := "angleSame", desc := "(III)Z" } : Jvm.MethodName)) ∈ lw_all := lw_g (lw_at lw_m7 30 rfl) rfl
theorem q1513 : (Jvm.Cond.methodLink "AnglewheelLaw" (125 : Nat) ({ cls := "java/lang/String", name := "equals", desc := "(Ljava/lang/Object;)Z" } : Jvm.MethodName)) ∈ lw_all := lw_g (lw_at lw_m7 34 rfl) rfl
theorem q1514 : (Jvm.Cond.methodLink "AnglewheelLaw" (133 : Nat) ({ cls := "Anglewheel", name := "angleCopy", desc := "(II)I" } : Jvm.MethodName)) ∈ lw_all := lw_g (lw_at lw_m7 35 rfl) rfl
theorem q1518 : (Jvm.Cond.constantLong "AnglewheelLaw" (143 : Nat) (2 : Int64)) ∈ lw_all := lw_g (lw_at lw_m7 39 rfl) rfl
theorem q1519 : (Jvm.Cond.methodLink "AnglewheelLaw" (145 : Nat) ({ cls := "AnglewheelLaw", name := "isIn", desc := "(J)Z" } : Jvm.MethodName)) ∈ lw_all := lw_g (lw_at lw_m7 40 rfl) rfl
theorem q1520 : (Jvm.Cond.static ({ cls := "AnglewheelLaw", name := "isIn", desc := "(J)Z" } : Jvm.MethodName)) ∈ lw_all := lw_g (lw_at lw_m7 41 rfl) rfl
theorem q1521 : (Jvm.Cond.code ({ cls := "AnglewheelLaw", name := "isIn", desc := "(J)Z" } : Jvm.MethodName) method_9_code (6 : Nat) (Option.some Jvm.ClassFile.FieldType.boolean)) ∈ lw_all := lw_g (lw_at lw_m7 42 rfl) rfl
theorem q1522 : (Jvm.Cond.methodLink "AnglewheelLaw" (67 : Nat) ({ cls := "AnglewheelLaw", name := "size", desc := "(J)J" } : Jvm.MethodName)) ∈ lw_all := lw_g (lw_at lw_m7 43 rfl) rfl
theorem q1523 : (Jvm.Cond.static ({ cls := "AnglewheelLaw", name := "size", desc := "(J)J" } : Jvm.MethodName)) ∈ lw_all := lw_g (lw_at lw_m7 44 rfl) rfl
theorem q1524 : (Jvm.Cond.code ({ cls := "AnglewheelLaw", name := "size", desc := "(J)J" } : Jvm.MethodName) method_8_code (2 : Nat) (Option.some Jvm.ClassFile.FieldType.long)) ∈ lw_all := lw_g (lw_at lw_m7 45 rfl) rfl
theorem q1525 : (Jvm.Cond.constantLong "AnglewheelLaw" (71 : Nat) (32768 : Int64)) ∈ lw_all := lw_g (lw_at lw_m7 46 rfl) rfl
theorem q1526 : (Jvm.Cond.constantLong "AnglewheelLaw" (73 : Nat) (32 : Int64)) ∈ lw_all := lw_g (lw_at lw_m7 47 rfl) rfl
theorem q1527 : (Jvm.Cond.constantLong "AnglewheelLaw" (75 : Nat) (65 : Int64)) ∈ lw_all := lw_g (lw_at lw_m7 48 rfl) rfl
theorem q1528 : (Jvm.Cond.methodLink "AnglewheelLaw" (149 : Nat) ({ cls := "Anglewheel", name := "angleTurn", desc := "(I)I" } : Jvm.MethodName)) ∈ lw_all := lw_g (lw_at lw_m7 49 rfl) rfl
theorem q1532 : (Jvm.Cond.methodLink "AnglewheelLaw" (152 : Nat) ({ cls := "Anglewheel", name := "angleStep", desc := "(IZ)I" } : Jvm.MethodName)) ∈ lw_all := lw_g (lw_at lw_m7 53 rfl) rfl
theorem q1536 : (Jvm.Cond.methodLink "AnglewheelLaw" (155 : Nat) ({ cls := "Anglewheel", name := "angleOrder", desc := "(III)I" } : Jvm.MethodName)) ∈ lw_all := lw_g (lw_at lw_m7 57 rfl) rfl
theorem q1540 : (Jvm.Cond.methodLink "AnglewheelLaw" (330 : Nat) ({ cls := "AnglewheelLaw", name := "areAnswers", desc := "(II)Z" } : Jvm.MethodName)) ∈ lw_all := lw_g (lw_at lw_m7 61 rfl) rfl
theorem q1541 : (Jvm.Cond.privateMethod ({ cls := "AnglewheelLaw", name := "areAnswers", desc := "(II)Z" } : Jvm.MethodName)) ∈ lw_tbl := lw_at lw_m7 62 rfl
theorem q1542 : (Jvm.Cond.instanceMethod ({ cls := "AnglewheelLaw", name := "areAnswers", desc := "(II)Z" } : Jvm.MethodName)) ∈ lw_all := lw_g (lw_at lw_m7 63 rfl) rfl
theorem q1543 : (Jvm.Cond.code ({ cls := "AnglewheelLaw", name := "areAnswers", desc := "(II)Z" } : Jvm.MethodName) method_15_code (22 : Nat) (Option.some Jvm.ClassFile.FieldType.boolean)) ∈ lw_all := lw_g (lw_at lw_m7 64 rfl) rfl
theorem q1544 : (Jvm.Cond.constantLong "AnglewheelLaw" (182 : Nat) (1152921504606846976 : Int64)) ∈ lw_all := lw_g (lw_at lw_m7 65 rfl) rfl
theorem q1545 : (Jvm.Cond.methodLink "AnglewheelLaw" (184 : Nat) ({ cls := "AnglewheelLaw", name := "isNear", desc := "(JJJ)Z" } : Jvm.MethodName)) ∈ lw_all := lw_g (lw_at lw_m7 66 rfl) rfl
theorem q1546 : (Jvm.Cond.static ({ cls := "AnglewheelLaw", name := "isNear", desc := "(JJJ)Z" } : Jvm.MethodName)) ∈ lw_all := lw_g (lw_at lw_m7 67 rfl) rfl
theorem q1547 : (Jvm.Cond.code ({ cls := "AnglewheelLaw", name := "isNear", desc := "(JJJ)Z" } : Jvm.MethodName) method_7_code (6 : Nat) (Option.some Jvm.ClassFile.FieldType.boolean)) ∈ lw_all := lw_g (lw_at lw_m7 68 rfl) rfl
theorem q1548 : (Jvm.Cond.methodLink "AnglewheelLaw" (188 : Nat) ({ cls := "AnglewheelLaw", name := "areDigits", desc := "(IJ)Z" } : Jvm.MethodName)) ∈ lw_all := lw_g (lw_at lw_m7 69 rfl) rfl
theorem q1549 : (Jvm.Cond.privateMethod ({ cls := "AnglewheelLaw", name := "areDigits", desc := "(IJ)Z" } : Jvm.MethodName)) ∈ lw_tbl := lw_at lw_m7 70 rfl
theorem q1550 : (Jvm.Cond.instanceMethod ({ cls := "AnglewheelLaw", name := "areDigits", desc := "(IJ)Z" } : Jvm.MethodName)) ∈ lw_all := lw_g (lw_at lw_m7 71 rfl) rfl
theorem q1551 : (Jvm.Cond.code ({ cls := "AnglewheelLaw", name := "areDigits", desc := "(IJ)Z" } : Jvm.MethodName) method_14_code (14 : Nat) (Option.some Jvm.ClassFile.FieldType.boolean)) ∈ lw_all := lw_g (lw_at lw_m7 72 rfl) rfl
theorem q1552 : (Jvm.Cond.methodLink "AnglewheelLaw" (169 : Nat) ({ cls := "Anglewheel", name := "heightText", desc := "(I)Ljava/lang/String;" } : Jvm.MethodName)) ∈ lw_all := lw_g (lw_at lw_m7 73 rfl) rfl
theorem q1556 : (Jvm.Cond.methodLink "AnglewheelLaw" (172 : Nat) ({ cls := "Anglewheel", name := "first", desc := "(II)I" } : Jvm.MethodName)) ∈ lw_all := lw_g (lw_at lw_m7 77 rfl) rfl
theorem q1560 : (Jvm.Cond.constantLong "AnglewheelLaw" (192 : Nat) (4100 : Int64)) ∈ lw_all := lw_g (lw_at lw_m7 81 rfl) rfl
theorem q1561 : (Jvm.Cond.methodLink "AnglewheelLaw" (194 : Nat) ({ cls := "Anglewheel", name := "quarter", desc := "(I)I" } : Jvm.MethodName)) ∈ lw_all := lw_g (lw_at lw_m7 82 rfl) rfl
theorem q1562 : (Jvm.Cond.methodLink "AnglewheelLaw" (197 : Nat) ({ cls := "Anglewheel", name := "heightSame", desc := "(III)Z" } : Jvm.MethodName)) ∈ lw_all := lw_g (lw_at lw_m7 83 rfl) rfl
theorem q1566 : (Jvm.Cond.constantLong "AnglewheelLaw" (200 : Nat) (-1 : Int64)) ∈ lw_all := lw_g (lw_at lw_m7 87 rfl) rfl
theorem q1567 : (Jvm.Cond.methodLink "AnglewheelLaw" (202 : Nat) ({ cls := "Anglewheel", name := "sizeOrder", desc := "(II)I" } : Jvm.MethodName)) ∈ lw_all := lw_g (lw_at lw_m7 88 rfl) rfl
theorem q1568 : (Jvm.Cond.methodLink "AnglewheelLaw" (205 : Nat) ({ cls := "Anglewheel", name := "flip", desc := "(I)I" } : Jvm.MethodName)) ∈ lw_all := lw_g (lw_at lw_m7 89 rfl) rfl
theorem q1572 : (Jvm.Cond.methodLink "AnglewheelLaw" (208 : Nat) ({ cls := "Anglewheel", name := "isMirrored", desc := "(III)Z" } : Jvm.MethodName)) ∈ lw_all := lw_g (lw_at lw_m7 93 rfl) rfl
theorem q1576 : (Jvm.Cond.methodLink "AnglewheelLaw" (211 : Nat) ({ cls := "Anglewheel", name := "order", desc := "(III)I" } : Jvm.MethodName)) ∈ lw_all := lw_g (lw_at lw_m7 97 rfl) rfl
theorem q1580 : (Jvm.Cond.methodLink "AnglewheelLaw" (214 : Nat) ({ cls := "Anglewheel", name := "isWithin", desc := "(II)Z" } : Jvm.MethodName)) ∈ lw_all := lw_g (lw_at lw_m7 101 rfl) rfl
theorem q1584 : (Jvm.Cond.methodLink "AnglewheelLaw" (217 : Nat) ({ cls := "Anglewheel", name := "isRound", desc := "(I)Z" } : Jvm.MethodName)) ∈ lw_all := lw_g (lw_at lw_m7 105 rfl) rfl
theorem q1588 : (Jvm.Cond.methodLink "AnglewheelLaw" (221 : Nat) ({ cls := "Anglewheel", name := "isSlope", desc := "(I)Z" } : Jvm.MethodName)) ∈ lw_all := lw_g (lw_at lw_m7 109 rfl) rfl
theorem q1592 : (Jvm.Cond.methodLink "AnglewheelLaw" (224 : Nat) ({ cls := "Anglewheel", name := "holdsTwice", desc := "(II)I" } : Jvm.MethodName)) ∈ lw_all := lw_g (lw_at lw_m7 113 rfl) rfl
theorem q1596 : (Jvm.Cond.methodLink "AnglewheelLaw" (227 : Nat) ({ cls := "Anglewheel", name := "holdsStep", desc := "(II)I" } : Jvm.MethodName)) ∈ lw_all := lw_g (lw_at lw_m7 117 rfl) rfl
theorem q1600 : (Jvm.Cond.methodLink "AnglewheelLaw" (333 : Nat) ({ cls := "AnglewheelLaw", name := "areSums", desc := "(II)Z" } : Jvm.MethodName)) ∈ lw_all := lw_g (lw_at lw_m7 121 rfl) rfl
theorem q1601 : (Jvm.Cond.privateMethod ({ cls := "AnglewheelLaw", name := "areSums", desc := "(II)Z" } : Jvm.MethodName)) ∈ lw_tbl := lw_at lw_m7 122 rfl
theorem q1602 : (Jvm.Cond.instanceMethod ({ cls := "AnglewheelLaw", name := "areSums", desc := "(II)Z" } : Jvm.MethodName)) ∈ lw_all := lw_g (lw_at lw_m7 123 rfl) rfl
theorem q1603 : (Jvm.Cond.code ({ cls := "AnglewheelLaw", name := "areSums", desc := "(II)Z" } : Jvm.MethodName) method_16_code (14 : Nat) (Option.some Jvm.ClassFile.FieldType.boolean)) ∈ lw_all := lw_g (lw_at lw_m7 124 rfl) rfl
theorem q1604 : (Jvm.Cond.methodLink "AnglewheelLaw" (230 : Nat) ({ cls := "Anglewheel", name := "heightOrder", desc := "(III)I" } : Jvm.MethodName)) ∈ lw_all := lw_g (lw_at lw_m7 125 rfl) rfl
theorem q1605 : (Jvm.Cond.methodLink "AnglewheelLaw" (336 : Nat) ({ cls := "AnglewheelLaw", name := "isSorted", desc := "()Z" } : Jvm.MethodName)) ∈ lw_all := lw_g (lw_at lw_m7 126 rfl) rfl
theorem q1606 : (Jvm.Cond.privateMethod ({ cls := "AnglewheelLaw", name := "isSorted", desc := "()Z" } : Jvm.MethodName)) ∈ lw_tbl := lw_at lw_m7 127 rfl
theorem q1607 : (Jvm.Cond.instanceMethod ({ cls := "AnglewheelLaw", name := "isSorted", desc := "()Z" } : Jvm.MethodName)) ∈ lw_all := lw_g (lw_at lw_m7 128 rfl) rfl
theorem q1608 : (Jvm.Cond.code ({ cls := "AnglewheelLaw", name := "isSorted", desc := "()Z" } : Jvm.MethodName) method_13_code (7 : Nat) (Option.some Jvm.ClassFile.FieldType.boolean)) ∈ lw_all := lw_g (lw_at lw_m7 129 rfl) rfl
theorem q1609 : (Jvm.Cond.methodLink "AnglewheelLaw" (162 : Nat) ({ cls := "java/lang/String", name := "hashCode", desc := "()I" } : Jvm.MethodName)) ∈ lw_all := lw_g (lw_at lw_m7 130 rfl) rfl
theorem q1666 : (Jvm.Cond.methodLink "AnglewheelLaw" (166 : Nat) ({ cls := "Anglewheel", name := "angleSort", desc := "()I" } : Jvm.MethodName)) ∈ lw_all := lw_g (lw_at lw_m7 187 rfl) rfl
theorem q1707 : (Jvm.Cond.methodLink "AnglewheelLaw" (339 : Nat) ({ cls := "AnglewheelLaw", name := "areRows", desc := "(II)Z" } : Jvm.MethodName)) ∈ lw_all := lw_g (lw_at lw_m7 228 rfl) rfl
theorem q1708 : (Jvm.Cond.privateMethod ({ cls := "AnglewheelLaw", name := "areRows", desc := "(II)Z" } : Jvm.MethodName)) ∈ lw_tbl := lw_at lw_m7 229 rfl
theorem q1709 : (Jvm.Cond.instanceMethod ({ cls := "AnglewheelLaw", name := "areRows", desc := "(II)Z" } : Jvm.MethodName)) ∈ lw_all := lw_g (lw_at lw_m7 230 rfl) rfl
theorem q1710 : (Jvm.Cond.code ({ cls := "AnglewheelLaw", name := "areRows", desc := "(II)Z" } : Jvm.MethodName) method_17_code (13 : Nat) (Option.some Jvm.ClassFile.FieldType.boolean)) ∈ lw_all := lw_g (lw_at lw_m7 231 rfl) rfl
theorem q1711 : (Jvm.Cond.constant "AnglewheelLaw" (233 : Nat) (65538 : Int32)) ∈ lw_all := lw_g (lw_at lw_m7 232 rfl) rfl
theorem q1712 : (Jvm.Cond.methodLink "AnglewheelLaw" (234 : Nat) ({ cls := "Anglewheel", name := "heightMax", desc := "(III)I" } : Jvm.MethodName)) ∈ lw_all := lw_g (lw_at lw_m7 233 rfl) rfl
theorem q1724 : (Jvm.Cond.methodLink "AnglewheelLaw" (342 : Nat) ({ cls := "AnglewheelLaw", name := "areOrdered", desc := "(I)Z" } : Jvm.MethodName)) ∈ lw_all := lw_g (lw_at lw_m8 5 rfl) rfl
theorem q1725 : (Jvm.Cond.privateMethod ({ cls := "AnglewheelLaw", name := "areOrdered", desc := "(I)Z" } : Jvm.MethodName)) ∈ lw_tbl := lw_at lw_m8 6 rfl
theorem q1726 : (Jvm.Cond.instanceMethod ({ cls := "AnglewheelLaw", name := "areOrdered", desc := "(I)Z" } : Jvm.MethodName)) ∈ lw_all := lw_g (lw_at lw_m8 7 rfl) rfl
theorem q1727 : (Jvm.Cond.code ({ cls := "AnglewheelLaw", name := "areOrdered", desc := "(I)Z" } : Jvm.MethodName) method_21_code (15 : Nat) (Option.some Jvm.ClassFile.FieldType.boolean)) ∈ lw_all := lw_g (lw_at lw_m8 8 rfl) rfl
theorem q1728 : (Jvm.Cond.methodLink "AnglewheelLaw" (260 : Nat) ({ cls := "Anglewheel", name := "heightBelow", desc := "(IIZ)Z" } : Jvm.MethodName)) ∈ lw_all := lw_g (lw_at lw_m8 9 rfl) rfl
theorem q1732 : (Jvm.Cond.methodLink "AnglewheelLaw" (264 : Nat) ({ cls := "AnglewheelLaw", name := "plain", desc := "(I)J" } : Jvm.MethodName)) ∈ lw_all := lw_g (lw_at lw_m8 13 rfl) rfl
theorem q1733 : (Jvm.Cond.privateMethod ({ cls := "AnglewheelLaw", name := "plain", desc := "(I)J" } : Jvm.MethodName)) ∈ lw_tbl := lw_at lw_m8 14 rfl
theorem q1734 : (Jvm.Cond.instanceMethod ({ cls := "AnglewheelLaw", name := "plain", desc := "(I)J" } : Jvm.MethodName)) ∈ lw_all := lw_g (lw_at lw_m8 15 rfl) rfl
theorem q1735 : (Jvm.Cond.code ({ cls := "AnglewheelLaw", name := "plain", desc := "(I)J" } : Jvm.MethodName) method_18_code (2 : Nat) (Option.some Jvm.ClassFile.FieldType.long)) ∈ lw_all := lw_g (lw_at lw_m8 16 rfl) rfl
theorem q1736 : (Jvm.Cond.methodLink "AnglewheelLaw" (267 : Nat) ({ cls := "Anglewheel", name := "heightFind", desc := "(IZ)I" } : Jvm.MethodName)) ∈ lw_all := lw_g (lw_at lw_m8 17 rfl) rfl
theorem q1737 : (Jvm.Cond.methodLink "AnglewheelLaw" (270 : Nat) ({ cls := "Anglewheel", name := "heightSort", desc := "()I" } : Jvm.MethodName)) ∈ lw_all := lw_g (lw_at lw_m8 18 rfl) rfl
theorem q1741 : (Jvm.Cond.methodLink "AnglewheelLaw" (273 : Nat) ({ cls := "Anglewheel", name := "heightMin", desc := "(III)I" } : Jvm.MethodName)) ∈ lw_all := lw_g (lw_at lw_m8 22 rfl) rfl
theorem q1751 : (Jvm.Cond.methodLink "AnglewheelLaw" (276 : Nat) ({ cls := "Anglewheel", name := "heightEnd", desc := "(ZI)I" } : Jvm.MethodName)) ∈ lw_all := lw_g (lw_at lw_m8 32 rfl) rfl
theorem q1755 : (Jvm.Cond.methodLink "AnglewheelLaw" (280 : Nat) ({ cls := "AnglewheelLaw", name := "isFilled", desc := "(I)Z" } : Jvm.MethodName)) ∈ lw_all := lw_g (lw_at lw_m8 36 rfl) rfl
theorem q1756 : (Jvm.Cond.privateMethod ({ cls := "AnglewheelLaw", name := "isFilled", desc := "(I)Z" } : Jvm.MethodName)) ∈ lw_tbl := lw_at lw_m8 37 rfl
theorem q1757 : (Jvm.Cond.instanceMethod ({ cls := "AnglewheelLaw", name := "isFilled", desc := "(I)Z" } : Jvm.MethodName)) ∈ lw_all := lw_g (lw_at lw_m8 38 rfl) rfl
theorem q1758 : (Jvm.Cond.code ({ cls := "AnglewheelLaw", name := "isFilled", desc := "(I)Z" } : Jvm.MethodName) method_22_code (5 : Nat) (Option.some Jvm.ClassFile.FieldType.boolean)) ∈ lw_all := lw_g (lw_at lw_m8 39 rfl) rfl
theorem q1759 : (Jvm.Cond.methodLink "AnglewheelLaw" (345 : Nat) ({ cls := "AnglewheelLaw", name := "isSummed", desc := "()Z" } : Jvm.MethodName)) ∈ lw_all := lw_g (lw_at lw_m8 40 rfl) rfl
theorem q1760 : (Jvm.Cond.privateMethod ({ cls := "AnglewheelLaw", name := "isSummed", desc := "()Z" } : Jvm.MethodName)) ∈ lw_tbl := lw_at lw_m8 41 rfl
theorem q1761 : (Jvm.Cond.instanceMethod ({ cls := "AnglewheelLaw", name := "isSummed", desc := "()Z" } : Jvm.MethodName)) ∈ lw_all := lw_g (lw_at lw_m8 42 rfl) rfl
theorem q1762 : (Jvm.Cond.code ({ cls := "AnglewheelLaw", name := "isSummed", desc := "()Z" } : Jvm.MethodName) method_24_code (7 : Nat) (Option.some Jvm.ClassFile.FieldType.boolean)) ∈ lw_all := lw_g (lw_at lw_m8 43 rfl) rfl
theorem q1763 : (Jvm.Cond.constantLong "AnglewheelLaw" (288 : Nat) (7675 : Int64)) ∈ lw_all := lw_g (lw_at lw_m8 44 rfl) rfl
theorem q1764 : (Jvm.Cond.methodLink "AnglewheelLaw" (294 : Nat) ({ cls := "AnglewheelLaw", name := "sum", desc := "(JJ)J" } : Jvm.MethodName)) ∈ lw_all := lw_g (lw_at lw_m8 45 rfl) rfl
theorem q1765 : (Jvm.Cond.static ({ cls := "AnglewheelLaw", name := "sum", desc := "(JJ)J" } : Jvm.MethodName)) ∈ lw_all := lw_g (lw_at lw_m8 46 rfl) rfl
theorem q1766 : (Jvm.Cond.code ({ cls := "AnglewheelLaw", name := "sum", desc := "(JJ)J" } : Jvm.MethodName) method_23_code (4 : Nat) (Option.some Jvm.ClassFile.FieldType.long)) ∈ lw_all := lw_g (lw_at lw_m8 47 rfl) rfl
theorem q1767 : (Jvm.Cond.constantLong "AnglewheelLaw" (286 : Nat) (31 : Int64)) ∈ lw_all := lw_g (lw_at lw_m8 48 rfl) rfl
theorem q1768 : (Jvm.Cond.methodLink "AnglewheelLaw" (298 : Nat) ({ cls := "Anglewheel", name := "isSound", desc := "()Z" } : Jvm.MethodName)) ∈ lw_all := lw_g (lw_at lw_m8 49 rfl) rfl
theorem q1769 : (Jvm.Cond.methodLink "AnglewheelLaw" (302 : Nat) ({ cls := "Anglewheel", name := "knock", desc := "()I" } : Jvm.MethodName)) ∈ lw_all := lw_g (lw_at lw_m8 50 rfl) rfl
theorem in_X0 : ∀ w ∈ wsX00, w ∈ lw_all := lw_in wsX00 [937] (by decide +kernel) (by decide +kernel)
