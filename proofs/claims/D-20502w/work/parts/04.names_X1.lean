/-! Anglewheel -/
set_option maxRecDepth 100000
def RX1 : String := "Anglewheel"
def TX1 : u_T := fun k => match k with
  | 0 => ("Anglewheel", "angle", "[D", true)
  | 1 => ("Anglewheel", "height", "[D", true)
  | 2 => ("Anglewheel", "lawful", "[Z", true)
  | 3 => ("Anglewheel", "angleActs", "I", false)
  | 4 => ("Anglewheel", "heightActs", "I", false)
  | 5 => ("Anglewheel", "refused", "I", false)
  | _ => ("Anglewheel", "knocked", "I", false)
def tyX1 : Nat → FieldType := fun k => match k with
  | 0 => .array .double
  | 1 => .array .double
  | 2 => .array .boolean
  | 3 => .int
  | 4 => .int
  | 5 => .int
  | _ => .int
abbrev wsX10 : List Cond := u_ws RX1 TX1 7
theorem nmX1 : ∀ a, a < 7 → ∀ b, b < 7 → a ≠ b → (TX1 a).2.1 ≠ (TX1 b).2.1 := by decide +kernel
theorem tyX1_ok : ∀ k, k < 7 → parseFieldDescriptor (TX1 k).2.2.1 = some (tyX1 k) := by decide +kernel
abbrev cX1_init : ByteArray := prog_1_method_1_code
def yX1_init : MethodName := ⟨RX1, "<init>", "()V"⟩
def dkwX1_init_2 : List UInt8 := [84, 132, 2, 1, 167, 255, 240, 177]
abbrev dktX1_init_2 : List UInt8 := dkwX1_init_2 ++ []
def dkwX1_init_1 : List UInt8 := [188, 4, 181, 0, 20, 14, 184, 0, 24, 60, 3, 61, 28, 16, 8, 162, 0, 16, 42, 180, 0, 20, 28, 27]
abbrev dktX1_init_1 : List UInt8 := dkwX1_init_1 ++ dktX1_init_2
def dkwX1_init_0 : List UInt8 := [42, 183, 0, 7, 42, 16, 8, 188, 7, 181, 0, 13, 42, 16, 8, 188, 7, 181, 0, 17, 42, 16, 8]
abbrev dktX1_init_0 : List UInt8 := dkwX1_init_0 ++ dktX1_init_1
theorem dksX1_init_0 : cX1_init.data.toList.drop 0 = dktX1_init_0 := by decide +kernel
theorem dksX1_init_1 : cX1_init.data.toList.drop 23 = dktX1_init_1 := dk_seg dksX1_init_0 23 rfl rfl
theorem dksX1_init_2 : cX1_init.data.toList.drop 47 = dktX1_init_2 := dk_seg dksX1_init_1 24 rfl rfl
theorem dX1_init_0 : decode cX1_init 0 = .ok (.aload_n 0, 1) := dk_42 (dk_at dksX1_init_0 0 rfl rfl)
theorem dX1_init_1 : decode cX1_init 1 = .ok (.invokespecial 7, 3) := dk_183 0 7 (dk_at dksX1_init_0 1 rfl rfl)
theorem dX1_init_4 : decode cX1_init 4 = .ok (.aload_n 0, 1) := dk_42 (dk_at dksX1_init_0 4 rfl rfl)
theorem dX1_init_5 : decode cX1_init 5 = .ok (.bipush 8, 2) := dk_16 8 (dk_at dksX1_init_0 5 rfl rfl)
theorem dX1_init_7 : decode cX1_init 7 = .ok (.newarray .double, 2) := dk_188_7 (dk_at dksX1_init_0 7 rfl rfl)
theorem dX1_init_9 : decode cX1_init 9 = .ok (.putfield 13, 3) := dk_181 0 13 (dk_at dksX1_init_0 9 rfl rfl)
theorem dX1_init_12 : decode cX1_init 12 = .ok (.aload_n 0, 1) := dk_42 (dk_at dksX1_init_0 12 rfl rfl)
theorem dX1_init_13 : decode cX1_init 13 = .ok (.bipush 8, 2) := dk_16 8 (dk_at dksX1_init_0 13 rfl rfl)
theorem dX1_init_15 : decode cX1_init 15 = .ok (.newarray .double, 2) := dk_188_7 (dk_at dksX1_init_0 15 rfl rfl)
theorem dX1_init_17 : decode cX1_init 17 = .ok (.putfield 17, 3) := dk_181 0 17 (dk_at dksX1_init_0 17 rfl rfl)
theorem dX1_init_20 : decode cX1_init 20 = .ok (.aload_n 0, 1) := dk_42 (dk_at dksX1_init_0 20 rfl rfl)
theorem dX1_init_21 : decode cX1_init 21 = .ok (.bipush 8, 2) := dk_16 8 (dk_at dksX1_init_0 21 rfl rfl)
theorem dX1_init_23 : decode cX1_init 23 = .ok (.newarray .boolean, 2) := dk_188_4 (dk_at dksX1_init_1 0 rfl rfl)
theorem dX1_init_25 : decode cX1_init 25 = .ok (.putfield 20, 3) := dk_181 0 20 (dk_at dksX1_init_1 2 rfl rfl)
theorem dX1_init_28 : decode cX1_init 28 = .ok (.dconst 0, 1) := dk_14 (dk_at dksX1_init_1 5 rfl rfl)
theorem dX1_init_29 : decode cX1_init 29 = .ok (.invokestatic 24, 3) := dk_184 0 24 (dk_at dksX1_init_1 6 rfl rfl)
theorem dX1_init_32 : decode cX1_init 32 = .ok (.istore_n 1, 1) := dk_60 (dk_at dksX1_init_1 9 rfl rfl)
theorem dX1_init_33 : decode cX1_init 33 = .ok (.iconst 0, 1) := dk_3 (dk_at dksX1_init_1 10 rfl rfl)
theorem dX1_init_34 : decode cX1_init 34 = .ok (.istore_n 2, 1) := dk_61 (dk_at dksX1_init_1 11 rfl rfl)
theorem dX1_init_35 : decode cX1_init 35 = .ok (.iload_n 2, 1) := dk_28 (dk_at dksX1_init_1 12 rfl rfl)
theorem dX1_init_36 : decode cX1_init 36 = .ok (.bipush 8, 2) := dk_16 8 (dk_at dksX1_init_1 13 rfl rfl)
theorem dX1_init_38 : decode cX1_init 38 = .ok (.if_icmp .ge 16, 3) := dk_162 0 16 (dk_at dksX1_init_1 15 rfl rfl)
theorem dX1_init_41 : decode cX1_init 41 = .ok (.aload_n 0, 1) := dk_42 (dk_at dksX1_init_1 18 rfl rfl)
theorem dX1_init_42 : decode cX1_init 42 = .ok (.getfield 20, 3) := dk_180 0 20 (dk_at dksX1_init_1 19 rfl rfl)
theorem dX1_init_45 : decode cX1_init 45 = .ok (.iload_n 2, 1) := dk_28 (dk_at dksX1_init_1 22 rfl rfl)
theorem dX1_init_46 : decode cX1_init 46 = .ok (.iload_n 1, 1) := dk_27 (dk_at dksX1_init_1 23 rfl rfl)
theorem dX1_init_47 : decode cX1_init 47 = .ok (.bastore, 1) := dk_84 (dk_at dksX1_init_2 0 rfl rfl)
theorem dX1_init_48 : decode cX1_init 48 = .ok (.iinc 2 1, 3) := dk_132 2 1 (dk_at dksX1_init_2 1 rfl rfl)
theorem dX1_init_51 : decode cX1_init 51 = .ok (.goto (-16), 3) := dk_167 255 240 (dk_at dksX1_init_2 4 rfl rfl)
theorem dX1_init_54 : decode cX1_init 54 = .ok (.return_, 1) := dk_177 (dk_at dksX1_init_2 7 rfl rfl)
abbrev cX1_isLawful : ByteArray := prog_1_method_87_code
def yX1_isLawful : MethodName := ⟨RX1, "isLawful", "(D)Z"⟩
def dkwX1_isLawful_10 : List UInt8 := [153, 0, 7, 4, 167, 0, 4, 3, 54, 8, 21, 8, 172]
abbrev dktX1_isLawful_10 : List UInt8 := dkwX1_isLawful_10 ++ []
def dkwX1_isLawful_9 : List UInt8 := [99, 40, 24, 4, 184, 1, 53, 153, 0, 22, 4, 38, 20, 0, 141, 99, 40, 24, 4, 184, 1, 53]
abbrev dktX1_isLawful_9 : List UInt8 := dkwX1_isLawful_9 ++ dktX1_isLawful_10
def dkwX1_isLawful_8 : List UInt8 := [4, 167, 0, 4, 3, 54, 8, 38, 184, 1, 50, 153, 0, 45, 21, 8, 153, 0, 37, 3, 38, 20, 0, 141]
abbrev dktX1_isLawful_8 : List UInt8 := dkwX1_isLawful_8 ++ dktX1_isLawful_9
def dkwX1_isLawful_7 : List UInt8 := [40, 24, 4, 184, 1, 46, 153, 0, 22, 4, 20, 0, 172, 38, 107, 40, 24, 4, 184, 1, 46, 153, 0, 7]
abbrev dktX1_isLawful_7 : List UInt8 := dkwX1_isLawful_7 ++ dktX1_isLawful_8
def dkwX1_isLawful_6 : List UInt8 := [54, 8, 20, 0, 172, 38, 107, 184, 0, 174, 153, 0, 45, 21, 8, 153, 0, 37, 3, 20, 0, 172, 38, 107]
abbrev dktX1_isLawful_6 : List UInt8 := dkwX1_isLawful_6 ++ dktX1_isLawful_7
def dkwX1_isLawful_5 : List UInt8 := [24, 4, 184, 1, 24, 153, 0, 18, 40, 24, 4, 24, 6, 184, 1, 38, 153, 0, 7, 4, 167, 0, 4, 3]
abbrev dktX1_isLawful_5 : List UInt8 := dkwX1_isLawful_5 ++ dktX1_isLawful_6
def dkwX1_isLawful_4 : List UInt8 := [184, 0, 125, 24, 6, 184, 1, 14, 153, 0, 7, 4, 167, 0, 4, 3, 54, 8, 21, 8, 153, 0, 27, 40]
abbrev dktX1_isLawful_4 : List UInt8 := dkwX1_isLawful_4 ++ dktX1_isLawful_5
def dkwX1_isLawful_3 : List UInt8 := [184, 1, 14, 153, 0, 35, 4, 38, 119, 184, 0, 122, 24, 4, 184, 1, 14, 153, 0, 21, 5, 38, 119]
abbrev dktX1_isLawful_3 : List UInt8 := dkwX1_isLawful_3 ++ dktX1_isLawful_4
def dkwX1_isLawful_2 : List UInt8 := [153, 0, 7, 4, 167, 0, 4, 3, 54, 8, 21, 8, 153, 0, 48, 3, 38, 119, 184, 0, 117, 40]
abbrev dktX1_isLawful_2 : List UInt8 := dkwX1_isLawful_2 ++ dktX1_isLawful_3
def dkwX1_isLawful_1 : List UInt8 := [40, 3, 184, 1, 18, 153, 0, 26, 24, 4, 38, 14, 151, 154, 0, 7, 4, 167, 0, 4, 3, 184, 1, 18]
abbrev dktX1_isLawful_1 : List UInt8 := dkwX1_isLawful_1 ++ dktX1_isLawful_2
def dkwX1_isLawful_0 : List UInt8 := [38, 184, 0, 117, 73, 38, 184, 0, 122, 57, 4, 38, 184, 0, 125, 57, 6, 38, 184, 0, 174, 153, 0, 34]
abbrev dktX1_isLawful_0 : List UInt8 := dkwX1_isLawful_0 ++ dktX1_isLawful_1
theorem dksX1_isLawful_0 : cX1_isLawful.data.toList.drop 0 = dktX1_isLawful_0 := by decide +kernel
theorem dksX1_isLawful_1 : cX1_isLawful.data.toList.drop 24 = dktX1_isLawful_1 := dk_seg dksX1_isLawful_0 24 rfl rfl
theorem dksX1_isLawful_2 : cX1_isLawful.data.toList.drop 48 = dktX1_isLawful_2 := dk_seg dksX1_isLawful_1 24 rfl rfl
theorem dksX1_isLawful_3 : cX1_isLawful.data.toList.drop 70 = dktX1_isLawful_3 := dk_seg dksX1_isLawful_2 22 rfl rfl
theorem dksX1_isLawful_4 : cX1_isLawful.data.toList.drop 93 = dktX1_isLawful_4 := dk_seg dksX1_isLawful_3 23 rfl rfl
theorem dksX1_isLawful_5 : cX1_isLawful.data.toList.drop 117 = dktX1_isLawful_5 := dk_seg dksX1_isLawful_4 24 rfl rfl
theorem dksX1_isLawful_6 : cX1_isLawful.data.toList.drop 141 = dktX1_isLawful_6 := dk_seg dksX1_isLawful_5 24 rfl rfl
theorem dksX1_isLawful_7 : cX1_isLawful.data.toList.drop 165 = dktX1_isLawful_7 := dk_seg dksX1_isLawful_6 24 rfl rfl
theorem dksX1_isLawful_8 : cX1_isLawful.data.toList.drop 189 = dktX1_isLawful_8 := dk_seg dksX1_isLawful_7 24 rfl rfl
theorem dksX1_isLawful_9 : cX1_isLawful.data.toList.drop 213 = dktX1_isLawful_9 := dk_seg dksX1_isLawful_8 24 rfl rfl
theorem dksX1_isLawful_10 : cX1_isLawful.data.toList.drop 235 = dktX1_isLawful_10 := dk_seg dksX1_isLawful_9 22 rfl rfl
theorem dX1_isLawful_0 : decode cX1_isLawful 0 = .ok (.dload_n 0, 1) := dk_38 (dk_at dksX1_isLawful_0 0 rfl rfl)
theorem dX1_isLawful_1 : decode cX1_isLawful 1 = .ok (.invokestatic 117, 3) := dk_184 0 117 (dk_at dksX1_isLawful_0 1 rfl rfl)
theorem dX1_isLawful_4 : decode cX1_isLawful 4 = .ok (.dstore_n 2, 1) := dk_73 (dk_at dksX1_isLawful_0 4 rfl rfl)
theorem dX1_isLawful_5 : decode cX1_isLawful 5 = .ok (.dload_n 0, 1) := dk_38 (dk_at dksX1_isLawful_0 5 rfl rfl)
theorem dX1_isLawful_6 : decode cX1_isLawful 6 = .ok (.invokestatic 122, 3) := dk_184 0 122 (dk_at dksX1_isLawful_0 6 rfl rfl)
theorem dX1_isLawful_9 : decode cX1_isLawful 9 = .ok (.dstore 4, 2) := dk_57 4 (dk_at dksX1_isLawful_0 9 rfl rfl)
theorem dX1_isLawful_11 : decode cX1_isLawful 11 = .ok (.dload_n 0, 1) := dk_38 (dk_at dksX1_isLawful_0 11 rfl rfl)
theorem dX1_isLawful_12 : decode cX1_isLawful 12 = .ok (.invokestatic 125, 3) := dk_184 0 125 (dk_at dksX1_isLawful_0 12 rfl rfl)
theorem dX1_isLawful_15 : decode cX1_isLawful 15 = .ok (.dstore 6, 2) := dk_57 6 (dk_at dksX1_isLawful_0 15 rfl rfl)
theorem dX1_isLawful_17 : decode cX1_isLawful 17 = .ok (.dload_n 0, 1) := dk_38 (dk_at dksX1_isLawful_0 17 rfl rfl)
theorem dX1_isLawful_18 : decode cX1_isLawful 18 = .ok (.invokestatic 174, 3) := dk_184 0 174 (dk_at dksX1_isLawful_0 18 rfl rfl)
theorem dX1_isLawful_21 : decode cX1_isLawful 21 = .ok (.ifCond .eq 34, 3) := dk_153 0 34 (dk_at dksX1_isLawful_0 21 rfl rfl)
theorem dX1_isLawful_24 : decode cX1_isLawful 24 = .ok (.dload_n 2, 1) := dk_40 (dk_at dksX1_isLawful_1 0 rfl rfl)
theorem dX1_isLawful_25 : decode cX1_isLawful 25 = .ok (.iconst 0, 1) := dk_3 (dk_at dksX1_isLawful_1 1 rfl rfl)
theorem dX1_isLawful_26 : decode cX1_isLawful 26 = .ok (.invokestatic 274, 3) := dk_184 1 18 (dk_at dksX1_isLawful_1 2 rfl rfl)
theorem dX1_isLawful_29 : decode cX1_isLawful 29 = .ok (.ifCond .eq 26, 3) := dk_153 0 26 (dk_at dksX1_isLawful_1 5 rfl rfl)
theorem dX1_isLawful_32 : decode cX1_isLawful 32 = .ok (.dload 4, 2) := dk_24 4 (dk_at dksX1_isLawful_1 8 rfl rfl)
theorem dX1_isLawful_34 : decode cX1_isLawful 34 = .ok (.dload_n 0, 1) := dk_38 (dk_at dksX1_isLawful_1 10 rfl rfl)
theorem dX1_isLawful_35 : decode cX1_isLawful 35 = .ok (.dconst 0, 1) := dk_14 (dk_at dksX1_isLawful_1 11 rfl rfl)
theorem dX1_isLawful_36 : decode cX1_isLawful 36 = .ok (.dcmp .l, 1) := dk_151 (dk_at dksX1_isLawful_1 12 rfl rfl)
theorem dX1_isLawful_37 : decode cX1_isLawful 37 = .ok (.ifCond .ne 7, 3) := dk_154 0 7 (dk_at dksX1_isLawful_1 13 rfl rfl)
theorem dX1_isLawful_40 : decode cX1_isLawful 40 = .ok (.iconst 1, 1) := dk_4 (dk_at dksX1_isLawful_1 16 rfl rfl)
theorem dX1_isLawful_41 : decode cX1_isLawful 41 = .ok (.goto 4, 3) := dk_167 0 4 (dk_at dksX1_isLawful_1 17 rfl rfl)
theorem dX1_isLawful_44 : decode cX1_isLawful 44 = .ok (.iconst 0, 1) := dk_3 (dk_at dksX1_isLawful_1 20 rfl rfl)
theorem dX1_isLawful_45 : decode cX1_isLawful 45 = .ok (.invokestatic 274, 3) := dk_184 1 18 (dk_at dksX1_isLawful_1 21 rfl rfl)
theorem dX1_isLawful_48 : decode cX1_isLawful 48 = .ok (.ifCond .eq 7, 3) := dk_153 0 7 (dk_at dksX1_isLawful_2 0 rfl rfl)
theorem dX1_isLawful_51 : decode cX1_isLawful 51 = .ok (.iconst 1, 1) := dk_4 (dk_at dksX1_isLawful_2 3 rfl rfl)
theorem dX1_isLawful_52 : decode cX1_isLawful 52 = .ok (.goto 4, 3) := dk_167 0 4 (dk_at dksX1_isLawful_2 4 rfl rfl)
theorem dX1_isLawful_55 : decode cX1_isLawful 55 = .ok (.iconst 0, 1) := dk_3 (dk_at dksX1_isLawful_2 7 rfl rfl)
theorem dX1_isLawful_56 : decode cX1_isLawful 56 = .ok (.istore 8, 2) := dk_54 8 (dk_at dksX1_isLawful_2 8 rfl rfl)
theorem dX1_isLawful_58 : decode cX1_isLawful 58 = .ok (.iload 8, 2) := dk_21 8 (dk_at dksX1_isLawful_2 10 rfl rfl)
theorem dX1_isLawful_60 : decode cX1_isLawful 60 = .ok (.ifCond .eq 48, 3) := dk_153 0 48 (dk_at dksX1_isLawful_2 12 rfl rfl)
theorem dX1_isLawful_63 : decode cX1_isLawful 63 = .ok (.iconst 0, 1) := dk_3 (dk_at dksX1_isLawful_2 15 rfl rfl)
theorem dX1_isLawful_64 : decode cX1_isLawful 64 = .ok (.dload_n 0, 1) := dk_38 (dk_at dksX1_isLawful_2 16 rfl rfl)
theorem dX1_isLawful_65 : decode cX1_isLawful 65 = .ok (.dneg, 1) := dk_119 (dk_at dksX1_isLawful_2 17 rfl rfl)
theorem dX1_isLawful_66 : decode cX1_isLawful 66 = .ok (.invokestatic 117, 3) := dk_184 0 117 (dk_at dksX1_isLawful_2 18 rfl rfl)
theorem dX1_isLawful_69 : decode cX1_isLawful 69 = .ok (.dload_n 2, 1) := dk_40 (dk_at dksX1_isLawful_2 21 rfl rfl)
theorem dX1_isLawful_70 : decode cX1_isLawful 70 = .ok (.invokestatic 270, 3) := dk_184 1 14 (dk_at dksX1_isLawful_3 0 rfl rfl)
theorem dX1_isLawful_73 : decode cX1_isLawful 73 = .ok (.ifCond .eq 35, 3) := dk_153 0 35 (dk_at dksX1_isLawful_3 3 rfl rfl)
theorem dX1_isLawful_76 : decode cX1_isLawful 76 = .ok (.iconst 1, 1) := dk_4 (dk_at dksX1_isLawful_3 6 rfl rfl)
theorem dX1_isLawful_77 : decode cX1_isLawful 77 = .ok (.dload_n 0, 1) := dk_38 (dk_at dksX1_isLawful_3 7 rfl rfl)
theorem dX1_isLawful_78 : decode cX1_isLawful 78 = .ok (.dneg, 1) := dk_119 (dk_at dksX1_isLawful_3 8 rfl rfl)
theorem dX1_isLawful_79 : decode cX1_isLawful 79 = .ok (.invokestatic 122, 3) := dk_184 0 122 (dk_at dksX1_isLawful_3 9 rfl rfl)
theorem dX1_isLawful_82 : decode cX1_isLawful 82 = .ok (.dload 4, 2) := dk_24 4 (dk_at dksX1_isLawful_3 12 rfl rfl)
theorem dX1_isLawful_84 : decode cX1_isLawful 84 = .ok (.invokestatic 270, 3) := dk_184 1 14 (dk_at dksX1_isLawful_3 14 rfl rfl)
theorem dX1_isLawful_87 : decode cX1_isLawful 87 = .ok (.ifCond .eq 21, 3) := dk_153 0 21 (dk_at dksX1_isLawful_3 17 rfl rfl)
theorem dX1_isLawful_90 : decode cX1_isLawful 90 = .ok (.iconst 2, 1) := dk_5 (dk_at dksX1_isLawful_3 20 rfl rfl)
theorem dX1_isLawful_91 : decode cX1_isLawful 91 = .ok (.dload_n 0, 1) := dk_38 (dk_at dksX1_isLawful_3 21 rfl rfl)
theorem dX1_isLawful_92 : decode cX1_isLawful 92 = .ok (.dneg, 1) := dk_119 (dk_at dksX1_isLawful_3 22 rfl rfl)
theorem dX1_isLawful_93 : decode cX1_isLawful 93 = .ok (.invokestatic 125, 3) := dk_184 0 125 (dk_at dksX1_isLawful_4 0 rfl rfl)
theorem dX1_isLawful_96 : decode cX1_isLawful 96 = .ok (.dload 6, 2) := dk_24 6 (dk_at dksX1_isLawful_4 3 rfl rfl)
theorem dX1_isLawful_98 : decode cX1_isLawful 98 = .ok (.invokestatic 270, 3) := dk_184 1 14 (dk_at dksX1_isLawful_4 5 rfl rfl)
theorem dX1_isLawful_101 : decode cX1_isLawful 101 = .ok (.ifCond .eq 7, 3) := dk_153 0 7 (dk_at dksX1_isLawful_4 8 rfl rfl)
theorem dX1_isLawful_104 : decode cX1_isLawful 104 = .ok (.iconst 1, 1) := dk_4 (dk_at dksX1_isLawful_4 11 rfl rfl)
theorem dX1_isLawful_105 : decode cX1_isLawful 105 = .ok (.goto 4, 3) := dk_167 0 4 (dk_at dksX1_isLawful_4 12 rfl rfl)
theorem dX1_isLawful_108 : decode cX1_isLawful 108 = .ok (.iconst 0, 1) := dk_3 (dk_at dksX1_isLawful_4 15 rfl rfl)
theorem dX1_isLawful_109 : decode cX1_isLawful 109 = .ok (.istore 8, 2) := dk_54 8 (dk_at dksX1_isLawful_4 16 rfl rfl)
theorem dX1_isLawful_111 : decode cX1_isLawful 111 = .ok (.iload 8, 2) := dk_21 8 (dk_at dksX1_isLawful_4 18 rfl rfl)
theorem dX1_isLawful_113 : decode cX1_isLawful 113 = .ok (.ifCond .eq 27, 3) := dk_153 0 27 (dk_at dksX1_isLawful_4 20 rfl rfl)
theorem dX1_isLawful_116 : decode cX1_isLawful 116 = .ok (.dload_n 2, 1) := dk_40 (dk_at dksX1_isLawful_4 23 rfl rfl)
theorem dX1_isLawful_117 : decode cX1_isLawful 117 = .ok (.dload 4, 2) := dk_24 4 (dk_at dksX1_isLawful_5 0 rfl rfl)
theorem dX1_isLawful_119 : decode cX1_isLawful 119 = .ok (.invokestatic 280, 3) := dk_184 1 24 (dk_at dksX1_isLawful_5 2 rfl rfl)
theorem dX1_isLawful_122 : decode cX1_isLawful 122 = .ok (.ifCond .eq 18, 3) := dk_153 0 18 (dk_at dksX1_isLawful_5 5 rfl rfl)
theorem dX1_isLawful_125 : decode cX1_isLawful 125 = .ok (.dload_n 2, 1) := dk_40 (dk_at dksX1_isLawful_5 8 rfl rfl)
theorem dX1_isLawful_126 : decode cX1_isLawful 126 = .ok (.dload 4, 2) := dk_24 4 (dk_at dksX1_isLawful_5 9 rfl rfl)
theorem dX1_isLawful_128 : decode cX1_isLawful 128 = .ok (.dload 6, 2) := dk_24 6 (dk_at dksX1_isLawful_5 11 rfl rfl)
theorem dX1_isLawful_130 : decode cX1_isLawful 130 = .ok (.invokestatic 294, 3) := dk_184 1 38 (dk_at dksX1_isLawful_5 13 rfl rfl)
theorem dX1_isLawful_133 : decode cX1_isLawful 133 = .ok (.ifCond .eq 7, 3) := dk_153 0 7 (dk_at dksX1_isLawful_5 16 rfl rfl)
theorem dX1_isLawful_136 : decode cX1_isLawful 136 = .ok (.iconst 1, 1) := dk_4 (dk_at dksX1_isLawful_5 19 rfl rfl)
theorem dX1_isLawful_137 : decode cX1_isLawful 137 = .ok (.goto 4, 3) := dk_167 0 4 (dk_at dksX1_isLawful_5 20 rfl rfl)
theorem dX1_isLawful_140 : decode cX1_isLawful 140 = .ok (.iconst 0, 1) := dk_3 (dk_at dksX1_isLawful_5 23 rfl rfl)
theorem dX1_isLawful_141 : decode cX1_isLawful 141 = .ok (.istore 8, 2) := dk_54 8 (dk_at dksX1_isLawful_6 0 rfl rfl)
theorem dX1_isLawful_143 : decode cX1_isLawful 143 = .ok (.ldc2_w 172, 3) := dk_20 0 172 (dk_at dksX1_isLawful_6 2 rfl rfl)
theorem dX1_isLawful_146 : decode cX1_isLawful 146 = .ok (.dload_n 0, 1) := dk_38 (dk_at dksX1_isLawful_6 5 rfl rfl)
theorem dX1_isLawful_147 : decode cX1_isLawful 147 = .ok (.dmul, 1) := dk_107 (dk_at dksX1_isLawful_6 6 rfl rfl)
theorem dX1_isLawful_148 : decode cX1_isLawful 148 = .ok (.invokestatic 174, 3) := dk_184 0 174 (dk_at dksX1_isLawful_6 7 rfl rfl)
theorem dX1_isLawful_151 : decode cX1_isLawful 151 = .ok (.ifCond .eq 45, 3) := dk_153 0 45 (dk_at dksX1_isLawful_6 10 rfl rfl)
theorem dX1_isLawful_154 : decode cX1_isLawful 154 = .ok (.iload 8, 2) := dk_21 8 (dk_at dksX1_isLawful_6 13 rfl rfl)
theorem dX1_isLawful_156 : decode cX1_isLawful 156 = .ok (.ifCond .eq 37, 3) := dk_153 0 37 (dk_at dksX1_isLawful_6 15 rfl rfl)
theorem dX1_isLawful_159 : decode cX1_isLawful 159 = .ok (.iconst 0, 1) := dk_3 (dk_at dksX1_isLawful_6 18 rfl rfl)
theorem dX1_isLawful_160 : decode cX1_isLawful 160 = .ok (.ldc2_w 172, 3) := dk_20 0 172 (dk_at dksX1_isLawful_6 19 rfl rfl)
theorem dX1_isLawful_163 : decode cX1_isLawful 163 = .ok (.dload_n 0, 1) := dk_38 (dk_at dksX1_isLawful_6 22 rfl rfl)
theorem dX1_isLawful_164 : decode cX1_isLawful 164 = .ok (.dmul, 1) := dk_107 (dk_at dksX1_isLawful_6 23 rfl rfl)
theorem dX1_isLawful_165 : decode cX1_isLawful 165 = .ok (.dload_n 2, 1) := dk_40 (dk_at dksX1_isLawful_7 0 rfl rfl)
theorem dX1_isLawful_166 : decode cX1_isLawful 166 = .ok (.dload 4, 2) := dk_24 4 (dk_at dksX1_isLawful_7 1 rfl rfl)
theorem dX1_isLawful_168 : decode cX1_isLawful 168 = .ok (.invokestatic 302, 3) := dk_184 1 46 (dk_at dksX1_isLawful_7 3 rfl rfl)
theorem dX1_isLawful_171 : decode cX1_isLawful 171 = .ok (.ifCond .eq 22, 3) := dk_153 0 22 (dk_at dksX1_isLawful_7 6 rfl rfl)
theorem dX1_isLawful_174 : decode cX1_isLawful 174 = .ok (.iconst 1, 1) := dk_4 (dk_at dksX1_isLawful_7 9 rfl rfl)
theorem dX1_isLawful_175 : decode cX1_isLawful 175 = .ok (.ldc2_w 172, 3) := dk_20 0 172 (dk_at dksX1_isLawful_7 10 rfl rfl)
theorem dX1_isLawful_178 : decode cX1_isLawful 178 = .ok (.dload_n 0, 1) := dk_38 (dk_at dksX1_isLawful_7 13 rfl rfl)
theorem dX1_isLawful_179 : decode cX1_isLawful 179 = .ok (.dmul, 1) := dk_107 (dk_at dksX1_isLawful_7 14 rfl rfl)
theorem dX1_isLawful_180 : decode cX1_isLawful 180 = .ok (.dload_n 2, 1) := dk_40 (dk_at dksX1_isLawful_7 15 rfl rfl)
theorem dX1_isLawful_181 : decode cX1_isLawful 181 = .ok (.dload 4, 2) := dk_24 4 (dk_at dksX1_isLawful_7 16 rfl rfl)
theorem dX1_isLawful_183 : decode cX1_isLawful 183 = .ok (.invokestatic 302, 3) := dk_184 1 46 (dk_at dksX1_isLawful_7 18 rfl rfl)
theorem dX1_isLawful_186 : decode cX1_isLawful 186 = .ok (.ifCond .eq 7, 3) := dk_153 0 7 (dk_at dksX1_isLawful_7 21 rfl rfl)
theorem dX1_isLawful_189 : decode cX1_isLawful 189 = .ok (.iconst 1, 1) := dk_4 (dk_at dksX1_isLawful_8 0 rfl rfl)
theorem dX1_isLawful_190 : decode cX1_isLawful 190 = .ok (.goto 4, 3) := dk_167 0 4 (dk_at dksX1_isLawful_8 1 rfl rfl)
theorem dX1_isLawful_193 : decode cX1_isLawful 193 = .ok (.iconst 0, 1) := dk_3 (dk_at dksX1_isLawful_8 4 rfl rfl)
theorem dX1_isLawful_194 : decode cX1_isLawful 194 = .ok (.istore 8, 2) := dk_54 8 (dk_at dksX1_isLawful_8 5 rfl rfl)
theorem dX1_isLawful_196 : decode cX1_isLawful 196 = .ok (.dload_n 0, 1) := dk_38 (dk_at dksX1_isLawful_8 7 rfl rfl)
theorem dX1_isLawful_197 : decode cX1_isLawful 197 = .ok (.invokestatic 306, 3) := dk_184 1 50 (dk_at dksX1_isLawful_8 8 rfl rfl)
theorem dX1_isLawful_200 : decode cX1_isLawful 200 = .ok (.ifCond .eq 45, 3) := dk_153 0 45 (dk_at dksX1_isLawful_8 11 rfl rfl)
theorem dX1_isLawful_203 : decode cX1_isLawful 203 = .ok (.iload 8, 2) := dk_21 8 (dk_at dksX1_isLawful_8 14 rfl rfl)
theorem dX1_isLawful_205 : decode cX1_isLawful 205 = .ok (.ifCond .eq 37, 3) := dk_153 0 37 (dk_at dksX1_isLawful_8 16 rfl rfl)
theorem dX1_isLawful_208 : decode cX1_isLawful 208 = .ok (.iconst 0, 1) := dk_3 (dk_at dksX1_isLawful_8 19 rfl rfl)
theorem dX1_isLawful_209 : decode cX1_isLawful 209 = .ok (.dload_n 0, 1) := dk_38 (dk_at dksX1_isLawful_8 20 rfl rfl)
theorem dX1_isLawful_210 : decode cX1_isLawful 210 = .ok (.ldc2_w 141, 3) := dk_20 0 141 (dk_at dksX1_isLawful_8 21 rfl rfl)
theorem dX1_isLawful_213 : decode cX1_isLawful 213 = .ok (.dadd, 1) := dk_99 (dk_at dksX1_isLawful_9 0 rfl rfl)
theorem dX1_isLawful_214 : decode cX1_isLawful 214 = .ok (.dload_n 2, 1) := dk_40 (dk_at dksX1_isLawful_9 1 rfl rfl)
theorem dX1_isLawful_215 : decode cX1_isLawful 215 = .ok (.dload 4, 2) := dk_24 4 (dk_at dksX1_isLawful_9 2 rfl rfl)
theorem dX1_isLawful_217 : decode cX1_isLawful 217 = .ok (.invokestatic 309, 3) := dk_184 1 53 (dk_at dksX1_isLawful_9 4 rfl rfl)
theorem dX1_isLawful_220 : decode cX1_isLawful 220 = .ok (.ifCond .eq 22, 3) := dk_153 0 22 (dk_at dksX1_isLawful_9 7 rfl rfl)
theorem dX1_isLawful_223 : decode cX1_isLawful 223 = .ok (.iconst 1, 1) := dk_4 (dk_at dksX1_isLawful_9 10 rfl rfl)
theorem dX1_isLawful_224 : decode cX1_isLawful 224 = .ok (.dload_n 0, 1) := dk_38 (dk_at dksX1_isLawful_9 11 rfl rfl)
theorem dX1_isLawful_225 : decode cX1_isLawful 225 = .ok (.ldc2_w 141, 3) := dk_20 0 141 (dk_at dksX1_isLawful_9 12 rfl rfl)
theorem dX1_isLawful_228 : decode cX1_isLawful 228 = .ok (.dadd, 1) := dk_99 (dk_at dksX1_isLawful_9 15 rfl rfl)
theorem dX1_isLawful_229 : decode cX1_isLawful 229 = .ok (.dload_n 2, 1) := dk_40 (dk_at dksX1_isLawful_9 16 rfl rfl)
theorem dX1_isLawful_230 : decode cX1_isLawful 230 = .ok (.dload 4, 2) := dk_24 4 (dk_at dksX1_isLawful_9 17 rfl rfl)
theorem dX1_isLawful_232 : decode cX1_isLawful 232 = .ok (.invokestatic 309, 3) := dk_184 1 53 (dk_at dksX1_isLawful_9 19 rfl rfl)
theorem dX1_isLawful_235 : decode cX1_isLawful 235 = .ok (.ifCond .eq 7, 3) := dk_153 0 7 (dk_at dksX1_isLawful_10 0 rfl rfl)
theorem dX1_isLawful_238 : decode cX1_isLawful 238 = .ok (.iconst 1, 1) := dk_4 (dk_at dksX1_isLawful_10 3 rfl rfl)
theorem dX1_isLawful_239 : decode cX1_isLawful 239 = .ok (.goto 4, 3) := dk_167 0 4 (dk_at dksX1_isLawful_10 4 rfl rfl)
theorem dX1_isLawful_242 : decode cX1_isLawful 242 = .ok (.iconst 0, 1) := dk_3 (dk_at dksX1_isLawful_10 7 rfl rfl)
theorem dX1_isLawful_243 : decode cX1_isLawful 243 = .ok (.istore 8, 2) := dk_54 8 (dk_at dksX1_isLawful_10 8 rfl rfl)
theorem dX1_isLawful_245 : decode cX1_isLawful 245 = .ok (.iload 8, 2) := dk_21 8 (dk_at dksX1_isLawful_10 10 rfl rfl)
theorem dX1_isLawful_247 : decode cX1_isLawful 247 = .ok (.ireturn, 1) := dk_172 (dk_at dksX1_isLawful_10 12 rfl rfl)
abbrev cX1_isInSet : ByteArray := prog_1_method_15_code
def yX1_isInSet : MethodName := ⟨RX1, "isInSet", "(D)Z"⟩
def dkwX1_isInSet_0 : List UInt8 := [38, 184, 0, 82, 18, 71, 160, 0, 10, 38, 184, 0, 85, 155, 0, 7, 4, 167, 0, 4, 3, 172]
abbrev dktX1_isInSet_0 : List UInt8 := dkwX1_isInSet_0 ++ []
theorem dksX1_isInSet_0 : cX1_isInSet.data.toList.drop 0 = dktX1_isInSet_0 := by decide +kernel
theorem dX1_isInSet_0 : decode cX1_isInSet 0 = .ok (.dload_n 0, 1) := dk_38 (dk_at dksX1_isInSet_0 0 rfl rfl)
theorem dX1_isInSet_1 : decode cX1_isInSet 1 = .ok (.invokestatic 82, 3) := dk_184 0 82 (dk_at dksX1_isInSet_0 1 rfl rfl)
theorem dX1_isInSet_4 : decode cX1_isInSet 4 = .ok (.ldc 71, 2) := dk_18 71 (dk_at dksX1_isInSet_0 4 rfl rfl)
theorem dX1_isInSet_6 : decode cX1_isInSet 6 = .ok (.if_icmp .ne 10, 3) := dk_160 0 10 (dk_at dksX1_isInSet_0 6 rfl rfl)
theorem dX1_isInSet_9 : decode cX1_isInSet 9 = .ok (.dload_n 0, 1) := dk_38 (dk_at dksX1_isInSet_0 9 rfl rfl)
theorem dX1_isInSet_10 : decode cX1_isInSet 10 = .ok (.invokestatic 85, 3) := dk_184 0 85 (dk_at dksX1_isInSet_0 10 rfl rfl)
theorem dX1_isInSet_13 : decode cX1_isInSet 13 = .ok (.ifCond .lt 7, 3) := dk_155 0 7 (dk_at dksX1_isInSet_0 13 rfl rfl)
theorem dX1_isInSet_16 : decode cX1_isInSet 16 = .ok (.iconst 1, 1) := dk_4 (dk_at dksX1_isInSet_0 16 rfl rfl)
theorem dX1_isInSet_17 : decode cX1_isInSet 17 = .ok (.goto 4, 3) := dk_167 0 4 (dk_at dksX1_isInSet_0 17 rfl rfl)
theorem dX1_isInSet_20 : decode cX1_isInSet 20 = .ok (.iconst 0, 1) := dk_3 (dk_at dksX1_isInSet_0 20 rfl rfl)
theorem dX1_isInSet_21 : decode cX1_isInSet 21 = .ok (.ireturn, 1) := dk_172 (dk_at dksX1_isInSet_0 21 rfl rfl)
abbrev cX1_eighthsOf : ByteArray := prog_1_method_13_code
def yX1_eighthsOf : MethodName := ⟨RX1, "eighthsOf", "(D)I"⟩
def dkwX1_eighthsOf_3 : List UInt8 := [184, 0, 79, 4, 160, 0, 9, 22, 5, 117, 167, 0, 5, 22, 5, 136, 172]
abbrev dktX1_eighthsOf_3 : List UInt8 := dkwX1_eighthsOf_3 ++ []
def dkwX1_eighthsOf_2 : List UInt8 := [22, 5, 28, 121, 33, 148, 154, 0, 12, 22, 5, 20, 0, 77, 148, 158, 0, 6, 18, 71, 172, 38]
abbrev dktX1_eighthsOf_2 : List UInt8 := dkwX1_eighthsOf_2 ++ dktX1_eighthsOf_3
def dkwX1_eighthsOf_1 : List UInt8 := [28, 16, 52, 164, 0, 6, 18, 71, 172, 20, 0, 72, 38, 184, 0, 74, 129, 66, 33, 28, 123, 55, 5]
abbrev dktX1_eighthsOf_1 : List UInt8 := dkwX1_eighthsOf_1 ++ dktX1_eighthsOf_2
def dkwX1_eighthsOf_0 : List UInt8 := [17, 4, 48, 38, 184, 0, 63, 100, 61, 38, 184, 0, 67, 14, 151, 154, 0, 5, 3, 172, 28, 155, 0, 9]
abbrev dktX1_eighthsOf_0 : List UInt8 := dkwX1_eighthsOf_0 ++ dktX1_eighthsOf_1
theorem dksX1_eighthsOf_0 : cX1_eighthsOf.data.toList.drop 0 = dktX1_eighthsOf_0 := by decide +kernel
theorem dksX1_eighthsOf_1 : cX1_eighthsOf.data.toList.drop 24 = dktX1_eighthsOf_1 := dk_seg dksX1_eighthsOf_0 24 rfl rfl
theorem dksX1_eighthsOf_2 : cX1_eighthsOf.data.toList.drop 47 = dktX1_eighthsOf_2 := dk_seg dksX1_eighthsOf_1 23 rfl rfl
theorem dksX1_eighthsOf_3 : cX1_eighthsOf.data.toList.drop 69 = dktX1_eighthsOf_3 := dk_seg dksX1_eighthsOf_2 22 rfl rfl
theorem dX1_eighthsOf_0 : decode cX1_eighthsOf 0 = .ok (.sipush 1072, 3) := dk_17 4 48 (dk_at dksX1_eighthsOf_0 0 rfl rfl)
theorem dX1_eighthsOf_3 : decode cX1_eighthsOf 3 = .ok (.dload_n 0, 1) := dk_38 (dk_at dksX1_eighthsOf_0 3 rfl rfl)
theorem dX1_eighthsOf_4 : decode cX1_eighthsOf 4 = .ok (.invokestatic 63, 3) := dk_184 0 63 (dk_at dksX1_eighthsOf_0 4 rfl rfl)
theorem dX1_eighthsOf_7 : decode cX1_eighthsOf 7 = .ok (.isub, 1) := dk_100 (dk_at dksX1_eighthsOf_0 7 rfl rfl)
theorem dX1_eighthsOf_8 : decode cX1_eighthsOf 8 = .ok (.istore_n 2, 1) := dk_61 (dk_at dksX1_eighthsOf_0 8 rfl rfl)
theorem dX1_eighthsOf_9 : decode cX1_eighthsOf 9 = .ok (.dload_n 0, 1) := dk_38 (dk_at dksX1_eighthsOf_0 9 rfl rfl)
theorem dX1_eighthsOf_10 : decode cX1_eighthsOf 10 = .ok (.invokestatic 67, 3) := dk_184 0 67 (dk_at dksX1_eighthsOf_0 10 rfl rfl)
theorem dX1_eighthsOf_13 : decode cX1_eighthsOf 13 = .ok (.dconst 0, 1) := dk_14 (dk_at dksX1_eighthsOf_0 13 rfl rfl)
theorem dX1_eighthsOf_14 : decode cX1_eighthsOf 14 = .ok (.dcmp .l, 1) := dk_151 (dk_at dksX1_eighthsOf_0 14 rfl rfl)
theorem dX1_eighthsOf_15 : decode cX1_eighthsOf 15 = .ok (.ifCond .ne 5, 3) := dk_154 0 5 (dk_at dksX1_eighthsOf_0 15 rfl rfl)
theorem dX1_eighthsOf_18 : decode cX1_eighthsOf 18 = .ok (.iconst 0, 1) := dk_3 (dk_at dksX1_eighthsOf_0 18 rfl rfl)
theorem dX1_eighthsOf_19 : decode cX1_eighthsOf 19 = .ok (.ireturn, 1) := dk_172 (dk_at dksX1_eighthsOf_0 19 rfl rfl)
theorem dX1_eighthsOf_20 : decode cX1_eighthsOf 20 = .ok (.iload_n 2, 1) := dk_28 (dk_at dksX1_eighthsOf_0 20 rfl rfl)
theorem dX1_eighthsOf_21 : decode cX1_eighthsOf 21 = .ok (.ifCond .lt 9, 3) := dk_155 0 9 (dk_at dksX1_eighthsOf_0 21 rfl rfl)
theorem dX1_eighthsOf_24 : decode cX1_eighthsOf 24 = .ok (.iload_n 2, 1) := dk_28 (dk_at dksX1_eighthsOf_1 0 rfl rfl)
theorem dX1_eighthsOf_25 : decode cX1_eighthsOf 25 = .ok (.bipush 52, 2) := dk_16 52 (dk_at dksX1_eighthsOf_1 1 rfl rfl)
theorem dX1_eighthsOf_27 : decode cX1_eighthsOf 27 = .ok (.if_icmp .le 6, 3) := dk_164 0 6 (dk_at dksX1_eighthsOf_1 3 rfl rfl)
theorem dX1_eighthsOf_30 : decode cX1_eighthsOf 30 = .ok (.ldc 71, 2) := dk_18 71 (dk_at dksX1_eighthsOf_1 6 rfl rfl)
theorem dX1_eighthsOf_32 : decode cX1_eighthsOf 32 = .ok (.ireturn, 1) := dk_172 (dk_at dksX1_eighthsOf_1 8 rfl rfl)
theorem dX1_eighthsOf_33 : decode cX1_eighthsOf 33 = .ok (.ldc2_w 72, 3) := dk_20 0 72 (dk_at dksX1_eighthsOf_1 9 rfl rfl)
theorem dX1_eighthsOf_36 : decode cX1_eighthsOf 36 = .ok (.dload_n 0, 1) := dk_38 (dk_at dksX1_eighthsOf_1 12 rfl rfl)
theorem dX1_eighthsOf_37 : decode cX1_eighthsOf 37 = .ok (.invokestatic 74, 3) := dk_184 0 74 (dk_at dksX1_eighthsOf_1 13 rfl rfl)
theorem dX1_eighthsOf_40 : decode cX1_eighthsOf 40 = .ok (.lor, 1) := dk_129 (dk_at dksX1_eighthsOf_1 16 rfl rfl)
theorem dX1_eighthsOf_41 : decode cX1_eighthsOf 41 = .ok (.lstore_n 3, 1) := dk_66 (dk_at dksX1_eighthsOf_1 17 rfl rfl)
theorem dX1_eighthsOf_42 : decode cX1_eighthsOf 42 = .ok (.lload_n 3, 1) := dk_33 (dk_at dksX1_eighthsOf_1 18 rfl rfl)
theorem dX1_eighthsOf_43 : decode cX1_eighthsOf 43 = .ok (.iload_n 2, 1) := dk_28 (dk_at dksX1_eighthsOf_1 19 rfl rfl)
theorem dX1_eighthsOf_44 : decode cX1_eighthsOf 44 = .ok (.lshr, 1) := dk_123 (dk_at dksX1_eighthsOf_1 20 rfl rfl)
theorem dX1_eighthsOf_45 : decode cX1_eighthsOf 45 = .ok (.lstore 5, 2) := dk_55 5 (dk_at dksX1_eighthsOf_1 21 rfl rfl)
theorem dX1_eighthsOf_47 : decode cX1_eighthsOf 47 = .ok (.lload 5, 2) := dk_22 5 (dk_at dksX1_eighthsOf_2 0 rfl rfl)
theorem dX1_eighthsOf_49 : decode cX1_eighthsOf 49 = .ok (.iload_n 2, 1) := dk_28 (dk_at dksX1_eighthsOf_2 2 rfl rfl)
theorem dX1_eighthsOf_50 : decode cX1_eighthsOf 50 = .ok (.lshl, 1) := dk_121 (dk_at dksX1_eighthsOf_2 3 rfl rfl)
theorem dX1_eighthsOf_51 : decode cX1_eighthsOf 51 = .ok (.lload_n 3, 1) := dk_33 (dk_at dksX1_eighthsOf_2 4 rfl rfl)
theorem dX1_eighthsOf_52 : decode cX1_eighthsOf 52 = .ok (.lcmp, 1) := dk_148 (dk_at dksX1_eighthsOf_2 5 rfl rfl)
theorem dX1_eighthsOf_53 : decode cX1_eighthsOf 53 = .ok (.ifCond .ne 12, 3) := dk_154 0 12 (dk_at dksX1_eighthsOf_2 6 rfl rfl)
theorem dX1_eighthsOf_56 : decode cX1_eighthsOf 56 = .ok (.lload 5, 2) := dk_22 5 (dk_at dksX1_eighthsOf_2 9 rfl rfl)
theorem dX1_eighthsOf_58 : decode cX1_eighthsOf 58 = .ok (.ldc2_w 77, 3) := dk_20 0 77 (dk_at dksX1_eighthsOf_2 11 rfl rfl)
theorem dX1_eighthsOf_61 : decode cX1_eighthsOf 61 = .ok (.lcmp, 1) := dk_148 (dk_at dksX1_eighthsOf_2 14 rfl rfl)
theorem dX1_eighthsOf_62 : decode cX1_eighthsOf 62 = .ok (.ifCond .le 6, 3) := dk_158 0 6 (dk_at dksX1_eighthsOf_2 15 rfl rfl)
theorem dX1_eighthsOf_65 : decode cX1_eighthsOf 65 = .ok (.ldc 71, 2) := dk_18 71 (dk_at dksX1_eighthsOf_2 18 rfl rfl)
theorem dX1_eighthsOf_67 : decode cX1_eighthsOf 67 = .ok (.ireturn, 1) := dk_172 (dk_at dksX1_eighthsOf_2 20 rfl rfl)
theorem dX1_eighthsOf_68 : decode cX1_eighthsOf 68 = .ok (.dload_n 0, 1) := dk_38 (dk_at dksX1_eighthsOf_2 21 rfl rfl)
theorem dX1_eighthsOf_69 : decode cX1_eighthsOf 69 = .ok (.invokestatic 79, 3) := dk_184 0 79 (dk_at dksX1_eighthsOf_3 0 rfl rfl)
theorem dX1_eighthsOf_72 : decode cX1_eighthsOf 72 = .ok (.iconst 1, 1) := dk_4 (dk_at dksX1_eighthsOf_3 3 rfl rfl)
theorem dX1_eighthsOf_73 : decode cX1_eighthsOf 73 = .ok (.if_icmp .ne 9, 3) := dk_160 0 9 (dk_at dksX1_eighthsOf_3 4 rfl rfl)
theorem dX1_eighthsOf_76 : decode cX1_eighthsOf 76 = .ok (.lload 5, 2) := dk_22 5 (dk_at dksX1_eighthsOf_3 7 rfl rfl)
theorem dX1_eighthsOf_78 : decode cX1_eighthsOf 78 = .ok (.lneg, 1) := dk_117 (dk_at dksX1_eighthsOf_3 9 rfl rfl)
theorem dX1_eighthsOf_79 : decode cX1_eighthsOf 79 = .ok (.goto 5, 3) := dk_167 0 5 (dk_at dksX1_eighthsOf_3 10 rfl rfl)
theorem dX1_eighthsOf_82 : decode cX1_eighthsOf 82 = .ok (.lload 5, 2) := dk_22 5 (dk_at dksX1_eighthsOf_3 13 rfl rfl)
theorem dX1_eighthsOf_84 : decode cX1_eighthsOf 84 = .ok (.l2i, 1) := dk_136 (dk_at dksX1_eighthsOf_3 15 rfl rfl)
theorem dX1_eighthsOf_85 : decode cX1_eighthsOf 85 = .ok (.ireturn, 1) := dk_172 (dk_at dksX1_eighthsOf_3 16 rfl rfl)
abbrev cX1_exponentOf : ByteArray := prog_1_method_10_code
def yX1_exponentOf : MethodName := ⟨RX1, "exponentOf", "(D)I"⟩
def dkwX1_exponentOf_0 : List UInt8 := [38, 184, 0, 48, 20, 0, 51, 127, 16, 52, 125, 136, 172]
abbrev dktX1_exponentOf_0 : List UInt8 := dkwX1_exponentOf_0 ++ []
theorem dksX1_exponentOf_0 : cX1_exponentOf.data.toList.drop 0 = dktX1_exponentOf_0 := by decide +kernel
theorem dX1_exponentOf_0 : decode cX1_exponentOf 0 = .ok (.dload_n 0, 1) := dk_38 (dk_at dksX1_exponentOf_0 0 rfl rfl)
theorem dX1_exponentOf_1 : decode cX1_exponentOf 1 = .ok (.invokestatic 48, 3) := dk_184 0 48 (dk_at dksX1_exponentOf_0 1 rfl rfl)
theorem dX1_exponentOf_4 : decode cX1_exponentOf 4 = .ok (.ldc2_w 51, 3) := dk_20 0 51 (dk_at dksX1_exponentOf_0 4 rfl rfl)
theorem dX1_exponentOf_7 : decode cX1_exponentOf 7 = .ok (.land, 1) := dk_127 (dk_at dksX1_exponentOf_0 7 rfl rfl)
theorem dX1_exponentOf_8 : decode cX1_exponentOf 8 = .ok (.bipush 52, 2) := dk_16 52 (dk_at dksX1_exponentOf_0 8 rfl rfl)
theorem dX1_exponentOf_10 : decode cX1_exponentOf 10 = .ok (.lushr, 1) := dk_125 (dk_at dksX1_exponentOf_0 10 rfl rfl)
theorem dX1_exponentOf_11 : decode cX1_exponentOf 11 = .ok (.l2i, 1) := dk_136 (dk_at dksX1_exponentOf_0 11 rfl rfl)
theorem dX1_exponentOf_12 : decode cX1_exponentOf 12 = .ok (.ireturn, 1) := dk_172 (dk_at dksX1_exponentOf_0 12 rfl rfl)
abbrev cX1_digitsOf : ByteArray := prog_1_method_7_code
def yX1_digitsOf : MethodName := ⟨RX1, "digitsOf", "(D)J"⟩
theorem dX1_digitsOf_0 : decode cX1_digitsOf 0 = .ok (.dload_n 0, 1) := by decide +kernel
theorem dX1_digitsOf_1 : decode cX1_digitsOf 1 = .ok (.invokestatic 42, 3) := by decide +kernel
theorem dX1_digitsOf_4 : decode cX1_digitsOf 4 = .ok (.lreturn, 1) := by decide +kernel
abbrev cX1_sizeOf : ByteArray := prog_1_method_8_code
def yX1_sizeOf : MethodName := ⟨RX1, "sizeOf", "(D)D"⟩
def dkwX1_sizeOf_0 : List UInt8 := [38, 184, 0, 48, 20, 0, 51, 127, 184, 0, 53, 175]
abbrev dktX1_sizeOf_0 : List UInt8 := dkwX1_sizeOf_0 ++ []
theorem dksX1_sizeOf_0 : cX1_sizeOf.data.toList.drop 0 = dktX1_sizeOf_0 := by decide +kernel
theorem dX1_sizeOf_0 : decode cX1_sizeOf 0 = .ok (.dload_n 0, 1) := dk_38 (dk_at dksX1_sizeOf_0 0 rfl rfl)
theorem dX1_sizeOf_1 : decode cX1_sizeOf 1 = .ok (.invokestatic 48, 3) := dk_184 0 48 (dk_at dksX1_sizeOf_0 1 rfl rfl)
theorem dX1_sizeOf_4 : decode cX1_sizeOf 4 = .ok (.ldc2_w 51, 3) := dk_20 0 51 (dk_at dksX1_sizeOf_0 4 rfl rfl)
theorem dX1_sizeOf_7 : decode cX1_sizeOf 7 = .ok (.land, 1) := dk_127 (dk_at dksX1_sizeOf_0 7 rfl rfl)
theorem dX1_sizeOf_8 : decode cX1_sizeOf 8 = .ok (.invokestatic 53, 3) := dk_184 0 53 (dk_at dksX1_sizeOf_0 8 rfl rfl)
theorem dX1_sizeOf_11 : decode cX1_sizeOf 11 = .ok (.dreturn, 1) := dk_175 (dk_at dksX1_sizeOf_0 11 rfl rfl)
abbrev cX1_fractionOf : ByteArray := prog_1_method_11_code
def yX1_fractionOf : MethodName := ⟨RX1, "fractionOf", "(D)J"⟩
def dkwX1_fractionOf_0 : List UInt8 := [38, 184, 0, 48, 20, 0, 61, 127, 173]
abbrev dktX1_fractionOf_0 : List UInt8 := dkwX1_fractionOf_0 ++ []
theorem dksX1_fractionOf_0 : cX1_fractionOf.data.toList.drop 0 = dktX1_fractionOf_0 := by decide +kernel
theorem dX1_fractionOf_0 : decode cX1_fractionOf 0 = .ok (.dload_n 0, 1) := dk_38 (dk_at dksX1_fractionOf_0 0 rfl rfl)
theorem dX1_fractionOf_1 : decode cX1_fractionOf 1 = .ok (.invokestatic 48, 3) := dk_184 0 48 (dk_at dksX1_fractionOf_0 1 rfl rfl)
theorem dX1_fractionOf_4 : decode cX1_fractionOf 4 = .ok (.ldc2_w 61, 3) := dk_20 0 61 (dk_at dksX1_fractionOf_0 4 rfl rfl)
theorem dX1_fractionOf_7 : decode cX1_fractionOf 7 = .ok (.land, 1) := dk_127 (dk_at dksX1_fractionOf_0 7 rfl rfl)
theorem dX1_fractionOf_8 : decode cX1_fractionOf 8 = .ok (.lreturn, 1) := dk_173 (dk_at dksX1_fractionOf_0 8 rfl rfl)
abbrev cX1_signOf : ByteArray := prog_1_method_9_code
def yX1_signOf : MethodName := ⟨RX1, "signOf", "(D)I"⟩
def dkwX1_signOf_0 : List UInt8 := [38, 184, 0, 48, 9, 148, 156, 0, 7, 4, 167, 0, 4, 3, 184, 0, 57, 172]
abbrev dktX1_signOf_0 : List UInt8 := dkwX1_signOf_0 ++ []
theorem dksX1_signOf_0 : cX1_signOf.data.toList.drop 0 = dktX1_signOf_0 := by decide +kernel
theorem dX1_signOf_0 : decode cX1_signOf 0 = .ok (.dload_n 0, 1) := dk_38 (dk_at dksX1_signOf_0 0 rfl rfl)
theorem dX1_signOf_1 : decode cX1_signOf 1 = .ok (.invokestatic 48, 3) := dk_184 0 48 (dk_at dksX1_signOf_0 1 rfl rfl)
theorem dX1_signOf_4 : decode cX1_signOf 4 = .ok (.lconst 0, 1) := dk_9 (dk_at dksX1_signOf_0 4 rfl rfl)
theorem dX1_signOf_5 : decode cX1_signOf 5 = .ok (.lcmp, 1) := dk_148 (dk_at dksX1_signOf_0 5 rfl rfl)
theorem dX1_signOf_6 : decode cX1_signOf 6 = .ok (.ifCond .ge 7, 3) := dk_156 0 7 (dk_at dksX1_signOf_0 6 rfl rfl)
theorem dX1_signOf_9 : decode cX1_signOf 9 = .ok (.iconst 1, 1) := dk_4 (dk_at dksX1_signOf_0 9 rfl rfl)
theorem dX1_signOf_10 : decode cX1_signOf 10 = .ok (.goto 4, 3) := dk_167 0 4 (dk_at dksX1_signOf_0 10 rfl rfl)
theorem dX1_signOf_13 : decode cX1_signOf 13 = .ok (.iconst 0, 1) := dk_3 (dk_at dksX1_signOf_0 13 rfl rfl)
theorem dX1_signOf_14 : decode cX1_signOf 14 = .ok (.invokestatic 57, 3) := dk_184 0 57 (dk_at dksX1_signOf_0 14 rfl rfl)
theorem dX1_signOf_17 : decode cX1_signOf 17 = .ok (.ireturn, 1) := dk_172 (dk_at dksX1_signOf_0 17 rfl rfl)
abbrev cX1_bit : ByteArray := prog_1_method_5_code
def yX1_bit : MethodName := ⟨RX1, "bit", "(Z)I"⟩
def dkwX1_bit_0 : List UInt8 := [26, 153, 0, 7, 4, 167, 0, 4, 3, 172]
abbrev dktX1_bit_0 : List UInt8 := dkwX1_bit_0 ++ []
theorem dksX1_bit_0 : cX1_bit.data.toList.drop 0 = dktX1_bit_0 := by decide +kernel
theorem dX1_bit_0 : decode cX1_bit 0 = .ok (.iload_n 0, 1) := dk_26 (dk_at dksX1_bit_0 0 rfl rfl)
theorem dX1_bit_1 : decode cX1_bit 1 = .ok (.ifCond .eq 7, 3) := dk_153 0 7 (dk_at dksX1_bit_0 1 rfl rfl)
theorem dX1_bit_4 : decode cX1_bit 4 = .ok (.iconst 1, 1) := dk_4 (dk_at dksX1_bit_0 4 rfl rfl)
theorem dX1_bit_5 : decode cX1_bit 5 = .ok (.goto 4, 3) := dk_167 0 4 (dk_at dksX1_bit_0 5 rfl rfl)
theorem dX1_bit_8 : decode cX1_bit 8 = .ok (.iconst 0, 1) := dk_3 (dk_at dksX1_bit_0 8 rfl rfl)
theorem dX1_bit_9 : decode cX1_bit 9 = .ok (.ireturn, 1) := dk_172 (dk_at dksX1_bit_0 9 rfl rfl)
abbrev cX1_doublingsOf : ByteArray := prog_1_method_14_code
def yX1_doublingsOf : MethodName := ⟨RX1, "doublingsOf", "(D)I"⟩
def dkwX1_doublingsOf_2 : List UInt8 := [21, 4, 16, 8, 16, 44, 184, 0, 28, 153, 0, 8, 21, 4, 167, 0, 4, 2, 172]
abbrev dktX1_doublingsOf_2 : List UInt8 := dkwX1_doublingsOf_2 ++ []
def dkwX1_doublingsOf_1 : List UInt8 := [184, 0, 63, 17, 4, 4, 100, 32, 9, 148, 154, 0, 7, 4, 167, 0, 4, 3, 184, 0, 57, 100, 54, 4]
abbrev dktX1_doublingsOf_1 : List UInt8 := dkwX1_doublingsOf_1 ++ dktX1_doublingsOf_2
def dkwX1_doublingsOf_0 : List UInt8 := [38, 184, 0, 74, 16, 47, 125, 65, 32, 16, 47, 121, 38, 184, 0, 74, 148, 153, 0, 5, 2, 172, 38]
abbrev dktX1_doublingsOf_0 : List UInt8 := dkwX1_doublingsOf_0 ++ dktX1_doublingsOf_1
theorem dksX1_doublingsOf_0 : cX1_doublingsOf.data.toList.drop 0 = dktX1_doublingsOf_0 := by decide +kernel
theorem dksX1_doublingsOf_1 : cX1_doublingsOf.data.toList.drop 23 = dktX1_doublingsOf_1 := dk_seg dksX1_doublingsOf_0 23 rfl rfl
theorem dksX1_doublingsOf_2 : cX1_doublingsOf.data.toList.drop 47 = dktX1_doublingsOf_2 := dk_seg dksX1_doublingsOf_1 24 rfl rfl
theorem dX1_doublingsOf_0 : decode cX1_doublingsOf 0 = .ok (.dload_n 0, 1) := dk_38 (dk_at dksX1_doublingsOf_0 0 rfl rfl)
theorem dX1_doublingsOf_1 : decode cX1_doublingsOf 1 = .ok (.invokestatic 74, 3) := dk_184 0 74 (dk_at dksX1_doublingsOf_0 1 rfl rfl)
theorem dX1_doublingsOf_4 : decode cX1_doublingsOf 4 = .ok (.bipush 47, 2) := dk_16 47 (dk_at dksX1_doublingsOf_0 4 rfl rfl)
theorem dX1_doublingsOf_6 : decode cX1_doublingsOf 6 = .ok (.lushr, 1) := dk_125 (dk_at dksX1_doublingsOf_0 6 rfl rfl)
theorem dX1_doublingsOf_7 : decode cX1_doublingsOf 7 = .ok (.lstore_n 2, 1) := dk_65 (dk_at dksX1_doublingsOf_0 7 rfl rfl)
theorem dX1_doublingsOf_8 : decode cX1_doublingsOf 8 = .ok (.lload_n 2, 1) := dk_32 (dk_at dksX1_doublingsOf_0 8 rfl rfl)
theorem dX1_doublingsOf_9 : decode cX1_doublingsOf 9 = .ok (.bipush 47, 2) := dk_16 47 (dk_at dksX1_doublingsOf_0 9 rfl rfl)
theorem dX1_doublingsOf_11 : decode cX1_doublingsOf 11 = .ok (.lshl, 1) := dk_121 (dk_at dksX1_doublingsOf_0 11 rfl rfl)
theorem dX1_doublingsOf_12 : decode cX1_doublingsOf 12 = .ok (.dload_n 0, 1) := dk_38 (dk_at dksX1_doublingsOf_0 12 rfl rfl)
theorem dX1_doublingsOf_13 : decode cX1_doublingsOf 13 = .ok (.invokestatic 74, 3) := dk_184 0 74 (dk_at dksX1_doublingsOf_0 13 rfl rfl)
theorem dX1_doublingsOf_16 : decode cX1_doublingsOf 16 = .ok (.lcmp, 1) := dk_148 (dk_at dksX1_doublingsOf_0 16 rfl rfl)
theorem dX1_doublingsOf_17 : decode cX1_doublingsOf 17 = .ok (.ifCond .eq 5, 3) := dk_153 0 5 (dk_at dksX1_doublingsOf_0 17 rfl rfl)
theorem dX1_doublingsOf_20 : decode cX1_doublingsOf 20 = .ok (.iconst (-1), 1) := dk_2 (dk_at dksX1_doublingsOf_0 20 rfl rfl)
theorem dX1_doublingsOf_21 : decode cX1_doublingsOf 21 = .ok (.ireturn, 1) := dk_172 (dk_at dksX1_doublingsOf_0 21 rfl rfl)
theorem dX1_doublingsOf_22 : decode cX1_doublingsOf 22 = .ok (.dload_n 0, 1) := dk_38 (dk_at dksX1_doublingsOf_0 22 rfl rfl)
theorem dX1_doublingsOf_23 : decode cX1_doublingsOf 23 = .ok (.invokestatic 63, 3) := dk_184 0 63 (dk_at dksX1_doublingsOf_1 0 rfl rfl)
theorem dX1_doublingsOf_26 : decode cX1_doublingsOf 26 = .ok (.sipush 1028, 3) := dk_17 4 4 (dk_at dksX1_doublingsOf_1 3 rfl rfl)
theorem dX1_doublingsOf_29 : decode cX1_doublingsOf 29 = .ok (.isub, 1) := dk_100 (dk_at dksX1_doublingsOf_1 6 rfl rfl)
theorem dX1_doublingsOf_30 : decode cX1_doublingsOf 30 = .ok (.lload_n 2, 1) := dk_32 (dk_at dksX1_doublingsOf_1 7 rfl rfl)
theorem dX1_doublingsOf_31 : decode cX1_doublingsOf 31 = .ok (.lconst 0, 1) := dk_9 (dk_at dksX1_doublingsOf_1 8 rfl rfl)
theorem dX1_doublingsOf_32 : decode cX1_doublingsOf 32 = .ok (.lcmp, 1) := dk_148 (dk_at dksX1_doublingsOf_1 9 rfl rfl)
theorem dX1_doublingsOf_33 : decode cX1_doublingsOf 33 = .ok (.ifCond .ne 7, 3) := dk_154 0 7 (dk_at dksX1_doublingsOf_1 10 rfl rfl)
theorem dX1_doublingsOf_36 : decode cX1_doublingsOf 36 = .ok (.iconst 1, 1) := dk_4 (dk_at dksX1_doublingsOf_1 13 rfl rfl)
theorem dX1_doublingsOf_37 : decode cX1_doublingsOf 37 = .ok (.goto 4, 3) := dk_167 0 4 (dk_at dksX1_doublingsOf_1 14 rfl rfl)
theorem dX1_doublingsOf_40 : decode cX1_doublingsOf 40 = .ok (.iconst 0, 1) := dk_3 (dk_at dksX1_doublingsOf_1 17 rfl rfl)
theorem dX1_doublingsOf_41 : decode cX1_doublingsOf 41 = .ok (.invokestatic 57, 3) := dk_184 0 57 (dk_at dksX1_doublingsOf_1 18 rfl rfl)
theorem dX1_doublingsOf_44 : decode cX1_doublingsOf 44 = .ok (.isub, 1) := dk_100 (dk_at dksX1_doublingsOf_1 21 rfl rfl)
theorem dX1_doublingsOf_45 : decode cX1_doublingsOf 45 = .ok (.istore 4, 2) := dk_54 4 (dk_at dksX1_doublingsOf_1 22 rfl rfl)
theorem dX1_doublingsOf_47 : decode cX1_doublingsOf 47 = .ok (.iload 4, 2) := dk_21 4 (dk_at dksX1_doublingsOf_2 0 rfl rfl)
theorem dX1_doublingsOf_49 : decode cX1_doublingsOf 49 = .ok (.bipush 8, 2) := dk_16 8 (dk_at dksX1_doublingsOf_2 2 rfl rfl)
theorem dX1_doublingsOf_51 : decode cX1_doublingsOf 51 = .ok (.bipush 44, 2) := dk_16 44 (dk_at dksX1_doublingsOf_2 4 rfl rfl)
theorem dX1_doublingsOf_53 : decode cX1_doublingsOf 53 = .ok (.invokestatic 28, 3) := dk_184 0 28 (dk_at dksX1_doublingsOf_2 6 rfl rfl)
theorem dX1_doublingsOf_56 : decode cX1_doublingsOf 56 = .ok (.ifCond .eq 8, 3) := dk_153 0 8 (dk_at dksX1_doublingsOf_2 9 rfl rfl)
theorem dX1_doublingsOf_59 : decode cX1_doublingsOf 59 = .ok (.iload 4, 2) := dk_21 4 (dk_at dksX1_doublingsOf_2 12 rfl rfl)
theorem dX1_doublingsOf_61 : decode cX1_doublingsOf 61 = .ok (.goto 4, 3) := dk_167 0 4 (dk_at dksX1_doublingsOf_2 14 rfl rfl)
theorem dX1_doublingsOf_64 : decode cX1_doublingsOf 64 = .ok (.iconst (-1), 1) := dk_2 (dk_at dksX1_doublingsOf_2 17 rfl rfl)
theorem dX1_doublingsOf_65 : decode cX1_doublingsOf 65 = .ok (.ireturn, 1) := dk_172 (dk_at dksX1_doublingsOf_2 18 rfl rfl)
abbrev cX1_isIn : ByteArray := prog_1_method_2_code
def yX1_isIn : MethodName := ⟨RX1, "isIn", "(III)Z"⟩
def dkwX1_isIn_0 : List UInt8 := [26, 27, 161, 0, 12, 26, 28, 163, 0, 7, 4, 167, 0, 4, 3, 172]
abbrev dktX1_isIn_0 : List UInt8 := dkwX1_isIn_0 ++ []
theorem dksX1_isIn_0 : cX1_isIn.data.toList.drop 0 = dktX1_isIn_0 := by decide +kernel
theorem dX1_isIn_0 : decode cX1_isIn 0 = .ok (.iload_n 0, 1) := dk_26 (dk_at dksX1_isIn_0 0 rfl rfl)
theorem dX1_isIn_1 : decode cX1_isIn 1 = .ok (.iload_n 1, 1) := dk_27 (dk_at dksX1_isIn_0 1 rfl rfl)
theorem dX1_isIn_2 : decode cX1_isIn 2 = .ok (.if_icmp .lt 12, 3) := dk_161 0 12 (dk_at dksX1_isIn_0 2 rfl rfl)
theorem dX1_isIn_5 : decode cX1_isIn 5 = .ok (.iload_n 0, 1) := dk_26 (dk_at dksX1_isIn_0 5 rfl rfl)
theorem dX1_isIn_6 : decode cX1_isIn 6 = .ok (.iload_n 2, 1) := dk_28 (dk_at dksX1_isIn_0 6 rfl rfl)
theorem dX1_isIn_7 : decode cX1_isIn 7 = .ok (.if_icmp .gt 7, 3) := dk_163 0 7 (dk_at dksX1_isIn_0 7 rfl rfl)
theorem dX1_isIn_10 : decode cX1_isIn 10 = .ok (.iconst 1, 1) := dk_4 (dk_at dksX1_isIn_0 10 rfl rfl)
theorem dX1_isIn_11 : decode cX1_isIn 11 = .ok (.goto 4, 3) := dk_167 0 4 (dk_at dksX1_isIn_0 11 rfl rfl)
theorem dX1_isIn_14 : decode cX1_isIn 14 = .ok (.iconst 0, 1) := dk_3 (dk_at dksX1_isIn_0 14 rfl rfl)
theorem dX1_isIn_15 : decode cX1_isIn 15 = .ok (.ireturn, 1) := dk_172 (dk_at dksX1_isIn_0 15 rfl rfl)
abbrev cX1_isInside : ByteArray := prog_1_method_69_code
def yX1_isInside : MethodName := ⟨RX1, "isInside", "(DZ)Z"⟩
def dkwX1_isInside_1 : List UInt8 := [151, 155, 0, 18, 38, 15, 152, 157, 0, 12, 29, 28, 160, 0, 7, 4, 167, 0, 4, 3, 172]
abbrev dktX1_isInside_1 : List UInt8 := dkwX1_isInside_1 ++ []
def dkwX1_isInside_0 : List UInt8 := [38, 20, 1, 22, 151, 153, 0, 9, 38, 15, 151, 154, 0, 7, 4, 167, 0, 4, 3, 62, 38, 20, 1, 22]
abbrev dktX1_isInside_0 : List UInt8 := dkwX1_isInside_0 ++ dktX1_isInside_1
theorem dksX1_isInside_0 : cX1_isInside.data.toList.drop 0 = dktX1_isInside_0 := by decide +kernel
theorem dksX1_isInside_1 : cX1_isInside.data.toList.drop 24 = dktX1_isInside_1 := dk_seg dksX1_isInside_0 24 rfl rfl
theorem dX1_isInside_0 : decode cX1_isInside 0 = .ok (.dload_n 0, 1) := dk_38 (dk_at dksX1_isInside_0 0 rfl rfl)
theorem dX1_isInside_1 : decode cX1_isInside 1 = .ok (.ldc2_w 278, 3) := dk_20 1 22 (dk_at dksX1_isInside_0 1 rfl rfl)
theorem dX1_isInside_4 : decode cX1_isInside 4 = .ok (.dcmp .l, 1) := dk_151 (dk_at dksX1_isInside_0 4 rfl rfl)
theorem dX1_isInside_5 : decode cX1_isInside 5 = .ok (.ifCond .eq 9, 3) := dk_153 0 9 (dk_at dksX1_isInside_0 5 rfl rfl)
theorem dX1_isInside_8 : decode cX1_isInside 8 = .ok (.dload_n 0, 1) := dk_38 (dk_at dksX1_isInside_0 8 rfl rfl)
theorem dX1_isInside_9 : decode cX1_isInside 9 = .ok (.dconst 1, 1) := dk_15 (dk_at dksX1_isInside_0 9 rfl rfl)
theorem dX1_isInside_10 : decode cX1_isInside 10 = .ok (.dcmp .l, 1) := dk_151 (dk_at dksX1_isInside_0 10 rfl rfl)
theorem dX1_isInside_11 : decode cX1_isInside 11 = .ok (.ifCond .ne 7, 3) := dk_154 0 7 (dk_at dksX1_isInside_0 11 rfl rfl)
theorem dX1_isInside_14 : decode cX1_isInside 14 = .ok (.iconst 1, 1) := dk_4 (dk_at dksX1_isInside_0 14 rfl rfl)
theorem dX1_isInside_15 : decode cX1_isInside 15 = .ok (.goto 4, 3) := dk_167 0 4 (dk_at dksX1_isInside_0 15 rfl rfl)
theorem dX1_isInside_18 : decode cX1_isInside 18 = .ok (.iconst 0, 1) := dk_3 (dk_at dksX1_isInside_0 18 rfl rfl)
theorem dX1_isInside_19 : decode cX1_isInside 19 = .ok (.istore_n 3, 1) := dk_62 (dk_at dksX1_isInside_0 19 rfl rfl)
theorem dX1_isInside_20 : decode cX1_isInside 20 = .ok (.dload_n 0, 1) := dk_38 (dk_at dksX1_isInside_0 20 rfl rfl)
theorem dX1_isInside_21 : decode cX1_isInside 21 = .ok (.ldc2_w 278, 3) := dk_20 1 22 (dk_at dksX1_isInside_0 21 rfl rfl)
theorem dX1_isInside_24 : decode cX1_isInside 24 = .ok (.dcmp .l, 1) := dk_151 (dk_at dksX1_isInside_1 0 rfl rfl)
theorem dX1_isInside_25 : decode cX1_isInside 25 = .ok (.ifCond .lt 18, 3) := dk_155 0 18 (dk_at dksX1_isInside_1 1 rfl rfl)
theorem dX1_isInside_28 : decode cX1_isInside 28 = .ok (.dload_n 0, 1) := dk_38 (dk_at dksX1_isInside_1 4 rfl rfl)
theorem dX1_isInside_29 : decode cX1_isInside 29 = .ok (.dconst 1, 1) := dk_15 (dk_at dksX1_isInside_1 5 rfl rfl)
theorem dX1_isInside_30 : decode cX1_isInside 30 = .ok (.dcmp .g, 1) := dk_152 (dk_at dksX1_isInside_1 6 rfl rfl)
theorem dX1_isInside_31 : decode cX1_isInside 31 = .ok (.ifCond .gt 12, 3) := dk_157 0 12 (dk_at dksX1_isInside_1 7 rfl rfl)
theorem dX1_isInside_34 : decode cX1_isInside 34 = .ok (.iload_n 3, 1) := dk_29 (dk_at dksX1_isInside_1 10 rfl rfl)
theorem dX1_isInside_35 : decode cX1_isInside 35 = .ok (.iload_n 2, 1) := dk_28 (dk_at dksX1_isInside_1 11 rfl rfl)
theorem dX1_isInside_36 : decode cX1_isInside 36 = .ok (.if_icmp .ne 7, 3) := dk_160 0 7 (dk_at dksX1_isInside_1 12 rfl rfl)
theorem dX1_isInside_39 : decode cX1_isInside 39 = .ok (.iconst 1, 1) := dk_4 (dk_at dksX1_isInside_1 15 rfl rfl)
theorem dX1_isInside_40 : decode cX1_isInside 40 = .ok (.goto 4, 3) := dk_167 0 4 (dk_at dksX1_isInside_1 16 rfl rfl)
theorem dX1_isInside_43 : decode cX1_isInside 43 = .ok (.iconst 0, 1) := dk_3 (dk_at dksX1_isInside_1 19 rfl rfl)
theorem dX1_isInside_44 : decode cX1_isInside 44 = .ok (.ireturn, 1) := dk_172 (dk_at dksX1_isInside_1 20 rfl rfl)
abbrev cX1_isMirror : ByteArray := prog_1_method_66_code
def yX1_isMirror : MethodName := ⟨RX1, "isMirror", "(IDD)Z"⟩
def dkwX1_isMirror_1 : List UInt8 := [148, 154, 0, 7, 4, 167, 0, 4, 3, 172]
abbrev dktX1_isMirror_1 : List UInt8 := dkwX1_isMirror_1 ++ []
def dkwX1_isMirror_0 : List UInt8 := [39, 184, 0, 48, 26, 4, 160, 0, 10, 41, 184, 0, 48, 167, 0, 11, 41, 184, 0, 48, 20, 1, 12, 131]
abbrev dktX1_isMirror_0 : List UInt8 := dkwX1_isMirror_0 ++ dktX1_isMirror_1
theorem dksX1_isMirror_0 : cX1_isMirror.data.toList.drop 0 = dktX1_isMirror_0 := by decide +kernel
theorem dksX1_isMirror_1 : cX1_isMirror.data.toList.drop 24 = dktX1_isMirror_1 := dk_seg dksX1_isMirror_0 24 rfl rfl
theorem dX1_isMirror_0 : decode cX1_isMirror 0 = .ok (.dload_n 1, 1) := dk_39 (dk_at dksX1_isMirror_0 0 rfl rfl)
theorem dX1_isMirror_1 : decode cX1_isMirror 1 = .ok (.invokestatic 48, 3) := dk_184 0 48 (dk_at dksX1_isMirror_0 1 rfl rfl)
theorem dX1_isMirror_4 : decode cX1_isMirror 4 = .ok (.iload_n 0, 1) := dk_26 (dk_at dksX1_isMirror_0 4 rfl rfl)
theorem dX1_isMirror_5 : decode cX1_isMirror 5 = .ok (.iconst 1, 1) := dk_4 (dk_at dksX1_isMirror_0 5 rfl rfl)
theorem dX1_isMirror_6 : decode cX1_isMirror 6 = .ok (.if_icmp .ne 10, 3) := dk_160 0 10 (dk_at dksX1_isMirror_0 6 rfl rfl)
theorem dX1_isMirror_9 : decode cX1_isMirror 9 = .ok (.dload_n 3, 1) := dk_41 (dk_at dksX1_isMirror_0 9 rfl rfl)
theorem dX1_isMirror_10 : decode cX1_isMirror 10 = .ok (.invokestatic 48, 3) := dk_184 0 48 (dk_at dksX1_isMirror_0 10 rfl rfl)
theorem dX1_isMirror_13 : decode cX1_isMirror 13 = .ok (.goto 11, 3) := dk_167 0 11 (dk_at dksX1_isMirror_0 13 rfl rfl)
theorem dX1_isMirror_16 : decode cX1_isMirror 16 = .ok (.dload_n 3, 1) := dk_41 (dk_at dksX1_isMirror_0 16 rfl rfl)
theorem dX1_isMirror_17 : decode cX1_isMirror 17 = .ok (.invokestatic 48, 3) := dk_184 0 48 (dk_at dksX1_isMirror_0 17 rfl rfl)
theorem dX1_isMirror_20 : decode cX1_isMirror 20 = .ok (.ldc2_w 268, 3) := dk_20 1 12 (dk_at dksX1_isMirror_0 20 rfl rfl)
theorem dX1_isMirror_23 : decode cX1_isMirror 23 = .ok (.lxor, 1) := dk_131 (dk_at dksX1_isMirror_0 23 rfl rfl)
theorem dX1_isMirror_24 : decode cX1_isMirror 24 = .ok (.lcmp, 1) := dk_148 (dk_at dksX1_isMirror_1 0 rfl rfl)
theorem dX1_isMirror_25 : decode cX1_isMirror 25 = .ok (.ifCond .ne 7, 3) := dk_154 0 7 (dk_at dksX1_isMirror_1 1 rfl rfl)
theorem dX1_isMirror_28 : decode cX1_isMirror 28 = .ok (.iconst 1, 1) := dk_4 (dk_at dksX1_isMirror_1 4 rfl rfl)
theorem dX1_isMirror_29 : decode cX1_isMirror 29 = .ok (.goto 4, 3) := dk_167 0 4 (dk_at dksX1_isMirror_1 5 rfl rfl)
theorem dX1_isMirror_32 : decode cX1_isMirror 32 = .ok (.iconst 0, 1) := dk_3 (dk_at dksX1_isMirror_1 8 rfl rfl)
theorem dX1_isMirror_33 : decode cX1_isMirror 33 = .ok (.ireturn, 1) := dk_172 (dk_at dksX1_isMirror_1 9 rfl rfl)
abbrev cX1_isRoundBy : ByteArray := prog_1_method_71_code
def yX1_isRoundBy : MethodName := ⟨RX1, "isRoundBy", "(DD)Z"⟩
def dkwX1_isRoundBy_0 : List UInt8 := [38, 184, 1, 27, 40, 184, 1, 27, 182, 1, 31, 15, 17, 0, 240, 184, 1, 34, 172]
abbrev dktX1_isRoundBy_0 : List UInt8 := dkwX1_isRoundBy_0 ++ []
theorem dksX1_isRoundBy_0 : cX1_isRoundBy.data.toList.drop 0 = dktX1_isRoundBy_0 := by decide +kernel
theorem dX1_isRoundBy_0 : decode cX1_isRoundBy 0 = .ok (.dload_n 0, 1) := dk_38 (dk_at dksX1_isRoundBy_0 0 rfl rfl)
theorem dX1_isRoundBy_1 : decode cX1_isRoundBy 1 = .ok (.invokestatic 283, 3) := dk_184 1 27 (dk_at dksX1_isRoundBy_0 1 rfl rfl)
theorem dX1_isRoundBy_4 : decode cX1_isRoundBy 4 = .ok (.dload_n 2, 1) := dk_40 (dk_at dksX1_isRoundBy_0 4 rfl rfl)
theorem dX1_isRoundBy_5 : decode cX1_isRoundBy 5 = .ok (.invokestatic 283, 3) := dk_184 1 27 (dk_at dksX1_isRoundBy_0 5 rfl rfl)
theorem dX1_isRoundBy_8 : decode cX1_isRoundBy 8 = .ok (.invokevirtual 287, 3) := dk_182 1 31 (dk_at dksX1_isRoundBy_0 8 rfl rfl)
theorem dX1_isRoundBy_11 : decode cX1_isRoundBy 11 = .ok (.dconst 1, 1) := dk_15 (dk_at dksX1_isRoundBy_0 11 rfl rfl)
theorem dX1_isRoundBy_12 : decode cX1_isRoundBy 12 = .ok (.sipush 240, 3) := dk_17 0 240 (dk_at dksX1_isRoundBy_0 12 rfl rfl)
theorem dX1_isRoundBy_15 : decode cX1_isRoundBy 15 = .ok (.invokestatic 290, 3) := dk_184 1 34 (dk_at dksX1_isRoundBy_0 15 rfl rfl)
theorem dX1_isRoundBy_18 : decode cX1_isRoundBy 18 = .ok (.ireturn, 1) := dk_172 (dk_at dksX1_isRoundBy_0 18 rfl rfl)
abbrev cX1_square : ByteArray := prog_1_method_19_code
def yX1_square : MethodName := ⟨RX1, "square", "(D)Ljava/math/BigInteger;"⟩
def dkwX1_square_0 : List UInt8 := [38, 16, 70, 184, 0, 98, 77, 44, 44, 182, 0, 114, 176]
abbrev dktX1_square_0 : List UInt8 := dkwX1_square_0 ++ []
theorem dksX1_square_0 : cX1_square.data.toList.drop 0 = dktX1_square_0 := by decide +kernel
theorem dX1_square_0 : decode cX1_square 0 = .ok (.dload_n 0, 1) := dk_38 (dk_at dksX1_square_0 0 rfl rfl)
theorem dX1_square_1 : decode cX1_square 1 = .ok (.bipush 70, 2) := dk_16 70 (dk_at dksX1_square_0 1 rfl rfl)
theorem dX1_square_3 : decode cX1_square 3 = .ok (.invokestatic 98, 3) := dk_184 0 98 (dk_at dksX1_square_0 3 rfl rfl)
theorem dX1_square_6 : decode cX1_square 6 = .ok (.astore_n 2, 1) := dk_77 (dk_at dksX1_square_0 6 rfl rfl)
theorem dX1_square_7 : decode cX1_square 7 = .ok (.aload_n 2, 1) := dk_44 (dk_at dksX1_square_0 7 rfl rfl)
theorem dX1_square_8 : decode cX1_square 8 = .ok (.aload_n 2, 1) := dk_44 (dk_at dksX1_square_0 8 rfl rfl)
theorem dX1_square_9 : decode cX1_square 9 = .ok (.invokevirtual 114, 3) := dk_182 0 114 (dk_at dksX1_square_0 9 rfl rfl)
theorem dX1_square_12 : decode cX1_square 12 = .ok (.areturn, 1) := dk_176 (dk_at dksX1_square_0 12 rfl rfl)
abbrev cX1_exact : ByteArray := prog_1_method_16_code
def yX1_exact : MethodName := ⟨RX1, "exact", "(DI)Ljava/math/BigInteger;"⟩
def dkwX1_exact_2 : List UInt8 := [28, 96, 182, 0, 94, 176]
abbrev dktX1_exact_2 : List UInt8 := dkwX1_exact_2 ++ []
def dkwX1_exact_1 : List UInt8 := [184, 0, 79, 4, 160, 0, 8, 33, 117, 167, 0, 4, 33, 184, 0, 88, 38, 184, 0, 63, 17, 4, 51, 100]
abbrev dktX1_exact_1 : List UInt8 := dkwX1_exact_1 ++ dktX1_exact_2
def dkwX1_exact_0 : List UInt8 := [38, 184, 0, 67, 14, 151, 154, 0, 8, 9, 184, 0, 88, 176, 20, 0, 72, 38, 184, 0, 74, 129, 66, 38]
abbrev dktX1_exact_0 : List UInt8 := dkwX1_exact_0 ++ dktX1_exact_1
theorem dksX1_exact_0 : cX1_exact.data.toList.drop 0 = dktX1_exact_0 := by decide +kernel
theorem dksX1_exact_1 : cX1_exact.data.toList.drop 24 = dktX1_exact_1 := dk_seg dksX1_exact_0 24 rfl rfl
theorem dksX1_exact_2 : cX1_exact.data.toList.drop 48 = dktX1_exact_2 := dk_seg dksX1_exact_1 24 rfl rfl
theorem dX1_exact_0 : decode cX1_exact 0 = .ok (.dload_n 0, 1) := dk_38 (dk_at dksX1_exact_0 0 rfl rfl)
theorem dX1_exact_1 : decode cX1_exact 1 = .ok (.invokestatic 67, 3) := dk_184 0 67 (dk_at dksX1_exact_0 1 rfl rfl)
theorem dX1_exact_4 : decode cX1_exact 4 = .ok (.dconst 0, 1) := dk_14 (dk_at dksX1_exact_0 4 rfl rfl)
theorem dX1_exact_5 : decode cX1_exact 5 = .ok (.dcmp .l, 1) := dk_151 (dk_at dksX1_exact_0 5 rfl rfl)
theorem dX1_exact_6 : decode cX1_exact 6 = .ok (.ifCond .ne 8, 3) := dk_154 0 8 (dk_at dksX1_exact_0 6 rfl rfl)
theorem dX1_exact_9 : decode cX1_exact 9 = .ok (.lconst 0, 1) := dk_9 (dk_at dksX1_exact_0 9 rfl rfl)
theorem dX1_exact_10 : decode cX1_exact 10 = .ok (.invokestatic 88, 3) := dk_184 0 88 (dk_at dksX1_exact_0 10 rfl rfl)
theorem dX1_exact_13 : decode cX1_exact 13 = .ok (.areturn, 1) := dk_176 (dk_at dksX1_exact_0 13 rfl rfl)
theorem dX1_exact_14 : decode cX1_exact 14 = .ok (.ldc2_w 72, 3) := dk_20 0 72 (dk_at dksX1_exact_0 14 rfl rfl)
theorem dX1_exact_17 : decode cX1_exact 17 = .ok (.dload_n 0, 1) := dk_38 (dk_at dksX1_exact_0 17 rfl rfl)
theorem dX1_exact_18 : decode cX1_exact 18 = .ok (.invokestatic 74, 3) := dk_184 0 74 (dk_at dksX1_exact_0 18 rfl rfl)
theorem dX1_exact_21 : decode cX1_exact 21 = .ok (.lor, 1) := dk_129 (dk_at dksX1_exact_0 21 rfl rfl)
theorem dX1_exact_22 : decode cX1_exact 22 = .ok (.lstore_n 3, 1) := dk_66 (dk_at dksX1_exact_0 22 rfl rfl)
theorem dX1_exact_23 : decode cX1_exact 23 = .ok (.dload_n 0, 1) := dk_38 (dk_at dksX1_exact_0 23 rfl rfl)
theorem dX1_exact_24 : decode cX1_exact 24 = .ok (.invokestatic 79, 3) := dk_184 0 79 (dk_at dksX1_exact_1 0 rfl rfl)
theorem dX1_exact_27 : decode cX1_exact 27 = .ok (.iconst 1, 1) := dk_4 (dk_at dksX1_exact_1 3 rfl rfl)
theorem dX1_exact_28 : decode cX1_exact 28 = .ok (.if_icmp .ne 8, 3) := dk_160 0 8 (dk_at dksX1_exact_1 4 rfl rfl)
theorem dX1_exact_31 : decode cX1_exact 31 = .ok (.lload_n 3, 1) := dk_33 (dk_at dksX1_exact_1 7 rfl rfl)
theorem dX1_exact_32 : decode cX1_exact 32 = .ok (.lneg, 1) := dk_117 (dk_at dksX1_exact_1 8 rfl rfl)
theorem dX1_exact_33 : decode cX1_exact 33 = .ok (.goto 4, 3) := dk_167 0 4 (dk_at dksX1_exact_1 9 rfl rfl)
theorem dX1_exact_36 : decode cX1_exact 36 = .ok (.lload_n 3, 1) := dk_33 (dk_at dksX1_exact_1 12 rfl rfl)
theorem dX1_exact_37 : decode cX1_exact 37 = .ok (.invokestatic 88, 3) := dk_184 0 88 (dk_at dksX1_exact_1 13 rfl rfl)
theorem dX1_exact_40 : decode cX1_exact 40 = .ok (.dload_n 0, 1) := dk_38 (dk_at dksX1_exact_1 16 rfl rfl)
theorem dX1_exact_41 : decode cX1_exact 41 = .ok (.invokestatic 63, 3) := dk_184 0 63 (dk_at dksX1_exact_1 17 rfl rfl)
theorem dX1_exact_44 : decode cX1_exact 44 = .ok (.sipush 1075, 3) := dk_17 4 51 (dk_at dksX1_exact_1 20 rfl rfl)
theorem dX1_exact_47 : decode cX1_exact 47 = .ok (.isub, 1) := dk_100 (dk_at dksX1_exact_1 23 rfl rfl)
theorem dX1_exact_48 : decode cX1_exact 48 = .ok (.iload_n 2, 1) := dk_28 (dk_at dksX1_exact_2 0 rfl rfl)
theorem dX1_exact_49 : decode cX1_exact 49 = .ok (.iadd, 1) := dk_96 (dk_at dksX1_exact_2 1 rfl rfl)
theorem dX1_exact_50 : decode cX1_exact 50 = .ok (.invokevirtual 94, 3) := dk_182 0 94 (dk_at dksX1_exact_2 2 rfl rfl)
theorem dX1_exact_53 : decode cX1_exact 53 = .ok (.areturn, 1) := dk_176 (dk_at dksX1_exact_2 5 rfl rfl)
abbrev cX1_isNear : ByteArray := prog_1_method_17_code
def yX1_isNear : MethodName := ⟨RX1, "isNear", "(Ljava/math/BigInteger;DI)Z"⟩
def dkwX1_isNear_1 : List UInt8 := [16, 80, 182, 0, 94, 182, 0, 110, 157, 0, 7, 4, 167, 0, 4, 3, 172]
abbrev dktX1_isNear_1 : List UInt8 := dkwX1_isNear_1 ++ []
def dkwX1_isNear_0 : List UInt8 := [42, 39, 17, 0, 140, 184, 0, 98, 182, 0, 102, 182, 0, 106, 58, 4, 25, 4, 29, 133, 184, 0, 88]
abbrev dktX1_isNear_0 : List UInt8 := dkwX1_isNear_0 ++ dktX1_isNear_1
theorem dksX1_isNear_0 : cX1_isNear.data.toList.drop 0 = dktX1_isNear_0 := by decide +kernel
theorem dksX1_isNear_1 : cX1_isNear.data.toList.drop 23 = dktX1_isNear_1 := dk_seg dksX1_isNear_0 23 rfl rfl
theorem dX1_isNear_0 : decode cX1_isNear 0 = .ok (.aload_n 0, 1) := dk_42 (dk_at dksX1_isNear_0 0 rfl rfl)
theorem dX1_isNear_1 : decode cX1_isNear 1 = .ok (.dload_n 1, 1) := dk_39 (dk_at dksX1_isNear_0 1 rfl rfl)
theorem dX1_isNear_2 : decode cX1_isNear 2 = .ok (.sipush 140, 3) := dk_17 0 140 (dk_at dksX1_isNear_0 2 rfl rfl)
theorem dX1_isNear_5 : decode cX1_isNear 5 = .ok (.invokestatic 98, 3) := dk_184 0 98 (dk_at dksX1_isNear_0 5 rfl rfl)
theorem dX1_isNear_8 : decode cX1_isNear 8 = .ok (.invokevirtual 102, 3) := dk_182 0 102 (dk_at dksX1_isNear_0 8 rfl rfl)
theorem dX1_isNear_11 : decode cX1_isNear 11 = .ok (.invokevirtual 106, 3) := dk_182 0 106 (dk_at dksX1_isNear_0 11 rfl rfl)
theorem dX1_isNear_14 : decode cX1_isNear 14 = .ok (.astore 4, 2) := dk_58 4 (dk_at dksX1_isNear_0 14 rfl rfl)
theorem dX1_isNear_16 : decode cX1_isNear 16 = .ok (.aload 4, 2) := dk_25 4 (dk_at dksX1_isNear_0 16 rfl rfl)
theorem dX1_isNear_18 : decode cX1_isNear 18 = .ok (.iload_n 3, 1) := dk_29 (dk_at dksX1_isNear_0 18 rfl rfl)
theorem dX1_isNear_19 : decode cX1_isNear 19 = .ok (.i2l, 1) := dk_133 (dk_at dksX1_isNear_0 19 rfl rfl)
theorem dX1_isNear_20 : decode cX1_isNear 20 = .ok (.invokestatic 88, 3) := dk_184 0 88 (dk_at dksX1_isNear_0 20 rfl rfl)
theorem dX1_isNear_23 : decode cX1_isNear 23 = .ok (.bipush 80, 2) := dk_16 80 (dk_at dksX1_isNear_1 0 rfl rfl)
theorem dX1_isNear_25 : decode cX1_isNear 25 = .ok (.invokevirtual 94, 3) := dk_182 0 94 (dk_at dksX1_isNear_1 2 rfl rfl)
theorem dX1_isNear_28 : decode cX1_isNear 28 = .ok (.invokevirtual 110, 3) := dk_182 0 110 (dk_at dksX1_isNear_1 5 rfl rfl)
theorem dX1_isNear_31 : decode cX1_isNear 31 = .ok (.ifCond .gt 7, 3) := dk_157 0 7 (dk_at dksX1_isNear_1 8 rfl rfl)
theorem dX1_isNear_34 : decode cX1_isNear 34 = .ok (.iconst 1, 1) := dk_4 (dk_at dksX1_isNear_1 11 rfl rfl)
theorem dX1_isNear_35 : decode cX1_isNear 35 = .ok (.goto 4, 3) := dk_167 0 4 (dk_at dksX1_isNear_1 12 rfl rfl)
theorem dX1_isNear_38 : decode cX1_isNear 38 = .ok (.iconst 0, 1) := dk_3 (dk_at dksX1_isNear_1 15 rfl rfl)
theorem dX1_isNear_39 : decode cX1_isNear 39 = .ok (.ireturn, 1) := dk_172 (dk_at dksX1_isNear_1 16 rfl rfl)
abbrev cX1_isSlopeBy : ByteArray := prog_1_method_73_code
def yX1_isSlopeBy : MethodName := ⟨RX1, "isSlopeBy", "(DDD)Z"⟩
def dkwX1_isSlopeBy_0 : List UInt8 := [24, 4, 40, 184, 1, 42, 38, 17, 0, 241, 184, 1, 34, 172]
abbrev dktX1_isSlopeBy_0 : List UInt8 := dkwX1_isSlopeBy_0 ++ []
theorem dksX1_isSlopeBy_0 : cX1_isSlopeBy.data.toList.drop 0 = dktX1_isSlopeBy_0 := by decide +kernel
theorem dX1_isSlopeBy_0 : decode cX1_isSlopeBy 0 = .ok (.dload 4, 2) := dk_24 4 (dk_at dksX1_isSlopeBy_0 0 rfl rfl)
theorem dX1_isSlopeBy_2 : decode cX1_isSlopeBy 2 = .ok (.dload_n 2, 1) := dk_40 (dk_at dksX1_isSlopeBy_0 2 rfl rfl)
theorem dX1_isSlopeBy_3 : decode cX1_isSlopeBy 3 = .ok (.invokestatic 298, 3) := dk_184 1 42 (dk_at dksX1_isSlopeBy_0 3 rfl rfl)
theorem dX1_isSlopeBy_6 : decode cX1_isSlopeBy 6 = .ok (.dload_n 0, 1) := dk_38 (dk_at dksX1_isSlopeBy_0 6 rfl rfl)
theorem dX1_isSlopeBy_7 : decode cX1_isSlopeBy 7 = .ok (.sipush 241, 3) := dk_17 0 241 (dk_at dksX1_isSlopeBy_0 7 rfl rfl)
theorem dX1_isSlopeBy_10 : decode cX1_isSlopeBy 10 = .ok (.invokestatic 290, 3) := dk_184 1 34 (dk_at dksX1_isSlopeBy_0 10 rfl rfl)
theorem dX1_isSlopeBy_13 : decode cX1_isSlopeBy 13 = .ok (.ireturn, 1) := dk_172 (dk_at dksX1_isSlopeBy_0 13 rfl rfl)
abbrev cX1_product : ByteArray := prog_1_method_18_code
def yX1_product : MethodName := ⟨RX1, "product", "(DD)Ljava/math/BigInteger;"⟩
def dkwX1_product_0 : List UInt8 := [38, 16, 70, 184, 0, 98, 40, 16, 70, 184, 0, 98, 182, 0, 114, 176]
abbrev dktX1_product_0 : List UInt8 := dkwX1_product_0 ++ []
theorem dksX1_product_0 : cX1_product.data.toList.drop 0 = dktX1_product_0 := by decide +kernel
theorem dX1_product_0 : decode cX1_product 0 = .ok (.dload_n 0, 1) := dk_38 (dk_at dksX1_product_0 0 rfl rfl)
theorem dX1_product_1 : decode cX1_product 1 = .ok (.bipush 70, 2) := dk_16 70 (dk_at dksX1_product_0 1 rfl rfl)
theorem dX1_product_3 : decode cX1_product 3 = .ok (.invokestatic 98, 3) := dk_184 0 98 (dk_at dksX1_product_0 3 rfl rfl)
theorem dX1_product_6 : decode cX1_product 6 = .ok (.dload_n 2, 1) := dk_40 (dk_at dksX1_product_0 6 rfl rfl)
theorem dX1_product_7 : decode cX1_product 7 = .ok (.bipush 70, 2) := dk_16 70 (dk_at dksX1_product_0 7 rfl rfl)
theorem dX1_product_9 : decode cX1_product 9 = .ok (.invokestatic 98, 3) := dk_184 0 98 (dk_at dksX1_product_0 9 rfl rfl)
theorem dX1_product_12 : decode cX1_product 12 = .ok (.invokevirtual 114, 3) := dk_182 0 114 (dk_at dksX1_product_0 12 rfl rfl)
theorem dX1_product_15 : decode cX1_product 15 = .ok (.areturn, 1) := dk_176 (dk_at dksX1_product_0 15 rfl rfl)
abbrev cX1_isTwiceBy : ByteArray := prog_1_method_75_code
def yX1_isTwiceBy : MethodName := ⟨RX1, "isTwiceBy", "(IDDD)Z"⟩
def dkwX1_isTwiceBy_1 : List UInt8 := [172, 24, 5, 184, 1, 27, 41, 184, 1, 27, 182, 0, 102, 39, 184, 0, 122, 17, 0, 240, 184, 1, 34, 172]
abbrev dktX1_isTwiceBy_1 : List UInt8 := dkwX1_isTwiceBy_1 ++ []
def dkwX1_isTwiceBy_0 : List UInt8 := [26, 154, 0, 24, 41, 24, 5, 184, 1, 42, 4, 182, 0, 94, 39, 184, 0, 117, 17, 1, 9, 184, 1, 34]
abbrev dktX1_isTwiceBy_0 : List UInt8 := dkwX1_isTwiceBy_0 ++ dktX1_isTwiceBy_1
theorem dksX1_isTwiceBy_0 : cX1_isTwiceBy.data.toList.drop 0 = dktX1_isTwiceBy_0 := by decide +kernel
theorem dksX1_isTwiceBy_1 : cX1_isTwiceBy.data.toList.drop 24 = dktX1_isTwiceBy_1 := dk_seg dksX1_isTwiceBy_0 24 rfl rfl
theorem dX1_isTwiceBy_0 : decode cX1_isTwiceBy 0 = .ok (.iload_n 0, 1) := dk_26 (dk_at dksX1_isTwiceBy_0 0 rfl rfl)
theorem dX1_isTwiceBy_1 : decode cX1_isTwiceBy 1 = .ok (.ifCond .ne 24, 3) := dk_154 0 24 (dk_at dksX1_isTwiceBy_0 1 rfl rfl)
theorem dX1_isTwiceBy_4 : decode cX1_isTwiceBy 4 = .ok (.dload_n 3, 1) := dk_41 (dk_at dksX1_isTwiceBy_0 4 rfl rfl)
theorem dX1_isTwiceBy_5 : decode cX1_isTwiceBy 5 = .ok (.dload 5, 2) := dk_24 5 (dk_at dksX1_isTwiceBy_0 5 rfl rfl)
theorem dX1_isTwiceBy_7 : decode cX1_isTwiceBy 7 = .ok (.invokestatic 298, 3) := dk_184 1 42 (dk_at dksX1_isTwiceBy_0 7 rfl rfl)
theorem dX1_isTwiceBy_10 : decode cX1_isTwiceBy 10 = .ok (.iconst 1, 1) := dk_4 (dk_at dksX1_isTwiceBy_0 10 rfl rfl)
theorem dX1_isTwiceBy_11 : decode cX1_isTwiceBy 11 = .ok (.invokevirtual 94, 3) := dk_182 0 94 (dk_at dksX1_isTwiceBy_0 11 rfl rfl)
theorem dX1_isTwiceBy_14 : decode cX1_isTwiceBy 14 = .ok (.dload_n 1, 1) := dk_39 (dk_at dksX1_isTwiceBy_0 14 rfl rfl)
theorem dX1_isTwiceBy_15 : decode cX1_isTwiceBy 15 = .ok (.invokestatic 117, 3) := dk_184 0 117 (dk_at dksX1_isTwiceBy_0 15 rfl rfl)
theorem dX1_isTwiceBy_18 : decode cX1_isTwiceBy 18 = .ok (.sipush 265, 3) := dk_17 1 9 (dk_at dksX1_isTwiceBy_0 18 rfl rfl)
theorem dX1_isTwiceBy_21 : decode cX1_isTwiceBy 21 = .ok (.invokestatic 290, 3) := dk_184 1 34 (dk_at dksX1_isTwiceBy_0 21 rfl rfl)
theorem dX1_isTwiceBy_24 : decode cX1_isTwiceBy 24 = .ok (.ireturn, 1) := dk_172 (dk_at dksX1_isTwiceBy_1 0 rfl rfl)
theorem dX1_isTwiceBy_25 : decode cX1_isTwiceBy 25 = .ok (.dload 5, 2) := dk_24 5 (dk_at dksX1_isTwiceBy_1 1 rfl rfl)
theorem dX1_isTwiceBy_27 : decode cX1_isTwiceBy 27 = .ok (.invokestatic 283, 3) := dk_184 1 27 (dk_at dksX1_isTwiceBy_1 3 rfl rfl)
theorem dX1_isTwiceBy_30 : decode cX1_isTwiceBy 30 = .ok (.dload_n 3, 1) := dk_41 (dk_at dksX1_isTwiceBy_1 6 rfl rfl)
theorem dX1_isTwiceBy_31 : decode cX1_isTwiceBy 31 = .ok (.invokestatic 283, 3) := dk_184 1 27 (dk_at dksX1_isTwiceBy_1 7 rfl rfl)
theorem dX1_isTwiceBy_34 : decode cX1_isTwiceBy 34 = .ok (.invokevirtual 102, 3) := dk_182 0 102 (dk_at dksX1_isTwiceBy_1 10 rfl rfl)
theorem dX1_isTwiceBy_37 : decode cX1_isTwiceBy 37 = .ok (.dload_n 1, 1) := dk_39 (dk_at dksX1_isTwiceBy_1 13 rfl rfl)
theorem dX1_isTwiceBy_38 : decode cX1_isTwiceBy 38 = .ok (.invokestatic 122, 3) := dk_184 0 122 (dk_at dksX1_isTwiceBy_1 14 rfl rfl)
theorem dX1_isTwiceBy_41 : decode cX1_isTwiceBy 41 = .ok (.sipush 240, 3) := dk_17 0 240 (dk_at dksX1_isTwiceBy_1 17 rfl rfl)
theorem dX1_isTwiceBy_44 : decode cX1_isTwiceBy 44 = .ok (.invokestatic 290, 3) := dk_184 1 34 (dk_at dksX1_isTwiceBy_1 20 rfl rfl)
theorem dX1_isTwiceBy_47 : decode cX1_isTwiceBy 47 = .ok (.ireturn, 1) := dk_172 (dk_at dksX1_isTwiceBy_1 23 rfl rfl)
abbrev cX1_isStep : ByteArray := prog_1_method_77_code
def yX1_isStep : MethodName := ⟨RX1, "isStep", "(D)Z"⟩
def dkwX1_isStep_1 : List UInt8 := [167, 0, 4, 3, 172]
abbrev dktX1_isStep_1 : List UInt8 := dkwX1_isStep_1 ++ []
def dkwX1_isStep_0 : List UInt8 := [38, 184, 0, 82, 18, 71, 159, 0, 20, 38, 20, 0, 141, 99, 184, 0, 82, 18, 71, 159, 0, 7, 4]
abbrev dktX1_isStep_0 : List UInt8 := dkwX1_isStep_0 ++ dktX1_isStep_1
theorem dksX1_isStep_0 : cX1_isStep.data.toList.drop 0 = dktX1_isStep_0 := by decide +kernel
theorem dksX1_isStep_1 : cX1_isStep.data.toList.drop 23 = dktX1_isStep_1 := dk_seg dksX1_isStep_0 23 rfl rfl
theorem dX1_isStep_0 : decode cX1_isStep 0 = .ok (.dload_n 0, 1) := dk_38 (dk_at dksX1_isStep_0 0 rfl rfl)
theorem dX1_isStep_1 : decode cX1_isStep 1 = .ok (.invokestatic 82, 3) := dk_184 0 82 (dk_at dksX1_isStep_0 1 rfl rfl)
theorem dX1_isStep_4 : decode cX1_isStep 4 = .ok (.ldc 71, 2) := dk_18 71 (dk_at dksX1_isStep_0 4 rfl rfl)
theorem dX1_isStep_6 : decode cX1_isStep 6 = .ok (.if_icmp .eq 20, 3) := dk_159 0 20 (dk_at dksX1_isStep_0 6 rfl rfl)
theorem dX1_isStep_9 : decode cX1_isStep 9 = .ok (.dload_n 0, 1) := dk_38 (dk_at dksX1_isStep_0 9 rfl rfl)
theorem dX1_isStep_10 : decode cX1_isStep 10 = .ok (.ldc2_w 141, 3) := dk_20 0 141 (dk_at dksX1_isStep_0 10 rfl rfl)
theorem dX1_isStep_13 : decode cX1_isStep 13 = .ok (.dadd, 1) := dk_99 (dk_at dksX1_isStep_0 13 rfl rfl)
theorem dX1_isStep_14 : decode cX1_isStep 14 = .ok (.invokestatic 82, 3) := dk_184 0 82 (dk_at dksX1_isStep_0 14 rfl rfl)
theorem dX1_isStep_17 : decode cX1_isStep 17 = .ok (.ldc 71, 2) := dk_18 71 (dk_at dksX1_isStep_0 17 rfl rfl)
theorem dX1_isStep_19 : decode cX1_isStep 19 = .ok (.if_icmp .eq 7, 3) := dk_159 0 7 (dk_at dksX1_isStep_0 19 rfl rfl)
theorem dX1_isStep_22 : decode cX1_isStep 22 = .ok (.iconst 1, 1) := dk_4 (dk_at dksX1_isStep_0 22 rfl rfl)
theorem dX1_isStep_23 : decode cX1_isStep 23 = .ok (.goto 4, 3) := dk_167 0 4 (dk_at dksX1_isStep_1 0 rfl rfl)
theorem dX1_isStep_26 : decode cX1_isStep 26 = .ok (.iconst 0, 1) := dk_3 (dk_at dksX1_isStep_1 3 rfl rfl)
theorem dX1_isStep_27 : decode cX1_isStep 27 = .ok (.ireturn, 1) := dk_172 (dk_at dksX1_isStep_1 4 rfl rfl)
abbrev cX1_isStepBy : ByteArray := prog_1_method_78_code
def yX1_isStepBy : MethodName := ⟨RX1, "isStepBy", "(IDDD)Z"⟩
def dkwX1_isStepBy_3 : List UInt8 := [184, 1, 34, 172]
abbrev dktX1_isStepBy_3 : List UInt8 := dkwX1_isStepBy_3 ++ []
def dkwX1_isStepBy_2 : List UInt8 := [24, 5, 24, 9, 184, 1, 42, 41, 24, 7, 184, 1, 42, 182, 0, 102, 39, 184, 0, 122, 17, 0, 216]
abbrev dktX1_isStepBy_2 : List UInt8 := dkwX1_isStepBy_2 ++ dktX1_isStepBy_3
def dkwX1_isStepBy_1 : List UInt8 := [184, 1, 42, 24, 5, 24, 7, 184, 1, 42, 182, 1, 31, 39, 184, 0, 117, 17, 0, 201, 184, 1, 34, 172]
abbrev dktX1_isStepBy_1 : List UInt8 := dkwX1_isStepBy_1 ++ dktX1_isStepBy_2
def dkwX1_isStepBy_0 : List UInt8 := [20, 0, 141, 184, 0, 117, 57, 7, 20, 0, 141, 184, 0, 122, 57, 9, 26, 154, 0, 30, 41, 24, 9]
abbrev dktX1_isStepBy_0 : List UInt8 := dkwX1_isStepBy_0 ++ dktX1_isStepBy_1
theorem dksX1_isStepBy_0 : cX1_isStepBy.data.toList.drop 0 = dktX1_isStepBy_0 := by decide +kernel
theorem dksX1_isStepBy_1 : cX1_isStepBy.data.toList.drop 23 = dktX1_isStepBy_1 := dk_seg dksX1_isStepBy_0 23 rfl rfl
theorem dksX1_isStepBy_2 : cX1_isStepBy.data.toList.drop 47 = dktX1_isStepBy_2 := dk_seg dksX1_isStepBy_1 24 rfl rfl
theorem dksX1_isStepBy_3 : cX1_isStepBy.data.toList.drop 70 = dktX1_isStepBy_3 := dk_seg dksX1_isStepBy_2 23 rfl rfl
theorem dX1_isStepBy_0 : decode cX1_isStepBy 0 = .ok (.ldc2_w 141, 3) := dk_20 0 141 (dk_at dksX1_isStepBy_0 0 rfl rfl)
theorem dX1_isStepBy_3 : decode cX1_isStepBy 3 = .ok (.invokestatic 117, 3) := dk_184 0 117 (dk_at dksX1_isStepBy_0 3 rfl rfl)
theorem dX1_isStepBy_6 : decode cX1_isStepBy 6 = .ok (.dstore 7, 2) := dk_57 7 (dk_at dksX1_isStepBy_0 6 rfl rfl)
theorem dX1_isStepBy_8 : decode cX1_isStepBy 8 = .ok (.ldc2_w 141, 3) := dk_20 0 141 (dk_at dksX1_isStepBy_0 8 rfl rfl)
theorem dX1_isStepBy_11 : decode cX1_isStepBy 11 = .ok (.invokestatic 122, 3) := dk_184 0 122 (dk_at dksX1_isStepBy_0 11 rfl rfl)
theorem dX1_isStepBy_14 : decode cX1_isStepBy 14 = .ok (.dstore 9, 2) := dk_57 9 (dk_at dksX1_isStepBy_0 14 rfl rfl)
theorem dX1_isStepBy_16 : decode cX1_isStepBy 16 = .ok (.iload_n 0, 1) := dk_26 (dk_at dksX1_isStepBy_0 16 rfl rfl)
theorem dX1_isStepBy_17 : decode cX1_isStepBy 17 = .ok (.ifCond .ne 30, 3) := dk_154 0 30 (dk_at dksX1_isStepBy_0 17 rfl rfl)
theorem dX1_isStepBy_20 : decode cX1_isStepBy 20 = .ok (.dload_n 3, 1) := dk_41 (dk_at dksX1_isStepBy_0 20 rfl rfl)
theorem dX1_isStepBy_21 : decode cX1_isStepBy 21 = .ok (.dload 9, 2) := dk_24 9 (dk_at dksX1_isStepBy_0 21 rfl rfl)
theorem dX1_isStepBy_23 : decode cX1_isStepBy 23 = .ok (.invokestatic 298, 3) := dk_184 1 42 (dk_at dksX1_isStepBy_1 0 rfl rfl)
theorem dX1_isStepBy_26 : decode cX1_isStepBy 26 = .ok (.dload 5, 2) := dk_24 5 (dk_at dksX1_isStepBy_1 3 rfl rfl)
theorem dX1_isStepBy_28 : decode cX1_isStepBy 28 = .ok (.dload 7, 2) := dk_24 7 (dk_at dksX1_isStepBy_1 5 rfl rfl)
theorem dX1_isStepBy_30 : decode cX1_isStepBy 30 = .ok (.invokestatic 298, 3) := dk_184 1 42 (dk_at dksX1_isStepBy_1 7 rfl rfl)
theorem dX1_isStepBy_33 : decode cX1_isStepBy 33 = .ok (.invokevirtual 287, 3) := dk_182 1 31 (dk_at dksX1_isStepBy_1 10 rfl rfl)
theorem dX1_isStepBy_36 : decode cX1_isStepBy 36 = .ok (.dload_n 1, 1) := dk_39 (dk_at dksX1_isStepBy_1 13 rfl rfl)
theorem dX1_isStepBy_37 : decode cX1_isStepBy 37 = .ok (.invokestatic 117, 3) := dk_184 0 117 (dk_at dksX1_isStepBy_1 14 rfl rfl)
theorem dX1_isStepBy_40 : decode cX1_isStepBy 40 = .ok (.sipush 201, 3) := dk_17 0 201 (dk_at dksX1_isStepBy_1 17 rfl rfl)
theorem dX1_isStepBy_43 : decode cX1_isStepBy 43 = .ok (.invokestatic 290, 3) := dk_184 1 34 (dk_at dksX1_isStepBy_1 20 rfl rfl)
theorem dX1_isStepBy_46 : decode cX1_isStepBy 46 = .ok (.ireturn, 1) := dk_172 (dk_at dksX1_isStepBy_1 23 rfl rfl)
theorem dX1_isStepBy_47 : decode cX1_isStepBy 47 = .ok (.dload 5, 2) := dk_24 5 (dk_at dksX1_isStepBy_2 0 rfl rfl)
theorem dX1_isStepBy_49 : decode cX1_isStepBy 49 = .ok (.dload 9, 2) := dk_24 9 (dk_at dksX1_isStepBy_2 2 rfl rfl)
theorem dX1_isStepBy_51 : decode cX1_isStepBy 51 = .ok (.invokestatic 298, 3) := dk_184 1 42 (dk_at dksX1_isStepBy_2 4 rfl rfl)
theorem dX1_isStepBy_54 : decode cX1_isStepBy 54 = .ok (.dload_n 3, 1) := dk_41 (dk_at dksX1_isStepBy_2 7 rfl rfl)
theorem dX1_isStepBy_55 : decode cX1_isStepBy 55 = .ok (.dload 7, 2) := dk_24 7 (dk_at dksX1_isStepBy_2 8 rfl rfl)
theorem dX1_isStepBy_57 : decode cX1_isStepBy 57 = .ok (.invokestatic 298, 3) := dk_184 1 42 (dk_at dksX1_isStepBy_2 10 rfl rfl)
theorem dX1_isStepBy_60 : decode cX1_isStepBy 60 = .ok (.invokevirtual 102, 3) := dk_182 0 102 (dk_at dksX1_isStepBy_2 13 rfl rfl)
theorem dX1_isStepBy_63 : decode cX1_isStepBy 63 = .ok (.dload_n 1, 1) := dk_39 (dk_at dksX1_isStepBy_2 16 rfl rfl)
theorem dX1_isStepBy_64 : decode cX1_isStepBy 64 = .ok (.invokestatic 122, 3) := dk_184 0 122 (dk_at dksX1_isStepBy_2 17 rfl rfl)
theorem dX1_isStepBy_67 : decode cX1_isStepBy 67 = .ok (.sipush 216, 3) := dk_17 0 216 (dk_at dksX1_isStepBy_2 20 rfl rfl)
theorem dX1_isStepBy_70 : decode cX1_isStepBy 70 = .ok (.invokestatic 290, 3) := dk_184 1 34 (dk_at dksX1_isStepBy_3 0 rfl rfl)
theorem dX1_isStepBy_73 : decode cX1_isStepBy 73 = .ok (.ireturn, 1) := dk_172 (dk_at dksX1_isStepBy_3 3 rfl rfl)
abbrev cX1_angleText : ByteArray := prog_1_method_35_code
def yX1_angleText : MethodName := ⟨RX1, "angleText", "(I)Ljava/lang/String;"⟩
def dkwX1_angleText_2 : List UInt8 := [182, 0, 204, 182, 0, 207, 176]
abbrev dktX1_angleText_2 : List UInt8 := dkwX1_angleText_2 ++ []
def dkwX1_angleText_1 : List UInt8 := [16, 32, 182, 0, 201, 40, 184, 0, 63, 182, 0, 197, 16, 32, 182, 0, 201, 87, 25, 4, 40, 184, 0, 74]
abbrev dktX1_angleText_1 : List UInt8 := dkwX1_angleText_1 ++ dktX1_angleText_2
def dkwX1_angleText_0 : List UInt8 := [42, 27, 182, 0, 166, 73, 187, 0, 194, 89, 183, 0, 196, 58, 4, 25, 4, 40, 184, 0, 79, 182, 0, 197]
abbrev dktX1_angleText_0 : List UInt8 := dkwX1_angleText_0 ++ dktX1_angleText_1
theorem dksX1_angleText_0 : cX1_angleText.data.toList.drop 0 = dktX1_angleText_0 := by decide +kernel
theorem dksX1_angleText_1 : cX1_angleText.data.toList.drop 24 = dktX1_angleText_1 := dk_seg dksX1_angleText_0 24 rfl rfl
theorem dksX1_angleText_2 : cX1_angleText.data.toList.drop 48 = dktX1_angleText_2 := dk_seg dksX1_angleText_1 24 rfl rfl
theorem dX1_angleText_0 : decode cX1_angleText 0 = .ok (.aload_n 0, 1) := dk_42 (dk_at dksX1_angleText_0 0 rfl rfl)
theorem dX1_angleText_1 : decode cX1_angleText 1 = .ok (.iload_n 1, 1) := dk_27 (dk_at dksX1_angleText_0 1 rfl rfl)
theorem dX1_angleText_2 : decode cX1_angleText 2 = .ok (.invokevirtual 166, 3) := dk_182 0 166 (dk_at dksX1_angleText_0 2 rfl rfl)
theorem dX1_angleText_5 : decode cX1_angleText 5 = .ok (.dstore_n 2, 1) := dk_73 (dk_at dksX1_angleText_0 5 rfl rfl)
theorem dX1_angleText_6 : decode cX1_angleText 6 = .ok (.new 194, 3) := dk_187 0 194 (dk_at dksX1_angleText_0 6 rfl rfl)
theorem dX1_angleText_9 : decode cX1_angleText 9 = .ok (.dup, 1) := dk_89 (dk_at dksX1_angleText_0 9 rfl rfl)
theorem dX1_angleText_10 : decode cX1_angleText 10 = .ok (.invokespecial 196, 3) := dk_183 0 196 (dk_at dksX1_angleText_0 10 rfl rfl)
theorem dX1_angleText_13 : decode cX1_angleText 13 = .ok (.astore 4, 2) := dk_58 4 (dk_at dksX1_angleText_0 13 rfl rfl)
theorem dX1_angleText_15 : decode cX1_angleText 15 = .ok (.aload 4, 2) := dk_25 4 (dk_at dksX1_angleText_0 15 rfl rfl)
theorem dX1_angleText_17 : decode cX1_angleText 17 = .ok (.dload_n 2, 1) := dk_40 (dk_at dksX1_angleText_0 17 rfl rfl)
theorem dX1_angleText_18 : decode cX1_angleText 18 = .ok (.invokestatic 79, 3) := dk_184 0 79 (dk_at dksX1_angleText_0 18 rfl rfl)
theorem dX1_angleText_21 : decode cX1_angleText 21 = .ok (.invokevirtual 197, 3) := dk_182 0 197 (dk_at dksX1_angleText_0 21 rfl rfl)
theorem dX1_angleText_24 : decode cX1_angleText 24 = .ok (.bipush 32, 2) := dk_16 32 (dk_at dksX1_angleText_1 0 rfl rfl)
theorem dX1_angleText_26 : decode cX1_angleText 26 = .ok (.invokevirtual 201, 3) := dk_182 0 201 (dk_at dksX1_angleText_1 2 rfl rfl)
theorem dX1_angleText_29 : decode cX1_angleText 29 = .ok (.dload_n 2, 1) := dk_40 (dk_at dksX1_angleText_1 5 rfl rfl)
theorem dX1_angleText_30 : decode cX1_angleText 30 = .ok (.invokestatic 63, 3) := dk_184 0 63 (dk_at dksX1_angleText_1 6 rfl rfl)
theorem dX1_angleText_33 : decode cX1_angleText 33 = .ok (.invokevirtual 197, 3) := dk_182 0 197 (dk_at dksX1_angleText_1 9 rfl rfl)
theorem dX1_angleText_36 : decode cX1_angleText 36 = .ok (.bipush 32, 2) := dk_16 32 (dk_at dksX1_angleText_1 12 rfl rfl)
theorem dX1_angleText_38 : decode cX1_angleText 38 = .ok (.invokevirtual 201, 3) := dk_182 0 201 (dk_at dksX1_angleText_1 14 rfl rfl)
theorem dX1_angleText_41 : decode cX1_angleText 41 = .ok (.pop, 1) := dk_87 (dk_at dksX1_angleText_1 17 rfl rfl)
theorem dX1_angleText_42 : decode cX1_angleText 42 = .ok (.aload 4, 2) := dk_25 4 (dk_at dksX1_angleText_1 18 rfl rfl)
theorem dX1_angleText_44 : decode cX1_angleText 44 = .ok (.dload_n 2, 1) := dk_40 (dk_at dksX1_angleText_1 20 rfl rfl)
theorem dX1_angleText_45 : decode cX1_angleText 45 = .ok (.invokestatic 74, 3) := dk_184 0 74 (dk_at dksX1_angleText_1 21 rfl rfl)
theorem dX1_angleText_48 : decode cX1_angleText 48 = .ok (.invokevirtual 204, 3) := dk_182 0 204 (dk_at dksX1_angleText_2 0 rfl rfl)
theorem dX1_angleText_51 : decode cX1_angleText 51 = .ok (.invokevirtual 207, 3) := dk_182 0 207 (dk_at dksX1_angleText_2 3 rfl rfl)
theorem dX1_angleText_54 : decode cX1_angleText 54 = .ok (.areturn, 1) := dk_176 (dk_at dksX1_angleText_2 6 rfl rfl)
abbrev cX1_angleAt : ByteArray := prog_1_method_21_code
def yX1_angleAt : MethodName := ⟨RX1, "angleAt", "(I)D"⟩
def dkwX1_angleAt_0 : List UInt8 := [27, 184, 0, 128, 42, 180, 0, 13, 27, 49, 175]
abbrev dktX1_angleAt_0 : List UInt8 := dkwX1_angleAt_0 ++ []
theorem dksX1_angleAt_0 : cX1_angleAt.data.toList.drop 0 = dktX1_angleAt_0 := by decide +kernel
theorem dX1_angleAt_0 : decode cX1_angleAt 0 = .ok (.iload_n 1, 1) := dk_27 (dk_at dksX1_angleAt_0 0 rfl rfl)
theorem dX1_angleAt_1 : decode cX1_angleAt 1 = .ok (.invokestatic 128, 3) := dk_184 0 128 (dk_at dksX1_angleAt_0 1 rfl rfl)
theorem dX1_angleAt_4 : decode cX1_angleAt 4 = .ok (.aload_n 0, 1) := dk_42 (dk_at dksX1_angleAt_0 4 rfl rfl)
theorem dX1_angleAt_5 : decode cX1_angleAt 5 = .ok (.getfield 13, 3) := dk_180 0 13 (dk_at dksX1_angleAt_0 5 rfl rfl)
theorem dX1_angleAt_8 : decode cX1_angleAt 8 = .ok (.iload_n 1, 1) := dk_27 (dk_at dksX1_angleAt_0 8 rfl rfl)
theorem dX1_angleAt_9 : decode cX1_angleAt 9 = .ok (.daload, 1) := dk_49 (dk_at dksX1_angleAt_0 9 rfl rfl)
theorem dX1_angleAt_10 : decode cX1_angleAt 10 = .ok (.dreturn, 1) := dk_175 (dk_at dksX1_angleAt_0 10 rfl rfl)
abbrev cX1_mustBeCell : ByteArray := prog_1_method_3_code
def yX1_mustBeCell : MethodName := ⟨RX1, "mustBeCell", "(I)V"⟩
def dkwX1_mustBeCell_0 : List UInt8 := [26, 3, 16, 7, 184, 0, 28, 154, 0, 11, 187, 0, 32, 89, 183, 0, 34, 191, 177]
abbrev dktX1_mustBeCell_0 : List UInt8 := dkwX1_mustBeCell_0 ++ []
theorem dksX1_mustBeCell_0 : cX1_mustBeCell.data.toList.drop 0 = dktX1_mustBeCell_0 := by decide +kernel
theorem dX1_mustBeCell_0 : decode cX1_mustBeCell 0 = .ok (.iload_n 0, 1) := dk_26 (dk_at dksX1_mustBeCell_0 0 rfl rfl)
theorem dX1_mustBeCell_1 : decode cX1_mustBeCell 1 = .ok (.iconst 0, 1) := dk_3 (dk_at dksX1_mustBeCell_0 1 rfl rfl)
theorem dX1_mustBeCell_2 : decode cX1_mustBeCell 2 = .ok (.bipush 7, 2) := dk_16 7 (dk_at dksX1_mustBeCell_0 2 rfl rfl)
theorem dX1_mustBeCell_4 : decode cX1_mustBeCell 4 = .ok (.invokestatic 28, 3) := dk_184 0 28 (dk_at dksX1_mustBeCell_0 4 rfl rfl)
theorem dX1_mustBeCell_7 : decode cX1_mustBeCell 7 = .ok (.ifCond .ne 11, 3) := dk_154 0 11 (dk_at dksX1_mustBeCell_0 7 rfl rfl)
theorem dX1_mustBeCell_10 : decode cX1_mustBeCell 10 = .ok (.new 32, 3) := dk_187 0 32 (dk_at dksX1_mustBeCell_0 10 rfl rfl)
theorem dX1_mustBeCell_13 : decode cX1_mustBeCell 13 = .ok (.dup, 1) := dk_89 (dk_at dksX1_mustBeCell_0 13 rfl rfl)
theorem dX1_mustBeCell_14 : decode cX1_mustBeCell 14 = .ok (.invokespecial 34, 3) := dk_183 0 34 (dk_at dksX1_mustBeCell_0 14 rfl rfl)
theorem dX1_mustBeCell_17 : decode cX1_mustBeCell 17 = .ok (.athrow, 1) := dk_191 (dk_at dksX1_mustBeCell_0 17 rfl rfl)
theorem dX1_mustBeCell_18 : decode cX1_mustBeCell 18 = .ok (.return_, 1) := dk_177 (dk_at dksX1_mustBeCell_0 18 rfl rfl)
abbrev cX1_angleUpper : ByteArray := prog_1_method_34_code
def yX1_angleUpper : MethodName := ⟨RX1, "angleUpper", "(I)I"⟩
def dkwX1_angleUpper_0 : List UInt8 := [42, 27, 182, 0, 166, 184, 0, 48, 16, 32, 123, 136, 172]
abbrev dktX1_angleUpper_0 : List UInt8 := dkwX1_angleUpper_0 ++ []
theorem dksX1_angleUpper_0 : cX1_angleUpper.data.toList.drop 0 = dktX1_angleUpper_0 := by decide +kernel
theorem dX1_angleUpper_0 : decode cX1_angleUpper 0 = .ok (.aload_n 0, 1) := dk_42 (dk_at dksX1_angleUpper_0 0 rfl rfl)
theorem dX1_angleUpper_1 : decode cX1_angleUpper 1 = .ok (.iload_n 1, 1) := dk_27 (dk_at dksX1_angleUpper_0 1 rfl rfl)
theorem dX1_angleUpper_2 : decode cX1_angleUpper 2 = .ok (.invokevirtual 166, 3) := dk_182 0 166 (dk_at dksX1_angleUpper_0 2 rfl rfl)
theorem dX1_angleUpper_5 : decode cX1_angleUpper 5 = .ok (.invokestatic 48, 3) := dk_184 0 48 (dk_at dksX1_angleUpper_0 5 rfl rfl)
theorem dX1_angleUpper_8 : decode cX1_angleUpper 8 = .ok (.bipush 32, 2) := dk_16 32 (dk_at dksX1_angleUpper_0 8 rfl rfl)
theorem dX1_angleUpper_10 : decode cX1_angleUpper 10 = .ok (.lshr, 1) := dk_123 (dk_at dksX1_angleUpper_0 10 rfl rfl)
theorem dX1_angleUpper_11 : decode cX1_angleUpper 11 = .ok (.l2i, 1) := dk_136 (dk_at dksX1_angleUpper_0 11 rfl rfl)
theorem dX1_angleUpper_12 : decode cX1_angleUpper 12 = .ok (.ireturn, 1) := dk_172 (dk_at dksX1_angleUpper_0 12 rfl rfl)
abbrev cX1_whole : ByteArray := prog_1_method_55_code
def yX1_whole : MethodName := ⟨RX1, "whole", "(I)I"⟩
def dkwX1_whole_0 : List UInt8 := [42, 27, 182, 0, 253, 16, 70, 184, 0, 98, 16, 70, 182, 1, 6, 182, 1, 9, 172]
abbrev dktX1_whole_0 : List UInt8 := dkwX1_whole_0 ++ []
theorem dksX1_whole_0 : cX1_whole.data.toList.drop 0 = dktX1_whole_0 := by decide +kernel
theorem dX1_whole_0 : decode cX1_whole 0 = .ok (.aload_n 0, 1) := dk_42 (dk_at dksX1_whole_0 0 rfl rfl)
theorem dX1_whole_1 : decode cX1_whole 1 = .ok (.iload_n 1, 1) := dk_27 (dk_at dksX1_whole_0 1 rfl rfl)
theorem dX1_whole_2 : decode cX1_whole 2 = .ok (.invokevirtual 253, 3) := dk_182 0 253 (dk_at dksX1_whole_0 2 rfl rfl)
theorem dX1_whole_5 : decode cX1_whole 5 = .ok (.bipush 70, 2) := dk_16 70 (dk_at dksX1_whole_0 5 rfl rfl)
theorem dX1_whole_7 : decode cX1_whole 7 = .ok (.invokestatic 98, 3) := dk_184 0 98 (dk_at dksX1_whole_0 7 rfl rfl)
theorem dX1_whole_10 : decode cX1_whole 10 = .ok (.bipush 70, 2) := dk_16 70 (dk_at dksX1_whole_0 10 rfl rfl)
theorem dX1_whole_12 : decode cX1_whole 12 = .ok (.invokevirtual 262, 3) := dk_182 1 6 (dk_at dksX1_whole_0 12 rfl rfl)
theorem dX1_whole_15 : decode cX1_whole 15 = .ok (.invokevirtual 265, 3) := dk_182 1 9 (dk_at dksX1_whole_0 15 rfl rfl)
theorem dX1_whole_18 : decode cX1_whole 18 = .ok (.ireturn, 1) := dk_172 (dk_at dksX1_whole_0 18 rfl rfl)
abbrev cX1_heightAt : ByteArray := prog_1_method_44_code
def yX1_heightAt : MethodName := ⟨RX1, "heightAt", "(I)D"⟩
def dkwX1_heightAt_0 : List UInt8 := [27, 184, 0, 128, 42, 180, 0, 17, 27, 49, 175]
abbrev dktX1_heightAt_0 : List UInt8 := dkwX1_heightAt_0 ++ []
theorem dksX1_heightAt_0 : cX1_heightAt.data.toList.drop 0 = dktX1_heightAt_0 := by decide +kernel
theorem dX1_heightAt_0 : decode cX1_heightAt 0 = .ok (.iload_n 1, 1) := dk_27 (dk_at dksX1_heightAt_0 0 rfl rfl)
theorem dX1_heightAt_1 : decode cX1_heightAt 1 = .ok (.invokestatic 128, 3) := dk_184 0 128 (dk_at dksX1_heightAt_0 1 rfl rfl)
theorem dX1_heightAt_4 : decode cX1_heightAt 4 = .ok (.aload_n 0, 1) := dk_42 (dk_at dksX1_heightAt_0 4 rfl rfl)
theorem dX1_heightAt_5 : decode cX1_heightAt 5 = .ok (.getfield 17, 3) := dk_180 0 17 (dk_at dksX1_heightAt_0 5 rfl rfl)
theorem dX1_heightAt_8 : decode cX1_heightAt 8 = .ok (.iload_n 1, 1) := dk_27 (dk_at dksX1_heightAt_0 8 rfl rfl)
theorem dX1_heightAt_9 : decode cX1_heightAt 9 = .ok (.daload, 1) := dk_49 (dk_at dksX1_heightAt_0 9 rfl rfl)
theorem dX1_heightAt_10 : decode cX1_heightAt 10 = .ok (.dreturn, 1) := dk_175 (dk_at dksX1_heightAt_0 10 rfl rfl)
abbrev cX1_steps : ByteArray := prog_1_method_56_code
def yX1_steps : MethodName := ⟨RX1, "steps", "(II)I"⟩
def dkwX1_steps_1 : List UInt8 := [28, 100, 182, 1, 6, 182, 1, 9, 4, 28, 120, 4, 100, 126, 172]
abbrev dktX1_steps_1 : List UInt8 := dkwX1_steps_1 ++ []
def dkwX1_steps_0 : List UInt8 := [42, 27, 182, 0, 253, 74, 28, 3, 16, 30, 184, 0, 28, 184, 0, 154, 41, 16, 70, 184, 0, 98, 16, 70]
abbrev dktX1_steps_0 : List UInt8 := dkwX1_steps_0 ++ dktX1_steps_1
theorem dksX1_steps_0 : cX1_steps.data.toList.drop 0 = dktX1_steps_0 := by decide +kernel
theorem dksX1_steps_1 : cX1_steps.data.toList.drop 24 = dktX1_steps_1 := dk_seg dksX1_steps_0 24 rfl rfl
theorem dX1_steps_0 : decode cX1_steps 0 = .ok (.aload_n 0, 1) := dk_42 (dk_at dksX1_steps_0 0 rfl rfl)
theorem dX1_steps_1 : decode cX1_steps 1 = .ok (.iload_n 1, 1) := dk_27 (dk_at dksX1_steps_0 1 rfl rfl)
theorem dX1_steps_2 : decode cX1_steps 2 = .ok (.invokevirtual 253, 3) := dk_182 0 253 (dk_at dksX1_steps_0 2 rfl rfl)
theorem dX1_steps_5 : decode cX1_steps 5 = .ok (.dstore_n 3, 1) := dk_74 (dk_at dksX1_steps_0 5 rfl rfl)
theorem dX1_steps_6 : decode cX1_steps 6 = .ok (.iload_n 2, 1) := dk_28 (dk_at dksX1_steps_0 6 rfl rfl)
theorem dX1_steps_7 : decode cX1_steps 7 = .ok (.iconst 0, 1) := dk_3 (dk_at dksX1_steps_0 7 rfl rfl)
theorem dX1_steps_8 : decode cX1_steps 8 = .ok (.bipush 30, 2) := dk_16 30 (dk_at dksX1_steps_0 8 rfl rfl)
theorem dX1_steps_10 : decode cX1_steps 10 = .ok (.invokestatic 28, 3) := dk_184 0 28 (dk_at dksX1_steps_0 10 rfl rfl)
theorem dX1_steps_13 : decode cX1_steps 13 = .ok (.invokestatic 154, 3) := dk_184 0 154 (dk_at dksX1_steps_0 13 rfl rfl)
theorem dX1_steps_16 : decode cX1_steps 16 = .ok (.dload_n 3, 1) := dk_41 (dk_at dksX1_steps_0 16 rfl rfl)
theorem dX1_steps_17 : decode cX1_steps 17 = .ok (.bipush 70, 2) := dk_16 70 (dk_at dksX1_steps_0 17 rfl rfl)
theorem dX1_steps_19 : decode cX1_steps 19 = .ok (.invokestatic 98, 3) := dk_184 0 98 (dk_at dksX1_steps_0 19 rfl rfl)
theorem dX1_steps_22 : decode cX1_steps 22 = .ok (.bipush 70, 2) := dk_16 70 (dk_at dksX1_steps_0 22 rfl rfl)
theorem dX1_steps_24 : decode cX1_steps 24 = .ok (.iload_n 2, 1) := dk_28 (dk_at dksX1_steps_1 0 rfl rfl)
theorem dX1_steps_25 : decode cX1_steps 25 = .ok (.isub, 1) := dk_100 (dk_at dksX1_steps_1 1 rfl rfl)
theorem dX1_steps_26 : decode cX1_steps 26 = .ok (.invokevirtual 262, 3) := dk_182 1 6 (dk_at dksX1_steps_1 2 rfl rfl)
theorem dX1_steps_29 : decode cX1_steps 29 = .ok (.invokevirtual 265, 3) := dk_182 1 9 (dk_at dksX1_steps_1 5 rfl rfl)
theorem dX1_steps_32 : decode cX1_steps 32 = .ok (.iconst 1, 1) := dk_4 (dk_at dksX1_steps_1 8 rfl rfl)
theorem dX1_steps_33 : decode cX1_steps 33 = .ok (.iload_n 2, 1) := dk_28 (dk_at dksX1_steps_1 9 rfl rfl)
theorem dX1_steps_34 : decode cX1_steps 34 = .ok (.ishl, 1) := dk_120 (dk_at dksX1_steps_1 10 rfl rfl)
theorem dX1_steps_35 : decode cX1_steps 35 = .ok (.iconst 1, 1) := dk_4 (dk_at dksX1_steps_1 11 rfl rfl)
theorem dX1_steps_36 : decode cX1_steps 36 = .ok (.isub, 1) := dk_100 (dk_at dksX1_steps_1 12 rfl rfl)
theorem dX1_steps_37 : decode cX1_steps 37 = .ok (.iand, 1) := dk_126 (dk_at dksX1_steps_1 13 rfl rfl)
theorem dX1_steps_38 : decode cX1_steps 38 = .ok (.ireturn, 1) := dk_172 (dk_at dksX1_steps_1 14 rfl rfl)
abbrev cX1_mustFit : ByteArray := prog_1_method_4_code
def yX1_mustFit : MethodName := ⟨RX1, "mustFit", "(Z)V"⟩
def dkwX1_mustFit_0 : List UInt8 := [26, 154, 0, 11, 187, 0, 35, 89, 183, 0, 37, 191, 177]
abbrev dktX1_mustFit_0 : List UInt8 := dkwX1_mustFit_0 ++ []
theorem dksX1_mustFit_0 : cX1_mustFit.data.toList.drop 0 = dktX1_mustFit_0 := by decide +kernel
theorem dX1_mustFit_0 : decode cX1_mustFit 0 = .ok (.iload_n 0, 1) := dk_26 (dk_at dksX1_mustFit_0 0 rfl rfl)
theorem dX1_mustFit_1 : decode cX1_mustFit 1 = .ok (.ifCond .ne 11, 3) := dk_154 0 11 (dk_at dksX1_mustFit_0 1 rfl rfl)
theorem dX1_mustFit_4 : decode cX1_mustFit 4 = .ok (.new 35, 3) := dk_187 0 35 (dk_at dksX1_mustFit_0 4 rfl rfl)
theorem dX1_mustFit_7 : decode cX1_mustFit 7 = .ok (.dup, 1) := dk_89 (dk_at dksX1_mustFit_0 7 rfl rfl)
theorem dX1_mustFit_8 : decode cX1_mustFit 8 = .ok (.invokespecial 37, 3) := dk_183 0 37 (dk_at dksX1_mustFit_0 8 rfl rfl)
theorem dX1_mustFit_11 : decode cX1_mustFit 11 = .ok (.athrow, 1) := dk_191 (dk_at dksX1_mustFit_0 11 rfl rfl)
theorem dX1_mustFit_12 : decode cX1_mustFit 12 = .ok (.return_, 1) := dk_177 (dk_at dksX1_mustFit_0 12 rfl rfl)
abbrev cX1_upper : ByteArray := prog_1_method_57_code
def yX1_upper : MethodName := ⟨RX1, "upper", "(I)I"⟩
def dkwX1_upper_0 : List UInt8 := [42, 27, 182, 0, 253, 184, 0, 48, 16, 32, 123, 136, 172]
abbrev dktX1_upper_0 : List UInt8 := dkwX1_upper_0 ++ []
theorem dksX1_upper_0 : cX1_upper.data.toList.drop 0 = dktX1_upper_0 := by decide +kernel
theorem dX1_upper_0 : decode cX1_upper 0 = .ok (.aload_n 0, 1) := dk_42 (dk_at dksX1_upper_0 0 rfl rfl)
theorem dX1_upper_1 : decode cX1_upper 1 = .ok (.iload_n 1, 1) := dk_27 (dk_at dksX1_upper_0 1 rfl rfl)
theorem dX1_upper_2 : decode cX1_upper 2 = .ok (.invokevirtual 253, 3) := dk_182 0 253 (dk_at dksX1_upper_0 2 rfl rfl)
theorem dX1_upper_5 : decode cX1_upper 5 = .ok (.invokestatic 48, 3) := dk_184 0 48 (dk_at dksX1_upper_0 5 rfl rfl)
theorem dX1_upper_8 : decode cX1_upper 8 = .ok (.bipush 32, 2) := dk_16 32 (dk_at dksX1_upper_0 8 rfl rfl)
theorem dX1_upper_10 : decode cX1_upper 10 = .ok (.lshr, 1) := dk_123 (dk_at dksX1_upper_0 10 rfl rfl)
theorem dX1_upper_11 : decode cX1_upper 11 = .ok (.l2i, 1) := dk_136 (dk_at dksX1_upper_0 11 rfl rfl)
theorem dX1_upper_12 : decode cX1_upper 12 = .ok (.ireturn, 1) := dk_172 (dk_at dksX1_upper_0 12 rfl rfl)
abbrev cX1_house : ByteArray := prog_1_method_85_code
def yX1_house : MethodName := ⟨RX1, "house", "(I)I"⟩
def dkwX1_house_2 : List UInt8 := [42, 180, 0, 132, 172, 42, 180, 0, 243, 172, 42, 180, 0, 38, 172, 42, 180, 1, 60, 172]
abbrev dktX1_house_2 : List UInt8 := dkwX1_house_2 ++ []
def dkwX1_house_1 : List UInt8 := [170, 0, 0, 0, 0, 41, 0, 0, 0, 0, 0, 0, 0, 2, 0, 0, 0, 26, 0, 0, 0, 31, 0, 0, 0, 36]
abbrev dktX1_house_1 : List UInt8 := dkwX1_house_1 ++ dktX1_house_2
def dkwX1_house_0 : List UInt8 := [27, 3, 6, 184, 0, 28, 184, 0, 154, 27]
abbrev dktX1_house_0 : List UInt8 := dkwX1_house_0 ++ dktX1_house_1
theorem dksX1_house_0 : cX1_house.data.toList.drop 0 = dktX1_house_0 := by decide +kernel
theorem dksX1_house_1 : cX1_house.data.toList.drop 10 = dktX1_house_1 := dk_seg dksX1_house_0 10 rfl rfl
theorem dksX1_house_2 : cX1_house.data.toList.drop 36 = dktX1_house_2 := dk_seg dksX1_house_1 26 rfl rfl
theorem dX1_house_0 : decode cX1_house 0 = .ok (.iload_n 1, 1) := dk_27 (dk_at dksX1_house_0 0 rfl rfl)
theorem dX1_house_1 : decode cX1_house 1 = .ok (.iconst 0, 1) := dk_3 (dk_at dksX1_house_0 1 rfl rfl)
theorem dX1_house_2 : decode cX1_house 2 = .ok (.iconst 3, 1) := dk_6 (dk_at dksX1_house_0 2 rfl rfl)
theorem dX1_house_3 : decode cX1_house 3 = .ok (.invokestatic 28, 3) := dk_184 0 28 (dk_at dksX1_house_0 3 rfl rfl)
theorem dX1_house_6 : decode cX1_house 6 = .ok (.invokestatic 154, 3) := dk_184 0 154 (dk_at dksX1_house_0 6 rfl rfl)
theorem dX1_house_9 : decode cX1_house 9 = .ok (.iload_n 1, 1) := dk_27 (dk_at dksX1_house_0 9 rfl rfl)
theorem dX1_house_10 : decode cX1_house 10 = .ok (.tableswitch 41 0 2 #[26, 31, 36], 26) := by decide +kernel
theorem dX1_house_36 : decode cX1_house 36 = .ok (.aload_n 0, 1) := dk_42 (dk_at dksX1_house_2 0 rfl rfl)
theorem dX1_house_37 : decode cX1_house 37 = .ok (.getfield 132, 3) := dk_180 0 132 (dk_at dksX1_house_2 1 rfl rfl)
theorem dX1_house_40 : decode cX1_house 40 = .ok (.ireturn, 1) := dk_172 (dk_at dksX1_house_2 4 rfl rfl)
theorem dX1_house_41 : decode cX1_house 41 = .ok (.aload_n 0, 1) := dk_42 (dk_at dksX1_house_2 5 rfl rfl)
theorem dX1_house_42 : decode cX1_house 42 = .ok (.getfield 243, 3) := dk_180 0 243 (dk_at dksX1_house_2 6 rfl rfl)
theorem dX1_house_45 : decode cX1_house 45 = .ok (.ireturn, 1) := dk_172 (dk_at dksX1_house_2 9 rfl rfl)
theorem dX1_house_46 : decode cX1_house 46 = .ok (.aload_n 0, 1) := dk_42 (dk_at dksX1_house_2 10 rfl rfl)
theorem dX1_house_47 : decode cX1_house 47 = .ok (.getfield 38, 3) := dk_180 0 38 (dk_at dksX1_house_2 11 rfl rfl)
theorem dX1_house_50 : decode cX1_house 50 = .ok (.ireturn, 1) := dk_172 (dk_at dksX1_house_2 14 rfl rfl)
theorem dX1_house_51 : decode cX1_house 51 = .ok (.aload_n 0, 1) := dk_42 (dk_at dksX1_house_2 15 rfl rfl)
theorem dX1_house_52 : decode cX1_house 52 = .ok (.getfield 316, 3) := dk_180 1 60 (dk_at dksX1_house_2 16 rfl rfl)
theorem dX1_house_55 : decode cX1_house 55 = .ok (.ireturn, 1) := dk_172 (dk_at dksX1_house_2 19 rfl rfl)
abbrev cX1_digest : ByteArray := prog_1_method_92_code
def yX1_digest : MethodName := ⟨RX1, "digest", "()J"⟩
def dkwX1_digest_9 : List UInt8 := [182, 1, 111, 184, 0, 57, 133, 184, 1, 78, 173]
abbrev dktX1_digest_9 : List UInt8 := dkwX1_digest_9 ++ []
def dkwX1_digest_8 : List UInt8 := [162, 0, 20, 31, 42, 29, 182, 1, 108, 133, 184, 1, 78, 64, 132, 3, 1, 167, 255, 237, 31, 42]
abbrev dktX1_digest_8 : List UInt8 := dkwX1_digest_8 ++ dktX1_digest_9
def dkwX1_digest_7 : List UInt8 := [182, 1, 105, 133, 184, 1, 78, 64, 132, 4, 1, 167, 255, 221, 132, 3, 1, 167, 255, 204, 3, 62, 29, 7]
abbrev dktX1_digest_7 : List UInt8 := dkwX1_digest_7 ++ dktX1_digest_8
def dkwX1_digest_6 : List UInt8 := [21, 4, 16, 8, 162, 0, 34, 31, 42, 29, 21, 4, 3, 182, 1, 101, 133, 184, 1, 78, 42, 29, 21, 4]
abbrev dktX1_digest_6 : List UInt8 := dkwX1_digest_6 ++ dktX1_digest_7
def dkwX1_digest_5 : List UInt8 := [184, 1, 78, 64, 132, 3, 1, 167, 255, 194, 3, 62, 29, 16, 8, 162, 0, 52, 29, 4, 96, 54, 4]
abbrev dktX1_digest_5 : List UInt8 := dkwX1_digest_5 ++ dktX1_digest_6
def dkwX1_digest_4 : List UInt8 := [133, 184, 1, 78, 64, 31, 42, 29, 3, 182, 1, 98, 133, 184, 1, 78, 42, 29, 4, 182, 1, 98, 133]
abbrev dktX1_digest_4 : List UInt8 := dkwX1_digest_4 ++ dktX1_digest_5
def dkwX1_digest_3 : List UInt8 := [29, 182, 1, 88, 133, 184, 1, 78, 42, 29, 16, 30, 182, 1, 91, 133, 184, 1, 78, 42, 29, 182, 1, 95]
abbrev dktX1_digest_3 : List UInt8 := dkwX1_digest_3 ++ dktX1_digest_4
def dkwX1_digest_2 : List UInt8 := [182, 1, 85, 133, 184, 1, 78, 64, 132, 3, 1, 167, 255, 205, 3, 62, 29, 16, 8, 162, 0, 62, 31, 42]
abbrev dktX1_digest_2 : List UInt8 := dkwX1_digest_2 ++ dktX1_digest_3
def dkwX1_digest_1 : List UInt8 := [3, 182, 1, 81, 133, 184, 1, 78, 64, 31, 42, 29, 4, 182, 1, 81, 133, 184, 1, 78, 42, 29]
abbrev dktX1_digest_1 : List UInt8 := dkwX1_digest_1 ++ dktX1_digest_2
def dkwX1_digest_0 : List UInt8 := [20, 1, 73, 64, 3, 62, 29, 16, 8, 162, 0, 51, 31, 42, 29, 182, 1, 75, 133, 184, 1, 78, 42, 29]
abbrev dktX1_digest_0 : List UInt8 := dkwX1_digest_0 ++ dktX1_digest_1
theorem dksX1_digest_0 : cX1_digest.data.toList.drop 0 = dktX1_digest_0 := by decide +kernel
theorem dksX1_digest_1 : cX1_digest.data.toList.drop 24 = dktX1_digest_1 := dk_seg dksX1_digest_0 24 rfl rfl
theorem dksX1_digest_2 : cX1_digest.data.toList.drop 46 = dktX1_digest_2 := dk_seg dksX1_digest_1 22 rfl rfl
theorem dksX1_digest_3 : cX1_digest.data.toList.drop 70 = dktX1_digest_3 := dk_seg dksX1_digest_2 24 rfl rfl
theorem dksX1_digest_4 : cX1_digest.data.toList.drop 94 = dktX1_digest_4 := dk_seg dksX1_digest_3 24 rfl rfl
theorem dksX1_digest_5 : cX1_digest.data.toList.drop 117 = dktX1_digest_5 := dk_seg dksX1_digest_4 23 rfl rfl
theorem dksX1_digest_6 : cX1_digest.data.toList.drop 140 = dktX1_digest_6 := dk_seg dksX1_digest_5 23 rfl rfl
theorem dksX1_digest_7 : cX1_digest.data.toList.drop 164 = dktX1_digest_7 := dk_seg dksX1_digest_6 24 rfl rfl
theorem dksX1_digest_8 : cX1_digest.data.toList.drop 188 = dktX1_digest_8 := dk_seg dksX1_digest_7 24 rfl rfl
theorem dksX1_digest_9 : cX1_digest.data.toList.drop 210 = dktX1_digest_9 := dk_seg dksX1_digest_8 22 rfl rfl
theorem dX1_digest_0 : decode cX1_digest 0 = .ok (.ldc2_w 329, 3) := dk_20 1 73 (dk_at dksX1_digest_0 0 rfl rfl)
theorem dX1_digest_3 : decode cX1_digest 3 = .ok (.lstore_n 1, 1) := dk_64 (dk_at dksX1_digest_0 3 rfl rfl)
theorem dX1_digest_4 : decode cX1_digest 4 = .ok (.iconst 0, 1) := dk_3 (dk_at dksX1_digest_0 4 rfl rfl)
theorem dX1_digest_5 : decode cX1_digest 5 = .ok (.istore_n 3, 1) := dk_62 (dk_at dksX1_digest_0 5 rfl rfl)
theorem dX1_digest_6 : decode cX1_digest 6 = .ok (.iload_n 3, 1) := dk_29 (dk_at dksX1_digest_0 6 rfl rfl)
theorem dX1_digest_7 : decode cX1_digest 7 = .ok (.bipush 8, 2) := dk_16 8 (dk_at dksX1_digest_0 7 rfl rfl)
theorem dX1_digest_9 : decode cX1_digest 9 = .ok (.if_icmp .ge 51, 3) := dk_162 0 51 (dk_at dksX1_digest_0 9 rfl rfl)
theorem dX1_digest_12 : decode cX1_digest 12 = .ok (.lload_n 1, 1) := dk_31 (dk_at dksX1_digest_0 12 rfl rfl)
theorem dX1_digest_13 : decode cX1_digest 13 = .ok (.aload_n 0, 1) := dk_42 (dk_at dksX1_digest_0 13 rfl rfl)
theorem dX1_digest_14 : decode cX1_digest 14 = .ok (.iload_n 3, 1) := dk_29 (dk_at dksX1_digest_0 14 rfl rfl)
theorem dX1_digest_15 : decode cX1_digest 15 = .ok (.invokevirtual 331, 3) := dk_182 1 75 (dk_at dksX1_digest_0 15 rfl rfl)
theorem dX1_digest_18 : decode cX1_digest 18 = .ok (.i2l, 1) := dk_133 (dk_at dksX1_digest_0 18 rfl rfl)
theorem dX1_digest_19 : decode cX1_digest 19 = .ok (.invokestatic 334, 3) := dk_184 1 78 (dk_at dksX1_digest_0 19 rfl rfl)
theorem dX1_digest_22 : decode cX1_digest 22 = .ok (.aload_n 0, 1) := dk_42 (dk_at dksX1_digest_0 22 rfl rfl)
theorem dX1_digest_23 : decode cX1_digest 23 = .ok (.iload_n 3, 1) := dk_29 (dk_at dksX1_digest_0 23 rfl rfl)
theorem dX1_digest_24 : decode cX1_digest 24 = .ok (.iconst 0, 1) := dk_3 (dk_at dksX1_digest_1 0 rfl rfl)
theorem dX1_digest_25 : decode cX1_digest 25 = .ok (.invokevirtual 337, 3) := dk_182 1 81 (dk_at dksX1_digest_1 1 rfl rfl)
theorem dX1_digest_28 : decode cX1_digest 28 = .ok (.i2l, 1) := dk_133 (dk_at dksX1_digest_1 4 rfl rfl)
theorem dX1_digest_29 : decode cX1_digest 29 = .ok (.invokestatic 334, 3) := dk_184 1 78 (dk_at dksX1_digest_1 5 rfl rfl)
theorem dX1_digest_32 : decode cX1_digest 32 = .ok (.lstore_n 1, 1) := dk_64 (dk_at dksX1_digest_1 8 rfl rfl)
theorem dX1_digest_33 : decode cX1_digest 33 = .ok (.lload_n 1, 1) := dk_31 (dk_at dksX1_digest_1 9 rfl rfl)
theorem dX1_digest_34 : decode cX1_digest 34 = .ok (.aload_n 0, 1) := dk_42 (dk_at dksX1_digest_1 10 rfl rfl)
theorem dX1_digest_35 : decode cX1_digest 35 = .ok (.iload_n 3, 1) := dk_29 (dk_at dksX1_digest_1 11 rfl rfl)
theorem dX1_digest_36 : decode cX1_digest 36 = .ok (.iconst 1, 1) := dk_4 (dk_at dksX1_digest_1 12 rfl rfl)
theorem dX1_digest_37 : decode cX1_digest 37 = .ok (.invokevirtual 337, 3) := dk_182 1 81 (dk_at dksX1_digest_1 13 rfl rfl)
theorem dX1_digest_40 : decode cX1_digest 40 = .ok (.i2l, 1) := dk_133 (dk_at dksX1_digest_1 16 rfl rfl)
theorem dX1_digest_41 : decode cX1_digest 41 = .ok (.invokestatic 334, 3) := dk_184 1 78 (dk_at dksX1_digest_1 17 rfl rfl)
theorem dX1_digest_44 : decode cX1_digest 44 = .ok (.aload_n 0, 1) := dk_42 (dk_at dksX1_digest_1 20 rfl rfl)
theorem dX1_digest_45 : decode cX1_digest 45 = .ok (.iload_n 3, 1) := dk_29 (dk_at dksX1_digest_1 21 rfl rfl)
theorem dX1_digest_46 : decode cX1_digest 46 = .ok (.invokevirtual 341, 3) := dk_182 1 85 (dk_at dksX1_digest_2 0 rfl rfl)
theorem dX1_digest_49 : decode cX1_digest 49 = .ok (.i2l, 1) := dk_133 (dk_at dksX1_digest_2 3 rfl rfl)
theorem dX1_digest_50 : decode cX1_digest 50 = .ok (.invokestatic 334, 3) := dk_184 1 78 (dk_at dksX1_digest_2 4 rfl rfl)
theorem dX1_digest_53 : decode cX1_digest 53 = .ok (.lstore_n 1, 1) := dk_64 (dk_at dksX1_digest_2 7 rfl rfl)
theorem dX1_digest_54 : decode cX1_digest 54 = .ok (.iinc 3 1, 3) := dk_132 3 1 (dk_at dksX1_digest_2 8 rfl rfl)
theorem dX1_digest_57 : decode cX1_digest 57 = .ok (.goto (-51), 3) := dk_167 255 205 (dk_at dksX1_digest_2 11 rfl rfl)
theorem dX1_digest_60 : decode cX1_digest 60 = .ok (.iconst 0, 1) := dk_3 (dk_at dksX1_digest_2 14 rfl rfl)
theorem dX1_digest_61 : decode cX1_digest 61 = .ok (.istore_n 3, 1) := dk_62 (dk_at dksX1_digest_2 15 rfl rfl)
theorem dX1_digest_62 : decode cX1_digest 62 = .ok (.iload_n 3, 1) := dk_29 (dk_at dksX1_digest_2 16 rfl rfl)
theorem dX1_digest_63 : decode cX1_digest 63 = .ok (.bipush 8, 2) := dk_16 8 (dk_at dksX1_digest_2 17 rfl rfl)
theorem dX1_digest_65 : decode cX1_digest 65 = .ok (.if_icmp .ge 62, 3) := dk_162 0 62 (dk_at dksX1_digest_2 19 rfl rfl)
theorem dX1_digest_68 : decode cX1_digest 68 = .ok (.lload_n 1, 1) := dk_31 (dk_at dksX1_digest_2 22 rfl rfl)
theorem dX1_digest_69 : decode cX1_digest 69 = .ok (.aload_n 0, 1) := dk_42 (dk_at dksX1_digest_2 23 rfl rfl)
theorem dX1_digest_70 : decode cX1_digest 70 = .ok (.iload_n 3, 1) := dk_29 (dk_at dksX1_digest_3 0 rfl rfl)
theorem dX1_digest_71 : decode cX1_digest 71 = .ok (.invokevirtual 344, 3) := dk_182 1 88 (dk_at dksX1_digest_3 1 rfl rfl)
theorem dX1_digest_74 : decode cX1_digest 74 = .ok (.i2l, 1) := dk_133 (dk_at dksX1_digest_3 4 rfl rfl)
theorem dX1_digest_75 : decode cX1_digest 75 = .ok (.invokestatic 334, 3) := dk_184 1 78 (dk_at dksX1_digest_3 5 rfl rfl)
theorem dX1_digest_78 : decode cX1_digest 78 = .ok (.aload_n 0, 1) := dk_42 (dk_at dksX1_digest_3 8 rfl rfl)
theorem dX1_digest_79 : decode cX1_digest 79 = .ok (.iload_n 3, 1) := dk_29 (dk_at dksX1_digest_3 9 rfl rfl)
theorem dX1_digest_80 : decode cX1_digest 80 = .ok (.bipush 30, 2) := dk_16 30 (dk_at dksX1_digest_3 10 rfl rfl)
theorem dX1_digest_82 : decode cX1_digest 82 = .ok (.invokevirtual 347, 3) := dk_182 1 91 (dk_at dksX1_digest_3 12 rfl rfl)
theorem dX1_digest_85 : decode cX1_digest 85 = .ok (.i2l, 1) := dk_133 (dk_at dksX1_digest_3 15 rfl rfl)
theorem dX1_digest_86 : decode cX1_digest 86 = .ok (.invokestatic 334, 3) := dk_184 1 78 (dk_at dksX1_digest_3 16 rfl rfl)
theorem dX1_digest_89 : decode cX1_digest 89 = .ok (.aload_n 0, 1) := dk_42 (dk_at dksX1_digest_3 19 rfl rfl)
theorem dX1_digest_90 : decode cX1_digest 90 = .ok (.iload_n 3, 1) := dk_29 (dk_at dksX1_digest_3 20 rfl rfl)
theorem dX1_digest_91 : decode cX1_digest 91 = .ok (.invokevirtual 351, 3) := dk_182 1 95 (dk_at dksX1_digest_3 21 rfl rfl)
theorem dX1_digest_94 : decode cX1_digest 94 = .ok (.i2l, 1) := dk_133 (dk_at dksX1_digest_4 0 rfl rfl)
theorem dX1_digest_95 : decode cX1_digest 95 = .ok (.invokestatic 334, 3) := dk_184 1 78 (dk_at dksX1_digest_4 1 rfl rfl)
theorem dX1_digest_98 : decode cX1_digest 98 = .ok (.lstore_n 1, 1) := dk_64 (dk_at dksX1_digest_4 4 rfl rfl)
theorem dX1_digest_99 : decode cX1_digest 99 = .ok (.lload_n 1, 1) := dk_31 (dk_at dksX1_digest_4 5 rfl rfl)
theorem dX1_digest_100 : decode cX1_digest 100 = .ok (.aload_n 0, 1) := dk_42 (dk_at dksX1_digest_4 6 rfl rfl)
theorem dX1_digest_101 : decode cX1_digest 101 = .ok (.iload_n 3, 1) := dk_29 (dk_at dksX1_digest_4 7 rfl rfl)
theorem dX1_digest_102 : decode cX1_digest 102 = .ok (.iconst 0, 1) := dk_3 (dk_at dksX1_digest_4 8 rfl rfl)
theorem dX1_digest_103 : decode cX1_digest 103 = .ok (.invokevirtual 354, 3) := dk_182 1 98 (dk_at dksX1_digest_4 9 rfl rfl)
theorem dX1_digest_106 : decode cX1_digest 106 = .ok (.i2l, 1) := dk_133 (dk_at dksX1_digest_4 12 rfl rfl)
theorem dX1_digest_107 : decode cX1_digest 107 = .ok (.invokestatic 334, 3) := dk_184 1 78 (dk_at dksX1_digest_4 13 rfl rfl)
theorem dX1_digest_110 : decode cX1_digest 110 = .ok (.aload_n 0, 1) := dk_42 (dk_at dksX1_digest_4 16 rfl rfl)
theorem dX1_digest_111 : decode cX1_digest 111 = .ok (.iload_n 3, 1) := dk_29 (dk_at dksX1_digest_4 17 rfl rfl)
theorem dX1_digest_112 : decode cX1_digest 112 = .ok (.iconst 1, 1) := dk_4 (dk_at dksX1_digest_4 18 rfl rfl)
theorem dX1_digest_113 : decode cX1_digest 113 = .ok (.invokevirtual 354, 3) := dk_182 1 98 (dk_at dksX1_digest_4 19 rfl rfl)
theorem dX1_digest_116 : decode cX1_digest 116 = .ok (.i2l, 1) := dk_133 (dk_at dksX1_digest_4 22 rfl rfl)
theorem dX1_digest_117 : decode cX1_digest 117 = .ok (.invokestatic 334, 3) := dk_184 1 78 (dk_at dksX1_digest_5 0 rfl rfl)
theorem dX1_digest_120 : decode cX1_digest 120 = .ok (.lstore_n 1, 1) := dk_64 (dk_at dksX1_digest_5 3 rfl rfl)
theorem dX1_digest_121 : decode cX1_digest 121 = .ok (.iinc 3 1, 3) := dk_132 3 1 (dk_at dksX1_digest_5 4 rfl rfl)
theorem dX1_digest_124 : decode cX1_digest 124 = .ok (.goto (-62), 3) := dk_167 255 194 (dk_at dksX1_digest_5 7 rfl rfl)
theorem dX1_digest_127 : decode cX1_digest 127 = .ok (.iconst 0, 1) := dk_3 (dk_at dksX1_digest_5 10 rfl rfl)
theorem dX1_digest_128 : decode cX1_digest 128 = .ok (.istore_n 3, 1) := dk_62 (dk_at dksX1_digest_5 11 rfl rfl)
theorem dX1_digest_129 : decode cX1_digest 129 = .ok (.iload_n 3, 1) := dk_29 (dk_at dksX1_digest_5 12 rfl rfl)
theorem dX1_digest_130 : decode cX1_digest 130 = .ok (.bipush 8, 2) := dk_16 8 (dk_at dksX1_digest_5 13 rfl rfl)
theorem dX1_digest_132 : decode cX1_digest 132 = .ok (.if_icmp .ge 52, 3) := dk_162 0 52 (dk_at dksX1_digest_5 15 rfl rfl)
theorem dX1_digest_135 : decode cX1_digest 135 = .ok (.iload_n 3, 1) := dk_29 (dk_at dksX1_digest_5 18 rfl rfl)
theorem dX1_digest_136 : decode cX1_digest 136 = .ok (.iconst 1, 1) := dk_4 (dk_at dksX1_digest_5 19 rfl rfl)
theorem dX1_digest_137 : decode cX1_digest 137 = .ok (.iadd, 1) := dk_96 (dk_at dksX1_digest_5 20 rfl rfl)
theorem dX1_digest_138 : decode cX1_digest 138 = .ok (.istore 4, 2) := dk_54 4 (dk_at dksX1_digest_5 21 rfl rfl)
theorem dX1_digest_140 : decode cX1_digest 140 = .ok (.iload 4, 2) := dk_21 4 (dk_at dksX1_digest_6 0 rfl rfl)
theorem dX1_digest_142 : decode cX1_digest 142 = .ok (.bipush 8, 2) := dk_16 8 (dk_at dksX1_digest_6 2 rfl rfl)
theorem dX1_digest_144 : decode cX1_digest 144 = .ok (.if_icmp .ge 34, 3) := dk_162 0 34 (dk_at dksX1_digest_6 4 rfl rfl)
theorem dX1_digest_147 : decode cX1_digest 147 = .ok (.lload_n 1, 1) := dk_31 (dk_at dksX1_digest_6 7 rfl rfl)
theorem dX1_digest_148 : decode cX1_digest 148 = .ok (.aload_n 0, 1) := dk_42 (dk_at dksX1_digest_6 8 rfl rfl)
theorem dX1_digest_149 : decode cX1_digest 149 = .ok (.iload_n 3, 1) := dk_29 (dk_at dksX1_digest_6 9 rfl rfl)
theorem dX1_digest_150 : decode cX1_digest 150 = .ok (.iload 4, 2) := dk_21 4 (dk_at dksX1_digest_6 10 rfl rfl)
theorem dX1_digest_152 : decode cX1_digest 152 = .ok (.iconst 0, 1) := dk_3 (dk_at dksX1_digest_6 12 rfl rfl)
theorem dX1_digest_153 : decode cX1_digest 153 = .ok (.invokevirtual 357, 3) := dk_182 1 101 (dk_at dksX1_digest_6 13 rfl rfl)
theorem dX1_digest_156 : decode cX1_digest 156 = .ok (.i2l, 1) := dk_133 (dk_at dksX1_digest_6 16 rfl rfl)
theorem dX1_digest_157 : decode cX1_digest 157 = .ok (.invokestatic 334, 3) := dk_184 1 78 (dk_at dksX1_digest_6 17 rfl rfl)
theorem dX1_digest_160 : decode cX1_digest 160 = .ok (.aload_n 0, 1) := dk_42 (dk_at dksX1_digest_6 20 rfl rfl)
theorem dX1_digest_161 : decode cX1_digest 161 = .ok (.iload_n 3, 1) := dk_29 (dk_at dksX1_digest_6 21 rfl rfl)
theorem dX1_digest_162 : decode cX1_digest 162 = .ok (.iload 4, 2) := dk_21 4 (dk_at dksX1_digest_6 22 rfl rfl)
theorem dX1_digest_164 : decode cX1_digest 164 = .ok (.invokevirtual 361, 3) := dk_182 1 105 (dk_at dksX1_digest_7 0 rfl rfl)
theorem dX1_digest_167 : decode cX1_digest 167 = .ok (.i2l, 1) := dk_133 (dk_at dksX1_digest_7 3 rfl rfl)
theorem dX1_digest_168 : decode cX1_digest 168 = .ok (.invokestatic 334, 3) := dk_184 1 78 (dk_at dksX1_digest_7 4 rfl rfl)
theorem dX1_digest_171 : decode cX1_digest 171 = .ok (.lstore_n 1, 1) := dk_64 (dk_at dksX1_digest_7 7 rfl rfl)
theorem dX1_digest_172 : decode cX1_digest 172 = .ok (.iinc 4 1, 3) := dk_132 4 1 (dk_at dksX1_digest_7 8 rfl rfl)
theorem dX1_digest_175 : decode cX1_digest 175 = .ok (.goto (-35), 3) := dk_167 255 221 (dk_at dksX1_digest_7 11 rfl rfl)
theorem dX1_digest_178 : decode cX1_digest 178 = .ok (.iinc 3 1, 3) := dk_132 3 1 (dk_at dksX1_digest_7 14 rfl rfl)
theorem dX1_digest_181 : decode cX1_digest 181 = .ok (.goto (-52), 3) := dk_167 255 204 (dk_at dksX1_digest_7 17 rfl rfl)
theorem dX1_digest_184 : decode cX1_digest 184 = .ok (.iconst 0, 1) := dk_3 (dk_at dksX1_digest_7 20 rfl rfl)
theorem dX1_digest_185 : decode cX1_digest 185 = .ok (.istore_n 3, 1) := dk_62 (dk_at dksX1_digest_7 21 rfl rfl)
theorem dX1_digest_186 : decode cX1_digest 186 = .ok (.iload_n 3, 1) := dk_29 (dk_at dksX1_digest_7 22 rfl rfl)
theorem dX1_digest_187 : decode cX1_digest 187 = .ok (.iconst 4, 1) := dk_7 (dk_at dksX1_digest_7 23 rfl rfl)
theorem dX1_digest_188 : decode cX1_digest 188 = .ok (.if_icmp .ge 20, 3) := dk_162 0 20 (dk_at dksX1_digest_8 0 rfl rfl)
theorem dX1_digest_191 : decode cX1_digest 191 = .ok (.lload_n 1, 1) := dk_31 (dk_at dksX1_digest_8 3 rfl rfl)
theorem dX1_digest_192 : decode cX1_digest 192 = .ok (.aload_n 0, 1) := dk_42 (dk_at dksX1_digest_8 4 rfl rfl)
theorem dX1_digest_193 : decode cX1_digest 193 = .ok (.iload_n 3, 1) := dk_29 (dk_at dksX1_digest_8 5 rfl rfl)
theorem dX1_digest_194 : decode cX1_digest 194 = .ok (.invokevirtual 364, 3) := dk_182 1 108 (dk_at dksX1_digest_8 6 rfl rfl)
theorem dX1_digest_197 : decode cX1_digest 197 = .ok (.i2l, 1) := dk_133 (dk_at dksX1_digest_8 9 rfl rfl)
theorem dX1_digest_198 : decode cX1_digest 198 = .ok (.invokestatic 334, 3) := dk_184 1 78 (dk_at dksX1_digest_8 10 rfl rfl)
theorem dX1_digest_201 : decode cX1_digest 201 = .ok (.lstore_n 1, 1) := dk_64 (dk_at dksX1_digest_8 13 rfl rfl)
theorem dX1_digest_202 : decode cX1_digest 202 = .ok (.iinc 3 1, 3) := dk_132 3 1 (dk_at dksX1_digest_8 14 rfl rfl)
theorem dX1_digest_205 : decode cX1_digest 205 = .ok (.goto (-19), 3) := dk_167 255 237 (dk_at dksX1_digest_8 17 rfl rfl)
theorem dX1_digest_208 : decode cX1_digest 208 = .ok (.lload_n 1, 1) := dk_31 (dk_at dksX1_digest_8 20 rfl rfl)
theorem dX1_digest_209 : decode cX1_digest 209 = .ok (.aload_n 0, 1) := dk_42 (dk_at dksX1_digest_8 21 rfl rfl)
theorem dX1_digest_210 : decode cX1_digest 210 = .ok (.invokevirtual 367, 3) := dk_182 1 111 (dk_at dksX1_digest_9 0 rfl rfl)
theorem dX1_digest_213 : decode cX1_digest 213 = .ok (.invokestatic 57, 3) := dk_184 0 57 (dk_at dksX1_digest_9 3 rfl rfl)
theorem dX1_digest_216 : decode cX1_digest 216 = .ok (.i2l, 1) := dk_133 (dk_at dksX1_digest_9 6 rfl rfl)
theorem dX1_digest_217 : decode cX1_digest 217 = .ok (.invokestatic 334, 3) := dk_184 1 78 (dk_at dksX1_digest_9 7 rfl rfl)
theorem dX1_digest_220 : decode cX1_digest 220 = .ok (.lreturn, 1) := dk_173 (dk_at dksX1_digest_9 10 rfl rfl)
abbrev cX1_add : ByteArray := prog_1_method_91_code
def yX1_add : MethodName := ⟨RX1, "add", "(JJ)J"⟩
def dkwX1_add_0 : List UInt8 := [20, 1, 71, 30, 105, 32, 97, 173]
abbrev dktX1_add_0 : List UInt8 := dkwX1_add_0 ++ []
theorem dksX1_add_0 : cX1_add.data.toList.drop 0 = dktX1_add_0 := by decide +kernel
theorem dX1_add_0 : decode cX1_add 0 = .ok (.ldc2_w 327, 3) := dk_20 1 71 (dk_at dksX1_add_0 0 rfl rfl)
theorem dX1_add_3 : decode cX1_add 3 = .ok (.lload_n 0, 1) := dk_30 (dk_at dksX1_add_0 3 rfl rfl)
theorem dX1_add_4 : decode cX1_add 4 = .ok (.lmul, 1) := dk_105 (dk_at dksX1_add_0 4 rfl rfl)
theorem dX1_add_5 : decode cX1_add 5 = .ok (.lload_n 2, 1) := dk_32 (dk_at dksX1_add_0 5 rfl rfl)
theorem dX1_add_6 : decode cX1_add 6 = .ok (.ladd, 1) := dk_97 (dk_at dksX1_add_0 6 rfl rfl)
theorem dX1_add_7 : decode cX1_add 7 = .ok (.lreturn, 1) := dk_173 (dk_at dksX1_add_0 7 rfl rfl)
abbrev cX1_angleFind : ByteArray := prog_1_method_43_code
def yX1_angleFind : MethodName := ⟨RX1, "angleFind", "(IZ)I"⟩
def dkwX1_angleFind_0 : List UInt8 := [42, 180, 0, 13, 42, 27, 182, 0, 166, 28, 184, 0, 185, 172]
abbrev dktX1_angleFind_0 : List UInt8 := dkwX1_angleFind_0 ++ []
theorem dksX1_angleFind_0 : cX1_angleFind.data.toList.drop 0 = dktX1_angleFind_0 := by decide +kernel
theorem dX1_angleFind_0 : decode cX1_angleFind 0 = .ok (.aload_n 0, 1) := dk_42 (dk_at dksX1_angleFind_0 0 rfl rfl)
theorem dX1_angleFind_1 : decode cX1_angleFind 1 = .ok (.getfield 13, 3) := dk_180 0 13 (dk_at dksX1_angleFind_0 1 rfl rfl)
theorem dX1_angleFind_4 : decode cX1_angleFind 4 = .ok (.aload_n 0, 1) := dk_42 (dk_at dksX1_angleFind_0 4 rfl rfl)
theorem dX1_angleFind_5 : decode cX1_angleFind 5 = .ok (.iload_n 1, 1) := dk_27 (dk_at dksX1_angleFind_0 5 rfl rfl)
theorem dX1_angleFind_6 : decode cX1_angleFind 6 = .ok (.invokevirtual 166, 3) := dk_182 0 166 (dk_at dksX1_angleFind_0 6 rfl rfl)
theorem dX1_angleFind_9 : decode cX1_angleFind 9 = .ok (.iload_n 2, 1) := dk_28 (dk_at dksX1_angleFind_0 9 rfl rfl)
theorem dX1_angleFind_10 : decode cX1_angleFind 10 = .ok (.invokestatic 185, 3) := dk_184 0 185 (dk_at dksX1_angleFind_0 10 rfl rfl)
theorem dX1_angleFind_13 : decode cX1_angleFind 13 = .ok (.ireturn, 1) := dk_172 (dk_at dksX1_angleFind_0 13 rfl rfl)
abbrev cX1_find : ByteArray := prog_1_method_42_code
def yX1_find : MethodName := ⟨RX1, "find", "([DDZ)I"⟩
def dkwX1_find_1 : List UInt8 := [21, 4, 29, 153, 0, 7, 2, 167, 0, 4, 4, 96, 54, 4, 167, 255, 231, 21, 4, 172]
abbrev dktX1_find_1 : List UInt8 := dkwX1_find_1 ++ []
def dkwX1_find_0 : List UInt8 := [29, 153, 0, 8, 16, 7, 167, 0, 4, 3, 54, 4, 39, 42, 21, 4, 49, 184, 0, 135, 154, 0, 20]
abbrev dktX1_find_0 : List UInt8 := dkwX1_find_0 ++ dktX1_find_1
theorem dksX1_find_0 : cX1_find.data.toList.drop 0 = dktX1_find_0 := by decide +kernel
theorem dksX1_find_1 : cX1_find.data.toList.drop 23 = dktX1_find_1 := dk_seg dksX1_find_0 23 rfl rfl
theorem dX1_find_0 : decode cX1_find 0 = .ok (.iload_n 3, 1) := dk_29 (dk_at dksX1_find_0 0 rfl rfl)
theorem dX1_find_1 : decode cX1_find 1 = .ok (.ifCond .eq 8, 3) := dk_153 0 8 (dk_at dksX1_find_0 1 rfl rfl)
theorem dX1_find_4 : decode cX1_find 4 = .ok (.bipush 7, 2) := dk_16 7 (dk_at dksX1_find_0 4 rfl rfl)
theorem dX1_find_6 : decode cX1_find 6 = .ok (.goto 4, 3) := dk_167 0 4 (dk_at dksX1_find_0 6 rfl rfl)
theorem dX1_find_9 : decode cX1_find 9 = .ok (.iconst 0, 1) := dk_3 (dk_at dksX1_find_0 9 rfl rfl)
theorem dX1_find_10 : decode cX1_find 10 = .ok (.istore 4, 2) := dk_54 4 (dk_at dksX1_find_0 10 rfl rfl)
theorem dX1_find_12 : decode cX1_find 12 = .ok (.dload_n 1, 1) := dk_39 (dk_at dksX1_find_0 12 rfl rfl)
theorem dX1_find_13 : decode cX1_find 13 = .ok (.aload_n 0, 1) := dk_42 (dk_at dksX1_find_0 13 rfl rfl)
theorem dX1_find_14 : decode cX1_find 14 = .ok (.iload 4, 2) := dk_21 4 (dk_at dksX1_find_0 14 rfl rfl)
theorem dX1_find_16 : decode cX1_find 16 = .ok (.daload, 1) := dk_49 (dk_at dksX1_find_0 16 rfl rfl)
theorem dX1_find_17 : decode cX1_find 17 = .ok (.invokestatic 135, 3) := dk_184 0 135 (dk_at dksX1_find_0 17 rfl rfl)
theorem dX1_find_20 : decode cX1_find 20 = .ok (.ifCond .ne 20, 3) := dk_154 0 20 (dk_at dksX1_find_0 20 rfl rfl)
theorem dX1_find_23 : decode cX1_find 23 = .ok (.iload 4, 2) := dk_21 4 (dk_at dksX1_find_1 0 rfl rfl)
theorem dX1_find_25 : decode cX1_find 25 = .ok (.iload_n 3, 1) := dk_29 (dk_at dksX1_find_1 2 rfl rfl)
theorem dX1_find_26 : decode cX1_find 26 = .ok (.ifCond .eq 7, 3) := dk_153 0 7 (dk_at dksX1_find_1 3 rfl rfl)
theorem dX1_find_29 : decode cX1_find 29 = .ok (.iconst (-1), 1) := dk_2 (dk_at dksX1_find_1 6 rfl rfl)
theorem dX1_find_30 : decode cX1_find 30 = .ok (.goto 4, 3) := dk_167 0 4 (dk_at dksX1_find_1 7 rfl rfl)
theorem dX1_find_33 : decode cX1_find 33 = .ok (.iconst 1, 1) := dk_4 (dk_at dksX1_find_1 10 rfl rfl)
theorem dX1_find_34 : decode cX1_find 34 = .ok (.iadd, 1) := dk_96 (dk_at dksX1_find_1 11 rfl rfl)
theorem dX1_find_35 : decode cX1_find 35 = .ok (.istore 4, 2) := dk_54 4 (dk_at dksX1_find_1 12 rfl rfl)
theorem dX1_find_37 : decode cX1_find 37 = .ok (.goto (-25), 3) := dk_167 255 231 (dk_at dksX1_find_1 14 rfl rfl)
theorem dX1_find_40 : decode cX1_find 40 = .ok (.iload 4, 2) := dk_21 4 (dk_at dksX1_find_1 17 rfl rfl)
theorem dX1_find_42 : decode cX1_find 42 = .ok (.ireturn, 1) := dk_172 (dk_at dksX1_find_1 19 rfl rfl)
abbrev cX1_isSame : ByteArray := prog_1_method_12_code
def yX1_isSame : MethodName := ⟨RX1, "isSame", "(DD)Z"⟩
def dkwX1_isSame_0 : List UInt8 := [38, 184, 0, 48, 40, 184, 0, 48, 148, 154, 0, 7, 4, 167, 0, 4, 3, 172]
abbrev dktX1_isSame_0 : List UInt8 := dkwX1_isSame_0 ++ []
theorem dksX1_isSame_0 : cX1_isSame.data.toList.drop 0 = dktX1_isSame_0 := by decide +kernel
theorem dX1_isSame_0 : decode cX1_isSame 0 = .ok (.dload_n 0, 1) := dk_38 (dk_at dksX1_isSame_0 0 rfl rfl)
theorem dX1_isSame_1 : decode cX1_isSame 1 = .ok (.invokestatic 48, 3) := dk_184 0 48 (dk_at dksX1_isSame_0 1 rfl rfl)
theorem dX1_isSame_4 : decode cX1_isSame 4 = .ok (.dload_n 2, 1) := dk_40 (dk_at dksX1_isSame_0 4 rfl rfl)
theorem dX1_isSame_5 : decode cX1_isSame 5 = .ok (.invokestatic 48, 3) := dk_184 0 48 (dk_at dksX1_isSame_0 5 rfl rfl)
theorem dX1_isSame_8 : decode cX1_isSame 8 = .ok (.lcmp, 1) := dk_148 (dk_at dksX1_isSame_0 8 rfl rfl)
theorem dX1_isSame_9 : decode cX1_isSame 9 = .ok (.ifCond .ne 7, 3) := dk_154 0 7 (dk_at dksX1_isSame_0 9 rfl rfl)
theorem dX1_isSame_12 : decode cX1_isSame 12 = .ok (.iconst 1, 1) := dk_4 (dk_at dksX1_isSame_0 12 rfl rfl)
theorem dX1_isSame_13 : decode cX1_isSame 13 = .ok (.goto 4, 3) := dk_167 0 4 (dk_at dksX1_isSame_0 13 rfl rfl)
theorem dX1_isSame_16 : decode cX1_isSame 16 = .ok (.iconst 0, 1) := dk_3 (dk_at dksX1_isSame_0 16 rfl rfl)
theorem dX1_isSame_17 : decode cX1_isSame 17 = .ok (.ireturn, 1) := dk_172 (dk_at dksX1_isSame_0 17 rfl rfl)
abbrev cX1_quarter : ByteArray := prog_1_method_80_code
def yX1_quarter : MethodName := ⟨RX1, "quarter", "(I)I"⟩
def dkwX1_quarter_0 : List UInt8 := [42, 27, 182, 0, 166, 73, 5, 40, 184, 0, 117, 184, 0, 79, 104, 40, 184, 0, 122, 184, 0, 79, 96, 172]
abbrev dktX1_quarter_0 : List UInt8 := dkwX1_quarter_0 ++ []
theorem dksX1_quarter_0 : cX1_quarter.data.toList.drop 0 = dktX1_quarter_0 := by decide +kernel
theorem dX1_quarter_0 : decode cX1_quarter 0 = .ok (.aload_n 0, 1) := dk_42 (dk_at dksX1_quarter_0 0 rfl rfl)
theorem dX1_quarter_1 : decode cX1_quarter 1 = .ok (.iload_n 1, 1) := dk_27 (dk_at dksX1_quarter_0 1 rfl rfl)
theorem dX1_quarter_2 : decode cX1_quarter 2 = .ok (.invokevirtual 166, 3) := dk_182 0 166 (dk_at dksX1_quarter_0 2 rfl rfl)
theorem dX1_quarter_5 : decode cX1_quarter 5 = .ok (.dstore_n 2, 1) := dk_73 (dk_at dksX1_quarter_0 5 rfl rfl)
theorem dX1_quarter_6 : decode cX1_quarter 6 = .ok (.iconst 2, 1) := dk_5 (dk_at dksX1_quarter_0 6 rfl rfl)
theorem dX1_quarter_7 : decode cX1_quarter 7 = .ok (.dload_n 2, 1) := dk_40 (dk_at dksX1_quarter_0 7 rfl rfl)
theorem dX1_quarter_8 : decode cX1_quarter 8 = .ok (.invokestatic 117, 3) := dk_184 0 117 (dk_at dksX1_quarter_0 8 rfl rfl)
theorem dX1_quarter_11 : decode cX1_quarter 11 = .ok (.invokestatic 79, 3) := dk_184 0 79 (dk_at dksX1_quarter_0 11 rfl rfl)
theorem dX1_quarter_14 : decode cX1_quarter 14 = .ok (.imul, 1) := dk_104 (dk_at dksX1_quarter_0 14 rfl rfl)
theorem dX1_quarter_15 : decode cX1_quarter 15 = .ok (.dload_n 2, 1) := dk_40 (dk_at dksX1_quarter_0 15 rfl rfl)
theorem dX1_quarter_16 : decode cX1_quarter 16 = .ok (.invokestatic 122, 3) := dk_184 0 122 (dk_at dksX1_quarter_0 16 rfl rfl)
theorem dX1_quarter_19 : decode cX1_quarter 19 = .ok (.invokestatic 79, 3) := dk_184 0 79 (dk_at dksX1_quarter_0 19 rfl rfl)
theorem dX1_quarter_22 : decode cX1_quarter 22 = .ok (.iadd, 1) := dk_96 (dk_at dksX1_quarter_0 22 rfl rfl)
theorem dX1_quarter_23 : decode cX1_quarter 23 = .ok (.ireturn, 1) := dk_172 (dk_at dksX1_quarter_0 23 rfl rfl)
abbrev cX1_heightFind : ByteArray := prog_1_method_64_code
def yX1_heightFind : MethodName := ⟨RX1, "heightFind", "(IZ)I"⟩
def dkwX1_heightFind_0 : List UInt8 := [42, 180, 0, 17, 42, 27, 182, 0, 253, 28, 184, 0, 185, 172]
abbrev dktX1_heightFind_0 : List UInt8 := dkwX1_heightFind_0 ++ []
theorem dksX1_heightFind_0 : cX1_heightFind.data.toList.drop 0 = dktX1_heightFind_0 := by decide +kernel
theorem dX1_heightFind_0 : decode cX1_heightFind 0 = .ok (.aload_n 0, 1) := dk_42 (dk_at dksX1_heightFind_0 0 rfl rfl)
theorem dX1_heightFind_1 : decode cX1_heightFind 1 = .ok (.getfield 17, 3) := dk_180 0 17 (dk_at dksX1_heightFind_0 1 rfl rfl)
theorem dX1_heightFind_4 : decode cX1_heightFind 4 = .ok (.aload_n 0, 1) := dk_42 (dk_at dksX1_heightFind_0 4 rfl rfl)
theorem dX1_heightFind_5 : decode cX1_heightFind 5 = .ok (.iload_n 1, 1) := dk_27 (dk_at dksX1_heightFind_0 5 rfl rfl)
theorem dX1_heightFind_6 : decode cX1_heightFind 6 = .ok (.invokevirtual 253, 3) := dk_182 0 253 (dk_at dksX1_heightFind_0 6 rfl rfl)
theorem dX1_heightFind_9 : decode cX1_heightFind 9 = .ok (.iload_n 2, 1) := dk_28 (dk_at dksX1_heightFind_0 9 rfl rfl)
theorem dX1_heightFind_10 : decode cX1_heightFind 10 = .ok (.invokestatic 185, 3) := dk_184 0 185 (dk_at dksX1_heightFind_0 10 rfl rfl)
theorem dX1_heightFind_13 : decode cX1_heightFind 13 = .ok (.ireturn, 1) := dk_172 (dk_at dksX1_heightFind_0 13 rfl rfl)
abbrev cX1_heightOrder : ByteArray := prog_1_method_60_code
def yX1_heightOrder : MethodName := ⟨RX1, "heightOrder", "(III)I"⟩
def dkwX1_heightOrder_1 : List UInt8 := [24, 4, 24, 6, 29, 184, 0, 211, 172]
abbrev dktX1_heightOrder_1 : List UInt8 := dkwX1_heightOrder_1 ++ []
def dkwX1_heightOrder_0 : List UInt8 := [42, 27, 182, 0, 253, 57, 4, 42, 28, 182, 0, 253, 57, 6, 29, 3, 4, 184, 0, 28, 184, 0, 154]
abbrev dktX1_heightOrder_0 : List UInt8 := dkwX1_heightOrder_0 ++ dktX1_heightOrder_1
theorem dksX1_heightOrder_0 : cX1_heightOrder.data.toList.drop 0 = dktX1_heightOrder_0 := by decide +kernel
theorem dksX1_heightOrder_1 : cX1_heightOrder.data.toList.drop 23 = dktX1_heightOrder_1 := dk_seg dksX1_heightOrder_0 23 rfl rfl
theorem dX1_heightOrder_0 : decode cX1_heightOrder 0 = .ok (.aload_n 0, 1) := dk_42 (dk_at dksX1_heightOrder_0 0 rfl rfl)
theorem dX1_heightOrder_1 : decode cX1_heightOrder 1 = .ok (.iload_n 1, 1) := dk_27 (dk_at dksX1_heightOrder_0 1 rfl rfl)
theorem dX1_heightOrder_2 : decode cX1_heightOrder 2 = .ok (.invokevirtual 253, 3) := dk_182 0 253 (dk_at dksX1_heightOrder_0 2 rfl rfl)
theorem dX1_heightOrder_5 : decode cX1_heightOrder 5 = .ok (.dstore 4, 2) := dk_57 4 (dk_at dksX1_heightOrder_0 5 rfl rfl)
theorem dX1_heightOrder_7 : decode cX1_heightOrder 7 = .ok (.aload_n 0, 1) := dk_42 (dk_at dksX1_heightOrder_0 7 rfl rfl)
theorem dX1_heightOrder_8 : decode cX1_heightOrder 8 = .ok (.iload_n 2, 1) := dk_28 (dk_at dksX1_heightOrder_0 8 rfl rfl)
theorem dX1_heightOrder_9 : decode cX1_heightOrder 9 = .ok (.invokevirtual 253, 3) := dk_182 0 253 (dk_at dksX1_heightOrder_0 9 rfl rfl)
theorem dX1_heightOrder_12 : decode cX1_heightOrder 12 = .ok (.dstore 6, 2) := dk_57 6 (dk_at dksX1_heightOrder_0 12 rfl rfl)
theorem dX1_heightOrder_14 : decode cX1_heightOrder 14 = .ok (.iload_n 3, 1) := dk_29 (dk_at dksX1_heightOrder_0 14 rfl rfl)
theorem dX1_heightOrder_15 : decode cX1_heightOrder 15 = .ok (.iconst 0, 1) := dk_3 (dk_at dksX1_heightOrder_0 15 rfl rfl)
theorem dX1_heightOrder_16 : decode cX1_heightOrder 16 = .ok (.iconst 1, 1) := dk_4 (dk_at dksX1_heightOrder_0 16 rfl rfl)
theorem dX1_heightOrder_17 : decode cX1_heightOrder 17 = .ok (.invokestatic 28, 3) := dk_184 0 28 (dk_at dksX1_heightOrder_0 17 rfl rfl)
theorem dX1_heightOrder_20 : decode cX1_heightOrder 20 = .ok (.invokestatic 154, 3) := dk_184 0 154 (dk_at dksX1_heightOrder_0 20 rfl rfl)
theorem dX1_heightOrder_23 : decode cX1_heightOrder 23 = .ok (.dload 4, 2) := dk_24 4 (dk_at dksX1_heightOrder_1 0 rfl rfl)
theorem dX1_heightOrder_25 : decode cX1_heightOrder 25 = .ok (.dload 6, 2) := dk_24 6 (dk_at dksX1_heightOrder_1 2 rfl rfl)
theorem dX1_heightOrder_27 : decode cX1_heightOrder 27 = .ok (.iload_n 3, 1) := dk_29 (dk_at dksX1_heightOrder_1 4 rfl rfl)
theorem dX1_heightOrder_28 : decode cX1_heightOrder 28 = .ok (.invokestatic 211, 3) := dk_184 0 211 (dk_at dksX1_heightOrder_1 5 rfl rfl)
theorem dX1_heightOrder_31 : decode cX1_heightOrder 31 = .ok (.ireturn, 1) := dk_172 (dk_at dksX1_heightOrder_1 8 rfl rfl)
abbrev cX1_orderOf : ByteArray := prog_1_method_39_code
def yX1_orderOf : MethodName := ⟨RX1, "orderOf", "(DDI)I"⟩
def dkwX1_orderOf_1 : List UInt8 := [184, 0, 223, 182, 0, 226, 184, 0, 219, 172]
abbrev dktX1_orderOf_1 : List UInt8 := dkwX1_orderOf_1 ++ []
def dkwX1_orderOf_0 : List UInt8 := [21, 4, 154, 0, 12, 38, 40, 184, 0, 215, 184, 0, 219, 172, 38, 184, 0, 223, 58, 5, 25, 5, 40]
abbrev dktX1_orderOf_0 : List UInt8 := dkwX1_orderOf_0 ++ dktX1_orderOf_1
theorem dksX1_orderOf_0 : cX1_orderOf.data.toList.drop 0 = dktX1_orderOf_0 := by decide +kernel
theorem dksX1_orderOf_1 : cX1_orderOf.data.toList.drop 23 = dktX1_orderOf_1 := dk_seg dksX1_orderOf_0 23 rfl rfl
theorem dX1_orderOf_0 : decode cX1_orderOf 0 = .ok (.iload 4, 2) := dk_21 4 (dk_at dksX1_orderOf_0 0 rfl rfl)
theorem dX1_orderOf_2 : decode cX1_orderOf 2 = .ok (.ifCond .ne 12, 3) := dk_154 0 12 (dk_at dksX1_orderOf_0 2 rfl rfl)
theorem dX1_orderOf_5 : decode cX1_orderOf 5 = .ok (.dload_n 0, 1) := dk_38 (dk_at dksX1_orderOf_0 5 rfl rfl)
theorem dX1_orderOf_6 : decode cX1_orderOf 6 = .ok (.dload_n 2, 1) := dk_40 (dk_at dksX1_orderOf_0 6 rfl rfl)
theorem dX1_orderOf_7 : decode cX1_orderOf 7 = .ok (.invokestatic 215, 3) := dk_184 0 215 (dk_at dksX1_orderOf_0 7 rfl rfl)
theorem dX1_orderOf_10 : decode cX1_orderOf 10 = .ok (.invokestatic 219, 3) := dk_184 0 219 (dk_at dksX1_orderOf_0 10 rfl rfl)
theorem dX1_orderOf_13 : decode cX1_orderOf 13 = .ok (.ireturn, 1) := dk_172 (dk_at dksX1_orderOf_0 13 rfl rfl)
theorem dX1_orderOf_14 : decode cX1_orderOf 14 = .ok (.dload_n 0, 1) := dk_38 (dk_at dksX1_orderOf_0 14 rfl rfl)
theorem dX1_orderOf_15 : decode cX1_orderOf 15 = .ok (.invokestatic 223, 3) := dk_184 0 223 (dk_at dksX1_orderOf_0 15 rfl rfl)
theorem dX1_orderOf_18 : decode cX1_orderOf 18 = .ok (.astore 5, 2) := dk_58 5 (dk_at dksX1_orderOf_0 18 rfl rfl)
theorem dX1_orderOf_20 : decode cX1_orderOf 20 = .ok (.aload 5, 2) := dk_25 5 (dk_at dksX1_orderOf_0 20 rfl rfl)
theorem dX1_orderOf_22 : decode cX1_orderOf 22 = .ok (.dload_n 2, 1) := dk_40 (dk_at dksX1_orderOf_0 22 rfl rfl)
theorem dX1_orderOf_23 : decode cX1_orderOf 23 = .ok (.invokestatic 223, 3) := dk_184 0 223 (dk_at dksX1_orderOf_1 0 rfl rfl)
theorem dX1_orderOf_26 : decode cX1_orderOf 26 = .ok (.invokevirtual 226, 3) := dk_182 0 226 (dk_at dksX1_orderOf_1 3 rfl rfl)
theorem dX1_orderOf_29 : decode cX1_orderOf 29 = .ok (.invokestatic 219, 3) := dk_184 0 219 (dk_at dksX1_orderOf_1 6 rfl rfl)
theorem dX1_orderOf_32 : decode cX1_orderOf 32 = .ok (.ireturn, 1) := dk_172 (dk_at dksX1_orderOf_1 9 rfl rfl)
abbrev cX1_sizeOrder : ByteArray := prog_1_method_63_code
def yX1_sizeOrder : MethodName := ⟨RX1, "sizeOrder", "(II)I"⟩
def dkwX1_sizeOrder_0 : List UInt8 := [42, 27, 182, 0, 253, 184, 0, 67, 42, 28, 182, 0, 253, 184, 0, 67, 3, 184, 0, 211, 172]
abbrev dktX1_sizeOrder_0 : List UInt8 := dkwX1_sizeOrder_0 ++ []
theorem dksX1_sizeOrder_0 : cX1_sizeOrder.data.toList.drop 0 = dktX1_sizeOrder_0 := by decide +kernel
theorem dX1_sizeOrder_0 : decode cX1_sizeOrder 0 = .ok (.aload_n 0, 1) := dk_42 (dk_at dksX1_sizeOrder_0 0 rfl rfl)
theorem dX1_sizeOrder_1 : decode cX1_sizeOrder 1 = .ok (.iload_n 1, 1) := dk_27 (dk_at dksX1_sizeOrder_0 1 rfl rfl)
theorem dX1_sizeOrder_2 : decode cX1_sizeOrder 2 = .ok (.invokevirtual 253, 3) := dk_182 0 253 (dk_at dksX1_sizeOrder_0 2 rfl rfl)
theorem dX1_sizeOrder_5 : decode cX1_sizeOrder 5 = .ok (.invokestatic 67, 3) := dk_184 0 67 (dk_at dksX1_sizeOrder_0 5 rfl rfl)
theorem dX1_sizeOrder_8 : decode cX1_sizeOrder 8 = .ok (.aload_n 0, 1) := dk_42 (dk_at dksX1_sizeOrder_0 8 rfl rfl)
theorem dX1_sizeOrder_9 : decode cX1_sizeOrder 9 = .ok (.iload_n 2, 1) := dk_28 (dk_at dksX1_sizeOrder_0 9 rfl rfl)
theorem dX1_sizeOrder_10 : decode cX1_sizeOrder 10 = .ok (.invokevirtual 253, 3) := dk_182 0 253 (dk_at dksX1_sizeOrder_0 10 rfl rfl)
theorem dX1_sizeOrder_13 : decode cX1_sizeOrder 13 = .ok (.invokestatic 67, 3) := dk_184 0 67 (dk_at dksX1_sizeOrder_0 13 rfl rfl)
theorem dX1_sizeOrder_16 : decode cX1_sizeOrder 16 = .ok (.iconst 0, 1) := dk_3 (dk_at dksX1_sizeOrder_0 16 rfl rfl)
theorem dX1_sizeOrder_17 : decode cX1_sizeOrder 17 = .ok (.invokestatic 211, 3) := dk_184 0 211 (dk_at dksX1_sizeOrder_0 17 rfl rfl)
theorem dX1_sizeOrder_20 : decode cX1_sizeOrder 20 = .ok (.ireturn, 1) := dk_172 (dk_at dksX1_sizeOrder_0 20 rfl rfl)
abbrev cX1_isSound : ByteArray := prog_1_method_90_code
def yX1_isSound : MethodName := ⟨RX1, "isSound", "()Z"⟩
def dkwX1_isSound_2 : List UInt8 := [180, 0, 20, 28, 51, 126, 60, 132, 2, 1, 167, 255, 238, 27, 172]
abbrev dktX1_isSound_2 : List UInt8 := dkwX1_isSound_2 ++ []
def dkwX1_isSound_1 : List UInt8 := [5, 182, 1, 67, 153, 0, 7, 4, 167, 0, 4, 3, 60, 3, 61, 28, 16, 8, 162, 0, 18, 27, 42]
abbrev dktX1_isSound_1 : List UInt8 := dkwX1_isSound_1 ++ dktX1_isSound_2
def dkwX1_isSound_0 : List UInt8 := [42, 182, 1, 63, 153, 0, 31, 42, 3, 182, 1, 67, 153, 0, 23, 42, 4, 182, 1, 67, 153, 0, 15, 42]
abbrev dktX1_isSound_0 : List UInt8 := dkwX1_isSound_0 ++ dktX1_isSound_1
theorem dksX1_isSound_0 : cX1_isSound.data.toList.drop 0 = dktX1_isSound_0 := by decide +kernel
theorem dksX1_isSound_1 : cX1_isSound.data.toList.drop 24 = dktX1_isSound_1 := dk_seg dksX1_isSound_0 24 rfl rfl
theorem dksX1_isSound_2 : cX1_isSound.data.toList.drop 47 = dktX1_isSound_2 := dk_seg dksX1_isSound_1 23 rfl rfl
theorem dX1_isSound_0 : decode cX1_isSound 0 = .ok (.aload_n 0, 1) := dk_42 (dk_at dksX1_isSound_0 0 rfl rfl)
theorem dX1_isSound_1 : decode cX1_isSound 1 = .ok (.invokevirtual 319, 3) := dk_182 1 63 (dk_at dksX1_isSound_0 1 rfl rfl)
theorem dX1_isSound_4 : decode cX1_isSound 4 = .ok (.ifCond .eq 31, 3) := dk_153 0 31 (dk_at dksX1_isSound_0 4 rfl rfl)
theorem dX1_isSound_7 : decode cX1_isSound 7 = .ok (.aload_n 0, 1) := dk_42 (dk_at dksX1_isSound_0 7 rfl rfl)
theorem dX1_isSound_8 : decode cX1_isSound 8 = .ok (.iconst 0, 1) := dk_3 (dk_at dksX1_isSound_0 8 rfl rfl)
theorem dX1_isSound_9 : decode cX1_isSound 9 = .ok (.invokevirtual 323, 3) := dk_182 1 67 (dk_at dksX1_isSound_0 9 rfl rfl)
theorem dX1_isSound_12 : decode cX1_isSound 12 = .ok (.ifCond .eq 23, 3) := dk_153 0 23 (dk_at dksX1_isSound_0 12 rfl rfl)
theorem dX1_isSound_15 : decode cX1_isSound 15 = .ok (.aload_n 0, 1) := dk_42 (dk_at dksX1_isSound_0 15 rfl rfl)
theorem dX1_isSound_16 : decode cX1_isSound 16 = .ok (.iconst 1, 1) := dk_4 (dk_at dksX1_isSound_0 16 rfl rfl)
theorem dX1_isSound_17 : decode cX1_isSound 17 = .ok (.invokevirtual 323, 3) := dk_182 1 67 (dk_at dksX1_isSound_0 17 rfl rfl)
theorem dX1_isSound_20 : decode cX1_isSound 20 = .ok (.ifCond .eq 15, 3) := dk_153 0 15 (dk_at dksX1_isSound_0 20 rfl rfl)
theorem dX1_isSound_23 : decode cX1_isSound 23 = .ok (.aload_n 0, 1) := dk_42 (dk_at dksX1_isSound_0 23 rfl rfl)
theorem dX1_isSound_24 : decode cX1_isSound 24 = .ok (.iconst 2, 1) := dk_5 (dk_at dksX1_isSound_1 0 rfl rfl)
theorem dX1_isSound_25 : decode cX1_isSound 25 = .ok (.invokevirtual 323, 3) := dk_182 1 67 (dk_at dksX1_isSound_1 1 rfl rfl)
theorem dX1_isSound_28 : decode cX1_isSound 28 = .ok (.ifCond .eq 7, 3) := dk_153 0 7 (dk_at dksX1_isSound_1 4 rfl rfl)
theorem dX1_isSound_31 : decode cX1_isSound 31 = .ok (.iconst 1, 1) := dk_4 (dk_at dksX1_isSound_1 7 rfl rfl)
theorem dX1_isSound_32 : decode cX1_isSound 32 = .ok (.goto 4, 3) := dk_167 0 4 (dk_at dksX1_isSound_1 8 rfl rfl)
theorem dX1_isSound_35 : decode cX1_isSound 35 = .ok (.iconst 0, 1) := dk_3 (dk_at dksX1_isSound_1 11 rfl rfl)
theorem dX1_isSound_36 : decode cX1_isSound 36 = .ok (.istore_n 1, 1) := dk_60 (dk_at dksX1_isSound_1 12 rfl rfl)
theorem dX1_isSound_37 : decode cX1_isSound 37 = .ok (.iconst 0, 1) := dk_3 (dk_at dksX1_isSound_1 13 rfl rfl)
theorem dX1_isSound_38 : decode cX1_isSound 38 = .ok (.istore_n 2, 1) := dk_61 (dk_at dksX1_isSound_1 14 rfl rfl)
theorem dX1_isSound_39 : decode cX1_isSound 39 = .ok (.iload_n 2, 1) := dk_28 (dk_at dksX1_isSound_1 15 rfl rfl)
theorem dX1_isSound_40 : decode cX1_isSound 40 = .ok (.bipush 8, 2) := dk_16 8 (dk_at dksX1_isSound_1 16 rfl rfl)
theorem dX1_isSound_42 : decode cX1_isSound 42 = .ok (.if_icmp .ge 18, 3) := dk_162 0 18 (dk_at dksX1_isSound_1 18 rfl rfl)
theorem dX1_isSound_45 : decode cX1_isSound 45 = .ok (.iload_n 1, 1) := dk_27 (dk_at dksX1_isSound_1 21 rfl rfl)
theorem dX1_isSound_46 : decode cX1_isSound 46 = .ok (.aload_n 0, 1) := dk_42 (dk_at dksX1_isSound_1 22 rfl rfl)
theorem dX1_isSound_47 : decode cX1_isSound 47 = .ok (.getfield 20, 3) := dk_180 0 20 (dk_at dksX1_isSound_2 0 rfl rfl)
theorem dX1_isSound_50 : decode cX1_isSound 50 = .ok (.iload_n 2, 1) := dk_28 (dk_at dksX1_isSound_2 3 rfl rfl)
theorem dX1_isSound_51 : decode cX1_isSound 51 = .ok (.baload, 1) := dk_51 (dk_at dksX1_isSound_2 4 rfl rfl)
theorem dX1_isSound_52 : decode cX1_isSound 52 = .ok (.iand, 1) := dk_126 (dk_at dksX1_isSound_2 5 rfl rfl)
theorem dX1_isSound_53 : decode cX1_isSound 53 = .ok (.istore_n 1, 1) := dk_60 (dk_at dksX1_isSound_2 6 rfl rfl)
theorem dX1_isSound_54 : decode cX1_isSound 54 = .ok (.iinc 2 1, 3) := dk_132 2 1 (dk_at dksX1_isSound_2 7 rfl rfl)
theorem dX1_isSound_57 : decode cX1_isSound 57 = .ok (.goto (-18), 3) := dk_167 255 238 (dk_at dksX1_isSound_2 10 rfl rfl)
theorem dX1_isSound_60 : decode cX1_isSound 60 = .ok (.iload_n 1, 1) := dk_27 (dk_at dksX1_isSound_2 13 rfl rfl)
theorem dX1_isSound_61 : decode cX1_isSound 61 = .ok (.ireturn, 1) := dk_172 (dk_at dksX1_isSound_2 14 rfl rfl)
abbrev cX1_areOrdered : ByteArray := prog_1_method_89_code
def yX1_areOrdered : MethodName := ⟨RX1, "areOrdered", "()Z"⟩
def dkwX1_areOrdered_8 : List UInt8 := [160, 0, 7, 4, 167, 0, 4, 3, 126, 61, 132, 4, 1, 167, 255, 133, 132, 3, 1, 167, 255, 118, 28, 172]
abbrev dktX1_areOrdered_8 : List UInt8 := dkwX1_areOrdered_8 ++ []
def dkwX1_areOrdered_7 : List UInt8 := [156, 0, 7, 4, 167, 0, 4, 3, 43, 29, 46, 43, 21, 4, 46, 162, 0, 7, 4, 167, 0, 4, 3]
abbrev dktX1_areOrdered_7 : List UInt8 := dkwX1_areOrdered_7 ++ dktX1_areOrdered_8
def dkwX1_areOrdered_6 : List UInt8 := [180, 0, 17, 21, 4, 49, 184, 0, 135, 160, 0, 7, 4, 167, 0, 4, 3, 126, 61, 28, 21, 5]
abbrev dktX1_areOrdered_6 : List UInt8 := dkwX1_areOrdered_6 ++ dktX1_areOrdered_7
def dkwX1_areOrdered_5 : List UInt8 := [184, 0, 215, 116, 160, 0, 36, 21, 5, 154, 0, 7, 4, 167, 0, 4, 3, 42, 180, 0, 17, 29, 49, 42]
abbrev dktX1_areOrdered_5 : List UInt8 := dkwX1_areOrdered_5 ++ dktX1_areOrdered_6
def dkwX1_areOrdered_4 : List UInt8 := [21, 4, 49, 184, 0, 215, 54, 5, 28, 21, 5, 42, 180, 0, 17, 21, 4, 49, 42, 180, 0, 17, 29, 49]
abbrev dktX1_areOrdered_4 : List UInt8 := dkwX1_areOrdered_4 ++ dktX1_areOrdered_5
def dkwX1_areOrdered_3 : List UInt8 := [162, 0, 138, 3, 54, 4, 21, 4, 16, 8, 162, 0, 122, 42, 180, 0, 17, 29, 49, 42, 180, 0, 17]
abbrev dktX1_areOrdered_3 : List UInt8 := dkwX1_areOrdered_3 ++ dktX1_areOrdered_4
def dkwX1_areOrdered_2 : List UInt8 := [184, 0, 57, 96, 79, 132, 3, 1, 167, 255, 215, 132, 2, 1, 167, 255, 201, 4, 61, 3, 62, 29, 16, 8]
abbrev dktX1_areOrdered_2 : List UInt8 := dkwX1_areOrdered_2 ++ dktX1_areOrdered_3
def dkwX1_areOrdered_1 : List UInt8 := [46, 42, 180, 0, 17, 28, 49, 42, 180, 0, 17, 29, 49, 184, 0, 215, 156, 0, 7, 4, 167, 0, 4, 3]
abbrev dktX1_areOrdered_1 : List UInt8 := dkwX1_areOrdered_1 ++ dktX1_areOrdered_2
def dkwX1_areOrdered_0 : List UInt8 := [16, 8, 188, 10, 76, 3, 61, 28, 16, 8, 162, 0, 55, 3, 62, 29, 16, 8, 162, 0, 41, 43, 29, 92]
abbrev dktX1_areOrdered_0 : List UInt8 := dkwX1_areOrdered_0 ++ dktX1_areOrdered_1
theorem dksX1_areOrdered_0 : cX1_areOrdered.data.toList.drop 0 = dktX1_areOrdered_0 := by decide +kernel
theorem dksX1_areOrdered_1 : cX1_areOrdered.data.toList.drop 24 = dktX1_areOrdered_1 := dk_seg dksX1_areOrdered_0 24 rfl rfl
theorem dksX1_areOrdered_2 : cX1_areOrdered.data.toList.drop 48 = dktX1_areOrdered_2 := dk_seg dksX1_areOrdered_1 24 rfl rfl
theorem dksX1_areOrdered_3 : cX1_areOrdered.data.toList.drop 72 = dktX1_areOrdered_3 := dk_seg dksX1_areOrdered_2 24 rfl rfl
theorem dksX1_areOrdered_4 : cX1_areOrdered.data.toList.drop 95 = dktX1_areOrdered_4 := dk_seg dksX1_areOrdered_3 23 rfl rfl
theorem dksX1_areOrdered_5 : cX1_areOrdered.data.toList.drop 119 = dktX1_areOrdered_5 := dk_seg dksX1_areOrdered_4 24 rfl rfl
theorem dksX1_areOrdered_6 : cX1_areOrdered.data.toList.drop 143 = dktX1_areOrdered_6 := dk_seg dksX1_areOrdered_5 24 rfl rfl
theorem dksX1_areOrdered_7 : cX1_areOrdered.data.toList.drop 165 = dktX1_areOrdered_7 := dk_seg dksX1_areOrdered_6 22 rfl rfl
theorem dksX1_areOrdered_8 : cX1_areOrdered.data.toList.drop 188 = dktX1_areOrdered_8 := dk_seg dksX1_areOrdered_7 23 rfl rfl
theorem dX1_areOrdered_0 : decode cX1_areOrdered 0 = .ok (.bipush 8, 2) := dk_16 8 (dk_at dksX1_areOrdered_0 0 rfl rfl)
theorem dX1_areOrdered_2 : decode cX1_areOrdered 2 = .ok (.newarray .int, 2) := dk_188_10 (dk_at dksX1_areOrdered_0 2 rfl rfl)
theorem dX1_areOrdered_4 : decode cX1_areOrdered 4 = .ok (.astore_n 1, 1) := dk_76 (dk_at dksX1_areOrdered_0 4 rfl rfl)
theorem dX1_areOrdered_5 : decode cX1_areOrdered 5 = .ok (.iconst 0, 1) := dk_3 (dk_at dksX1_areOrdered_0 5 rfl rfl)
theorem dX1_areOrdered_6 : decode cX1_areOrdered 6 = .ok (.istore_n 2, 1) := dk_61 (dk_at dksX1_areOrdered_0 6 rfl rfl)
theorem dX1_areOrdered_7 : decode cX1_areOrdered 7 = .ok (.iload_n 2, 1) := dk_28 (dk_at dksX1_areOrdered_0 7 rfl rfl)
theorem dX1_areOrdered_8 : decode cX1_areOrdered 8 = .ok (.bipush 8, 2) := dk_16 8 (dk_at dksX1_areOrdered_0 8 rfl rfl)
theorem dX1_areOrdered_10 : decode cX1_areOrdered 10 = .ok (.if_icmp .ge 55, 3) := dk_162 0 55 (dk_at dksX1_areOrdered_0 10 rfl rfl)
theorem dX1_areOrdered_13 : decode cX1_areOrdered 13 = .ok (.iconst 0, 1) := dk_3 (dk_at dksX1_areOrdered_0 13 rfl rfl)
theorem dX1_areOrdered_14 : decode cX1_areOrdered 14 = .ok (.istore_n 3, 1) := dk_62 (dk_at dksX1_areOrdered_0 14 rfl rfl)
theorem dX1_areOrdered_15 : decode cX1_areOrdered 15 = .ok (.iload_n 3, 1) := dk_29 (dk_at dksX1_areOrdered_0 15 rfl rfl)
theorem dX1_areOrdered_16 : decode cX1_areOrdered 16 = .ok (.bipush 8, 2) := dk_16 8 (dk_at dksX1_areOrdered_0 16 rfl rfl)
theorem dX1_areOrdered_18 : decode cX1_areOrdered 18 = .ok (.if_icmp .ge 41, 3) := dk_162 0 41 (dk_at dksX1_areOrdered_0 18 rfl rfl)
theorem dX1_areOrdered_21 : decode cX1_areOrdered 21 = .ok (.aload_n 1, 1) := dk_43 (dk_at dksX1_areOrdered_0 21 rfl rfl)
theorem dX1_areOrdered_22 : decode cX1_areOrdered 22 = .ok (.iload_n 3, 1) := dk_29 (dk_at dksX1_areOrdered_0 22 rfl rfl)
theorem dX1_areOrdered_23 : decode cX1_areOrdered 23 = .ok (.dup2, 1) := dk_92 (dk_at dksX1_areOrdered_0 23 rfl rfl)
theorem dX1_areOrdered_24 : decode cX1_areOrdered 24 = .ok (.iaload, 1) := dk_46 (dk_at dksX1_areOrdered_1 0 rfl rfl)
theorem dX1_areOrdered_25 : decode cX1_areOrdered 25 = .ok (.aload_n 0, 1) := dk_42 (dk_at dksX1_areOrdered_1 1 rfl rfl)
theorem dX1_areOrdered_26 : decode cX1_areOrdered 26 = .ok (.getfield 17, 3) := dk_180 0 17 (dk_at dksX1_areOrdered_1 2 rfl rfl)
theorem dX1_areOrdered_29 : decode cX1_areOrdered 29 = .ok (.iload_n 2, 1) := dk_28 (dk_at dksX1_areOrdered_1 5 rfl rfl)
theorem dX1_areOrdered_30 : decode cX1_areOrdered 30 = .ok (.daload, 1) := dk_49 (dk_at dksX1_areOrdered_1 6 rfl rfl)
theorem dX1_areOrdered_31 : decode cX1_areOrdered 31 = .ok (.aload_n 0, 1) := dk_42 (dk_at dksX1_areOrdered_1 7 rfl rfl)
theorem dX1_areOrdered_32 : decode cX1_areOrdered 32 = .ok (.getfield 17, 3) := dk_180 0 17 (dk_at dksX1_areOrdered_1 8 rfl rfl)
theorem dX1_areOrdered_35 : decode cX1_areOrdered 35 = .ok (.iload_n 3, 1) := dk_29 (dk_at dksX1_areOrdered_1 11 rfl rfl)
theorem dX1_areOrdered_36 : decode cX1_areOrdered 36 = .ok (.daload, 1) := dk_49 (dk_at dksX1_areOrdered_1 12 rfl rfl)
theorem dX1_areOrdered_37 : decode cX1_areOrdered 37 = .ok (.invokestatic 215, 3) := dk_184 0 215 (dk_at dksX1_areOrdered_1 13 rfl rfl)
theorem dX1_areOrdered_40 : decode cX1_areOrdered 40 = .ok (.ifCond .ge 7, 3) := dk_156 0 7 (dk_at dksX1_areOrdered_1 16 rfl rfl)
theorem dX1_areOrdered_43 : decode cX1_areOrdered 43 = .ok (.iconst 1, 1) := dk_4 (dk_at dksX1_areOrdered_1 19 rfl rfl)
theorem dX1_areOrdered_44 : decode cX1_areOrdered 44 = .ok (.goto 4, 3) := dk_167 0 4 (dk_at dksX1_areOrdered_1 20 rfl rfl)
theorem dX1_areOrdered_47 : decode cX1_areOrdered 47 = .ok (.iconst 0, 1) := dk_3 (dk_at dksX1_areOrdered_1 23 rfl rfl)
theorem dX1_areOrdered_48 : decode cX1_areOrdered 48 = .ok (.invokestatic 57, 3) := dk_184 0 57 (dk_at dksX1_areOrdered_2 0 rfl rfl)
theorem dX1_areOrdered_51 : decode cX1_areOrdered 51 = .ok (.iadd, 1) := dk_96 (dk_at dksX1_areOrdered_2 3 rfl rfl)
theorem dX1_areOrdered_52 : decode cX1_areOrdered 52 = .ok (.iastore, 1) := dk_79 (dk_at dksX1_areOrdered_2 4 rfl rfl)
theorem dX1_areOrdered_53 : decode cX1_areOrdered 53 = .ok (.iinc 3 1, 3) := dk_132 3 1 (dk_at dksX1_areOrdered_2 5 rfl rfl)
theorem dX1_areOrdered_56 : decode cX1_areOrdered 56 = .ok (.goto (-41), 3) := dk_167 255 215 (dk_at dksX1_areOrdered_2 8 rfl rfl)
theorem dX1_areOrdered_59 : decode cX1_areOrdered 59 = .ok (.iinc 2 1, 3) := dk_132 2 1 (dk_at dksX1_areOrdered_2 11 rfl rfl)
theorem dX1_areOrdered_62 : decode cX1_areOrdered 62 = .ok (.goto (-55), 3) := dk_167 255 201 (dk_at dksX1_areOrdered_2 14 rfl rfl)
theorem dX1_areOrdered_65 : decode cX1_areOrdered 65 = .ok (.iconst 1, 1) := dk_4 (dk_at dksX1_areOrdered_2 17 rfl rfl)
theorem dX1_areOrdered_66 : decode cX1_areOrdered 66 = .ok (.istore_n 2, 1) := dk_61 (dk_at dksX1_areOrdered_2 18 rfl rfl)
theorem dX1_areOrdered_67 : decode cX1_areOrdered 67 = .ok (.iconst 0, 1) := dk_3 (dk_at dksX1_areOrdered_2 19 rfl rfl)
theorem dX1_areOrdered_68 : decode cX1_areOrdered 68 = .ok (.istore_n 3, 1) := dk_62 (dk_at dksX1_areOrdered_2 20 rfl rfl)
theorem dX1_areOrdered_69 : decode cX1_areOrdered 69 = .ok (.iload_n 3, 1) := dk_29 (dk_at dksX1_areOrdered_2 21 rfl rfl)
theorem dX1_areOrdered_70 : decode cX1_areOrdered 70 = .ok (.bipush 8, 2) := dk_16 8 (dk_at dksX1_areOrdered_2 22 rfl rfl)
theorem dX1_areOrdered_72 : decode cX1_areOrdered 72 = .ok (.if_icmp .ge 138, 3) := dk_162 0 138 (dk_at dksX1_areOrdered_3 0 rfl rfl)
theorem dX1_areOrdered_75 : decode cX1_areOrdered 75 = .ok (.iconst 0, 1) := dk_3 (dk_at dksX1_areOrdered_3 3 rfl rfl)
theorem dX1_areOrdered_76 : decode cX1_areOrdered 76 = .ok (.istore 4, 2) := dk_54 4 (dk_at dksX1_areOrdered_3 4 rfl rfl)
theorem dX1_areOrdered_78 : decode cX1_areOrdered 78 = .ok (.iload 4, 2) := dk_21 4 (dk_at dksX1_areOrdered_3 6 rfl rfl)
theorem dX1_areOrdered_80 : decode cX1_areOrdered 80 = .ok (.bipush 8, 2) := dk_16 8 (dk_at dksX1_areOrdered_3 8 rfl rfl)
theorem dX1_areOrdered_82 : decode cX1_areOrdered 82 = .ok (.if_icmp .ge 122, 3) := dk_162 0 122 (dk_at dksX1_areOrdered_3 10 rfl rfl)
theorem dX1_areOrdered_85 : decode cX1_areOrdered 85 = .ok (.aload_n 0, 1) := dk_42 (dk_at dksX1_areOrdered_3 13 rfl rfl)
theorem dX1_areOrdered_86 : decode cX1_areOrdered 86 = .ok (.getfield 17, 3) := dk_180 0 17 (dk_at dksX1_areOrdered_3 14 rfl rfl)
theorem dX1_areOrdered_89 : decode cX1_areOrdered 89 = .ok (.iload_n 3, 1) := dk_29 (dk_at dksX1_areOrdered_3 17 rfl rfl)
theorem dX1_areOrdered_90 : decode cX1_areOrdered 90 = .ok (.daload, 1) := dk_49 (dk_at dksX1_areOrdered_3 18 rfl rfl)
theorem dX1_areOrdered_91 : decode cX1_areOrdered 91 = .ok (.aload_n 0, 1) := dk_42 (dk_at dksX1_areOrdered_3 19 rfl rfl)
theorem dX1_areOrdered_92 : decode cX1_areOrdered 92 = .ok (.getfield 17, 3) := dk_180 0 17 (dk_at dksX1_areOrdered_3 20 rfl rfl)
theorem dX1_areOrdered_95 : decode cX1_areOrdered 95 = .ok (.iload 4, 2) := dk_21 4 (dk_at dksX1_areOrdered_4 0 rfl rfl)
theorem dX1_areOrdered_97 : decode cX1_areOrdered 97 = .ok (.daload, 1) := dk_49 (dk_at dksX1_areOrdered_4 2 rfl rfl)
theorem dX1_areOrdered_98 : decode cX1_areOrdered 98 = .ok (.invokestatic 215, 3) := dk_184 0 215 (dk_at dksX1_areOrdered_4 3 rfl rfl)
theorem dX1_areOrdered_101 : decode cX1_areOrdered 101 = .ok (.istore 5, 2) := dk_54 5 (dk_at dksX1_areOrdered_4 6 rfl rfl)
theorem dX1_areOrdered_103 : decode cX1_areOrdered 103 = .ok (.iload_n 2, 1) := dk_28 (dk_at dksX1_areOrdered_4 8 rfl rfl)
theorem dX1_areOrdered_104 : decode cX1_areOrdered 104 = .ok (.iload 5, 2) := dk_21 5 (dk_at dksX1_areOrdered_4 9 rfl rfl)
theorem dX1_areOrdered_106 : decode cX1_areOrdered 106 = .ok (.aload_n 0, 1) := dk_42 (dk_at dksX1_areOrdered_4 11 rfl rfl)
theorem dX1_areOrdered_107 : decode cX1_areOrdered 107 = .ok (.getfield 17, 3) := dk_180 0 17 (dk_at dksX1_areOrdered_4 12 rfl rfl)
theorem dX1_areOrdered_110 : decode cX1_areOrdered 110 = .ok (.iload 4, 2) := dk_21 4 (dk_at dksX1_areOrdered_4 15 rfl rfl)
theorem dX1_areOrdered_112 : decode cX1_areOrdered 112 = .ok (.daload, 1) := dk_49 (dk_at dksX1_areOrdered_4 17 rfl rfl)
theorem dX1_areOrdered_113 : decode cX1_areOrdered 113 = .ok (.aload_n 0, 1) := dk_42 (dk_at dksX1_areOrdered_4 18 rfl rfl)
theorem dX1_areOrdered_114 : decode cX1_areOrdered 114 = .ok (.getfield 17, 3) := dk_180 0 17 (dk_at dksX1_areOrdered_4 19 rfl rfl)
theorem dX1_areOrdered_117 : decode cX1_areOrdered 117 = .ok (.iload_n 3, 1) := dk_29 (dk_at dksX1_areOrdered_4 22 rfl rfl)
theorem dX1_areOrdered_118 : decode cX1_areOrdered 118 = .ok (.daload, 1) := dk_49 (dk_at dksX1_areOrdered_4 23 rfl rfl)
theorem dX1_areOrdered_119 : decode cX1_areOrdered 119 = .ok (.invokestatic 215, 3) := dk_184 0 215 (dk_at dksX1_areOrdered_5 0 rfl rfl)
theorem dX1_areOrdered_122 : decode cX1_areOrdered 122 = .ok (.ineg, 1) := dk_116 (dk_at dksX1_areOrdered_5 3 rfl rfl)
theorem dX1_areOrdered_123 : decode cX1_areOrdered 123 = .ok (.if_icmp .ne 36, 3) := dk_160 0 36 (dk_at dksX1_areOrdered_5 4 rfl rfl)
theorem dX1_areOrdered_126 : decode cX1_areOrdered 126 = .ok (.iload 5, 2) := dk_21 5 (dk_at dksX1_areOrdered_5 7 rfl rfl)
theorem dX1_areOrdered_128 : decode cX1_areOrdered 128 = .ok (.ifCond .ne 7, 3) := dk_154 0 7 (dk_at dksX1_areOrdered_5 9 rfl rfl)
theorem dX1_areOrdered_131 : decode cX1_areOrdered 131 = .ok (.iconst 1, 1) := dk_4 (dk_at dksX1_areOrdered_5 12 rfl rfl)
theorem dX1_areOrdered_132 : decode cX1_areOrdered 132 = .ok (.goto 4, 3) := dk_167 0 4 (dk_at dksX1_areOrdered_5 13 rfl rfl)
theorem dX1_areOrdered_135 : decode cX1_areOrdered 135 = .ok (.iconst 0, 1) := dk_3 (dk_at dksX1_areOrdered_5 16 rfl rfl)
theorem dX1_areOrdered_136 : decode cX1_areOrdered 136 = .ok (.aload_n 0, 1) := dk_42 (dk_at dksX1_areOrdered_5 17 rfl rfl)
theorem dX1_areOrdered_137 : decode cX1_areOrdered 137 = .ok (.getfield 17, 3) := dk_180 0 17 (dk_at dksX1_areOrdered_5 18 rfl rfl)
theorem dX1_areOrdered_140 : decode cX1_areOrdered 140 = .ok (.iload_n 3, 1) := dk_29 (dk_at dksX1_areOrdered_5 21 rfl rfl)
theorem dX1_areOrdered_141 : decode cX1_areOrdered 141 = .ok (.daload, 1) := dk_49 (dk_at dksX1_areOrdered_5 22 rfl rfl)
theorem dX1_areOrdered_142 : decode cX1_areOrdered 142 = .ok (.aload_n 0, 1) := dk_42 (dk_at dksX1_areOrdered_5 23 rfl rfl)
theorem dX1_areOrdered_143 : decode cX1_areOrdered 143 = .ok (.getfield 17, 3) := dk_180 0 17 (dk_at dksX1_areOrdered_6 0 rfl rfl)
theorem dX1_areOrdered_146 : decode cX1_areOrdered 146 = .ok (.iload 4, 2) := dk_21 4 (dk_at dksX1_areOrdered_6 3 rfl rfl)
theorem dX1_areOrdered_148 : decode cX1_areOrdered 148 = .ok (.daload, 1) := dk_49 (dk_at dksX1_areOrdered_6 5 rfl rfl)
theorem dX1_areOrdered_149 : decode cX1_areOrdered 149 = .ok (.invokestatic 135, 3) := dk_184 0 135 (dk_at dksX1_areOrdered_6 6 rfl rfl)
theorem dX1_areOrdered_152 : decode cX1_areOrdered 152 = .ok (.if_icmp .ne 7, 3) := dk_160 0 7 (dk_at dksX1_areOrdered_6 9 rfl rfl)
theorem dX1_areOrdered_155 : decode cX1_areOrdered 155 = .ok (.iconst 1, 1) := dk_4 (dk_at dksX1_areOrdered_6 12 rfl rfl)
theorem dX1_areOrdered_156 : decode cX1_areOrdered 156 = .ok (.goto 4, 3) := dk_167 0 4 (dk_at dksX1_areOrdered_6 13 rfl rfl)
theorem dX1_areOrdered_159 : decode cX1_areOrdered 159 = .ok (.iconst 0, 1) := dk_3 (dk_at dksX1_areOrdered_6 16 rfl rfl)
theorem dX1_areOrdered_160 : decode cX1_areOrdered 160 = .ok (.iand, 1) := dk_126 (dk_at dksX1_areOrdered_6 17 rfl rfl)
theorem dX1_areOrdered_161 : decode cX1_areOrdered 161 = .ok (.istore_n 2, 1) := dk_61 (dk_at dksX1_areOrdered_6 18 rfl rfl)
theorem dX1_areOrdered_162 : decode cX1_areOrdered 162 = .ok (.iload_n 2, 1) := dk_28 (dk_at dksX1_areOrdered_6 19 rfl rfl)
theorem dX1_areOrdered_163 : decode cX1_areOrdered 163 = .ok (.iload 5, 2) := dk_21 5 (dk_at dksX1_areOrdered_6 20 rfl rfl)
theorem dX1_areOrdered_165 : decode cX1_areOrdered 165 = .ok (.ifCond .ge 7, 3) := dk_156 0 7 (dk_at dksX1_areOrdered_7 0 rfl rfl)
theorem dX1_areOrdered_168 : decode cX1_areOrdered 168 = .ok (.iconst 1, 1) := dk_4 (dk_at dksX1_areOrdered_7 3 rfl rfl)
theorem dX1_areOrdered_169 : decode cX1_areOrdered 169 = .ok (.goto 4, 3) := dk_167 0 4 (dk_at dksX1_areOrdered_7 4 rfl rfl)
theorem dX1_areOrdered_172 : decode cX1_areOrdered 172 = .ok (.iconst 0, 1) := dk_3 (dk_at dksX1_areOrdered_7 7 rfl rfl)
theorem dX1_areOrdered_173 : decode cX1_areOrdered 173 = .ok (.aload_n 1, 1) := dk_43 (dk_at dksX1_areOrdered_7 8 rfl rfl)
theorem dX1_areOrdered_174 : decode cX1_areOrdered 174 = .ok (.iload_n 3, 1) := dk_29 (dk_at dksX1_areOrdered_7 9 rfl rfl)
theorem dX1_areOrdered_175 : decode cX1_areOrdered 175 = .ok (.iaload, 1) := dk_46 (dk_at dksX1_areOrdered_7 10 rfl rfl)
theorem dX1_areOrdered_176 : decode cX1_areOrdered 176 = .ok (.aload_n 1, 1) := dk_43 (dk_at dksX1_areOrdered_7 11 rfl rfl)
theorem dX1_areOrdered_177 : decode cX1_areOrdered 177 = .ok (.iload 4, 2) := dk_21 4 (dk_at dksX1_areOrdered_7 12 rfl rfl)
theorem dX1_areOrdered_179 : decode cX1_areOrdered 179 = .ok (.iaload, 1) := dk_46 (dk_at dksX1_areOrdered_7 14 rfl rfl)
theorem dX1_areOrdered_180 : decode cX1_areOrdered 180 = .ok (.if_icmp .ge 7, 3) := dk_162 0 7 (dk_at dksX1_areOrdered_7 15 rfl rfl)
theorem dX1_areOrdered_183 : decode cX1_areOrdered 183 = .ok (.iconst 1, 1) := dk_4 (dk_at dksX1_areOrdered_7 18 rfl rfl)
theorem dX1_areOrdered_184 : decode cX1_areOrdered 184 = .ok (.goto 4, 3) := dk_167 0 4 (dk_at dksX1_areOrdered_7 19 rfl rfl)
theorem dX1_areOrdered_187 : decode cX1_areOrdered 187 = .ok (.iconst 0, 1) := dk_3 (dk_at dksX1_areOrdered_7 22 rfl rfl)
theorem dX1_areOrdered_188 : decode cX1_areOrdered 188 = .ok (.if_icmp .ne 7, 3) := dk_160 0 7 (dk_at dksX1_areOrdered_8 0 rfl rfl)
theorem dX1_areOrdered_191 : decode cX1_areOrdered 191 = .ok (.iconst 1, 1) := dk_4 (dk_at dksX1_areOrdered_8 3 rfl rfl)
theorem dX1_areOrdered_192 : decode cX1_areOrdered 192 = .ok (.goto 4, 3) := dk_167 0 4 (dk_at dksX1_areOrdered_8 4 rfl rfl)
theorem dX1_areOrdered_195 : decode cX1_areOrdered 195 = .ok (.iconst 0, 1) := dk_3 (dk_at dksX1_areOrdered_8 7 rfl rfl)
theorem dX1_areOrdered_196 : decode cX1_areOrdered 196 = .ok (.iand, 1) := dk_126 (dk_at dksX1_areOrdered_8 8 rfl rfl)
theorem dX1_areOrdered_197 : decode cX1_areOrdered 197 = .ok (.istore_n 2, 1) := dk_61 (dk_at dksX1_areOrdered_8 9 rfl rfl)
theorem dX1_areOrdered_198 : decode cX1_areOrdered 198 = .ok (.iinc 4 1, 3) := dk_132 4 1 (dk_at dksX1_areOrdered_8 10 rfl rfl)
theorem dX1_areOrdered_201 : decode cX1_areOrdered 201 = .ok (.goto (-123), 3) := dk_167 255 133 (dk_at dksX1_areOrdered_8 13 rfl rfl)
theorem dX1_areOrdered_204 : decode cX1_areOrdered 204 = .ok (.iinc 3 1, 3) := dk_132 3 1 (dk_at dksX1_areOrdered_8 16 rfl rfl)
theorem dX1_areOrdered_207 : decode cX1_areOrdered 207 = .ok (.goto (-138), 3) := dk_167 255 118 (dk_at dksX1_areOrdered_8 19 rfl rfl)
theorem dX1_areOrdered_210 : decode cX1_areOrdered 210 = .ok (.iload_n 2, 1) := dk_28 (dk_at dksX1_areOrdered_8 22 rfl rfl)
theorem dX1_areOrdered_211 : decode cX1_areOrdered 211 = .ok (.ireturn, 1) := dk_172 (dk_at dksX1_areOrdered_8 23 rfl rfl)
abbrev cX1_areParted : ByteArray := prog_1_method_88_code
def yX1_areParted : MethodName := ⟨RX1, "areParted", "(I)Z"⟩
def dkwX1_areParted_6 : List UInt8 := [167, 255, 164, 132, 4, 1, 167, 255, 148, 29, 172]
abbrev dktX1_areParted_6 : List UInt8 := dkwX1_areParted_6 ++ []
def dkwX1_areParted_5 : List UInt8 := [184, 0, 215, 154, 0, 7, 4, 167, 0, 4, 3, 160, 0, 7, 4, 167, 0, 4, 3, 126, 62, 132, 5, 1]
abbrev dktX1_areParted_5 : List UInt8 := dkwX1_areParted_5 ++ dktX1_areParted_6
def dkwX1_areParted_4 : List UInt8 := [180, 0, 13, 21, 5, 49, 184, 0, 135, 54, 6, 29, 21, 6, 44, 21, 4, 49, 44, 21, 5, 49]
abbrev dktX1_areParted_4 : List UInt8 := dkwX1_areParted_4 ++ dktX1_areParted_5
def dkwX1_areParted_3 : List UInt8 := [42, 180, 0, 13, 21, 5, 49, 184, 0, 67, 184, 0, 135, 167, 0, 20, 42, 180, 0, 13, 21, 4, 49, 42]
abbrev dktX1_areParted_3 : List UInt8 := dkwX1_areParted_3 ++ dktX1_areParted_4
def dkwX1_areParted_2 : List UInt8 := [54, 5, 21, 5, 16, 8, 162, 0, 91, 27, 4, 160, 0, 29, 42, 180, 0, 13, 21, 4, 49, 184, 0, 67]
abbrev dktX1_areParted_2 : List UInt8 := dkwX1_areParted_2 ++ dktX1_areParted_3
def dkwX1_areParted_1 : List UInt8 := [184, 0, 249, 82, 132, 3, 1, 167, 255, 234, 4, 62, 3, 54, 4, 21, 4, 16, 8, 162, 0, 107, 3]
abbrev dktX1_areParted_1 : List UInt8 := dkwX1_areParted_1 ++ dktX1_areParted_2
def dkwX1_areParted_0 : List UInt8 := [16, 8, 188, 7, 77, 3, 62, 29, 16, 8, 162, 0, 22, 44, 29, 27, 42, 180, 0, 13, 29, 49]
abbrev dktX1_areParted_0 : List UInt8 := dkwX1_areParted_0 ++ dktX1_areParted_1
theorem dksX1_areParted_0 : cX1_areParted.data.toList.drop 0 = dktX1_areParted_0 := by decide +kernel
theorem dksX1_areParted_1 : cX1_areParted.data.toList.drop 22 = dktX1_areParted_1 := dk_seg dksX1_areParted_0 22 rfl rfl
theorem dksX1_areParted_2 : cX1_areParted.data.toList.drop 45 = dktX1_areParted_2 := dk_seg dksX1_areParted_1 23 rfl rfl
theorem dksX1_areParted_3 : cX1_areParted.data.toList.drop 69 = dktX1_areParted_3 := dk_seg dksX1_areParted_2 24 rfl rfl
theorem dksX1_areParted_4 : cX1_areParted.data.toList.drop 93 = dktX1_areParted_4 := dk_seg dksX1_areParted_3 24 rfl rfl
theorem dksX1_areParted_5 : cX1_areParted.data.toList.drop 115 = dktX1_areParted_5 := dk_seg dksX1_areParted_4 22 rfl rfl
theorem dksX1_areParted_6 : cX1_areParted.data.toList.drop 139 = dktX1_areParted_6 := dk_seg dksX1_areParted_5 24 rfl rfl
theorem dX1_areParted_0 : decode cX1_areParted 0 = .ok (.bipush 8, 2) := dk_16 8 (dk_at dksX1_areParted_0 0 rfl rfl)
theorem dX1_areParted_2 : decode cX1_areParted 2 = .ok (.newarray .double, 2) := dk_188_7 (dk_at dksX1_areParted_0 2 rfl rfl)
theorem dX1_areParted_4 : decode cX1_areParted 4 = .ok (.astore_n 2, 1) := dk_77 (dk_at dksX1_areParted_0 4 rfl rfl)
theorem dX1_areParted_5 : decode cX1_areParted 5 = .ok (.iconst 0, 1) := dk_3 (dk_at dksX1_areParted_0 5 rfl rfl)
theorem dX1_areParted_6 : decode cX1_areParted 6 = .ok (.istore_n 3, 1) := dk_62 (dk_at dksX1_areParted_0 6 rfl rfl)
theorem dX1_areParted_7 : decode cX1_areParted 7 = .ok (.iload_n 3, 1) := dk_29 (dk_at dksX1_areParted_0 7 rfl rfl)
theorem dX1_areParted_8 : decode cX1_areParted 8 = .ok (.bipush 8, 2) := dk_16 8 (dk_at dksX1_areParted_0 8 rfl rfl)
theorem dX1_areParted_10 : decode cX1_areParted 10 = .ok (.if_icmp .ge 22, 3) := dk_162 0 22 (dk_at dksX1_areParted_0 10 rfl rfl)
theorem dX1_areParted_13 : decode cX1_areParted 13 = .ok (.aload_n 2, 1) := dk_44 (dk_at dksX1_areParted_0 13 rfl rfl)
theorem dX1_areParted_14 : decode cX1_areParted 14 = .ok (.iload_n 3, 1) := dk_29 (dk_at dksX1_areParted_0 14 rfl rfl)
theorem dX1_areParted_15 : decode cX1_areParted 15 = .ok (.iload_n 1, 1) := dk_27 (dk_at dksX1_areParted_0 15 rfl rfl)
theorem dX1_areParted_16 : decode cX1_areParted 16 = .ok (.aload_n 0, 1) := dk_42 (dk_at dksX1_areParted_0 16 rfl rfl)
theorem dX1_areParted_17 : decode cX1_areParted 17 = .ok (.getfield 13, 3) := dk_180 0 13 (dk_at dksX1_areParted_0 17 rfl rfl)
theorem dX1_areParted_20 : decode cX1_areParted 20 = .ok (.iload_n 3, 1) := dk_29 (dk_at dksX1_areParted_0 20 rfl rfl)
theorem dX1_areParted_21 : decode cX1_areParted 21 = .ok (.daload, 1) := dk_49 (dk_at dksX1_areParted_0 21 rfl rfl)
theorem dX1_areParted_22 : decode cX1_areParted 22 = .ok (.invokestatic 249, 3) := dk_184 0 249 (dk_at dksX1_areParted_1 0 rfl rfl)
theorem dX1_areParted_25 : decode cX1_areParted 25 = .ok (.dastore, 1) := dk_82 (dk_at dksX1_areParted_1 3 rfl rfl)
theorem dX1_areParted_26 : decode cX1_areParted 26 = .ok (.iinc 3 1, 3) := dk_132 3 1 (dk_at dksX1_areParted_1 4 rfl rfl)
theorem dX1_areParted_29 : decode cX1_areParted 29 = .ok (.goto (-22), 3) := dk_167 255 234 (dk_at dksX1_areParted_1 7 rfl rfl)
theorem dX1_areParted_32 : decode cX1_areParted 32 = .ok (.iconst 1, 1) := dk_4 (dk_at dksX1_areParted_1 10 rfl rfl)
theorem dX1_areParted_33 : decode cX1_areParted 33 = .ok (.istore_n 3, 1) := dk_62 (dk_at dksX1_areParted_1 11 rfl rfl)
theorem dX1_areParted_34 : decode cX1_areParted 34 = .ok (.iconst 0, 1) := dk_3 (dk_at dksX1_areParted_1 12 rfl rfl)
theorem dX1_areParted_35 : decode cX1_areParted 35 = .ok (.istore 4, 2) := dk_54 4 (dk_at dksX1_areParted_1 13 rfl rfl)
theorem dX1_areParted_37 : decode cX1_areParted 37 = .ok (.iload 4, 2) := dk_21 4 (dk_at dksX1_areParted_1 15 rfl rfl)
theorem dX1_areParted_39 : decode cX1_areParted 39 = .ok (.bipush 8, 2) := dk_16 8 (dk_at dksX1_areParted_1 17 rfl rfl)
theorem dX1_areParted_41 : decode cX1_areParted 41 = .ok (.if_icmp .ge 107, 3) := dk_162 0 107 (dk_at dksX1_areParted_1 19 rfl rfl)
theorem dX1_areParted_44 : decode cX1_areParted 44 = .ok (.iconst 0, 1) := dk_3 (dk_at dksX1_areParted_1 22 rfl rfl)
theorem dX1_areParted_45 : decode cX1_areParted 45 = .ok (.istore 5, 2) := dk_54 5 (dk_at dksX1_areParted_2 0 rfl rfl)
theorem dX1_areParted_47 : decode cX1_areParted 47 = .ok (.iload 5, 2) := dk_21 5 (dk_at dksX1_areParted_2 2 rfl rfl)
theorem dX1_areParted_49 : decode cX1_areParted 49 = .ok (.bipush 8, 2) := dk_16 8 (dk_at dksX1_areParted_2 4 rfl rfl)
theorem dX1_areParted_51 : decode cX1_areParted 51 = .ok (.if_icmp .ge 91, 3) := dk_162 0 91 (dk_at dksX1_areParted_2 6 rfl rfl)
theorem dX1_areParted_54 : decode cX1_areParted 54 = .ok (.iload_n 1, 1) := dk_27 (dk_at dksX1_areParted_2 9 rfl rfl)
theorem dX1_areParted_55 : decode cX1_areParted 55 = .ok (.iconst 1, 1) := dk_4 (dk_at dksX1_areParted_2 10 rfl rfl)
theorem dX1_areParted_56 : decode cX1_areParted 56 = .ok (.if_icmp .ne 29, 3) := dk_160 0 29 (dk_at dksX1_areParted_2 11 rfl rfl)
theorem dX1_areParted_59 : decode cX1_areParted 59 = .ok (.aload_n 0, 1) := dk_42 (dk_at dksX1_areParted_2 14 rfl rfl)
theorem dX1_areParted_60 : decode cX1_areParted 60 = .ok (.getfield 13, 3) := dk_180 0 13 (dk_at dksX1_areParted_2 15 rfl rfl)
theorem dX1_areParted_63 : decode cX1_areParted 63 = .ok (.iload 4, 2) := dk_21 4 (dk_at dksX1_areParted_2 18 rfl rfl)
theorem dX1_areParted_65 : decode cX1_areParted 65 = .ok (.daload, 1) := dk_49 (dk_at dksX1_areParted_2 20 rfl rfl)
theorem dX1_areParted_66 : decode cX1_areParted 66 = .ok (.invokestatic 67, 3) := dk_184 0 67 (dk_at dksX1_areParted_2 21 rfl rfl)
theorem dX1_areParted_69 : decode cX1_areParted 69 = .ok (.aload_n 0, 1) := dk_42 (dk_at dksX1_areParted_3 0 rfl rfl)
theorem dX1_areParted_70 : decode cX1_areParted 70 = .ok (.getfield 13, 3) := dk_180 0 13 (dk_at dksX1_areParted_3 1 rfl rfl)
theorem dX1_areParted_73 : decode cX1_areParted 73 = .ok (.iload 5, 2) := dk_21 5 (dk_at dksX1_areParted_3 4 rfl rfl)
theorem dX1_areParted_75 : decode cX1_areParted 75 = .ok (.daload, 1) := dk_49 (dk_at dksX1_areParted_3 6 rfl rfl)
theorem dX1_areParted_76 : decode cX1_areParted 76 = .ok (.invokestatic 67, 3) := dk_184 0 67 (dk_at dksX1_areParted_3 7 rfl rfl)
theorem dX1_areParted_79 : decode cX1_areParted 79 = .ok (.invokestatic 135, 3) := dk_184 0 135 (dk_at dksX1_areParted_3 10 rfl rfl)
theorem dX1_areParted_82 : decode cX1_areParted 82 = .ok (.goto 20, 3) := dk_167 0 20 (dk_at dksX1_areParted_3 13 rfl rfl)
theorem dX1_areParted_85 : decode cX1_areParted 85 = .ok (.aload_n 0, 1) := dk_42 (dk_at dksX1_areParted_3 16 rfl rfl)
theorem dX1_areParted_86 : decode cX1_areParted 86 = .ok (.getfield 13, 3) := dk_180 0 13 (dk_at dksX1_areParted_3 17 rfl rfl)
theorem dX1_areParted_89 : decode cX1_areParted 89 = .ok (.iload 4, 2) := dk_21 4 (dk_at dksX1_areParted_3 20 rfl rfl)
theorem dX1_areParted_91 : decode cX1_areParted 91 = .ok (.daload, 1) := dk_49 (dk_at dksX1_areParted_3 22 rfl rfl)
theorem dX1_areParted_92 : decode cX1_areParted 92 = .ok (.aload_n 0, 1) := dk_42 (dk_at dksX1_areParted_3 23 rfl rfl)
theorem dX1_areParted_93 : decode cX1_areParted 93 = .ok (.getfield 13, 3) := dk_180 0 13 (dk_at dksX1_areParted_4 0 rfl rfl)
theorem dX1_areParted_96 : decode cX1_areParted 96 = .ok (.iload 5, 2) := dk_21 5 (dk_at dksX1_areParted_4 3 rfl rfl)
theorem dX1_areParted_98 : decode cX1_areParted 98 = .ok (.daload, 1) := dk_49 (dk_at dksX1_areParted_4 5 rfl rfl)
theorem dX1_areParted_99 : decode cX1_areParted 99 = .ok (.invokestatic 135, 3) := dk_184 0 135 (dk_at dksX1_areParted_4 6 rfl rfl)
theorem dX1_areParted_102 : decode cX1_areParted 102 = .ok (.istore 6, 2) := dk_54 6 (dk_at dksX1_areParted_4 9 rfl rfl)
theorem dX1_areParted_104 : decode cX1_areParted 104 = .ok (.iload_n 3, 1) := dk_29 (dk_at dksX1_areParted_4 11 rfl rfl)
theorem dX1_areParted_105 : decode cX1_areParted 105 = .ok (.iload 6, 2) := dk_21 6 (dk_at dksX1_areParted_4 12 rfl rfl)
theorem dX1_areParted_107 : decode cX1_areParted 107 = .ok (.aload_n 2, 1) := dk_44 (dk_at dksX1_areParted_4 14 rfl rfl)
theorem dX1_areParted_108 : decode cX1_areParted 108 = .ok (.iload 4, 2) := dk_21 4 (dk_at dksX1_areParted_4 15 rfl rfl)
theorem dX1_areParted_110 : decode cX1_areParted 110 = .ok (.daload, 1) := dk_49 (dk_at dksX1_areParted_4 17 rfl rfl)
theorem dX1_areParted_111 : decode cX1_areParted 111 = .ok (.aload_n 2, 1) := dk_44 (dk_at dksX1_areParted_4 18 rfl rfl)
theorem dX1_areParted_112 : decode cX1_areParted 112 = .ok (.iload 5, 2) := dk_21 5 (dk_at dksX1_areParted_4 19 rfl rfl)
theorem dX1_areParted_114 : decode cX1_areParted 114 = .ok (.daload, 1) := dk_49 (dk_at dksX1_areParted_4 21 rfl rfl)
theorem dX1_areParted_115 : decode cX1_areParted 115 = .ok (.invokestatic 215, 3) := dk_184 0 215 (dk_at dksX1_areParted_5 0 rfl rfl)
theorem dX1_areParted_118 : decode cX1_areParted 118 = .ok (.ifCond .ne 7, 3) := dk_154 0 7 (dk_at dksX1_areParted_5 3 rfl rfl)
theorem dX1_areParted_121 : decode cX1_areParted 121 = .ok (.iconst 1, 1) := dk_4 (dk_at dksX1_areParted_5 6 rfl rfl)
theorem dX1_areParted_122 : decode cX1_areParted 122 = .ok (.goto 4, 3) := dk_167 0 4 (dk_at dksX1_areParted_5 7 rfl rfl)
theorem dX1_areParted_125 : decode cX1_areParted 125 = .ok (.iconst 0, 1) := dk_3 (dk_at dksX1_areParted_5 10 rfl rfl)
theorem dX1_areParted_126 : decode cX1_areParted 126 = .ok (.if_icmp .ne 7, 3) := dk_160 0 7 (dk_at dksX1_areParted_5 11 rfl rfl)
theorem dX1_areParted_129 : decode cX1_areParted 129 = .ok (.iconst 1, 1) := dk_4 (dk_at dksX1_areParted_5 14 rfl rfl)
theorem dX1_areParted_130 : decode cX1_areParted 130 = .ok (.goto 4, 3) := dk_167 0 4 (dk_at dksX1_areParted_5 15 rfl rfl)
theorem dX1_areParted_133 : decode cX1_areParted 133 = .ok (.iconst 0, 1) := dk_3 (dk_at dksX1_areParted_5 18 rfl rfl)
theorem dX1_areParted_134 : decode cX1_areParted 134 = .ok (.iand, 1) := dk_126 (dk_at dksX1_areParted_5 19 rfl rfl)
theorem dX1_areParted_135 : decode cX1_areParted 135 = .ok (.istore_n 3, 1) := dk_62 (dk_at dksX1_areParted_5 20 rfl rfl)
theorem dX1_areParted_136 : decode cX1_areParted 136 = .ok (.iinc 5 1, 3) := dk_132 5 1 (dk_at dksX1_areParted_5 21 rfl rfl)
theorem dX1_areParted_139 : decode cX1_areParted 139 = .ok (.goto (-92), 3) := dk_167 255 164 (dk_at dksX1_areParted_6 0 rfl rfl)
theorem dX1_areParted_142 : decode cX1_areParted 142 = .ok (.iinc 4 1, 3) := dk_132 4 1 (dk_at dksX1_areParted_6 3 rfl rfl)
theorem dX1_areParted_145 : decode cX1_areParted 145 = .ok (.goto (-108), 3) := dk_167 255 148 (dk_at dksX1_areParted_6 6 rfl rfl)
theorem dX1_areParted_148 : decode cX1_areParted 148 = .ok (.iload_n 3, 1) := dk_29 (dk_at dksX1_areParted_6 9 rfl rfl)
theorem dX1_areParted_149 : decode cX1_areParted 149 = .ok (.ireturn, 1) := dk_172 (dk_at dksX1_areParted_6 10 rfl rfl)
abbrev cX1_answer : ByteArray := prog_1_method_20_code
def yX1_answer : MethodName := ⟨RX1, "answer", "(ID)D"⟩
def dkwX1_answer_2 : List UInt8 := [39, 184, 0, 117, 175, 39, 184, 0, 122, 175, 39, 184, 0, 125, 175]
abbrev dktX1_answer_2 : List UInt8 := dkwX1_answer_2 ++ []
def dkwX1_answer_1 : List UInt8 := [171, 0, 0, 0, 0, 0, 37, 0, 0, 0, 2, 0, 0, 0, 0, 0, 0, 0, 27, 0, 0, 0, 1, 0, 0, 0, 32]
abbrev dktX1_answer_1 : List UInt8 := dkwX1_answer_1 ++ dktX1_answer_2
def dkwX1_answer_0 : List UInt8 := [26]
abbrev dktX1_answer_0 : List UInt8 := dkwX1_answer_0 ++ dktX1_answer_1
theorem dksX1_answer_0 : cX1_answer.data.toList.drop 0 = dktX1_answer_0 := by decide +kernel
theorem dksX1_answer_1 : cX1_answer.data.toList.drop 1 = dktX1_answer_1 := dk_seg dksX1_answer_0 1 rfl rfl
theorem dksX1_answer_2 : cX1_answer.data.toList.drop 28 = dktX1_answer_2 := dk_seg dksX1_answer_1 27 rfl rfl
theorem dX1_answer_0 : decode cX1_answer 0 = .ok (.iload_n 0, 1) := dk_26 (dk_at dksX1_answer_0 0 rfl rfl)
theorem dX1_answer_1 : decode cX1_answer 1 = .ok (.lookupswitch 37 #[(0, 27), (1, 32)], 27) := by decide +kernel
theorem dX1_answer_28 : decode cX1_answer 28 = .ok (.dload_n 1, 1) := dk_39 (dk_at dksX1_answer_2 0 rfl rfl)
theorem dX1_answer_29 : decode cX1_answer 29 = .ok (.invokestatic 117, 3) := dk_184 0 117 (dk_at dksX1_answer_2 1 rfl rfl)
theorem dX1_answer_32 : decode cX1_answer 32 = .ok (.dreturn, 1) := dk_175 (dk_at dksX1_answer_2 4 rfl rfl)
theorem dX1_answer_33 : decode cX1_answer 33 = .ok (.dload_n 1, 1) := dk_39 (dk_at dksX1_answer_2 5 rfl rfl)
theorem dX1_answer_34 : decode cX1_answer 34 = .ok (.invokestatic 122, 3) := dk_184 0 122 (dk_at dksX1_answer_2 6 rfl rfl)
theorem dX1_answer_37 : decode cX1_answer 37 = .ok (.dreturn, 1) := dk_175 (dk_at dksX1_answer_2 9 rfl rfl)
theorem dX1_answer_38 : decode cX1_answer 38 = .ok (.dload_n 1, 1) := dk_39 (dk_at dksX1_answer_2 10 rfl rfl)
theorem dX1_answer_39 : decode cX1_answer 39 = .ok (.invokestatic 125, 3) := dk_184 0 125 (dk_at dksX1_answer_2 11 rfl rfl)
theorem dX1_answer_42 : decode cX1_answer 42 = .ok (.dreturn, 1) := dk_175 (dk_at dksX1_answer_2 14 rfl rfl)
abbrev cX1_eighths : ByteArray := prog_1_method_24_code
def yX1_eighths : MethodName := ⟨RX1, "eighths", "(II)I"⟩
def dkwX1_eighths_1 : List UInt8 := [182, 0, 158, 172]
abbrev dktX1_eighths_1 : List UInt8 := dkwX1_eighths_1 ++ []
def dkwX1_eighths_0 : List UInt8 := [27, 184, 0, 128, 28, 17, 128, 0, 18, 153, 184, 0, 28, 184, 0, 154, 42, 27, 28, 135, 20, 0, 141, 107]
abbrev dktX1_eighths_0 : List UInt8 := dkwX1_eighths_0 ++ dktX1_eighths_1
theorem dksX1_eighths_0 : cX1_eighths.data.toList.drop 0 = dktX1_eighths_0 := by decide +kernel
theorem dksX1_eighths_1 : cX1_eighths.data.toList.drop 24 = dktX1_eighths_1 := dk_seg dksX1_eighths_0 24 rfl rfl
theorem dX1_eighths_0 : decode cX1_eighths 0 = .ok (.iload_n 1, 1) := dk_27 (dk_at dksX1_eighths_0 0 rfl rfl)
theorem dX1_eighths_1 : decode cX1_eighths 1 = .ok (.invokestatic 128, 3) := dk_184 0 128 (dk_at dksX1_eighths_0 1 rfl rfl)
theorem dX1_eighths_4 : decode cX1_eighths 4 = .ok (.iload_n 2, 1) := dk_28 (dk_at dksX1_eighths_0 4 rfl rfl)
theorem dX1_eighths_5 : decode cX1_eighths 5 = .ok (.sipush (-32768), 3) := dk_17 128 0 (dk_at dksX1_eighths_0 5 rfl rfl)
theorem dX1_eighths_8 : decode cX1_eighths 8 = .ok (.ldc 153, 2) := dk_18 153 (dk_at dksX1_eighths_0 8 rfl rfl)
theorem dX1_eighths_10 : decode cX1_eighths 10 = .ok (.invokestatic 28, 3) := dk_184 0 28 (dk_at dksX1_eighths_0 10 rfl rfl)
theorem dX1_eighths_13 : decode cX1_eighths 13 = .ok (.invokestatic 154, 3) := dk_184 0 154 (dk_at dksX1_eighths_0 13 rfl rfl)
theorem dX1_eighths_16 : decode cX1_eighths 16 = .ok (.aload_n 0, 1) := dk_42 (dk_at dksX1_eighths_0 16 rfl rfl)
theorem dX1_eighths_17 : decode cX1_eighths 17 = .ok (.iload_n 1, 1) := dk_27 (dk_at dksX1_eighths_0 17 rfl rfl)
theorem dX1_eighths_18 : decode cX1_eighths 18 = .ok (.iload_n 2, 1) := dk_28 (dk_at dksX1_eighths_0 18 rfl rfl)
theorem dX1_eighths_19 : decode cX1_eighths 19 = .ok (.i2d, 1) := dk_135 (dk_at dksX1_eighths_0 19 rfl rfl)
theorem dX1_eighths_20 : decode cX1_eighths 20 = .ok (.ldc2_w 141, 3) := dk_20 0 141 (dk_at dksX1_eighths_0 20 rfl rfl)
theorem dX1_eighths_23 : decode cX1_eighths 23 = .ok (.dmul, 1) := dk_107 (dk_at dksX1_eighths_0 23 rfl rfl)
theorem dX1_eighths_24 : decode cX1_eighths 24 = .ok (.invokevirtual 158, 3) := dk_182 0 158 (dk_at dksX1_eighths_1 0 rfl rfl)
theorem dX1_eighths_27 : decode cX1_eighths 27 = .ok (.ireturn, 1) := dk_172 (dk_at dksX1_eighths_1 3 rfl rfl)
abbrev cX1_anglePut : ByteArray := prog_1_method_22_code
def yX1_anglePut : MethodName := ⟨RX1, "anglePut", "(ID)I"⟩
def dkwX1_anglePut_2 : List UInt8 := [4, 167, 0, 4, 3, 184, 0, 57, 172]
abbrev dktX1_anglePut_2 : List UInt8 := dkwX1_anglePut_2 ++ []
def dkwX1_anglePut_1 : List UInt8 := [40, 184, 0, 24, 84, 42, 89, 180, 0, 132, 4, 96, 181, 0, 132, 24, 4, 40, 184, 0, 135, 154, 0, 7]
abbrev dktX1_anglePut_1 : List UInt8 := dkwX1_anglePut_1 ++ dktX1_anglePut_2
def dkwX1_anglePut_0 : List UInt8 := [27, 184, 0, 128, 42, 180, 0, 13, 27, 49, 57, 4, 42, 180, 0, 13, 27, 40, 82, 42, 180, 0, 20, 27]
abbrev dktX1_anglePut_0 : List UInt8 := dkwX1_anglePut_0 ++ dktX1_anglePut_1
theorem dksX1_anglePut_0 : cX1_anglePut.data.toList.drop 0 = dktX1_anglePut_0 := by decide +kernel
theorem dksX1_anglePut_1 : cX1_anglePut.data.toList.drop 24 = dktX1_anglePut_1 := dk_seg dksX1_anglePut_0 24 rfl rfl
theorem dksX1_anglePut_2 : cX1_anglePut.data.toList.drop 48 = dktX1_anglePut_2 := dk_seg dksX1_anglePut_1 24 rfl rfl
theorem dX1_anglePut_0 : decode cX1_anglePut 0 = .ok (.iload_n 1, 1) := dk_27 (dk_at dksX1_anglePut_0 0 rfl rfl)
theorem dX1_anglePut_1 : decode cX1_anglePut 1 = .ok (.invokestatic 128, 3) := dk_184 0 128 (dk_at dksX1_anglePut_0 1 rfl rfl)
theorem dX1_anglePut_4 : decode cX1_anglePut 4 = .ok (.aload_n 0, 1) := dk_42 (dk_at dksX1_anglePut_0 4 rfl rfl)
theorem dX1_anglePut_5 : decode cX1_anglePut 5 = .ok (.getfield 13, 3) := dk_180 0 13 (dk_at dksX1_anglePut_0 5 rfl rfl)
theorem dX1_anglePut_8 : decode cX1_anglePut 8 = .ok (.iload_n 1, 1) := dk_27 (dk_at dksX1_anglePut_0 8 rfl rfl)
theorem dX1_anglePut_9 : decode cX1_anglePut 9 = .ok (.daload, 1) := dk_49 (dk_at dksX1_anglePut_0 9 rfl rfl)
theorem dX1_anglePut_10 : decode cX1_anglePut 10 = .ok (.dstore 4, 2) := dk_57 4 (dk_at dksX1_anglePut_0 10 rfl rfl)
theorem dX1_anglePut_12 : decode cX1_anglePut 12 = .ok (.aload_n 0, 1) := dk_42 (dk_at dksX1_anglePut_0 12 rfl rfl)
theorem dX1_anglePut_13 : decode cX1_anglePut 13 = .ok (.getfield 13, 3) := dk_180 0 13 (dk_at dksX1_anglePut_0 13 rfl rfl)
theorem dX1_anglePut_16 : decode cX1_anglePut 16 = .ok (.iload_n 1, 1) := dk_27 (dk_at dksX1_anglePut_0 16 rfl rfl)
theorem dX1_anglePut_17 : decode cX1_anglePut 17 = .ok (.dload_n 2, 1) := dk_40 (dk_at dksX1_anglePut_0 17 rfl rfl)
theorem dX1_anglePut_18 : decode cX1_anglePut 18 = .ok (.dastore, 1) := dk_82 (dk_at dksX1_anglePut_0 18 rfl rfl)
theorem dX1_anglePut_19 : decode cX1_anglePut 19 = .ok (.aload_n 0, 1) := dk_42 (dk_at dksX1_anglePut_0 19 rfl rfl)
theorem dX1_anglePut_20 : decode cX1_anglePut 20 = .ok (.getfield 20, 3) := dk_180 0 20 (dk_at dksX1_anglePut_0 20 rfl rfl)
theorem dX1_anglePut_23 : decode cX1_anglePut 23 = .ok (.iload_n 1, 1) := dk_27 (dk_at dksX1_anglePut_0 23 rfl rfl)
theorem dX1_anglePut_24 : decode cX1_anglePut 24 = .ok (.dload_n 2, 1) := dk_40 (dk_at dksX1_anglePut_1 0 rfl rfl)
theorem dX1_anglePut_25 : decode cX1_anglePut 25 = .ok (.invokestatic 24, 3) := dk_184 0 24 (dk_at dksX1_anglePut_1 1 rfl rfl)
theorem dX1_anglePut_28 : decode cX1_anglePut 28 = .ok (.bastore, 1) := dk_84 (dk_at dksX1_anglePut_1 4 rfl rfl)
theorem dX1_anglePut_29 : decode cX1_anglePut 29 = .ok (.aload_n 0, 1) := dk_42 (dk_at dksX1_anglePut_1 5 rfl rfl)
theorem dX1_anglePut_30 : decode cX1_anglePut 30 = .ok (.dup, 1) := dk_89 (dk_at dksX1_anglePut_1 6 rfl rfl)
theorem dX1_anglePut_31 : decode cX1_anglePut 31 = .ok (.getfield 132, 3) := dk_180 0 132 (dk_at dksX1_anglePut_1 7 rfl rfl)
theorem dX1_anglePut_34 : decode cX1_anglePut 34 = .ok (.iconst 1, 1) := dk_4 (dk_at dksX1_anglePut_1 10 rfl rfl)
theorem dX1_anglePut_35 : decode cX1_anglePut 35 = .ok (.iadd, 1) := dk_96 (dk_at dksX1_anglePut_1 11 rfl rfl)
theorem dX1_anglePut_36 : decode cX1_anglePut 36 = .ok (.putfield 132, 3) := dk_181 0 132 (dk_at dksX1_anglePut_1 12 rfl rfl)
theorem dX1_anglePut_39 : decode cX1_anglePut 39 = .ok (.dload 4, 2) := dk_24 4 (dk_at dksX1_anglePut_1 15 rfl rfl)
theorem dX1_anglePut_41 : decode cX1_anglePut 41 = .ok (.dload_n 2, 1) := dk_40 (dk_at dksX1_anglePut_1 17 rfl rfl)
theorem dX1_anglePut_42 : decode cX1_anglePut 42 = .ok (.invokestatic 135, 3) := dk_184 0 135 (dk_at dksX1_anglePut_1 18 rfl rfl)
theorem dX1_anglePut_45 : decode cX1_anglePut 45 = .ok (.ifCond .ne 7, 3) := dk_154 0 7 (dk_at dksX1_anglePut_1 21 rfl rfl)
theorem dX1_anglePut_48 : decode cX1_anglePut 48 = .ok (.iconst 1, 1) := dk_4 (dk_at dksX1_anglePut_2 0 rfl rfl)
theorem dX1_anglePut_49 : decode cX1_anglePut 49 = .ok (.goto 4, 3) := dk_167 0 4 (dk_at dksX1_anglePut_2 1 rfl rfl)
theorem dX1_anglePut_52 : decode cX1_anglePut 52 = .ok (.iconst 0, 1) := dk_3 (dk_at dksX1_anglePut_2 4 rfl rfl)
theorem dX1_anglePut_53 : decode cX1_anglePut 53 = .ok (.invokestatic 57, 3) := dk_184 0 57 (dk_at dksX1_anglePut_2 5 rfl rfl)
theorem dX1_anglePut_56 : decode cX1_anglePut 56 = .ok (.ireturn, 1) := dk_172 (dk_at dksX1_anglePut_2 8 rfl rfl)
abbrev cX1_great : ByteArray := prog_1_method_25_code
def yX1_great : MethodName := ⟨RX1, "great", "(IIIZ)I"⟩
def dkwX1_great_2 : List UInt8 := [153, 0, 9, 24, 5, 119, 167, 0, 5, 24, 5, 182, 0, 158, 172]
abbrev dktX1_great_2 : List UInt8 := dkwX1_great_2 ++ []
def dkwX1_great_1 : List UInt8 := [153, 0, 7, 4, 167, 0, 4, 3, 184, 0, 154, 28, 133, 29, 121, 138, 57, 5, 42, 27, 21, 4]
abbrev dktX1_great_1 : List UInt8 := dkwX1_great_1 ++ dktX1_great_2
def dkwX1_great_0 : List UInt8 := [27, 184, 0, 128, 28, 16, 33, 16, 64, 184, 0, 28, 153, 0, 18, 29, 16, 8, 16, 44, 184, 0, 28]
abbrev dktX1_great_0 : List UInt8 := dkwX1_great_0 ++ dktX1_great_1
theorem dksX1_great_0 : cX1_great.data.toList.drop 0 = dktX1_great_0 := by decide +kernel
theorem dksX1_great_1 : cX1_great.data.toList.drop 23 = dktX1_great_1 := dk_seg dksX1_great_0 23 rfl rfl
theorem dksX1_great_2 : cX1_great.data.toList.drop 45 = dktX1_great_2 := dk_seg dksX1_great_1 22 rfl rfl
theorem dX1_great_0 : decode cX1_great 0 = .ok (.iload_n 1, 1) := dk_27 (dk_at dksX1_great_0 0 rfl rfl)
theorem dX1_great_1 : decode cX1_great 1 = .ok (.invokestatic 128, 3) := dk_184 0 128 (dk_at dksX1_great_0 1 rfl rfl)
theorem dX1_great_4 : decode cX1_great 4 = .ok (.iload_n 2, 1) := dk_28 (dk_at dksX1_great_0 4 rfl rfl)
theorem dX1_great_5 : decode cX1_great 5 = .ok (.bipush 33, 2) := dk_16 33 (dk_at dksX1_great_0 5 rfl rfl)
theorem dX1_great_7 : decode cX1_great 7 = .ok (.bipush 64, 2) := dk_16 64 (dk_at dksX1_great_0 7 rfl rfl)
theorem dX1_great_9 : decode cX1_great 9 = .ok (.invokestatic 28, 3) := dk_184 0 28 (dk_at dksX1_great_0 9 rfl rfl)
theorem dX1_great_12 : decode cX1_great 12 = .ok (.ifCond .eq 18, 3) := dk_153 0 18 (dk_at dksX1_great_0 12 rfl rfl)
theorem dX1_great_15 : decode cX1_great 15 = .ok (.iload_n 3, 1) := dk_29 (dk_at dksX1_great_0 15 rfl rfl)
theorem dX1_great_16 : decode cX1_great 16 = .ok (.bipush 8, 2) := dk_16 8 (dk_at dksX1_great_0 16 rfl rfl)
theorem dX1_great_18 : decode cX1_great 18 = .ok (.bipush 44, 2) := dk_16 44 (dk_at dksX1_great_0 18 rfl rfl)
theorem dX1_great_20 : decode cX1_great 20 = .ok (.invokestatic 28, 3) := dk_184 0 28 (dk_at dksX1_great_0 20 rfl rfl)
theorem dX1_great_23 : decode cX1_great 23 = .ok (.ifCond .eq 7, 3) := dk_153 0 7 (dk_at dksX1_great_1 0 rfl rfl)
theorem dX1_great_26 : decode cX1_great 26 = .ok (.iconst 1, 1) := dk_4 (dk_at dksX1_great_1 3 rfl rfl)
theorem dX1_great_27 : decode cX1_great 27 = .ok (.goto 4, 3) := dk_167 0 4 (dk_at dksX1_great_1 4 rfl rfl)
theorem dX1_great_30 : decode cX1_great 30 = .ok (.iconst 0, 1) := dk_3 (dk_at dksX1_great_1 7 rfl rfl)
theorem dX1_great_31 : decode cX1_great 31 = .ok (.invokestatic 154, 3) := dk_184 0 154 (dk_at dksX1_great_1 8 rfl rfl)
theorem dX1_great_34 : decode cX1_great 34 = .ok (.iload_n 2, 1) := dk_28 (dk_at dksX1_great_1 11 rfl rfl)
theorem dX1_great_35 : decode cX1_great 35 = .ok (.i2l, 1) := dk_133 (dk_at dksX1_great_1 12 rfl rfl)
theorem dX1_great_36 : decode cX1_great 36 = .ok (.iload_n 3, 1) := dk_29 (dk_at dksX1_great_1 13 rfl rfl)
theorem dX1_great_37 : decode cX1_great 37 = .ok (.lshl, 1) := dk_121 (dk_at dksX1_great_1 14 rfl rfl)
theorem dX1_great_38 : decode cX1_great 38 = .ok (.l2d, 1) := dk_138 (dk_at dksX1_great_1 15 rfl rfl)
theorem dX1_great_39 : decode cX1_great 39 = .ok (.dstore 5, 2) := dk_57 5 (dk_at dksX1_great_1 16 rfl rfl)
theorem dX1_great_41 : decode cX1_great 41 = .ok (.aload_n 0, 1) := dk_42 (dk_at dksX1_great_1 18 rfl rfl)
theorem dX1_great_42 : decode cX1_great 42 = .ok (.iload_n 1, 1) := dk_27 (dk_at dksX1_great_1 19 rfl rfl)
theorem dX1_great_43 : decode cX1_great 43 = .ok (.iload 4, 2) := dk_21 4 (dk_at dksX1_great_1 20 rfl rfl)
theorem dX1_great_45 : decode cX1_great 45 = .ok (.ifCond .eq 9, 3) := dk_153 0 9 (dk_at dksX1_great_2 0 rfl rfl)
theorem dX1_great_48 : decode cX1_great 48 = .ok (.dload 5, 2) := dk_24 5 (dk_at dksX1_great_2 3 rfl rfl)
theorem dX1_great_50 : decode cX1_great 50 = .ok (.dneg, 1) := dk_119 (dk_at dksX1_great_2 5 rfl rfl)
theorem dX1_great_51 : decode cX1_great 51 = .ok (.goto 5, 3) := dk_167 0 5 (dk_at dksX1_great_2 6 rfl rfl)
theorem dX1_great_54 : decode cX1_great 54 = .ok (.dload 5, 2) := dk_24 5 (dk_at dksX1_great_2 9 rfl rfl)
theorem dX1_great_56 : decode cX1_great 56 = .ok (.invokevirtual 158, 3) := dk_182 0 158 (dk_at dksX1_great_2 11 rfl rfl)
theorem dX1_great_59 : decode cX1_great 59 = .ok (.ireturn, 1) := dk_172 (dk_at dksX1_great_2 14 rfl rfl)
abbrev cX1_angleSum : ByteArray := prog_1_method_30_code
def yX1_angleSum : MethodName := ⟨RX1, "angleSum", "(III)I"⟩
def dkwX1_angleSum_3 : List UInt8 := [29, 24, 8, 182, 0, 158, 167, 0, 7, 42, 182, 0, 169, 172]
abbrev dktX1_angleSum_3 : List UInt8 := dkwX1_angleSum_3 ++ []
def dkwX1_angleSum_2 : List UInt8 := [154, 0, 7, 4, 167, 0, 4, 3, 54, 10, 21, 10, 153, 0, 21, 24, 8, 184, 0, 174, 153, 0, 13, 42]
abbrev dktX1_angleSum_2 : List UInt8 := dkwX1_angleSum_2 ++ dktX1_angleSum_3
def dkwX1_angleSum_1 : List UInt8 := [184, 0, 177, 57, 8, 24, 8, 24, 4, 103, 24, 6, 151, 154, 0, 18, 24, 8, 24, 6, 103, 24, 4, 151]
abbrev dktX1_angleSum_1 : List UInt8 := dkwX1_angleSum_1 ++ dktX1_angleSum_2
def dkwX1_angleSum_0 : List UInt8 := [42, 27, 182, 0, 166, 57, 4, 42, 28, 182, 0, 166, 57, 6, 29, 184, 0, 128, 24, 4, 24, 6]
abbrev dktX1_angleSum_0 : List UInt8 := dkwX1_angleSum_0 ++ dktX1_angleSum_1
theorem dksX1_angleSum_0 : cX1_angleSum.data.toList.drop 0 = dktX1_angleSum_0 := by decide +kernel
theorem dksX1_angleSum_1 : cX1_angleSum.data.toList.drop 22 = dktX1_angleSum_1 := dk_seg dksX1_angleSum_0 22 rfl rfl
theorem dksX1_angleSum_2 : cX1_angleSum.data.toList.drop 46 = dktX1_angleSum_2 := dk_seg dksX1_angleSum_1 24 rfl rfl
theorem dksX1_angleSum_3 : cX1_angleSum.data.toList.drop 70 = dktX1_angleSum_3 := dk_seg dksX1_angleSum_2 24 rfl rfl
theorem dX1_angleSum_0 : decode cX1_angleSum 0 = .ok (.aload_n 0, 1) := dk_42 (dk_at dksX1_angleSum_0 0 rfl rfl)
theorem dX1_angleSum_1 : decode cX1_angleSum 1 = .ok (.iload_n 1, 1) := dk_27 (dk_at dksX1_angleSum_0 1 rfl rfl)
theorem dX1_angleSum_2 : decode cX1_angleSum 2 = .ok (.invokevirtual 166, 3) := dk_182 0 166 (dk_at dksX1_angleSum_0 2 rfl rfl)
theorem dX1_angleSum_5 : decode cX1_angleSum 5 = .ok (.dstore 4, 2) := dk_57 4 (dk_at dksX1_angleSum_0 5 rfl rfl)
theorem dX1_angleSum_7 : decode cX1_angleSum 7 = .ok (.aload_n 0, 1) := dk_42 (dk_at dksX1_angleSum_0 7 rfl rfl)
theorem dX1_angleSum_8 : decode cX1_angleSum 8 = .ok (.iload_n 2, 1) := dk_28 (dk_at dksX1_angleSum_0 8 rfl rfl)
theorem dX1_angleSum_9 : decode cX1_angleSum 9 = .ok (.invokevirtual 166, 3) := dk_182 0 166 (dk_at dksX1_angleSum_0 9 rfl rfl)
theorem dX1_angleSum_12 : decode cX1_angleSum 12 = .ok (.dstore 6, 2) := dk_57 6 (dk_at dksX1_angleSum_0 12 rfl rfl)
theorem dX1_angleSum_14 : decode cX1_angleSum 14 = .ok (.iload_n 3, 1) := dk_29 (dk_at dksX1_angleSum_0 14 rfl rfl)
theorem dX1_angleSum_15 : decode cX1_angleSum 15 = .ok (.invokestatic 128, 3) := dk_184 0 128 (dk_at dksX1_angleSum_0 15 rfl rfl)
theorem dX1_angleSum_18 : decode cX1_angleSum 18 = .ok (.dload 4, 2) := dk_24 4 (dk_at dksX1_angleSum_0 18 rfl rfl)
theorem dX1_angleSum_20 : decode cX1_angleSum 20 = .ok (.dload 6, 2) := dk_24 6 (dk_at dksX1_angleSum_0 20 rfl rfl)
theorem dX1_angleSum_22 : decode cX1_angleSum 22 = .ok (.invokestatic 177, 3) := dk_184 0 177 (dk_at dksX1_angleSum_1 0 rfl rfl)
theorem dX1_angleSum_25 : decode cX1_angleSum 25 = .ok (.dstore 8, 2) := dk_57 8 (dk_at dksX1_angleSum_1 3 rfl rfl)
theorem dX1_angleSum_27 : decode cX1_angleSum 27 = .ok (.dload 8, 2) := dk_24 8 (dk_at dksX1_angleSum_1 5 rfl rfl)
theorem dX1_angleSum_29 : decode cX1_angleSum 29 = .ok (.dload 4, 2) := dk_24 4 (dk_at dksX1_angleSum_1 7 rfl rfl)
theorem dX1_angleSum_31 : decode cX1_angleSum 31 = .ok (.dsub, 1) := dk_103 (dk_at dksX1_angleSum_1 9 rfl rfl)
theorem dX1_angleSum_32 : decode cX1_angleSum 32 = .ok (.dload 6, 2) := dk_24 6 (dk_at dksX1_angleSum_1 10 rfl rfl)
theorem dX1_angleSum_34 : decode cX1_angleSum 34 = .ok (.dcmp .l, 1) := dk_151 (dk_at dksX1_angleSum_1 12 rfl rfl)
theorem dX1_angleSum_35 : decode cX1_angleSum 35 = .ok (.ifCond .ne 18, 3) := dk_154 0 18 (dk_at dksX1_angleSum_1 13 rfl rfl)
theorem dX1_angleSum_38 : decode cX1_angleSum 38 = .ok (.dload 8, 2) := dk_24 8 (dk_at dksX1_angleSum_1 16 rfl rfl)
theorem dX1_angleSum_40 : decode cX1_angleSum 40 = .ok (.dload 6, 2) := dk_24 6 (dk_at dksX1_angleSum_1 18 rfl rfl)
theorem dX1_angleSum_42 : decode cX1_angleSum 42 = .ok (.dsub, 1) := dk_103 (dk_at dksX1_angleSum_1 20 rfl rfl)
theorem dX1_angleSum_43 : decode cX1_angleSum 43 = .ok (.dload 4, 2) := dk_24 4 (dk_at dksX1_angleSum_1 21 rfl rfl)
theorem dX1_angleSum_45 : decode cX1_angleSum 45 = .ok (.dcmp .l, 1) := dk_151 (dk_at dksX1_angleSum_1 23 rfl rfl)
theorem dX1_angleSum_46 : decode cX1_angleSum 46 = .ok (.ifCond .ne 7, 3) := dk_154 0 7 (dk_at dksX1_angleSum_2 0 rfl rfl)
theorem dX1_angleSum_49 : decode cX1_angleSum 49 = .ok (.iconst 1, 1) := dk_4 (dk_at dksX1_angleSum_2 3 rfl rfl)
theorem dX1_angleSum_50 : decode cX1_angleSum 50 = .ok (.goto 4, 3) := dk_167 0 4 (dk_at dksX1_angleSum_2 4 rfl rfl)
theorem dX1_angleSum_53 : decode cX1_angleSum 53 = .ok (.iconst 0, 1) := dk_3 (dk_at dksX1_angleSum_2 7 rfl rfl)
theorem dX1_angleSum_54 : decode cX1_angleSum 54 = .ok (.istore 10, 2) := dk_54 10 (dk_at dksX1_angleSum_2 8 rfl rfl)
theorem dX1_angleSum_56 : decode cX1_angleSum 56 = .ok (.iload 10, 2) := dk_21 10 (dk_at dksX1_angleSum_2 10 rfl rfl)
theorem dX1_angleSum_58 : decode cX1_angleSum 58 = .ok (.ifCond .eq 21, 3) := dk_153 0 21 (dk_at dksX1_angleSum_2 12 rfl rfl)
theorem dX1_angleSum_61 : decode cX1_angleSum 61 = .ok (.dload 8, 2) := dk_24 8 (dk_at dksX1_angleSum_2 15 rfl rfl)
theorem dX1_angleSum_63 : decode cX1_angleSum 63 = .ok (.invokestatic 174, 3) := dk_184 0 174 (dk_at dksX1_angleSum_2 17 rfl rfl)
theorem dX1_angleSum_66 : decode cX1_angleSum 66 = .ok (.ifCond .eq 13, 3) := dk_153 0 13 (dk_at dksX1_angleSum_2 20 rfl rfl)
theorem dX1_angleSum_69 : decode cX1_angleSum 69 = .ok (.aload_n 0, 1) := dk_42 (dk_at dksX1_angleSum_2 23 rfl rfl)
theorem dX1_angleSum_70 : decode cX1_angleSum 70 = .ok (.iload_n 3, 1) := dk_29 (dk_at dksX1_angleSum_3 0 rfl rfl)
theorem dX1_angleSum_71 : decode cX1_angleSum 71 = .ok (.dload 8, 2) := dk_24 8 (dk_at dksX1_angleSum_3 1 rfl rfl)
theorem dX1_angleSum_73 : decode cX1_angleSum 73 = .ok (.invokevirtual 158, 3) := dk_182 0 158 (dk_at dksX1_angleSum_3 3 rfl rfl)
theorem dX1_angleSum_76 : decode cX1_angleSum 76 = .ok (.goto 7, 3) := dk_167 0 7 (dk_at dksX1_angleSum_3 6 rfl rfl)
theorem dX1_angleSum_79 : decode cX1_angleSum 79 = .ok (.aload_n 0, 1) := dk_42 (dk_at dksX1_angleSum_3 9 rfl rfl)
theorem dX1_angleSum_80 : decode cX1_angleSum 80 = .ok (.invokevirtual 169, 3) := dk_182 0 169 (dk_at dksX1_angleSum_3 10 rfl rfl)
theorem dX1_angleSum_83 : decode cX1_angleSum 83 = .ok (.ireturn, 1) := dk_172 (dk_at dksX1_angleSum_3 13 rfl rfl)
abbrev cX1_refused : ByteArray := prog_1_method_6_code
def yX1_refused : MethodName := ⟨RX1, "refused", "()I"⟩
def dkwX1_refused_0 : List UInt8 := [42, 89, 180, 0, 38, 4, 96, 181, 0, 38, 16, 247, 172]
abbrev dktX1_refused_0 : List UInt8 := dkwX1_refused_0 ++ []
theorem dksX1_refused_0 : cX1_refused.data.toList.drop 0 = dktX1_refused_0 := by decide +kernel
theorem dX1_refused_0 : decode cX1_refused 0 = .ok (.aload_n 0, 1) := dk_42 (dk_at dksX1_refused_0 0 rfl rfl)
theorem dX1_refused_1 : decode cX1_refused 1 = .ok (.dup, 1) := dk_89 (dk_at dksX1_refused_0 1 rfl rfl)
theorem dX1_refused_2 : decode cX1_refused 2 = .ok (.getfield 38, 3) := dk_180 0 38 (dk_at dksX1_refused_0 2 rfl rfl)
theorem dX1_refused_5 : decode cX1_refused 5 = .ok (.iconst 1, 1) := dk_4 (dk_at dksX1_refused_0 5 rfl rfl)
theorem dX1_refused_6 : decode cX1_refused 6 = .ok (.iadd, 1) := dk_96 (dk_at dksX1_refused_0 6 rfl rfl)
theorem dX1_refused_7 : decode cX1_refused 7 = .ok (.putfield 38, 3) := dk_181 0 38 (dk_at dksX1_refused_0 7 rfl rfl)
theorem dX1_refused_10 : decode cX1_refused 10 = .ok (.bipush (-9), 2) := dk_16 247 (dk_at dksX1_refused_0 10 rfl rfl)
theorem dX1_refused_12 : decode cX1_refused 12 = .ok (.ireturn, 1) := dk_172 (dk_at dksX1_refused_0 12 rfl rfl)
abbrev cX1_sine : ByteArray := prog_1_method_46_code
def yX1_sine : MethodName := ⟨RX1, "sine", "(II)I"⟩
def dkwX1_sine_0 : List UInt8 := [42, 28, 42, 27, 182, 0, 166, 184, 0, 117, 182, 0, 246, 172]
abbrev dktX1_sine_0 : List UInt8 := dkwX1_sine_0 ++ []
theorem dksX1_sine_0 : cX1_sine.data.toList.drop 0 = dktX1_sine_0 := by decide +kernel
theorem dX1_sine_0 : decode cX1_sine 0 = .ok (.aload_n 0, 1) := dk_42 (dk_at dksX1_sine_0 0 rfl rfl)
theorem dX1_sine_1 : decode cX1_sine 1 = .ok (.iload_n 2, 1) := dk_28 (dk_at dksX1_sine_0 1 rfl rfl)
theorem dX1_sine_2 : decode cX1_sine 2 = .ok (.aload_n 0, 1) := dk_42 (dk_at dksX1_sine_0 2 rfl rfl)
theorem dX1_sine_3 : decode cX1_sine 3 = .ok (.iload_n 1, 1) := dk_27 (dk_at dksX1_sine_0 3 rfl rfl)
theorem dX1_sine_4 : decode cX1_sine 4 = .ok (.invokevirtual 166, 3) := dk_182 0 166 (dk_at dksX1_sine_0 4 rfl rfl)
theorem dX1_sine_7 : decode cX1_sine 7 = .ok (.invokestatic 117, 3) := dk_184 0 117 (dk_at dksX1_sine_0 7 rfl rfl)
theorem dX1_sine_10 : decode cX1_sine 10 = .ok (.invokevirtual 246, 3) := dk_182 0 246 (dk_at dksX1_sine_0 10 rfl rfl)
theorem dX1_sine_13 : decode cX1_sine 13 = .ok (.ireturn, 1) := dk_172 (dk_at dksX1_sine_0 13 rfl rfl)
abbrev cX1_heightPut : ByteArray := prog_1_method_45_code
def yX1_heightPut : MethodName := ⟨RX1, "heightPut", "(ID)I"⟩
def dkwX1_heightPut_1 : List UInt8 := [4, 96, 181, 0, 243, 24, 4, 40, 184, 0, 135, 154, 0, 7, 4, 167, 0, 4, 3, 184, 0, 57, 172]
abbrev dktX1_heightPut_1 : List UInt8 := dkwX1_heightPut_1 ++ []
def dkwX1_heightPut_0 : List UInt8 := [27, 184, 0, 128, 42, 180, 0, 17, 27, 49, 57, 4, 42, 180, 0, 17, 27, 40, 82, 42, 89, 180, 0, 243]
abbrev dktX1_heightPut_0 : List UInt8 := dkwX1_heightPut_0 ++ dktX1_heightPut_1
theorem dksX1_heightPut_0 : cX1_heightPut.data.toList.drop 0 = dktX1_heightPut_0 := by decide +kernel
theorem dksX1_heightPut_1 : cX1_heightPut.data.toList.drop 24 = dktX1_heightPut_1 := dk_seg dksX1_heightPut_0 24 rfl rfl
theorem dX1_heightPut_0 : decode cX1_heightPut 0 = .ok (.iload_n 1, 1) := dk_27 (dk_at dksX1_heightPut_0 0 rfl rfl)
theorem dX1_heightPut_1 : decode cX1_heightPut 1 = .ok (.invokestatic 128, 3) := dk_184 0 128 (dk_at dksX1_heightPut_0 1 rfl rfl)
theorem dX1_heightPut_4 : decode cX1_heightPut 4 = .ok (.aload_n 0, 1) := dk_42 (dk_at dksX1_heightPut_0 4 rfl rfl)
theorem dX1_heightPut_5 : decode cX1_heightPut 5 = .ok (.getfield 17, 3) := dk_180 0 17 (dk_at dksX1_heightPut_0 5 rfl rfl)
theorem dX1_heightPut_8 : decode cX1_heightPut 8 = .ok (.iload_n 1, 1) := dk_27 (dk_at dksX1_heightPut_0 8 rfl rfl)
theorem dX1_heightPut_9 : decode cX1_heightPut 9 = .ok (.daload, 1) := dk_49 (dk_at dksX1_heightPut_0 9 rfl rfl)
theorem dX1_heightPut_10 : decode cX1_heightPut 10 = .ok (.dstore 4, 2) := dk_57 4 (dk_at dksX1_heightPut_0 10 rfl rfl)
theorem dX1_heightPut_12 : decode cX1_heightPut 12 = .ok (.aload_n 0, 1) := dk_42 (dk_at dksX1_heightPut_0 12 rfl rfl)
theorem dX1_heightPut_13 : decode cX1_heightPut 13 = .ok (.getfield 17, 3) := dk_180 0 17 (dk_at dksX1_heightPut_0 13 rfl rfl)
theorem dX1_heightPut_16 : decode cX1_heightPut 16 = .ok (.iload_n 1, 1) := dk_27 (dk_at dksX1_heightPut_0 16 rfl rfl)
theorem dX1_heightPut_17 : decode cX1_heightPut 17 = .ok (.dload_n 2, 1) := dk_40 (dk_at dksX1_heightPut_0 17 rfl rfl)
theorem dX1_heightPut_18 : decode cX1_heightPut 18 = .ok (.dastore, 1) := dk_82 (dk_at dksX1_heightPut_0 18 rfl rfl)
theorem dX1_heightPut_19 : decode cX1_heightPut 19 = .ok (.aload_n 0, 1) := dk_42 (dk_at dksX1_heightPut_0 19 rfl rfl)
theorem dX1_heightPut_20 : decode cX1_heightPut 20 = .ok (.dup, 1) := dk_89 (dk_at dksX1_heightPut_0 20 rfl rfl)
theorem dX1_heightPut_21 : decode cX1_heightPut 21 = .ok (.getfield 243, 3) := dk_180 0 243 (dk_at dksX1_heightPut_0 21 rfl rfl)
theorem dX1_heightPut_24 : decode cX1_heightPut 24 = .ok (.iconst 1, 1) := dk_4 (dk_at dksX1_heightPut_1 0 rfl rfl)
theorem dX1_heightPut_25 : decode cX1_heightPut 25 = .ok (.iadd, 1) := dk_96 (dk_at dksX1_heightPut_1 1 rfl rfl)
theorem dX1_heightPut_26 : decode cX1_heightPut 26 = .ok (.putfield 243, 3) := dk_181 0 243 (dk_at dksX1_heightPut_1 2 rfl rfl)
theorem dX1_heightPut_29 : decode cX1_heightPut 29 = .ok (.dload 4, 2) := dk_24 4 (dk_at dksX1_heightPut_1 5 rfl rfl)
theorem dX1_heightPut_31 : decode cX1_heightPut 31 = .ok (.dload_n 2, 1) := dk_40 (dk_at dksX1_heightPut_1 7 rfl rfl)
theorem dX1_heightPut_32 : decode cX1_heightPut 32 = .ok (.invokestatic 135, 3) := dk_184 0 135 (dk_at dksX1_heightPut_1 8 rfl rfl)
theorem dX1_heightPut_35 : decode cX1_heightPut 35 = .ok (.ifCond .ne 7, 3) := dk_154 0 7 (dk_at dksX1_heightPut_1 11 rfl rfl)
theorem dX1_heightPut_38 : decode cX1_heightPut 38 = .ok (.iconst 1, 1) := dk_4 (dk_at dksX1_heightPut_1 14 rfl rfl)
theorem dX1_heightPut_39 : decode cX1_heightPut 39 = .ok (.goto 4, 3) := dk_167 0 4 (dk_at dksX1_heightPut_1 15 rfl rfl)
theorem dX1_heightPut_42 : decode cX1_heightPut 42 = .ok (.iconst 0, 1) := dk_3 (dk_at dksX1_heightPut_1 18 rfl rfl)
theorem dX1_heightPut_43 : decode cX1_heightPut 43 = .ok (.invokestatic 57, 3) := dk_184 0 57 (dk_at dksX1_heightPut_1 19 rfl rfl)
theorem dX1_heightPut_46 : decode cX1_heightPut 46 = .ok (.ireturn, 1) := dk_172 (dk_at dksX1_heightPut_1 22 rfl rfl)
abbrev cX1_fill : ByteArray := prog_1_method_49_code
def yX1_fill : MethodName := ⟨RX1, "fill", "(I)I"⟩
def dkwX1_fill_3 : List UInt8 := [167, 255, 198, 42, 89, 180, 0, 243, 4, 96, 181, 0, 243, 28, 172]
abbrev dktX1_fill_3 : List UInt8 := dkwX1_fill_3 ++ []
def dkwX1_fill_2 : List UInt8 := [180, 0, 17, 29, 49, 184, 0, 135, 154, 0, 7, 4, 167, 0, 4, 3, 184, 0, 57, 96, 61, 132, 3, 1]
abbrev dktX1_fill_2 : List UInt8 := dkwX1_fill_2 ++ dktX1_fill_3
def dkwX1_fill_1 : List UInt8 := [49, 57, 4, 42, 180, 0, 17, 29, 27, 42, 180, 0, 13, 29, 49, 184, 0, 249, 82, 28, 24, 4, 42]
abbrev dktX1_fill_1 : List UInt8 := dkwX1_fill_1 ++ dktX1_fill_2
def dkwX1_fill_0 : List UInt8 := [27, 3, 5, 184, 0, 28, 184, 0, 154, 3, 61, 3, 62, 29, 16, 8, 162, 0, 58, 42, 180, 0, 17, 29]
abbrev dktX1_fill_0 : List UInt8 := dkwX1_fill_0 ++ dktX1_fill_1
theorem dksX1_fill_0 : cX1_fill.data.toList.drop 0 = dktX1_fill_0 := by decide +kernel
theorem dksX1_fill_1 : cX1_fill.data.toList.drop 24 = dktX1_fill_1 := dk_seg dksX1_fill_0 24 rfl rfl
theorem dksX1_fill_2 : cX1_fill.data.toList.drop 47 = dktX1_fill_2 := dk_seg dksX1_fill_1 23 rfl rfl
theorem dksX1_fill_3 : cX1_fill.data.toList.drop 71 = dktX1_fill_3 := dk_seg dksX1_fill_2 24 rfl rfl
theorem dX1_fill_0 : decode cX1_fill 0 = .ok (.iload_n 1, 1) := dk_27 (dk_at dksX1_fill_0 0 rfl rfl)
theorem dX1_fill_1 : decode cX1_fill 1 = .ok (.iconst 0, 1) := dk_3 (dk_at dksX1_fill_0 1 rfl rfl)
theorem dX1_fill_2 : decode cX1_fill 2 = .ok (.iconst 2, 1) := dk_5 (dk_at dksX1_fill_0 2 rfl rfl)
theorem dX1_fill_3 : decode cX1_fill 3 = .ok (.invokestatic 28, 3) := dk_184 0 28 (dk_at dksX1_fill_0 3 rfl rfl)
theorem dX1_fill_6 : decode cX1_fill 6 = .ok (.invokestatic 154, 3) := dk_184 0 154 (dk_at dksX1_fill_0 6 rfl rfl)
theorem dX1_fill_9 : decode cX1_fill 9 = .ok (.iconst 0, 1) := dk_3 (dk_at dksX1_fill_0 9 rfl rfl)
theorem dX1_fill_10 : decode cX1_fill 10 = .ok (.istore_n 2, 1) := dk_61 (dk_at dksX1_fill_0 10 rfl rfl)
theorem dX1_fill_11 : decode cX1_fill 11 = .ok (.iconst 0, 1) := dk_3 (dk_at dksX1_fill_0 11 rfl rfl)
theorem dX1_fill_12 : decode cX1_fill 12 = .ok (.istore_n 3, 1) := dk_62 (dk_at dksX1_fill_0 12 rfl rfl)
theorem dX1_fill_13 : decode cX1_fill 13 = .ok (.iload_n 3, 1) := dk_29 (dk_at dksX1_fill_0 13 rfl rfl)
theorem dX1_fill_14 : decode cX1_fill 14 = .ok (.bipush 8, 2) := dk_16 8 (dk_at dksX1_fill_0 14 rfl rfl)
theorem dX1_fill_16 : decode cX1_fill 16 = .ok (.if_icmp .ge 58, 3) := dk_162 0 58 (dk_at dksX1_fill_0 16 rfl rfl)
theorem dX1_fill_19 : decode cX1_fill 19 = .ok (.aload_n 0, 1) := dk_42 (dk_at dksX1_fill_0 19 rfl rfl)
theorem dX1_fill_20 : decode cX1_fill 20 = .ok (.getfield 17, 3) := dk_180 0 17 (dk_at dksX1_fill_0 20 rfl rfl)
theorem dX1_fill_23 : decode cX1_fill 23 = .ok (.iload_n 3, 1) := dk_29 (dk_at dksX1_fill_0 23 rfl rfl)
theorem dX1_fill_24 : decode cX1_fill 24 = .ok (.daload, 1) := dk_49 (dk_at dksX1_fill_1 0 rfl rfl)
theorem dX1_fill_25 : decode cX1_fill 25 = .ok (.dstore 4, 2) := dk_57 4 (dk_at dksX1_fill_1 1 rfl rfl)
theorem dX1_fill_27 : decode cX1_fill 27 = .ok (.aload_n 0, 1) := dk_42 (dk_at dksX1_fill_1 3 rfl rfl)
theorem dX1_fill_28 : decode cX1_fill 28 = .ok (.getfield 17, 3) := dk_180 0 17 (dk_at dksX1_fill_1 4 rfl rfl)
theorem dX1_fill_31 : decode cX1_fill 31 = .ok (.iload_n 3, 1) := dk_29 (dk_at dksX1_fill_1 7 rfl rfl)
theorem dX1_fill_32 : decode cX1_fill 32 = .ok (.iload_n 1, 1) := dk_27 (dk_at dksX1_fill_1 8 rfl rfl)
theorem dX1_fill_33 : decode cX1_fill 33 = .ok (.aload_n 0, 1) := dk_42 (dk_at dksX1_fill_1 9 rfl rfl)
theorem dX1_fill_34 : decode cX1_fill 34 = .ok (.getfield 13, 3) := dk_180 0 13 (dk_at dksX1_fill_1 10 rfl rfl)
theorem dX1_fill_37 : decode cX1_fill 37 = .ok (.iload_n 3, 1) := dk_29 (dk_at dksX1_fill_1 13 rfl rfl)
theorem dX1_fill_38 : decode cX1_fill 38 = .ok (.daload, 1) := dk_49 (dk_at dksX1_fill_1 14 rfl rfl)
theorem dX1_fill_39 : decode cX1_fill 39 = .ok (.invokestatic 249, 3) := dk_184 0 249 (dk_at dksX1_fill_1 15 rfl rfl)
theorem dX1_fill_42 : decode cX1_fill 42 = .ok (.dastore, 1) := dk_82 (dk_at dksX1_fill_1 18 rfl rfl)
theorem dX1_fill_43 : decode cX1_fill 43 = .ok (.iload_n 2, 1) := dk_28 (dk_at dksX1_fill_1 19 rfl rfl)
theorem dX1_fill_44 : decode cX1_fill 44 = .ok (.dload 4, 2) := dk_24 4 (dk_at dksX1_fill_1 20 rfl rfl)
theorem dX1_fill_46 : decode cX1_fill 46 = .ok (.aload_n 0, 1) := dk_42 (dk_at dksX1_fill_1 22 rfl rfl)
theorem dX1_fill_47 : decode cX1_fill 47 = .ok (.getfield 17, 3) := dk_180 0 17 (dk_at dksX1_fill_2 0 rfl rfl)
theorem dX1_fill_50 : decode cX1_fill 50 = .ok (.iload_n 3, 1) := dk_29 (dk_at dksX1_fill_2 3 rfl rfl)
theorem dX1_fill_51 : decode cX1_fill 51 = .ok (.daload, 1) := dk_49 (dk_at dksX1_fill_2 4 rfl rfl)
theorem dX1_fill_52 : decode cX1_fill 52 = .ok (.invokestatic 135, 3) := dk_184 0 135 (dk_at dksX1_fill_2 5 rfl rfl)
theorem dX1_fill_55 : decode cX1_fill 55 = .ok (.ifCond .ne 7, 3) := dk_154 0 7 (dk_at dksX1_fill_2 8 rfl rfl)
theorem dX1_fill_58 : decode cX1_fill 58 = .ok (.iconst 1, 1) := dk_4 (dk_at dksX1_fill_2 11 rfl rfl)
theorem dX1_fill_59 : decode cX1_fill 59 = .ok (.goto 4, 3) := dk_167 0 4 (dk_at dksX1_fill_2 12 rfl rfl)
theorem dX1_fill_62 : decode cX1_fill 62 = .ok (.iconst 0, 1) := dk_3 (dk_at dksX1_fill_2 15 rfl rfl)
theorem dX1_fill_63 : decode cX1_fill 63 = .ok (.invokestatic 57, 3) := dk_184 0 57 (dk_at dksX1_fill_2 16 rfl rfl)
theorem dX1_fill_66 : decode cX1_fill 66 = .ok (.iadd, 1) := dk_96 (dk_at dksX1_fill_2 19 rfl rfl)
theorem dX1_fill_67 : decode cX1_fill 67 = .ok (.istore_n 2, 1) := dk_61 (dk_at dksX1_fill_2 20 rfl rfl)
theorem dX1_fill_68 : decode cX1_fill 68 = .ok (.iinc 3 1, 3) := dk_132 3 1 (dk_at dksX1_fill_2 21 rfl rfl)
theorem dX1_fill_71 : decode cX1_fill 71 = .ok (.goto (-58), 3) := dk_167 255 198 (dk_at dksX1_fill_3 0 rfl rfl)
theorem dX1_fill_74 : decode cX1_fill 74 = .ok (.aload_n 0, 1) := dk_42 (dk_at dksX1_fill_3 3 rfl rfl)
theorem dX1_fill_75 : decode cX1_fill 75 = .ok (.dup, 1) := dk_89 (dk_at dksX1_fill_3 4 rfl rfl)
theorem dX1_fill_76 : decode cX1_fill 76 = .ok (.getfield 243, 3) := dk_180 0 243 (dk_at dksX1_fill_3 5 rfl rfl)
theorem dX1_fill_79 : decode cX1_fill 79 = .ok (.iconst 1, 1) := dk_4 (dk_at dksX1_fill_3 8 rfl rfl)
theorem dX1_fill_80 : decode cX1_fill 80 = .ok (.iadd, 1) := dk_96 (dk_at dksX1_fill_3 9 rfl rfl)
theorem dX1_fill_81 : decode cX1_fill 81 = .ok (.putfield 243, 3) := dk_181 0 243 (dk_at dksX1_fill_3 10 rfl rfl)
theorem dX1_fill_84 : decode cX1_fill 84 = .ok (.iload_n 2, 1) := dk_28 (dk_at dksX1_fill_3 13 rfl rfl)
theorem dX1_fill_85 : decode cX1_fill 85 = .ok (.ireturn, 1) := dk_172 (dk_at dksX1_fill_3 14 rfl rfl)
abbrev cX1_peak : ByteArray := prog_1_method_82_code
def yX1_peak : MethodName := ⟨RX1, "peak", "(III)I"⟩
def dkwX1_peak_3 : List UInt8 := [21, 4, 172]
abbrev dktX1_peak_3 : List UInt8 := dkwX1_peak_3 ++ []
def dkwX1_peak_2 : List UInt8 := [24, 8, 24, 5, 184, 0, 215, 158, 0, 11, 24, 8, 57, 5, 21, 7, 54, 4, 132, 7, 1, 167, 255, 214]
abbrev dktX1_peak_2 : List UInt8 := dkwX1_peak_2 ++ dktX1_peak_3
def dkwX1_peak_1 : List UInt8 := [54, 7, 21, 7, 28, 29, 96, 162, 0, 40, 27, 21, 7, 135, 20, 0, 141, 107, 184, 0, 249, 57, 8]
abbrev dktX1_peak_1 : List UInt8 := dkwX1_peak_1 ++ dktX1_peak_2
def dkwX1_peak_0 : List UInt8 := [27, 28, 29, 184, 1, 56, 28, 54, 4, 27, 28, 135, 20, 0, 141, 107, 184, 0, 249, 57, 5, 28, 4, 96]
abbrev dktX1_peak_0 : List UInt8 := dkwX1_peak_0 ++ dktX1_peak_1
theorem dksX1_peak_0 : cX1_peak.data.toList.drop 0 = dktX1_peak_0 := by decide +kernel
theorem dksX1_peak_1 : cX1_peak.data.toList.drop 24 = dktX1_peak_1 := dk_seg dksX1_peak_0 24 rfl rfl
theorem dksX1_peak_2 : cX1_peak.data.toList.drop 47 = dktX1_peak_2 := dk_seg dksX1_peak_1 23 rfl rfl
theorem dksX1_peak_3 : cX1_peak.data.toList.drop 71 = dktX1_peak_3 := dk_seg dksX1_peak_2 24 rfl rfl
theorem dX1_peak_0 : decode cX1_peak 0 = .ok (.iload_n 1, 1) := dk_27 (dk_at dksX1_peak_0 0 rfl rfl)
theorem dX1_peak_1 : decode cX1_peak 1 = .ok (.iload_n 2, 1) := dk_28 (dk_at dksX1_peak_0 1 rfl rfl)
theorem dX1_peak_2 : decode cX1_peak 2 = .ok (.iload_n 3, 1) := dk_29 (dk_at dksX1_peak_0 2 rfl rfl)
theorem dX1_peak_3 : decode cX1_peak 3 = .ok (.invokestatic 312, 3) := dk_184 1 56 (dk_at dksX1_peak_0 3 rfl rfl)
theorem dX1_peak_6 : decode cX1_peak 6 = .ok (.iload_n 2, 1) := dk_28 (dk_at dksX1_peak_0 6 rfl rfl)
theorem dX1_peak_7 : decode cX1_peak 7 = .ok (.istore 4, 2) := dk_54 4 (dk_at dksX1_peak_0 7 rfl rfl)
theorem dX1_peak_9 : decode cX1_peak 9 = .ok (.iload_n 1, 1) := dk_27 (dk_at dksX1_peak_0 9 rfl rfl)
theorem dX1_peak_10 : decode cX1_peak 10 = .ok (.iload_n 2, 1) := dk_28 (dk_at dksX1_peak_0 10 rfl rfl)
theorem dX1_peak_11 : decode cX1_peak 11 = .ok (.i2d, 1) := dk_135 (dk_at dksX1_peak_0 11 rfl rfl)
theorem dX1_peak_12 : decode cX1_peak 12 = .ok (.ldc2_w 141, 3) := dk_20 0 141 (dk_at dksX1_peak_0 12 rfl rfl)
theorem dX1_peak_15 : decode cX1_peak 15 = .ok (.dmul, 1) := dk_107 (dk_at dksX1_peak_0 15 rfl rfl)
theorem dX1_peak_16 : decode cX1_peak 16 = .ok (.invokestatic 249, 3) := dk_184 0 249 (dk_at dksX1_peak_0 16 rfl rfl)
theorem dX1_peak_19 : decode cX1_peak 19 = .ok (.dstore 5, 2) := dk_57 5 (dk_at dksX1_peak_0 19 rfl rfl)
theorem dX1_peak_21 : decode cX1_peak 21 = .ok (.iload_n 2, 1) := dk_28 (dk_at dksX1_peak_0 21 rfl rfl)
theorem dX1_peak_22 : decode cX1_peak 22 = .ok (.iconst 1, 1) := dk_4 (dk_at dksX1_peak_0 22 rfl rfl)
theorem dX1_peak_23 : decode cX1_peak 23 = .ok (.iadd, 1) := dk_96 (dk_at dksX1_peak_0 23 rfl rfl)
theorem dX1_peak_24 : decode cX1_peak 24 = .ok (.istore 7, 2) := dk_54 7 (dk_at dksX1_peak_1 0 rfl rfl)
theorem dX1_peak_26 : decode cX1_peak 26 = .ok (.iload 7, 2) := dk_21 7 (dk_at dksX1_peak_1 2 rfl rfl)
theorem dX1_peak_28 : decode cX1_peak 28 = .ok (.iload_n 2, 1) := dk_28 (dk_at dksX1_peak_1 4 rfl rfl)
theorem dX1_peak_29 : decode cX1_peak 29 = .ok (.iload_n 3, 1) := dk_29 (dk_at dksX1_peak_1 5 rfl rfl)
theorem dX1_peak_30 : decode cX1_peak 30 = .ok (.iadd, 1) := dk_96 (dk_at dksX1_peak_1 6 rfl rfl)
theorem dX1_peak_31 : decode cX1_peak 31 = .ok (.if_icmp .ge 40, 3) := dk_162 0 40 (dk_at dksX1_peak_1 7 rfl rfl)
theorem dX1_peak_34 : decode cX1_peak 34 = .ok (.iload_n 1, 1) := dk_27 (dk_at dksX1_peak_1 10 rfl rfl)
theorem dX1_peak_35 : decode cX1_peak 35 = .ok (.iload 7, 2) := dk_21 7 (dk_at dksX1_peak_1 11 rfl rfl)
theorem dX1_peak_37 : decode cX1_peak 37 = .ok (.i2d, 1) := dk_135 (dk_at dksX1_peak_1 13 rfl rfl)
theorem dX1_peak_38 : decode cX1_peak 38 = .ok (.ldc2_w 141, 3) := dk_20 0 141 (dk_at dksX1_peak_1 14 rfl rfl)
theorem dX1_peak_41 : decode cX1_peak 41 = .ok (.dmul, 1) := dk_107 (dk_at dksX1_peak_1 17 rfl rfl)
theorem dX1_peak_42 : decode cX1_peak 42 = .ok (.invokestatic 249, 3) := dk_184 0 249 (dk_at dksX1_peak_1 18 rfl rfl)
theorem dX1_peak_45 : decode cX1_peak 45 = .ok (.dstore 8, 2) := dk_57 8 (dk_at dksX1_peak_1 21 rfl rfl)
theorem dX1_peak_47 : decode cX1_peak 47 = .ok (.dload 8, 2) := dk_24 8 (dk_at dksX1_peak_2 0 rfl rfl)
theorem dX1_peak_49 : decode cX1_peak 49 = .ok (.dload 5, 2) := dk_24 5 (dk_at dksX1_peak_2 2 rfl rfl)
theorem dX1_peak_51 : decode cX1_peak 51 = .ok (.invokestatic 215, 3) := dk_184 0 215 (dk_at dksX1_peak_2 4 rfl rfl)
theorem dX1_peak_54 : decode cX1_peak 54 = .ok (.ifCond .le 11, 3) := dk_158 0 11 (dk_at dksX1_peak_2 7 rfl rfl)
theorem dX1_peak_57 : decode cX1_peak 57 = .ok (.dload 8, 2) := dk_24 8 (dk_at dksX1_peak_2 10 rfl rfl)
theorem dX1_peak_59 : decode cX1_peak 59 = .ok (.dstore 5, 2) := dk_57 5 (dk_at dksX1_peak_2 12 rfl rfl)
theorem dX1_peak_61 : decode cX1_peak 61 = .ok (.iload 7, 2) := dk_21 7 (dk_at dksX1_peak_2 14 rfl rfl)
theorem dX1_peak_63 : decode cX1_peak 63 = .ok (.istore 4, 2) := dk_54 4 (dk_at dksX1_peak_2 16 rfl rfl)
theorem dX1_peak_65 : decode cX1_peak 65 = .ok (.iinc 7 1, 3) := dk_132 7 1 (dk_at dksX1_peak_2 18 rfl rfl)
theorem dX1_peak_68 : decode cX1_peak 68 = .ok (.goto (-42), 3) := dk_167 255 214 (dk_at dksX1_peak_2 21 rfl rfl)
theorem dX1_peak_71 : decode cX1_peak 71 = .ok (.iload 4, 2) := dk_21 4 (dk_at dksX1_peak_3 0 rfl rfl)
theorem dX1_peak_73 : decode cX1_peak 73 = .ok (.ireturn, 1) := dk_172 (dk_at dksX1_peak_3 2 rfl rfl)
abbrev cX1_mustBeRow : ByteArray := prog_1_method_81_code
def yX1_mustBeRow : MethodName := ⟨RX1, "mustBeRow", "(III)V"⟩
def dkwX1_mustBeRow_2 : List UInt8 := [163, 0, 7, 4, 167, 0, 4, 3, 184, 0, 154, 177]
abbrev dktX1_mustBeRow_2 : List UInt8 := dkwX1_mustBeRow_2 ++ []
def dkwX1_mustBeRow_1 : List UInt8 := [16, 16, 184, 0, 28, 153, 0, 7, 4, 167, 0, 4, 3, 184, 0, 154, 27, 28, 96, 4, 100, 18, 153]
abbrev dktX1_mustBeRow_1 : List UInt8 := dkwX1_mustBeRow_1 ++ dktX1_mustBeRow_2
def dkwX1_mustBeRow_0 : List UInt8 := [26, 3, 5, 184, 0, 28, 153, 0, 29, 27, 17, 128, 0, 18, 153, 184, 0, 28, 153, 0, 17, 28, 4]
abbrev dktX1_mustBeRow_0 : List UInt8 := dkwX1_mustBeRow_0 ++ dktX1_mustBeRow_1
theorem dksX1_mustBeRow_0 : cX1_mustBeRow.data.toList.drop 0 = dktX1_mustBeRow_0 := by decide +kernel
theorem dksX1_mustBeRow_1 : cX1_mustBeRow.data.toList.drop 23 = dktX1_mustBeRow_1 := dk_seg dksX1_mustBeRow_0 23 rfl rfl
theorem dksX1_mustBeRow_2 : cX1_mustBeRow.data.toList.drop 46 = dktX1_mustBeRow_2 := dk_seg dksX1_mustBeRow_1 23 rfl rfl
theorem dX1_mustBeRow_0 : decode cX1_mustBeRow 0 = .ok (.iload_n 0, 1) := dk_26 (dk_at dksX1_mustBeRow_0 0 rfl rfl)
theorem dX1_mustBeRow_1 : decode cX1_mustBeRow 1 = .ok (.iconst 0, 1) := dk_3 (dk_at dksX1_mustBeRow_0 1 rfl rfl)
theorem dX1_mustBeRow_2 : decode cX1_mustBeRow 2 = .ok (.iconst 2, 1) := dk_5 (dk_at dksX1_mustBeRow_0 2 rfl rfl)
theorem dX1_mustBeRow_3 : decode cX1_mustBeRow 3 = .ok (.invokestatic 28, 3) := dk_184 0 28 (dk_at dksX1_mustBeRow_0 3 rfl rfl)
theorem dX1_mustBeRow_6 : decode cX1_mustBeRow 6 = .ok (.ifCond .eq 29, 3) := dk_153 0 29 (dk_at dksX1_mustBeRow_0 6 rfl rfl)
theorem dX1_mustBeRow_9 : decode cX1_mustBeRow 9 = .ok (.iload_n 1, 1) := dk_27 (dk_at dksX1_mustBeRow_0 9 rfl rfl)
theorem dX1_mustBeRow_10 : decode cX1_mustBeRow 10 = .ok (.sipush (-32768), 3) := dk_17 128 0 (dk_at dksX1_mustBeRow_0 10 rfl rfl)
theorem dX1_mustBeRow_13 : decode cX1_mustBeRow 13 = .ok (.ldc 153, 2) := dk_18 153 (dk_at dksX1_mustBeRow_0 13 rfl rfl)
theorem dX1_mustBeRow_15 : decode cX1_mustBeRow 15 = .ok (.invokestatic 28, 3) := dk_184 0 28 (dk_at dksX1_mustBeRow_0 15 rfl rfl)
theorem dX1_mustBeRow_18 : decode cX1_mustBeRow 18 = .ok (.ifCond .eq 17, 3) := dk_153 0 17 (dk_at dksX1_mustBeRow_0 18 rfl rfl)
theorem dX1_mustBeRow_21 : decode cX1_mustBeRow 21 = .ok (.iload_n 2, 1) := dk_28 (dk_at dksX1_mustBeRow_0 21 rfl rfl)
theorem dX1_mustBeRow_22 : decode cX1_mustBeRow 22 = .ok (.iconst 1, 1) := dk_4 (dk_at dksX1_mustBeRow_0 22 rfl rfl)
theorem dX1_mustBeRow_23 : decode cX1_mustBeRow 23 = .ok (.bipush 16, 2) := dk_16 16 (dk_at dksX1_mustBeRow_1 0 rfl rfl)
theorem dX1_mustBeRow_25 : decode cX1_mustBeRow 25 = .ok (.invokestatic 28, 3) := dk_184 0 28 (dk_at dksX1_mustBeRow_1 2 rfl rfl)
theorem dX1_mustBeRow_28 : decode cX1_mustBeRow 28 = .ok (.ifCond .eq 7, 3) := dk_153 0 7 (dk_at dksX1_mustBeRow_1 5 rfl rfl)
theorem dX1_mustBeRow_31 : decode cX1_mustBeRow 31 = .ok (.iconst 1, 1) := dk_4 (dk_at dksX1_mustBeRow_1 8 rfl rfl)
theorem dX1_mustBeRow_32 : decode cX1_mustBeRow 32 = .ok (.goto 4, 3) := dk_167 0 4 (dk_at dksX1_mustBeRow_1 9 rfl rfl)
theorem dX1_mustBeRow_35 : decode cX1_mustBeRow 35 = .ok (.iconst 0, 1) := dk_3 (dk_at dksX1_mustBeRow_1 12 rfl rfl)
theorem dX1_mustBeRow_36 : decode cX1_mustBeRow 36 = .ok (.invokestatic 154, 3) := dk_184 0 154 (dk_at dksX1_mustBeRow_1 13 rfl rfl)
theorem dX1_mustBeRow_39 : decode cX1_mustBeRow 39 = .ok (.iload_n 1, 1) := dk_27 (dk_at dksX1_mustBeRow_1 16 rfl rfl)
theorem dX1_mustBeRow_40 : decode cX1_mustBeRow 40 = .ok (.iload_n 2, 1) := dk_28 (dk_at dksX1_mustBeRow_1 17 rfl rfl)
theorem dX1_mustBeRow_41 : decode cX1_mustBeRow 41 = .ok (.iadd, 1) := dk_96 (dk_at dksX1_mustBeRow_1 18 rfl rfl)
theorem dX1_mustBeRow_42 : decode cX1_mustBeRow 42 = .ok (.iconst 1, 1) := dk_4 (dk_at dksX1_mustBeRow_1 19 rfl rfl)
theorem dX1_mustBeRow_43 : decode cX1_mustBeRow 43 = .ok (.isub, 1) := dk_100 (dk_at dksX1_mustBeRow_1 20 rfl rfl)
theorem dX1_mustBeRow_44 : decode cX1_mustBeRow 44 = .ok (.ldc 153, 2) := dk_18 153 (dk_at dksX1_mustBeRow_1 21 rfl rfl)
theorem dX1_mustBeRow_46 : decode cX1_mustBeRow 46 = .ok (.if_icmp .gt 7, 3) := dk_163 0 7 (dk_at dksX1_mustBeRow_2 0 rfl rfl)
theorem dX1_mustBeRow_49 : decode cX1_mustBeRow 49 = .ok (.iconst 1, 1) := dk_4 (dk_at dksX1_mustBeRow_2 3 rfl rfl)
theorem dX1_mustBeRow_50 : decode cX1_mustBeRow 50 = .ok (.goto 4, 3) := dk_167 0 4 (dk_at dksX1_mustBeRow_2 4 rfl rfl)
theorem dX1_mustBeRow_53 : decode cX1_mustBeRow 53 = .ok (.iconst 0, 1) := dk_3 (dk_at dksX1_mustBeRow_2 7 rfl rfl)
theorem dX1_mustBeRow_54 : decode cX1_mustBeRow 54 = .ok (.invokestatic 154, 3) := dk_184 0 154 (dk_at dksX1_mustBeRow_2 8 rfl rfl)
theorem dX1_mustBeRow_57 : decode cX1_mustBeRow 57 = .ok (.return_, 1) := dk_177 (dk_at dksX1_mustBeRow_2 11 rfl rfl)
abbrev cX1_crossings : ByteArray := prog_1_method_83_code
def yX1_crossings : MethodName := ⟨RX1, "crossings", "(III)I"⟩
def dkwX1_crossings_3 : List UInt8 := [54, 4, 21, 7, 54, 5, 132, 6, 1, 167, 255, 205, 21, 4, 172]
abbrev dktX1_crossings_3 : List UInt8 := dkwX1_crossings_3 ++ []
def dkwX1_crossings_2 : List UInt8 := [184, 0, 79, 54, 7, 21, 4, 21, 7, 21, 5, 159, 0, 7, 4, 167, 0, 4, 3, 184, 0, 57, 96]
abbrev dktX1_crossings_2 : List UInt8 := dkwX1_crossings_2 ++ dktX1_crossings_3
def dkwX1_crossings_1 : List UInt8 := [28, 4, 96, 54, 6, 21, 6, 28, 29, 96, 162, 0, 49, 27, 21, 6, 135, 20, 0, 141, 107, 184, 0, 249]
abbrev dktX1_crossings_1 : List UInt8 := dkwX1_crossings_1 ++ dktX1_crossings_2
def dkwX1_crossings_0 : List UInt8 := [27, 28, 29, 184, 1, 56, 3, 54, 4, 27, 28, 135, 20, 0, 141, 107, 184, 0, 249, 184, 0, 79, 54, 5]
abbrev dktX1_crossings_0 : List UInt8 := dkwX1_crossings_0 ++ dktX1_crossings_1
theorem dksX1_crossings_0 : cX1_crossings.data.toList.drop 0 = dktX1_crossings_0 := by decide +kernel
theorem dksX1_crossings_1 : cX1_crossings.data.toList.drop 24 = dktX1_crossings_1 := dk_seg dksX1_crossings_0 24 rfl rfl
theorem dksX1_crossings_2 : cX1_crossings.data.toList.drop 48 = dktX1_crossings_2 := dk_seg dksX1_crossings_1 24 rfl rfl
theorem dksX1_crossings_3 : cX1_crossings.data.toList.drop 71 = dktX1_crossings_3 := dk_seg dksX1_crossings_2 23 rfl rfl
theorem dX1_crossings_0 : decode cX1_crossings 0 = .ok (.iload_n 1, 1) := dk_27 (dk_at dksX1_crossings_0 0 rfl rfl)
theorem dX1_crossings_1 : decode cX1_crossings 1 = .ok (.iload_n 2, 1) := dk_28 (dk_at dksX1_crossings_0 1 rfl rfl)
theorem dX1_crossings_2 : decode cX1_crossings 2 = .ok (.iload_n 3, 1) := dk_29 (dk_at dksX1_crossings_0 2 rfl rfl)
theorem dX1_crossings_3 : decode cX1_crossings 3 = .ok (.invokestatic 312, 3) := dk_184 1 56 (dk_at dksX1_crossings_0 3 rfl rfl)
theorem dX1_crossings_6 : decode cX1_crossings 6 = .ok (.iconst 0, 1) := dk_3 (dk_at dksX1_crossings_0 6 rfl rfl)
theorem dX1_crossings_7 : decode cX1_crossings 7 = .ok (.istore 4, 2) := dk_54 4 (dk_at dksX1_crossings_0 7 rfl rfl)
theorem dX1_crossings_9 : decode cX1_crossings 9 = .ok (.iload_n 1, 1) := dk_27 (dk_at dksX1_crossings_0 9 rfl rfl)
theorem dX1_crossings_10 : decode cX1_crossings 10 = .ok (.iload_n 2, 1) := dk_28 (dk_at dksX1_crossings_0 10 rfl rfl)
theorem dX1_crossings_11 : decode cX1_crossings 11 = .ok (.i2d, 1) := dk_135 (dk_at dksX1_crossings_0 11 rfl rfl)
theorem dX1_crossings_12 : decode cX1_crossings 12 = .ok (.ldc2_w 141, 3) := dk_20 0 141 (dk_at dksX1_crossings_0 12 rfl rfl)
theorem dX1_crossings_15 : decode cX1_crossings 15 = .ok (.dmul, 1) := dk_107 (dk_at dksX1_crossings_0 15 rfl rfl)
theorem dX1_crossings_16 : decode cX1_crossings 16 = .ok (.invokestatic 249, 3) := dk_184 0 249 (dk_at dksX1_crossings_0 16 rfl rfl)
theorem dX1_crossings_19 : decode cX1_crossings 19 = .ok (.invokestatic 79, 3) := dk_184 0 79 (dk_at dksX1_crossings_0 19 rfl rfl)
theorem dX1_crossings_22 : decode cX1_crossings 22 = .ok (.istore 5, 2) := dk_54 5 (dk_at dksX1_crossings_0 22 rfl rfl)
theorem dX1_crossings_24 : decode cX1_crossings 24 = .ok (.iload_n 2, 1) := dk_28 (dk_at dksX1_crossings_1 0 rfl rfl)
theorem dX1_crossings_25 : decode cX1_crossings 25 = .ok (.iconst 1, 1) := dk_4 (dk_at dksX1_crossings_1 1 rfl rfl)
theorem dX1_crossings_26 : decode cX1_crossings 26 = .ok (.iadd, 1) := dk_96 (dk_at dksX1_crossings_1 2 rfl rfl)
theorem dX1_crossings_27 : decode cX1_crossings 27 = .ok (.istore 6, 2) := dk_54 6 (dk_at dksX1_crossings_1 3 rfl rfl)
theorem dX1_crossings_29 : decode cX1_crossings 29 = .ok (.iload 6, 2) := dk_21 6 (dk_at dksX1_crossings_1 5 rfl rfl)
theorem dX1_crossings_31 : decode cX1_crossings 31 = .ok (.iload_n 2, 1) := dk_28 (dk_at dksX1_crossings_1 7 rfl rfl)
theorem dX1_crossings_32 : decode cX1_crossings 32 = .ok (.iload_n 3, 1) := dk_29 (dk_at dksX1_crossings_1 8 rfl rfl)
theorem dX1_crossings_33 : decode cX1_crossings 33 = .ok (.iadd, 1) := dk_96 (dk_at dksX1_crossings_1 9 rfl rfl)
theorem dX1_crossings_34 : decode cX1_crossings 34 = .ok (.if_icmp .ge 49, 3) := dk_162 0 49 (dk_at dksX1_crossings_1 10 rfl rfl)
theorem dX1_crossings_37 : decode cX1_crossings 37 = .ok (.iload_n 1, 1) := dk_27 (dk_at dksX1_crossings_1 13 rfl rfl)
theorem dX1_crossings_38 : decode cX1_crossings 38 = .ok (.iload 6, 2) := dk_21 6 (dk_at dksX1_crossings_1 14 rfl rfl)
theorem dX1_crossings_40 : decode cX1_crossings 40 = .ok (.i2d, 1) := dk_135 (dk_at dksX1_crossings_1 16 rfl rfl)
theorem dX1_crossings_41 : decode cX1_crossings 41 = .ok (.ldc2_w 141, 3) := dk_20 0 141 (dk_at dksX1_crossings_1 17 rfl rfl)
theorem dX1_crossings_44 : decode cX1_crossings 44 = .ok (.dmul, 1) := dk_107 (dk_at dksX1_crossings_1 20 rfl rfl)
theorem dX1_crossings_45 : decode cX1_crossings 45 = .ok (.invokestatic 249, 3) := dk_184 0 249 (dk_at dksX1_crossings_1 21 rfl rfl)
theorem dX1_crossings_48 : decode cX1_crossings 48 = .ok (.invokestatic 79, 3) := dk_184 0 79 (dk_at dksX1_crossings_2 0 rfl rfl)
theorem dX1_crossings_51 : decode cX1_crossings 51 = .ok (.istore 7, 2) := dk_54 7 (dk_at dksX1_crossings_2 3 rfl rfl)
theorem dX1_crossings_53 : decode cX1_crossings 53 = .ok (.iload 4, 2) := dk_21 4 (dk_at dksX1_crossings_2 5 rfl rfl)
theorem dX1_crossings_55 : decode cX1_crossings 55 = .ok (.iload 7, 2) := dk_21 7 (dk_at dksX1_crossings_2 7 rfl rfl)
theorem dX1_crossings_57 : decode cX1_crossings 57 = .ok (.iload 5, 2) := dk_21 5 (dk_at dksX1_crossings_2 9 rfl rfl)
theorem dX1_crossings_59 : decode cX1_crossings 59 = .ok (.if_icmp .eq 7, 3) := dk_159 0 7 (dk_at dksX1_crossings_2 11 rfl rfl)
theorem dX1_crossings_62 : decode cX1_crossings 62 = .ok (.iconst 1, 1) := dk_4 (dk_at dksX1_crossings_2 14 rfl rfl)
theorem dX1_crossings_63 : decode cX1_crossings 63 = .ok (.goto 4, 3) := dk_167 0 4 (dk_at dksX1_crossings_2 15 rfl rfl)
theorem dX1_crossings_66 : decode cX1_crossings 66 = .ok (.iconst 0, 1) := dk_3 (dk_at dksX1_crossings_2 18 rfl rfl)
theorem dX1_crossings_67 : decode cX1_crossings 67 = .ok (.invokestatic 57, 3) := dk_184 0 57 (dk_at dksX1_crossings_2 19 rfl rfl)
theorem dX1_crossings_70 : decode cX1_crossings 70 = .ok (.iadd, 1) := dk_96 (dk_at dksX1_crossings_2 22 rfl rfl)
theorem dX1_crossings_71 : decode cX1_crossings 71 = .ok (.istore 4, 2) := dk_54 4 (dk_at dksX1_crossings_3 0 rfl rfl)
theorem dX1_crossings_73 : decode cX1_crossings 73 = .ok (.iload 7, 2) := dk_21 7 (dk_at dksX1_crossings_3 2 rfl rfl)
theorem dX1_crossings_75 : decode cX1_crossings 75 = .ok (.istore 5, 2) := dk_54 5 (dk_at dksX1_crossings_3 4 rfl rfl)
theorem dX1_crossings_77 : decode cX1_crossings 77 = .ok (.iinc 6 1, 3) := dk_132 6 1 (dk_at dksX1_crossings_3 6 rfl rfl)
theorem dX1_crossings_80 : decode cX1_crossings 80 = .ok (.goto (-51), 3) := dk_167 255 205 (dk_at dksX1_crossings_3 9 rfl rfl)
theorem dX1_crossings_83 : decode cX1_crossings 83 = .ok (.iload 4, 2) := dk_21 4 (dk_at dksX1_crossings_3 12 rfl rfl)
theorem dX1_crossings_85 : decode cX1_crossings 85 = .ok (.ireturn, 1) := dk_172 (dk_at dksX1_crossings_3 14 rfl rfl)
abbrev cX1_ahead : ByteArray := prog_1_method_84_code
def yX1_ahead : MethodName := ⟨RX1, "ahead", "(IIII)I"⟩
def dkwX1_ahead_2 : List UInt8 := [156, 0, 7, 4, 167, 0, 4, 3, 184, 0, 57, 96, 54, 7, 132, 8, 1, 167, 255, 213, 21, 7, 172]
abbrev dktX1_ahead_2 : List UInt8 := dkwX1_ahead_2 ++ []
def dkwX1_ahead_1 : List UInt8 := [96, 162, 0, 41, 21, 7, 27, 21, 8, 135, 20, 0, 141, 107, 184, 0, 249, 24, 5, 184, 0, 215]
abbrev dktX1_ahead_1 : List UInt8 := dkwX1_ahead_1 ++ dktX1_ahead_2
def dkwX1_ahead_0 : List UInt8 := [42, 21, 4, 182, 0, 253, 57, 5, 27, 28, 29, 184, 1, 56, 3, 54, 7, 28, 54, 8, 21, 8, 28, 29]
abbrev dktX1_ahead_0 : List UInt8 := dkwX1_ahead_0 ++ dktX1_ahead_1
theorem dksX1_ahead_0 : cX1_ahead.data.toList.drop 0 = dktX1_ahead_0 := by decide +kernel
theorem dksX1_ahead_1 : cX1_ahead.data.toList.drop 24 = dktX1_ahead_1 := dk_seg dksX1_ahead_0 24 rfl rfl
theorem dksX1_ahead_2 : cX1_ahead.data.toList.drop 46 = dktX1_ahead_2 := dk_seg dksX1_ahead_1 22 rfl rfl
theorem dX1_ahead_0 : decode cX1_ahead 0 = .ok (.aload_n 0, 1) := dk_42 (dk_at dksX1_ahead_0 0 rfl rfl)
theorem dX1_ahead_1 : decode cX1_ahead 1 = .ok (.iload 4, 2) := dk_21 4 (dk_at dksX1_ahead_0 1 rfl rfl)
theorem dX1_ahead_3 : decode cX1_ahead 3 = .ok (.invokevirtual 253, 3) := dk_182 0 253 (dk_at dksX1_ahead_0 3 rfl rfl)
theorem dX1_ahead_6 : decode cX1_ahead 6 = .ok (.dstore 5, 2) := dk_57 5 (dk_at dksX1_ahead_0 6 rfl rfl)
theorem dX1_ahead_8 : decode cX1_ahead 8 = .ok (.iload_n 1, 1) := dk_27 (dk_at dksX1_ahead_0 8 rfl rfl)
theorem dX1_ahead_9 : decode cX1_ahead 9 = .ok (.iload_n 2, 1) := dk_28 (dk_at dksX1_ahead_0 9 rfl rfl)
theorem dX1_ahead_10 : decode cX1_ahead 10 = .ok (.iload_n 3, 1) := dk_29 (dk_at dksX1_ahead_0 10 rfl rfl)
theorem dX1_ahead_11 : decode cX1_ahead 11 = .ok (.invokestatic 312, 3) := dk_184 1 56 (dk_at dksX1_ahead_0 11 rfl rfl)
theorem dX1_ahead_14 : decode cX1_ahead 14 = .ok (.iconst 0, 1) := dk_3 (dk_at dksX1_ahead_0 14 rfl rfl)
theorem dX1_ahead_15 : decode cX1_ahead 15 = .ok (.istore 7, 2) := dk_54 7 (dk_at dksX1_ahead_0 15 rfl rfl)
theorem dX1_ahead_17 : decode cX1_ahead 17 = .ok (.iload_n 2, 1) := dk_28 (dk_at dksX1_ahead_0 17 rfl rfl)
theorem dX1_ahead_18 : decode cX1_ahead 18 = .ok (.istore 8, 2) := dk_54 8 (dk_at dksX1_ahead_0 18 rfl rfl)
theorem dX1_ahead_20 : decode cX1_ahead 20 = .ok (.iload 8, 2) := dk_21 8 (dk_at dksX1_ahead_0 20 rfl rfl)
theorem dX1_ahead_22 : decode cX1_ahead 22 = .ok (.iload_n 2, 1) := dk_28 (dk_at dksX1_ahead_0 22 rfl rfl)
theorem dX1_ahead_23 : decode cX1_ahead 23 = .ok (.iload_n 3, 1) := dk_29 (dk_at dksX1_ahead_0 23 rfl rfl)
theorem dX1_ahead_24 : decode cX1_ahead 24 = .ok (.iadd, 1) := dk_96 (dk_at dksX1_ahead_1 0 rfl rfl)
theorem dX1_ahead_25 : decode cX1_ahead 25 = .ok (.if_icmp .ge 41, 3) := dk_162 0 41 (dk_at dksX1_ahead_1 1 rfl rfl)
theorem dX1_ahead_28 : decode cX1_ahead 28 = .ok (.iload 7, 2) := dk_21 7 (dk_at dksX1_ahead_1 4 rfl rfl)
theorem dX1_ahead_30 : decode cX1_ahead 30 = .ok (.iload_n 1, 1) := dk_27 (dk_at dksX1_ahead_1 6 rfl rfl)
theorem dX1_ahead_31 : decode cX1_ahead 31 = .ok (.iload 8, 2) := dk_21 8 (dk_at dksX1_ahead_1 7 rfl rfl)
theorem dX1_ahead_33 : decode cX1_ahead 33 = .ok (.i2d, 1) := dk_135 (dk_at dksX1_ahead_1 9 rfl rfl)
theorem dX1_ahead_34 : decode cX1_ahead 34 = .ok (.ldc2_w 141, 3) := dk_20 0 141 (dk_at dksX1_ahead_1 10 rfl rfl)
theorem dX1_ahead_37 : decode cX1_ahead 37 = .ok (.dmul, 1) := dk_107 (dk_at dksX1_ahead_1 13 rfl rfl)
theorem dX1_ahead_38 : decode cX1_ahead 38 = .ok (.invokestatic 249, 3) := dk_184 0 249 (dk_at dksX1_ahead_1 14 rfl rfl)
theorem dX1_ahead_41 : decode cX1_ahead 41 = .ok (.dload 5, 2) := dk_24 5 (dk_at dksX1_ahead_1 17 rfl rfl)
theorem dX1_ahead_43 : decode cX1_ahead 43 = .ok (.invokestatic 215, 3) := dk_184 0 215 (dk_at dksX1_ahead_1 19 rfl rfl)
theorem dX1_ahead_46 : decode cX1_ahead 46 = .ok (.ifCond .ge 7, 3) := dk_156 0 7 (dk_at dksX1_ahead_2 0 rfl rfl)
theorem dX1_ahead_49 : decode cX1_ahead 49 = .ok (.iconst 1, 1) := dk_4 (dk_at dksX1_ahead_2 3 rfl rfl)
theorem dX1_ahead_50 : decode cX1_ahead 50 = .ok (.goto 4, 3) := dk_167 0 4 (dk_at dksX1_ahead_2 4 rfl rfl)
theorem dX1_ahead_53 : decode cX1_ahead 53 = .ok (.iconst 0, 1) := dk_3 (dk_at dksX1_ahead_2 7 rfl rfl)
theorem dX1_ahead_54 : decode cX1_ahead 54 = .ok (.invokestatic 57, 3) := dk_184 0 57 (dk_at dksX1_ahead_2 8 rfl rfl)
theorem dX1_ahead_57 : decode cX1_ahead 57 = .ok (.iadd, 1) := dk_96 (dk_at dksX1_ahead_2 11 rfl rfl)
theorem dX1_ahead_58 : decode cX1_ahead 58 = .ok (.istore 7, 2) := dk_54 7 (dk_at dksX1_ahead_2 12 rfl rfl)
theorem dX1_ahead_60 : decode cX1_ahead 60 = .ok (.iinc 8 1, 3) := dk_132 8 1 (dk_at dksX1_ahead_2 14 rfl rfl)
theorem dX1_ahead_63 : decode cX1_ahead 63 = .ok (.goto (-43), 3) := dk_167 255 213 (dk_at dksX1_ahead_2 17 rfl rfl)
theorem dX1_ahead_66 : decode cX1_ahead 66 = .ok (.iload 7, 2) := dk_21 7 (dk_at dksX1_ahead_2 20 rfl rfl)
theorem dX1_ahead_68 : decode cX1_ahead 68 = .ok (.ireturn, 1) := dk_172 (dk_at dksX1_ahead_2 22 rfl rfl)
abbrev cX1_angleTwice : ByteArray := prog_1_method_29_code
def yX1_angleTwice : MethodName := ⟨RX1, "angleTwice", "(I)I"⟩
def dkwX1_angleTwice_1 : List UInt8 := [167, 0, 7, 42, 182, 0, 169, 172]
abbrev dktX1_angleTwice_1 : List UInt8 := dkwX1_angleTwice_1 ++ []
def dkwX1_angleTwice_0 : List UInt8 := [20, 0, 172, 42, 27, 182, 0, 166, 107, 73, 40, 184, 0, 174, 153, 0, 12, 42, 27, 40, 182, 0, 158]
abbrev dktX1_angleTwice_0 : List UInt8 := dkwX1_angleTwice_0 ++ dktX1_angleTwice_1
theorem dksX1_angleTwice_0 : cX1_angleTwice.data.toList.drop 0 = dktX1_angleTwice_0 := by decide +kernel
theorem dksX1_angleTwice_1 : cX1_angleTwice.data.toList.drop 23 = dktX1_angleTwice_1 := dk_seg dksX1_angleTwice_0 23 rfl rfl
theorem dX1_angleTwice_0 : decode cX1_angleTwice 0 = .ok (.ldc2_w 172, 3) := dk_20 0 172 (dk_at dksX1_angleTwice_0 0 rfl rfl)
theorem dX1_angleTwice_3 : decode cX1_angleTwice 3 = .ok (.aload_n 0, 1) := dk_42 (dk_at dksX1_angleTwice_0 3 rfl rfl)
theorem dX1_angleTwice_4 : decode cX1_angleTwice 4 = .ok (.iload_n 1, 1) := dk_27 (dk_at dksX1_angleTwice_0 4 rfl rfl)
theorem dX1_angleTwice_5 : decode cX1_angleTwice 5 = .ok (.invokevirtual 166, 3) := dk_182 0 166 (dk_at dksX1_angleTwice_0 5 rfl rfl)
theorem dX1_angleTwice_8 : decode cX1_angleTwice 8 = .ok (.dmul, 1) := dk_107 (dk_at dksX1_angleTwice_0 8 rfl rfl)
theorem dX1_angleTwice_9 : decode cX1_angleTwice 9 = .ok (.dstore_n 2, 1) := dk_73 (dk_at dksX1_angleTwice_0 9 rfl rfl)
theorem dX1_angleTwice_10 : decode cX1_angleTwice 10 = .ok (.dload_n 2, 1) := dk_40 (dk_at dksX1_angleTwice_0 10 rfl rfl)
theorem dX1_angleTwice_11 : decode cX1_angleTwice 11 = .ok (.invokestatic 174, 3) := dk_184 0 174 (dk_at dksX1_angleTwice_0 11 rfl rfl)
theorem dX1_angleTwice_14 : decode cX1_angleTwice 14 = .ok (.ifCond .eq 12, 3) := dk_153 0 12 (dk_at dksX1_angleTwice_0 14 rfl rfl)
theorem dX1_angleTwice_17 : decode cX1_angleTwice 17 = .ok (.aload_n 0, 1) := dk_42 (dk_at dksX1_angleTwice_0 17 rfl rfl)
theorem dX1_angleTwice_18 : decode cX1_angleTwice 18 = .ok (.iload_n 1, 1) := dk_27 (dk_at dksX1_angleTwice_0 18 rfl rfl)
theorem dX1_angleTwice_19 : decode cX1_angleTwice 19 = .ok (.dload_n 2, 1) := dk_40 (dk_at dksX1_angleTwice_0 19 rfl rfl)
theorem dX1_angleTwice_20 : decode cX1_angleTwice 20 = .ok (.invokevirtual 158, 3) := dk_182 0 158 (dk_at dksX1_angleTwice_0 20 rfl rfl)
theorem dX1_angleTwice_23 : decode cX1_angleTwice 23 = .ok (.goto 7, 3) := dk_167 0 7 (dk_at dksX1_angleTwice_1 0 rfl rfl)
theorem dX1_angleTwice_26 : decode cX1_angleTwice 26 = .ok (.aload_n 0, 1) := dk_42 (dk_at dksX1_angleTwice_1 3 rfl rfl)
theorem dX1_angleTwice_27 : decode cX1_angleTwice 27 = .ok (.invokevirtual 169, 3) := dk_182 0 169 (dk_at dksX1_angleTwice_1 4 rfl rfl)
theorem dX1_angleTwice_30 : decode cX1_angleTwice 30 = .ok (.ireturn, 1) := dk_172 (dk_at dksX1_angleTwice_1 7 rfl rfl)
abbrev cX1_isAnswer : ByteArray := prog_1_method_65_code
def yX1_isAnswer : MethodName := ⟨RX1, "isAnswer", "(III)Z"⟩
def dkwX1_isAnswer_1 : List UInt8 := [24, 4, 184, 0, 223, 28, 24, 6, 184, 0, 249, 184, 0, 223, 3, 184, 0, 239, 172]
abbrev dktX1_isAnswer_1 : List UInt8 := dkwX1_isAnswer_1 ++ []
def dkwX1_isAnswer_0 : List UInt8 := [42, 27, 182, 0, 253, 57, 4, 42, 29, 182, 0, 166, 57, 6, 28, 3, 5, 184, 0, 28, 184, 0, 154]
abbrev dktX1_isAnswer_0 : List UInt8 := dkwX1_isAnswer_0 ++ dktX1_isAnswer_1
theorem dksX1_isAnswer_0 : cX1_isAnswer.data.toList.drop 0 = dktX1_isAnswer_0 := by decide +kernel
theorem dksX1_isAnswer_1 : cX1_isAnswer.data.toList.drop 23 = dktX1_isAnswer_1 := dk_seg dksX1_isAnswer_0 23 rfl rfl
theorem dX1_isAnswer_0 : decode cX1_isAnswer 0 = .ok (.aload_n 0, 1) := dk_42 (dk_at dksX1_isAnswer_0 0 rfl rfl)
theorem dX1_isAnswer_1 : decode cX1_isAnswer 1 = .ok (.iload_n 1, 1) := dk_27 (dk_at dksX1_isAnswer_0 1 rfl rfl)
theorem dX1_isAnswer_2 : decode cX1_isAnswer 2 = .ok (.invokevirtual 253, 3) := dk_182 0 253 (dk_at dksX1_isAnswer_0 2 rfl rfl)
theorem dX1_isAnswer_5 : decode cX1_isAnswer 5 = .ok (.dstore 4, 2) := dk_57 4 (dk_at dksX1_isAnswer_0 5 rfl rfl)
theorem dX1_isAnswer_7 : decode cX1_isAnswer 7 = .ok (.aload_n 0, 1) := dk_42 (dk_at dksX1_isAnswer_0 7 rfl rfl)
theorem dX1_isAnswer_8 : decode cX1_isAnswer 8 = .ok (.iload_n 3, 1) := dk_29 (dk_at dksX1_isAnswer_0 8 rfl rfl)
theorem dX1_isAnswer_9 : decode cX1_isAnswer 9 = .ok (.invokevirtual 166, 3) := dk_182 0 166 (dk_at dksX1_isAnswer_0 9 rfl rfl)
theorem dX1_isAnswer_12 : decode cX1_isAnswer 12 = .ok (.dstore 6, 2) := dk_57 6 (dk_at dksX1_isAnswer_0 12 rfl rfl)
theorem dX1_isAnswer_14 : decode cX1_isAnswer 14 = .ok (.iload_n 2, 1) := dk_28 (dk_at dksX1_isAnswer_0 14 rfl rfl)
theorem dX1_isAnswer_15 : decode cX1_isAnswer 15 = .ok (.iconst 0, 1) := dk_3 (dk_at dksX1_isAnswer_0 15 rfl rfl)
theorem dX1_isAnswer_16 : decode cX1_isAnswer 16 = .ok (.iconst 2, 1) := dk_5 (dk_at dksX1_isAnswer_0 16 rfl rfl)
theorem dX1_isAnswer_17 : decode cX1_isAnswer 17 = .ok (.invokestatic 28, 3) := dk_184 0 28 (dk_at dksX1_isAnswer_0 17 rfl rfl)
theorem dX1_isAnswer_20 : decode cX1_isAnswer 20 = .ok (.invokestatic 154, 3) := dk_184 0 154 (dk_at dksX1_isAnswer_0 20 rfl rfl)
theorem dX1_isAnswer_23 : decode cX1_isAnswer 23 = .ok (.dload 4, 2) := dk_24 4 (dk_at dksX1_isAnswer_1 0 rfl rfl)
theorem dX1_isAnswer_25 : decode cX1_isAnswer 25 = .ok (.invokestatic 223, 3) := dk_184 0 223 (dk_at dksX1_isAnswer_1 2 rfl rfl)
theorem dX1_isAnswer_28 : decode cX1_isAnswer 28 = .ok (.iload_n 2, 1) := dk_28 (dk_at dksX1_isAnswer_1 5 rfl rfl)
theorem dX1_isAnswer_29 : decode cX1_isAnswer 29 = .ok (.dload 6, 2) := dk_24 6 (dk_at dksX1_isAnswer_1 6 rfl rfl)
theorem dX1_isAnswer_31 : decode cX1_isAnswer 31 = .ok (.invokestatic 249, 3) := dk_184 0 249 (dk_at dksX1_isAnswer_1 8 rfl rfl)
theorem dX1_isAnswer_34 : decode cX1_isAnswer 34 = .ok (.invokestatic 223, 3) := dk_184 0 223 (dk_at dksX1_isAnswer_1 11 rfl rfl)
theorem dX1_isAnswer_37 : decode cX1_isAnswer 37 = .ok (.iconst 0, 1) := dk_3 (dk_at dksX1_isAnswer_1 14 rfl rfl)
theorem dX1_isAnswer_38 : decode cX1_isAnswer 38 = .ok (.invokestatic 239, 3) := dk_184 0 239 (dk_at dksX1_isAnswer_1 15 rfl rfl)
theorem dX1_isAnswer_41 : decode cX1_isAnswer 41 = .ok (.ireturn, 1) := dk_172 (dk_at dksX1_isAnswer_1 18 rfl rfl)
abbrev cX1_isSameBy : ByteArray := prog_1_method_40_code
def yX1_isSameBy : MethodName := ⟨RX1, "isSameBy", "(Ljava/lang/Double;Ljava/lang/Double;I)Z"⟩
def dkwX1_isSameBy_1 : List UInt8 := [167, 0, 8, 42, 43, 184, 0, 234, 172]
abbrev dktX1_isSameBy_1 : List UInt8 := dkwX1_isSameBy_1 ++ []
def dkwX1_isSameBy_0 : List UInt8 := [42, 78, 28, 154, 0, 11, 42, 43, 182, 0, 229, 167, 0, 21, 28, 4, 160, 0, 11, 45, 43, 182, 0, 233]
abbrev dktX1_isSameBy_0 : List UInt8 := dkwX1_isSameBy_0 ++ dktX1_isSameBy_1
theorem dksX1_isSameBy_0 : cX1_isSameBy.data.toList.drop 0 = dktX1_isSameBy_0 := by decide +kernel
theorem dksX1_isSameBy_1 : cX1_isSameBy.data.toList.drop 24 = dktX1_isSameBy_1 := dk_seg dksX1_isSameBy_0 24 rfl rfl
theorem dX1_isSameBy_0 : decode cX1_isSameBy 0 = .ok (.aload_n 0, 1) := dk_42 (dk_at dksX1_isSameBy_0 0 rfl rfl)
theorem dX1_isSameBy_1 : decode cX1_isSameBy 1 = .ok (.astore_n 3, 1) := dk_78 (dk_at dksX1_isSameBy_0 1 rfl rfl)
theorem dX1_isSameBy_2 : decode cX1_isSameBy 2 = .ok (.iload_n 2, 1) := dk_28 (dk_at dksX1_isSameBy_0 2 rfl rfl)
theorem dX1_isSameBy_3 : decode cX1_isSameBy 3 = .ok (.ifCond .ne 11, 3) := dk_154 0 11 (dk_at dksX1_isSameBy_0 3 rfl rfl)
theorem dX1_isSameBy_6 : decode cX1_isSameBy 6 = .ok (.aload_n 0, 1) := dk_42 (dk_at dksX1_isSameBy_0 6 rfl rfl)
theorem dX1_isSameBy_7 : decode cX1_isSameBy 7 = .ok (.aload_n 1, 1) := dk_43 (dk_at dksX1_isSameBy_0 7 rfl rfl)
theorem dX1_isSameBy_8 : decode cX1_isSameBy 8 = .ok (.invokevirtual 229, 3) := dk_182 0 229 (dk_at dksX1_isSameBy_0 8 rfl rfl)
theorem dX1_isSameBy_11 : decode cX1_isSameBy 11 = .ok (.goto 21, 3) := dk_167 0 21 (dk_at dksX1_isSameBy_0 11 rfl rfl)
theorem dX1_isSameBy_14 : decode cX1_isSameBy 14 = .ok (.iload_n 2, 1) := dk_28 (dk_at dksX1_isSameBy_0 14 rfl rfl)
theorem dX1_isSameBy_15 : decode cX1_isSameBy 15 = .ok (.iconst 1, 1) := dk_4 (dk_at dksX1_isSameBy_0 15 rfl rfl)
theorem dX1_isSameBy_16 : decode cX1_isSameBy 16 = .ok (.if_icmp .ne 11, 3) := dk_160 0 11 (dk_at dksX1_isSameBy_0 16 rfl rfl)
theorem dX1_isSameBy_19 : decode cX1_isSameBy 19 = .ok (.aload_n 3, 1) := dk_45 (dk_at dksX1_isSameBy_0 19 rfl rfl)
theorem dX1_isSameBy_20 : decode cX1_isSameBy 20 = .ok (.aload_n 1, 1) := dk_43 (dk_at dksX1_isSameBy_0 20 rfl rfl)
theorem dX1_isSameBy_21 : decode cX1_isSameBy 21 = .ok (.invokevirtual 233, 3) := dk_182 0 233 (dk_at dksX1_isSameBy_0 21 rfl rfl)
theorem dX1_isSameBy_24 : decode cX1_isSameBy 24 = .ok (.goto 8, 3) := dk_167 0 8 (dk_at dksX1_isSameBy_1 0 rfl rfl)
theorem dX1_isSameBy_27 : decode cX1_isSameBy 27 = .ok (.aload_n 0, 1) := dk_42 (dk_at dksX1_isSameBy_1 3 rfl rfl)
theorem dX1_isSameBy_28 : decode cX1_isSameBy 28 = .ok (.aload_n 1, 1) := dk_43 (dk_at dksX1_isSameBy_1 4 rfl rfl)
theorem dX1_isSameBy_29 : decode cX1_isSameBy 29 = .ok (.invokestatic 234, 3) := dk_184 0 234 (dk_at dksX1_isSameBy_1 5 rfl rfl)
theorem dX1_isSameBy_32 : decode cX1_isSameBy 32 = .ok (.ireturn, 1) := dk_172 (dk_at dksX1_isSameBy_1 8 rfl rfl)
abbrev cX1_cosine : ByteArray := prog_1_method_47_code
def yX1_cosine : MethodName := ⟨RX1, "cosine", "(II)I"⟩
def dkwX1_cosine_0 : List UInt8 := [42, 28, 42, 27, 182, 0, 166, 184, 0, 122, 182, 0, 246, 172]
abbrev dktX1_cosine_0 : List UInt8 := dkwX1_cosine_0 ++ []
theorem dksX1_cosine_0 : cX1_cosine.data.toList.drop 0 = dktX1_cosine_0 := by decide +kernel
theorem dX1_cosine_0 : decode cX1_cosine 0 = .ok (.aload_n 0, 1) := dk_42 (dk_at dksX1_cosine_0 0 rfl rfl)
theorem dX1_cosine_1 : decode cX1_cosine 1 = .ok (.iload_n 2, 1) := dk_28 (dk_at dksX1_cosine_0 1 rfl rfl)
theorem dX1_cosine_2 : decode cX1_cosine 2 = .ok (.aload_n 0, 1) := dk_42 (dk_at dksX1_cosine_0 2 rfl rfl)
theorem dX1_cosine_3 : decode cX1_cosine 3 = .ok (.iload_n 1, 1) := dk_27 (dk_at dksX1_cosine_0 3 rfl rfl)
theorem dX1_cosine_4 : decode cX1_cosine 4 = .ok (.invokevirtual 166, 3) := dk_182 0 166 (dk_at dksX1_cosine_0 4 rfl rfl)
theorem dX1_cosine_7 : decode cX1_cosine 7 = .ok (.invokestatic 122, 3) := dk_184 0 122 (dk_at dksX1_cosine_0 7 rfl rfl)
theorem dX1_cosine_10 : decode cX1_cosine 10 = .ok (.invokevirtual 246, 3) := dk_182 0 246 (dk_at dksX1_cosine_0 10 rfl rfl)
theorem dX1_cosine_13 : decode cX1_cosine 13 = .ok (.ireturn, 1) := dk_172 (dk_at dksX1_cosine_0 13 rfl rfl)
abbrev cX1_tangent : ByteArray := prog_1_method_48_code
def yX1_tangent : MethodName := ⟨RX1, "tangent", "(II)I"⟩
def dkwX1_tangent_0 : List UInt8 := [42, 28, 42, 27, 182, 0, 166, 184, 0, 125, 182, 0, 246, 172]
abbrev dktX1_tangent_0 : List UInt8 := dkwX1_tangent_0 ++ []
theorem dksX1_tangent_0 : cX1_tangent.data.toList.drop 0 = dktX1_tangent_0 := by decide +kernel
theorem dX1_tangent_0 : decode cX1_tangent 0 = .ok (.aload_n 0, 1) := dk_42 (dk_at dksX1_tangent_0 0 rfl rfl)
theorem dX1_tangent_1 : decode cX1_tangent 1 = .ok (.iload_n 2, 1) := dk_28 (dk_at dksX1_tangent_0 1 rfl rfl)
theorem dX1_tangent_2 : decode cX1_tangent 2 = .ok (.aload_n 0, 1) := dk_42 (dk_at dksX1_tangent_0 2 rfl rfl)
theorem dX1_tangent_3 : decode cX1_tangent 3 = .ok (.iload_n 1, 1) := dk_27 (dk_at dksX1_tangent_0 3 rfl rfl)
theorem dX1_tangent_4 : decode cX1_tangent 4 = .ok (.invokevirtual 166, 3) := dk_182 0 166 (dk_at dksX1_tangent_0 4 rfl rfl)
theorem dX1_tangent_7 : decode cX1_tangent 7 = .ok (.invokestatic 125, 3) := dk_184 0 125 (dk_at dksX1_tangent_0 7 rfl rfl)
theorem dX1_tangent_10 : decode cX1_tangent 10 = .ok (.invokevirtual 246, 3) := dk_182 0 246 (dk_at dksX1_tangent_0 10 rfl rfl)
theorem dX1_tangent_13 : decode cX1_tangent 13 = .ok (.ireturn, 1) := dk_172 (dk_at dksX1_tangent_0 13 rfl rfl)
abbrev cX1_angleKnown : ByteArray := prog_1_method_26_code
def yX1_angleKnown : MethodName := ⟨RX1, "angleKnown", "(II)I"⟩
def dkwX1_angleKnown_0 : List UInt8 := [27, 184, 0, 128, 28, 3, 16, 7, 184, 0, 28, 184, 0, 154, 42, 27, 28, 184, 0, 162, 182, 0, 158, 172]
abbrev dktX1_angleKnown_0 : List UInt8 := dkwX1_angleKnown_0 ++ []
theorem dksX1_angleKnown_0 : cX1_angleKnown.data.toList.drop 0 = dktX1_angleKnown_0 := by decide +kernel
theorem dX1_angleKnown_0 : decode cX1_angleKnown 0 = .ok (.iload_n 1, 1) := dk_27 (dk_at dksX1_angleKnown_0 0 rfl rfl)
theorem dX1_angleKnown_1 : decode cX1_angleKnown 1 = .ok (.invokestatic 128, 3) := dk_184 0 128 (dk_at dksX1_angleKnown_0 1 rfl rfl)
theorem dX1_angleKnown_4 : decode cX1_angleKnown 4 = .ok (.iload_n 2, 1) := dk_28 (dk_at dksX1_angleKnown_0 4 rfl rfl)
theorem dX1_angleKnown_5 : decode cX1_angleKnown 5 = .ok (.iconst 0, 1) := dk_3 (dk_at dksX1_angleKnown_0 5 rfl rfl)
theorem dX1_angleKnown_6 : decode cX1_angleKnown 6 = .ok (.bipush 7, 2) := dk_16 7 (dk_at dksX1_angleKnown_0 6 rfl rfl)
theorem dX1_angleKnown_8 : decode cX1_angleKnown 8 = .ok (.invokestatic 28, 3) := dk_184 0 28 (dk_at dksX1_angleKnown_0 8 rfl rfl)
theorem dX1_angleKnown_11 : decode cX1_angleKnown 11 = .ok (.invokestatic 154, 3) := dk_184 0 154 (dk_at dksX1_angleKnown_0 11 rfl rfl)
theorem dX1_angleKnown_14 : decode cX1_angleKnown 14 = .ok (.aload_n 0, 1) := dk_42 (dk_at dksX1_angleKnown_0 14 rfl rfl)
theorem dX1_angleKnown_15 : decode cX1_angleKnown 15 = .ok (.iload_n 1, 1) := dk_27 (dk_at dksX1_angleKnown_0 15 rfl rfl)
theorem dX1_angleKnown_16 : decode cX1_angleKnown 16 = .ok (.iload_n 2, 1) := dk_28 (dk_at dksX1_angleKnown_0 16 rfl rfl)
theorem dX1_angleKnown_17 : decode cX1_angleKnown 17 = .ok (.invokestatic 162, 3) := dk_184 0 162 (dk_at dksX1_angleKnown_0 17 rfl rfl)
theorem dX1_angleKnown_20 : decode cX1_angleKnown 20 = .ok (.invokevirtual 158, 3) := dk_182 0 158 (dk_at dksX1_angleKnown_0 20 rfl rfl)
theorem dX1_angleKnown_23 : decode cX1_angleKnown 23 = .ok (.ireturn, 1) := dk_172 (dk_at dksX1_angleKnown_0 23 rfl rfl)
abbrev cX1_known : ByteArray := prog_1_method_23_code
def yX1_known : MethodName := ⟨RX1, "known", "(I)D"⟩
def dkwX1_known_3 : List UInt8 := [20, 0, 149, 175, 20, 0, 151, 175]
abbrev dktX1_known_3 : List UInt8 := dkwX1_known_3 ++ []
def dkwX1_known_2 : List UInt8 := [14, 175, 20, 0, 139, 175, 20, 0, 141, 175, 20, 0, 143, 175, 20, 0, 145, 175, 20, 0, 147, 175]
abbrev dktX1_known_2 : List UInt8 := dkwX1_known_2 ++ dktX1_known_3
def dkwX1_known_1 : List UInt8 := [170, 0, 0, 0, 0, 0, 69, 0, 0, 0, 0, 0, 0, 0, 6, 0, 0, 0, 43, 0, 0, 0, 45, 0, 0, 0, 49, 0, 0, 0, 53, 0, 0, 0, 57, 0, 0, 0, 61, 0, 0, 0, 65]
abbrev dktX1_known_1 : List UInt8 := dkwX1_known_1 ++ dktX1_known_2
def dkwX1_known_0 : List UInt8 := [26]
abbrev dktX1_known_0 : List UInt8 := dkwX1_known_0 ++ dktX1_known_1
theorem dksX1_known_0 : cX1_known.data.toList.drop 0 = dktX1_known_0 := by decide +kernel
theorem dksX1_known_1 : cX1_known.data.toList.drop 1 = dktX1_known_1 := dk_seg dksX1_known_0 1 rfl rfl
theorem dksX1_known_2 : cX1_known.data.toList.drop 44 = dktX1_known_2 := dk_seg dksX1_known_1 43 rfl rfl
theorem dksX1_known_3 : cX1_known.data.toList.drop 66 = dktX1_known_3 := dk_seg dksX1_known_2 22 rfl rfl
theorem dX1_known_0 : decode cX1_known 0 = .ok (.iload_n 0, 1) := dk_26 (dk_at dksX1_known_0 0 rfl rfl)
theorem dX1_known_1 : decode cX1_known 1 = .ok (.tableswitch 69 0 6 #[43, 45, 49, 53, 57, 61, 65], 43) := by decide +kernel
theorem dX1_known_44 : decode cX1_known 44 = .ok (.dconst 0, 1) := dk_14 (dk_at dksX1_known_2 0 rfl rfl)
theorem dX1_known_45 : decode cX1_known 45 = .ok (.dreturn, 1) := dk_175 (dk_at dksX1_known_2 1 rfl rfl)
theorem dX1_known_46 : decode cX1_known 46 = .ok (.ldc2_w 139, 3) := dk_20 0 139 (dk_at dksX1_known_2 2 rfl rfl)
theorem dX1_known_49 : decode cX1_known 49 = .ok (.dreturn, 1) := dk_175 (dk_at dksX1_known_2 5 rfl rfl)
theorem dX1_known_50 : decode cX1_known 50 = .ok (.ldc2_w 141, 3) := dk_20 0 141 (dk_at dksX1_known_2 6 rfl rfl)
theorem dX1_known_53 : decode cX1_known 53 = .ok (.dreturn, 1) := dk_175 (dk_at dksX1_known_2 9 rfl rfl)
theorem dX1_known_54 : decode cX1_known 54 = .ok (.ldc2_w 143, 3) := dk_20 0 143 (dk_at dksX1_known_2 10 rfl rfl)
theorem dX1_known_57 : decode cX1_known 57 = .ok (.dreturn, 1) := dk_175 (dk_at dksX1_known_2 13 rfl rfl)
theorem dX1_known_58 : decode cX1_known 58 = .ok (.ldc2_w 145, 3) := dk_20 0 145 (dk_at dksX1_known_2 14 rfl rfl)
theorem dX1_known_61 : decode cX1_known 61 = .ok (.dreturn, 1) := dk_175 (dk_at dksX1_known_2 17 rfl rfl)
theorem dX1_known_62 : decode cX1_known 62 = .ok (.ldc2_w 147, 3) := dk_20 0 147 (dk_at dksX1_known_2 18 rfl rfl)
theorem dX1_known_65 : decode cX1_known 65 = .ok (.dreturn, 1) := dk_175 (dk_at dksX1_known_2 21 rfl rfl)
theorem dX1_known_66 : decode cX1_known 66 = .ok (.ldc2_w 149, 3) := dk_20 0 149 (dk_at dksX1_known_3 0 rfl rfl)
theorem dX1_known_69 : decode cX1_known 69 = .ok (.dreturn, 1) := dk_175 (dk_at dksX1_known_3 3 rfl rfl)
theorem dX1_known_70 : decode cX1_known 70 = .ok (.ldc2_w 151, 3) := dk_20 0 151 (dk_at dksX1_known_3 4 rfl rfl)
theorem dX1_known_73 : decode cX1_known 73 = .ok (.dreturn, 1) := dk_175 (dk_at dksX1_known_3 7 rfl rfl)
abbrev cX1_angleDoublings : ByteArray := prog_1_method_37_code
def yX1_angleDoublings : MethodName := ⟨RX1, "angleDoublings", "(I)I"⟩
def dkwX1_angleDoublings_0 : List UInt8 := [42, 27, 182, 0, 166, 184, 0, 85, 172]
abbrev dktX1_angleDoublings_0 : List UInt8 := dkwX1_angleDoublings_0 ++ []
theorem dksX1_angleDoublings_0 : cX1_angleDoublings.data.toList.drop 0 = dktX1_angleDoublings_0 := by decide +kernel
theorem dX1_angleDoublings_0 : decode cX1_angleDoublings 0 = .ok (.aload_n 0, 1) := dk_42 (dk_at dksX1_angleDoublings_0 0 rfl rfl)
theorem dX1_angleDoublings_1 : decode cX1_angleDoublings 1 = .ok (.iload_n 1, 1) := dk_27 (dk_at dksX1_angleDoublings_0 1 rfl rfl)
theorem dX1_angleDoublings_2 : decode cX1_angleDoublings 2 = .ok (.invokevirtual 166, 3) := dk_182 0 166 (dk_at dksX1_angleDoublings_0 2 rfl rfl)
theorem dX1_angleDoublings_5 : decode cX1_angleDoublings 5 = .ok (.invokestatic 85, 3) := dk_184 0 85 (dk_at dksX1_angleDoublings_0 5 rfl rfl)
theorem dX1_angleDoublings_8 : decode cX1_angleDoublings 8 = .ok (.ireturn, 1) := dk_172 (dk_at dksX1_angleDoublings_0 8 rfl rfl)
abbrev cX1_angleEighths : ByteArray := prog_1_method_36_code
def yX1_angleEighths : MethodName := ⟨RX1, "angleEighths", "(I)I"⟩
def dkwX1_angleEighths_0 : List UInt8 := [42, 27, 182, 0, 166, 184, 0, 82, 172]
abbrev dktX1_angleEighths_0 : List UInt8 := dkwX1_angleEighths_0 ++ []
theorem dksX1_angleEighths_0 : cX1_angleEighths.data.toList.drop 0 = dktX1_angleEighths_0 := by decide +kernel
theorem dX1_angleEighths_0 : decode cX1_angleEighths 0 = .ok (.aload_n 0, 1) := dk_42 (dk_at dksX1_angleEighths_0 0 rfl rfl)
theorem dX1_angleEighths_1 : decode cX1_angleEighths 1 = .ok (.iload_n 1, 1) := dk_27 (dk_at dksX1_angleEighths_0 1 rfl rfl)
theorem dX1_angleEighths_2 : decode cX1_angleEighths 2 = .ok (.invokevirtual 166, 3) := dk_182 0 166 (dk_at dksX1_angleEighths_0 2 rfl rfl)
theorem dX1_angleEighths_5 : decode cX1_angleEighths 5 = .ok (.invokestatic 82, 3) := dk_184 0 82 (dk_at dksX1_angleEighths_0 5 rfl rfl)
theorem dX1_angleEighths_8 : decode cX1_angleEighths 8 = .ok (.ireturn, 1) := dk_172 (dk_at dksX1_angleEighths_0 8 rfl rfl)
abbrev cX1_angleSame : ByteArray := prog_1_method_41_code
def yX1_angleSame : MethodName := ⟨RX1, "angleSame", "(III)Z"⟩
def dkwX1_angleSame_1 : List UInt8 := [24, 4, 184, 0, 223, 24, 6, 184, 0, 223, 29, 184, 0, 239, 172]
abbrev dktX1_angleSame_1 : List UInt8 := dkwX1_angleSame_1 ++ []
def dkwX1_angleSame_0 : List UInt8 := [42, 27, 182, 0, 166, 57, 4, 42, 28, 182, 0, 166, 57, 6, 29, 3, 5, 184, 0, 28, 184, 0, 154]
abbrev dktX1_angleSame_0 : List UInt8 := dkwX1_angleSame_0 ++ dktX1_angleSame_1
theorem dksX1_angleSame_0 : cX1_angleSame.data.toList.drop 0 = dktX1_angleSame_0 := by decide +kernel
theorem dksX1_angleSame_1 : cX1_angleSame.data.toList.drop 23 = dktX1_angleSame_1 := dk_seg dksX1_angleSame_0 23 rfl rfl
theorem dX1_angleSame_0 : decode cX1_angleSame 0 = .ok (.aload_n 0, 1) := dk_42 (dk_at dksX1_angleSame_0 0 rfl rfl)
theorem dX1_angleSame_1 : decode cX1_angleSame 1 = .ok (.iload_n 1, 1) := dk_27 (dk_at dksX1_angleSame_0 1 rfl rfl)
theorem dX1_angleSame_2 : decode cX1_angleSame 2 = .ok (.invokevirtual 166, 3) := dk_182 0 166 (dk_at dksX1_angleSame_0 2 rfl rfl)
theorem dX1_angleSame_5 : decode cX1_angleSame 5 = .ok (.dstore 4, 2) := dk_57 4 (dk_at dksX1_angleSame_0 5 rfl rfl)
theorem dX1_angleSame_7 : decode cX1_angleSame 7 = .ok (.aload_n 0, 1) := dk_42 (dk_at dksX1_angleSame_0 7 rfl rfl)
theorem dX1_angleSame_8 : decode cX1_angleSame 8 = .ok (.iload_n 2, 1) := dk_28 (dk_at dksX1_angleSame_0 8 rfl rfl)
theorem dX1_angleSame_9 : decode cX1_angleSame 9 = .ok (.invokevirtual 166, 3) := dk_182 0 166 (dk_at dksX1_angleSame_0 9 rfl rfl)
theorem dX1_angleSame_12 : decode cX1_angleSame 12 = .ok (.dstore 6, 2) := dk_57 6 (dk_at dksX1_angleSame_0 12 rfl rfl)
theorem dX1_angleSame_14 : decode cX1_angleSame 14 = .ok (.iload_n 3, 1) := dk_29 (dk_at dksX1_angleSame_0 14 rfl rfl)
theorem dX1_angleSame_15 : decode cX1_angleSame 15 = .ok (.iconst 0, 1) := dk_3 (dk_at dksX1_angleSame_0 15 rfl rfl)
theorem dX1_angleSame_16 : decode cX1_angleSame 16 = .ok (.iconst 2, 1) := dk_5 (dk_at dksX1_angleSame_0 16 rfl rfl)
theorem dX1_angleSame_17 : decode cX1_angleSame 17 = .ok (.invokestatic 28, 3) := dk_184 0 28 (dk_at dksX1_angleSame_0 17 rfl rfl)
theorem dX1_angleSame_20 : decode cX1_angleSame 20 = .ok (.invokestatic 154, 3) := dk_184 0 154 (dk_at dksX1_angleSame_0 20 rfl rfl)
theorem dX1_angleSame_23 : decode cX1_angleSame 23 = .ok (.dload 4, 2) := dk_24 4 (dk_at dksX1_angleSame_1 0 rfl rfl)
theorem dX1_angleSame_25 : decode cX1_angleSame 25 = .ok (.invokestatic 223, 3) := dk_184 0 223 (dk_at dksX1_angleSame_1 2 rfl rfl)
theorem dX1_angleSame_28 : decode cX1_angleSame 28 = .ok (.dload 6, 2) := dk_24 6 (dk_at dksX1_angleSame_1 5 rfl rfl)
theorem dX1_angleSame_30 : decode cX1_angleSame 30 = .ok (.invokestatic 223, 3) := dk_184 0 223 (dk_at dksX1_angleSame_1 7 rfl rfl)
theorem dX1_angleSame_33 : decode cX1_angleSame 33 = .ok (.iload_n 3, 1) := dk_29 (dk_at dksX1_angleSame_1 10 rfl rfl)
theorem dX1_angleSame_34 : decode cX1_angleSame 34 = .ok (.invokestatic 239, 3) := dk_184 0 239 (dk_at dksX1_angleSame_1 11 rfl rfl)
theorem dX1_angleSame_37 : decode cX1_angleSame 37 = .ok (.ireturn, 1) := dk_172 (dk_at dksX1_angleSame_1 14 rfl rfl)
abbrev cX1_angleCopy : ByteArray := prog_1_method_31_code
def yX1_angleCopy : MethodName := ⟨RX1, "angleCopy", "(II)I"⟩
def dkwX1_angleCopy_0 : List UInt8 := [42, 28, 42, 27, 182, 0, 166, 182, 0, 158, 172]
abbrev dktX1_angleCopy_0 : List UInt8 := dkwX1_angleCopy_0 ++ []
theorem dksX1_angleCopy_0 : cX1_angleCopy.data.toList.drop 0 = dktX1_angleCopy_0 := by decide +kernel
theorem dX1_angleCopy_0 : decode cX1_angleCopy 0 = .ok (.aload_n 0, 1) := dk_42 (dk_at dksX1_angleCopy_0 0 rfl rfl)
theorem dX1_angleCopy_1 : decode cX1_angleCopy 1 = .ok (.iload_n 2, 1) := dk_28 (dk_at dksX1_angleCopy_0 1 rfl rfl)
theorem dX1_angleCopy_2 : decode cX1_angleCopy 2 = .ok (.aload_n 0, 1) := dk_42 (dk_at dksX1_angleCopy_0 2 rfl rfl)
theorem dX1_angleCopy_3 : decode cX1_angleCopy 3 = .ok (.iload_n 1, 1) := dk_27 (dk_at dksX1_angleCopy_0 3 rfl rfl)
theorem dX1_angleCopy_4 : decode cX1_angleCopy 4 = .ok (.invokevirtual 166, 3) := dk_182 0 166 (dk_at dksX1_angleCopy_0 4 rfl rfl)
theorem dX1_angleCopy_7 : decode cX1_angleCopy 7 = .ok (.invokevirtual 158, 3) := dk_182 0 158 (dk_at dksX1_angleCopy_0 7 rfl rfl)
theorem dX1_angleCopy_10 : decode cX1_angleCopy 10 = .ok (.ireturn, 1) := dk_172 (dk_at dksX1_angleCopy_0 10 rfl rfl)
abbrev cX1_angleTurn : ByteArray := prog_1_method_27_code
def yX1_angleTurn : MethodName := ⟨RX1, "angleTurn", "(I)I"⟩
def dkwX1_angleTurn_0 : List UInt8 := [42, 27, 42, 27, 182, 0, 166, 119, 182, 0, 158, 87, 42, 180, 0, 13, 27, 49, 184, 0, 79, 172]
abbrev dktX1_angleTurn_0 : List UInt8 := dkwX1_angleTurn_0 ++ []
theorem dksX1_angleTurn_0 : cX1_angleTurn.data.toList.drop 0 = dktX1_angleTurn_0 := by decide +kernel
theorem dX1_angleTurn_0 : decode cX1_angleTurn 0 = .ok (.aload_n 0, 1) := dk_42 (dk_at dksX1_angleTurn_0 0 rfl rfl)
theorem dX1_angleTurn_1 : decode cX1_angleTurn 1 = .ok (.iload_n 1, 1) := dk_27 (dk_at dksX1_angleTurn_0 1 rfl rfl)
theorem dX1_angleTurn_2 : decode cX1_angleTurn 2 = .ok (.aload_n 0, 1) := dk_42 (dk_at dksX1_angleTurn_0 2 rfl rfl)
theorem dX1_angleTurn_3 : decode cX1_angleTurn 3 = .ok (.iload_n 1, 1) := dk_27 (dk_at dksX1_angleTurn_0 3 rfl rfl)
theorem dX1_angleTurn_4 : decode cX1_angleTurn 4 = .ok (.invokevirtual 166, 3) := dk_182 0 166 (dk_at dksX1_angleTurn_0 4 rfl rfl)
theorem dX1_angleTurn_7 : decode cX1_angleTurn 7 = .ok (.dneg, 1) := dk_119 (dk_at dksX1_angleTurn_0 7 rfl rfl)
theorem dX1_angleTurn_8 : decode cX1_angleTurn 8 = .ok (.invokevirtual 158, 3) := dk_182 0 158 (dk_at dksX1_angleTurn_0 8 rfl rfl)
theorem dX1_angleTurn_11 : decode cX1_angleTurn 11 = .ok (.pop, 1) := dk_87 (dk_at dksX1_angleTurn_0 11 rfl rfl)
theorem dX1_angleTurn_12 : decode cX1_angleTurn 12 = .ok (.aload_n 0, 1) := dk_42 (dk_at dksX1_angleTurn_0 12 rfl rfl)
theorem dX1_angleTurn_13 : decode cX1_angleTurn 13 = .ok (.getfield 13, 3) := dk_180 0 13 (dk_at dksX1_angleTurn_0 13 rfl rfl)
theorem dX1_angleTurn_16 : decode cX1_angleTurn 16 = .ok (.iload_n 1, 1) := dk_27 (dk_at dksX1_angleTurn_0 16 rfl rfl)
theorem dX1_angleTurn_17 : decode cX1_angleTurn 17 = .ok (.daload, 1) := dk_49 (dk_at dksX1_angleTurn_0 17 rfl rfl)
theorem dX1_angleTurn_18 : decode cX1_angleTurn 18 = .ok (.invokestatic 79, 3) := dk_184 0 79 (dk_at dksX1_angleTurn_0 18 rfl rfl)
theorem dX1_angleTurn_21 : decode cX1_angleTurn 21 = .ok (.ireturn, 1) := dk_172 (dk_at dksX1_angleTurn_0 21 rfl rfl)
abbrev cX1_angleStep : ByteArray := prog_1_method_28_code
def yX1_angleStep : MethodName := ⟨RX1, "angleStep", "(IZ)I"⟩
def dkwX1_angleStep_3 : List UInt8 := [182, 0, 169, 172]
abbrev dktX1_angleStep_3 : List UInt8 := dkwX1_angleStep_3 ++ []
def dkwX1_angleStep_2 : List UInt8 := [167, 0, 4, 3, 54, 7, 21, 7, 153, 0, 13, 42, 27, 24, 5, 182, 0, 158, 167, 0, 7, 42]
abbrev dktX1_angleStep_2 : List UInt8 := dkwX1_angleStep_2 ++ dktX1_angleStep_3
def dkwX1_angleStep_1 : List UInt8 := [57, 5, 41, 184, 0, 82, 18, 71, 159, 0, 17, 24, 5, 184, 0, 82, 18, 71, 159, 0, 7, 4]
abbrev dktX1_angleStep_1 : List UInt8 := dkwX1_angleStep_1 ++ dktX1_angleStep_2
def dkwX1_angleStep_0 : List UInt8 := [42, 27, 182, 0, 166, 74, 28, 153, 0, 11, 41, 20, 0, 141, 103, 167, 0, 8, 41, 20, 0, 141, 99]
abbrev dktX1_angleStep_0 : List UInt8 := dkwX1_angleStep_0 ++ dktX1_angleStep_1
theorem dksX1_angleStep_0 : cX1_angleStep.data.toList.drop 0 = dktX1_angleStep_0 := by decide +kernel
theorem dksX1_angleStep_1 : cX1_angleStep.data.toList.drop 23 = dktX1_angleStep_1 := dk_seg dksX1_angleStep_0 23 rfl rfl
theorem dksX1_angleStep_2 : cX1_angleStep.data.toList.drop 45 = dktX1_angleStep_2 := dk_seg dksX1_angleStep_1 22 rfl rfl
theorem dksX1_angleStep_3 : cX1_angleStep.data.toList.drop 67 = dktX1_angleStep_3 := dk_seg dksX1_angleStep_2 22 rfl rfl
theorem dX1_angleStep_0 : decode cX1_angleStep 0 = .ok (.aload_n 0, 1) := dk_42 (dk_at dksX1_angleStep_0 0 rfl rfl)
theorem dX1_angleStep_1 : decode cX1_angleStep 1 = .ok (.iload_n 1, 1) := dk_27 (dk_at dksX1_angleStep_0 1 rfl rfl)
theorem dX1_angleStep_2 : decode cX1_angleStep 2 = .ok (.invokevirtual 166, 3) := dk_182 0 166 (dk_at dksX1_angleStep_0 2 rfl rfl)
theorem dX1_angleStep_5 : decode cX1_angleStep 5 = .ok (.dstore_n 3, 1) := dk_74 (dk_at dksX1_angleStep_0 5 rfl rfl)
theorem dX1_angleStep_6 : decode cX1_angleStep 6 = .ok (.iload_n 2, 1) := dk_28 (dk_at dksX1_angleStep_0 6 rfl rfl)
theorem dX1_angleStep_7 : decode cX1_angleStep 7 = .ok (.ifCond .eq 11, 3) := dk_153 0 11 (dk_at dksX1_angleStep_0 7 rfl rfl)
theorem dX1_angleStep_10 : decode cX1_angleStep 10 = .ok (.dload_n 3, 1) := dk_41 (dk_at dksX1_angleStep_0 10 rfl rfl)
theorem dX1_angleStep_11 : decode cX1_angleStep 11 = .ok (.ldc2_w 141, 3) := dk_20 0 141 (dk_at dksX1_angleStep_0 11 rfl rfl)
theorem dX1_angleStep_14 : decode cX1_angleStep 14 = .ok (.dsub, 1) := dk_103 (dk_at dksX1_angleStep_0 14 rfl rfl)
theorem dX1_angleStep_15 : decode cX1_angleStep 15 = .ok (.goto 8, 3) := dk_167 0 8 (dk_at dksX1_angleStep_0 15 rfl rfl)
theorem dX1_angleStep_18 : decode cX1_angleStep 18 = .ok (.dload_n 3, 1) := dk_41 (dk_at dksX1_angleStep_0 18 rfl rfl)
theorem dX1_angleStep_19 : decode cX1_angleStep 19 = .ok (.ldc2_w 141, 3) := dk_20 0 141 (dk_at dksX1_angleStep_0 19 rfl rfl)
theorem dX1_angleStep_22 : decode cX1_angleStep 22 = .ok (.dadd, 1) := dk_99 (dk_at dksX1_angleStep_0 22 rfl rfl)
theorem dX1_angleStep_23 : decode cX1_angleStep 23 = .ok (.dstore 5, 2) := dk_57 5 (dk_at dksX1_angleStep_1 0 rfl rfl)
theorem dX1_angleStep_25 : decode cX1_angleStep 25 = .ok (.dload_n 3, 1) := dk_41 (dk_at dksX1_angleStep_1 2 rfl rfl)
theorem dX1_angleStep_26 : decode cX1_angleStep 26 = .ok (.invokestatic 82, 3) := dk_184 0 82 (dk_at dksX1_angleStep_1 3 rfl rfl)
theorem dX1_angleStep_29 : decode cX1_angleStep 29 = .ok (.ldc 71, 2) := dk_18 71 (dk_at dksX1_angleStep_1 6 rfl rfl)
theorem dX1_angleStep_31 : decode cX1_angleStep 31 = .ok (.if_icmp .eq 17, 3) := dk_159 0 17 (dk_at dksX1_angleStep_1 8 rfl rfl)
theorem dX1_angleStep_34 : decode cX1_angleStep 34 = .ok (.dload 5, 2) := dk_24 5 (dk_at dksX1_angleStep_1 11 rfl rfl)
theorem dX1_angleStep_36 : decode cX1_angleStep 36 = .ok (.invokestatic 82, 3) := dk_184 0 82 (dk_at dksX1_angleStep_1 13 rfl rfl)
theorem dX1_angleStep_39 : decode cX1_angleStep 39 = .ok (.ldc 71, 2) := dk_18 71 (dk_at dksX1_angleStep_1 16 rfl rfl)
theorem dX1_angleStep_41 : decode cX1_angleStep 41 = .ok (.if_icmp .eq 7, 3) := dk_159 0 7 (dk_at dksX1_angleStep_1 18 rfl rfl)
theorem dX1_angleStep_44 : decode cX1_angleStep 44 = .ok (.iconst 1, 1) := dk_4 (dk_at dksX1_angleStep_1 21 rfl rfl)
theorem dX1_angleStep_45 : decode cX1_angleStep 45 = .ok (.goto 4, 3) := dk_167 0 4 (dk_at dksX1_angleStep_2 0 rfl rfl)
theorem dX1_angleStep_48 : decode cX1_angleStep 48 = .ok (.iconst 0, 1) := dk_3 (dk_at dksX1_angleStep_2 3 rfl rfl)
theorem dX1_angleStep_49 : decode cX1_angleStep 49 = .ok (.istore 7, 2) := dk_54 7 (dk_at dksX1_angleStep_2 4 rfl rfl)
theorem dX1_angleStep_51 : decode cX1_angleStep 51 = .ok (.iload 7, 2) := dk_21 7 (dk_at dksX1_angleStep_2 6 rfl rfl)
theorem dX1_angleStep_53 : decode cX1_angleStep 53 = .ok (.ifCond .eq 13, 3) := dk_153 0 13 (dk_at dksX1_angleStep_2 8 rfl rfl)
theorem dX1_angleStep_56 : decode cX1_angleStep 56 = .ok (.aload_n 0, 1) := dk_42 (dk_at dksX1_angleStep_2 11 rfl rfl)
theorem dX1_angleStep_57 : decode cX1_angleStep 57 = .ok (.iload_n 1, 1) := dk_27 (dk_at dksX1_angleStep_2 12 rfl rfl)
theorem dX1_angleStep_58 : decode cX1_angleStep 58 = .ok (.dload 5, 2) := dk_24 5 (dk_at dksX1_angleStep_2 13 rfl rfl)
theorem dX1_angleStep_60 : decode cX1_angleStep 60 = .ok (.invokevirtual 158, 3) := dk_182 0 158 (dk_at dksX1_angleStep_2 15 rfl rfl)
theorem dX1_angleStep_63 : decode cX1_angleStep 63 = .ok (.goto 7, 3) := dk_167 0 7 (dk_at dksX1_angleStep_2 18 rfl rfl)
theorem dX1_angleStep_66 : decode cX1_angleStep 66 = .ok (.aload_n 0, 1) := dk_42 (dk_at dksX1_angleStep_2 21 rfl rfl)
theorem dX1_angleStep_67 : decode cX1_angleStep 67 = .ok (.invokevirtual 169, 3) := dk_182 0 169 (dk_at dksX1_angleStep_3 0 rfl rfl)
theorem dX1_angleStep_70 : decode cX1_angleStep 70 = .ok (.ireturn, 1) := dk_172 (dk_at dksX1_angleStep_3 3 rfl rfl)
abbrev cX1_angleOrder : ByteArray := prog_1_method_38_code
def yX1_angleOrder : MethodName := ⟨RX1, "angleOrder", "(III)I"⟩
def dkwX1_angleOrder_1 : List UInt8 := [24, 4, 24, 6, 29, 184, 0, 211, 172]
abbrev dktX1_angleOrder_1 : List UInt8 := dkwX1_angleOrder_1 ++ []
def dkwX1_angleOrder_0 : List UInt8 := [42, 27, 182, 0, 166, 57, 4, 42, 28, 182, 0, 166, 57, 6, 29, 3, 4, 184, 0, 28, 184, 0, 154]
abbrev dktX1_angleOrder_0 : List UInt8 := dkwX1_angleOrder_0 ++ dktX1_angleOrder_1
theorem dksX1_angleOrder_0 : cX1_angleOrder.data.toList.drop 0 = dktX1_angleOrder_0 := by decide +kernel
theorem dksX1_angleOrder_1 : cX1_angleOrder.data.toList.drop 23 = dktX1_angleOrder_1 := dk_seg dksX1_angleOrder_0 23 rfl rfl
theorem dX1_angleOrder_0 : decode cX1_angleOrder 0 = .ok (.aload_n 0, 1) := dk_42 (dk_at dksX1_angleOrder_0 0 rfl rfl)
theorem dX1_angleOrder_1 : decode cX1_angleOrder 1 = .ok (.iload_n 1, 1) := dk_27 (dk_at dksX1_angleOrder_0 1 rfl rfl)
theorem dX1_angleOrder_2 : decode cX1_angleOrder 2 = .ok (.invokevirtual 166, 3) := dk_182 0 166 (dk_at dksX1_angleOrder_0 2 rfl rfl)
theorem dX1_angleOrder_5 : decode cX1_angleOrder 5 = .ok (.dstore 4, 2) := dk_57 4 (dk_at dksX1_angleOrder_0 5 rfl rfl)
theorem dX1_angleOrder_7 : decode cX1_angleOrder 7 = .ok (.aload_n 0, 1) := dk_42 (dk_at dksX1_angleOrder_0 7 rfl rfl)
theorem dX1_angleOrder_8 : decode cX1_angleOrder 8 = .ok (.iload_n 2, 1) := dk_28 (dk_at dksX1_angleOrder_0 8 rfl rfl)
theorem dX1_angleOrder_9 : decode cX1_angleOrder 9 = .ok (.invokevirtual 166, 3) := dk_182 0 166 (dk_at dksX1_angleOrder_0 9 rfl rfl)
theorem dX1_angleOrder_12 : decode cX1_angleOrder 12 = .ok (.dstore 6, 2) := dk_57 6 (dk_at dksX1_angleOrder_0 12 rfl rfl)
theorem dX1_angleOrder_14 : decode cX1_angleOrder 14 = .ok (.iload_n 3, 1) := dk_29 (dk_at dksX1_angleOrder_0 14 rfl rfl)
theorem dX1_angleOrder_15 : decode cX1_angleOrder 15 = .ok (.iconst 0, 1) := dk_3 (dk_at dksX1_angleOrder_0 15 rfl rfl)
theorem dX1_angleOrder_16 : decode cX1_angleOrder 16 = .ok (.iconst 1, 1) := dk_4 (dk_at dksX1_angleOrder_0 16 rfl rfl)
theorem dX1_angleOrder_17 : decode cX1_angleOrder 17 = .ok (.invokestatic 28, 3) := dk_184 0 28 (dk_at dksX1_angleOrder_0 17 rfl rfl)
theorem dX1_angleOrder_20 : decode cX1_angleOrder 20 = .ok (.invokestatic 154, 3) := dk_184 0 154 (dk_at dksX1_angleOrder_0 20 rfl rfl)
theorem dX1_angleOrder_23 : decode cX1_angleOrder 23 = .ok (.dload 4, 2) := dk_24 4 (dk_at dksX1_angleOrder_1 0 rfl rfl)
theorem dX1_angleOrder_25 : decode cX1_angleOrder 25 = .ok (.dload 6, 2) := dk_24 6 (dk_at dksX1_angleOrder_1 2 rfl rfl)
theorem dX1_angleOrder_27 : decode cX1_angleOrder 27 = .ok (.iload_n 3, 1) := dk_29 (dk_at dksX1_angleOrder_1 4 rfl rfl)
theorem dX1_angleOrder_28 : decode cX1_angleOrder 28 = .ok (.invokestatic 211, 3) := dk_184 0 211 (dk_at dksX1_angleOrder_1 5 rfl rfl)
theorem dX1_angleOrder_31 : decode cX1_angleOrder 31 = .ok (.ireturn, 1) := dk_172 (dk_at dksX1_angleOrder_1 8 rfl rfl)
abbrev cX1_heightText : ByteArray := prog_1_method_59_code
def yX1_heightText : MethodName := ⟨RX1, "heightText", "(I)Ljava/lang/String;"⟩
def dkwX1_heightText_2 : List UInt8 := [16, 32, 125, 182, 0, 204, 182, 0, 207, 176]
abbrev dktX1_heightText_2 : List UInt8 := dkwX1_heightText_2 ++ []
def dkwX1_heightText_1 : List UInt8 := [16, 32, 182, 0, 201, 40, 184, 0, 63, 182, 0, 197, 16, 32, 182, 0, 201, 87, 25, 4, 40, 184, 0, 74]
abbrev dktX1_heightText_1 : List UInt8 := dkwX1_heightText_1 ++ dktX1_heightText_2
def dkwX1_heightText_0 : List UInt8 := [42, 27, 182, 0, 253, 73, 187, 0, 194, 89, 183, 0, 196, 58, 4, 25, 4, 40, 184, 0, 79, 182, 0, 197]
abbrev dktX1_heightText_0 : List UInt8 := dkwX1_heightText_0 ++ dktX1_heightText_1
theorem dksX1_heightText_0 : cX1_heightText.data.toList.drop 0 = dktX1_heightText_0 := by decide +kernel
theorem dksX1_heightText_1 : cX1_heightText.data.toList.drop 24 = dktX1_heightText_1 := dk_seg dksX1_heightText_0 24 rfl rfl
theorem dksX1_heightText_2 : cX1_heightText.data.toList.drop 48 = dktX1_heightText_2 := dk_seg dksX1_heightText_1 24 rfl rfl
theorem dX1_heightText_0 : decode cX1_heightText 0 = .ok (.aload_n 0, 1) := dk_42 (dk_at dksX1_heightText_0 0 rfl rfl)
theorem dX1_heightText_1 : decode cX1_heightText 1 = .ok (.iload_n 1, 1) := dk_27 (dk_at dksX1_heightText_0 1 rfl rfl)
theorem dX1_heightText_2 : decode cX1_heightText 2 = .ok (.invokevirtual 253, 3) := dk_182 0 253 (dk_at dksX1_heightText_0 2 rfl rfl)
theorem dX1_heightText_5 : decode cX1_heightText 5 = .ok (.dstore_n 2, 1) := dk_73 (dk_at dksX1_heightText_0 5 rfl rfl)
theorem dX1_heightText_6 : decode cX1_heightText 6 = .ok (.new 194, 3) := dk_187 0 194 (dk_at dksX1_heightText_0 6 rfl rfl)
theorem dX1_heightText_9 : decode cX1_heightText 9 = .ok (.dup, 1) := dk_89 (dk_at dksX1_heightText_0 9 rfl rfl)
theorem dX1_heightText_10 : decode cX1_heightText 10 = .ok (.invokespecial 196, 3) := dk_183 0 196 (dk_at dksX1_heightText_0 10 rfl rfl)
theorem dX1_heightText_13 : decode cX1_heightText 13 = .ok (.astore 4, 2) := dk_58 4 (dk_at dksX1_heightText_0 13 rfl rfl)
theorem dX1_heightText_15 : decode cX1_heightText 15 = .ok (.aload 4, 2) := dk_25 4 (dk_at dksX1_heightText_0 15 rfl rfl)
theorem dX1_heightText_17 : decode cX1_heightText 17 = .ok (.dload_n 2, 1) := dk_40 (dk_at dksX1_heightText_0 17 rfl rfl)
theorem dX1_heightText_18 : decode cX1_heightText 18 = .ok (.invokestatic 79, 3) := dk_184 0 79 (dk_at dksX1_heightText_0 18 rfl rfl)
theorem dX1_heightText_21 : decode cX1_heightText 21 = .ok (.invokevirtual 197, 3) := dk_182 0 197 (dk_at dksX1_heightText_0 21 rfl rfl)
theorem dX1_heightText_24 : decode cX1_heightText 24 = .ok (.bipush 32, 2) := dk_16 32 (dk_at dksX1_heightText_1 0 rfl rfl)
theorem dX1_heightText_26 : decode cX1_heightText 26 = .ok (.invokevirtual 201, 3) := dk_182 0 201 (dk_at dksX1_heightText_1 2 rfl rfl)
theorem dX1_heightText_29 : decode cX1_heightText 29 = .ok (.dload_n 2, 1) := dk_40 (dk_at dksX1_heightText_1 5 rfl rfl)
theorem dX1_heightText_30 : decode cX1_heightText 30 = .ok (.invokestatic 63, 3) := dk_184 0 63 (dk_at dksX1_heightText_1 6 rfl rfl)
theorem dX1_heightText_33 : decode cX1_heightText 33 = .ok (.invokevirtual 197, 3) := dk_182 0 197 (dk_at dksX1_heightText_1 9 rfl rfl)
theorem dX1_heightText_36 : decode cX1_heightText 36 = .ok (.bipush 32, 2) := dk_16 32 (dk_at dksX1_heightText_1 12 rfl rfl)
theorem dX1_heightText_38 : decode cX1_heightText 38 = .ok (.invokevirtual 201, 3) := dk_182 0 201 (dk_at dksX1_heightText_1 14 rfl rfl)
theorem dX1_heightText_41 : decode cX1_heightText 41 = .ok (.pop, 1) := dk_87 (dk_at dksX1_heightText_1 17 rfl rfl)
theorem dX1_heightText_42 : decode cX1_heightText 42 = .ok (.aload 4, 2) := dk_25 4 (dk_at dksX1_heightText_1 18 rfl rfl)
theorem dX1_heightText_44 : decode cX1_heightText 44 = .ok (.dload_n 2, 1) := dk_40 (dk_at dksX1_heightText_1 20 rfl rfl)
theorem dX1_heightText_45 : decode cX1_heightText 45 = .ok (.invokestatic 74, 3) := dk_184 0 74 (dk_at dksX1_heightText_1 21 rfl rfl)
theorem dX1_heightText_48 : decode cX1_heightText 48 = .ok (.bipush 32, 2) := dk_16 32 (dk_at dksX1_heightText_2 0 rfl rfl)
theorem dX1_heightText_50 : decode cX1_heightText 50 = .ok (.lushr, 1) := dk_125 (dk_at dksX1_heightText_2 2 rfl rfl)
theorem dX1_heightText_51 : decode cX1_heightText 51 = .ok (.invokevirtual 204, 3) := dk_182 0 204 (dk_at dksX1_heightText_2 3 rfl rfl)
theorem dX1_heightText_54 : decode cX1_heightText 54 = .ok (.invokevirtual 207, 3) := dk_182 0 207 (dk_at dksX1_heightText_2 6 rfl rfl)
theorem dX1_heightText_57 : decode cX1_heightText 57 = .ok (.areturn, 1) := dk_176 (dk_at dksX1_heightText_2 9 rfl rfl)
abbrev cX1_first : ByteArray := prog_1_method_58_code
def yX1_first : MethodName := ⟨RX1, "first", "(II)I"⟩
def dkwX1_first_1 : List UInt8 := [125, 136, 172]
abbrev dktX1_first_1 : List UInt8 := dkwX1_first_1 ++ []
def dkwX1_first_0 : List UInt8 := [42, 27, 182, 0, 253, 74, 28, 3, 16, 30, 184, 0, 28, 184, 0, 154, 41, 184, 0, 74, 16, 52, 28, 100]
abbrev dktX1_first_0 : List UInt8 := dkwX1_first_0 ++ dktX1_first_1
theorem dksX1_first_0 : cX1_first.data.toList.drop 0 = dktX1_first_0 := by decide +kernel
theorem dksX1_first_1 : cX1_first.data.toList.drop 24 = dktX1_first_1 := dk_seg dksX1_first_0 24 rfl rfl
theorem dX1_first_0 : decode cX1_first 0 = .ok (.aload_n 0, 1) := dk_42 (dk_at dksX1_first_0 0 rfl rfl)
theorem dX1_first_1 : decode cX1_first 1 = .ok (.iload_n 1, 1) := dk_27 (dk_at dksX1_first_0 1 rfl rfl)
theorem dX1_first_2 : decode cX1_first 2 = .ok (.invokevirtual 253, 3) := dk_182 0 253 (dk_at dksX1_first_0 2 rfl rfl)
theorem dX1_first_5 : decode cX1_first 5 = .ok (.dstore_n 3, 1) := dk_74 (dk_at dksX1_first_0 5 rfl rfl)
theorem dX1_first_6 : decode cX1_first 6 = .ok (.iload_n 2, 1) := dk_28 (dk_at dksX1_first_0 6 rfl rfl)
theorem dX1_first_7 : decode cX1_first 7 = .ok (.iconst 0, 1) := dk_3 (dk_at dksX1_first_0 7 rfl rfl)
theorem dX1_first_8 : decode cX1_first 8 = .ok (.bipush 30, 2) := dk_16 30 (dk_at dksX1_first_0 8 rfl rfl)
theorem dX1_first_10 : decode cX1_first 10 = .ok (.invokestatic 28, 3) := dk_184 0 28 (dk_at dksX1_first_0 10 rfl rfl)
theorem dX1_first_13 : decode cX1_first 13 = .ok (.invokestatic 154, 3) := dk_184 0 154 (dk_at dksX1_first_0 13 rfl rfl)
theorem dX1_first_16 : decode cX1_first 16 = .ok (.dload_n 3, 1) := dk_41 (dk_at dksX1_first_0 16 rfl rfl)
theorem dX1_first_17 : decode cX1_first 17 = .ok (.invokestatic 74, 3) := dk_184 0 74 (dk_at dksX1_first_0 17 rfl rfl)
theorem dX1_first_20 : decode cX1_first 20 = .ok (.bipush 52, 2) := dk_16 52 (dk_at dksX1_first_0 20 rfl rfl)
theorem dX1_first_22 : decode cX1_first 22 = .ok (.iload_n 2, 1) := dk_28 (dk_at dksX1_first_0 22 rfl rfl)
theorem dX1_first_23 : decode cX1_first 23 = .ok (.isub, 1) := dk_100 (dk_at dksX1_first_0 23 rfl rfl)
theorem dX1_first_24 : decode cX1_first 24 = .ok (.lushr, 1) := dk_125 (dk_at dksX1_first_1 0 rfl rfl)
theorem dX1_first_25 : decode cX1_first 25 = .ok (.l2i, 1) := dk_136 (dk_at dksX1_first_1 1 rfl rfl)
theorem dX1_first_26 : decode cX1_first 26 = .ok (.ireturn, 1) := dk_172 (dk_at dksX1_first_1 2 rfl rfl)
abbrev cX1_heightSame : ByteArray := prog_1_method_61_code
def yX1_heightSame : MethodName := ⟨RX1, "heightSame", "(III)Z"⟩
def dkwX1_heightSame_1 : List UInt8 := [24, 4, 184, 0, 223, 24, 6, 184, 0, 223, 29, 184, 0, 239, 172]
abbrev dktX1_heightSame_1 : List UInt8 := dkwX1_heightSame_1 ++ []
def dkwX1_heightSame_0 : List UInt8 := [42, 27, 182, 0, 253, 57, 4, 42, 28, 182, 0, 253, 57, 6, 29, 3, 5, 184, 0, 28, 184, 0, 154]
abbrev dktX1_heightSame_0 : List UInt8 := dkwX1_heightSame_0 ++ dktX1_heightSame_1
theorem dksX1_heightSame_0 : cX1_heightSame.data.toList.drop 0 = dktX1_heightSame_0 := by decide +kernel
theorem dksX1_heightSame_1 : cX1_heightSame.data.toList.drop 23 = dktX1_heightSame_1 := dk_seg dksX1_heightSame_0 23 rfl rfl
theorem dX1_heightSame_0 : decode cX1_heightSame 0 = .ok (.aload_n 0, 1) := dk_42 (dk_at dksX1_heightSame_0 0 rfl rfl)
theorem dX1_heightSame_1 : decode cX1_heightSame 1 = .ok (.iload_n 1, 1) := dk_27 (dk_at dksX1_heightSame_0 1 rfl rfl)
theorem dX1_heightSame_2 : decode cX1_heightSame 2 = .ok (.invokevirtual 253, 3) := dk_182 0 253 (dk_at dksX1_heightSame_0 2 rfl rfl)
theorem dX1_heightSame_5 : decode cX1_heightSame 5 = .ok (.dstore 4, 2) := dk_57 4 (dk_at dksX1_heightSame_0 5 rfl rfl)
theorem dX1_heightSame_7 : decode cX1_heightSame 7 = .ok (.aload_n 0, 1) := dk_42 (dk_at dksX1_heightSame_0 7 rfl rfl)
theorem dX1_heightSame_8 : decode cX1_heightSame 8 = .ok (.iload_n 2, 1) := dk_28 (dk_at dksX1_heightSame_0 8 rfl rfl)
theorem dX1_heightSame_9 : decode cX1_heightSame 9 = .ok (.invokevirtual 253, 3) := dk_182 0 253 (dk_at dksX1_heightSame_0 9 rfl rfl)
theorem dX1_heightSame_12 : decode cX1_heightSame 12 = .ok (.dstore 6, 2) := dk_57 6 (dk_at dksX1_heightSame_0 12 rfl rfl)
theorem dX1_heightSame_14 : decode cX1_heightSame 14 = .ok (.iload_n 3, 1) := dk_29 (dk_at dksX1_heightSame_0 14 rfl rfl)
theorem dX1_heightSame_15 : decode cX1_heightSame 15 = .ok (.iconst 0, 1) := dk_3 (dk_at dksX1_heightSame_0 15 rfl rfl)
theorem dX1_heightSame_16 : decode cX1_heightSame 16 = .ok (.iconst 2, 1) := dk_5 (dk_at dksX1_heightSame_0 16 rfl rfl)
theorem dX1_heightSame_17 : decode cX1_heightSame 17 = .ok (.invokestatic 28, 3) := dk_184 0 28 (dk_at dksX1_heightSame_0 17 rfl rfl)
theorem dX1_heightSame_20 : decode cX1_heightSame 20 = .ok (.invokestatic 154, 3) := dk_184 0 154 (dk_at dksX1_heightSame_0 20 rfl rfl)
theorem dX1_heightSame_23 : decode cX1_heightSame 23 = .ok (.dload 4, 2) := dk_24 4 (dk_at dksX1_heightSame_1 0 rfl rfl)
theorem dX1_heightSame_25 : decode cX1_heightSame 25 = .ok (.invokestatic 223, 3) := dk_184 0 223 (dk_at dksX1_heightSame_1 2 rfl rfl)
theorem dX1_heightSame_28 : decode cX1_heightSame 28 = .ok (.dload 6, 2) := dk_24 6 (dk_at dksX1_heightSame_1 5 rfl rfl)
theorem dX1_heightSame_30 : decode cX1_heightSame 30 = .ok (.invokestatic 223, 3) := dk_184 0 223 (dk_at dksX1_heightSame_1 7 rfl rfl)
theorem dX1_heightSame_33 : decode cX1_heightSame 33 = .ok (.iload_n 3, 1) := dk_29 (dk_at dksX1_heightSame_1 10 rfl rfl)
theorem dX1_heightSame_34 : decode cX1_heightSame 34 = .ok (.invokestatic 239, 3) := dk_184 0 239 (dk_at dksX1_heightSame_1 11 rfl rfl)
theorem dX1_heightSame_37 : decode cX1_heightSame 37 = .ok (.ireturn, 1) := dk_172 (dk_at dksX1_heightSame_1 14 rfl rfl)
abbrev cX1_flip : ByteArray := prog_1_method_50_code
def yX1_flip : MethodName := ⟨RX1, "flip", "(I)I"⟩
def dkwX1_flip_0 : List UInt8 := [42, 27, 42, 27, 182, 0, 253, 119, 182, 0, 246, 87, 42, 180, 0, 17, 27, 49, 184, 0, 79, 172]
abbrev dktX1_flip_0 : List UInt8 := dkwX1_flip_0 ++ []
theorem dksX1_flip_0 : cX1_flip.data.toList.drop 0 = dktX1_flip_0 := by decide +kernel
theorem dX1_flip_0 : decode cX1_flip 0 = .ok (.aload_n 0, 1) := dk_42 (dk_at dksX1_flip_0 0 rfl rfl)
theorem dX1_flip_1 : decode cX1_flip 1 = .ok (.iload_n 1, 1) := dk_27 (dk_at dksX1_flip_0 1 rfl rfl)
theorem dX1_flip_2 : decode cX1_flip 2 = .ok (.aload_n 0, 1) := dk_42 (dk_at dksX1_flip_0 2 rfl rfl)
theorem dX1_flip_3 : decode cX1_flip 3 = .ok (.iload_n 1, 1) := dk_27 (dk_at dksX1_flip_0 3 rfl rfl)
theorem dX1_flip_4 : decode cX1_flip 4 = .ok (.invokevirtual 253, 3) := dk_182 0 253 (dk_at dksX1_flip_0 4 rfl rfl)
theorem dX1_flip_7 : decode cX1_flip 7 = .ok (.dneg, 1) := dk_119 (dk_at dksX1_flip_0 7 rfl rfl)
theorem dX1_flip_8 : decode cX1_flip 8 = .ok (.invokevirtual 246, 3) := dk_182 0 246 (dk_at dksX1_flip_0 8 rfl rfl)
theorem dX1_flip_11 : decode cX1_flip 11 = .ok (.pop, 1) := dk_87 (dk_at dksX1_flip_0 11 rfl rfl)
theorem dX1_flip_12 : decode cX1_flip 12 = .ok (.aload_n 0, 1) := dk_42 (dk_at dksX1_flip_0 12 rfl rfl)
theorem dX1_flip_13 : decode cX1_flip 13 = .ok (.getfield 17, 3) := dk_180 0 17 (dk_at dksX1_flip_0 13 rfl rfl)
theorem dX1_flip_16 : decode cX1_flip 16 = .ok (.iload_n 1, 1) := dk_27 (dk_at dksX1_flip_0 16 rfl rfl)
theorem dX1_flip_17 : decode cX1_flip 17 = .ok (.daload, 1) := dk_49 (dk_at dksX1_flip_0 17 rfl rfl)
theorem dX1_flip_18 : decode cX1_flip 18 = .ok (.invokestatic 79, 3) := dk_184 0 79 (dk_at dksX1_flip_0 18 rfl rfl)
theorem dX1_flip_21 : decode cX1_flip 21 = .ok (.ireturn, 1) := dk_172 (dk_at dksX1_flip_0 21 rfl rfl)
abbrev cX1_isMirrored : ByteArray := prog_1_method_67_code
def yX1_isMirrored : MethodName := ⟨RX1, "isMirrored", "(III)Z"⟩
def dkwX1_isMirrored_5 : List UInt8 := [184, 0, 239, 172]
abbrev dktX1_isMirrored_5 : List UInt8 := dkwX1_isMirrored_5 ++ []
def dkwX1_isMirrored_4 : List UInt8 := [154, 0, 7, 4, 167, 0, 21, 3, 167, 0, 17, 24, 6, 184, 0, 223, 24, 10, 184, 0, 223, 3]
abbrev dktX1_isMirrored_4 : List UInt8 := dkwX1_isMirrored_4 ++ dktX1_isMirrored_5
def dkwX1_isMirrored_3 : List UInt8 := [24, 8, 167, 0, 6, 24, 8, 119, 57, 10, 29, 4, 160, 0, 22, 24, 6, 24, 10, 3, 184, 0, 211]
abbrev dktX1_isMirrored_3 : List UInt8 := dkwX1_isMirrored_3 ++ dktX1_isMirrored_4
def dkwX1_isMirrored_2 : List UInt8 := [184, 0, 249, 57, 8, 29, 154, 0, 12, 28, 24, 6, 24, 8, 184, 1, 14, 172, 28, 4, 160, 0, 8]
abbrev dktX1_isMirrored_2 : List UInt8 := dkwX1_isMirrored_2 ++ dktX1_isMirrored_3
def dkwX1_isMirrored_1 : List UInt8 := [153, 0, 7, 4, 167, 0, 4, 3, 184, 0, 154, 28, 24, 4, 119, 184, 0, 249, 57, 6, 28, 24, 4]
abbrev dktX1_isMirrored_1 : List UInt8 := dkwX1_isMirrored_1 ++ dktX1_isMirrored_2
def dkwX1_isMirrored_0 : List UInt8 := [42, 27, 182, 0, 166, 57, 4, 28, 3, 5, 184, 0, 28, 153, 0, 16, 29, 3, 5, 184, 0, 28]
abbrev dktX1_isMirrored_0 : List UInt8 := dkwX1_isMirrored_0 ++ dktX1_isMirrored_1
theorem dksX1_isMirrored_0 : cX1_isMirrored.data.toList.drop 0 = dktX1_isMirrored_0 := by decide +kernel
theorem dksX1_isMirrored_1 : cX1_isMirrored.data.toList.drop 22 = dktX1_isMirrored_1 := dk_seg dksX1_isMirrored_0 22 rfl rfl
theorem dksX1_isMirrored_2 : cX1_isMirrored.data.toList.drop 45 = dktX1_isMirrored_2 := dk_seg dksX1_isMirrored_1 23 rfl rfl
theorem dksX1_isMirrored_3 : cX1_isMirrored.data.toList.drop 68 = dktX1_isMirrored_3 := dk_seg dksX1_isMirrored_2 23 rfl rfl
theorem dksX1_isMirrored_4 : cX1_isMirrored.data.toList.drop 91 = dktX1_isMirrored_4 := dk_seg dksX1_isMirrored_3 23 rfl rfl
theorem dksX1_isMirrored_5 : cX1_isMirrored.data.toList.drop 113 = dktX1_isMirrored_5 := dk_seg dksX1_isMirrored_4 22 rfl rfl
theorem dX1_isMirrored_0 : decode cX1_isMirrored 0 = .ok (.aload_n 0, 1) := dk_42 (dk_at dksX1_isMirrored_0 0 rfl rfl)
theorem dX1_isMirrored_1 : decode cX1_isMirrored 1 = .ok (.iload_n 1, 1) := dk_27 (dk_at dksX1_isMirrored_0 1 rfl rfl)
theorem dX1_isMirrored_2 : decode cX1_isMirrored 2 = .ok (.invokevirtual 166, 3) := dk_182 0 166 (dk_at dksX1_isMirrored_0 2 rfl rfl)
theorem dX1_isMirrored_5 : decode cX1_isMirrored 5 = .ok (.dstore 4, 2) := dk_57 4 (dk_at dksX1_isMirrored_0 5 rfl rfl)
theorem dX1_isMirrored_7 : decode cX1_isMirrored 7 = .ok (.iload_n 2, 1) := dk_28 (dk_at dksX1_isMirrored_0 7 rfl rfl)
theorem dX1_isMirrored_8 : decode cX1_isMirrored 8 = .ok (.iconst 0, 1) := dk_3 (dk_at dksX1_isMirrored_0 8 rfl rfl)
theorem dX1_isMirrored_9 : decode cX1_isMirrored 9 = .ok (.iconst 2, 1) := dk_5 (dk_at dksX1_isMirrored_0 9 rfl rfl)
theorem dX1_isMirrored_10 : decode cX1_isMirrored 10 = .ok (.invokestatic 28, 3) := dk_184 0 28 (dk_at dksX1_isMirrored_0 10 rfl rfl)
theorem dX1_isMirrored_13 : decode cX1_isMirrored 13 = .ok (.ifCond .eq 16, 3) := dk_153 0 16 (dk_at dksX1_isMirrored_0 13 rfl rfl)
theorem dX1_isMirrored_16 : decode cX1_isMirrored 16 = .ok (.iload_n 3, 1) := dk_29 (dk_at dksX1_isMirrored_0 16 rfl rfl)
theorem dX1_isMirrored_17 : decode cX1_isMirrored 17 = .ok (.iconst 0, 1) := dk_3 (dk_at dksX1_isMirrored_0 17 rfl rfl)
theorem dX1_isMirrored_18 : decode cX1_isMirrored 18 = .ok (.iconst 2, 1) := dk_5 (dk_at dksX1_isMirrored_0 18 rfl rfl)
theorem dX1_isMirrored_19 : decode cX1_isMirrored 19 = .ok (.invokestatic 28, 3) := dk_184 0 28 (dk_at dksX1_isMirrored_0 19 rfl rfl)
theorem dX1_isMirrored_22 : decode cX1_isMirrored 22 = .ok (.ifCond .eq 7, 3) := dk_153 0 7 (dk_at dksX1_isMirrored_1 0 rfl rfl)
theorem dX1_isMirrored_25 : decode cX1_isMirrored 25 = .ok (.iconst 1, 1) := dk_4 (dk_at dksX1_isMirrored_1 3 rfl rfl)
theorem dX1_isMirrored_26 : decode cX1_isMirrored 26 = .ok (.goto 4, 3) := dk_167 0 4 (dk_at dksX1_isMirrored_1 4 rfl rfl)
theorem dX1_isMirrored_29 : decode cX1_isMirrored 29 = .ok (.iconst 0, 1) := dk_3 (dk_at dksX1_isMirrored_1 7 rfl rfl)
theorem dX1_isMirrored_30 : decode cX1_isMirrored 30 = .ok (.invokestatic 154, 3) := dk_184 0 154 (dk_at dksX1_isMirrored_1 8 rfl rfl)
theorem dX1_isMirrored_33 : decode cX1_isMirrored 33 = .ok (.iload_n 2, 1) := dk_28 (dk_at dksX1_isMirrored_1 11 rfl rfl)
theorem dX1_isMirrored_34 : decode cX1_isMirrored 34 = .ok (.dload 4, 2) := dk_24 4 (dk_at dksX1_isMirrored_1 12 rfl rfl)
theorem dX1_isMirrored_36 : decode cX1_isMirrored 36 = .ok (.dneg, 1) := dk_119 (dk_at dksX1_isMirrored_1 14 rfl rfl)
theorem dX1_isMirrored_37 : decode cX1_isMirrored 37 = .ok (.invokestatic 249, 3) := dk_184 0 249 (dk_at dksX1_isMirrored_1 15 rfl rfl)
theorem dX1_isMirrored_40 : decode cX1_isMirrored 40 = .ok (.dstore 6, 2) := dk_57 6 (dk_at dksX1_isMirrored_1 18 rfl rfl)
theorem dX1_isMirrored_42 : decode cX1_isMirrored 42 = .ok (.iload_n 2, 1) := dk_28 (dk_at dksX1_isMirrored_1 20 rfl rfl)
theorem dX1_isMirrored_43 : decode cX1_isMirrored 43 = .ok (.dload 4, 2) := dk_24 4 (dk_at dksX1_isMirrored_1 21 rfl rfl)
theorem dX1_isMirrored_45 : decode cX1_isMirrored 45 = .ok (.invokestatic 249, 3) := dk_184 0 249 (dk_at dksX1_isMirrored_2 0 rfl rfl)
theorem dX1_isMirrored_48 : decode cX1_isMirrored 48 = .ok (.dstore 8, 2) := dk_57 8 (dk_at dksX1_isMirrored_2 3 rfl rfl)
theorem dX1_isMirrored_50 : decode cX1_isMirrored 50 = .ok (.iload_n 3, 1) := dk_29 (dk_at dksX1_isMirrored_2 5 rfl rfl)
theorem dX1_isMirrored_51 : decode cX1_isMirrored 51 = .ok (.ifCond .ne 12, 3) := dk_154 0 12 (dk_at dksX1_isMirrored_2 6 rfl rfl)
theorem dX1_isMirrored_54 : decode cX1_isMirrored 54 = .ok (.iload_n 2, 1) := dk_28 (dk_at dksX1_isMirrored_2 9 rfl rfl)
theorem dX1_isMirrored_55 : decode cX1_isMirrored 55 = .ok (.dload 6, 2) := dk_24 6 (dk_at dksX1_isMirrored_2 10 rfl rfl)
theorem dX1_isMirrored_57 : decode cX1_isMirrored 57 = .ok (.dload 8, 2) := dk_24 8 (dk_at dksX1_isMirrored_2 12 rfl rfl)
theorem dX1_isMirrored_59 : decode cX1_isMirrored 59 = .ok (.invokestatic 270, 3) := dk_184 1 14 (dk_at dksX1_isMirrored_2 14 rfl rfl)
theorem dX1_isMirrored_62 : decode cX1_isMirrored 62 = .ok (.ireturn, 1) := dk_172 (dk_at dksX1_isMirrored_2 17 rfl rfl)
theorem dX1_isMirrored_63 : decode cX1_isMirrored 63 = .ok (.iload_n 2, 1) := dk_28 (dk_at dksX1_isMirrored_2 18 rfl rfl)
theorem dX1_isMirrored_64 : decode cX1_isMirrored 64 = .ok (.iconst 1, 1) := dk_4 (dk_at dksX1_isMirrored_2 19 rfl rfl)
theorem dX1_isMirrored_65 : decode cX1_isMirrored 65 = .ok (.if_icmp .ne 8, 3) := dk_160 0 8 (dk_at dksX1_isMirrored_2 20 rfl rfl)
theorem dX1_isMirrored_68 : decode cX1_isMirrored 68 = .ok (.dload 8, 2) := dk_24 8 (dk_at dksX1_isMirrored_3 0 rfl rfl)
theorem dX1_isMirrored_70 : decode cX1_isMirrored 70 = .ok (.goto 6, 3) := dk_167 0 6 (dk_at dksX1_isMirrored_3 2 rfl rfl)
theorem dX1_isMirrored_73 : decode cX1_isMirrored 73 = .ok (.dload 8, 2) := dk_24 8 (dk_at dksX1_isMirrored_3 5 rfl rfl)
theorem dX1_isMirrored_75 : decode cX1_isMirrored 75 = .ok (.dneg, 1) := dk_119 (dk_at dksX1_isMirrored_3 7 rfl rfl)
theorem dX1_isMirrored_76 : decode cX1_isMirrored 76 = .ok (.dstore 10, 2) := dk_57 10 (dk_at dksX1_isMirrored_3 8 rfl rfl)
theorem dX1_isMirrored_78 : decode cX1_isMirrored 78 = .ok (.iload_n 3, 1) := dk_29 (dk_at dksX1_isMirrored_3 10 rfl rfl)
theorem dX1_isMirrored_79 : decode cX1_isMirrored 79 = .ok (.iconst 1, 1) := dk_4 (dk_at dksX1_isMirrored_3 11 rfl rfl)
theorem dX1_isMirrored_80 : decode cX1_isMirrored 80 = .ok (.if_icmp .ne 22, 3) := dk_160 0 22 (dk_at dksX1_isMirrored_3 12 rfl rfl)
theorem dX1_isMirrored_83 : decode cX1_isMirrored 83 = .ok (.dload 6, 2) := dk_24 6 (dk_at dksX1_isMirrored_3 15 rfl rfl)
theorem dX1_isMirrored_85 : decode cX1_isMirrored 85 = .ok (.dload 10, 2) := dk_24 10 (dk_at dksX1_isMirrored_3 17 rfl rfl)
theorem dX1_isMirrored_87 : decode cX1_isMirrored 87 = .ok (.iconst 0, 1) := dk_3 (dk_at dksX1_isMirrored_3 19 rfl rfl)
theorem dX1_isMirrored_88 : decode cX1_isMirrored 88 = .ok (.invokestatic 211, 3) := dk_184 0 211 (dk_at dksX1_isMirrored_3 20 rfl rfl)
theorem dX1_isMirrored_91 : decode cX1_isMirrored 91 = .ok (.ifCond .ne 7, 3) := dk_154 0 7 (dk_at dksX1_isMirrored_4 0 rfl rfl)
theorem dX1_isMirrored_94 : decode cX1_isMirrored 94 = .ok (.iconst 1, 1) := dk_4 (dk_at dksX1_isMirrored_4 3 rfl rfl)
theorem dX1_isMirrored_95 : decode cX1_isMirrored 95 = .ok (.goto 21, 3) := dk_167 0 21 (dk_at dksX1_isMirrored_4 4 rfl rfl)
theorem dX1_isMirrored_98 : decode cX1_isMirrored 98 = .ok (.iconst 0, 1) := dk_3 (dk_at dksX1_isMirrored_4 7 rfl rfl)
theorem dX1_isMirrored_99 : decode cX1_isMirrored 99 = .ok (.goto 17, 3) := dk_167 0 17 (dk_at dksX1_isMirrored_4 8 rfl rfl)
theorem dX1_isMirrored_102 : decode cX1_isMirrored 102 = .ok (.dload 6, 2) := dk_24 6 (dk_at dksX1_isMirrored_4 11 rfl rfl)
theorem dX1_isMirrored_104 : decode cX1_isMirrored 104 = .ok (.invokestatic 223, 3) := dk_184 0 223 (dk_at dksX1_isMirrored_4 13 rfl rfl)
theorem dX1_isMirrored_107 : decode cX1_isMirrored 107 = .ok (.dload 10, 2) := dk_24 10 (dk_at dksX1_isMirrored_4 16 rfl rfl)
theorem dX1_isMirrored_109 : decode cX1_isMirrored 109 = .ok (.invokestatic 223, 3) := dk_184 0 223 (dk_at dksX1_isMirrored_4 18 rfl rfl)
theorem dX1_isMirrored_112 : decode cX1_isMirrored 112 = .ok (.iconst 0, 1) := dk_3 (dk_at dksX1_isMirrored_4 21 rfl rfl)
theorem dX1_isMirrored_113 : decode cX1_isMirrored 113 = .ok (.invokestatic 239, 3) := dk_184 0 239 (dk_at dksX1_isMirrored_5 0 rfl rfl)
theorem dX1_isMirrored_116 : decode cX1_isMirrored 116 = .ok (.ireturn, 1) := dk_172 (dk_at dksX1_isMirrored_5 3 rfl rfl)
abbrev cX1_order : ByteArray := prog_1_method_79_code
def yX1_order : MethodName := ⟨RX1, "order", "(III)I"⟩
def dkwX1_order_1 : List UInt8 := [24, 4, 184, 0, 249, 27, 24, 6, 184, 0, 249, 4, 184, 0, 211, 172]
abbrev dktX1_order_1 : List UInt8 := dkwX1_order_1 ++ []
def dkwX1_order_0 : List UInt8 := [42, 28, 182, 0, 166, 57, 4, 42, 29, 182, 0, 166, 57, 6, 27, 3, 5, 184, 0, 28, 184, 0, 154, 27]
abbrev dktX1_order_0 : List UInt8 := dkwX1_order_0 ++ dktX1_order_1
theorem dksX1_order_0 : cX1_order.data.toList.drop 0 = dktX1_order_0 := by decide +kernel
theorem dksX1_order_1 : cX1_order.data.toList.drop 24 = dktX1_order_1 := dk_seg dksX1_order_0 24 rfl rfl
theorem dX1_order_0 : decode cX1_order 0 = .ok (.aload_n 0, 1) := dk_42 (dk_at dksX1_order_0 0 rfl rfl)
theorem dX1_order_1 : decode cX1_order 1 = .ok (.iload_n 2, 1) := dk_28 (dk_at dksX1_order_0 1 rfl rfl)
theorem dX1_order_2 : decode cX1_order 2 = .ok (.invokevirtual 166, 3) := dk_182 0 166 (dk_at dksX1_order_0 2 rfl rfl)
theorem dX1_order_5 : decode cX1_order 5 = .ok (.dstore 4, 2) := dk_57 4 (dk_at dksX1_order_0 5 rfl rfl)
theorem dX1_order_7 : decode cX1_order 7 = .ok (.aload_n 0, 1) := dk_42 (dk_at dksX1_order_0 7 rfl rfl)
theorem dX1_order_8 : decode cX1_order 8 = .ok (.iload_n 3, 1) := dk_29 (dk_at dksX1_order_0 8 rfl rfl)
theorem dX1_order_9 : decode cX1_order 9 = .ok (.invokevirtual 166, 3) := dk_182 0 166 (dk_at dksX1_order_0 9 rfl rfl)
theorem dX1_order_12 : decode cX1_order 12 = .ok (.dstore 6, 2) := dk_57 6 (dk_at dksX1_order_0 12 rfl rfl)
theorem dX1_order_14 : decode cX1_order 14 = .ok (.iload_n 1, 1) := dk_27 (dk_at dksX1_order_0 14 rfl rfl)
theorem dX1_order_15 : decode cX1_order 15 = .ok (.iconst 0, 1) := dk_3 (dk_at dksX1_order_0 15 rfl rfl)
theorem dX1_order_16 : decode cX1_order 16 = .ok (.iconst 2, 1) := dk_5 (dk_at dksX1_order_0 16 rfl rfl)
theorem dX1_order_17 : decode cX1_order 17 = .ok (.invokestatic 28, 3) := dk_184 0 28 (dk_at dksX1_order_0 17 rfl rfl)
theorem dX1_order_20 : decode cX1_order 20 = .ok (.invokestatic 154, 3) := dk_184 0 154 (dk_at dksX1_order_0 20 rfl rfl)
theorem dX1_order_23 : decode cX1_order 23 = .ok (.iload_n 1, 1) := dk_27 (dk_at dksX1_order_0 23 rfl rfl)
theorem dX1_order_24 : decode cX1_order 24 = .ok (.dload 4, 2) := dk_24 4 (dk_at dksX1_order_1 0 rfl rfl)
theorem dX1_order_26 : decode cX1_order 26 = .ok (.invokestatic 249, 3) := dk_184 0 249 (dk_at dksX1_order_1 2 rfl rfl)
theorem dX1_order_29 : decode cX1_order 29 = .ok (.iload_n 1, 1) := dk_27 (dk_at dksX1_order_1 5 rfl rfl)
theorem dX1_order_30 : decode cX1_order 30 = .ok (.dload 6, 2) := dk_24 6 (dk_at dksX1_order_1 6 rfl rfl)
theorem dX1_order_32 : decode cX1_order 32 = .ok (.invokestatic 249, 3) := dk_184 0 249 (dk_at dksX1_order_1 8 rfl rfl)
theorem dX1_order_35 : decode cX1_order 35 = .ok (.iconst 1, 1) := dk_4 (dk_at dksX1_order_1 11 rfl rfl)
theorem dX1_order_36 : decode cX1_order 36 = .ok (.invokestatic 211, 3) := dk_184 0 211 (dk_at dksX1_order_1 12 rfl rfl)
theorem dX1_order_39 : decode cX1_order 39 = .ok (.ireturn, 1) := dk_172 (dk_at dksX1_order_1 15 rfl rfl)
abbrev cX1_isWithin : ByteArray := prog_1_method_68_code
def yX1_isWithin : MethodName := ⟨RX1, "isWithin", "(II)Z"⟩
def dkwX1_isWithin_1 : List UInt8 := [160, 0, 13, 41, 14, 151, 154, 0, 7, 4, 167, 0, 4, 3, 184, 1, 18, 172]
abbrev dktX1_isWithin_1 : List UInt8 := dkwX1_isWithin_1 ++ []
def dkwX1_isWithin_0 : List UInt8 := [42, 27, 182, 0, 166, 74, 28, 3, 4, 184, 0, 28, 184, 0, 154, 28, 41, 184, 0, 249, 28, 4]
abbrev dktX1_isWithin_0 : List UInt8 := dkwX1_isWithin_0 ++ dktX1_isWithin_1
theorem dksX1_isWithin_0 : cX1_isWithin.data.toList.drop 0 = dktX1_isWithin_0 := by decide +kernel
theorem dksX1_isWithin_1 : cX1_isWithin.data.toList.drop 22 = dktX1_isWithin_1 := dk_seg dksX1_isWithin_0 22 rfl rfl
theorem dX1_isWithin_0 : decode cX1_isWithin 0 = .ok (.aload_n 0, 1) := dk_42 (dk_at dksX1_isWithin_0 0 rfl rfl)
theorem dX1_isWithin_1 : decode cX1_isWithin 1 = .ok (.iload_n 1, 1) := dk_27 (dk_at dksX1_isWithin_0 1 rfl rfl)
theorem dX1_isWithin_2 : decode cX1_isWithin 2 = .ok (.invokevirtual 166, 3) := dk_182 0 166 (dk_at dksX1_isWithin_0 2 rfl rfl)
theorem dX1_isWithin_5 : decode cX1_isWithin 5 = .ok (.dstore_n 3, 1) := dk_74 (dk_at dksX1_isWithin_0 5 rfl rfl)
theorem dX1_isWithin_6 : decode cX1_isWithin 6 = .ok (.iload_n 2, 1) := dk_28 (dk_at dksX1_isWithin_0 6 rfl rfl)
theorem dX1_isWithin_7 : decode cX1_isWithin 7 = .ok (.iconst 0, 1) := dk_3 (dk_at dksX1_isWithin_0 7 rfl rfl)
theorem dX1_isWithin_8 : decode cX1_isWithin 8 = .ok (.iconst 1, 1) := dk_4 (dk_at dksX1_isWithin_0 8 rfl rfl)
theorem dX1_isWithin_9 : decode cX1_isWithin 9 = .ok (.invokestatic 28, 3) := dk_184 0 28 (dk_at dksX1_isWithin_0 9 rfl rfl)
theorem dX1_isWithin_12 : decode cX1_isWithin 12 = .ok (.invokestatic 154, 3) := dk_184 0 154 (dk_at dksX1_isWithin_0 12 rfl rfl)
theorem dX1_isWithin_15 : decode cX1_isWithin 15 = .ok (.iload_n 2, 1) := dk_28 (dk_at dksX1_isWithin_0 15 rfl rfl)
theorem dX1_isWithin_16 : decode cX1_isWithin 16 = .ok (.dload_n 3, 1) := dk_41 (dk_at dksX1_isWithin_0 16 rfl rfl)
theorem dX1_isWithin_17 : decode cX1_isWithin 17 = .ok (.invokestatic 249, 3) := dk_184 0 249 (dk_at dksX1_isWithin_0 17 rfl rfl)
theorem dX1_isWithin_20 : decode cX1_isWithin 20 = .ok (.iload_n 2, 1) := dk_28 (dk_at dksX1_isWithin_0 20 rfl rfl)
theorem dX1_isWithin_21 : decode cX1_isWithin 21 = .ok (.iconst 1, 1) := dk_4 (dk_at dksX1_isWithin_0 21 rfl rfl)
theorem dX1_isWithin_22 : decode cX1_isWithin 22 = .ok (.if_icmp .ne 13, 3) := dk_160 0 13 (dk_at dksX1_isWithin_1 0 rfl rfl)
theorem dX1_isWithin_25 : decode cX1_isWithin 25 = .ok (.dload_n 3, 1) := dk_41 (dk_at dksX1_isWithin_1 3 rfl rfl)
theorem dX1_isWithin_26 : decode cX1_isWithin 26 = .ok (.dconst 0, 1) := dk_14 (dk_at dksX1_isWithin_1 4 rfl rfl)
theorem dX1_isWithin_27 : decode cX1_isWithin 27 = .ok (.dcmp .l, 1) := dk_151 (dk_at dksX1_isWithin_1 5 rfl rfl)
theorem dX1_isWithin_28 : decode cX1_isWithin 28 = .ok (.ifCond .ne 7, 3) := dk_154 0 7 (dk_at dksX1_isWithin_1 6 rfl rfl)
theorem dX1_isWithin_31 : decode cX1_isWithin 31 = .ok (.iconst 1, 1) := dk_4 (dk_at dksX1_isWithin_1 9 rfl rfl)
theorem dX1_isWithin_32 : decode cX1_isWithin 32 = .ok (.goto 4, 3) := dk_167 0 4 (dk_at dksX1_isWithin_1 10 rfl rfl)
theorem dX1_isWithin_35 : decode cX1_isWithin 35 = .ok (.iconst 0, 1) := dk_3 (dk_at dksX1_isWithin_1 13 rfl rfl)
theorem dX1_isWithin_36 : decode cX1_isWithin 36 = .ok (.invokestatic 274, 3) := dk_184 1 18 (dk_at dksX1_isWithin_1 14 rfl rfl)
theorem dX1_isWithin_39 : decode cX1_isWithin 39 = .ok (.ireturn, 1) := dk_172 (dk_at dksX1_isWithin_1 17 rfl rfl)
abbrev cX1_isRound : ByteArray := prog_1_method_70_code
def yX1_isRound : MethodName := ⟨RX1, "isRound", "(I)Z"⟩
def dkwX1_isRound_0 : List UInt8 := [42, 27, 182, 0, 166, 73, 40, 184, 0, 117, 40, 184, 0, 122, 184, 1, 24, 172]
abbrev dktX1_isRound_0 : List UInt8 := dkwX1_isRound_0 ++ []
theorem dksX1_isRound_0 : cX1_isRound.data.toList.drop 0 = dktX1_isRound_0 := by decide +kernel
theorem dX1_isRound_0 : decode cX1_isRound 0 = .ok (.aload_n 0, 1) := dk_42 (dk_at dksX1_isRound_0 0 rfl rfl)
theorem dX1_isRound_1 : decode cX1_isRound 1 = .ok (.iload_n 1, 1) := dk_27 (dk_at dksX1_isRound_0 1 rfl rfl)
theorem dX1_isRound_2 : decode cX1_isRound 2 = .ok (.invokevirtual 166, 3) := dk_182 0 166 (dk_at dksX1_isRound_0 2 rfl rfl)
theorem dX1_isRound_5 : decode cX1_isRound 5 = .ok (.dstore_n 2, 1) := dk_73 (dk_at dksX1_isRound_0 5 rfl rfl)
theorem dX1_isRound_6 : decode cX1_isRound 6 = .ok (.dload_n 2, 1) := dk_40 (dk_at dksX1_isRound_0 6 rfl rfl)
theorem dX1_isRound_7 : decode cX1_isRound 7 = .ok (.invokestatic 117, 3) := dk_184 0 117 (dk_at dksX1_isRound_0 7 rfl rfl)
theorem dX1_isRound_10 : decode cX1_isRound 10 = .ok (.dload_n 2, 1) := dk_40 (dk_at dksX1_isRound_0 10 rfl rfl)
theorem dX1_isRound_11 : decode cX1_isRound 11 = .ok (.invokestatic 122, 3) := dk_184 0 122 (dk_at dksX1_isRound_0 11 rfl rfl)
theorem dX1_isRound_14 : decode cX1_isRound 14 = .ok (.invokestatic 280, 3) := dk_184 1 24 (dk_at dksX1_isRound_0 14 rfl rfl)
theorem dX1_isRound_17 : decode cX1_isRound 17 = .ok (.ireturn, 1) := dk_172 (dk_at dksX1_isRound_0 17 rfl rfl)
abbrev cX1_isSlope : ByteArray := prog_1_method_72_code
def yX1_isSlope : MethodName := ⟨RX1, "isSlope", "(I)Z"⟩
def dkwX1_isSlope_0 : List UInt8 := [42, 27, 182, 0, 166, 73, 40, 184, 0, 117, 40, 184, 0, 122, 40, 184, 0, 125, 184, 1, 38, 172]
abbrev dktX1_isSlope_0 : List UInt8 := dkwX1_isSlope_0 ++ []
theorem dksX1_isSlope_0 : cX1_isSlope.data.toList.drop 0 = dktX1_isSlope_0 := by decide +kernel
theorem dX1_isSlope_0 : decode cX1_isSlope 0 = .ok (.aload_n 0, 1) := dk_42 (dk_at dksX1_isSlope_0 0 rfl rfl)
theorem dX1_isSlope_1 : decode cX1_isSlope 1 = .ok (.iload_n 1, 1) := dk_27 (dk_at dksX1_isSlope_0 1 rfl rfl)
theorem dX1_isSlope_2 : decode cX1_isSlope 2 = .ok (.invokevirtual 166, 3) := dk_182 0 166 (dk_at dksX1_isSlope_0 2 rfl rfl)
theorem dX1_isSlope_5 : decode cX1_isSlope 5 = .ok (.dstore_n 2, 1) := dk_73 (dk_at dksX1_isSlope_0 5 rfl rfl)
theorem dX1_isSlope_6 : decode cX1_isSlope 6 = .ok (.dload_n 2, 1) := dk_40 (dk_at dksX1_isSlope_0 6 rfl rfl)
theorem dX1_isSlope_7 : decode cX1_isSlope 7 = .ok (.invokestatic 117, 3) := dk_184 0 117 (dk_at dksX1_isSlope_0 7 rfl rfl)
theorem dX1_isSlope_10 : decode cX1_isSlope 10 = .ok (.dload_n 2, 1) := dk_40 (dk_at dksX1_isSlope_0 10 rfl rfl)
theorem dX1_isSlope_11 : decode cX1_isSlope 11 = .ok (.invokestatic 122, 3) := dk_184 0 122 (dk_at dksX1_isSlope_0 11 rfl rfl)
theorem dX1_isSlope_14 : decode cX1_isSlope 14 = .ok (.dload_n 2, 1) := dk_40 (dk_at dksX1_isSlope_0 14 rfl rfl)
theorem dX1_isSlope_15 : decode cX1_isSlope 15 = .ok (.invokestatic 125, 3) := dk_184 0 125 (dk_at dksX1_isSlope_0 15 rfl rfl)
theorem dX1_isSlope_18 : decode cX1_isSlope 18 = .ok (.invokestatic 294, 3) := dk_184 1 38 (dk_at dksX1_isSlope_0 18 rfl rfl)
theorem dX1_isSlope_21 : decode cX1_isSlope 21 = .ok (.ireturn, 1) := dk_172 (dk_at dksX1_isSlope_0 21 rfl rfl)
abbrev cX1_holdsTwice : ByteArray := prog_1_method_74_code
def yX1_holdsTwice : MethodName := ⟨RX1, "holdsTwice", "(II)I"⟩
def dkwX1_holdsTwice_2 : List UInt8 := [184, 0, 57, 172]
abbrev dktX1_holdsTwice_2 : List UInt8 := dkwX1_holdsTwice_2 ++ []
def dkwX1_holdsTwice_1 : List UInt8 := [154, 0, 6, 16, 247, 172, 28, 20, 0, 172, 41, 107, 41, 184, 0, 117, 41, 184, 0, 122, 184, 1, 46]
abbrev dktX1_holdsTwice_1 : List UInt8 := dkwX1_holdsTwice_1 ++ dktX1_holdsTwice_2
def dkwX1_holdsTwice_0 : List UInt8 := [42, 27, 182, 0, 166, 74, 28, 3, 4, 184, 0, 28, 184, 0, 154, 20, 0, 172, 41, 107, 184, 0, 174]
abbrev dktX1_holdsTwice_0 : List UInt8 := dkwX1_holdsTwice_0 ++ dktX1_holdsTwice_1
theorem dksX1_holdsTwice_0 : cX1_holdsTwice.data.toList.drop 0 = dktX1_holdsTwice_0 := by decide +kernel
theorem dksX1_holdsTwice_1 : cX1_holdsTwice.data.toList.drop 23 = dktX1_holdsTwice_1 := dk_seg dksX1_holdsTwice_0 23 rfl rfl
theorem dksX1_holdsTwice_2 : cX1_holdsTwice.data.toList.drop 46 = dktX1_holdsTwice_2 := dk_seg dksX1_holdsTwice_1 23 rfl rfl
theorem dX1_holdsTwice_0 : decode cX1_holdsTwice 0 = .ok (.aload_n 0, 1) := dk_42 (dk_at dksX1_holdsTwice_0 0 rfl rfl)
theorem dX1_holdsTwice_1 : decode cX1_holdsTwice 1 = .ok (.iload_n 1, 1) := dk_27 (dk_at dksX1_holdsTwice_0 1 rfl rfl)
theorem dX1_holdsTwice_2 : decode cX1_holdsTwice 2 = .ok (.invokevirtual 166, 3) := dk_182 0 166 (dk_at dksX1_holdsTwice_0 2 rfl rfl)
theorem dX1_holdsTwice_5 : decode cX1_holdsTwice 5 = .ok (.dstore_n 3, 1) := dk_74 (dk_at dksX1_holdsTwice_0 5 rfl rfl)
theorem dX1_holdsTwice_6 : decode cX1_holdsTwice 6 = .ok (.iload_n 2, 1) := dk_28 (dk_at dksX1_holdsTwice_0 6 rfl rfl)
theorem dX1_holdsTwice_7 : decode cX1_holdsTwice 7 = .ok (.iconst 0, 1) := dk_3 (dk_at dksX1_holdsTwice_0 7 rfl rfl)
theorem dX1_holdsTwice_8 : decode cX1_holdsTwice 8 = .ok (.iconst 1, 1) := dk_4 (dk_at dksX1_holdsTwice_0 8 rfl rfl)
theorem dX1_holdsTwice_9 : decode cX1_holdsTwice 9 = .ok (.invokestatic 28, 3) := dk_184 0 28 (dk_at dksX1_holdsTwice_0 9 rfl rfl)
theorem dX1_holdsTwice_12 : decode cX1_holdsTwice 12 = .ok (.invokestatic 154, 3) := dk_184 0 154 (dk_at dksX1_holdsTwice_0 12 rfl rfl)
theorem dX1_holdsTwice_15 : decode cX1_holdsTwice 15 = .ok (.ldc2_w 172, 3) := dk_20 0 172 (dk_at dksX1_holdsTwice_0 15 rfl rfl)
theorem dX1_holdsTwice_18 : decode cX1_holdsTwice 18 = .ok (.dload_n 3, 1) := dk_41 (dk_at dksX1_holdsTwice_0 18 rfl rfl)
theorem dX1_holdsTwice_19 : decode cX1_holdsTwice 19 = .ok (.dmul, 1) := dk_107 (dk_at dksX1_holdsTwice_0 19 rfl rfl)
theorem dX1_holdsTwice_20 : decode cX1_holdsTwice 20 = .ok (.invokestatic 174, 3) := dk_184 0 174 (dk_at dksX1_holdsTwice_0 20 rfl rfl)
theorem dX1_holdsTwice_23 : decode cX1_holdsTwice 23 = .ok (.ifCond .ne 6, 3) := dk_154 0 6 (dk_at dksX1_holdsTwice_1 0 rfl rfl)
theorem dX1_holdsTwice_26 : decode cX1_holdsTwice 26 = .ok (.bipush (-9), 2) := dk_16 247 (dk_at dksX1_holdsTwice_1 3 rfl rfl)
theorem dX1_holdsTwice_28 : decode cX1_holdsTwice 28 = .ok (.ireturn, 1) := dk_172 (dk_at dksX1_holdsTwice_1 5 rfl rfl)
theorem dX1_holdsTwice_29 : decode cX1_holdsTwice 29 = .ok (.iload_n 2, 1) := dk_28 (dk_at dksX1_holdsTwice_1 6 rfl rfl)
theorem dX1_holdsTwice_30 : decode cX1_holdsTwice 30 = .ok (.ldc2_w 172, 3) := dk_20 0 172 (dk_at dksX1_holdsTwice_1 7 rfl rfl)
theorem dX1_holdsTwice_33 : decode cX1_holdsTwice 33 = .ok (.dload_n 3, 1) := dk_41 (dk_at dksX1_holdsTwice_1 10 rfl rfl)
theorem dX1_holdsTwice_34 : decode cX1_holdsTwice 34 = .ok (.dmul, 1) := dk_107 (dk_at dksX1_holdsTwice_1 11 rfl rfl)
theorem dX1_holdsTwice_35 : decode cX1_holdsTwice 35 = .ok (.dload_n 3, 1) := dk_41 (dk_at dksX1_holdsTwice_1 12 rfl rfl)
theorem dX1_holdsTwice_36 : decode cX1_holdsTwice 36 = .ok (.invokestatic 117, 3) := dk_184 0 117 (dk_at dksX1_holdsTwice_1 13 rfl rfl)
theorem dX1_holdsTwice_39 : decode cX1_holdsTwice 39 = .ok (.dload_n 3, 1) := dk_41 (dk_at dksX1_holdsTwice_1 16 rfl rfl)
theorem dX1_holdsTwice_40 : decode cX1_holdsTwice 40 = .ok (.invokestatic 122, 3) := dk_184 0 122 (dk_at dksX1_holdsTwice_1 17 rfl rfl)
theorem dX1_holdsTwice_43 : decode cX1_holdsTwice 43 = .ok (.invokestatic 302, 3) := dk_184 1 46 (dk_at dksX1_holdsTwice_1 20 rfl rfl)
theorem dX1_holdsTwice_46 : decode cX1_holdsTwice 46 = .ok (.invokestatic 57, 3) := dk_184 0 57 (dk_at dksX1_holdsTwice_2 0 rfl rfl)
theorem dX1_holdsTwice_49 : decode cX1_holdsTwice 49 = .ok (.ireturn, 1) := dk_172 (dk_at dksX1_holdsTwice_2 3 rfl rfl)
abbrev cX1_holdsStep : ByteArray := prog_1_method_76_code
def yX1_holdsStep : MethodName := ⟨RX1, "holdsStep", "(II)I"⟩
def dkwX1_holdsStep_1 : List UInt8 := [172, 28, 41, 20, 0, 141, 99, 41, 184, 0, 117, 41, 184, 0, 122, 184, 1, 53, 184, 0, 57, 172]
abbrev dktX1_holdsStep_1 : List UInt8 := dkwX1_holdsStep_1 ++ []
def dkwX1_holdsStep_0 : List UInt8 := [42, 27, 182, 0, 166, 74, 28, 3, 4, 184, 0, 28, 184, 0, 154, 41, 184, 1, 50, 154, 0, 6, 16, 247]
abbrev dktX1_holdsStep_0 : List UInt8 := dkwX1_holdsStep_0 ++ dktX1_holdsStep_1
theorem dksX1_holdsStep_0 : cX1_holdsStep.data.toList.drop 0 = dktX1_holdsStep_0 := by decide +kernel
theorem dksX1_holdsStep_1 : cX1_holdsStep.data.toList.drop 24 = dktX1_holdsStep_1 := dk_seg dksX1_holdsStep_0 24 rfl rfl
theorem dX1_holdsStep_0 : decode cX1_holdsStep 0 = .ok (.aload_n 0, 1) := dk_42 (dk_at dksX1_holdsStep_0 0 rfl rfl)
theorem dX1_holdsStep_1 : decode cX1_holdsStep 1 = .ok (.iload_n 1, 1) := dk_27 (dk_at dksX1_holdsStep_0 1 rfl rfl)
theorem dX1_holdsStep_2 : decode cX1_holdsStep 2 = .ok (.invokevirtual 166, 3) := dk_182 0 166 (dk_at dksX1_holdsStep_0 2 rfl rfl)
theorem dX1_holdsStep_5 : decode cX1_holdsStep 5 = .ok (.dstore_n 3, 1) := dk_74 (dk_at dksX1_holdsStep_0 5 rfl rfl)
theorem dX1_holdsStep_6 : decode cX1_holdsStep 6 = .ok (.iload_n 2, 1) := dk_28 (dk_at dksX1_holdsStep_0 6 rfl rfl)
theorem dX1_holdsStep_7 : decode cX1_holdsStep 7 = .ok (.iconst 0, 1) := dk_3 (dk_at dksX1_holdsStep_0 7 rfl rfl)
theorem dX1_holdsStep_8 : decode cX1_holdsStep 8 = .ok (.iconst 1, 1) := dk_4 (dk_at dksX1_holdsStep_0 8 rfl rfl)
theorem dX1_holdsStep_9 : decode cX1_holdsStep 9 = .ok (.invokestatic 28, 3) := dk_184 0 28 (dk_at dksX1_holdsStep_0 9 rfl rfl)
theorem dX1_holdsStep_12 : decode cX1_holdsStep 12 = .ok (.invokestatic 154, 3) := dk_184 0 154 (dk_at dksX1_holdsStep_0 12 rfl rfl)
theorem dX1_holdsStep_15 : decode cX1_holdsStep 15 = .ok (.dload_n 3, 1) := dk_41 (dk_at dksX1_holdsStep_0 15 rfl rfl)
theorem dX1_holdsStep_16 : decode cX1_holdsStep 16 = .ok (.invokestatic 306, 3) := dk_184 1 50 (dk_at dksX1_holdsStep_0 16 rfl rfl)
theorem dX1_holdsStep_19 : decode cX1_holdsStep 19 = .ok (.ifCond .ne 6, 3) := dk_154 0 6 (dk_at dksX1_holdsStep_0 19 rfl rfl)
theorem dX1_holdsStep_22 : decode cX1_holdsStep 22 = .ok (.bipush (-9), 2) := dk_16 247 (dk_at dksX1_holdsStep_0 22 rfl rfl)
theorem dX1_holdsStep_24 : decode cX1_holdsStep 24 = .ok (.ireturn, 1) := dk_172 (dk_at dksX1_holdsStep_1 0 rfl rfl)
theorem dX1_holdsStep_25 : decode cX1_holdsStep 25 = .ok (.iload_n 2, 1) := dk_28 (dk_at dksX1_holdsStep_1 1 rfl rfl)
theorem dX1_holdsStep_26 : decode cX1_holdsStep 26 = .ok (.dload_n 3, 1) := dk_41 (dk_at dksX1_holdsStep_1 2 rfl rfl)
theorem dX1_holdsStep_27 : decode cX1_holdsStep 27 = .ok (.ldc2_w 141, 3) := dk_20 0 141 (dk_at dksX1_holdsStep_1 3 rfl rfl)
theorem dX1_holdsStep_30 : decode cX1_holdsStep 30 = .ok (.dadd, 1) := dk_99 (dk_at dksX1_holdsStep_1 6 rfl rfl)
theorem dX1_holdsStep_31 : decode cX1_holdsStep 31 = .ok (.dload_n 3, 1) := dk_41 (dk_at dksX1_holdsStep_1 7 rfl rfl)
theorem dX1_holdsStep_32 : decode cX1_holdsStep 32 = .ok (.invokestatic 117, 3) := dk_184 0 117 (dk_at dksX1_holdsStep_1 8 rfl rfl)
theorem dX1_holdsStep_35 : decode cX1_holdsStep 35 = .ok (.dload_n 3, 1) := dk_41 (dk_at dksX1_holdsStep_1 11 rfl rfl)
theorem dX1_holdsStep_36 : decode cX1_holdsStep 36 = .ok (.invokestatic 122, 3) := dk_184 0 122 (dk_at dksX1_holdsStep_1 12 rfl rfl)
theorem dX1_holdsStep_39 : decode cX1_holdsStep 39 = .ok (.invokestatic 309, 3) := dk_184 1 53 (dk_at dksX1_holdsStep_1 15 rfl rfl)
theorem dX1_holdsStep_42 : decode cX1_holdsStep 42 = .ok (.invokestatic 57, 3) := dk_184 0 57 (dk_at dksX1_holdsStep_1 18 rfl rfl)
theorem dX1_holdsStep_45 : decode cX1_holdsStep 45 = .ok (.ireturn, 1) := dk_172 (dk_at dksX1_holdsStep_1 21 rfl rfl)
abbrev cX1_angleSort : ByteArray := prog_1_method_32_code
def yX1_angleSort : MethodName := ⟨RX1, "angleSort", "()I"⟩
def dkwX1_angleSort_3 : List UInt8 := [180, 0, 13, 21, 4, 49, 3, 184, 0, 185, 51, 84, 132, 4, 1, 167, 255, 225, 29, 172]
abbrev dktX1_angleSort_3 : List UInt8 := dkwX1_angleSort_3 ++ []
def dkwX1_angleSort_2 : List UInt8 := [43, 184, 0, 181, 62, 3, 54, 4, 21, 4, 16, 8, 162, 0, 30, 42, 180, 0, 20, 21, 4, 44, 43, 42]
abbrev dktX1_angleSort_2 : List UInt8 := dkwX1_angleSort_2 ++ dktX1_angleSort_3
def dkwX1_angleSort_1 : List UInt8 := [16, 8, 162, 0, 18, 44, 29, 42, 180, 0, 20, 29, 51, 84, 132, 3, 1, 167, 255, 238, 42, 180, 0, 13]
abbrev dktX1_angleSort_1 : List UInt8 := dkwX1_angleSort_1 ++ dktX1_angleSort_2
def dkwX1_angleSort_0 : List UInt8 := [42, 89, 180, 0, 132, 4, 96, 181, 0, 132, 16, 8, 188, 7, 76, 16, 8, 188, 4, 77, 3, 62, 29]
abbrev dktX1_angleSort_0 : List UInt8 := dkwX1_angleSort_0 ++ dktX1_angleSort_1
theorem dksX1_angleSort_0 : cX1_angleSort.data.toList.drop 0 = dktX1_angleSort_0 := by decide +kernel
theorem dksX1_angleSort_1 : cX1_angleSort.data.toList.drop 23 = dktX1_angleSort_1 := dk_seg dksX1_angleSort_0 23 rfl rfl
theorem dksX1_angleSort_2 : cX1_angleSort.data.toList.drop 47 = dktX1_angleSort_2 := dk_seg dksX1_angleSort_1 24 rfl rfl
theorem dksX1_angleSort_3 : cX1_angleSort.data.toList.drop 71 = dktX1_angleSort_3 := dk_seg dksX1_angleSort_2 24 rfl rfl
theorem dX1_angleSort_0 : decode cX1_angleSort 0 = .ok (.aload_n 0, 1) := dk_42 (dk_at dksX1_angleSort_0 0 rfl rfl)
theorem dX1_angleSort_1 : decode cX1_angleSort 1 = .ok (.dup, 1) := dk_89 (dk_at dksX1_angleSort_0 1 rfl rfl)
theorem dX1_angleSort_2 : decode cX1_angleSort 2 = .ok (.getfield 132, 3) := dk_180 0 132 (dk_at dksX1_angleSort_0 2 rfl rfl)
theorem dX1_angleSort_5 : decode cX1_angleSort 5 = .ok (.iconst 1, 1) := dk_4 (dk_at dksX1_angleSort_0 5 rfl rfl)
theorem dX1_angleSort_6 : decode cX1_angleSort 6 = .ok (.iadd, 1) := dk_96 (dk_at dksX1_angleSort_0 6 rfl rfl)
theorem dX1_angleSort_7 : decode cX1_angleSort 7 = .ok (.putfield 132, 3) := dk_181 0 132 (dk_at dksX1_angleSort_0 7 rfl rfl)
theorem dX1_angleSort_10 : decode cX1_angleSort 10 = .ok (.bipush 8, 2) := dk_16 8 (dk_at dksX1_angleSort_0 10 rfl rfl)
theorem dX1_angleSort_12 : decode cX1_angleSort 12 = .ok (.newarray .double, 2) := dk_188_7 (dk_at dksX1_angleSort_0 12 rfl rfl)
theorem dX1_angleSort_14 : decode cX1_angleSort 14 = .ok (.astore_n 1, 1) := dk_76 (dk_at dksX1_angleSort_0 14 rfl rfl)
theorem dX1_angleSort_15 : decode cX1_angleSort 15 = .ok (.bipush 8, 2) := dk_16 8 (dk_at dksX1_angleSort_0 15 rfl rfl)
theorem dX1_angleSort_17 : decode cX1_angleSort 17 = .ok (.newarray .boolean, 2) := dk_188_4 (dk_at dksX1_angleSort_0 17 rfl rfl)
theorem dX1_angleSort_19 : decode cX1_angleSort 19 = .ok (.astore_n 2, 1) := dk_77 (dk_at dksX1_angleSort_0 19 rfl rfl)
theorem dX1_angleSort_20 : decode cX1_angleSort 20 = .ok (.iconst 0, 1) := dk_3 (dk_at dksX1_angleSort_0 20 rfl rfl)
theorem dX1_angleSort_21 : decode cX1_angleSort 21 = .ok (.istore_n 3, 1) := dk_62 (dk_at dksX1_angleSort_0 21 rfl rfl)
theorem dX1_angleSort_22 : decode cX1_angleSort 22 = .ok (.iload_n 3, 1) := dk_29 (dk_at dksX1_angleSort_0 22 rfl rfl)
theorem dX1_angleSort_23 : decode cX1_angleSort 23 = .ok (.bipush 8, 2) := dk_16 8 (dk_at dksX1_angleSort_1 0 rfl rfl)
theorem dX1_angleSort_25 : decode cX1_angleSort 25 = .ok (.if_icmp .ge 18, 3) := dk_162 0 18 (dk_at dksX1_angleSort_1 2 rfl rfl)
theorem dX1_angleSort_28 : decode cX1_angleSort 28 = .ok (.aload_n 2, 1) := dk_44 (dk_at dksX1_angleSort_1 5 rfl rfl)
theorem dX1_angleSort_29 : decode cX1_angleSort 29 = .ok (.iload_n 3, 1) := dk_29 (dk_at dksX1_angleSort_1 6 rfl rfl)
theorem dX1_angleSort_30 : decode cX1_angleSort 30 = .ok (.aload_n 0, 1) := dk_42 (dk_at dksX1_angleSort_1 7 rfl rfl)
theorem dX1_angleSort_31 : decode cX1_angleSort 31 = .ok (.getfield 20, 3) := dk_180 0 20 (dk_at dksX1_angleSort_1 8 rfl rfl)
theorem dX1_angleSort_34 : decode cX1_angleSort 34 = .ok (.iload_n 3, 1) := dk_29 (dk_at dksX1_angleSort_1 11 rfl rfl)
theorem dX1_angleSort_35 : decode cX1_angleSort 35 = .ok (.baload, 1) := dk_51 (dk_at dksX1_angleSort_1 12 rfl rfl)
theorem dX1_angleSort_36 : decode cX1_angleSort 36 = .ok (.bastore, 1) := dk_84 (dk_at dksX1_angleSort_1 13 rfl rfl)
theorem dX1_angleSort_37 : decode cX1_angleSort 37 = .ok (.iinc 3 1, 3) := dk_132 3 1 (dk_at dksX1_angleSort_1 14 rfl rfl)
theorem dX1_angleSort_40 : decode cX1_angleSort 40 = .ok (.goto (-18), 3) := dk_167 255 238 (dk_at dksX1_angleSort_1 17 rfl rfl)
theorem dX1_angleSort_43 : decode cX1_angleSort 43 = .ok (.aload_n 0, 1) := dk_42 (dk_at dksX1_angleSort_1 20 rfl rfl)
theorem dX1_angleSort_44 : decode cX1_angleSort 44 = .ok (.getfield 13, 3) := dk_180 0 13 (dk_at dksX1_angleSort_1 21 rfl rfl)
theorem dX1_angleSort_47 : decode cX1_angleSort 47 = .ok (.aload_n 1, 1) := dk_43 (dk_at dksX1_angleSort_2 0 rfl rfl)
theorem dX1_angleSort_48 : decode cX1_angleSort 48 = .ok (.invokestatic 181, 3) := dk_184 0 181 (dk_at dksX1_angleSort_2 1 rfl rfl)
theorem dX1_angleSort_51 : decode cX1_angleSort 51 = .ok (.istore_n 3, 1) := dk_62 (dk_at dksX1_angleSort_2 4 rfl rfl)
theorem dX1_angleSort_52 : decode cX1_angleSort 52 = .ok (.iconst 0, 1) := dk_3 (dk_at dksX1_angleSort_2 5 rfl rfl)
theorem dX1_angleSort_53 : decode cX1_angleSort 53 = .ok (.istore 4, 2) := dk_54 4 (dk_at dksX1_angleSort_2 6 rfl rfl)
theorem dX1_angleSort_55 : decode cX1_angleSort 55 = .ok (.iload 4, 2) := dk_21 4 (dk_at dksX1_angleSort_2 8 rfl rfl)
theorem dX1_angleSort_57 : decode cX1_angleSort 57 = .ok (.bipush 8, 2) := dk_16 8 (dk_at dksX1_angleSort_2 10 rfl rfl)
theorem dX1_angleSort_59 : decode cX1_angleSort 59 = .ok (.if_icmp .ge 30, 3) := dk_162 0 30 (dk_at dksX1_angleSort_2 12 rfl rfl)
theorem dX1_angleSort_62 : decode cX1_angleSort 62 = .ok (.aload_n 0, 1) := dk_42 (dk_at dksX1_angleSort_2 15 rfl rfl)
theorem dX1_angleSort_63 : decode cX1_angleSort 63 = .ok (.getfield 20, 3) := dk_180 0 20 (dk_at dksX1_angleSort_2 16 rfl rfl)
theorem dX1_angleSort_66 : decode cX1_angleSort 66 = .ok (.iload 4, 2) := dk_21 4 (dk_at dksX1_angleSort_2 19 rfl rfl)
theorem dX1_angleSort_68 : decode cX1_angleSort 68 = .ok (.aload_n 2, 1) := dk_44 (dk_at dksX1_angleSort_2 21 rfl rfl)
theorem dX1_angleSort_69 : decode cX1_angleSort 69 = .ok (.aload_n 1, 1) := dk_43 (dk_at dksX1_angleSort_2 22 rfl rfl)
theorem dX1_angleSort_70 : decode cX1_angleSort 70 = .ok (.aload_n 0, 1) := dk_42 (dk_at dksX1_angleSort_2 23 rfl rfl)
theorem dX1_angleSort_71 : decode cX1_angleSort 71 = .ok (.getfield 13, 3) := dk_180 0 13 (dk_at dksX1_angleSort_3 0 rfl rfl)
theorem dX1_angleSort_74 : decode cX1_angleSort 74 = .ok (.iload 4, 2) := dk_21 4 (dk_at dksX1_angleSort_3 3 rfl rfl)
theorem dX1_angleSort_76 : decode cX1_angleSort 76 = .ok (.daload, 1) := dk_49 (dk_at dksX1_angleSort_3 5 rfl rfl)
theorem dX1_angleSort_77 : decode cX1_angleSort 77 = .ok (.iconst 0, 1) := dk_3 (dk_at dksX1_angleSort_3 6 rfl rfl)
theorem dX1_angleSort_78 : decode cX1_angleSort 78 = .ok (.invokestatic 185, 3) := dk_184 0 185 (dk_at dksX1_angleSort_3 7 rfl rfl)
theorem dX1_angleSort_81 : decode cX1_angleSort 81 = .ok (.baload, 1) := dk_51 (dk_at dksX1_angleSort_3 10 rfl rfl)
theorem dX1_angleSort_82 : decode cX1_angleSort 82 = .ok (.bastore, 1) := dk_84 (dk_at dksX1_angleSort_3 11 rfl rfl)
theorem dX1_angleSort_83 : decode cX1_angleSort 83 = .ok (.iinc 4 1, 3) := dk_132 4 1 (dk_at dksX1_angleSort_3 12 rfl rfl)
theorem dX1_angleSort_86 : decode cX1_angleSort 86 = .ok (.goto (-31), 3) := dk_167 255 225 (dk_at dksX1_angleSort_3 15 rfl rfl)
theorem dX1_angleSort_89 : decode cX1_angleSort 89 = .ok (.iload_n 3, 1) := dk_29 (dk_at dksX1_angleSort_3 18 rfl rfl)
theorem dX1_angleSort_90 : decode cX1_angleSort 90 = .ok (.ireturn, 1) := dk_172 (dk_at dksX1_angleSort_3 19 rfl rfl)
abbrev cX1_sort : ByteArray := prog_1_method_33_code
def yX1_sort : MethodName := ⟨RX1, "sort", "([D[D)I"⟩
def dkwX1_sort_2 : List UInt8 := [167, 0, 4, 3, 184, 0, 57, 96, 61, 132, 3, 1, 167, 255, 224, 28, 172]
abbrev dktX1_sort_2 : List UInt8 := dkwX1_sort_2 ++ []
def dkwX1_sort_1 : List UInt8 := [3, 61, 3, 62, 29, 16, 8, 162, 0, 32, 28, 43, 29, 49, 42, 29, 49, 184, 0, 135, 154, 0, 7, 4]
abbrev dktX1_sort_1 : List UInt8 := dkwX1_sort_1 ++ dktX1_sort_2
def dkwX1_sort_0 : List UInt8 := [3, 61, 28, 16, 8, 162, 0, 15, 43, 28, 42, 28, 49, 82, 132, 2, 1, 167, 255, 241, 42, 184, 0, 189]
abbrev dktX1_sort_0 : List UInt8 := dkwX1_sort_0 ++ dktX1_sort_1
theorem dksX1_sort_0 : cX1_sort.data.toList.drop 0 = dktX1_sort_0 := by decide +kernel
theorem dksX1_sort_1 : cX1_sort.data.toList.drop 24 = dktX1_sort_1 := dk_seg dksX1_sort_0 24 rfl rfl
theorem dksX1_sort_2 : cX1_sort.data.toList.drop 48 = dktX1_sort_2 := dk_seg dksX1_sort_1 24 rfl rfl
theorem dX1_sort_0 : decode cX1_sort 0 = .ok (.iconst 0, 1) := dk_3 (dk_at dksX1_sort_0 0 rfl rfl)
theorem dX1_sort_1 : decode cX1_sort 1 = .ok (.istore_n 2, 1) := dk_61 (dk_at dksX1_sort_0 1 rfl rfl)
theorem dX1_sort_2 : decode cX1_sort 2 = .ok (.iload_n 2, 1) := dk_28 (dk_at dksX1_sort_0 2 rfl rfl)
theorem dX1_sort_3 : decode cX1_sort 3 = .ok (.bipush 8, 2) := dk_16 8 (dk_at dksX1_sort_0 3 rfl rfl)
theorem dX1_sort_5 : decode cX1_sort 5 = .ok (.if_icmp .ge 15, 3) := dk_162 0 15 (dk_at dksX1_sort_0 5 rfl rfl)
theorem dX1_sort_8 : decode cX1_sort 8 = .ok (.aload_n 1, 1) := dk_43 (dk_at dksX1_sort_0 8 rfl rfl)
theorem dX1_sort_9 : decode cX1_sort 9 = .ok (.iload_n 2, 1) := dk_28 (dk_at dksX1_sort_0 9 rfl rfl)
theorem dX1_sort_10 : decode cX1_sort 10 = .ok (.aload_n 0, 1) := dk_42 (dk_at dksX1_sort_0 10 rfl rfl)
theorem dX1_sort_11 : decode cX1_sort 11 = .ok (.iload_n 2, 1) := dk_28 (dk_at dksX1_sort_0 11 rfl rfl)
theorem dX1_sort_12 : decode cX1_sort 12 = .ok (.daload, 1) := dk_49 (dk_at dksX1_sort_0 12 rfl rfl)
theorem dX1_sort_13 : decode cX1_sort 13 = .ok (.dastore, 1) := dk_82 (dk_at dksX1_sort_0 13 rfl rfl)
theorem dX1_sort_14 : decode cX1_sort 14 = .ok (.iinc 2 1, 3) := dk_132 2 1 (dk_at dksX1_sort_0 14 rfl rfl)
theorem dX1_sort_17 : decode cX1_sort 17 = .ok (.goto (-15), 3) := dk_167 255 241 (dk_at dksX1_sort_0 17 rfl rfl)
theorem dX1_sort_20 : decode cX1_sort 20 = .ok (.aload_n 0, 1) := dk_42 (dk_at dksX1_sort_0 20 rfl rfl)
theorem dX1_sort_21 : decode cX1_sort 21 = .ok (.invokestatic 189, 3) := dk_184 0 189 (dk_at dksX1_sort_0 21 rfl rfl)
theorem dX1_sort_24 : decode cX1_sort 24 = .ok (.iconst 0, 1) := dk_3 (dk_at dksX1_sort_1 0 rfl rfl)
theorem dX1_sort_25 : decode cX1_sort 25 = .ok (.istore_n 2, 1) := dk_61 (dk_at dksX1_sort_1 1 rfl rfl)
theorem dX1_sort_26 : decode cX1_sort 26 = .ok (.iconst 0, 1) := dk_3 (dk_at dksX1_sort_1 2 rfl rfl)
theorem dX1_sort_27 : decode cX1_sort 27 = .ok (.istore_n 3, 1) := dk_62 (dk_at dksX1_sort_1 3 rfl rfl)
theorem dX1_sort_28 : decode cX1_sort 28 = .ok (.iload_n 3, 1) := dk_29 (dk_at dksX1_sort_1 4 rfl rfl)
theorem dX1_sort_29 : decode cX1_sort 29 = .ok (.bipush 8, 2) := dk_16 8 (dk_at dksX1_sort_1 5 rfl rfl)
theorem dX1_sort_31 : decode cX1_sort 31 = .ok (.if_icmp .ge 32, 3) := dk_162 0 32 (dk_at dksX1_sort_1 7 rfl rfl)
theorem dX1_sort_34 : decode cX1_sort 34 = .ok (.iload_n 2, 1) := dk_28 (dk_at dksX1_sort_1 10 rfl rfl)
theorem dX1_sort_35 : decode cX1_sort 35 = .ok (.aload_n 1, 1) := dk_43 (dk_at dksX1_sort_1 11 rfl rfl)
theorem dX1_sort_36 : decode cX1_sort 36 = .ok (.iload_n 3, 1) := dk_29 (dk_at dksX1_sort_1 12 rfl rfl)
theorem dX1_sort_37 : decode cX1_sort 37 = .ok (.daload, 1) := dk_49 (dk_at dksX1_sort_1 13 rfl rfl)
theorem dX1_sort_38 : decode cX1_sort 38 = .ok (.aload_n 0, 1) := dk_42 (dk_at dksX1_sort_1 14 rfl rfl)
theorem dX1_sort_39 : decode cX1_sort 39 = .ok (.iload_n 3, 1) := dk_29 (dk_at dksX1_sort_1 15 rfl rfl)
theorem dX1_sort_40 : decode cX1_sort 40 = .ok (.daload, 1) := dk_49 (dk_at dksX1_sort_1 16 rfl rfl)
theorem dX1_sort_41 : decode cX1_sort 41 = .ok (.invokestatic 135, 3) := dk_184 0 135 (dk_at dksX1_sort_1 17 rfl rfl)
theorem dX1_sort_44 : decode cX1_sort 44 = .ok (.ifCond .ne 7, 3) := dk_154 0 7 (dk_at dksX1_sort_1 20 rfl rfl)
theorem dX1_sort_47 : decode cX1_sort 47 = .ok (.iconst 1, 1) := dk_4 (dk_at dksX1_sort_1 23 rfl rfl)
theorem dX1_sort_48 : decode cX1_sort 48 = .ok (.goto 4, 3) := dk_167 0 4 (dk_at dksX1_sort_2 0 rfl rfl)
theorem dX1_sort_51 : decode cX1_sort 51 = .ok (.iconst 0, 1) := dk_3 (dk_at dksX1_sort_2 3 rfl rfl)
theorem dX1_sort_52 : decode cX1_sort 52 = .ok (.invokestatic 57, 3) := dk_184 0 57 (dk_at dksX1_sort_2 4 rfl rfl)
theorem dX1_sort_55 : decode cX1_sort 55 = .ok (.iadd, 1) := dk_96 (dk_at dksX1_sort_2 7 rfl rfl)
theorem dX1_sort_56 : decode cX1_sort 56 = .ok (.istore_n 2, 1) := dk_61 (dk_at dksX1_sort_2 8 rfl rfl)
theorem dX1_sort_57 : decode cX1_sort 57 = .ok (.iinc 3 1, 3) := dk_132 3 1 (dk_at dksX1_sort_2 9 rfl rfl)
theorem dX1_sort_60 : decode cX1_sort 60 = .ok (.goto (-32), 3) := dk_167 255 224 (dk_at dksX1_sort_2 12 rfl rfl)
theorem dX1_sort_63 : decode cX1_sort 63 = .ok (.iload_n 2, 1) := dk_28 (dk_at dksX1_sort_2 15 rfl rfl)
theorem dX1_sort_64 : decode cX1_sort 64 = .ok (.ireturn, 1) := dk_172 (dk_at dksX1_sort_2 16 rfl rfl)
abbrev cX1_heightMax : ByteArray := prog_1_method_51_code
def yX1_heightMax : MethodName := ⟨RX1, "heightMax", "(III)I"⟩
def dkwX1_heightMax_0 : List UInt8 := [42, 29, 42, 27, 182, 0, 253, 42, 28, 182, 0, 253, 184, 1, 0, 182, 0, 246, 172]
abbrev dktX1_heightMax_0 : List UInt8 := dkwX1_heightMax_0 ++ []
theorem dksX1_heightMax_0 : cX1_heightMax.data.toList.drop 0 = dktX1_heightMax_0 := by decide +kernel
theorem dX1_heightMax_0 : decode cX1_heightMax 0 = .ok (.aload_n 0, 1) := dk_42 (dk_at dksX1_heightMax_0 0 rfl rfl)
theorem dX1_heightMax_1 : decode cX1_heightMax 1 = .ok (.iload_n 3, 1) := dk_29 (dk_at dksX1_heightMax_0 1 rfl rfl)
theorem dX1_heightMax_2 : decode cX1_heightMax 2 = .ok (.aload_n 0, 1) := dk_42 (dk_at dksX1_heightMax_0 2 rfl rfl)
theorem dX1_heightMax_3 : decode cX1_heightMax 3 = .ok (.iload_n 1, 1) := dk_27 (dk_at dksX1_heightMax_0 3 rfl rfl)
theorem dX1_heightMax_4 : decode cX1_heightMax 4 = .ok (.invokevirtual 253, 3) := dk_182 0 253 (dk_at dksX1_heightMax_0 4 rfl rfl)
theorem dX1_heightMax_7 : decode cX1_heightMax 7 = .ok (.aload_n 0, 1) := dk_42 (dk_at dksX1_heightMax_0 7 rfl rfl)
theorem dX1_heightMax_8 : decode cX1_heightMax 8 = .ok (.iload_n 2, 1) := dk_28 (dk_at dksX1_heightMax_0 8 rfl rfl)
theorem dX1_heightMax_9 : decode cX1_heightMax 9 = .ok (.invokevirtual 253, 3) := dk_182 0 253 (dk_at dksX1_heightMax_0 9 rfl rfl)
theorem dX1_heightMax_12 : decode cX1_heightMax 12 = .ok (.invokestatic 256, 3) := dk_184 1 0 (dk_at dksX1_heightMax_0 12 rfl rfl)
theorem dX1_heightMax_15 : decode cX1_heightMax 15 = .ok (.invokevirtual 246, 3) := dk_182 0 246 (dk_at dksX1_heightMax_0 15 rfl rfl)
theorem dX1_heightMax_18 : decode cX1_heightMax 18 = .ok (.ireturn, 1) := dk_172 (dk_at dksX1_heightMax_0 18 rfl rfl)
abbrev cX1_heightBelow : ByteArray := prog_1_method_62_code
def yX1_heightBelow : MethodName := ⟨RX1, "heightBelow", "(IIZ)Z"⟩
def dkwX1_heightBelow_2 : List UInt8 := [172]
abbrev dktX1_heightBelow_2 : List UInt8 := dkwX1_heightBelow_2 ++ []
def dkwX1_heightBelow_1 : List UInt8 := [157, 0, 7, 4, 167, 0, 20, 3, 167, 0, 16, 24, 4, 24, 6, 152, 156, 0, 7, 4, 167, 0, 4, 3]
abbrev dktX1_heightBelow_1 : List UInt8 := dkwX1_heightBelow_1 ++ dktX1_heightBelow_2
def dkwX1_heightBelow_0 : List UInt8 := [42, 27, 182, 0, 253, 57, 4, 42, 28, 182, 0, 253, 57, 6, 29, 153, 0, 19, 24, 4, 24, 6, 152]
abbrev dktX1_heightBelow_0 : List UInt8 := dkwX1_heightBelow_0 ++ dktX1_heightBelow_1
theorem dksX1_heightBelow_0 : cX1_heightBelow.data.toList.drop 0 = dktX1_heightBelow_0 := by decide +kernel
theorem dksX1_heightBelow_1 : cX1_heightBelow.data.toList.drop 23 = dktX1_heightBelow_1 := dk_seg dksX1_heightBelow_0 23 rfl rfl
theorem dksX1_heightBelow_2 : cX1_heightBelow.data.toList.drop 47 = dktX1_heightBelow_2 := dk_seg dksX1_heightBelow_1 24 rfl rfl
theorem dX1_heightBelow_0 : decode cX1_heightBelow 0 = .ok (.aload_n 0, 1) := dk_42 (dk_at dksX1_heightBelow_0 0 rfl rfl)
theorem dX1_heightBelow_1 : decode cX1_heightBelow 1 = .ok (.iload_n 1, 1) := dk_27 (dk_at dksX1_heightBelow_0 1 rfl rfl)
theorem dX1_heightBelow_2 : decode cX1_heightBelow 2 = .ok (.invokevirtual 253, 3) := dk_182 0 253 (dk_at dksX1_heightBelow_0 2 rfl rfl)
theorem dX1_heightBelow_5 : decode cX1_heightBelow 5 = .ok (.dstore 4, 2) := dk_57 4 (dk_at dksX1_heightBelow_0 5 rfl rfl)
theorem dX1_heightBelow_7 : decode cX1_heightBelow 7 = .ok (.aload_n 0, 1) := dk_42 (dk_at dksX1_heightBelow_0 7 rfl rfl)
theorem dX1_heightBelow_8 : decode cX1_heightBelow 8 = .ok (.iload_n 2, 1) := dk_28 (dk_at dksX1_heightBelow_0 8 rfl rfl)
theorem dX1_heightBelow_9 : decode cX1_heightBelow 9 = .ok (.invokevirtual 253, 3) := dk_182 0 253 (dk_at dksX1_heightBelow_0 9 rfl rfl)
theorem dX1_heightBelow_12 : decode cX1_heightBelow 12 = .ok (.dstore 6, 2) := dk_57 6 (dk_at dksX1_heightBelow_0 12 rfl rfl)
theorem dX1_heightBelow_14 : decode cX1_heightBelow 14 = .ok (.iload_n 3, 1) := dk_29 (dk_at dksX1_heightBelow_0 14 rfl rfl)
theorem dX1_heightBelow_15 : decode cX1_heightBelow 15 = .ok (.ifCond .eq 19, 3) := dk_153 0 19 (dk_at dksX1_heightBelow_0 15 rfl rfl)
theorem dX1_heightBelow_18 : decode cX1_heightBelow 18 = .ok (.dload 4, 2) := dk_24 4 (dk_at dksX1_heightBelow_0 18 rfl rfl)
theorem dX1_heightBelow_20 : decode cX1_heightBelow 20 = .ok (.dload 6, 2) := dk_24 6 (dk_at dksX1_heightBelow_0 20 rfl rfl)
theorem dX1_heightBelow_22 : decode cX1_heightBelow 22 = .ok (.dcmp .g, 1) := dk_152 (dk_at dksX1_heightBelow_0 22 rfl rfl)
theorem dX1_heightBelow_23 : decode cX1_heightBelow 23 = .ok (.ifCond .gt 7, 3) := dk_157 0 7 (dk_at dksX1_heightBelow_1 0 rfl rfl)
theorem dX1_heightBelow_26 : decode cX1_heightBelow 26 = .ok (.iconst 1, 1) := dk_4 (dk_at dksX1_heightBelow_1 3 rfl rfl)
theorem dX1_heightBelow_27 : decode cX1_heightBelow 27 = .ok (.goto 20, 3) := dk_167 0 20 (dk_at dksX1_heightBelow_1 4 rfl rfl)
theorem dX1_heightBelow_30 : decode cX1_heightBelow 30 = .ok (.iconst 0, 1) := dk_3 (dk_at dksX1_heightBelow_1 7 rfl rfl)
theorem dX1_heightBelow_31 : decode cX1_heightBelow 31 = .ok (.goto 16, 3) := dk_167 0 16 (dk_at dksX1_heightBelow_1 8 rfl rfl)
theorem dX1_heightBelow_34 : decode cX1_heightBelow 34 = .ok (.dload 4, 2) := dk_24 4 (dk_at dksX1_heightBelow_1 11 rfl rfl)
theorem dX1_heightBelow_36 : decode cX1_heightBelow 36 = .ok (.dload 6, 2) := dk_24 6 (dk_at dksX1_heightBelow_1 13 rfl rfl)
theorem dX1_heightBelow_38 : decode cX1_heightBelow 38 = .ok (.dcmp .g, 1) := dk_152 (dk_at dksX1_heightBelow_1 15 rfl rfl)
theorem dX1_heightBelow_39 : decode cX1_heightBelow 39 = .ok (.ifCond .ge 7, 3) := dk_156 0 7 (dk_at dksX1_heightBelow_1 16 rfl rfl)
theorem dX1_heightBelow_42 : decode cX1_heightBelow 42 = .ok (.iconst 1, 1) := dk_4 (dk_at dksX1_heightBelow_1 19 rfl rfl)
theorem dX1_heightBelow_43 : decode cX1_heightBelow 43 = .ok (.goto 4, 3) := dk_167 0 4 (dk_at dksX1_heightBelow_1 20 rfl rfl)
theorem dX1_heightBelow_46 : decode cX1_heightBelow 46 = .ok (.iconst 0, 1) := dk_3 (dk_at dksX1_heightBelow_1 23 rfl rfl)
theorem dX1_heightBelow_47 : decode cX1_heightBelow 47 = .ok (.ireturn, 1) := dk_172 (dk_at dksX1_heightBelow_2 0 rfl rfl)
abbrev cX1_heightSort : ByteArray := prog_1_method_54_code
def yX1_heightSort : MethodName := ⟨RX1, "heightSort", "()I"⟩
def dkwX1_heightSort_0 : List UInt8 := [42, 89, 180, 0, 243, 4, 96, 181, 0, 243, 42, 180, 0, 17, 16, 8, 188, 7, 184, 0, 181, 172]
abbrev dktX1_heightSort_0 : List UInt8 := dkwX1_heightSort_0 ++ []
theorem dksX1_heightSort_0 : cX1_heightSort.data.toList.drop 0 = dktX1_heightSort_0 := by decide +kernel
theorem dX1_heightSort_0 : decode cX1_heightSort 0 = .ok (.aload_n 0, 1) := dk_42 (dk_at dksX1_heightSort_0 0 rfl rfl)
theorem dX1_heightSort_1 : decode cX1_heightSort 1 = .ok (.dup, 1) := dk_89 (dk_at dksX1_heightSort_0 1 rfl rfl)
theorem dX1_heightSort_2 : decode cX1_heightSort 2 = .ok (.getfield 243, 3) := dk_180 0 243 (dk_at dksX1_heightSort_0 2 rfl rfl)
theorem dX1_heightSort_5 : decode cX1_heightSort 5 = .ok (.iconst 1, 1) := dk_4 (dk_at dksX1_heightSort_0 5 rfl rfl)
theorem dX1_heightSort_6 : decode cX1_heightSort 6 = .ok (.iadd, 1) := dk_96 (dk_at dksX1_heightSort_0 6 rfl rfl)
theorem dX1_heightSort_7 : decode cX1_heightSort 7 = .ok (.putfield 243, 3) := dk_181 0 243 (dk_at dksX1_heightSort_0 7 rfl rfl)
theorem dX1_heightSort_10 : decode cX1_heightSort 10 = .ok (.aload_n 0, 1) := dk_42 (dk_at dksX1_heightSort_0 10 rfl rfl)
theorem dX1_heightSort_11 : decode cX1_heightSort 11 = .ok (.getfield 17, 3) := dk_180 0 17 (dk_at dksX1_heightSort_0 11 rfl rfl)
theorem dX1_heightSort_14 : decode cX1_heightSort 14 = .ok (.bipush 8, 2) := dk_16 8 (dk_at dksX1_heightSort_0 14 rfl rfl)
theorem dX1_heightSort_16 : decode cX1_heightSort 16 = .ok (.newarray .double, 2) := dk_188_7 (dk_at dksX1_heightSort_0 16 rfl rfl)
theorem dX1_heightSort_18 : decode cX1_heightSort 18 = .ok (.invokestatic 181, 3) := dk_184 0 181 (dk_at dksX1_heightSort_0 18 rfl rfl)
theorem dX1_heightSort_21 : decode cX1_heightSort 21 = .ok (.ireturn, 1) := dk_172 (dk_at dksX1_heightSort_0 21 rfl rfl)
abbrev cX1_heightMin : ByteArray := prog_1_method_52_code
def yX1_heightMin : MethodName := ⟨RX1, "heightMin", "(III)I"⟩
def dkwX1_heightMin_0 : List UInt8 := [42, 29, 42, 27, 182, 0, 253, 42, 28, 182, 0, 253, 184, 1, 3, 182, 0, 246, 172]
abbrev dktX1_heightMin_0 : List UInt8 := dkwX1_heightMin_0 ++ []
theorem dksX1_heightMin_0 : cX1_heightMin.data.toList.drop 0 = dktX1_heightMin_0 := by decide +kernel
theorem dX1_heightMin_0 : decode cX1_heightMin 0 = .ok (.aload_n 0, 1) := dk_42 (dk_at dksX1_heightMin_0 0 rfl rfl)
theorem dX1_heightMin_1 : decode cX1_heightMin 1 = .ok (.iload_n 3, 1) := dk_29 (dk_at dksX1_heightMin_0 1 rfl rfl)
theorem dX1_heightMin_2 : decode cX1_heightMin 2 = .ok (.aload_n 0, 1) := dk_42 (dk_at dksX1_heightMin_0 2 rfl rfl)
theorem dX1_heightMin_3 : decode cX1_heightMin 3 = .ok (.iload_n 1, 1) := dk_27 (dk_at dksX1_heightMin_0 3 rfl rfl)
theorem dX1_heightMin_4 : decode cX1_heightMin 4 = .ok (.invokevirtual 253, 3) := dk_182 0 253 (dk_at dksX1_heightMin_0 4 rfl rfl)
theorem dX1_heightMin_7 : decode cX1_heightMin 7 = .ok (.aload_n 0, 1) := dk_42 (dk_at dksX1_heightMin_0 7 rfl rfl)
theorem dX1_heightMin_8 : decode cX1_heightMin 8 = .ok (.iload_n 2, 1) := dk_28 (dk_at dksX1_heightMin_0 8 rfl rfl)
theorem dX1_heightMin_9 : decode cX1_heightMin 9 = .ok (.invokevirtual 253, 3) := dk_182 0 253 (dk_at dksX1_heightMin_0 9 rfl rfl)
theorem dX1_heightMin_12 : decode cX1_heightMin 12 = .ok (.invokestatic 259, 3) := dk_184 1 3 (dk_at dksX1_heightMin_0 12 rfl rfl)
theorem dX1_heightMin_15 : decode cX1_heightMin 15 = .ok (.invokevirtual 246, 3) := dk_182 0 246 (dk_at dksX1_heightMin_0 15 rfl rfl)
theorem dX1_heightMin_18 : decode cX1_heightMin 18 = .ok (.ireturn, 1) := dk_172 (dk_at dksX1_heightMin_0 18 rfl rfl)
abbrev cX1_heightEnd : ByteArray := prog_1_method_53_code
def yX1_heightEnd : MethodName := ⟨RX1, "heightEnd", "(ZI)I"⟩
def dkwX1_heightEnd_3 : List UInt8 := [182, 0, 246, 172]
abbrev dktX1_heightEnd_3 : List UInt8 := dkwX1_heightEnd_3 ++ []
def dkwX1_heightEnd_2 : List UInt8 := [184, 1, 0, 167, 0, 9, 41, 24, 8, 184, 1, 3, 74, 132, 7, 1, 167, 255, 219, 42, 28, 41]
abbrev dktX1_heightEnd_2 : List UInt8 := dkwX1_heightEnd_2 ++ dktX1_heightEnd_3
def dkwX1_heightEnd_1 : List UInt8 := [54, 7, 21, 7, 21, 6, 162, 0, 36, 25, 5, 21, 7, 49, 57, 8, 27, 153, 0, 12, 41, 24, 8]
abbrev dktX1_heightEnd_1 : List UInt8 := dkwX1_heightEnd_1 ++ dktX1_heightEnd_2
def dkwX1_heightEnd_0 : List UInt8 := [28, 184, 0, 128, 42, 180, 0, 17, 3, 49, 74, 42, 180, 0, 17, 58, 5, 25, 5, 190, 54, 6, 3]
abbrev dktX1_heightEnd_0 : List UInt8 := dkwX1_heightEnd_0 ++ dktX1_heightEnd_1
theorem dksX1_heightEnd_0 : cX1_heightEnd.data.toList.drop 0 = dktX1_heightEnd_0 := by decide +kernel
theorem dksX1_heightEnd_1 : cX1_heightEnd.data.toList.drop 23 = dktX1_heightEnd_1 := dk_seg dksX1_heightEnd_0 23 rfl rfl
theorem dksX1_heightEnd_2 : cX1_heightEnd.data.toList.drop 46 = dktX1_heightEnd_2 := dk_seg dksX1_heightEnd_1 23 rfl rfl
theorem dksX1_heightEnd_3 : cX1_heightEnd.data.toList.drop 68 = dktX1_heightEnd_3 := dk_seg dksX1_heightEnd_2 22 rfl rfl
theorem dX1_heightEnd_0 : decode cX1_heightEnd 0 = .ok (.iload_n 2, 1) := dk_28 (dk_at dksX1_heightEnd_0 0 rfl rfl)
theorem dX1_heightEnd_1 : decode cX1_heightEnd 1 = .ok (.invokestatic 128, 3) := dk_184 0 128 (dk_at dksX1_heightEnd_0 1 rfl rfl)
theorem dX1_heightEnd_4 : decode cX1_heightEnd 4 = .ok (.aload_n 0, 1) := dk_42 (dk_at dksX1_heightEnd_0 4 rfl rfl)
theorem dX1_heightEnd_5 : decode cX1_heightEnd 5 = .ok (.getfield 17, 3) := dk_180 0 17 (dk_at dksX1_heightEnd_0 5 rfl rfl)
theorem dX1_heightEnd_8 : decode cX1_heightEnd 8 = .ok (.iconst 0, 1) := dk_3 (dk_at dksX1_heightEnd_0 8 rfl rfl)
theorem dX1_heightEnd_9 : decode cX1_heightEnd 9 = .ok (.daload, 1) := dk_49 (dk_at dksX1_heightEnd_0 9 rfl rfl)
theorem dX1_heightEnd_10 : decode cX1_heightEnd 10 = .ok (.dstore_n 3, 1) := dk_74 (dk_at dksX1_heightEnd_0 10 rfl rfl)
theorem dX1_heightEnd_11 : decode cX1_heightEnd 11 = .ok (.aload_n 0, 1) := dk_42 (dk_at dksX1_heightEnd_0 11 rfl rfl)
theorem dX1_heightEnd_12 : decode cX1_heightEnd 12 = .ok (.getfield 17, 3) := dk_180 0 17 (dk_at dksX1_heightEnd_0 12 rfl rfl)
theorem dX1_heightEnd_15 : decode cX1_heightEnd 15 = .ok (.astore 5, 2) := dk_58 5 (dk_at dksX1_heightEnd_0 15 rfl rfl)
theorem dX1_heightEnd_17 : decode cX1_heightEnd 17 = .ok (.aload 5, 2) := dk_25 5 (dk_at dksX1_heightEnd_0 17 rfl rfl)
theorem dX1_heightEnd_19 : decode cX1_heightEnd 19 = .ok (.arraylength, 1) := dk_190 (dk_at dksX1_heightEnd_0 19 rfl rfl)
theorem dX1_heightEnd_20 : decode cX1_heightEnd 20 = .ok (.istore 6, 2) := dk_54 6 (dk_at dksX1_heightEnd_0 20 rfl rfl)
theorem dX1_heightEnd_22 : decode cX1_heightEnd 22 = .ok (.iconst 0, 1) := dk_3 (dk_at dksX1_heightEnd_0 22 rfl rfl)
theorem dX1_heightEnd_23 : decode cX1_heightEnd 23 = .ok (.istore 7, 2) := dk_54 7 (dk_at dksX1_heightEnd_1 0 rfl rfl)
theorem dX1_heightEnd_25 : decode cX1_heightEnd 25 = .ok (.iload 7, 2) := dk_21 7 (dk_at dksX1_heightEnd_1 2 rfl rfl)
theorem dX1_heightEnd_27 : decode cX1_heightEnd 27 = .ok (.iload 6, 2) := dk_21 6 (dk_at dksX1_heightEnd_1 4 rfl rfl)
theorem dX1_heightEnd_29 : decode cX1_heightEnd 29 = .ok (.if_icmp .ge 36, 3) := dk_162 0 36 (dk_at dksX1_heightEnd_1 6 rfl rfl)
theorem dX1_heightEnd_32 : decode cX1_heightEnd 32 = .ok (.aload 5, 2) := dk_25 5 (dk_at dksX1_heightEnd_1 9 rfl rfl)
theorem dX1_heightEnd_34 : decode cX1_heightEnd 34 = .ok (.iload 7, 2) := dk_21 7 (dk_at dksX1_heightEnd_1 11 rfl rfl)
theorem dX1_heightEnd_36 : decode cX1_heightEnd 36 = .ok (.daload, 1) := dk_49 (dk_at dksX1_heightEnd_1 13 rfl rfl)
theorem dX1_heightEnd_37 : decode cX1_heightEnd 37 = .ok (.dstore 8, 2) := dk_57 8 (dk_at dksX1_heightEnd_1 14 rfl rfl)
theorem dX1_heightEnd_39 : decode cX1_heightEnd 39 = .ok (.iload_n 1, 1) := dk_27 (dk_at dksX1_heightEnd_1 16 rfl rfl)
theorem dX1_heightEnd_40 : decode cX1_heightEnd 40 = .ok (.ifCond .eq 12, 3) := dk_153 0 12 (dk_at dksX1_heightEnd_1 17 rfl rfl)
theorem dX1_heightEnd_43 : decode cX1_heightEnd 43 = .ok (.dload_n 3, 1) := dk_41 (dk_at dksX1_heightEnd_1 20 rfl rfl)
theorem dX1_heightEnd_44 : decode cX1_heightEnd 44 = .ok (.dload 8, 2) := dk_24 8 (dk_at dksX1_heightEnd_1 21 rfl rfl)
theorem dX1_heightEnd_46 : decode cX1_heightEnd 46 = .ok (.invokestatic 256, 3) := dk_184 1 0 (dk_at dksX1_heightEnd_2 0 rfl rfl)
theorem dX1_heightEnd_49 : decode cX1_heightEnd 49 = .ok (.goto 9, 3) := dk_167 0 9 (dk_at dksX1_heightEnd_2 3 rfl rfl)
theorem dX1_heightEnd_52 : decode cX1_heightEnd 52 = .ok (.dload_n 3, 1) := dk_41 (dk_at dksX1_heightEnd_2 6 rfl rfl)
theorem dX1_heightEnd_53 : decode cX1_heightEnd 53 = .ok (.dload 8, 2) := dk_24 8 (dk_at dksX1_heightEnd_2 7 rfl rfl)
theorem dX1_heightEnd_55 : decode cX1_heightEnd 55 = .ok (.invokestatic 259, 3) := dk_184 1 3 (dk_at dksX1_heightEnd_2 9 rfl rfl)
theorem dX1_heightEnd_58 : decode cX1_heightEnd 58 = .ok (.dstore_n 3, 1) := dk_74 (dk_at dksX1_heightEnd_2 12 rfl rfl)
theorem dX1_heightEnd_59 : decode cX1_heightEnd 59 = .ok (.iinc 7 1, 3) := dk_132 7 1 (dk_at dksX1_heightEnd_2 13 rfl rfl)
theorem dX1_heightEnd_62 : decode cX1_heightEnd 62 = .ok (.goto (-37), 3) := dk_167 255 219 (dk_at dksX1_heightEnd_2 16 rfl rfl)
theorem dX1_heightEnd_65 : decode cX1_heightEnd 65 = .ok (.aload_n 0, 1) := dk_42 (dk_at dksX1_heightEnd_2 19 rfl rfl)
theorem dX1_heightEnd_66 : decode cX1_heightEnd 66 = .ok (.iload_n 2, 1) := dk_28 (dk_at dksX1_heightEnd_2 20 rfl rfl)
theorem dX1_heightEnd_67 : decode cX1_heightEnd 67 = .ok (.dload_n 3, 1) := dk_41 (dk_at dksX1_heightEnd_2 21 rfl rfl)
theorem dX1_heightEnd_68 : decode cX1_heightEnd 68 = .ok (.invokevirtual 246, 3) := dk_182 0 246 (dk_at dksX1_heightEnd_3 0 rfl rfl)
theorem dX1_heightEnd_71 : decode cX1_heightEnd 71 = .ok (.ireturn, 1) := dk_172 (dk_at dksX1_heightEnd_3 3 rfl rfl)
abbrev cX1_knock : ByteArray := prog_1_method_86_code
def yX1_knock : MethodName := ⟨RX1, "knock", "()I"⟩
def dkwX1_knock_0 : List UInt8 := [42, 89, 180, 1, 60, 4, 96, 181, 1, 60, 42, 180, 1, 60, 172]
abbrev dktX1_knock_0 : List UInt8 := dkwX1_knock_0 ++ []
theorem dksX1_knock_0 : cX1_knock.data.toList.drop 0 = dktX1_knock_0 := by decide +kernel
theorem dX1_knock_0 : decode cX1_knock 0 = .ok (.aload_n 0, 1) := dk_42 (dk_at dksX1_knock_0 0 rfl rfl)
theorem dX1_knock_1 : decode cX1_knock 1 = .ok (.dup, 1) := dk_89 (dk_at dksX1_knock_0 1 rfl rfl)
theorem dX1_knock_2 : decode cX1_knock 2 = .ok (.getfield 316, 3) := dk_180 1 60 (dk_at dksX1_knock_0 2 rfl rfl)
theorem dX1_knock_5 : decode cX1_knock 5 = .ok (.iconst 1, 1) := dk_4 (dk_at dksX1_knock_0 5 rfl rfl)
theorem dX1_knock_6 : decode cX1_knock 6 = .ok (.iadd, 1) := dk_96 (dk_at dksX1_knock_0 6 rfl rfl)
theorem dX1_knock_7 : decode cX1_knock 7 = .ok (.putfield 316, 3) := dk_181 1 60 (dk_at dksX1_knock_0 7 rfl rfl)
theorem dX1_knock_10 : decode cX1_knock 10 = .ok (.aload_n 0, 1) := dk_42 (dk_at dksX1_knock_0 10 rfl rfl)
theorem dX1_knock_11 : decode cX1_knock 11 = .ok (.getfield 316, 3) := dk_180 1 60 (dk_at dksX1_knock_0 11 rfl rfl)
theorem dX1_knock_14 : decode cX1_knock 14 = .ok (.ireturn, 1) := dk_172 (dk_at dksX1_knock_0 14 rfl rfl)
theorem q46 : (Jvm.Cond.initialized "Anglewheel") ∈ lw_all := lw_g (lw_at lw_m1 7 rfl) rfl
theorem q165 : (Jvm.Cond.instantiable "Anglewheel" (7 : Nat)) ∈ lw_all := lw_g (lw_at lw_m1 126 rfl) rfl
theorem q167 : (Jvm.Cond.instanceMethod ({ cls := "Anglewheel", name := "<init>", desc := "()V" } : Jvm.MethodName)) ∈ lw_all := lw_g (lw_at lw_m1 128 rfl) rfl
theorem q168 : (Jvm.Cond.code ({ cls := "Anglewheel", name := "<init>", desc := "()V" } : Jvm.MethodName) prog_1_method_1_code (3 : Nat) (Option.none : Option Jvm.ClassFile.FieldType)) ∈ lw_all := lw_g (lw_at lw_m1 129 rfl) rfl
theorem q169 : (Jvm.Cond.methodLink "Anglewheel" (7 : Nat) ({ cls := "java/lang/Object", name := "<init>", desc := "()V" } : Jvm.MethodName)) ∈ lw_all := lw_g (lw_at lw_m1 130 rfl) rfl
theorem q170 : (Jvm.Cond.methodLink "Anglewheel" (24 : Nat) ({ cls := "Anglewheel", name := "isLawful", desc := "(D)Z" } : Jvm.MethodName)) ∈ lw_all := lw_g (lw_at lw_m1 131 rfl) rfl
theorem q171 : (Jvm.Cond.static ({ cls := "Anglewheel", name := "isLawful", desc := "(D)Z" } : Jvm.MethodName)) ∈ lw_all := lw_g (lw_at lw_m1 132 rfl) rfl
theorem q172 : (Jvm.Cond.code ({ cls := "Anglewheel", name := "isLawful", desc := "(D)Z" } : Jvm.MethodName) prog_1_method_87_code (9 : Nat) (Option.some Jvm.ClassFile.FieldType.boolean)) ∈ lw_all := lw_g (lw_at lw_m1 133 rfl) rfl
theorem q173 : (Jvm.Cond.methodLink "Anglewheel" (117 : Nat) ({ cls := "java/lang/StrictMath", name := "sin", desc := "(D)D" } : Jvm.MethodName)) ∈ lw_all := lw_g (lw_at lw_m1 134 rfl) rfl
theorem q318 : (Jvm.Cond.methodLink "Anglewheel" (122 : Nat) ({ cls := "java/lang/StrictMath", name := "cos", desc := "(D)D" } : Jvm.MethodName)) ∈ lw_all := lw_g (lw_at lw_m2 39 rfl) rfl
theorem q329 : (Jvm.Cond.methodLink "Anglewheel" (125 : Nat) ({ cls := "java/lang/StrictMath", name := "tan", desc := "(D)D" } : Jvm.MethodName)) ∈ lw_all := lw_g (lw_at lw_m2 50 rfl) rfl
theorem q354 : (Jvm.Cond.methodLink "Anglewheel" (174 : Nat) ({ cls := "Anglewheel", name := "isInSet", desc := "(D)Z" } : Jvm.MethodName)) ∈ lw_all := lw_g (lw_at lw_m2 75 rfl) rfl
theorem q355 : (Jvm.Cond.static ({ cls := "Anglewheel", name := "isInSet", desc := "(D)Z" } : Jvm.MethodName)) ∈ lw_all := lw_g (lw_at lw_m2 76 rfl) rfl
theorem q356 : (Jvm.Cond.code ({ cls := "Anglewheel", name := "isInSet", desc := "(D)Z" } : Jvm.MethodName) prog_1_method_15_code (2 : Nat) (Option.some Jvm.ClassFile.FieldType.boolean)) ∈ lw_all := lw_g (lw_at lw_m2 77 rfl) rfl
theorem q357 : (Jvm.Cond.methodLink "Anglewheel" (82 : Nat) ({ cls := "Anglewheel", name := "eighthsOf", desc := "(D)I" } : Jvm.MethodName)) ∈ lw_all := lw_g (lw_at lw_m2 78 rfl) rfl
theorem q358 : (Jvm.Cond.static ({ cls := "Anglewheel", name := "eighthsOf", desc := "(D)I" } : Jvm.MethodName)) ∈ lw_all := lw_g (lw_at lw_m2 79 rfl) rfl
theorem q359 : (Jvm.Cond.code ({ cls := "Anglewheel", name := "eighthsOf", desc := "(D)I" } : Jvm.MethodName) prog_1_method_13_code (7 : Nat) (Option.some Jvm.ClassFile.FieldType.int)) ∈ lw_all := lw_g (lw_at lw_m2 80 rfl) rfl
theorem q360 : (Jvm.Cond.methodLink "Anglewheel" (63 : Nat) ({ cls := "Anglewheel", name := "exponentOf", desc := "(D)I" } : Jvm.MethodName)) ∈ lw_all := lw_g (lw_at lw_m2 81 rfl) rfl
theorem q361 : (Jvm.Cond.static ({ cls := "Anglewheel", name := "exponentOf", desc := "(D)I" } : Jvm.MethodName)) ∈ lw_all := lw_g (lw_at lw_m2 82 rfl) rfl
theorem q362 : (Jvm.Cond.code ({ cls := "Anglewheel", name := "exponentOf", desc := "(D)I" } : Jvm.MethodName) prog_1_method_10_code (2 : Nat) (Option.some Jvm.ClassFile.FieldType.int)) ∈ lw_all := lw_g (lw_at lw_m2 83 rfl) rfl
theorem q363 : (Jvm.Cond.methodLink "Anglewheel" (48 : Nat) ({ cls := "Anglewheel", name := "digitsOf", desc := "(D)J" } : Jvm.MethodName)) ∈ lw_all := lw_g (lw_at lw_m2 84 rfl) rfl
theorem q364 : (Jvm.Cond.static ({ cls := "Anglewheel", name := "digitsOf", desc := "(D)J" } : Jvm.MethodName)) ∈ lw_all := lw_g (lw_at lw_m2 85 rfl) rfl
theorem q365 : (Jvm.Cond.code ({ cls := "Anglewheel", name := "digitsOf", desc := "(D)J" } : Jvm.MethodName) prog_1_method_7_code (2 : Nat) (Option.some Jvm.ClassFile.FieldType.long)) ∈ lw_all := lw_g (lw_at lw_m2 86 rfl) rfl
theorem q366 : (Jvm.Cond.methodLink "Anglewheel" (42 : Nat) ({ cls := "java/lang/Double", name := "doubleToLongBits", desc := "(D)J" } : Jvm.MethodName)) ∈ lw_all := lw_g (lw_at lw_m2 87 rfl) rfl
theorem q374 : (Jvm.Cond.constantLong "Anglewheel" (51 : Nat) (9223372036854775807 : Int64)) ∈ lw_all := lw_g (lw_at lw_m2 95 rfl) rfl
theorem q375 : (Jvm.Cond.methodLink "Anglewheel" (67 : Nat) ({ cls := "Anglewheel", name := "sizeOf", desc := "(D)D" } : Jvm.MethodName)) ∈ lw_all := lw_g (lw_at lw_m2 96 rfl) rfl
theorem q376 : (Jvm.Cond.static ({ cls := "Anglewheel", name := "sizeOf", desc := "(D)D" } : Jvm.MethodName)) ∈ lw_all := lw_g (lw_at lw_m2 97 rfl) rfl
theorem q377 : (Jvm.Cond.code ({ cls := "Anglewheel", name := "sizeOf", desc := "(D)D" } : Jvm.MethodName) prog_1_method_8_code (2 : Nat) (Option.some Jvm.ClassFile.FieldType.double)) ∈ lw_all := lw_g (lw_at lw_m2 98 rfl) rfl
theorem q378 : (Jvm.Cond.methodLink "Anglewheel" (53 : Nat) ({ cls := "java/lang/Double", name := "longBitsToDouble", desc := "(J)D" } : Jvm.MethodName)) ∈ lw_all := lw_g (lw_at lw_m2 99 rfl) rfl
theorem q379 : (Jvm.Cond.constant "Anglewheel" (71 : Nat) (-2147483648 : Int32)) ∈ lw_all := lw_g (lw_at lw_m2 100 rfl) rfl
theorem q380 : (Jvm.Cond.constantLong "Anglewheel" (72 : Nat) (4503599627370496 : Int64)) ∈ lw_all := lw_g (lw_at lw_m2 101 rfl) rfl
theorem q381 : (Jvm.Cond.methodLink "Anglewheel" (74 : Nat) ({ cls := "Anglewheel", name := "fractionOf", desc := "(D)J" } : Jvm.MethodName)) ∈ lw_all := lw_g (lw_at lw_m2 102 rfl) rfl
theorem q382 : (Jvm.Cond.static ({ cls := "Anglewheel", name := "fractionOf", desc := "(D)J" } : Jvm.MethodName)) ∈ lw_all := lw_g (lw_at lw_m2 103 rfl) rfl
theorem q383 : (Jvm.Cond.code ({ cls := "Anglewheel", name := "fractionOf", desc := "(D)J" } : Jvm.MethodName) prog_1_method_11_code (2 : Nat) (Option.some Jvm.ClassFile.FieldType.long)) ∈ lw_all := lw_g (lw_at lw_m2 104 rfl) rfl
theorem q384 : (Jvm.Cond.constantLong "Anglewheel" (61 : Nat) (4503599627370495 : Int64)) ∈ lw_all := lw_g (lw_at lw_m2 105 rfl) rfl
theorem q385 : (Jvm.Cond.constantLong "Anglewheel" (77 : Nat) (32768 : Int64)) ∈ lw_all := lw_g (lw_at lw_m2 106 rfl) rfl
theorem q386 : (Jvm.Cond.methodLink "Anglewheel" (79 : Nat) ({ cls := "Anglewheel", name := "signOf", desc := "(D)I" } : Jvm.MethodName)) ∈ lw_all := lw_g (lw_at lw_m2 107 rfl) rfl
theorem q387 : (Jvm.Cond.static ({ cls := "Anglewheel", name := "signOf", desc := "(D)I" } : Jvm.MethodName)) ∈ lw_all := lw_g (lw_at lw_m2 108 rfl) rfl
theorem q388 : (Jvm.Cond.code ({ cls := "Anglewheel", name := "signOf", desc := "(D)I" } : Jvm.MethodName) prog_1_method_9_code (2 : Nat) (Option.some Jvm.ClassFile.FieldType.int)) ∈ lw_all := lw_g (lw_at lw_m2 109 rfl) rfl
theorem q389 : (Jvm.Cond.methodLink "Anglewheel" (57 : Nat) ({ cls := "Anglewheel", name := "bit", desc := "(Z)I" } : Jvm.MethodName)) ∈ lw_all := lw_g (lw_at lw_m2 110 rfl) rfl
theorem q390 : (Jvm.Cond.static ({ cls := "Anglewheel", name := "bit", desc := "(Z)I" } : Jvm.MethodName)) ∈ lw_all := lw_g (lw_at lw_m2 111 rfl) rfl
theorem q391 : (Jvm.Cond.code ({ cls := "Anglewheel", name := "bit", desc := "(Z)I" } : Jvm.MethodName) prog_1_method_5_code (1 : Nat) (Option.some Jvm.ClassFile.FieldType.int)) ∈ lw_all := lw_g (lw_at lw_m2 112 rfl) rfl
theorem q392 : (Jvm.Cond.methodLink "Anglewheel" (85 : Nat) ({ cls := "Anglewheel", name := "doublingsOf", desc := "(D)I" } : Jvm.MethodName)) ∈ lw_all := lw_g (lw_at lw_m2 113 rfl) rfl
theorem q393 : (Jvm.Cond.static ({ cls := "Anglewheel", name := "doublingsOf", desc := "(D)I" } : Jvm.MethodName)) ∈ lw_all := lw_g (lw_at lw_m2 114 rfl) rfl
theorem q394 : (Jvm.Cond.code ({ cls := "Anglewheel", name := "doublingsOf", desc := "(D)I" } : Jvm.MethodName) prog_1_method_14_code (5 : Nat) (Option.some Jvm.ClassFile.FieldType.int)) ∈ lw_all := lw_g (lw_at lw_m2 115 rfl) rfl
theorem q395 : (Jvm.Cond.methodLink "Anglewheel" (28 : Nat) ({ cls := "Anglewheel", name := "isIn", desc := "(III)Z" } : Jvm.MethodName)) ∈ lw_all := lw_g (lw_at lw_m2 116 rfl) rfl
theorem q396 : (Jvm.Cond.static ({ cls := "Anglewheel", name := "isIn", desc := "(III)Z" } : Jvm.MethodName)) ∈ lw_all := lw_g (lw_at lw_m2 117 rfl) rfl
theorem q397 : (Jvm.Cond.code ({ cls := "Anglewheel", name := "isIn", desc := "(III)Z" } : Jvm.MethodName) prog_1_method_2_code (3 : Nat) (Option.some Jvm.ClassFile.FieldType.boolean)) ∈ lw_all := lw_g (lw_at lw_m2 118 rfl) rfl
theorem q398 : (Jvm.Cond.methodLink "Anglewheel" (274 : Nat) ({ cls := "Anglewheel", name := "isInside", desc := "(DZ)Z" } : Jvm.MethodName)) ∈ lw_all := lw_g (lw_at lw_m2 119 rfl) rfl
theorem q399 : (Jvm.Cond.static ({ cls := "Anglewheel", name := "isInside", desc := "(DZ)Z" } : Jvm.MethodName)) ∈ lw_all := lw_g (lw_at lw_m2 120 rfl) rfl
theorem q400 : (Jvm.Cond.code ({ cls := "Anglewheel", name := "isInside", desc := "(DZ)Z" } : Jvm.MethodName) prog_1_method_69_code (4 : Nat) (Option.some Jvm.ClassFile.FieldType.boolean)) ∈ lw_all := lw_g (lw_at lw_m2 121 rfl) rfl
theorem q401 : (Jvm.Cond.constantDouble "Anglewheel" (278 : Nat) (13830554455654793216 : UInt64)) ∈ lw_all := lw_g (lw_at lw_m2 122 rfl) rfl
theorem q402 : (Jvm.Cond.methodLink "Anglewheel" (270 : Nat) ({ cls := "Anglewheel", name := "isMirror", desc := "(IDD)Z" } : Jvm.MethodName)) ∈ lw_all := lw_g (lw_at lw_m2 123 rfl) rfl
theorem q403 : (Jvm.Cond.static ({ cls := "Anglewheel", name := "isMirror", desc := "(IDD)Z" } : Jvm.MethodName)) ∈ lw_all := lw_g (lw_at lw_m2 124 rfl) rfl
theorem q404 : (Jvm.Cond.code ({ cls := "Anglewheel", name := "isMirror", desc := "(IDD)Z" } : Jvm.MethodName) prog_1_method_66_code (5 : Nat) (Option.some Jvm.ClassFile.FieldType.boolean)) ∈ lw_all := lw_g (lw_at lw_m2 125 rfl) rfl
theorem q405 : (Jvm.Cond.constantLong "Anglewheel" (268 : Nat) (-9223372036854775808 : Int64)) ∈ lw_all := lw_g (lw_at lw_m2 126 rfl) rfl
theorem q406 : (Jvm.Cond.methodLink "Anglewheel" (280 : Nat) ({ cls := "Anglewheel", name := "isRoundBy", desc := "(DD)Z" } : Jvm.MethodName)) ∈ lw_all := lw_g (lw_at lw_m2 127 rfl) rfl
theorem q407 : (Jvm.Cond.static ({ cls := "Anglewheel", name := "isRoundBy", desc := "(DD)Z" } : Jvm.MethodName)) ∈ lw_all := lw_g (lw_at lw_m2 128 rfl) rfl
theorem q408 : (Jvm.Cond.code ({ cls := "Anglewheel", name := "isRoundBy", desc := "(DD)Z" } : Jvm.MethodName) prog_1_method_71_code (4 : Nat) (Option.some Jvm.ClassFile.FieldType.boolean)) ∈ lw_all := lw_g (lw_at lw_m2 129 rfl) rfl
theorem q409 : (Jvm.Cond.methodLink "Anglewheel" (283 : Nat) ({ cls := "Anglewheel", name := "square", desc := "(D)Ljava/math/BigInteger;" } : Jvm.MethodName)) ∈ lw_all := lw_g (lw_at lw_m2 130 rfl) rfl
theorem q410 : (Jvm.Cond.static ({ cls := "Anglewheel", name := "square", desc := "(D)Ljava/math/BigInteger;" } : Jvm.MethodName)) ∈ lw_all := lw_g (lw_at lw_m2 131 rfl) rfl
theorem q411 : (Jvm.Cond.code ({ cls := "Anglewheel", name := "square", desc := "(D)Ljava/math/BigInteger;" } : Jvm.MethodName) prog_1_method_19_code (3 : Nat) (Option.some (Jvm.ClassFile.FieldType.object "java/math/BigInteger"))) ∈ lw_all := lw_g (lw_at lw_m2 132 rfl) rfl
theorem q412 : (Jvm.Cond.methodLink "Anglewheel" (98 : Nat) ({ cls := "Anglewheel", name := "exact", desc := "(DI)Ljava/math/BigInteger;" } : Jvm.MethodName)) ∈ lw_all := lw_g (lw_at lw_m2 133 rfl) rfl
theorem q413 : (Jvm.Cond.static ({ cls := "Anglewheel", name := "exact", desc := "(DI)Ljava/math/BigInteger;" } : Jvm.MethodName)) ∈ lw_all := lw_g (lw_at lw_m2 134 rfl) rfl
theorem q414 : (Jvm.Cond.code ({ cls := "Anglewheel", name := "exact", desc := "(DI)Ljava/math/BigInteger;" } : Jvm.MethodName) prog_1_method_16_code (5 : Nat) (Option.some (Jvm.ClassFile.FieldType.object "java/math/BigInteger"))) ∈ lw_all := lw_g (lw_at lw_m2 135 rfl) rfl
theorem q415 : (Jvm.Cond.methodLink "Anglewheel" (88 : Nat) ({ cls := "java/math/BigInteger", name := "valueOf", desc := "(J)Ljava/math/BigInteger;" } : Jvm.MethodName)) ∈ lw_all := lw_g (lw_at lw_m2 136 rfl) rfl
theorem q454 : (Jvm.Cond.methodLink "Anglewheel" (94 : Nat) ({ cls := "java/math/BigInteger", name := "shiftLeft", desc := "(I)Ljava/math/BigInteger;" } : Jvm.MethodName)) ∈ lw_all := lw_g (lw_at lw_m2 175 rfl) rfl
theorem q507 : (Jvm.Cond.methodLink "Anglewheel" (114 : Nat) ({ cls := "java/math/BigInteger", name := "multiply", desc := "(Ljava/math/BigInteger;)Ljava/math/BigInteger;" } : Jvm.MethodName)) ∈ lw_all := lw_g (lw_at lw_m2 228 rfl) rfl
theorem q887 : (Jvm.Cond.methodLink "Anglewheel" (287 : Nat) ({ cls := "java/math/BigInteger", name := "add", desc := "(Ljava/math/BigInteger;)Ljava/math/BigInteger;" } : Jvm.MethodName)) ∈ lw_all := lw_g (lw_at lw_m4 128 rfl) rfl
theorem q888 : (Jvm.Cond.methodLink "Anglewheel" (290 : Nat) ({ cls := "Anglewheel", name := "isNear", desc := "(Ljava/math/BigInteger;DI)Z" } : Jvm.MethodName)) ∈ lw_all := lw_g (lw_at lw_m4 129 rfl) rfl
theorem q889 : (Jvm.Cond.static ({ cls := "Anglewheel", name := "isNear", desc := "(Ljava/math/BigInteger;DI)Z" } : Jvm.MethodName)) ∈ lw_all := lw_g (lw_at lw_m4 130 rfl) rfl
theorem q890 : (Jvm.Cond.code ({ cls := "Anglewheel", name := "isNear", desc := "(Ljava/math/BigInteger;DI)Z" } : Jvm.MethodName) prog_1_method_17_code (5 : Nat) (Option.some Jvm.ClassFile.FieldType.boolean)) ∈ lw_all := lw_g (lw_at lw_m4 131 rfl) rfl
theorem q891 : (Jvm.Cond.methodLink "Anglewheel" (102 : Nat) ({ cls := "java/math/BigInteger", name := "subtract", desc := "(Ljava/math/BigInteger;)Ljava/math/BigInteger;" } : Jvm.MethodName)) ∈ lw_all := lw_g (lw_at lw_m4 132 rfl) rfl
theorem q892 : (Jvm.Cond.methodLink "Anglewheel" (106 : Nat) ({ cls := "java/math/BigInteger", name := "abs", desc := "()Ljava/math/BigInteger;" } : Jvm.MethodName)) ∈ lw_all := lw_g (lw_at lw_m4 133 rfl) rfl
theorem q893 : (Jvm.Cond.methodLink "Anglewheel" (110 : Nat) ({ cls := "java/math/BigInteger", name := "compareTo", desc := "(Ljava/math/BigInteger;)I" } : Jvm.MethodName)) ∈ lw_all := lw_g (lw_at lw_m4 134 rfl) rfl
theorem q897 : (Jvm.Cond.methodLink "Anglewheel" (294 : Nat) ({ cls := "Anglewheel", name := "isSlopeBy", desc := "(DDD)Z" } : Jvm.MethodName)) ∈ lw_all := lw_g (lw_at lw_m4 138 rfl) rfl
theorem q898 : (Jvm.Cond.static ({ cls := "Anglewheel", name := "isSlopeBy", desc := "(DDD)Z" } : Jvm.MethodName)) ∈ lw_all := lw_g (lw_at lw_m4 139 rfl) rfl
theorem q899 : (Jvm.Cond.code ({ cls := "Anglewheel", name := "isSlopeBy", desc := "(DDD)Z" } : Jvm.MethodName) prog_1_method_73_code (6 : Nat) (Option.some Jvm.ClassFile.FieldType.boolean)) ∈ lw_all := lw_g (lw_at lw_m4 140 rfl) rfl
theorem q900 : (Jvm.Cond.methodLink "Anglewheel" (298 : Nat) ({ cls := "Anglewheel", name := "product", desc := "(DD)Ljava/math/BigInteger;" } : Jvm.MethodName)) ∈ lw_all := lw_g (lw_at lw_m4 141 rfl) rfl
theorem q901 : (Jvm.Cond.static ({ cls := "Anglewheel", name := "product", desc := "(DD)Ljava/math/BigInteger;" } : Jvm.MethodName)) ∈ lw_all := lw_g (lw_at lw_m4 142 rfl) rfl
theorem q902 : (Jvm.Cond.code ({ cls := "Anglewheel", name := "product", desc := "(DD)Ljava/math/BigInteger;" } : Jvm.MethodName) prog_1_method_18_code (4 : Nat) (Option.some (Jvm.ClassFile.FieldType.object "java/math/BigInteger"))) ∈ lw_all := lw_g (lw_at lw_m4 143 rfl) rfl
theorem q903 : (Jvm.Cond.constantDouble "Anglewheel" (172 : Nat) (4611686018427387904 : UInt64)) ∈ lw_all := lw_g (lw_at lw_m4 144 rfl) rfl
theorem q904 : (Jvm.Cond.methodLink "Anglewheel" (302 : Nat) ({ cls := "Anglewheel", name := "isTwiceBy", desc := "(IDDD)Z" } : Jvm.MethodName)) ∈ lw_all := lw_g (lw_at lw_m4 145 rfl) rfl
theorem q905 : (Jvm.Cond.static ({ cls := "Anglewheel", name := "isTwiceBy", desc := "(IDDD)Z" } : Jvm.MethodName)) ∈ lw_all := lw_g (lw_at lw_m4 146 rfl) rfl
theorem q906 : (Jvm.Cond.code ({ cls := "Anglewheel", name := "isTwiceBy", desc := "(IDDD)Z" } : Jvm.MethodName) prog_1_method_75_code (7 : Nat) (Option.some Jvm.ClassFile.FieldType.boolean)) ∈ lw_all := lw_g (lw_at lw_m4 147 rfl) rfl
theorem q907 : (Jvm.Cond.methodLink "Anglewheel" (306 : Nat) ({ cls := "Anglewheel", name := "isStep", desc := "(D)Z" } : Jvm.MethodName)) ∈ lw_all := lw_g (lw_at lw_m4 148 rfl) rfl
theorem q908 : (Jvm.Cond.static ({ cls := "Anglewheel", name := "isStep", desc := "(D)Z" } : Jvm.MethodName)) ∈ lw_all := lw_g (lw_at lw_m4 149 rfl) rfl
theorem q909 : (Jvm.Cond.code ({ cls := "Anglewheel", name := "isStep", desc := "(D)Z" } : Jvm.MethodName) prog_1_method_77_code (2 : Nat) (Option.some Jvm.ClassFile.FieldType.boolean)) ∈ lw_all := lw_g (lw_at lw_m4 150 rfl) rfl
theorem q910 : (Jvm.Cond.constantDouble "Anglewheel" (141 : Nat) (4593671619917905920 : UInt64)) ∈ lw_all := lw_g (lw_at lw_m4 151 rfl) rfl
theorem q911 : (Jvm.Cond.methodLink "Anglewheel" (309 : Nat) ({ cls := "Anglewheel", name := "isStepBy", desc := "(IDDD)Z" } : Jvm.MethodName)) ∈ lw_all := lw_g (lw_at lw_m4 152 rfl) rfl
theorem q912 : (Jvm.Cond.static ({ cls := "Anglewheel", name := "isStepBy", desc := "(IDDD)Z" } : Jvm.MethodName)) ∈ lw_all := lw_g (lw_at lw_m4 153 rfl) rfl
theorem q913 : (Jvm.Cond.code ({ cls := "Anglewheel", name := "isStepBy", desc := "(IDDD)Z" } : Jvm.MethodName) prog_1_method_78_code (11 : Nat) (Option.some Jvm.ClassFile.FieldType.boolean)) ∈ lw_all := lw_g (lw_at lw_m4 154 rfl) rfl
theorem q914 : (Jvm.Cond.fieldLink "Anglewheel" (13 : Nat) "Anglewheel" "angle" "[D") ∈ lw_all := lw_g (lw_at lw_m4 155 rfl) rfl
theorem q915 : (Jvm.Cond.fieldLink "Anglewheel" (17 : Nat) "Anglewheel" "height" "[D") ∈ lw_all := lw_g (lw_at lw_m4 156 rfl) rfl
theorem q916 : (Jvm.Cond.fieldLink "Anglewheel" (20 : Nat) "Anglewheel" "lawful" "[Z") ∈ lw_all := lw_g (lw_at lw_m4 157 rfl) rfl
theorem q917 : (Jvm.Cond.fieldLink "Anglewheel" (132 : Nat) "Anglewheel" "angleActs" "I") ∈ lw_all := lw_g (lw_at lw_m4 158 rfl) rfl
theorem q918 : (Jvm.Cond.fieldLink "Anglewheel" (243 : Nat) "Anglewheel" "heightActs" "I") ∈ lw_all := lw_g (lw_at lw_m4 159 rfl) rfl
theorem q919 : (Jvm.Cond.fieldLink "Anglewheel" (38 : Nat) "Anglewheel" "refused" "I") ∈ lw_all := lw_g (lw_at lw_m4 160 rfl) rfl
theorem q920 : (Jvm.Cond.fieldLink "Anglewheel" (316 : Nat) "Anglewheel" "knocked" "I") ∈ lw_all := lw_g (lw_at lw_m4 161 rfl) rfl
theorem q921 : (Jvm.Cond.laysFinal "Anglewheel" "Anglewheel" "angle" "[D") ∈ lw_all := lw_g (lw_at lw_m4 162 rfl) rfl
theorem q922 : (Jvm.Cond.soleField "Anglewheel" "angle") ∈ lw_all := lw_g (lw_at lw_m4 163 rfl) rfl
theorem q923 : (Jvm.Cond.laysFinal "Anglewheel" "Anglewheel" "height" "[D") ∈ lw_all := lw_g (lw_at lw_m4 164 rfl) rfl
theorem q924 : (Jvm.Cond.soleField "Anglewheel" "height") ∈ lw_all := lw_g (lw_at lw_m4 165 rfl) rfl
theorem q925 : (Jvm.Cond.laysFinal "Anglewheel" "Anglewheel" "lawful" "[Z") ∈ lw_all := lw_g (lw_at lw_m4 166 rfl) rfl
theorem q926 : (Jvm.Cond.soleField "Anglewheel" "lawful") ∈ lw_all := lw_g (lw_at lw_m4 167 rfl) rfl
theorem q927 : (Jvm.Cond.lays "Anglewheel" "Anglewheel" "angleActs" "I") ∈ lw_all := lw_g (lw_at lw_m4 168 rfl) rfl
theorem q928 : (Jvm.Cond.soleField "Anglewheel" "angleActs") ∈ lw_all := lw_g (lw_at lw_m4 169 rfl) rfl
theorem q929 : (Jvm.Cond.lays "Anglewheel" "Anglewheel" "heightActs" "I") ∈ lw_all := lw_g (lw_at lw_m4 170 rfl) rfl
theorem q930 : (Jvm.Cond.soleField "Anglewheel" "heightActs") ∈ lw_all := lw_g (lw_at lw_m4 171 rfl) rfl
theorem q931 : (Jvm.Cond.lays "Anglewheel" "Anglewheel" "refused" "I") ∈ lw_all := lw_g (lw_at lw_m4 172 rfl) rfl
theorem q932 : (Jvm.Cond.soleField "Anglewheel" "refused") ∈ lw_all := lw_g (lw_at lw_m4 173 rfl) rfl
theorem q933 : (Jvm.Cond.lays "Anglewheel" "Anglewheel" "knocked" "I") ∈ lw_all := lw_g (lw_at lw_m4 174 rfl) rfl
theorem q934 : (Jvm.Cond.soleField "Anglewheel" "knocked") ∈ lw_all := lw_g (lw_at lw_m4 175 rfl) rfl
theorem q935 : (Jvm.Cond.superclass "Anglewheel" "java/lang/Object") ∈ lw_all := lw_g (lw_at lw_m4 176 rfl) rfl
theorem q949 : (Jvm.Cond.instanceMethod ({ cls := "Anglewheel", name := "angleText", desc := "(I)Ljava/lang/String;" } : Jvm.MethodName)) ∈ lw_all := lw_g (lw_at lw_m4 190 rfl) rfl
theorem q950 : (Jvm.Cond.selects "Anglewheel" ({ cls := "Anglewheel", name := "angleText", desc := "(I)Ljava/lang/String;" } : Jvm.MethodName) ({ cls := "Anglewheel", name := "angleText", desc := "(I)Ljava/lang/String;" } : Jvm.MethodName)) ∈ lw_all := lw_g (lw_at lw_m4 191 rfl) rfl
theorem q951 : (Jvm.Cond.code ({ cls := "Anglewheel", name := "angleText", desc := "(I)Ljava/lang/String;" } : Jvm.MethodName) prog_1_method_35_code (5 : Nat) (Option.some (Jvm.ClassFile.FieldType.object "java/lang/String"))) ∈ lw_all := lw_g (lw_at lw_m4 192 rfl) rfl
theorem q952 : (Jvm.Cond.methodLink "Anglewheel" (166 : Nat) ({ cls := "Anglewheel", name := "angleAt", desc := "(I)D" } : Jvm.MethodName)) ∈ lw_all := lw_g (lw_at lw_m4 193 rfl) rfl
theorem q953 : (Jvm.Cond.privateMethod ({ cls := "Anglewheel", name := "angleAt", desc := "(I)D" } : Jvm.MethodName)) ∈ lw_tbl := lw_at lw_m4 194 rfl
theorem q954 : (Jvm.Cond.instanceMethod ({ cls := "Anglewheel", name := "angleAt", desc := "(I)D" } : Jvm.MethodName)) ∈ lw_all := lw_g (lw_at lw_m4 195 rfl) rfl
theorem q955 : (Jvm.Cond.code ({ cls := "Anglewheel", name := "angleAt", desc := "(I)D" } : Jvm.MethodName) prog_1_method_21_code (2 : Nat) (Option.some Jvm.ClassFile.FieldType.double)) ∈ lw_all := lw_g (lw_at lw_m4 196 rfl) rfl
theorem q956 : (Jvm.Cond.methodLink "Anglewheel" (128 : Nat) ({ cls := "Anglewheel", name := "mustBeCell", desc := "(I)V" } : Jvm.MethodName)) ∈ lw_all := lw_g (lw_at lw_m4 197 rfl) rfl
theorem q957 : (Jvm.Cond.static ({ cls := "Anglewheel", name := "mustBeCell", desc := "(I)V" } : Jvm.MethodName)) ∈ lw_all := lw_g (lw_at lw_m4 198 rfl) rfl
theorem q958 : (Jvm.Cond.code ({ cls := "Anglewheel", name := "mustBeCell", desc := "(I)V" } : Jvm.MethodName) prog_1_method_3_code (1 : Nat) (Option.none : Option Jvm.ClassFile.FieldType)) ∈ lw_all := lw_g (lw_at lw_m4 199 rfl) rfl
theorem q959 : (Jvm.Cond.classLink "Anglewheel" (32 : Nat) "java/lang/IndexOutOfBoundsException") ∈ lw_all := lw_g (lw_at lw_m4 200 rfl) rfl
theorem q968 : (Jvm.Cond.methodLink "Anglewheel" (34 : Nat) ({ cls := "java/lang/IndexOutOfBoundsException", name := "<init>", desc := "()V" } : Jvm.MethodName)) ∈ lw_all := lw_g (lw_at lw_m4 209 rfl) rfl
theorem q980 : (Jvm.Cond.classLink "Anglewheel" (194 : Nat) "java/lang/StringBuilder") ∈ lw_all := lw_g (lw_at lw_m4 221 rfl) rfl
theorem q981 : (Jvm.Cond.methodLink "Anglewheel" (196 : Nat) ({ cls := "java/lang/StringBuilder", name := "<init>", desc := "()V" } : Jvm.MethodName)) ∈ lw_all := lw_g (lw_at lw_m4 222 rfl) rfl
theorem q982 : (Jvm.Cond.methodLink "Anglewheel" (197 : Nat) ({ cls := "java/lang/StringBuilder", name := "append", desc := "(I)Ljava/lang/StringBuilder;" } : Jvm.MethodName)) ∈ lw_all := lw_g (lw_at lw_m4 223 rfl) rfl
theorem q983 : (Jvm.Cond.methodLink "Anglewheel" (201 : Nat) ({ cls := "java/lang/StringBuilder", name := "append", desc := "(C)Ljava/lang/StringBuilder;" } : Jvm.MethodName)) ∈ lw_all := lw_g (lw_at lw_m4 224 rfl) rfl
theorem q1005 : (Jvm.Cond.methodLink "Anglewheel" (204 : Nat) ({ cls := "java/lang/StringBuilder", name := "append", desc := "(J)Ljava/lang/StringBuilder;" } : Jvm.MethodName)) ∈ lw_all := lw_g (lw_at lw_m5 6 rfl) rfl
theorem q1032 : (Jvm.Cond.methodLink "Anglewheel" (207 : Nat) ({ cls := "java/lang/StringBuilder", name := "toString", desc := "()Ljava/lang/String;" } : Jvm.MethodName)) ∈ lw_all := lw_g (lw_at lw_m5 33 rfl) rfl
theorem q1191 : (Jvm.Cond.instanceMethod ({ cls := "Anglewheel", name := "angleUpper", desc := "(I)I" } : Jvm.MethodName)) ∈ lw_all := lw_g (lw_at lw_m5 192 rfl) rfl
theorem q1192 : (Jvm.Cond.selects "Anglewheel" ({ cls := "Anglewheel", name := "angleUpper", desc := "(I)I" } : Jvm.MethodName) ({ cls := "Anglewheel", name := "angleUpper", desc := "(I)I" } : Jvm.MethodName)) ∈ lw_all := lw_g (lw_at lw_m5 193 rfl) rfl
theorem q1193 : (Jvm.Cond.code ({ cls := "Anglewheel", name := "angleUpper", desc := "(I)I" } : Jvm.MethodName) prog_1_method_34_code (2 : Nat) (Option.some Jvm.ClassFile.FieldType.int)) ∈ lw_all := lw_g (lw_at lw_m5 194 rfl) rfl
theorem q1199 : (Jvm.Cond.instanceMethod ({ cls := "Anglewheel", name := "whole", desc := "(I)I" } : Jvm.MethodName)) ∈ lw_all := lw_g (lw_at lw_m5 200 rfl) rfl
theorem q1200 : (Jvm.Cond.selects "Anglewheel" ({ cls := "Anglewheel", name := "whole", desc := "(I)I" } : Jvm.MethodName) ({ cls := "Anglewheel", name := "whole", desc := "(I)I" } : Jvm.MethodName)) ∈ lw_all := lw_g (lw_at lw_m5 201 rfl) rfl
theorem q1201 : (Jvm.Cond.code ({ cls := "Anglewheel", name := "whole", desc := "(I)I" } : Jvm.MethodName) prog_1_method_55_code (2 : Nat) (Option.some Jvm.ClassFile.FieldType.int)) ∈ lw_all := lw_g (lw_at lw_m5 202 rfl) rfl
theorem q1202 : (Jvm.Cond.methodLink "Anglewheel" (253 : Nat) ({ cls := "Anglewheel", name := "heightAt", desc := "(I)D" } : Jvm.MethodName)) ∈ lw_all := lw_g (lw_at lw_m5 203 rfl) rfl
theorem q1203 : (Jvm.Cond.privateMethod ({ cls := "Anglewheel", name := "heightAt", desc := "(I)D" } : Jvm.MethodName)) ∈ lw_tbl := lw_at lw_m5 204 rfl
theorem q1204 : (Jvm.Cond.instanceMethod ({ cls := "Anglewheel", name := "heightAt", desc := "(I)D" } : Jvm.MethodName)) ∈ lw_all := lw_g (lw_at lw_m5 205 rfl) rfl
theorem q1205 : (Jvm.Cond.code ({ cls := "Anglewheel", name := "heightAt", desc := "(I)D" } : Jvm.MethodName) prog_1_method_44_code (2 : Nat) (Option.some Jvm.ClassFile.FieldType.double)) ∈ lw_all := lw_g (lw_at lw_m5 206 rfl) rfl
theorem q1206 : (Jvm.Cond.methodLink "Anglewheel" (262 : Nat) ({ cls := "java/math/BigInteger", name := "shiftRight", desc := "(I)Ljava/math/BigInteger;" } : Jvm.MethodName)) ∈ lw_all := lw_g (lw_at lw_m5 207 rfl) rfl
theorem q1210 : (Jvm.Cond.methodLink "Anglewheel" (265 : Nat) ({ cls := "java/math/BigInteger", name := "intValue", desc := "()I" } : Jvm.MethodName)) ∈ lw_all := lw_g (lw_at lw_m5 211 rfl) rfl
theorem q1227 : (Jvm.Cond.instanceMethod ({ cls := "Anglewheel", name := "steps", desc := "(II)I" } : Jvm.MethodName)) ∈ lw_all := lw_g (lw_at lw_m5 228 rfl) rfl
theorem q1228 : (Jvm.Cond.selects "Anglewheel" ({ cls := "Anglewheel", name := "steps", desc := "(II)I" } : Jvm.MethodName) ({ cls := "Anglewheel", name := "steps", desc := "(II)I" } : Jvm.MethodName)) ∈ lw_all := lw_g (lw_at lw_m5 229 rfl) rfl
theorem q1229 : (Jvm.Cond.code ({ cls := "Anglewheel", name := "steps", desc := "(II)I" } : Jvm.MethodName) prog_1_method_56_code (5 : Nat) (Option.some Jvm.ClassFile.FieldType.int)) ∈ lw_all := lw_g (lw_at lw_m5 230 rfl) rfl
theorem q1230 : (Jvm.Cond.methodLink "Anglewheel" (154 : Nat) ({ cls := "Anglewheel", name := "mustFit", desc := "(Z)V" } : Jvm.MethodName)) ∈ lw_all := lw_g (lw_at lw_m5 231 rfl) rfl
theorem q1231 : (Jvm.Cond.static ({ cls := "Anglewheel", name := "mustFit", desc := "(Z)V" } : Jvm.MethodName)) ∈ lw_all := lw_g (lw_at lw_m5 232 rfl) rfl
theorem q1232 : (Jvm.Cond.code ({ cls := "Anglewheel", name := "mustFit", desc := "(Z)V" } : Jvm.MethodName) prog_1_method_4_code (1 : Nat) (Option.none : Option Jvm.ClassFile.FieldType)) ∈ lw_all := lw_g (lw_at lw_m5 233 rfl) rfl
theorem q1233 : (Jvm.Cond.classLink "Anglewheel" (35 : Nat) "java/lang/IllegalArgumentException") ∈ lw_all := lw_g (lw_at lw_m5 234 rfl) rfl
theorem q1234 : (Jvm.Cond.methodLink "Anglewheel" (37 : Nat) ({ cls := "java/lang/IllegalArgumentException", name := "<init>", desc := "()V" } : Jvm.MethodName)) ∈ lw_all := lw_g (lw_at lw_m5 235 rfl) rfl
theorem q1241 : (Jvm.Cond.instanceMethod ({ cls := "Anglewheel", name := "upper", desc := "(I)I" } : Jvm.MethodName)) ∈ lw_all := lw_g (lw_at lw_m6 2 rfl) rfl
theorem q1242 : (Jvm.Cond.selects "Anglewheel" ({ cls := "Anglewheel", name := "upper", desc := "(I)I" } : Jvm.MethodName) ({ cls := "Anglewheel", name := "upper", desc := "(I)I" } : Jvm.MethodName)) ∈ lw_all := lw_g (lw_at lw_m6 3 rfl) rfl
theorem q1243 : (Jvm.Cond.code ({ cls := "Anglewheel", name := "upper", desc := "(I)I" } : Jvm.MethodName) prog_1_method_57_code (2 : Nat) (Option.some Jvm.ClassFile.FieldType.int)) ∈ lw_all := lw_g (lw_at lw_m6 4 rfl) rfl
theorem q1249 : (Jvm.Cond.instanceMethod ({ cls := "Anglewheel", name := "house", desc := "(I)I" } : Jvm.MethodName)) ∈ lw_all := lw_g (lw_at lw_m6 10 rfl) rfl
theorem q1250 : (Jvm.Cond.selects "Anglewheel" ({ cls := "Anglewheel", name := "house", desc := "(I)I" } : Jvm.MethodName) ({ cls := "Anglewheel", name := "house", desc := "(I)I" } : Jvm.MethodName)) ∈ lw_all := lw_g (lw_at lw_m6 11 rfl) rfl
theorem q1251 : (Jvm.Cond.code ({ cls := "Anglewheel", name := "house", desc := "(I)I" } : Jvm.MethodName) prog_1_method_85_code (2 : Nat) (Option.some Jvm.ClassFile.FieldType.int)) ∈ lw_all := lw_g (lw_at lw_m6 12 rfl) rfl
theorem q1257 : (Jvm.Cond.instanceMethod ({ cls := "Anglewheel", name := "digest", desc := "()J" } : Jvm.MethodName)) ∈ lw_all := lw_g (lw_at lw_m6 18 rfl) rfl
theorem q1258 : (Jvm.Cond.selects "Anglewheel" ({ cls := "Anglewheel", name := "digest", desc := "()J" } : Jvm.MethodName) ({ cls := "Anglewheel", name := "digest", desc := "()J" } : Jvm.MethodName)) ∈ lw_all := lw_g (lw_at lw_m6 19 rfl) rfl
theorem q1259 : (Jvm.Cond.code ({ cls := "Anglewheel", name := "digest", desc := "()J" } : Jvm.MethodName) prog_1_method_92_code (5 : Nat) (Option.some Jvm.ClassFile.FieldType.long)) ∈ lw_all := lw_g (lw_at lw_m6 20 rfl) rfl
theorem q1260 : (Jvm.Cond.constantLong "Anglewheel" (329 : Nat) (7675 : Int64)) ∈ lw_all := lw_g (lw_at lw_m6 21 rfl) rfl
theorem q1261 : (Jvm.Cond.methodLink "Anglewheel" (331 : Nat) ({ cls := "Anglewheel", name := "angleUpper", desc := "(I)I" } : Jvm.MethodName)) ∈ lw_all := lw_g (lw_at lw_m6 22 rfl) rfl
theorem q1262 : (Jvm.Cond.methodLink "Anglewheel" (334 : Nat) ({ cls := "Anglewheel", name := "add", desc := "(JJ)J" } : Jvm.MethodName)) ∈ lw_all := lw_g (lw_at lw_m6 23 rfl) rfl
theorem q1263 : (Jvm.Cond.static ({ cls := "Anglewheel", name := "add", desc := "(JJ)J" } : Jvm.MethodName)) ∈ lw_all := lw_g (lw_at lw_m6 24 rfl) rfl
theorem q1264 : (Jvm.Cond.code ({ cls := "Anglewheel", name := "add", desc := "(JJ)J" } : Jvm.MethodName) prog_1_method_91_code (4 : Nat) (Option.some Jvm.ClassFile.FieldType.long)) ∈ lw_all := lw_g (lw_at lw_m6 25 rfl) rfl
theorem q1265 : (Jvm.Cond.constantLong "Anglewheel" (327 : Nat) (31 : Int64)) ∈ lw_all := lw_g (lw_at lw_m6 26 rfl) rfl
theorem q1266 : (Jvm.Cond.methodLink "Anglewheel" (337 : Nat) ({ cls := "Anglewheel", name := "angleFind", desc := "(IZ)I" } : Jvm.MethodName)) ∈ lw_all := lw_g (lw_at lw_m6 27 rfl) rfl
theorem q1267 : (Jvm.Cond.instanceMethod ({ cls := "Anglewheel", name := "angleFind", desc := "(IZ)I" } : Jvm.MethodName)) ∈ lw_all := lw_g (lw_at lw_m6 28 rfl) rfl
theorem q1268 : (Jvm.Cond.selects "Anglewheel" ({ cls := "Anglewheel", name := "angleFind", desc := "(IZ)I" } : Jvm.MethodName) ({ cls := "Anglewheel", name := "angleFind", desc := "(IZ)I" } : Jvm.MethodName)) ∈ lw_all := lw_g (lw_at lw_m6 29 rfl) rfl
theorem q1269 : (Jvm.Cond.code ({ cls := "Anglewheel", name := "angleFind", desc := "(IZ)I" } : Jvm.MethodName) prog_1_method_43_code (3 : Nat) (Option.some Jvm.ClassFile.FieldType.int)) ∈ lw_all := lw_g (lw_at lw_m6 30 rfl) rfl
theorem q1270 : (Jvm.Cond.methodLink "Anglewheel" (185 : Nat) ({ cls := "Anglewheel", name := "find", desc := "([DDZ)I" } : Jvm.MethodName)) ∈ lw_all := lw_g (lw_at lw_m6 31 rfl) rfl
theorem q1271 : (Jvm.Cond.static ({ cls := "Anglewheel", name := "find", desc := "([DDZ)I" } : Jvm.MethodName)) ∈ lw_all := lw_g (lw_at lw_m6 32 rfl) rfl
theorem q1272 : (Jvm.Cond.code ({ cls := "Anglewheel", name := "find", desc := "([DDZ)I" } : Jvm.MethodName) prog_1_method_42_code (5 : Nat) (Option.some Jvm.ClassFile.FieldType.int)) ∈ lw_all := lw_g (lw_at lw_m6 33 rfl) rfl
theorem q1273 : (Jvm.Cond.methodLink "Anglewheel" (135 : Nat) ({ cls := "Anglewheel", name := "isSame", desc := "(DD)Z" } : Jvm.MethodName)) ∈ lw_all := lw_g (lw_at lw_m6 34 rfl) rfl
theorem q1274 : (Jvm.Cond.static ({ cls := "Anglewheel", name := "isSame", desc := "(DD)Z" } : Jvm.MethodName)) ∈ lw_all := lw_g (lw_at lw_m6 35 rfl) rfl
theorem q1275 : (Jvm.Cond.code ({ cls := "Anglewheel", name := "isSame", desc := "(DD)Z" } : Jvm.MethodName) prog_1_method_12_code (4 : Nat) (Option.some Jvm.ClassFile.FieldType.boolean)) ∈ lw_all := lw_g (lw_at lw_m6 36 rfl) rfl
theorem q1276 : (Jvm.Cond.methodLink "Anglewheel" (341 : Nat) ({ cls := "Anglewheel", name := "quarter", desc := "(I)I" } : Jvm.MethodName)) ∈ lw_all := lw_g (lw_at lw_m6 37 rfl) rfl
theorem q1277 : (Jvm.Cond.instanceMethod ({ cls := "Anglewheel", name := "quarter", desc := "(I)I" } : Jvm.MethodName)) ∈ lw_all := lw_g (lw_at lw_m6 38 rfl) rfl
theorem q1278 : (Jvm.Cond.selects "Anglewheel" ({ cls := "Anglewheel", name := "quarter", desc := "(I)I" } : Jvm.MethodName) ({ cls := "Anglewheel", name := "quarter", desc := "(I)I" } : Jvm.MethodName)) ∈ lw_all := lw_g (lw_at lw_m6 39 rfl) rfl
theorem q1279 : (Jvm.Cond.code ({ cls := "Anglewheel", name := "quarter", desc := "(I)I" } : Jvm.MethodName) prog_1_method_80_code (4 : Nat) (Option.some Jvm.ClassFile.FieldType.int)) ∈ lw_all := lw_g (lw_at lw_m6 40 rfl) rfl
theorem q1280 : (Jvm.Cond.methodLink "Anglewheel" (344 : Nat) ({ cls := "Anglewheel", name := "whole", desc := "(I)I" } : Jvm.MethodName)) ∈ lw_all := lw_g (lw_at lw_m6 41 rfl) rfl
theorem q1281 : (Jvm.Cond.methodLink "Anglewheel" (347 : Nat) ({ cls := "Anglewheel", name := "steps", desc := "(II)I" } : Jvm.MethodName)) ∈ lw_all := lw_g (lw_at lw_m6 42 rfl) rfl
theorem q1282 : (Jvm.Cond.methodLink "Anglewheel" (351 : Nat) ({ cls := "Anglewheel", name := "upper", desc := "(I)I" } : Jvm.MethodName)) ∈ lw_all := lw_g (lw_at lw_m6 43 rfl) rfl
theorem q1283 : (Jvm.Cond.methodLink "Anglewheel" (354 : Nat) ({ cls := "Anglewheel", name := "heightFind", desc := "(IZ)I" } : Jvm.MethodName)) ∈ lw_all := lw_g (lw_at lw_m6 44 rfl) rfl
theorem q1284 : (Jvm.Cond.instanceMethod ({ cls := "Anglewheel", name := "heightFind", desc := "(IZ)I" } : Jvm.MethodName)) ∈ lw_all := lw_g (lw_at lw_m6 45 rfl) rfl
theorem q1285 : (Jvm.Cond.selects "Anglewheel" ({ cls := "Anglewheel", name := "heightFind", desc := "(IZ)I" } : Jvm.MethodName) ({ cls := "Anglewheel", name := "heightFind", desc := "(IZ)I" } : Jvm.MethodName)) ∈ lw_all := lw_g (lw_at lw_m6 46 rfl) rfl
theorem q1286 : (Jvm.Cond.code ({ cls := "Anglewheel", name := "heightFind", desc := "(IZ)I" } : Jvm.MethodName) prog_1_method_64_code (3 : Nat) (Option.some Jvm.ClassFile.FieldType.int)) ∈ lw_all := lw_g (lw_at lw_m6 47 rfl) rfl
theorem q1287 : (Jvm.Cond.methodLink "Anglewheel" (357 : Nat) ({ cls := "Anglewheel", name := "heightOrder", desc := "(III)I" } : Jvm.MethodName)) ∈ lw_all := lw_g (lw_at lw_m6 48 rfl) rfl
theorem q1288 : (Jvm.Cond.instanceMethod ({ cls := "Anglewheel", name := "heightOrder", desc := "(III)I" } : Jvm.MethodName)) ∈ lw_all := lw_g (lw_at lw_m6 49 rfl) rfl
theorem q1289 : (Jvm.Cond.selects "Anglewheel" ({ cls := "Anglewheel", name := "heightOrder", desc := "(III)I" } : Jvm.MethodName) ({ cls := "Anglewheel", name := "heightOrder", desc := "(III)I" } : Jvm.MethodName)) ∈ lw_all := lw_g (lw_at lw_m6 50 rfl) rfl
theorem q1290 : (Jvm.Cond.code ({ cls := "Anglewheel", name := "heightOrder", desc := "(III)I" } : Jvm.MethodName) prog_1_method_60_code (8 : Nat) (Option.some Jvm.ClassFile.FieldType.int)) ∈ lw_all := lw_g (lw_at lw_m6 51 rfl) rfl
theorem q1291 : (Jvm.Cond.methodLink "Anglewheel" (211 : Nat) ({ cls := "Anglewheel", name := "orderOf", desc := "(DDI)I" } : Jvm.MethodName)) ∈ lw_all := lw_g (lw_at lw_m6 52 rfl) rfl
theorem q1292 : (Jvm.Cond.static ({ cls := "Anglewheel", name := "orderOf", desc := "(DDI)I" } : Jvm.MethodName)) ∈ lw_all := lw_g (lw_at lw_m6 53 rfl) rfl
theorem q1293 : (Jvm.Cond.code ({ cls := "Anglewheel", name := "orderOf", desc := "(DDI)I" } : Jvm.MethodName) prog_1_method_39_code (6 : Nat) (Option.some Jvm.ClassFile.FieldType.int)) ∈ lw_all := lw_g (lw_at lw_m6 54 rfl) rfl
theorem q1294 : (Jvm.Cond.methodLink "Anglewheel" (215 : Nat) ({ cls := "java/lang/Double", name := "compare", desc := "(DD)I" } : Jvm.MethodName)) ∈ lw_all := lw_g (lw_at lw_m6 55 rfl) rfl
theorem q1298 : (Jvm.Cond.methodLink "Anglewheel" (219 : Nat) ({ cls := "java/lang/Integer", name := "signum", desc := "(I)I" } : Jvm.MethodName)) ∈ lw_all := lw_g (lw_at lw_m6 59 rfl) rfl
theorem q1301 : (Jvm.Cond.methodLink "Anglewheel" (223 : Nat) ({ cls := "java/lang/Double", name := "valueOf", desc := "(D)Ljava/lang/Double;" } : Jvm.MethodName)) ∈ lw_all := lw_g (lw_at lw_m6 62 rfl) rfl
theorem q1314 : (Jvm.Cond.methodLink "Anglewheel" (226 : Nat) ({ cls := "java/lang/Double", name := "compareTo", desc := "(Ljava/lang/Double;)I" } : Jvm.MethodName)) ∈ lw_all := lw_g (lw_at lw_m6 75 rfl) rfl
theorem q1319 : (Jvm.Cond.methodLink "Anglewheel" (361 : Nat) ({ cls := "Anglewheel", name := "sizeOrder", desc := "(II)I" } : Jvm.MethodName)) ∈ lw_all := lw_g (lw_at lw_m6 80 rfl) rfl
theorem q1320 : (Jvm.Cond.instanceMethod ({ cls := "Anglewheel", name := "sizeOrder", desc := "(II)I" } : Jvm.MethodName)) ∈ lw_all := lw_g (lw_at lw_m6 81 rfl) rfl
theorem q1321 : (Jvm.Cond.selects "Anglewheel" ({ cls := "Anglewheel", name := "sizeOrder", desc := "(II)I" } : Jvm.MethodName) ({ cls := "Anglewheel", name := "sizeOrder", desc := "(II)I" } : Jvm.MethodName)) ∈ lw_all := lw_g (lw_at lw_m6 82 rfl) rfl
theorem q1322 : (Jvm.Cond.code ({ cls := "Anglewheel", name := "sizeOrder", desc := "(II)I" } : Jvm.MethodName) prog_1_method_63_code (3 : Nat) (Option.some Jvm.ClassFile.FieldType.int)) ∈ lw_all := lw_g (lw_at lw_m6 83 rfl) rfl
theorem q1323 : (Jvm.Cond.methodLink "Anglewheel" (364 : Nat) ({ cls := "Anglewheel", name := "house", desc := "(I)I" } : Jvm.MethodName)) ∈ lw_all := lw_g (lw_at lw_m6 84 rfl) rfl
theorem q1324 : (Jvm.Cond.methodLink "Anglewheel" (367 : Nat) ({ cls := "Anglewheel", name := "isSound", desc := "()Z" } : Jvm.MethodName)) ∈ lw_all := lw_g (lw_at lw_m6 85 rfl) rfl
theorem q1325 : (Jvm.Cond.instanceMethod ({ cls := "Anglewheel", name := "isSound", desc := "()Z" } : Jvm.MethodName)) ∈ lw_all := lw_g (lw_at lw_m6 86 rfl) rfl
theorem q1326 : (Jvm.Cond.selects "Anglewheel" ({ cls := "Anglewheel", name := "isSound", desc := "()Z" } : Jvm.MethodName) ({ cls := "Anglewheel", name := "isSound", desc := "()Z" } : Jvm.MethodName)) ∈ lw_all := lw_g (lw_at lw_m6 87 rfl) rfl
theorem q1327 : (Jvm.Cond.code ({ cls := "Anglewheel", name := "isSound", desc := "()Z" } : Jvm.MethodName) prog_1_method_90_code (3 : Nat) (Option.some Jvm.ClassFile.FieldType.boolean)) ∈ lw_all := lw_g (lw_at lw_m6 88 rfl) rfl
theorem q1328 : (Jvm.Cond.methodLink "Anglewheel" (319 : Nat) ({ cls := "Anglewheel", name := "areOrdered", desc := "()Z" } : Jvm.MethodName)) ∈ lw_all := lw_g (lw_at lw_m6 89 rfl) rfl
theorem q1329 : (Jvm.Cond.privateMethod ({ cls := "Anglewheel", name := "areOrdered", desc := "()Z" } : Jvm.MethodName)) ∈ lw_tbl := lw_at lw_m6 90 rfl
theorem q1330 : (Jvm.Cond.instanceMethod ({ cls := "Anglewheel", name := "areOrdered", desc := "()Z" } : Jvm.MethodName)) ∈ lw_all := lw_g (lw_at lw_m6 91 rfl) rfl
theorem q1331 : (Jvm.Cond.code ({ cls := "Anglewheel", name := "areOrdered", desc := "()Z" } : Jvm.MethodName) prog_1_method_89_code (6 : Nat) (Option.some Jvm.ClassFile.FieldType.boolean)) ∈ lw_all := lw_g (lw_at lw_m6 92 rfl) rfl
theorem q1332 : (Jvm.Cond.methodLink "Anglewheel" (323 : Nat) ({ cls := "Anglewheel", name := "areParted", desc := "(I)Z" } : Jvm.MethodName)) ∈ lw_all := lw_g (lw_at lw_m6 93 rfl) rfl
theorem q1333 : (Jvm.Cond.privateMethod ({ cls := "Anglewheel", name := "areParted", desc := "(I)Z" } : Jvm.MethodName)) ∈ lw_tbl := lw_at lw_m6 94 rfl
theorem q1334 : (Jvm.Cond.instanceMethod ({ cls := "Anglewheel", name := "areParted", desc := "(I)Z" } : Jvm.MethodName)) ∈ lw_all := lw_g (lw_at lw_m6 95 rfl) rfl
theorem q1335 : (Jvm.Cond.code ({ cls := "Anglewheel", name := "areParted", desc := "(I)Z" } : Jvm.MethodName) prog_1_method_88_code (7 : Nat) (Option.some Jvm.ClassFile.FieldType.boolean)) ∈ lw_all := lw_g (lw_at lw_m6 96 rfl) rfl
theorem q1336 : (Jvm.Cond.methodLink "Anglewheel" (249 : Nat) ({ cls := "Anglewheel", name := "answer", desc := "(ID)D" } : Jvm.MethodName)) ∈ lw_all := lw_g (lw_at lw_m6 97 rfl) rfl
theorem q1337 : (Jvm.Cond.static ({ cls := "Anglewheel", name := "answer", desc := "(ID)D" } : Jvm.MethodName)) ∈ lw_all := lw_g (lw_at lw_m6 98 rfl) rfl
theorem q1338 : (Jvm.Cond.code ({ cls := "Anglewheel", name := "answer", desc := "(ID)D" } : Jvm.MethodName) prog_1_method_20_code (3 : Nat) (Option.some Jvm.ClassFile.FieldType.double)) ∈ lw_all := lw_g (lw_at lw_m6 99 rfl) rfl
theorem q1349 : (Jvm.Cond.instanceMethod ({ cls := "Anglewheel", name := "eighths", desc := "(II)I" } : Jvm.MethodName)) ∈ lw_all := lw_g (lw_at lw_m6 110 rfl) rfl
theorem q1350 : (Jvm.Cond.selects "Anglewheel" ({ cls := "Anglewheel", name := "eighths", desc := "(II)I" } : Jvm.MethodName) ({ cls := "Anglewheel", name := "eighths", desc := "(II)I" } : Jvm.MethodName)) ∈ lw_all := lw_g (lw_at lw_m6 111 rfl) rfl
theorem q1351 : (Jvm.Cond.code ({ cls := "Anglewheel", name := "eighths", desc := "(II)I" } : Jvm.MethodName) prog_1_method_24_code (3 : Nat) (Option.some Jvm.ClassFile.FieldType.int)) ∈ lw_all := lw_g (lw_at lw_m6 112 rfl) rfl
theorem q1352 : (Jvm.Cond.constant "Anglewheel" (153 : Nat) (32768 : Int32)) ∈ lw_all := lw_g (lw_at lw_m6 113 rfl) rfl
theorem q1353 : (Jvm.Cond.methodLink "Anglewheel" (158 : Nat) ({ cls := "Anglewheel", name := "anglePut", desc := "(ID)I" } : Jvm.MethodName)) ∈ lw_all := lw_g (lw_at lw_m6 114 rfl) rfl
theorem q1354 : (Jvm.Cond.privateMethod ({ cls := "Anglewheel", name := "anglePut", desc := "(ID)I" } : Jvm.MethodName)) ∈ lw_tbl := lw_at lw_m6 115 rfl
theorem q1355 : (Jvm.Cond.instanceMethod ({ cls := "Anglewheel", name := "anglePut", desc := "(ID)I" } : Jvm.MethodName)) ∈ lw_all := lw_g (lw_at lw_m6 116 rfl) rfl
theorem q1356 : (Jvm.Cond.code ({ cls := "Anglewheel", name := "anglePut", desc := "(ID)I" } : Jvm.MethodName) prog_1_method_22_code (6 : Nat) (Option.some Jvm.ClassFile.FieldType.int)) ∈ lw_all := lw_g (lw_at lw_m6 117 rfl) rfl
theorem q1359 : (Jvm.Cond.instanceMethod ({ cls := "Anglewheel", name := "great", desc := "(IIIZ)I" } : Jvm.MethodName)) ∈ lw_all := lw_g (lw_at lw_m6 120 rfl) rfl
theorem q1360 : (Jvm.Cond.selects "Anglewheel" ({ cls := "Anglewheel", name := "great", desc := "(IIIZ)I" } : Jvm.MethodName) ({ cls := "Anglewheel", name := "great", desc := "(IIIZ)I" } : Jvm.MethodName)) ∈ lw_all := lw_g (lw_at lw_m6 121 rfl) rfl
theorem q1361 : (Jvm.Cond.code ({ cls := "Anglewheel", name := "great", desc := "(IIIZ)I" } : Jvm.MethodName) prog_1_method_25_code (7 : Nat) (Option.some Jvm.ClassFile.FieldType.int)) ∈ lw_all := lw_g (lw_at lw_m6 122 rfl) rfl
theorem q1363 : (Jvm.Cond.instanceMethod ({ cls := "Anglewheel", name := "angleSum", desc := "(III)I" } : Jvm.MethodName)) ∈ lw_all := lw_g (lw_at lw_m6 124 rfl) rfl
theorem q1364 : (Jvm.Cond.selects "Anglewheel" ({ cls := "Anglewheel", name := "angleSum", desc := "(III)I" } : Jvm.MethodName) ({ cls := "Anglewheel", name := "angleSum", desc := "(III)I" } : Jvm.MethodName)) ∈ lw_all := lw_g (lw_at lw_m6 125 rfl) rfl
theorem q1365 : (Jvm.Cond.code ({ cls := "Anglewheel", name := "angleSum", desc := "(III)I" } : Jvm.MethodName) prog_1_method_30_code (11 : Nat) (Option.some Jvm.ClassFile.FieldType.int)) ∈ lw_all := lw_g (lw_at lw_m6 126 rfl) rfl
theorem q1366 : (Jvm.Cond.methodLink "Anglewheel" (177 : Nat) ({ cls := "java/lang/Double", name := "sum", desc := "(DD)D" } : Jvm.MethodName)) ∈ lw_all := lw_g (lw_at lw_m6 127 rfl) rfl
theorem q1369 : (Jvm.Cond.methodLink "Anglewheel" (169 : Nat) ({ cls := "Anglewheel", name := "refused", desc := "()I" } : Jvm.MethodName)) ∈ lw_all := lw_g (lw_at lw_m6 130 rfl) rfl
theorem q1370 : (Jvm.Cond.privateMethod ({ cls := "Anglewheel", name := "refused", desc := "()I" } : Jvm.MethodName)) ∈ lw_tbl := lw_at lw_m6 131 rfl
theorem q1371 : (Jvm.Cond.instanceMethod ({ cls := "Anglewheel", name := "refused", desc := "()I" } : Jvm.MethodName)) ∈ lw_all := lw_g (lw_at lw_m6 132 rfl) rfl
theorem q1372 : (Jvm.Cond.code ({ cls := "Anglewheel", name := "refused", desc := "()I" } : Jvm.MethodName) prog_1_method_6_code (1 : Nat) (Option.some Jvm.ClassFile.FieldType.int)) ∈ lw_all := lw_g (lw_at lw_m6 133 rfl) rfl
theorem q1374 : (Jvm.Cond.instanceMethod ({ cls := "Anglewheel", name := "sine", desc := "(II)I" } : Jvm.MethodName)) ∈ lw_all := lw_g (lw_at lw_m6 135 rfl) rfl
theorem q1375 : (Jvm.Cond.selects "Anglewheel" ({ cls := "Anglewheel", name := "sine", desc := "(II)I" } : Jvm.MethodName) ({ cls := "Anglewheel", name := "sine", desc := "(II)I" } : Jvm.MethodName)) ∈ lw_all := lw_g (lw_at lw_m6 136 rfl) rfl
theorem q1376 : (Jvm.Cond.code ({ cls := "Anglewheel", name := "sine", desc := "(II)I" } : Jvm.MethodName) prog_1_method_46_code (3 : Nat) (Option.some Jvm.ClassFile.FieldType.int)) ∈ lw_all := lw_g (lw_at lw_m6 137 rfl) rfl
theorem q1377 : (Jvm.Cond.methodLink "Anglewheel" (246 : Nat) ({ cls := "Anglewheel", name := "heightPut", desc := "(ID)I" } : Jvm.MethodName)) ∈ lw_all := lw_g (lw_at lw_m6 138 rfl) rfl
theorem q1378 : (Jvm.Cond.privateMethod ({ cls := "Anglewheel", name := "heightPut", desc := "(ID)I" } : Jvm.MethodName)) ∈ lw_tbl := lw_at lw_m6 139 rfl
theorem q1379 : (Jvm.Cond.instanceMethod ({ cls := "Anglewheel", name := "heightPut", desc := "(ID)I" } : Jvm.MethodName)) ∈ lw_all := lw_g (lw_at lw_m6 140 rfl) rfl
theorem q1380 : (Jvm.Cond.code ({ cls := "Anglewheel", name := "heightPut", desc := "(ID)I" } : Jvm.MethodName) prog_1_method_45_code (6 : Nat) (Option.some Jvm.ClassFile.FieldType.int)) ∈ lw_all := lw_g (lw_at lw_m6 141 rfl) rfl
theorem q1382 : (Jvm.Cond.instanceMethod ({ cls := "Anglewheel", name := "fill", desc := "(I)I" } : Jvm.MethodName)) ∈ lw_all := lw_g (lw_at lw_m6 143 rfl) rfl
theorem q1383 : (Jvm.Cond.selects "Anglewheel" ({ cls := "Anglewheel", name := "fill", desc := "(I)I" } : Jvm.MethodName) ({ cls := "Anglewheel", name := "fill", desc := "(I)I" } : Jvm.MethodName)) ∈ lw_all := lw_g (lw_at lw_m6 144 rfl) rfl
theorem q1384 : (Jvm.Cond.code ({ cls := "Anglewheel", name := "fill", desc := "(I)I" } : Jvm.MethodName) prog_1_method_49_code (6 : Nat) (Option.some Jvm.ClassFile.FieldType.int)) ∈ lw_all := lw_g (lw_at lw_m6 145 rfl) rfl
theorem q1387 : (Jvm.Cond.instanceMethod ({ cls := "Anglewheel", name := "peak", desc := "(III)I" } : Jvm.MethodName)) ∈ lw_all := lw_g (lw_at lw_m6 148 rfl) rfl
theorem q1388 : (Jvm.Cond.selects "Anglewheel" ({ cls := "Anglewheel", name := "peak", desc := "(III)I" } : Jvm.MethodName) ({ cls := "Anglewheel", name := "peak", desc := "(III)I" } : Jvm.MethodName)) ∈ lw_all := lw_g (lw_at lw_m6 149 rfl) rfl
theorem q1389 : (Jvm.Cond.code ({ cls := "Anglewheel", name := "peak", desc := "(III)I" } : Jvm.MethodName) prog_1_method_82_code (10 : Nat) (Option.some Jvm.ClassFile.FieldType.int)) ∈ lw_all := lw_g (lw_at lw_m6 150 rfl) rfl
theorem q1390 : (Jvm.Cond.methodLink "Anglewheel" (312 : Nat) ({ cls := "Anglewheel", name := "mustBeRow", desc := "(III)V" } : Jvm.MethodName)) ∈ lw_all := lw_g (lw_at lw_m6 151 rfl) rfl
theorem q1391 : (Jvm.Cond.static ({ cls := "Anglewheel", name := "mustBeRow", desc := "(III)V" } : Jvm.MethodName)) ∈ lw_all := lw_g (lw_at lw_m6 152 rfl) rfl
theorem q1392 : (Jvm.Cond.code ({ cls := "Anglewheel", name := "mustBeRow", desc := "(III)V" } : Jvm.MethodName) prog_1_method_81_code (3 : Nat) (Option.none : Option Jvm.ClassFile.FieldType)) ∈ lw_all := lw_g (lw_at lw_m6 153 rfl) rfl
theorem q1394 : (Jvm.Cond.instanceMethod ({ cls := "Anglewheel", name := "crossings", desc := "(III)I" } : Jvm.MethodName)) ∈ lw_all := lw_g (lw_at lw_m6 155 rfl) rfl
theorem q1395 : (Jvm.Cond.selects "Anglewheel" ({ cls := "Anglewheel", name := "crossings", desc := "(III)I" } : Jvm.MethodName) ({ cls := "Anglewheel", name := "crossings", desc := "(III)I" } : Jvm.MethodName)) ∈ lw_all := lw_g (lw_at lw_m6 156 rfl) rfl
theorem q1396 : (Jvm.Cond.code ({ cls := "Anglewheel", name := "crossings", desc := "(III)I" } : Jvm.MethodName) prog_1_method_83_code (8 : Nat) (Option.some Jvm.ClassFile.FieldType.int)) ∈ lw_all := lw_g (lw_at lw_m6 157 rfl) rfl
theorem q1398 : (Jvm.Cond.instanceMethod ({ cls := "Anglewheel", name := "ahead", desc := "(IIII)I" } : Jvm.MethodName)) ∈ lw_all := lw_g (lw_at lw_m6 159 rfl) rfl
theorem q1399 : (Jvm.Cond.selects "Anglewheel" ({ cls := "Anglewheel", name := "ahead", desc := "(IIII)I" } : Jvm.MethodName) ({ cls := "Anglewheel", name := "ahead", desc := "(IIII)I" } : Jvm.MethodName)) ∈ lw_all := lw_g (lw_at lw_m6 160 rfl) rfl
theorem q1400 : (Jvm.Cond.code ({ cls := "Anglewheel", name := "ahead", desc := "(IIII)I" } : Jvm.MethodName) prog_1_method_84_code (9 : Nat) (Option.some Jvm.ClassFile.FieldType.int)) ∈ lw_all := lw_g (lw_at lw_m6 161 rfl) rfl
theorem q1412 : (Jvm.Cond.instanceMethod ({ cls := "Anglewheel", name := "angleTwice", desc := "(I)I" } : Jvm.MethodName)) ∈ lw_all := lw_g (lw_at lw_m6 173 rfl) rfl
theorem q1413 : (Jvm.Cond.selects "Anglewheel" ({ cls := "Anglewheel", name := "angleTwice", desc := "(I)I" } : Jvm.MethodName) ({ cls := "Anglewheel", name := "angleTwice", desc := "(I)I" } : Jvm.MethodName)) ∈ lw_all := lw_g (lw_at lw_m6 174 rfl) rfl
theorem q1414 : (Jvm.Cond.code ({ cls := "Anglewheel", name := "angleTwice", desc := "(I)I" } : Jvm.MethodName) prog_1_method_29_code (4 : Nat) (Option.some Jvm.ClassFile.FieldType.int)) ∈ lw_all := lw_g (lw_at lw_m6 175 rfl) rfl
theorem q1420 : (Jvm.Cond.instanceMethod ({ cls := "Anglewheel", name := "isAnswer", desc := "(III)Z" } : Jvm.MethodName)) ∈ lw_all := lw_g (lw_at lw_m6 181 rfl) rfl
theorem q1421 : (Jvm.Cond.selects "Anglewheel" ({ cls := "Anglewheel", name := "isAnswer", desc := "(III)Z" } : Jvm.MethodName) ({ cls := "Anglewheel", name := "isAnswer", desc := "(III)Z" } : Jvm.MethodName)) ∈ lw_all := lw_g (lw_at lw_m6 182 rfl) rfl
theorem q1422 : (Jvm.Cond.code ({ cls := "Anglewheel", name := "isAnswer", desc := "(III)Z" } : Jvm.MethodName) prog_1_method_65_code (8 : Nat) (Option.some Jvm.ClassFile.FieldType.boolean)) ∈ lw_all := lw_g (lw_at lw_m6 183 rfl) rfl
theorem q1423 : (Jvm.Cond.methodLink "Anglewheel" (239 : Nat) ({ cls := "Anglewheel", name := "isSameBy", desc := "(Ljava/lang/Double;Ljava/lang/Double;I)Z" } : Jvm.MethodName)) ∈ lw_all := lw_g (lw_at lw_m6 184 rfl) rfl
theorem q1424 : (Jvm.Cond.static ({ cls := "Anglewheel", name := "isSameBy", desc := "(Ljava/lang/Double;Ljava/lang/Double;I)Z" } : Jvm.MethodName)) ∈ lw_all := lw_g (lw_at lw_m6 185 rfl) rfl
theorem q1425 : (Jvm.Cond.code ({ cls := "Anglewheel", name := "isSameBy", desc := "(Ljava/lang/Double;Ljava/lang/Double;I)Z" } : Jvm.MethodName) prog_1_method_40_code (4 : Nat) (Option.some Jvm.ClassFile.FieldType.boolean)) ∈ lw_all := lw_g (lw_at lw_m6 186 rfl) rfl
theorem q1426 : (Jvm.Cond.methodLink "Anglewheel" (229 : Nat) ({ cls := "java/lang/Double", name := "equals", desc := "(Ljava/lang/Object;)Z" } : Jvm.MethodName)) ∈ lw_all := lw_g (lw_at lw_m6 187 rfl) rfl
theorem q1430 : (Jvm.Cond.methodLink "Anglewheel" (233 : Nat) ({ cls := "java/lang/Object", name := "equals", desc := "(Ljava/lang/Object;)Z" } : Jvm.MethodName)) ∈ lw_all := lw_g (lw_at lw_m6 191 rfl) rfl
theorem q1433 : (Jvm.Cond.selects "Anglewheel" ({ cls := "java/lang/Object", name := "equals", desc := "(Ljava/lang/Object;)Z" } : Jvm.MethodName) ({ cls := "java/lang/Object", name := "equals", desc := "(Ljava/lang/Object;)Z" } : Jvm.MethodName)) ∈ lw_all := lw_g (lw_at lw_m6 194 rfl) rfl
theorem q1454 : (Jvm.Cond.methodLink "Anglewheel" (234 : Nat) ({ cls := "java/util/Objects", name := "equals", desc := "(Ljava/lang/Object;Ljava/lang/Object;)Z" } : Jvm.MethodName)) ∈ lw_all := lw_g (lw_at lw_m6 215 rfl) rfl
theorem q1460 : (Jvm.Cond.instanceMethod ({ cls := "Anglewheel", name := "cosine", desc := "(II)I" } : Jvm.MethodName)) ∈ lw_all := lw_g (lw_at lw_m6 221 rfl) rfl
theorem q1461 : (Jvm.Cond.selects "Anglewheel" ({ cls := "Anglewheel", name := "cosine", desc := "(II)I" } : Jvm.MethodName) ({ cls := "Anglewheel", name := "cosine", desc := "(II)I" } : Jvm.MethodName)) ∈ lw_all := lw_g (lw_at lw_m6 222 rfl) rfl
theorem q1462 : (Jvm.Cond.code ({ cls := "Anglewheel", name := "cosine", desc := "(II)I" } : Jvm.MethodName) prog_1_method_47_code (3 : Nat) (Option.some Jvm.ClassFile.FieldType.int)) ∈ lw_all := lw_g (lw_at lw_m6 223 rfl) rfl
theorem q1464 : (Jvm.Cond.instanceMethod ({ cls := "Anglewheel", name := "tangent", desc := "(II)I" } : Jvm.MethodName)) ∈ lw_all := lw_g (lw_at lw_m6 225 rfl) rfl
theorem q1465 : (Jvm.Cond.selects "Anglewheel" ({ cls := "Anglewheel", name := "tangent", desc := "(II)I" } : Jvm.MethodName) ({ cls := "Anglewheel", name := "tangent", desc := "(II)I" } : Jvm.MethodName)) ∈ lw_all := lw_g (lw_at lw_m6 226 rfl) rfl
theorem q1466 : (Jvm.Cond.code ({ cls := "Anglewheel", name := "tangent", desc := "(II)I" } : Jvm.MethodName) prog_1_method_48_code (3 : Nat) (Option.some Jvm.ClassFile.FieldType.int)) ∈ lw_all := lw_g (lw_at lw_m6 227 rfl) rfl
theorem q1472 : (Jvm.Cond.instanceMethod ({ cls := "Anglewheel", name := "angleKnown", desc := "(II)I" } : Jvm.MethodName)) ∈ lw_all := lw_g (lw_at lw_m6 233 rfl) rfl
theorem q1473 : (Jvm.Cond.selects "Anglewheel" ({ cls := "Anglewheel", name := "angleKnown", desc := "(II)I" } : Jvm.MethodName) ({ cls := "Anglewheel", name := "angleKnown", desc := "(II)I" } : Jvm.MethodName)) ∈ lw_all := lw_g (lw_at lw_m6 234 rfl) rfl
theorem q1474 : (Jvm.Cond.code ({ cls := "Anglewheel", name := "angleKnown", desc := "(II)I" } : Jvm.MethodName) prog_1_method_26_code (3 : Nat) (Option.some Jvm.ClassFile.FieldType.int)) ∈ lw_all := lw_g (lw_at lw_m6 235 rfl) rfl
theorem q1475 : (Jvm.Cond.methodLink "Anglewheel" (162 : Nat) ({ cls := "Anglewheel", name := "known", desc := "(I)D" } : Jvm.MethodName)) ∈ lw_all := lw_g (lw_at lw_m6 236 rfl) rfl
theorem q1476 : (Jvm.Cond.static ({ cls := "Anglewheel", name := "known", desc := "(I)D" } : Jvm.MethodName)) ∈ lw_all := lw_g (lw_at lw_m6 237 rfl) rfl
theorem q1477 : (Jvm.Cond.code ({ cls := "Anglewheel", name := "known", desc := "(I)D" } : Jvm.MethodName) prog_1_method_23_code (1 : Nat) (Option.some Jvm.ClassFile.FieldType.double)) ∈ lw_all := lw_g (lw_at lw_m6 238 rfl) rfl
theorem q1478 : (Jvm.Cond.constantDouble "Anglewheel" (139 : Nat) (9223372036854775808 : UInt64)) ∈ lw_all := lw_g (lw_at lw_m6 239 rfl) rfl
theorem q1479 : (Jvm.Cond.constantDouble "Anglewheel" (143 : Nat) (4661225614328463360 : UInt64)) ∈ lw_all := lw_g (lw_at lw_m7 0 rfl) rfl
theorem q1480 : (Jvm.Cond.constantDouble "Anglewheel" (145 : Nat) (4832362400168542208 : UInt64)) ∈ lw_all := lw_g (lw_at lw_m7 1 rfl) rfl
theorem q1481 : (Jvm.Cond.constantDouble "Anglewheel" (147 : Nat) (4665869951444189184 : UInt64)) ∈ lw_all := lw_g (lw_at lw_m7 2 rfl) rfl
theorem q1482 : (Jvm.Cond.constantDouble "Anglewheel" (149 : Nat) (4640449242610008064 : UInt64)) ∈ lw_all := lw_g (lw_at lw_m7 3 rfl) rfl
theorem q1483 : (Jvm.Cond.constantDouble "Anglewheel" (151 : Nat) (4644952842237378560 : UInt64)) ∈ lw_all := lw_g (lw_at lw_m7 4 rfl) rfl
theorem q1498 : (Jvm.Cond.instanceMethod ({ cls := "Anglewheel", name := "angleDoublings", desc := "(I)I" } : Jvm.MethodName)) ∈ lw_all := lw_g (lw_at lw_m7 19 rfl) rfl
theorem q1499 : (Jvm.Cond.selects "Anglewheel" ({ cls := "Anglewheel", name := "angleDoublings", desc := "(I)I" } : Jvm.MethodName) ({ cls := "Anglewheel", name := "angleDoublings", desc := "(I)I" } : Jvm.MethodName)) ∈ lw_all := lw_g (lw_at lw_m7 20 rfl) rfl
theorem q1500 : (Jvm.Cond.code ({ cls := "Anglewheel", name := "angleDoublings", desc := "(I)I" } : Jvm.MethodName) prog_1_method_37_code (2 : Nat) (Option.some Jvm.ClassFile.FieldType.int)) ∈ lw_all := lw_g (lw_at lw_m7 21 rfl) rfl
theorem q1502 : (Jvm.Cond.instanceMethod ({ cls := "Anglewheel", name := "angleEighths", desc := "(I)I" } : Jvm.MethodName)) ∈ lw_all := lw_g (lw_at lw_m7 23 rfl) rfl
theorem q1503 : (Jvm.Cond.selects "Anglewheel" ({ cls := "Anglewheel", name := "angleEighths", desc := "(I)I" } : Jvm.MethodName) ({ cls := "Anglewheel", name := "angleEighths", desc := "(I)I" } : Jvm.MethodName)) ∈ lw_all := lw_g (lw_at lw_m7 24 rfl) rfl
theorem q1504 : (Jvm.Cond.code ({ cls := "Anglewheel", name := "angleEighths", desc := "(I)I" } : Jvm.MethodName) prog_1_method_36_code (2 : Nat) (Option.some Jvm.ClassFile.FieldType.int)) ∈ lw_all := lw_g (lw_at lw_m7 25 rfl) rfl
theorem q1510 : (Jvm.Cond.instanceMethod ({ cls := "Anglewheel", name := "angleSame", desc := "(III)Z" } : Jvm.MethodName)) ∈ lw_all := lw_g (lw_at lw_m7 31 rfl) rfl
theorem q1511 : (Jvm.Cond.selects "Anglewheel" ({ cls := "Anglewheel", name := "angleSame", desc := "(III)Z" } : Jvm.MethodName) ({ cls := "Anglewheel", name := "angleSame", desc := "(III)Z" } : Jvm.MethodName)) ∈ lw_all := lw_g (lw_at lw_m7 32 rfl) rfl
theorem q1512 : (Jvm.Cond.code ({ cls := "Anglewheel", name := "angleSame", desc := "(III)Z" } : Jvm.MethodName) prog_1_method_41_code (8 : Nat) (Option.some Jvm.ClassFile.FieldType.boolean)) ∈ lw_all := lw_g (lw_at lw_m7 33 rfl) rfl
theorem q1515 : (Jvm.Cond.instanceMethod ({ cls := "Anglewheel", name := "angleCopy", desc := "(II)I" } : Jvm.MethodName)) ∈ lw_all := lw_g (lw_at lw_m7 36 rfl) rfl
theorem q1516 : (Jvm.Cond.selects "Anglewheel" ({ cls := "Anglewheel", name := "angleCopy", desc := "(II)I" } : Jvm.MethodName) ({ cls := "Anglewheel", name := "angleCopy", desc := "(II)I" } : Jvm.MethodName)) ∈ lw_all := lw_g (lw_at lw_m7 37 rfl) rfl
theorem q1517 : (Jvm.Cond.code ({ cls := "Anglewheel", name := "angleCopy", desc := "(II)I" } : Jvm.MethodName) prog_1_method_31_code (3 : Nat) (Option.some Jvm.ClassFile.FieldType.int)) ∈ lw_all := lw_g (lw_at lw_m7 38 rfl) rfl
theorem q1529 : (Jvm.Cond.instanceMethod ({ cls := "Anglewheel", name := "angleTurn", desc := "(I)I" } : Jvm.MethodName)) ∈ lw_all := lw_g (lw_at lw_m7 50 rfl) rfl
theorem q1530 : (Jvm.Cond.selects "Anglewheel" ({ cls := "Anglewheel", name := "angleTurn", desc := "(I)I" } : Jvm.MethodName) ({ cls := "Anglewheel", name := "angleTurn", desc := "(I)I" } : Jvm.MethodName)) ∈ lw_all := lw_g (lw_at lw_m7 51 rfl) rfl
theorem q1531 : (Jvm.Cond.code ({ cls := "Anglewheel", name := "angleTurn", desc := "(I)I" } : Jvm.MethodName) prog_1_method_27_code (2 : Nat) (Option.some Jvm.ClassFile.FieldType.int)) ∈ lw_all := lw_g (lw_at lw_m7 52 rfl) rfl
theorem q1533 : (Jvm.Cond.instanceMethod ({ cls := "Anglewheel", name := "angleStep", desc := "(IZ)I" } : Jvm.MethodName)) ∈ lw_all := lw_g (lw_at lw_m7 54 rfl) rfl
theorem q1534 : (Jvm.Cond.selects "Anglewheel" ({ cls := "Anglewheel", name := "angleStep", desc := "(IZ)I" } : Jvm.MethodName) ({ cls := "Anglewheel", name := "angleStep", desc := "(IZ)I" } : Jvm.MethodName)) ∈ lw_all := lw_g (lw_at lw_m7 55 rfl) rfl
theorem q1535 : (Jvm.Cond.code ({ cls := "Anglewheel", name := "angleStep", desc := "(IZ)I" } : Jvm.MethodName) prog_1_method_28_code (8 : Nat) (Option.some Jvm.ClassFile.FieldType.int)) ∈ lw_all := lw_g (lw_at lw_m7 56 rfl) rfl
theorem q1537 : (Jvm.Cond.instanceMethod ({ cls := "Anglewheel", name := "angleOrder", desc := "(III)I" } : Jvm.MethodName)) ∈ lw_all := lw_g (lw_at lw_m7 58 rfl) rfl
theorem q1538 : (Jvm.Cond.selects "Anglewheel" ({ cls := "Anglewheel", name := "angleOrder", desc := "(III)I" } : Jvm.MethodName) ({ cls := "Anglewheel", name := "angleOrder", desc := "(III)I" } : Jvm.MethodName)) ∈ lw_all := lw_g (lw_at lw_m7 59 rfl) rfl
theorem q1539 : (Jvm.Cond.code ({ cls := "Anglewheel", name := "angleOrder", desc := "(III)I" } : Jvm.MethodName) prog_1_method_38_code (8 : Nat) (Option.some Jvm.ClassFile.FieldType.int)) ∈ lw_all := lw_g (lw_at lw_m7 60 rfl) rfl
theorem q1553 : (Jvm.Cond.instanceMethod ({ cls := "Anglewheel", name := "heightText", desc := "(I)Ljava/lang/String;" } : Jvm.MethodName)) ∈ lw_all := lw_g (lw_at lw_m7 74 rfl) rfl
theorem q1554 : (Jvm.Cond.selects "Anglewheel" ({ cls := "Anglewheel", name := "heightText", desc := "(I)Ljava/lang/String;" } : Jvm.MethodName) ({ cls := "Anglewheel", name := "heightText", desc := "(I)Ljava/lang/String;" } : Jvm.MethodName)) ∈ lw_all := lw_g (lw_at lw_m7 75 rfl) rfl
theorem q1555 : (Jvm.Cond.code ({ cls := "Anglewheel", name := "heightText", desc := "(I)Ljava/lang/String;" } : Jvm.MethodName) prog_1_method_59_code (5 : Nat) (Option.some (Jvm.ClassFile.FieldType.object "java/lang/String"))) ∈ lw_all := lw_g (lw_at lw_m7 76 rfl) rfl
theorem q1557 : (Jvm.Cond.instanceMethod ({ cls := "Anglewheel", name := "first", desc := "(II)I" } : Jvm.MethodName)) ∈ lw_all := lw_g (lw_at lw_m7 78 rfl) rfl
theorem q1558 : (Jvm.Cond.selects "Anglewheel" ({ cls := "Anglewheel", name := "first", desc := "(II)I" } : Jvm.MethodName) ({ cls := "Anglewheel", name := "first", desc := "(II)I" } : Jvm.MethodName)) ∈ lw_all := lw_g (lw_at lw_m7 79 rfl) rfl
theorem q1559 : (Jvm.Cond.code ({ cls := "Anglewheel", name := "first", desc := "(II)I" } : Jvm.MethodName) prog_1_method_58_code (5 : Nat) (Option.some Jvm.ClassFile.FieldType.int)) ∈ lw_all := lw_g (lw_at lw_m7 80 rfl) rfl
theorem q1563 : (Jvm.Cond.instanceMethod ({ cls := "Anglewheel", name := "heightSame", desc := "(III)Z" } : Jvm.MethodName)) ∈ lw_all := lw_g (lw_at lw_m7 84 rfl) rfl
theorem q1564 : (Jvm.Cond.selects "Anglewheel" ({ cls := "Anglewheel", name := "heightSame", desc := "(III)Z" } : Jvm.MethodName) ({ cls := "Anglewheel", name := "heightSame", desc := "(III)Z" } : Jvm.MethodName)) ∈ lw_all := lw_g (lw_at lw_m7 85 rfl) rfl
theorem q1565 : (Jvm.Cond.code ({ cls := "Anglewheel", name := "heightSame", desc := "(III)Z" } : Jvm.MethodName) prog_1_method_61_code (8 : Nat) (Option.some Jvm.ClassFile.FieldType.boolean)) ∈ lw_all := lw_g (lw_at lw_m7 86 rfl) rfl
theorem q1569 : (Jvm.Cond.instanceMethod ({ cls := "Anglewheel", name := "flip", desc := "(I)I" } : Jvm.MethodName)) ∈ lw_all := lw_g (lw_at lw_m7 90 rfl) rfl
theorem q1570 : (Jvm.Cond.selects "Anglewheel" ({ cls := "Anglewheel", name := "flip", desc := "(I)I" } : Jvm.MethodName) ({ cls := "Anglewheel", name := "flip", desc := "(I)I" } : Jvm.MethodName)) ∈ lw_all := lw_g (lw_at lw_m7 91 rfl) rfl
theorem q1571 : (Jvm.Cond.code ({ cls := "Anglewheel", name := "flip", desc := "(I)I" } : Jvm.MethodName) prog_1_method_50_code (2 : Nat) (Option.some Jvm.ClassFile.FieldType.int)) ∈ lw_all := lw_g (lw_at lw_m7 92 rfl) rfl
theorem q1573 : (Jvm.Cond.instanceMethod ({ cls := "Anglewheel", name := "isMirrored", desc := "(III)Z" } : Jvm.MethodName)) ∈ lw_all := lw_g (lw_at lw_m7 94 rfl) rfl
theorem q1574 : (Jvm.Cond.selects "Anglewheel" ({ cls := "Anglewheel", name := "isMirrored", desc := "(III)Z" } : Jvm.MethodName) ({ cls := "Anglewheel", name := "isMirrored", desc := "(III)Z" } : Jvm.MethodName)) ∈ lw_all := lw_g (lw_at lw_m7 95 rfl) rfl
theorem q1575 : (Jvm.Cond.code ({ cls := "Anglewheel", name := "isMirrored", desc := "(III)Z" } : Jvm.MethodName) prog_1_method_67_code (12 : Nat) (Option.some Jvm.ClassFile.FieldType.boolean)) ∈ lw_all := lw_g (lw_at lw_m7 96 rfl) rfl
theorem q1577 : (Jvm.Cond.instanceMethod ({ cls := "Anglewheel", name := "order", desc := "(III)I" } : Jvm.MethodName)) ∈ lw_all := lw_g (lw_at lw_m7 98 rfl) rfl
theorem q1578 : (Jvm.Cond.selects "Anglewheel" ({ cls := "Anglewheel", name := "order", desc := "(III)I" } : Jvm.MethodName) ({ cls := "Anglewheel", name := "order", desc := "(III)I" } : Jvm.MethodName)) ∈ lw_all := lw_g (lw_at lw_m7 99 rfl) rfl
theorem q1579 : (Jvm.Cond.code ({ cls := "Anglewheel", name := "order", desc := "(III)I" } : Jvm.MethodName) prog_1_method_79_code (8 : Nat) (Option.some Jvm.ClassFile.FieldType.int)) ∈ lw_all := lw_g (lw_at lw_m7 100 rfl) rfl
theorem q1581 : (Jvm.Cond.instanceMethod ({ cls := "Anglewheel", name := "isWithin", desc := "(II)Z" } : Jvm.MethodName)) ∈ lw_all := lw_g (lw_at lw_m7 102 rfl) rfl
theorem q1582 : (Jvm.Cond.selects "Anglewheel" ({ cls := "Anglewheel", name := "isWithin", desc := "(II)Z" } : Jvm.MethodName) ({ cls := "Anglewheel", name := "isWithin", desc := "(II)Z" } : Jvm.MethodName)) ∈ lw_all := lw_g (lw_at lw_m7 103 rfl) rfl
theorem q1583 : (Jvm.Cond.code ({ cls := "Anglewheel", name := "isWithin", desc := "(II)Z" } : Jvm.MethodName) prog_1_method_68_code (5 : Nat) (Option.some Jvm.ClassFile.FieldType.boolean)) ∈ lw_all := lw_g (lw_at lw_m7 104 rfl) rfl
theorem q1585 : (Jvm.Cond.instanceMethod ({ cls := "Anglewheel", name := "isRound", desc := "(I)Z" } : Jvm.MethodName)) ∈ lw_all := lw_g (lw_at lw_m7 106 rfl) rfl
theorem q1586 : (Jvm.Cond.selects "Anglewheel" ({ cls := "Anglewheel", name := "isRound", desc := "(I)Z" } : Jvm.MethodName) ({ cls := "Anglewheel", name := "isRound", desc := "(I)Z" } : Jvm.MethodName)) ∈ lw_all := lw_g (lw_at lw_m7 107 rfl) rfl
theorem q1587 : (Jvm.Cond.code ({ cls := "Anglewheel", name := "isRound", desc := "(I)Z" } : Jvm.MethodName) prog_1_method_70_code (4 : Nat) (Option.some Jvm.ClassFile.FieldType.boolean)) ∈ lw_all := lw_g (lw_at lw_m7 108 rfl) rfl
theorem q1589 : (Jvm.Cond.instanceMethod ({ cls := "Anglewheel", name := "isSlope", desc := "(I)Z" } : Jvm.MethodName)) ∈ lw_all := lw_g (lw_at lw_m7 110 rfl) rfl
theorem q1590 : (Jvm.Cond.selects "Anglewheel" ({ cls := "Anglewheel", name := "isSlope", desc := "(I)Z" } : Jvm.MethodName) ({ cls := "Anglewheel", name := "isSlope", desc := "(I)Z" } : Jvm.MethodName)) ∈ lw_all := lw_g (lw_at lw_m7 111 rfl) rfl
theorem q1591 : (Jvm.Cond.code ({ cls := "Anglewheel", name := "isSlope", desc := "(I)Z" } : Jvm.MethodName) prog_1_method_72_code (4 : Nat) (Option.some Jvm.ClassFile.FieldType.boolean)) ∈ lw_all := lw_g (lw_at lw_m7 112 rfl) rfl
theorem q1593 : (Jvm.Cond.instanceMethod ({ cls := "Anglewheel", name := "holdsTwice", desc := "(II)I" } : Jvm.MethodName)) ∈ lw_all := lw_g (lw_at lw_m7 114 rfl) rfl
theorem q1594 : (Jvm.Cond.selects "Anglewheel" ({ cls := "Anglewheel", name := "holdsTwice", desc := "(II)I" } : Jvm.MethodName) ({ cls := "Anglewheel", name := "holdsTwice", desc := "(II)I" } : Jvm.MethodName)) ∈ lw_all := lw_g (lw_at lw_m7 115 rfl) rfl
theorem q1595 : (Jvm.Cond.code ({ cls := "Anglewheel", name := "holdsTwice", desc := "(II)I" } : Jvm.MethodName) prog_1_method_74_code (5 : Nat) (Option.some Jvm.ClassFile.FieldType.int)) ∈ lw_all := lw_g (lw_at lw_m7 116 rfl) rfl
theorem q1597 : (Jvm.Cond.instanceMethod ({ cls := "Anglewheel", name := "holdsStep", desc := "(II)I" } : Jvm.MethodName)) ∈ lw_all := lw_g (lw_at lw_m7 118 rfl) rfl
theorem q1598 : (Jvm.Cond.selects "Anglewheel" ({ cls := "Anglewheel", name := "holdsStep", desc := "(II)I" } : Jvm.MethodName) ({ cls := "Anglewheel", name := "holdsStep", desc := "(II)I" } : Jvm.MethodName)) ∈ lw_all := lw_g (lw_at lw_m7 119 rfl) rfl
theorem q1599 : (Jvm.Cond.code ({ cls := "Anglewheel", name := "holdsStep", desc := "(II)I" } : Jvm.MethodName) prog_1_method_76_code (5 : Nat) (Option.some Jvm.ClassFile.FieldType.int)) ∈ lw_all := lw_g (lw_at lw_m7 120 rfl) rfl
theorem q1667 : (Jvm.Cond.instanceMethod ({ cls := "Anglewheel", name := "angleSort", desc := "()I" } : Jvm.MethodName)) ∈ lw_all := lw_g (lw_at lw_m7 188 rfl) rfl
theorem q1668 : (Jvm.Cond.selects "Anglewheel" ({ cls := "Anglewheel", name := "angleSort", desc := "()I" } : Jvm.MethodName) ({ cls := "Anglewheel", name := "angleSort", desc := "()I" } : Jvm.MethodName)) ∈ lw_all := lw_g (lw_at lw_m7 189 rfl) rfl
theorem q1669 : (Jvm.Cond.code ({ cls := "Anglewheel", name := "angleSort", desc := "()I" } : Jvm.MethodName) prog_1_method_32_code (5 : Nat) (Option.some Jvm.ClassFile.FieldType.int)) ∈ lw_all := lw_g (lw_at lw_m7 190 rfl) rfl
theorem q1670 : (Jvm.Cond.methodLink "Anglewheel" (181 : Nat) ({ cls := "Anglewheel", name := "sort", desc := "([D[D)I" } : Jvm.MethodName)) ∈ lw_all := lw_g (lw_at lw_m7 191 rfl) rfl
theorem q1671 : (Jvm.Cond.static ({ cls := "Anglewheel", name := "sort", desc := "([D[D)I" } : Jvm.MethodName)) ∈ lw_all := lw_g (lw_at lw_m7 192 rfl) rfl
theorem q1672 : (Jvm.Cond.code ({ cls := "Anglewheel", name := "sort", desc := "([D[D)I" } : Jvm.MethodName) prog_1_method_33_code (4 : Nat) (Option.some Jvm.ClassFile.FieldType.int)) ∈ lw_all := lw_g (lw_at lw_m7 193 rfl) rfl
theorem q1673 : (Jvm.Cond.methodLink "Anglewheel" (189 : Nat) ({ cls := "java/util/Arrays", name := "sort", desc := "([D)V" } : Jvm.MethodName)) ∈ lw_all := lw_g (lw_at lw_m7 194 rfl) rfl
theorem q1713 : (Jvm.Cond.instanceMethod ({ cls := "Anglewheel", name := "heightMax", desc := "(III)I" } : Jvm.MethodName)) ∈ lw_all := lw_g (lw_at lw_m7 234 rfl) rfl
theorem q1714 : (Jvm.Cond.selects "Anglewheel" ({ cls := "Anglewheel", name := "heightMax", desc := "(III)I" } : Jvm.MethodName) ({ cls := "Anglewheel", name := "heightMax", desc := "(III)I" } : Jvm.MethodName)) ∈ lw_all := lw_g (lw_at lw_m7 235 rfl) rfl
theorem q1715 : (Jvm.Cond.code ({ cls := "Anglewheel", name := "heightMax", desc := "(III)I" } : Jvm.MethodName) prog_1_method_51_code (4 : Nat) (Option.some Jvm.ClassFile.FieldType.int)) ∈ lw_all := lw_g (lw_at lw_m7 236 rfl) rfl
theorem q1716 : (Jvm.Cond.methodLink "Anglewheel" (256 : Nat) ({ cls := "java/lang/Double", name := "max", desc := "(DD)D" } : Jvm.MethodName)) ∈ lw_all := lw_g (lw_at lw_m7 237 rfl) rfl
theorem q1729 : (Jvm.Cond.instanceMethod ({ cls := "Anglewheel", name := "heightBelow", desc := "(IIZ)Z" } : Jvm.MethodName)) ∈ lw_all := lw_g (lw_at lw_m8 10 rfl) rfl
theorem q1730 : (Jvm.Cond.selects "Anglewheel" ({ cls := "Anglewheel", name := "heightBelow", desc := "(IIZ)Z" } : Jvm.MethodName) ({ cls := "Anglewheel", name := "heightBelow", desc := "(IIZ)Z" } : Jvm.MethodName)) ∈ lw_all := lw_g (lw_at lw_m8 11 rfl) rfl
theorem q1731 : (Jvm.Cond.code ({ cls := "Anglewheel", name := "heightBelow", desc := "(IIZ)Z" } : Jvm.MethodName) prog_1_method_62_code (8 : Nat) (Option.some Jvm.ClassFile.FieldType.boolean)) ∈ lw_all := lw_g (lw_at lw_m8 12 rfl) rfl
theorem q1738 : (Jvm.Cond.instanceMethod ({ cls := "Anglewheel", name := "heightSort", desc := "()I" } : Jvm.MethodName)) ∈ lw_all := lw_g (lw_at lw_m8 19 rfl) rfl
theorem q1739 : (Jvm.Cond.selects "Anglewheel" ({ cls := "Anglewheel", name := "heightSort", desc := "()I" } : Jvm.MethodName) ({ cls := "Anglewheel", name := "heightSort", desc := "()I" } : Jvm.MethodName)) ∈ lw_all := lw_g (lw_at lw_m8 20 rfl) rfl
theorem q1740 : (Jvm.Cond.code ({ cls := "Anglewheel", name := "heightSort", desc := "()I" } : Jvm.MethodName) prog_1_method_54_code (1 : Nat) (Option.some Jvm.ClassFile.FieldType.int)) ∈ lw_all := lw_g (lw_at lw_m8 21 rfl) rfl
theorem q1742 : (Jvm.Cond.instanceMethod ({ cls := "Anglewheel", name := "heightMin", desc := "(III)I" } : Jvm.MethodName)) ∈ lw_all := lw_g (lw_at lw_m8 23 rfl) rfl
theorem q1743 : (Jvm.Cond.selects "Anglewheel" ({ cls := "Anglewheel", name := "heightMin", desc := "(III)I" } : Jvm.MethodName) ({ cls := "Anglewheel", name := "heightMin", desc := "(III)I" } : Jvm.MethodName)) ∈ lw_all := lw_g (lw_at lw_m8 24 rfl) rfl
theorem q1744 : (Jvm.Cond.code ({ cls := "Anglewheel", name := "heightMin", desc := "(III)I" } : Jvm.MethodName) prog_1_method_52_code (4 : Nat) (Option.some Jvm.ClassFile.FieldType.int)) ∈ lw_all := lw_g (lw_at lw_m8 25 rfl) rfl
theorem q1745 : (Jvm.Cond.methodLink "Anglewheel" (259 : Nat) ({ cls := "java/lang/Double", name := "min", desc := "(DD)D" } : Jvm.MethodName)) ∈ lw_all := lw_g (lw_at lw_m8 26 rfl) rfl
theorem q1752 : (Jvm.Cond.instanceMethod ({ cls := "Anglewheel", name := "heightEnd", desc := "(ZI)I" } : Jvm.MethodName)) ∈ lw_all := lw_g (lw_at lw_m8 33 rfl) rfl
theorem q1753 : (Jvm.Cond.selects "Anglewheel" ({ cls := "Anglewheel", name := "heightEnd", desc := "(ZI)I" } : Jvm.MethodName) ({ cls := "Anglewheel", name := "heightEnd", desc := "(ZI)I" } : Jvm.MethodName)) ∈ lw_all := lw_g (lw_at lw_m8 34 rfl) rfl
theorem q1754 : (Jvm.Cond.code ({ cls := "Anglewheel", name := "heightEnd", desc := "(ZI)I" } : Jvm.MethodName) prog_1_method_53_code (10 : Nat) (Option.some Jvm.ClassFile.FieldType.int)) ∈ lw_all := lw_g (lw_at lw_m8 35 rfl) rfl
theorem q1770 : (Jvm.Cond.instanceMethod ({ cls := "Anglewheel", name := "knock", desc := "()I" } : Jvm.MethodName)) ∈ lw_all := lw_g (lw_at lw_m8 51 rfl) rfl
theorem q1771 : (Jvm.Cond.selects "Anglewheel" ({ cls := "Anglewheel", name := "knock", desc := "()I" } : Jvm.MethodName) ({ cls := "Anglewheel", name := "knock", desc := "()I" } : Jvm.MethodName)) ∈ lw_all := lw_g (lw_at lw_m8 52 rfl) rfl
theorem q1772 : (Jvm.Cond.code ({ cls := "Anglewheel", name := "knock", desc := "()I" } : Jvm.MethodName) prog_1_method_86_code (1 : Nat) (Option.some Jvm.ClassFile.FieldType.int)) ∈ lw_all := lw_g (lw_at lw_m8 53 rfl) rfl
theorem in_X1 : ∀ w ∈ wsX10, w ∈ lw_all := lw_in wsX10 [921, 923, 925, 927, 929, 931, 933] (by decide +kernel) (by decide +kernel)
