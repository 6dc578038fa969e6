/-! WellOfTheSilent -/
set_option maxRecDepth 100000
def RX0 : String := "WellOfTheSilent"
def TX0 : u_T := fun k => match k with
  | 0 => ("WellOfTheSilent", "kinds", "[LWellOfTheSilent$Kind;", true)
  | 1 => ("WellOfTheSilent", "hill0", "LWellOfTheSilent$Hill;", true)
  | 2 => ("WellOfTheSilent", "mind", "LWellOfTheSilent$Hill;", true)
  | 3 => ("WellOfTheSilent", "imaged", "LWellOfTheSilent$Hill;", true)
  | 4 => ("WellOfTheSilent", "hasImage", "Z", false)
  | 5 => ("WellOfTheSilent", "row", "[B", true)
  | 6 => ("WellOfTheSilent", "rowMany", "I", false)
  | 7 => ("WellOfTheSilent", "letters", "[C", true)
  | 8 => ("WellOfTheSilent", "letterMany", "I", false)
  | 9 => ("WellOfTheSilent", "refused", "[I", true)
  | 10 => ("WellOfTheSilent", "oneHas", "[I", true)
  | _ => ("WellOfTheSilent", "otherHas", "[I", true)
def tyX0 : Nat → FieldType := fun k => match k with
  | 0 => .array (.object "WellOfTheSilent$Kind")
  | 1 => .object "WellOfTheSilent$Hill"
  | 2 => .object "WellOfTheSilent$Hill"
  | 3 => .object "WellOfTheSilent$Hill"
  | 4 => .boolean
  | 5 => .array .byte
  | 6 => .int
  | 7 => .array .char
  | 8 => .int
  | 9 => .array .int
  | 10 => .array .int
  | _ => .array .int
abbrev wsX00 : List Cond := u_ws RX0 TX0 12
theorem nmX0 : ∀ a, a < 12 → ∀ b, b < 12 → a ≠ b → (TX0 a).2.1 ≠ (TX0 b).2.1 := by decide +kernel
theorem tyX0_ok : ∀ k, k < 12 → parseFieldDescriptor (TX0 k).2.2.1 = some (tyX0 k) := by decide +kernel
abbrev cX0_init : ByteArray := prog_1_method_9_code
def yX0_init : MethodName := ⟨RX0, "<init>", "()V"⟩
def dkwX0_init_6 : List UInt8 := [188, 10, 181, 0, 78, 177]
abbrev dktX0_init_6 : List UInt8 := dkwX0_init_6 ++ []
def dkwX0_init_5 : List UInt8 := [16, 96, 188, 5, 181, 0, 67, 42, 16, 7, 188, 10, 181, 0, 71, 42, 7, 188, 10, 181, 0, 75, 42, 7]
abbrev dktX0_init_5 : List UInt8 := dkwX0_init_5 ++ dktX0_init_6
def dkwX0_init_4 : List UInt8 := [181, 0, 57, 42, 187, 0, 50, 89, 183, 0, 52, 181, 0, 60, 42, 16, 16, 188, 8, 181, 0, 63, 42]
abbrev dktX0_init_4 : List UInt8 := dkwX0_init_4 ++ dktX0_init_5
def dkwX0_init_3 : List UInt8 := [181, 0, 46, 42, 187, 0, 50, 89, 183, 0, 52, 181, 0, 53, 42, 187, 0, 50, 89, 183, 0, 52]
abbrev dktX0_init_3 : List UInt8 := dkwX0_init_3 ++ dktX0_init_4
def dkwX0_init_2 : List UInt8 := [183, 0, 39, 83, 89, 7, 187, 0, 40, 89, 183, 0, 42, 83, 89, 8, 187, 0, 43, 89, 183, 0, 45, 83]
abbrev dktX0_init_2 : List UInt8 := dkwX0_init_2 ++ dktX0_init_3
def dkwX0_init_1 : List UInt8 := [187, 0, 31, 89, 183, 0, 33, 83, 89, 5, 187, 0, 34, 89, 183, 0, 36, 83, 89, 6, 187, 0, 37, 89]
abbrev dktX0_init_1 : List UInt8 := dkwX0_init_1 ++ dktX0_init_2
def dkwX0_init_0 : List UInt8 := [42, 183, 0, 21, 42, 16, 6, 189, 0, 26, 89, 3, 187, 0, 28, 89, 183, 0, 30, 83, 89, 4]
abbrev dktX0_init_0 : List UInt8 := dkwX0_init_0 ++ dktX0_init_1
theorem dksX0_init_0 : cX0_init.data.toList.drop 0 = dktX0_init_0 := by decide +kernel
theorem dksX0_init_1 : cX0_init.data.toList.drop 22 = dktX0_init_1 := dk_seg dksX0_init_0 22 rfl rfl
theorem dksX0_init_2 : cX0_init.data.toList.drop 46 = dktX0_init_2 := dk_seg dksX0_init_1 24 rfl rfl
theorem dksX0_init_3 : cX0_init.data.toList.drop 70 = dktX0_init_3 := dk_seg dksX0_init_2 24 rfl rfl
theorem dksX0_init_4 : cX0_init.data.toList.drop 92 = dktX0_init_4 := dk_seg dksX0_init_3 22 rfl rfl
theorem dksX0_init_5 : cX0_init.data.toList.drop 115 = dktX0_init_5 := dk_seg dksX0_init_4 23 rfl rfl
theorem dksX0_init_6 : cX0_init.data.toList.drop 139 = dktX0_init_6 := dk_seg dksX0_init_5 24 rfl rfl
theorem dX0_init_0 : decode cX0_init 0 = .ok (.aload_n 0, 1) := dk_42 (dk_at dksX0_init_0 0 rfl rfl)
theorem dX0_init_1 : decode cX0_init 1 = .ok (.invokespecial 21, 3) := dk_183 0 21 (dk_at dksX0_init_0 1 rfl rfl)
theorem dX0_init_4 : decode cX0_init 4 = .ok (.aload_n 0, 1) := dk_42 (dk_at dksX0_init_0 4 rfl rfl)
theorem dX0_init_5 : decode cX0_init 5 = .ok (.bipush 6, 2) := dk_16 6 (dk_at dksX0_init_0 5 rfl rfl)
theorem dX0_init_7 : decode cX0_init 7 = .ok (.anewarray 26, 3) := dk_189 0 26 (dk_at dksX0_init_0 7 rfl rfl)
theorem dX0_init_10 : decode cX0_init 10 = .ok (.dup, 1) := dk_89 (dk_at dksX0_init_0 10 rfl rfl)
theorem dX0_init_11 : decode cX0_init 11 = .ok (.iconst 0, 1) := dk_3 (dk_at dksX0_init_0 11 rfl rfl)
theorem dX0_init_12 : decode cX0_init 12 = .ok (.new 28, 3) := dk_187 0 28 (dk_at dksX0_init_0 12 rfl rfl)
theorem dX0_init_15 : decode cX0_init 15 = .ok (.dup, 1) := dk_89 (dk_at dksX0_init_0 15 rfl rfl)
theorem dX0_init_16 : decode cX0_init 16 = .ok (.invokespecial 30, 3) := dk_183 0 30 (dk_at dksX0_init_0 16 rfl rfl)
theorem dX0_init_19 : decode cX0_init 19 = .ok (.aastore, 1) := dk_83 (dk_at dksX0_init_0 19 rfl rfl)
theorem dX0_init_20 : decode cX0_init 20 = .ok (.dup, 1) := dk_89 (dk_at dksX0_init_0 20 rfl rfl)
theorem dX0_init_21 : decode cX0_init 21 = .ok (.iconst 1, 1) := dk_4 (dk_at dksX0_init_0 21 rfl rfl)
theorem dX0_init_22 : decode cX0_init 22 = .ok (.new 31, 3) := dk_187 0 31 (dk_at dksX0_init_1 0 rfl rfl)
theorem dX0_init_25 : decode cX0_init 25 = .ok (.dup, 1) := dk_89 (dk_at dksX0_init_1 3 rfl rfl)
theorem dX0_init_26 : decode cX0_init 26 = .ok (.invokespecial 33, 3) := dk_183 0 33 (dk_at dksX0_init_1 4 rfl rfl)
theorem dX0_init_29 : decode cX0_init 29 = .ok (.aastore, 1) := dk_83 (dk_at dksX0_init_1 7 rfl rfl)
theorem dX0_init_30 : decode cX0_init 30 = .ok (.dup, 1) := dk_89 (dk_at dksX0_init_1 8 rfl rfl)
theorem dX0_init_31 : decode cX0_init 31 = .ok (.iconst 2, 1) := dk_5 (dk_at dksX0_init_1 9 rfl rfl)
theorem dX0_init_32 : decode cX0_init 32 = .ok (.new 34, 3) := dk_187 0 34 (dk_at dksX0_init_1 10 rfl rfl)
theorem dX0_init_35 : decode cX0_init 35 = .ok (.dup, 1) := dk_89 (dk_at dksX0_init_1 13 rfl rfl)
theorem dX0_init_36 : decode cX0_init 36 = .ok (.invokespecial 36, 3) := dk_183 0 36 (dk_at dksX0_init_1 14 rfl rfl)
theorem dX0_init_39 : decode cX0_init 39 = .ok (.aastore, 1) := dk_83 (dk_at dksX0_init_1 17 rfl rfl)
theorem dX0_init_40 : decode cX0_init 40 = .ok (.dup, 1) := dk_89 (dk_at dksX0_init_1 18 rfl rfl)
theorem dX0_init_41 : decode cX0_init 41 = .ok (.iconst 3, 1) := dk_6 (dk_at dksX0_init_1 19 rfl rfl)
theorem dX0_init_42 : decode cX0_init 42 = .ok (.new 37, 3) := dk_187 0 37 (dk_at dksX0_init_1 20 rfl rfl)
theorem dX0_init_45 : decode cX0_init 45 = .ok (.dup, 1) := dk_89 (dk_at dksX0_init_1 23 rfl rfl)
theorem dX0_init_46 : decode cX0_init 46 = .ok (.invokespecial 39, 3) := dk_183 0 39 (dk_at dksX0_init_2 0 rfl rfl)
theorem dX0_init_49 : decode cX0_init 49 = .ok (.aastore, 1) := dk_83 (dk_at dksX0_init_2 3 rfl rfl)
theorem dX0_init_50 : decode cX0_init 50 = .ok (.dup, 1) := dk_89 (dk_at dksX0_init_2 4 rfl rfl)
theorem dX0_init_51 : decode cX0_init 51 = .ok (.iconst 4, 1) := dk_7 (dk_at dksX0_init_2 5 rfl rfl)
theorem dX0_init_52 : decode cX0_init 52 = .ok (.new 40, 3) := dk_187 0 40 (dk_at dksX0_init_2 6 rfl rfl)
theorem dX0_init_55 : decode cX0_init 55 = .ok (.dup, 1) := dk_89 (dk_at dksX0_init_2 9 rfl rfl)
theorem dX0_init_56 : decode cX0_init 56 = .ok (.invokespecial 42, 3) := dk_183 0 42 (dk_at dksX0_init_2 10 rfl rfl)
theorem dX0_init_59 : decode cX0_init 59 = .ok (.aastore, 1) := dk_83 (dk_at dksX0_init_2 13 rfl rfl)
theorem dX0_init_60 : decode cX0_init 60 = .ok (.dup, 1) := dk_89 (dk_at dksX0_init_2 14 rfl rfl)
theorem dX0_init_61 : decode cX0_init 61 = .ok (.iconst 5, 1) := dk_8 (dk_at dksX0_init_2 15 rfl rfl)
theorem dX0_init_62 : decode cX0_init 62 = .ok (.new 43, 3) := dk_187 0 43 (dk_at dksX0_init_2 16 rfl rfl)
theorem dX0_init_65 : decode cX0_init 65 = .ok (.dup, 1) := dk_89 (dk_at dksX0_init_2 19 rfl rfl)
theorem dX0_init_66 : decode cX0_init 66 = .ok (.invokespecial 45, 3) := dk_183 0 45 (dk_at dksX0_init_2 20 rfl rfl)
theorem dX0_init_69 : decode cX0_init 69 = .ok (.aastore, 1) := dk_83 (dk_at dksX0_init_2 23 rfl rfl)
theorem dX0_init_70 : decode cX0_init 70 = .ok (.putfield 46, 3) := dk_181 0 46 (dk_at dksX0_init_3 0 rfl rfl)
theorem dX0_init_73 : decode cX0_init 73 = .ok (.aload_n 0, 1) := dk_42 (dk_at dksX0_init_3 3 rfl rfl)
theorem dX0_init_74 : decode cX0_init 74 = .ok (.new 50, 3) := dk_187 0 50 (dk_at dksX0_init_3 4 rfl rfl)
theorem dX0_init_77 : decode cX0_init 77 = .ok (.dup, 1) := dk_89 (dk_at dksX0_init_3 7 rfl rfl)
theorem dX0_init_78 : decode cX0_init 78 = .ok (.invokespecial 52, 3) := dk_183 0 52 (dk_at dksX0_init_3 8 rfl rfl)
theorem dX0_init_81 : decode cX0_init 81 = .ok (.putfield 53, 3) := dk_181 0 53 (dk_at dksX0_init_3 11 rfl rfl)
theorem dX0_init_84 : decode cX0_init 84 = .ok (.aload_n 0, 1) := dk_42 (dk_at dksX0_init_3 14 rfl rfl)
theorem dX0_init_85 : decode cX0_init 85 = .ok (.new 50, 3) := dk_187 0 50 (dk_at dksX0_init_3 15 rfl rfl)
theorem dX0_init_88 : decode cX0_init 88 = .ok (.dup, 1) := dk_89 (dk_at dksX0_init_3 18 rfl rfl)
theorem dX0_init_89 : decode cX0_init 89 = .ok (.invokespecial 52, 3) := dk_183 0 52 (dk_at dksX0_init_3 19 rfl rfl)
theorem dX0_init_92 : decode cX0_init 92 = .ok (.putfield 57, 3) := dk_181 0 57 (dk_at dksX0_init_4 0 rfl rfl)
theorem dX0_init_95 : decode cX0_init 95 = .ok (.aload_n 0, 1) := dk_42 (dk_at dksX0_init_4 3 rfl rfl)
theorem dX0_init_96 : decode cX0_init 96 = .ok (.new 50, 3) := dk_187 0 50 (dk_at dksX0_init_4 4 rfl rfl)
theorem dX0_init_99 : decode cX0_init 99 = .ok (.dup, 1) := dk_89 (dk_at dksX0_init_4 7 rfl rfl)
theorem dX0_init_100 : decode cX0_init 100 = .ok (.invokespecial 52, 3) := dk_183 0 52 (dk_at dksX0_init_4 8 rfl rfl)
theorem dX0_init_103 : decode cX0_init 103 = .ok (.putfield 60, 3) := dk_181 0 60 (dk_at dksX0_init_4 11 rfl rfl)
theorem dX0_init_106 : decode cX0_init 106 = .ok (.aload_n 0, 1) := dk_42 (dk_at dksX0_init_4 14 rfl rfl)
theorem dX0_init_107 : decode cX0_init 107 = .ok (.bipush 16, 2) := dk_16 16 (dk_at dksX0_init_4 15 rfl rfl)
theorem dX0_init_109 : decode cX0_init 109 = .ok (.newarray .byte, 2) := dk_188_8 (dk_at dksX0_init_4 17 rfl rfl)
theorem dX0_init_111 : decode cX0_init 111 = .ok (.putfield 63, 3) := dk_181 0 63 (dk_at dksX0_init_4 19 rfl rfl)
theorem dX0_init_114 : decode cX0_init 114 = .ok (.aload_n 0, 1) := dk_42 (dk_at dksX0_init_4 22 rfl rfl)
theorem dX0_init_115 : decode cX0_init 115 = .ok (.bipush 96, 2) := dk_16 96 (dk_at dksX0_init_5 0 rfl rfl)
theorem dX0_init_117 : decode cX0_init 117 = .ok (.newarray .char, 2) := dk_188_5 (dk_at dksX0_init_5 2 rfl rfl)
theorem dX0_init_119 : decode cX0_init 119 = .ok (.putfield 67, 3) := dk_181 0 67 (dk_at dksX0_init_5 4 rfl rfl)
theorem dX0_init_122 : decode cX0_init 122 = .ok (.aload_n 0, 1) := dk_42 (dk_at dksX0_init_5 7 rfl rfl)
theorem dX0_init_123 : decode cX0_init 123 = .ok (.bipush 7, 2) := dk_16 7 (dk_at dksX0_init_5 8 rfl rfl)
theorem dX0_init_125 : decode cX0_init 125 = .ok (.newarray .int, 2) := dk_188_10 (dk_at dksX0_init_5 10 rfl rfl)
theorem dX0_init_127 : decode cX0_init 127 = .ok (.putfield 71, 3) := dk_181 0 71 (dk_at dksX0_init_5 12 rfl rfl)
theorem dX0_init_130 : decode cX0_init 130 = .ok (.aload_n 0, 1) := dk_42 (dk_at dksX0_init_5 15 rfl rfl)
theorem dX0_init_131 : decode cX0_init 131 = .ok (.iconst 4, 1) := dk_7 (dk_at dksX0_init_5 16 rfl rfl)
theorem dX0_init_132 : decode cX0_init 132 = .ok (.newarray .int, 2) := dk_188_10 (dk_at dksX0_init_5 17 rfl rfl)
theorem dX0_init_134 : decode cX0_init 134 = .ok (.putfield 75, 3) := dk_181 0 75 (dk_at dksX0_init_5 19 rfl rfl)
theorem dX0_init_137 : decode cX0_init 137 = .ok (.aload_n 0, 1) := dk_42 (dk_at dksX0_init_5 22 rfl rfl)
theorem dX0_init_138 : decode cX0_init 138 = .ok (.iconst 4, 1) := dk_7 (dk_at dksX0_init_5 23 rfl rfl)
theorem dX0_init_139 : decode cX0_init 139 = .ok (.newarray .int, 2) := dk_188_10 (dk_at dksX0_init_6 0 rfl rfl)
theorem dX0_init_141 : decode cX0_init 141 = .ok (.putfield 78, 3) := dk_181 0 78 (dk_at dksX0_init_6 2 rfl rfl)
theorem dX0_init_144 : decode cX0_init 144 = .ok (.return_, 1) := dk_177 (dk_at dksX0_init_6 5 rfl rfl)
abbrev cX0_letter : ByteArray := prog_1_method_67_code
def yX0_letter : MethodName := ⟨RX0, "letter", "(I)I"⟩
def dkwX0_letter_0 : List UInt8 := [42, 3, 27, 3, 3, 182, 1, 170, 172]
abbrev dktX0_letter_0 : List UInt8 := dkwX0_letter_0 ++ []
theorem dksX0_letter_0 : cX0_letter.data.toList.drop 0 = dktX0_letter_0 := by decide +kernel
theorem dX0_letter_0 : decode cX0_letter 0 = .ok (.aload_n 0, 1) := dk_42 (dk_at dksX0_letter_0 0 rfl rfl)
theorem dX0_letter_1 : decode cX0_letter 1 = .ok (.iconst 0, 1) := dk_3 (dk_at dksX0_letter_0 1 rfl rfl)
theorem dX0_letter_2 : decode cX0_letter 2 = .ok (.iload_n 1, 1) := dk_27 (dk_at dksX0_letter_0 2 rfl rfl)
theorem dX0_letter_3 : decode cX0_letter 3 = .ok (.iconst 0, 1) := dk_3 (dk_at dksX0_letter_0 3 rfl rfl)
theorem dX0_letter_4 : decode cX0_letter 4 = .ok (.iconst 0, 1) := dk_3 (dk_at dksX0_letter_0 4 rfl rfl)
theorem dX0_letter_5 : decode cX0_letter 5 = .ok (.invokevirtual 426, 3) := dk_182 1 170 (dk_at dksX0_letter_0 5 rfl rfl)
theorem dX0_letter_8 : decode cX0_letter 8 = .ok (.ireturn, 1) := dk_172 (dk_at dksX0_letter_0 8 rfl rfl)
abbrev cX0_act : ByteArray := prog_1_method_36_code
def yX0_act : MethodName := ⟨RX0, "act", "(IIII)I"⟩
def dkwX0_act_2 : List UInt8 := [25, 5, 182, 0, 251, 182, 0, 254, 172]
abbrev dktX0_act_2 : List UInt8 := dkwX0_act_2 ++ []
def dkwX0_act_1 : List UInt8 := [42, 27, 28, 29, 182, 0, 242, 167, 0, 12, 42, 27, 28, 29, 21, 4, 182, 0, 246, 172, 58, 5, 42]
abbrev dktX0_act_1 : List UInt8 := dkwX0_act_1 ++ dktX0_act_2
def dkwX0_act_0 : List UInt8 := [27, 16, 11, 162, 0, 15, 42, 27, 28, 29, 21, 4, 182, 0, 238, 167, 0, 28, 27, 16, 22, 162, 0, 13]
abbrev dktX0_act_0 : List UInt8 := dkwX0_act_0 ++ dktX0_act_1
theorem dksX0_act_0 : cX0_act.data.toList.drop 0 = dktX0_act_0 := by decide +kernel
theorem dksX0_act_1 : cX0_act.data.toList.drop 24 = dktX0_act_1 := dk_seg dksX0_act_0 24 rfl rfl
theorem dksX0_act_2 : cX0_act.data.toList.drop 47 = dktX0_act_2 := dk_seg dksX0_act_1 23 rfl rfl
theorem dX0_act_0 : decode cX0_act 0 = .ok (.iload_n 1, 1) := dk_27 (dk_at dksX0_act_0 0 rfl rfl)
theorem dX0_act_1 : decode cX0_act 1 = .ok (.bipush 11, 2) := dk_16 11 (dk_at dksX0_act_0 1 rfl rfl)
theorem dX0_act_3 : decode cX0_act 3 = .ok (.if_icmp .ge 15, 3) := dk_162 0 15 (dk_at dksX0_act_0 3 rfl rfl)
theorem dX0_act_6 : decode cX0_act 6 = .ok (.aload_n 0, 1) := dk_42 (dk_at dksX0_act_0 6 rfl rfl)
theorem dX0_act_7 : decode cX0_act 7 = .ok (.iload_n 1, 1) := dk_27 (dk_at dksX0_act_0 7 rfl rfl)
theorem dX0_act_8 : decode cX0_act 8 = .ok (.iload_n 2, 1) := dk_28 (dk_at dksX0_act_0 8 rfl rfl)
theorem dX0_act_9 : decode cX0_act 9 = .ok (.iload_n 3, 1) := dk_29 (dk_at dksX0_act_0 9 rfl rfl)
theorem dX0_act_10 : decode cX0_act 10 = .ok (.iload 4, 2) := dk_21 4 (dk_at dksX0_act_0 10 rfl rfl)
theorem dX0_act_12 : decode cX0_act 12 = .ok (.invokevirtual 238, 3) := dk_182 0 238 (dk_at dksX0_act_0 12 rfl rfl)
theorem dX0_act_15 : decode cX0_act 15 = .ok (.goto 28, 3) := dk_167 0 28 (dk_at dksX0_act_0 15 rfl rfl)
theorem dX0_act_18 : decode cX0_act 18 = .ok (.iload_n 1, 1) := dk_27 (dk_at dksX0_act_0 18 rfl rfl)
theorem dX0_act_19 : decode cX0_act 19 = .ok (.bipush 22, 2) := dk_16 22 (dk_at dksX0_act_0 19 rfl rfl)
theorem dX0_act_21 : decode cX0_act 21 = .ok (.if_icmp .ge 13, 3) := dk_162 0 13 (dk_at dksX0_act_0 21 rfl rfl)
theorem dX0_act_24 : decode cX0_act 24 = .ok (.aload_n 0, 1) := dk_42 (dk_at dksX0_act_1 0 rfl rfl)
theorem dX0_act_25 : decode cX0_act 25 = .ok (.iload_n 1, 1) := dk_27 (dk_at dksX0_act_1 1 rfl rfl)
theorem dX0_act_26 : decode cX0_act 26 = .ok (.iload_n 2, 1) := dk_28 (dk_at dksX0_act_1 2 rfl rfl)
theorem dX0_act_27 : decode cX0_act 27 = .ok (.iload_n 3, 1) := dk_29 (dk_at dksX0_act_1 3 rfl rfl)
theorem dX0_act_28 : decode cX0_act 28 = .ok (.invokevirtual 242, 3) := dk_182 0 242 (dk_at dksX0_act_1 4 rfl rfl)
theorem dX0_act_31 : decode cX0_act 31 = .ok (.goto 12, 3) := dk_167 0 12 (dk_at dksX0_act_1 7 rfl rfl)
theorem dX0_act_34 : decode cX0_act 34 = .ok (.aload_n 0, 1) := dk_42 (dk_at dksX0_act_1 10 rfl rfl)
theorem dX0_act_35 : decode cX0_act 35 = .ok (.iload_n 1, 1) := dk_27 (dk_at dksX0_act_1 11 rfl rfl)
theorem dX0_act_36 : decode cX0_act 36 = .ok (.iload_n 2, 1) := dk_28 (dk_at dksX0_act_1 12 rfl rfl)
theorem dX0_act_37 : decode cX0_act 37 = .ok (.iload_n 3, 1) := dk_29 (dk_at dksX0_act_1 13 rfl rfl)
theorem dX0_act_38 : decode cX0_act 38 = .ok (.iload 4, 2) := dk_21 4 (dk_at dksX0_act_1 14 rfl rfl)
theorem dX0_act_40 : decode cX0_act 40 = .ok (.invokevirtual 246, 3) := dk_182 0 246 (dk_at dksX0_act_1 16 rfl rfl)
theorem dX0_act_43 : decode cX0_act 43 = .ok (.ireturn, 1) := dk_172 (dk_at dksX0_act_1 19 rfl rfl)
theorem dX0_act_44 : decode cX0_act 44 = .ok (.astore 5, 2) := dk_58 5 (dk_at dksX0_act_1 20 rfl rfl)
theorem dX0_act_46 : decode cX0_act 46 = .ok (.aload_n 0, 1) := dk_42 (dk_at dksX0_act_1 22 rfl rfl)
theorem dX0_act_47 : decode cX0_act 47 = .ok (.aload 5, 2) := dk_25 5 (dk_at dksX0_act_2 0 rfl rfl)
theorem dX0_act_49 : decode cX0_act 49 = .ok (.invokevirtual 251, 3) := dk_182 0 251 (dk_at dksX0_act_2 2 rfl rfl)
theorem dX0_act_52 : decode cX0_act 52 = .ok (.invokevirtual 254, 3) := dk_182 0 254 (dk_at dksX0_act_2 5 rfl rfl)
theorem dX0_act_55 : decode cX0_act 55 = .ok (.ireturn, 1) := dk_172 (dk_at dksX0_act_2 8 rfl rfl)
abbrev cX0_ofHill : ByteArray := prog_1_method_50_code
def yX0_ofHill : MethodName := ⟨RX0, "ofHill", "(IIII)I"⟩
def dkwX0_ofHill_5 : List UInt8 := [182, 1, 50, 172, 42, 28, 29, 21, 4, 182, 1, 53, 172, 42, 28, 182, 1, 56, 172]
abbrev dktX0_ofHill_5 : List UInt8 := dkwX0_ofHill_5 ++ []
def dkwX0_ofHill_4 : List UInt8 := [42, 180, 0, 53, 180, 0, 154, 28, 29, 16, 9, 182, 1, 43, 172, 42, 28, 182, 1, 47, 172, 42, 28]
abbrev dktX0_ofHill_4 : List UInt8 := dkwX0_ofHill_4 ++ dktX0_ofHill_5
def dkwX0_ofHill_3 : List UInt8 := [42, 28, 29, 182, 1, 40, 172, 42, 42, 180, 0, 53, 180, 0, 124, 28, 29, 16, 99, 182, 1, 43, 172, 42]
abbrev dktX0_ofHill_3 : List UInt8 := dkwX0_ofHill_3 ++ dktX0_ofHill_4
def dkwX0_ofHill_2 : List UInt8 := [42, 28, 182, 1, 28, 172, 42, 182, 1, 31, 172, 42, 28, 29, 182, 1, 34, 172, 42, 28, 182, 1, 37, 172]
abbrev dktX0_ofHill_2 : List UInt8 := dkwX0_ofHill_2 ++ dktX0_ofHill_3
def dkwX0_ofHill_1 : List UInt8 := [170, 0, 0, 0, 0, 0, 139, 0, 0, 0, 0, 0, 0, 0, 9, 0, 0, 0, 55, 0, 0, 0, 61, 0, 0, 0, 66, 0, 0, 0, 73, 0, 0, 0, 79, 0, 0, 0, 86, 0, 0, 0, 102, 0, 0, 0, 118, 0, 0, 0, 124, 0, 0, 0, 130]
abbrev dktX0_ofHill_1 : List UInt8 := dkwX0_ofHill_1 ++ dktX0_ofHill_2
def dkwX0_ofHill_0 : List UInt8 := [27]
abbrev dktX0_ofHill_0 : List UInt8 := dkwX0_ofHill_0 ++ dktX0_ofHill_1
theorem dksX0_ofHill_0 : cX0_ofHill.data.toList.drop 0 = dktX0_ofHill_0 := by decide +kernel
theorem dksX0_ofHill_1 : cX0_ofHill.data.toList.drop 1 = dktX0_ofHill_1 := dk_seg dksX0_ofHill_0 1 rfl rfl
theorem dksX0_ofHill_2 : cX0_ofHill.data.toList.drop 56 = dktX0_ofHill_2 := dk_seg dksX0_ofHill_1 55 rfl rfl
theorem dksX0_ofHill_3 : cX0_ofHill.data.toList.drop 80 = dktX0_ofHill_3 := dk_seg dksX0_ofHill_2 24 rfl rfl
theorem dksX0_ofHill_4 : cX0_ofHill.data.toList.drop 104 = dktX0_ofHill_4 := dk_seg dksX0_ofHill_3 24 rfl rfl
theorem dksX0_ofHill_5 : cX0_ofHill.data.toList.drop 127 = dktX0_ofHill_5 := dk_seg dksX0_ofHill_4 23 rfl rfl
theorem dX0_ofHill_0 : decode cX0_ofHill 0 = .ok (.iload_n 1, 1) := dk_27 (dk_at dksX0_ofHill_0 0 rfl rfl)
theorem dX0_ofHill_1 : decode cX0_ofHill 1 = .ok (.tableswitch 139 0 9 #[55, 61, 66, 73, 79, 86, 102, 118, 124, 130], 55) := by decide +kernel
theorem dX0_ofHill_56 : decode cX0_ofHill 56 = .ok (.aload_n 0, 1) := dk_42 (dk_at dksX0_ofHill_2 0 rfl rfl)
theorem dX0_ofHill_57 : decode cX0_ofHill 57 = .ok (.iload_n 2, 1) := dk_28 (dk_at dksX0_ofHill_2 1 rfl rfl)
theorem dX0_ofHill_58 : decode cX0_ofHill 58 = .ok (.invokevirtual 284, 3) := dk_182 1 28 (dk_at dksX0_ofHill_2 2 rfl rfl)
theorem dX0_ofHill_61 : decode cX0_ofHill 61 = .ok (.ireturn, 1) := dk_172 (dk_at dksX0_ofHill_2 5 rfl rfl)
theorem dX0_ofHill_62 : decode cX0_ofHill 62 = .ok (.aload_n 0, 1) := dk_42 (dk_at dksX0_ofHill_2 6 rfl rfl)
theorem dX0_ofHill_63 : decode cX0_ofHill 63 = .ok (.invokevirtual 287, 3) := dk_182 1 31 (dk_at dksX0_ofHill_2 7 rfl rfl)
theorem dX0_ofHill_66 : decode cX0_ofHill 66 = .ok (.ireturn, 1) := dk_172 (dk_at dksX0_ofHill_2 10 rfl rfl)
theorem dX0_ofHill_67 : decode cX0_ofHill 67 = .ok (.aload_n 0, 1) := dk_42 (dk_at dksX0_ofHill_2 11 rfl rfl)
theorem dX0_ofHill_68 : decode cX0_ofHill 68 = .ok (.iload_n 2, 1) := dk_28 (dk_at dksX0_ofHill_2 12 rfl rfl)
theorem dX0_ofHill_69 : decode cX0_ofHill 69 = .ok (.iload_n 3, 1) := dk_29 (dk_at dksX0_ofHill_2 13 rfl rfl)
theorem dX0_ofHill_70 : decode cX0_ofHill 70 = .ok (.invokevirtual 290, 3) := dk_182 1 34 (dk_at dksX0_ofHill_2 14 rfl rfl)
theorem dX0_ofHill_73 : decode cX0_ofHill 73 = .ok (.ireturn, 1) := dk_172 (dk_at dksX0_ofHill_2 17 rfl rfl)
theorem dX0_ofHill_74 : decode cX0_ofHill 74 = .ok (.aload_n 0, 1) := dk_42 (dk_at dksX0_ofHill_2 18 rfl rfl)
theorem dX0_ofHill_75 : decode cX0_ofHill 75 = .ok (.iload_n 2, 1) := dk_28 (dk_at dksX0_ofHill_2 19 rfl rfl)
theorem dX0_ofHill_76 : decode cX0_ofHill 76 = .ok (.invokevirtual 293, 3) := dk_182 1 37 (dk_at dksX0_ofHill_2 20 rfl rfl)
theorem dX0_ofHill_79 : decode cX0_ofHill 79 = .ok (.ireturn, 1) := dk_172 (dk_at dksX0_ofHill_2 23 rfl rfl)
theorem dX0_ofHill_80 : decode cX0_ofHill 80 = .ok (.aload_n 0, 1) := dk_42 (dk_at dksX0_ofHill_3 0 rfl rfl)
theorem dX0_ofHill_81 : decode cX0_ofHill 81 = .ok (.iload_n 2, 1) := dk_28 (dk_at dksX0_ofHill_3 1 rfl rfl)
theorem dX0_ofHill_82 : decode cX0_ofHill 82 = .ok (.iload_n 3, 1) := dk_29 (dk_at dksX0_ofHill_3 2 rfl rfl)
theorem dX0_ofHill_83 : decode cX0_ofHill 83 = .ok (.invokevirtual 296, 3) := dk_182 1 40 (dk_at dksX0_ofHill_3 3 rfl rfl)
theorem dX0_ofHill_86 : decode cX0_ofHill 86 = .ok (.ireturn, 1) := dk_172 (dk_at dksX0_ofHill_3 6 rfl rfl)
theorem dX0_ofHill_87 : decode cX0_ofHill 87 = .ok (.aload_n 0, 1) := dk_42 (dk_at dksX0_ofHill_3 7 rfl rfl)
theorem dX0_ofHill_88 : decode cX0_ofHill 88 = .ok (.aload_n 0, 1) := dk_42 (dk_at dksX0_ofHill_3 8 rfl rfl)
theorem dX0_ofHill_89 : decode cX0_ofHill 89 = .ok (.getfield 53, 3) := dk_180 0 53 (dk_at dksX0_ofHill_3 9 rfl rfl)
theorem dX0_ofHill_92 : decode cX0_ofHill 92 = .ok (.getfield 124, 3) := dk_180 0 124 (dk_at dksX0_ofHill_3 12 rfl rfl)
theorem dX0_ofHill_95 : decode cX0_ofHill 95 = .ok (.iload_n 2, 1) := dk_28 (dk_at dksX0_ofHill_3 15 rfl rfl)
theorem dX0_ofHill_96 : decode cX0_ofHill 96 = .ok (.iload_n 3, 1) := dk_29 (dk_at dksX0_ofHill_3 16 rfl rfl)
theorem dX0_ofHill_97 : decode cX0_ofHill 97 = .ok (.bipush 99, 2) := dk_16 99 (dk_at dksX0_ofHill_3 17 rfl rfl)
theorem dX0_ofHill_99 : decode cX0_ofHill 99 = .ok (.invokevirtual 299, 3) := dk_182 1 43 (dk_at dksX0_ofHill_3 19 rfl rfl)
theorem dX0_ofHill_102 : decode cX0_ofHill 102 = .ok (.ireturn, 1) := dk_172 (dk_at dksX0_ofHill_3 22 rfl rfl)
theorem dX0_ofHill_103 : decode cX0_ofHill 103 = .ok (.aload_n 0, 1) := dk_42 (dk_at dksX0_ofHill_3 23 rfl rfl)
theorem dX0_ofHill_104 : decode cX0_ofHill 104 = .ok (.aload_n 0, 1) := dk_42 (dk_at dksX0_ofHill_4 0 rfl rfl)
theorem dX0_ofHill_105 : decode cX0_ofHill 105 = .ok (.getfield 53, 3) := dk_180 0 53 (dk_at dksX0_ofHill_4 1 rfl rfl)
theorem dX0_ofHill_108 : decode cX0_ofHill 108 = .ok (.getfield 154, 3) := dk_180 0 154 (dk_at dksX0_ofHill_4 4 rfl rfl)
theorem dX0_ofHill_111 : decode cX0_ofHill 111 = .ok (.iload_n 2, 1) := dk_28 (dk_at dksX0_ofHill_4 7 rfl rfl)
theorem dX0_ofHill_112 : decode cX0_ofHill 112 = .ok (.iload_n 3, 1) := dk_29 (dk_at dksX0_ofHill_4 8 rfl rfl)
theorem dX0_ofHill_113 : decode cX0_ofHill 113 = .ok (.bipush 9, 2) := dk_16 9 (dk_at dksX0_ofHill_4 9 rfl rfl)
theorem dX0_ofHill_115 : decode cX0_ofHill 115 = .ok (.invokevirtual 299, 3) := dk_182 1 43 (dk_at dksX0_ofHill_4 11 rfl rfl)
theorem dX0_ofHill_118 : decode cX0_ofHill 118 = .ok (.ireturn, 1) := dk_172 (dk_at dksX0_ofHill_4 14 rfl rfl)
theorem dX0_ofHill_119 : decode cX0_ofHill 119 = .ok (.aload_n 0, 1) := dk_42 (dk_at dksX0_ofHill_4 15 rfl rfl)
theorem dX0_ofHill_120 : decode cX0_ofHill 120 = .ok (.iload_n 2, 1) := dk_28 (dk_at dksX0_ofHill_4 16 rfl rfl)
theorem dX0_ofHill_121 : decode cX0_ofHill 121 = .ok (.invokevirtual 303, 3) := dk_182 1 47 (dk_at dksX0_ofHill_4 17 rfl rfl)
theorem dX0_ofHill_124 : decode cX0_ofHill 124 = .ok (.ireturn, 1) := dk_172 (dk_at dksX0_ofHill_4 20 rfl rfl)
theorem dX0_ofHill_125 : decode cX0_ofHill 125 = .ok (.aload_n 0, 1) := dk_42 (dk_at dksX0_ofHill_4 21 rfl rfl)
theorem dX0_ofHill_126 : decode cX0_ofHill 126 = .ok (.iload_n 2, 1) := dk_28 (dk_at dksX0_ofHill_4 22 rfl rfl)
theorem dX0_ofHill_127 : decode cX0_ofHill 127 = .ok (.invokevirtual 306, 3) := dk_182 1 50 (dk_at dksX0_ofHill_5 0 rfl rfl)
theorem dX0_ofHill_130 : decode cX0_ofHill 130 = .ok (.ireturn, 1) := dk_172 (dk_at dksX0_ofHill_5 3 rfl rfl)
theorem dX0_ofHill_131 : decode cX0_ofHill 131 = .ok (.aload_n 0, 1) := dk_42 (dk_at dksX0_ofHill_5 4 rfl rfl)
theorem dX0_ofHill_132 : decode cX0_ofHill 132 = .ok (.iload_n 2, 1) := dk_28 (dk_at dksX0_ofHill_5 5 rfl rfl)
theorem dX0_ofHill_133 : decode cX0_ofHill 133 = .ok (.iload_n 3, 1) := dk_29 (dk_at dksX0_ofHill_5 6 rfl rfl)
theorem dX0_ofHill_134 : decode cX0_ofHill 134 = .ok (.iload 4, 2) := dk_21 4 (dk_at dksX0_ofHill_5 7 rfl rfl)
theorem dX0_ofHill_136 : decode cX0_ofHill 136 = .ok (.invokevirtual 309, 3) := dk_182 1 53 (dk_at dksX0_ofHill_5 9 rfl rfl)
theorem dX0_ofHill_139 : decode cX0_ofHill 139 = .ok (.ireturn, 1) := dk_172 (dk_at dksX0_ofHill_5 12 rfl rfl)
theorem dX0_ofHill_140 : decode cX0_ofHill 140 = .ok (.aload_n 0, 1) := dk_42 (dk_at dksX0_ofHill_5 13 rfl rfl)
theorem dX0_ofHill_141 : decode cX0_ofHill 141 = .ok (.iload_n 2, 1) := dk_28 (dk_at dksX0_ofHill_5 14 rfl rfl)
theorem dX0_ofHill_142 : decode cX0_ofHill 142 = .ok (.invokevirtual 312, 3) := dk_182 1 56 (dk_at dksX0_ofHill_5 15 rfl rfl)
theorem dX0_ofHill_145 : decode cX0_ofHill 145 = .ok (.ireturn, 1) := dk_172 (dk_at dksX0_ofHill_5 18 rfl rfl)
abbrev cX0_letterIt : ByteArray := prog_1_method_41_code
def yX0_letterIt : MethodName := ⟨RX0, "letterIt", "(I)I"⟩
def dkwX0_letterIt_2 : List UInt8 := [181, 0, 86, 42, 180, 0, 86, 172]
abbrev dktX0_letterIt_2 : List UInt8 := dkwX0_letterIt_2 ++ []
def dkwX0_letterIt_1 : List UInt8 := [16, 250, 184, 0, 9, 42, 180, 0, 67, 42, 180, 0, 86, 27, 146, 85, 42, 89, 180, 0, 86, 4, 96]
abbrev dktX0_letterIt_1 : List UInt8 := dkwX0_letterIt_1 ++ dktX0_letterIt_2
def dkwX0_letterIt_0 : List UInt8 := [27, 133, 9, 20, 1, 9, 184, 0, 188, 42, 180, 0, 86, 16, 96, 162, 0, 7, 4, 167, 0, 4, 3]
abbrev dktX0_letterIt_0 : List UInt8 := dkwX0_letterIt_0 ++ dktX0_letterIt_1
theorem dksX0_letterIt_0 : cX0_letterIt.data.toList.drop 0 = dktX0_letterIt_0 := by decide +kernel
theorem dksX0_letterIt_1 : cX0_letterIt.data.toList.drop 23 = dktX0_letterIt_1 := dk_seg dksX0_letterIt_0 23 rfl rfl
theorem dksX0_letterIt_2 : cX0_letterIt.data.toList.drop 46 = dktX0_letterIt_2 := dk_seg dksX0_letterIt_1 23 rfl rfl
theorem dX0_letterIt_0 : decode cX0_letterIt 0 = .ok (.iload_n 1, 1) := dk_27 (dk_at dksX0_letterIt_0 0 rfl rfl)
theorem dX0_letterIt_1 : decode cX0_letterIt 1 = .ok (.i2l, 1) := dk_133 (dk_at dksX0_letterIt_0 1 rfl rfl)
theorem dX0_letterIt_2 : decode cX0_letterIt 2 = .ok (.lconst 0, 1) := dk_9 (dk_at dksX0_letterIt_0 2 rfl rfl)
theorem dX0_letterIt_3 : decode cX0_letterIt 3 = .ok (.ldc2_w 265, 3) := dk_20 1 9 (dk_at dksX0_letterIt_0 3 rfl rfl)
theorem dX0_letterIt_6 : decode cX0_letterIt 6 = .ok (.invokestatic 188, 3) := dk_184 0 188 (dk_at dksX0_letterIt_0 6 rfl rfl)
theorem dX0_letterIt_9 : decode cX0_letterIt 9 = .ok (.aload_n 0, 1) := dk_42 (dk_at dksX0_letterIt_0 9 rfl rfl)
theorem dX0_letterIt_10 : decode cX0_letterIt 10 = .ok (.getfield 86, 3) := dk_180 0 86 (dk_at dksX0_letterIt_0 10 rfl rfl)
theorem dX0_letterIt_13 : decode cX0_letterIt 13 = .ok (.bipush 96, 2) := dk_16 96 (dk_at dksX0_letterIt_0 13 rfl rfl)
theorem dX0_letterIt_15 : decode cX0_letterIt 15 = .ok (.if_icmp .ge 7, 3) := dk_162 0 7 (dk_at dksX0_letterIt_0 15 rfl rfl)
theorem dX0_letterIt_18 : decode cX0_letterIt 18 = .ok (.iconst 1, 1) := dk_4 (dk_at dksX0_letterIt_0 18 rfl rfl)
theorem dX0_letterIt_19 : decode cX0_letterIt 19 = .ok (.goto 4, 3) := dk_167 0 4 (dk_at dksX0_letterIt_0 19 rfl rfl)
theorem dX0_letterIt_22 : decode cX0_letterIt 22 = .ok (.iconst 0, 1) := dk_3 (dk_at dksX0_letterIt_0 22 rfl rfl)
theorem dX0_letterIt_23 : decode cX0_letterIt 23 = .ok (.bipush (-6), 2) := dk_16 250 (dk_at dksX0_letterIt_1 0 rfl rfl)
theorem dX0_letterIt_25 : decode cX0_letterIt 25 = .ok (.invokestatic 9, 3) := dk_184 0 9 (dk_at dksX0_letterIt_1 2 rfl rfl)
theorem dX0_letterIt_28 : decode cX0_letterIt 28 = .ok (.aload_n 0, 1) := dk_42 (dk_at dksX0_letterIt_1 5 rfl rfl)
theorem dX0_letterIt_29 : decode cX0_letterIt 29 = .ok (.getfield 67, 3) := dk_180 0 67 (dk_at dksX0_letterIt_1 6 rfl rfl)
theorem dX0_letterIt_32 : decode cX0_letterIt 32 = .ok (.aload_n 0, 1) := dk_42 (dk_at dksX0_letterIt_1 9 rfl rfl)
theorem dX0_letterIt_33 : decode cX0_letterIt 33 = .ok (.getfield 86, 3) := dk_180 0 86 (dk_at dksX0_letterIt_1 10 rfl rfl)
theorem dX0_letterIt_36 : decode cX0_letterIt 36 = .ok (.iload_n 1, 1) := dk_27 (dk_at dksX0_letterIt_1 13 rfl rfl)
theorem dX0_letterIt_37 : decode cX0_letterIt 37 = .ok (.i2c, 1) := dk_146 (dk_at dksX0_letterIt_1 14 rfl rfl)
theorem dX0_letterIt_38 : decode cX0_letterIt 38 = .ok (.castore, 1) := dk_85 (dk_at dksX0_letterIt_1 15 rfl rfl)
theorem dX0_letterIt_39 : decode cX0_letterIt 39 = .ok (.aload_n 0, 1) := dk_42 (dk_at dksX0_letterIt_1 16 rfl rfl)
theorem dX0_letterIt_40 : decode cX0_letterIt 40 = .ok (.dup, 1) := dk_89 (dk_at dksX0_letterIt_1 17 rfl rfl)
theorem dX0_letterIt_41 : decode cX0_letterIt 41 = .ok (.getfield 86, 3) := dk_180 0 86 (dk_at dksX0_letterIt_1 18 rfl rfl)
theorem dX0_letterIt_44 : decode cX0_letterIt 44 = .ok (.iconst 1, 1) := dk_4 (dk_at dksX0_letterIt_1 21 rfl rfl)
theorem dX0_letterIt_45 : decode cX0_letterIt 45 = .ok (.iadd, 1) := dk_96 (dk_at dksX0_letterIt_1 22 rfl rfl)
theorem dX0_letterIt_46 : decode cX0_letterIt 46 = .ok (.putfield 86, 3) := dk_181 0 86 (dk_at dksX0_letterIt_2 0 rfl rfl)
theorem dX0_letterIt_49 : decode cX0_letterIt 49 = .ok (.aload_n 0, 1) := dk_42 (dk_at dksX0_letterIt_2 3 rfl rfl)
theorem dX0_letterIt_50 : decode cX0_letterIt 50 = .ok (.getfield 86, 3) := dk_180 0 86 (dk_at dksX0_letterIt_2 4 rfl rfl)
theorem dX0_letterIt_53 : decode cX0_letterIt 53 = .ok (.ireturn, 1) := dk_172 (dk_at dksX0_letterIt_2 7 rfl rfl)
abbrev cX0_within : ByteArray := prog_1_method_3_code
def yX0_within : MethodName := ⟨RX0, "within", "(JJJ)V"⟩
def dkwX0_within_1 : List UInt8 := [167, 0, 4, 3, 16, 250, 184, 0, 9, 177]
abbrev dktX0_within_1 : List UInt8 := dkwX0_within_1 ++ []
def dkwX0_within_0 : List UInt8 := [30, 32, 148, 155, 0, 7, 4, 167, 0, 4, 3, 16, 252, 184, 0, 9, 30, 22, 4, 148, 157, 0, 7, 4]
abbrev dktX0_within_0 : List UInt8 := dkwX0_within_0 ++ dktX0_within_1
theorem dksX0_within_0 : cX0_within.data.toList.drop 0 = dktX0_within_0 := by decide +kernel
theorem dksX0_within_1 : cX0_within.data.toList.drop 24 = dktX0_within_1 := dk_seg dksX0_within_0 24 rfl rfl
theorem dX0_within_0 : decode cX0_within 0 = .ok (.lload_n 0, 1) := dk_30 (dk_at dksX0_within_0 0 rfl rfl)
theorem dX0_within_1 : decode cX0_within 1 = .ok (.lload_n 2, 1) := dk_32 (dk_at dksX0_within_0 1 rfl rfl)
theorem dX0_within_2 : decode cX0_within 2 = .ok (.lcmp, 1) := dk_148 (dk_at dksX0_within_0 2 rfl rfl)
theorem dX0_within_3 : decode cX0_within 3 = .ok (.ifCond .lt 7, 3) := dk_155 0 7 (dk_at dksX0_within_0 3 rfl rfl)
theorem dX0_within_6 : decode cX0_within 6 = .ok (.iconst 1, 1) := dk_4 (dk_at dksX0_within_0 6 rfl rfl)
theorem dX0_within_7 : decode cX0_within 7 = .ok (.goto 4, 3) := dk_167 0 4 (dk_at dksX0_within_0 7 rfl rfl)
theorem dX0_within_10 : decode cX0_within 10 = .ok (.iconst 0, 1) := dk_3 (dk_at dksX0_within_0 10 rfl rfl)
theorem dX0_within_11 : decode cX0_within 11 = .ok (.bipush (-4), 2) := dk_16 252 (dk_at dksX0_within_0 11 rfl rfl)
theorem dX0_within_13 : decode cX0_within 13 = .ok (.invokestatic 9, 3) := dk_184 0 9 (dk_at dksX0_within_0 13 rfl rfl)
theorem dX0_within_16 : decode cX0_within 16 = .ok (.lload_n 0, 1) := dk_30 (dk_at dksX0_within_0 16 rfl rfl)
theorem dX0_within_17 : decode cX0_within 17 = .ok (.lload 4, 2) := dk_22 4 (dk_at dksX0_within_0 17 rfl rfl)
theorem dX0_within_19 : decode cX0_within 19 = .ok (.lcmp, 1) := dk_148 (dk_at dksX0_within_0 19 rfl rfl)
theorem dX0_within_20 : decode cX0_within 20 = .ok (.ifCond .gt 7, 3) := dk_157 0 7 (dk_at dksX0_within_0 20 rfl rfl)
theorem dX0_within_23 : decode cX0_within 23 = .ok (.iconst 1, 1) := dk_4 (dk_at dksX0_within_0 23 rfl rfl)
theorem dX0_within_24 : decode cX0_within 24 = .ok (.goto 4, 3) := dk_167 0 4 (dk_at dksX0_within_1 0 rfl rfl)
theorem dX0_within_27 : decode cX0_within 27 = .ok (.iconst 0, 1) := dk_3 (dk_at dksX0_within_1 3 rfl rfl)
theorem dX0_within_28 : decode cX0_within 28 = .ok (.bipush (-6), 2) := dk_16 250 (dk_at dksX0_within_1 4 rfl rfl)
theorem dX0_within_30 : decode cX0_within 30 = .ok (.invokestatic 9, 3) := dk_184 0 9 (dk_at dksX0_within_1 6 rfl rfl)
theorem dX0_within_33 : decode cX0_within 33 = .ok (.return_, 1) := dk_177 (dk_at dksX0_within_1 9 rfl rfl)
abbrev cX0_must : ByteArray := prog_1_method_2_code
def yX0_must : MethodName := ⟨RX0, "must", "(ZI)V"⟩
def dkwX0_must_0 : List UInt8 := [26, 154, 0, 12, 187, 0, 1, 89, 27, 183, 0, 3, 191, 177]
abbrev dktX0_must_0 : List UInt8 := dkwX0_must_0 ++ []
theorem dksX0_must_0 : cX0_must.data.toList.drop 0 = dktX0_must_0 := by decide +kernel
theorem dX0_must_0 : decode cX0_must 0 = .ok (.iload_n 0, 1) := dk_26 (dk_at dksX0_must_0 0 rfl rfl)
theorem dX0_must_1 : decode cX0_must 1 = .ok (.ifCond .ne 12, 3) := dk_154 0 12 (dk_at dksX0_must_0 1 rfl rfl)
theorem dX0_must_4 : decode cX0_must 4 = .ok (.new 1, 3) := dk_187 0 1 (dk_at dksX0_must_0 4 rfl rfl)
theorem dX0_must_7 : decode cX0_must 7 = .ok (.dup, 1) := dk_89 (dk_at dksX0_must_0 7 rfl rfl)
theorem dX0_must_8 : decode cX0_must 8 = .ok (.iload_n 1, 1) := dk_27 (dk_at dksX0_must_0 8 rfl rfl)
theorem dX0_must_9 : decode cX0_must 9 = .ok (.invokespecial 3, 3) := dk_183 0 3 (dk_at dksX0_must_0 9 rfl rfl)
theorem dX0_must_12 : decode cX0_must 12 = .ok (.athrow, 1) := dk_191 (dk_at dksX0_must_0 12 rfl rfl)
theorem dX0_must_13 : decode cX0_must 13 = .ok (.return_, 1) := dk_177 (dk_at dksX0_must_0 13 rfl rfl)
abbrev cX0_readHill : ByteArray := prog_1_method_11_code
def yX0_readHill : MethodName := ⟨RX0, "readHill", "()I"⟩
def dkwX0_readHill_4 : List UInt8 := [191, 132, 4, 1, 167, 255, 214, 42, 180, 0, 53, 42, 180, 0, 57, 182, 0, 102, 87, 29, 172]
abbrev dktX0_readHill_4 : List UInt8 := dkwX0_readHill_4 ++ []
def dkwX0_readHill_3 : List UInt8 := [182, 0, 106, 154, 0, 22, 187, 0, 110, 89, 17, 248, 48, 44, 21, 4, 50, 180, 0, 112, 100, 183, 0, 115]
abbrev dktX0_readHill_3 : List UInt8 := dkwX0_readHill_3 ++ dktX0_readHill_4
def dkwX0_readHill_2 : List UInt8 := [180, 0, 53, 182, 0, 102, 87, 3, 54, 4, 21, 4, 29, 162, 0, 42, 44, 21, 4, 50, 42, 180, 0, 57]
abbrev dktX0_readHill_2 : List UInt8 := dkwX0_readHill_2 ++ dktX0_readHill_3
def dkwX0_readHill_1 : List UInt8 := [43, 182, 0, 92, 83, 132, 3, 1, 43, 180, 0, 96, 43, 180, 0, 99, 161, 255, 238, 42, 180, 0, 57, 42]
abbrev dktX0_readHill_1 : List UInt8 := dkwX0_readHill_1 ++ dktX0_readHill_2
def dkwX0_readHill_0 : List UInt8 := [187, 0, 81, 89, 42, 183, 0, 83, 76, 42, 3, 181, 0, 86, 16, 96, 189, 0, 90, 77, 3, 62, 44, 29]
abbrev dktX0_readHill_0 : List UInt8 := dkwX0_readHill_0 ++ dktX0_readHill_1
theorem dksX0_readHill_0 : cX0_readHill.data.toList.drop 0 = dktX0_readHill_0 := by decide +kernel
theorem dksX0_readHill_1 : cX0_readHill.data.toList.drop 24 = dktX0_readHill_1 := dk_seg dksX0_readHill_0 24 rfl rfl
theorem dksX0_readHill_2 : cX0_readHill.data.toList.drop 48 = dktX0_readHill_2 := dk_seg dksX0_readHill_1 24 rfl rfl
theorem dksX0_readHill_3 : cX0_readHill.data.toList.drop 72 = dktX0_readHill_3 := dk_seg dksX0_readHill_2 24 rfl rfl
theorem dksX0_readHill_4 : cX0_readHill.data.toList.drop 96 = dktX0_readHill_4 := dk_seg dksX0_readHill_3 24 rfl rfl
theorem dX0_readHill_0 : decode cX0_readHill 0 = .ok (.new 81, 3) := dk_187 0 81 (dk_at dksX0_readHill_0 0 rfl rfl)
theorem dX0_readHill_3 : decode cX0_readHill 3 = .ok (.dup, 1) := dk_89 (dk_at dksX0_readHill_0 3 rfl rfl)
theorem dX0_readHill_4 : decode cX0_readHill 4 = .ok (.aload_n 0, 1) := dk_42 (dk_at dksX0_readHill_0 4 rfl rfl)
theorem dX0_readHill_5 : decode cX0_readHill 5 = .ok (.invokespecial 83, 3) := dk_183 0 83 (dk_at dksX0_readHill_0 5 rfl rfl)
theorem dX0_readHill_8 : decode cX0_readHill 8 = .ok (.astore_n 1, 1) := dk_76 (dk_at dksX0_readHill_0 8 rfl rfl)
theorem dX0_readHill_9 : decode cX0_readHill 9 = .ok (.aload_n 0, 1) := dk_42 (dk_at dksX0_readHill_0 9 rfl rfl)
theorem dX0_readHill_10 : decode cX0_readHill 10 = .ok (.iconst 0, 1) := dk_3 (dk_at dksX0_readHill_0 10 rfl rfl)
theorem dX0_readHill_11 : decode cX0_readHill 11 = .ok (.putfield 86, 3) := dk_181 0 86 (dk_at dksX0_readHill_0 11 rfl rfl)
theorem dX0_readHill_14 : decode cX0_readHill 14 = .ok (.bipush 96, 2) := dk_16 96 (dk_at dksX0_readHill_0 14 rfl rfl)
theorem dX0_readHill_16 : decode cX0_readHill 16 = .ok (.anewarray 90, 3) := dk_189 0 90 (dk_at dksX0_readHill_0 16 rfl rfl)
theorem dX0_readHill_19 : decode cX0_readHill 19 = .ok (.astore_n 2, 1) := dk_77 (dk_at dksX0_readHill_0 19 rfl rfl)
theorem dX0_readHill_20 : decode cX0_readHill 20 = .ok (.iconst 0, 1) := dk_3 (dk_at dksX0_readHill_0 20 rfl rfl)
theorem dX0_readHill_21 : decode cX0_readHill 21 = .ok (.istore_n 3, 1) := dk_62 (dk_at dksX0_readHill_0 21 rfl rfl)
theorem dX0_readHill_22 : decode cX0_readHill 22 = .ok (.aload_n 2, 1) := dk_44 (dk_at dksX0_readHill_0 22 rfl rfl)
theorem dX0_readHill_23 : decode cX0_readHill 23 = .ok (.iload_n 3, 1) := dk_29 (dk_at dksX0_readHill_0 23 rfl rfl)
theorem dX0_readHill_24 : decode cX0_readHill 24 = .ok (.aload_n 1, 1) := dk_43 (dk_at dksX0_readHill_1 0 rfl rfl)
theorem dX0_readHill_25 : decode cX0_readHill 25 = .ok (.invokevirtual 92, 3) := dk_182 0 92 (dk_at dksX0_readHill_1 1 rfl rfl)
theorem dX0_readHill_28 : decode cX0_readHill 28 = .ok (.aastore, 1) := dk_83 (dk_at dksX0_readHill_1 4 rfl rfl)
theorem dX0_readHill_29 : decode cX0_readHill 29 = .ok (.iinc 3 1, 3) := dk_132 3 1 (dk_at dksX0_readHill_1 5 rfl rfl)
theorem dX0_readHill_32 : decode cX0_readHill 32 = .ok (.aload_n 1, 1) := dk_43 (dk_at dksX0_readHill_1 8 rfl rfl)
theorem dX0_readHill_33 : decode cX0_readHill 33 = .ok (.getfield 96, 3) := dk_180 0 96 (dk_at dksX0_readHill_1 9 rfl rfl)
theorem dX0_readHill_36 : decode cX0_readHill 36 = .ok (.aload_n 1, 1) := dk_43 (dk_at dksX0_readHill_1 12 rfl rfl)
theorem dX0_readHill_37 : decode cX0_readHill 37 = .ok (.getfield 99, 3) := dk_180 0 99 (dk_at dksX0_readHill_1 13 rfl rfl)
theorem dX0_readHill_40 : decode cX0_readHill 40 = .ok (.if_icmp .lt (-18), 3) := dk_161 255 238 (dk_at dksX0_readHill_1 16 rfl rfl)
theorem dX0_readHill_43 : decode cX0_readHill 43 = .ok (.aload_n 0, 1) := dk_42 (dk_at dksX0_readHill_1 19 rfl rfl)
theorem dX0_readHill_44 : decode cX0_readHill 44 = .ok (.getfield 57, 3) := dk_180 0 57 (dk_at dksX0_readHill_1 20 rfl rfl)
theorem dX0_readHill_47 : decode cX0_readHill 47 = .ok (.aload_n 0, 1) := dk_42 (dk_at dksX0_readHill_1 23 rfl rfl)
theorem dX0_readHill_48 : decode cX0_readHill 48 = .ok (.getfield 53, 3) := dk_180 0 53 (dk_at dksX0_readHill_2 0 rfl rfl)
theorem dX0_readHill_51 : decode cX0_readHill 51 = .ok (.invokevirtual 102, 3) := dk_182 0 102 (dk_at dksX0_readHill_2 3 rfl rfl)
theorem dX0_readHill_54 : decode cX0_readHill 54 = .ok (.pop, 1) := dk_87 (dk_at dksX0_readHill_2 6 rfl rfl)
theorem dX0_readHill_55 : decode cX0_readHill 55 = .ok (.iconst 0, 1) := dk_3 (dk_at dksX0_readHill_2 7 rfl rfl)
theorem dX0_readHill_56 : decode cX0_readHill 56 = .ok (.istore 4, 2) := dk_54 4 (dk_at dksX0_readHill_2 8 rfl rfl)
theorem dX0_readHill_58 : decode cX0_readHill 58 = .ok (.iload 4, 2) := dk_21 4 (dk_at dksX0_readHill_2 10 rfl rfl)
theorem dX0_readHill_60 : decode cX0_readHill 60 = .ok (.iload_n 3, 1) := dk_29 (dk_at dksX0_readHill_2 12 rfl rfl)
theorem dX0_readHill_61 : decode cX0_readHill 61 = .ok (.if_icmp .ge 42, 3) := dk_162 0 42 (dk_at dksX0_readHill_2 13 rfl rfl)
theorem dX0_readHill_64 : decode cX0_readHill 64 = .ok (.aload_n 2, 1) := dk_44 (dk_at dksX0_readHill_2 16 rfl rfl)
theorem dX0_readHill_65 : decode cX0_readHill 65 = .ok (.iload 4, 2) := dk_21 4 (dk_at dksX0_readHill_2 17 rfl rfl)
theorem dX0_readHill_67 : decode cX0_readHill 67 = .ok (.aaload, 1) := dk_50 (dk_at dksX0_readHill_2 19 rfl rfl)
theorem dX0_readHill_68 : decode cX0_readHill 68 = .ok (.aload_n 0, 1) := dk_42 (dk_at dksX0_readHill_2 20 rfl rfl)
theorem dX0_readHill_69 : decode cX0_readHill 69 = .ok (.getfield 57, 3) := dk_180 0 57 (dk_at dksX0_readHill_2 21 rfl rfl)
theorem dX0_readHill_72 : decode cX0_readHill 72 = .ok (.invokevirtual 106, 3) := dk_182 0 106 (dk_at dksX0_readHill_3 0 rfl rfl)
theorem dX0_readHill_75 : decode cX0_readHill 75 = .ok (.ifCond .ne 22, 3) := dk_154 0 22 (dk_at dksX0_readHill_3 3 rfl rfl)
theorem dX0_readHill_78 : decode cX0_readHill 78 = .ok (.new 110, 3) := dk_187 0 110 (dk_at dksX0_readHill_3 6 rfl rfl)
theorem dX0_readHill_81 : decode cX0_readHill 81 = .ok (.dup, 1) := dk_89 (dk_at dksX0_readHill_3 9 rfl rfl)
theorem dX0_readHill_82 : decode cX0_readHill 82 = .ok (.sipush (-2000), 3) := dk_17 248 48 (dk_at dksX0_readHill_3 10 rfl rfl)
theorem dX0_readHill_85 : decode cX0_readHill 85 = .ok (.aload_n 2, 1) := dk_44 (dk_at dksX0_readHill_3 13 rfl rfl)
theorem dX0_readHill_86 : decode cX0_readHill 86 = .ok (.iload 4, 2) := dk_21 4 (dk_at dksX0_readHill_3 14 rfl rfl)
theorem dX0_readHill_88 : decode cX0_readHill 88 = .ok (.aaload, 1) := dk_50 (dk_at dksX0_readHill_3 16 rfl rfl)
theorem dX0_readHill_89 : decode cX0_readHill 89 = .ok (.getfield 112, 3) := dk_180 0 112 (dk_at dksX0_readHill_3 17 rfl rfl)
theorem dX0_readHill_92 : decode cX0_readHill 92 = .ok (.isub, 1) := dk_100 (dk_at dksX0_readHill_3 20 rfl rfl)
theorem dX0_readHill_93 : decode cX0_readHill 93 = .ok (.invokespecial 115, 3) := dk_183 0 115 (dk_at dksX0_readHill_3 21 rfl rfl)
theorem dX0_readHill_96 : decode cX0_readHill 96 = .ok (.athrow, 1) := dk_191 (dk_at dksX0_readHill_4 0 rfl rfl)
theorem dX0_readHill_97 : decode cX0_readHill 97 = .ok (.iinc 4 1, 3) := dk_132 4 1 (dk_at dksX0_readHill_4 1 rfl rfl)
theorem dX0_readHill_100 : decode cX0_readHill 100 = .ok (.goto (-42), 3) := dk_167 255 214 (dk_at dksX0_readHill_4 4 rfl rfl)
theorem dX0_readHill_103 : decode cX0_readHill 103 = .ok (.aload_n 0, 1) := dk_42 (dk_at dksX0_readHill_4 7 rfl rfl)
theorem dX0_readHill_104 : decode cX0_readHill 104 = .ok (.getfield 53, 3) := dk_180 0 53 (dk_at dksX0_readHill_4 8 rfl rfl)
theorem dX0_readHill_107 : decode cX0_readHill 107 = .ok (.aload_n 0, 1) := dk_42 (dk_at dksX0_readHill_4 11 rfl rfl)
theorem dX0_readHill_108 : decode cX0_readHill 108 = .ok (.getfield 57, 3) := dk_180 0 57 (dk_at dksX0_readHill_4 12 rfl rfl)
theorem dX0_readHill_111 : decode cX0_readHill 111 = .ok (.invokevirtual 102, 3) := dk_182 0 102 (dk_at dksX0_readHill_4 15 rfl rfl)
theorem dX0_readHill_114 : decode cX0_readHill 114 = .ok (.pop, 1) := dk_87 (dk_at dksX0_readHill_4 18 rfl rfl)
theorem dX0_readHill_115 : decode cX0_readHill 115 = .ok (.iload_n 3, 1) := dk_29 (dk_at dksX0_readHill_4 19 rfl rfl)
theorem dX0_readHill_116 : decode cX0_readHill 116 = .ok (.ireturn, 1) := dk_172 (dk_at dksX0_readHill_4 20 rfl rfl)
abbrev cX0_kindOf : ByteArray := prog_1_method_10_code
def yX0_kindOf : MethodName := ⟨RX0, "kindOf", "(I)I"⟩
def dkwX0_kindOf_2 : List UInt8 := [3, 172, 4, 172, 5, 172, 6, 172, 7, 172, 8, 172, 2, 172]
abbrev dktX0_kindOf_2 : List UInt8 := dkwX0_kindOf_2 ++ []
def dkwX0_kindOf_1 : List UInt8 := [170, 0, 0, 0, 0, 0, 75, 0, 0, 0, 108, 0, 0, 0, 119, 0, 0, 0, 73, 0, 0, 0, 69, 0, 0, 0, 75, 0, 0, 0, 75, 0, 0, 0, 63, 0, 0, 0, 75, 0, 0, 0, 75, 0, 0, 0, 67, 0, 0, 0, 71, 0, 0, 0, 75, 0, 0, 0, 75, 0, 0, 0, 65]
abbrev dktX0_kindOf_1 : List UInt8 := dkwX0_kindOf_1 ++ dktX0_kindOf_2
def dkwX0_kindOf_0 : List UInt8 := [27]
abbrev dktX0_kindOf_0 : List UInt8 := dkwX0_kindOf_0 ++ dktX0_kindOf_1
theorem dksX0_kindOf_0 : cX0_kindOf.data.toList.drop 0 = dktX0_kindOf_0 := by decide +kernel
theorem dksX0_kindOf_1 : cX0_kindOf.data.toList.drop 1 = dktX0_kindOf_1 := dk_seg dksX0_kindOf_0 1 rfl rfl
theorem dksX0_kindOf_2 : cX0_kindOf.data.toList.drop 64 = dktX0_kindOf_2 := dk_seg dksX0_kindOf_1 63 rfl rfl
theorem dX0_kindOf_0 : decode cX0_kindOf 0 = .ok (.iload_n 1, 1) := dk_27 (dk_at dksX0_kindOf_0 0 rfl rfl)
theorem dX0_kindOf_1 : decode cX0_kindOf 1 = .ok (.tableswitch 75 108 119 #[73, 69, 75, 75, 63, 75, 75, 67, 71, 75, 75, 65], 63) := by decide +kernel
theorem dX0_kindOf_64 : decode cX0_kindOf 64 = .ok (.iconst 0, 1) := dk_3 (dk_at dksX0_kindOf_2 0 rfl rfl)
theorem dX0_kindOf_65 : decode cX0_kindOf 65 = .ok (.ireturn, 1) := dk_172 (dk_at dksX0_kindOf_2 1 rfl rfl)
theorem dX0_kindOf_66 : decode cX0_kindOf 66 = .ok (.iconst 1, 1) := dk_4 (dk_at dksX0_kindOf_2 2 rfl rfl)
theorem dX0_kindOf_67 : decode cX0_kindOf 67 = .ok (.ireturn, 1) := dk_172 (dk_at dksX0_kindOf_2 3 rfl rfl)
theorem dX0_kindOf_68 : decode cX0_kindOf 68 = .ok (.iconst 2, 1) := dk_5 (dk_at dksX0_kindOf_2 4 rfl rfl)
theorem dX0_kindOf_69 : decode cX0_kindOf 69 = .ok (.ireturn, 1) := dk_172 (dk_at dksX0_kindOf_2 5 rfl rfl)
theorem dX0_kindOf_70 : decode cX0_kindOf 70 = .ok (.iconst 3, 1) := dk_6 (dk_at dksX0_kindOf_2 6 rfl rfl)
theorem dX0_kindOf_71 : decode cX0_kindOf 71 = .ok (.ireturn, 1) := dk_172 (dk_at dksX0_kindOf_2 7 rfl rfl)
theorem dX0_kindOf_72 : decode cX0_kindOf 72 = .ok (.iconst 4, 1) := dk_7 (dk_at dksX0_kindOf_2 8 rfl rfl)
theorem dX0_kindOf_73 : decode cX0_kindOf 73 = .ok (.ireturn, 1) := dk_172 (dk_at dksX0_kindOf_2 9 rfl rfl)
theorem dX0_kindOf_74 : decode cX0_kindOf 74 = .ok (.iconst 5, 1) := dk_8 (dk_at dksX0_kindOf_2 10 rfl rfl)
theorem dX0_kindOf_75 : decode cX0_kindOf 75 = .ok (.ireturn, 1) := dk_172 (dk_at dksX0_kindOf_2 11 rfl rfl)
theorem dX0_kindOf_76 : decode cX0_kindOf 76 = .ok (.iconst (-1), 1) := dk_2 (dk_at dksX0_kindOf_2 12 rfl rfl)
theorem dX0_kindOf_77 : decode cX0_kindOf 77 = .ok (.ireturn, 1) := dk_172 (dk_at dksX0_kindOf_2 13 rfl rfl)
abbrev cX0_in : ByteArray := prog_1_method_1_code
def yX0_in : MethodName := ⟨RX0, "in", "(JJJ)Z"⟩
def dkwX0_in_0 : List UInt8 := [30, 32, 148, 155, 0, 14, 30, 22, 4, 148, 157, 0, 7, 4, 167, 0, 4, 3, 172]
abbrev dktX0_in_0 : List UInt8 := dkwX0_in_0 ++ []
theorem dksX0_in_0 : cX0_in.data.toList.drop 0 = dktX0_in_0 := by decide +kernel
theorem dX0_in_0 : decode cX0_in 0 = .ok (.lload_n 0, 1) := dk_30 (dk_at dksX0_in_0 0 rfl rfl)
theorem dX0_in_1 : decode cX0_in 1 = .ok (.lload_n 2, 1) := dk_32 (dk_at dksX0_in_0 1 rfl rfl)
theorem dX0_in_2 : decode cX0_in 2 = .ok (.lcmp, 1) := dk_148 (dk_at dksX0_in_0 2 rfl rfl)
theorem dX0_in_3 : decode cX0_in 3 = .ok (.ifCond .lt 14, 3) := dk_155 0 14 (dk_at dksX0_in_0 3 rfl rfl)
theorem dX0_in_6 : decode cX0_in 6 = .ok (.lload_n 0, 1) := dk_30 (dk_at dksX0_in_0 6 rfl rfl)
theorem dX0_in_7 : decode cX0_in 7 = .ok (.lload 4, 2) := dk_22 4 (dk_at dksX0_in_0 7 rfl rfl)
theorem dX0_in_9 : decode cX0_in 9 = .ok (.lcmp, 1) := dk_148 (dk_at dksX0_in_0 9 rfl rfl)
theorem dX0_in_10 : decode cX0_in 10 = .ok (.ifCond .gt 7, 3) := dk_157 0 7 (dk_at dksX0_in_0 10 rfl rfl)
theorem dX0_in_13 : decode cX0_in 13 = .ok (.iconst 1, 1) := dk_4 (dk_at dksX0_in_0 13 rfl rfl)
theorem dX0_in_14 : decode cX0_in 14 = .ok (.goto 4, 3) := dk_167 0 4 (dk_at dksX0_in_0 14 rfl rfl)
theorem dX0_in_17 : decode cX0_in 17 = .ok (.iconst 0, 1) := dk_3 (dk_at dksX0_in_0 17 rfl rfl)
theorem dX0_in_18 : decode cX0_in 18 = .ok (.ireturn, 1) := dk_172 (dk_at dksX0_in_0 18 rfl rfl)
abbrev cX0_has : ByteArray := prog_1_method_5_code
def yX0_has : MethodName := ⟨RX0, "has", "(II)Z"⟩
def dkwX0_has_0 : List UInt8 := [26, 27, 122, 4, 126, 4, 160, 0, 7, 4, 167, 0, 4, 3, 172]
abbrev dktX0_has_0 : List UInt8 := dkwX0_has_0 ++ []
theorem dksX0_has_0 : cX0_has.data.toList.drop 0 = dktX0_has_0 := by decide +kernel
theorem dX0_has_0 : decode cX0_has 0 = .ok (.iload_n 0, 1) := dk_26 (dk_at dksX0_has_0 0 rfl rfl)
theorem dX0_has_1 : decode cX0_has 1 = .ok (.iload_n 1, 1) := dk_27 (dk_at dksX0_has_0 1 rfl rfl)
theorem dX0_has_2 : decode cX0_has 2 = .ok (.ishr, 1) := dk_122 (dk_at dksX0_has_0 2 rfl rfl)
theorem dX0_has_3 : decode cX0_has 3 = .ok (.iconst 1, 1) := dk_4 (dk_at dksX0_has_0 3 rfl rfl)
theorem dX0_has_4 : decode cX0_has 4 = .ok (.iand, 1) := dk_126 (dk_at dksX0_has_0 4 rfl rfl)
theorem dX0_has_5 : decode cX0_has 5 = .ok (.iconst 1, 1) := dk_4 (dk_at dksX0_has_0 5 rfl rfl)
theorem dX0_has_6 : decode cX0_has 6 = .ok (.if_icmp .ne 7, 3) := dk_160 0 7 (dk_at dksX0_has_0 6 rfl rfl)
theorem dX0_has_9 : decode cX0_has 9 = .ok (.iconst 1, 1) := dk_4 (dk_at dksX0_has_0 9 rfl rfl)
theorem dX0_has_10 : decode cX0_has 10 = .ok (.goto 4, 3) := dk_167 0 4 (dk_at dksX0_has_0 10 rfl rfl)
theorem dX0_has_13 : decode cX0_has 13 = .ok (.iconst 0, 1) := dk_3 (dk_at dksX0_has_0 13 rfl rfl)
theorem dX0_has_14 : decode cX0_has 14 = .ok (.ireturn, 1) := dk_172 (dk_at dksX0_has_0 14 rfl rfl)
abbrev cX0_personAsked : ByteArray := prog_1_method_42_code
def yX0_personAsked : MethodName := ⟨RX0, "personAsked", "(II)I"⟩
def dkwX0_personAsked_6 : List UInt8 := [180, 0, 53, 27, 182, 0, 206, 172, 42, 180, 0, 53, 180, 0, 209, 27, 50, 182, 0, 212, 172]
abbrev dktX0_personAsked_6 : List UInt8 := dkwX0_personAsked_6 ++ []
def dkwX0_personAsked_5 : List UInt8 := [184, 0, 215, 153, 0, 7, 4, 167, 0, 4, 3, 172, 42, 180, 0, 53, 180, 0, 168, 27, 46, 172, 42]
abbrev dktX0_personAsked_5 : List UInt8 := dkwX0_personAsked_5 ++ dktX0_personAsked_6
def dkwX0_personAsked_4 : List UInt8 := [180, 0, 183, 27, 184, 0, 215, 153, 0, 7, 4, 167, 0, 4, 3, 172, 42, 180, 0, 53, 180, 0, 201, 27]
abbrev dktX0_personAsked_4 : List UInt8 := dkwX0_personAsked_4 ++ dktX0_personAsked_5
def dkwX0_personAsked_3 : List UInt8 := [180, 0, 53, 180, 0, 154, 27, 46, 172, 42, 180, 0, 53, 180, 0, 124, 27, 46, 172, 42, 180, 0, 53]
abbrev dktX0_personAsked_3 : List UInt8 := dkwX0_personAsked_3 ++ dktX0_personAsked_4
def dkwX0_personAsked_2 : List UInt8 := [42, 180, 0, 53, 180, 0, 209, 27, 50, 182, 1, 16, 172, 42, 180, 0, 53, 180, 0, 228, 27, 46, 172, 42]
abbrev dktX0_personAsked_2 : List UInt8 := dkwX0_personAsked_2 ++ dktX0_personAsked_3
def dkwX0_personAsked_1 : List UInt8 := [170, 0, 0, 0, 0, 0, 0, 150, 0, 0, 0, 0, 0, 0, 0, 7, 0, 0, 0, 48, 0, 0, 0, 61, 0, 0, 0, 71, 0, 0, 0, 81, 0, 0, 0, 91, 0, 0, 0, 111, 0, 0, 0, 131, 0, 0, 0, 141]
abbrev dktX0_personAsked_1 : List UInt8 := dkwX0_personAsked_1 ++ dktX0_personAsked_2
def dkwX0_personAsked_0 : List UInt8 := [42, 27, 182, 1, 11, 28, 133, 9, 20, 1, 14, 184, 0, 13, 16, 254, 184, 0, 9, 28]
abbrev dktX0_personAsked_0 : List UInt8 := dkwX0_personAsked_0 ++ dktX0_personAsked_1
theorem dksX0_personAsked_0 : cX0_personAsked.data.toList.drop 0 = dktX0_personAsked_0 := by decide +kernel
theorem dksX0_personAsked_1 : cX0_personAsked.data.toList.drop 20 = dktX0_personAsked_1 := dk_seg dksX0_personAsked_0 20 rfl rfl
theorem dksX0_personAsked_2 : cX0_personAsked.data.toList.drop 68 = dktX0_personAsked_2 := dk_seg dksX0_personAsked_1 48 rfl rfl
theorem dksX0_personAsked_3 : cX0_personAsked.data.toList.drop 92 = dktX0_personAsked_3 := dk_seg dksX0_personAsked_2 24 rfl rfl
theorem dksX0_personAsked_4 : cX0_personAsked.data.toList.drop 115 = dktX0_personAsked_4 := dk_seg dksX0_personAsked_3 23 rfl rfl
theorem dksX0_personAsked_5 : cX0_personAsked.data.toList.drop 139 = dktX0_personAsked_5 := dk_seg dksX0_personAsked_4 24 rfl rfl
theorem dksX0_personAsked_6 : cX0_personAsked.data.toList.drop 162 = dktX0_personAsked_6 := dk_seg dksX0_personAsked_5 23 rfl rfl
theorem dX0_personAsked_0 : decode cX0_personAsked 0 = .ok (.aload_n 0, 1) := dk_42 (dk_at dksX0_personAsked_0 0 rfl rfl)
theorem dX0_personAsked_1 : decode cX0_personAsked 1 = .ok (.iload_n 1, 1) := dk_27 (dk_at dksX0_personAsked_0 1 rfl rfl)
theorem dX0_personAsked_2 : decode cX0_personAsked 2 = .ok (.invokevirtual 267, 3) := dk_182 1 11 (dk_at dksX0_personAsked_0 2 rfl rfl)
theorem dX0_personAsked_5 : decode cX0_personAsked 5 = .ok (.iload_n 2, 1) := dk_28 (dk_at dksX0_personAsked_0 5 rfl rfl)
theorem dX0_personAsked_6 : decode cX0_personAsked 6 = .ok (.i2l, 1) := dk_133 (dk_at dksX0_personAsked_0 6 rfl rfl)
theorem dX0_personAsked_7 : decode cX0_personAsked 7 = .ok (.lconst 0, 1) := dk_9 (dk_at dksX0_personAsked_0 7 rfl rfl)
theorem dX0_personAsked_8 : decode cX0_personAsked 8 = .ok (.ldc2_w 270, 3) := dk_20 1 14 (dk_at dksX0_personAsked_0 8 rfl rfl)
theorem dX0_personAsked_11 : decode cX0_personAsked 11 = .ok (.invokestatic 13, 3) := dk_184 0 13 (dk_at dksX0_personAsked_0 11 rfl rfl)
theorem dX0_personAsked_14 : decode cX0_personAsked 14 = .ok (.bipush (-2), 2) := dk_16 254 (dk_at dksX0_personAsked_0 14 rfl rfl)
theorem dX0_personAsked_16 : decode cX0_personAsked 16 = .ok (.invokestatic 9, 3) := dk_184 0 9 (dk_at dksX0_personAsked_0 16 rfl rfl)
theorem dX0_personAsked_19 : decode cX0_personAsked 19 = .ok (.iload_n 2, 1) := dk_28 (dk_at dksX0_personAsked_0 19 rfl rfl)
theorem dX0_personAsked_20 : decode cX0_personAsked 20 = .ok (.tableswitch 150 0 7 #[48, 61, 71, 81, 91, 111, 131, 141], 48) := by decide +kernel
theorem dX0_personAsked_68 : decode cX0_personAsked 68 = .ok (.aload_n 0, 1) := dk_42 (dk_at dksX0_personAsked_2 0 rfl rfl)
theorem dX0_personAsked_69 : decode cX0_personAsked 69 = .ok (.getfield 53, 3) := dk_180 0 53 (dk_at dksX0_personAsked_2 1 rfl rfl)
theorem dX0_personAsked_72 : decode cX0_personAsked 72 = .ok (.getfield 209, 3) := dk_180 0 209 (dk_at dksX0_personAsked_2 4 rfl rfl)
theorem dX0_personAsked_75 : decode cX0_personAsked 75 = .ok (.iload_n 1, 1) := dk_27 (dk_at dksX0_personAsked_2 7 rfl rfl)
theorem dX0_personAsked_76 : decode cX0_personAsked 76 = .ok (.aaload, 1) := dk_50 (dk_at dksX0_personAsked_2 8 rfl rfl)
theorem dX0_personAsked_77 : decode cX0_personAsked 77 = .ok (.invokevirtual 272, 3) := dk_182 1 16 (dk_at dksX0_personAsked_2 9 rfl rfl)
theorem dX0_personAsked_80 : decode cX0_personAsked 80 = .ok (.ireturn, 1) := dk_172 (dk_at dksX0_personAsked_2 12 rfl rfl)
theorem dX0_personAsked_81 : decode cX0_personAsked 81 = .ok (.aload_n 0, 1) := dk_42 (dk_at dksX0_personAsked_2 13 rfl rfl)
theorem dX0_personAsked_82 : decode cX0_personAsked 82 = .ok (.getfield 53, 3) := dk_180 0 53 (dk_at dksX0_personAsked_2 14 rfl rfl)
theorem dX0_personAsked_85 : decode cX0_personAsked 85 = .ok (.getfield 228, 3) := dk_180 0 228 (dk_at dksX0_personAsked_2 17 rfl rfl)
theorem dX0_personAsked_88 : decode cX0_personAsked 88 = .ok (.iload_n 1, 1) := dk_27 (dk_at dksX0_personAsked_2 20 rfl rfl)
theorem dX0_personAsked_89 : decode cX0_personAsked 89 = .ok (.iaload, 1) := dk_46 (dk_at dksX0_personAsked_2 21 rfl rfl)
theorem dX0_personAsked_90 : decode cX0_personAsked 90 = .ok (.ireturn, 1) := dk_172 (dk_at dksX0_personAsked_2 22 rfl rfl)
theorem dX0_personAsked_91 : decode cX0_personAsked 91 = .ok (.aload_n 0, 1) := dk_42 (dk_at dksX0_personAsked_2 23 rfl rfl)
theorem dX0_personAsked_92 : decode cX0_personAsked 92 = .ok (.getfield 53, 3) := dk_180 0 53 (dk_at dksX0_personAsked_3 0 rfl rfl)
theorem dX0_personAsked_95 : decode cX0_personAsked 95 = .ok (.getfield 154, 3) := dk_180 0 154 (dk_at dksX0_personAsked_3 3 rfl rfl)
theorem dX0_personAsked_98 : decode cX0_personAsked 98 = .ok (.iload_n 1, 1) := dk_27 (dk_at dksX0_personAsked_3 6 rfl rfl)
theorem dX0_personAsked_99 : decode cX0_personAsked 99 = .ok (.iaload, 1) := dk_46 (dk_at dksX0_personAsked_3 7 rfl rfl)
theorem dX0_personAsked_100 : decode cX0_personAsked 100 = .ok (.ireturn, 1) := dk_172 (dk_at dksX0_personAsked_3 8 rfl rfl)
theorem dX0_personAsked_101 : decode cX0_personAsked 101 = .ok (.aload_n 0, 1) := dk_42 (dk_at dksX0_personAsked_3 9 rfl rfl)
theorem dX0_personAsked_102 : decode cX0_personAsked 102 = .ok (.getfield 53, 3) := dk_180 0 53 (dk_at dksX0_personAsked_3 10 rfl rfl)
theorem dX0_personAsked_105 : decode cX0_personAsked 105 = .ok (.getfield 124, 3) := dk_180 0 124 (dk_at dksX0_personAsked_3 13 rfl rfl)
theorem dX0_personAsked_108 : decode cX0_personAsked 108 = .ok (.iload_n 1, 1) := dk_27 (dk_at dksX0_personAsked_3 16 rfl rfl)
theorem dX0_personAsked_109 : decode cX0_personAsked 109 = .ok (.iaload, 1) := dk_46 (dk_at dksX0_personAsked_3 17 rfl rfl)
theorem dX0_personAsked_110 : decode cX0_personAsked 110 = .ok (.ireturn, 1) := dk_172 (dk_at dksX0_personAsked_3 18 rfl rfl)
theorem dX0_personAsked_111 : decode cX0_personAsked 111 = .ok (.aload_n 0, 1) := dk_42 (dk_at dksX0_personAsked_3 19 rfl rfl)
theorem dX0_personAsked_112 : decode cX0_personAsked 112 = .ok (.getfield 53, 3) := dk_180 0 53 (dk_at dksX0_personAsked_3 20 rfl rfl)
theorem dX0_personAsked_115 : decode cX0_personAsked 115 = .ok (.getfield 183, 3) := dk_180 0 183 (dk_at dksX0_personAsked_4 0 rfl rfl)
theorem dX0_personAsked_118 : decode cX0_personAsked 118 = .ok (.iload_n 1, 1) := dk_27 (dk_at dksX0_personAsked_4 3 rfl rfl)
theorem dX0_personAsked_119 : decode cX0_personAsked 119 = .ok (.invokestatic 215, 3) := dk_184 0 215 (dk_at dksX0_personAsked_4 4 rfl rfl)
theorem dX0_personAsked_122 : decode cX0_personAsked 122 = .ok (.ifCond .eq 7, 3) := dk_153 0 7 (dk_at dksX0_personAsked_4 7 rfl rfl)
theorem dX0_personAsked_125 : decode cX0_personAsked 125 = .ok (.iconst 1, 1) := dk_4 (dk_at dksX0_personAsked_4 10 rfl rfl)
theorem dX0_personAsked_126 : decode cX0_personAsked 126 = .ok (.goto 4, 3) := dk_167 0 4 (dk_at dksX0_personAsked_4 11 rfl rfl)
theorem dX0_personAsked_129 : decode cX0_personAsked 129 = .ok (.iconst 0, 1) := dk_3 (dk_at dksX0_personAsked_4 14 rfl rfl)
theorem dX0_personAsked_130 : decode cX0_personAsked 130 = .ok (.ireturn, 1) := dk_172 (dk_at dksX0_personAsked_4 15 rfl rfl)
theorem dX0_personAsked_131 : decode cX0_personAsked 131 = .ok (.aload_n 0, 1) := dk_42 (dk_at dksX0_personAsked_4 16 rfl rfl)
theorem dX0_personAsked_132 : decode cX0_personAsked 132 = .ok (.getfield 53, 3) := dk_180 0 53 (dk_at dksX0_personAsked_4 17 rfl rfl)
theorem dX0_personAsked_135 : decode cX0_personAsked 135 = .ok (.getfield 201, 3) := dk_180 0 201 (dk_at dksX0_personAsked_4 20 rfl rfl)
theorem dX0_personAsked_138 : decode cX0_personAsked 138 = .ok (.iload_n 1, 1) := dk_27 (dk_at dksX0_personAsked_4 23 rfl rfl)
theorem dX0_personAsked_139 : decode cX0_personAsked 139 = .ok (.invokestatic 215, 3) := dk_184 0 215 (dk_at dksX0_personAsked_5 0 rfl rfl)
theorem dX0_personAsked_142 : decode cX0_personAsked 142 = .ok (.ifCond .eq 7, 3) := dk_153 0 7 (dk_at dksX0_personAsked_5 3 rfl rfl)
theorem dX0_personAsked_145 : decode cX0_personAsked 145 = .ok (.iconst 1, 1) := dk_4 (dk_at dksX0_personAsked_5 6 rfl rfl)
theorem dX0_personAsked_146 : decode cX0_personAsked 146 = .ok (.goto 4, 3) := dk_167 0 4 (dk_at dksX0_personAsked_5 7 rfl rfl)
theorem dX0_personAsked_149 : decode cX0_personAsked 149 = .ok (.iconst 0, 1) := dk_3 (dk_at dksX0_personAsked_5 10 rfl rfl)
theorem dX0_personAsked_150 : decode cX0_personAsked 150 = .ok (.ireturn, 1) := dk_172 (dk_at dksX0_personAsked_5 11 rfl rfl)
theorem dX0_personAsked_151 : decode cX0_personAsked 151 = .ok (.aload_n 0, 1) := dk_42 (dk_at dksX0_personAsked_5 12 rfl rfl)
theorem dX0_personAsked_152 : decode cX0_personAsked 152 = .ok (.getfield 53, 3) := dk_180 0 53 (dk_at dksX0_personAsked_5 13 rfl rfl)
theorem dX0_personAsked_155 : decode cX0_personAsked 155 = .ok (.getfield 168, 3) := dk_180 0 168 (dk_at dksX0_personAsked_5 16 rfl rfl)
theorem dX0_personAsked_158 : decode cX0_personAsked 158 = .ok (.iload_n 1, 1) := dk_27 (dk_at dksX0_personAsked_5 19 rfl rfl)
theorem dX0_personAsked_159 : decode cX0_personAsked 159 = .ok (.iaload, 1) := dk_46 (dk_at dksX0_personAsked_5 20 rfl rfl)
theorem dX0_personAsked_160 : decode cX0_personAsked 160 = .ok (.ireturn, 1) := dk_172 (dk_at dksX0_personAsked_5 21 rfl rfl)
theorem dX0_personAsked_161 : decode cX0_personAsked 161 = .ok (.aload_n 0, 1) := dk_42 (dk_at dksX0_personAsked_5 22 rfl rfl)
theorem dX0_personAsked_162 : decode cX0_personAsked 162 = .ok (.getfield 53, 3) := dk_180 0 53 (dk_at dksX0_personAsked_6 0 rfl rfl)
theorem dX0_personAsked_165 : decode cX0_personAsked 165 = .ok (.iload_n 1, 1) := dk_27 (dk_at dksX0_personAsked_6 3 rfl rfl)
theorem dX0_personAsked_166 : decode cX0_personAsked 166 = .ok (.invokevirtual 206, 3) := dk_182 0 206 (dk_at dksX0_personAsked_6 4 rfl rfl)
theorem dX0_personAsked_169 : decode cX0_personAsked 169 = .ok (.ireturn, 1) := dk_172 (dk_at dksX0_personAsked_6 7 rfl rfl)
theorem dX0_personAsked_170 : decode cX0_personAsked 170 = .ok (.aload_n 0, 1) := dk_42 (dk_at dksX0_personAsked_6 8 rfl rfl)
theorem dX0_personAsked_171 : decode cX0_personAsked 171 = .ok (.getfield 53, 3) := dk_180 0 53 (dk_at dksX0_personAsked_6 9 rfl rfl)
theorem dX0_personAsked_174 : decode cX0_personAsked 174 = .ok (.getfield 209, 3) := dk_180 0 209 (dk_at dksX0_personAsked_6 12 rfl rfl)
theorem dX0_personAsked_177 : decode cX0_personAsked 177 = .ok (.iload_n 1, 1) := dk_27 (dk_at dksX0_personAsked_6 15 rfl rfl)
theorem dX0_personAsked_178 : decode cX0_personAsked 178 = .ok (.aaload, 1) := dk_50 (dk_at dksX0_personAsked_6 16 rfl rfl)
theorem dX0_personAsked_179 : decode cX0_personAsked 179 = .ok (.invokevirtual 212, 3) := dk_182 0 212 (dk_at dksX0_personAsked_6 17 rfl rfl)
theorem dX0_personAsked_182 : decode cX0_personAsked 182 = .ok (.ireturn, 1) := dk_172 (dk_at dksX0_personAsked_6 20 rfl rfl)
abbrev cX0_mustBePerson : ByteArray := prog_1_method_38_code
def yX0_mustBePerson : MethodName := ⟨RX0, "mustBePerson", "(I)V"⟩
def dkwX0_mustBePerson_0 : List UInt8 := [27, 42, 180, 0, 53, 180, 0, 132, 184, 1, 3, 177]
abbrev dktX0_mustBePerson_0 : List UInt8 := dkwX0_mustBePerson_0 ++ []
theorem dksX0_mustBePerson_0 : cX0_mustBePerson.data.toList.drop 0 = dktX0_mustBePerson_0 := by decide +kernel
theorem dX0_mustBePerson_0 : decode cX0_mustBePerson 0 = .ok (.iload_n 1, 1) := dk_27 (dk_at dksX0_mustBePerson_0 0 rfl rfl)
theorem dX0_mustBePerson_1 : decode cX0_mustBePerson 1 = .ok (.aload_n 0, 1) := dk_42 (dk_at dksX0_mustBePerson_0 1 rfl rfl)
theorem dX0_mustBePerson_2 : decode cX0_mustBePerson 2 = .ok (.getfield 53, 3) := dk_180 0 53 (dk_at dksX0_mustBePerson_0 2 rfl rfl)
theorem dX0_mustBePerson_5 : decode cX0_mustBePerson 5 = .ok (.getfield 132, 3) := dk_180 0 132 (dk_at dksX0_mustBePerson_0 5 rfl rfl)
theorem dX0_mustBePerson_8 : decode cX0_mustBePerson 8 = .ok (.invokestatic 259, 3) := dk_184 1 3 (dk_at dksX0_mustBePerson_0 8 rfl rfl)
theorem dX0_mustBePerson_11 : decode cX0_mustBePerson 11 = .ok (.return_, 1) := dk_177 (dk_at dksX0_mustBePerson_0 11 rfl rfl)
abbrev cX0_mustBe : ByteArray := prog_1_method_4_code
def yX0_mustBe : MethodName := ⟨RX0, "mustBe", "(II)V"⟩
def dkwX0_mustBe_0 : List UInt8 := [26, 133, 9, 27, 4, 100, 133, 184, 0, 13, 2, 184, 0, 9, 177]
abbrev dktX0_mustBe_0 : List UInt8 := dkwX0_mustBe_0 ++ []
theorem dksX0_mustBe_0 : cX0_mustBe.data.toList.drop 0 = dktX0_mustBe_0 := by decide +kernel
theorem dX0_mustBe_0 : decode cX0_mustBe 0 = .ok (.iload_n 0, 1) := dk_26 (dk_at dksX0_mustBe_0 0 rfl rfl)
theorem dX0_mustBe_1 : decode cX0_mustBe 1 = .ok (.i2l, 1) := dk_133 (dk_at dksX0_mustBe_0 1 rfl rfl)
theorem dX0_mustBe_2 : decode cX0_mustBe 2 = .ok (.lconst 0, 1) := dk_9 (dk_at dksX0_mustBe_0 2 rfl rfl)
theorem dX0_mustBe_3 : decode cX0_mustBe 3 = .ok (.iload_n 1, 1) := dk_27 (dk_at dksX0_mustBe_0 3 rfl rfl)
theorem dX0_mustBe_4 : decode cX0_mustBe 4 = .ok (.iconst 1, 1) := dk_4 (dk_at dksX0_mustBe_0 4 rfl rfl)
theorem dX0_mustBe_5 : decode cX0_mustBe 5 = .ok (.isub, 1) := dk_100 (dk_at dksX0_mustBe_0 5 rfl rfl)
theorem dX0_mustBe_6 : decode cX0_mustBe 6 = .ok (.i2l, 1) := dk_133 (dk_at dksX0_mustBe_0 6 rfl rfl)
theorem dX0_mustBe_7 : decode cX0_mustBe 7 = .ok (.invokestatic 13, 3) := dk_184 0 13 (dk_at dksX0_mustBe_0 7 rfl rfl)
theorem dX0_mustBe_10 : decode cX0_mustBe 10 = .ok (.iconst (-1), 1) := dk_2 (dk_at dksX0_mustBe_0 10 rfl rfl)
theorem dX0_mustBe_11 : decode cX0_mustBe 11 = .ok (.invokestatic 9, 3) := dk_184 0 9 (dk_at dksX0_mustBe_0 11 rfl rfl)
theorem dX0_mustBe_14 : decode cX0_mustBe 14 = .ok (.return_, 1) := dk_177 (dk_at dksX0_mustBe_0 14 rfl rfl)
abbrev cX0_speakIt : ByteArray := prog_1_method_43_code
def yX0_speakIt : MethodName := ⟨RX0, "speakIt", "(I)I"⟩
def dkwX0_speakIt_2 : List UInt8 := [180, 0, 183, 184, 0, 180, 172]
abbrev dktX0_speakIt_2 : List UInt8 := dkwX0_speakIt_2 ++ []
def dkwX0_speakIt_1 : List UInt8 := [16, 253, 184, 0, 9, 42, 180, 0, 53, 89, 180, 0, 183, 4, 27, 120, 128, 181, 0, 183, 42, 180, 0, 53]
abbrev dktX0_speakIt_1 : List UInt8 := dkwX0_speakIt_1 ++ dktX0_speakIt_2
def dkwX0_speakIt_0 : List UInt8 := [42, 27, 182, 1, 11, 42, 180, 0, 53, 180, 0, 183, 27, 184, 0, 215, 154, 0, 7, 4, 167, 0, 4, 3]
abbrev dktX0_speakIt_0 : List UInt8 := dkwX0_speakIt_0 ++ dktX0_speakIt_1
theorem dksX0_speakIt_0 : cX0_speakIt.data.toList.drop 0 = dktX0_speakIt_0 := by decide +kernel
theorem dksX0_speakIt_1 : cX0_speakIt.data.toList.drop 24 = dktX0_speakIt_1 := dk_seg dksX0_speakIt_0 24 rfl rfl
theorem dksX0_speakIt_2 : cX0_speakIt.data.toList.drop 48 = dktX0_speakIt_2 := dk_seg dksX0_speakIt_1 24 rfl rfl
theorem dX0_speakIt_0 : decode cX0_speakIt 0 = .ok (.aload_n 0, 1) := dk_42 (dk_at dksX0_speakIt_0 0 rfl rfl)
theorem dX0_speakIt_1 : decode cX0_speakIt 1 = .ok (.iload_n 1, 1) := dk_27 (dk_at dksX0_speakIt_0 1 rfl rfl)
theorem dX0_speakIt_2 : decode cX0_speakIt 2 = .ok (.invokevirtual 267, 3) := dk_182 1 11 (dk_at dksX0_speakIt_0 2 rfl rfl)
theorem dX0_speakIt_5 : decode cX0_speakIt 5 = .ok (.aload_n 0, 1) := dk_42 (dk_at dksX0_speakIt_0 5 rfl rfl)
theorem dX0_speakIt_6 : decode cX0_speakIt 6 = .ok (.getfield 53, 3) := dk_180 0 53 (dk_at dksX0_speakIt_0 6 rfl rfl)
theorem dX0_speakIt_9 : decode cX0_speakIt 9 = .ok (.getfield 183, 3) := dk_180 0 183 (dk_at dksX0_speakIt_0 9 rfl rfl)
theorem dX0_speakIt_12 : decode cX0_speakIt 12 = .ok (.iload_n 1, 1) := dk_27 (dk_at dksX0_speakIt_0 12 rfl rfl)
theorem dX0_speakIt_13 : decode cX0_speakIt 13 = .ok (.invokestatic 215, 3) := dk_184 0 215 (dk_at dksX0_speakIt_0 13 rfl rfl)
theorem dX0_speakIt_16 : decode cX0_speakIt 16 = .ok (.ifCond .ne 7, 3) := dk_154 0 7 (dk_at dksX0_speakIt_0 16 rfl rfl)
theorem dX0_speakIt_19 : decode cX0_speakIt 19 = .ok (.iconst 1, 1) := dk_4 (dk_at dksX0_speakIt_0 19 rfl rfl)
theorem dX0_speakIt_20 : decode cX0_speakIt 20 = .ok (.goto 4, 3) := dk_167 0 4 (dk_at dksX0_speakIt_0 20 rfl rfl)
theorem dX0_speakIt_23 : decode cX0_speakIt 23 = .ok (.iconst 0, 1) := dk_3 (dk_at dksX0_speakIt_0 23 rfl rfl)
theorem dX0_speakIt_24 : decode cX0_speakIt 24 = .ok (.bipush (-3), 2) := dk_16 253 (dk_at dksX0_speakIt_1 0 rfl rfl)
theorem dX0_speakIt_26 : decode cX0_speakIt 26 = .ok (.invokestatic 9, 3) := dk_184 0 9 (dk_at dksX0_speakIt_1 2 rfl rfl)
theorem dX0_speakIt_29 : decode cX0_speakIt 29 = .ok (.aload_n 0, 1) := dk_42 (dk_at dksX0_speakIt_1 5 rfl rfl)
theorem dX0_speakIt_30 : decode cX0_speakIt 30 = .ok (.getfield 53, 3) := dk_180 0 53 (dk_at dksX0_speakIt_1 6 rfl rfl)
theorem dX0_speakIt_33 : decode cX0_speakIt 33 = .ok (.dup, 1) := dk_89 (dk_at dksX0_speakIt_1 9 rfl rfl)
theorem dX0_speakIt_34 : decode cX0_speakIt 34 = .ok (.getfield 183, 3) := dk_180 0 183 (dk_at dksX0_speakIt_1 10 rfl rfl)
theorem dX0_speakIt_37 : decode cX0_speakIt 37 = .ok (.iconst 1, 1) := dk_4 (dk_at dksX0_speakIt_1 13 rfl rfl)
theorem dX0_speakIt_38 : decode cX0_speakIt 38 = .ok (.iload_n 1, 1) := dk_27 (dk_at dksX0_speakIt_1 14 rfl rfl)
theorem dX0_speakIt_39 : decode cX0_speakIt 39 = .ok (.ishl, 1) := dk_120 (dk_at dksX0_speakIt_1 15 rfl rfl)
theorem dX0_speakIt_40 : decode cX0_speakIt 40 = .ok (.ior, 1) := dk_128 (dk_at dksX0_speakIt_1 16 rfl rfl)
theorem dX0_speakIt_41 : decode cX0_speakIt 41 = .ok (.putfield 183, 3) := dk_181 0 183 (dk_at dksX0_speakIt_1 17 rfl rfl)
theorem dX0_speakIt_44 : decode cX0_speakIt 44 = .ok (.aload_n 0, 1) := dk_42 (dk_at dksX0_speakIt_1 20 rfl rfl)
theorem dX0_speakIt_45 : decode cX0_speakIt 45 = .ok (.getfield 53, 3) := dk_180 0 53 (dk_at dksX0_speakIt_1 21 rfl rfl)
theorem dX0_speakIt_48 : decode cX0_speakIt 48 = .ok (.getfield 183, 3) := dk_180 0 183 (dk_at dksX0_speakIt_2 0 rfl rfl)
theorem dX0_speakIt_51 : decode cX0_speakIt 51 = .ok (.invokestatic 180, 3) := dk_184 0 180 (dk_at dksX0_speakIt_2 3 rfl rfl)
theorem dX0_speakIt_54 : decode cX0_speakIt 54 = .ok (.ireturn, 1) := dk_172 (dk_at dksX0_speakIt_2 6 rfl rfl)
abbrev cX0_ones : ByteArray := prog_1_method_6_code
def yX0_ones : MethodName := ⟨RX0, "ones", "(I)I"⟩
def dkwX0_ones_0 : List UInt8 := [3, 60, 26, 61, 28, 153, 0, 15, 132, 1, 1, 28, 28, 4, 100, 126, 61, 167, 255, 243, 27, 172]
abbrev dktX0_ones_0 : List UInt8 := dkwX0_ones_0 ++ []
theorem dksX0_ones_0 : cX0_ones.data.toList.drop 0 = dktX0_ones_0 := by decide +kernel
theorem dX0_ones_0 : decode cX0_ones 0 = .ok (.iconst 0, 1) := dk_3 (dk_at dksX0_ones_0 0 rfl rfl)
theorem dX0_ones_1 : decode cX0_ones 1 = .ok (.istore_n 1, 1) := dk_60 (dk_at dksX0_ones_0 1 rfl rfl)
theorem dX0_ones_2 : decode cX0_ones 2 = .ok (.iload_n 0, 1) := dk_26 (dk_at dksX0_ones_0 2 rfl rfl)
theorem dX0_ones_3 : decode cX0_ones 3 = .ok (.istore_n 2, 1) := dk_61 (dk_at dksX0_ones_0 3 rfl rfl)
theorem dX0_ones_4 : decode cX0_ones 4 = .ok (.iload_n 2, 1) := dk_28 (dk_at dksX0_ones_0 4 rfl rfl)
theorem dX0_ones_5 : decode cX0_ones 5 = .ok (.ifCond .eq 15, 3) := dk_153 0 15 (dk_at dksX0_ones_0 5 rfl rfl)
theorem dX0_ones_8 : decode cX0_ones 8 = .ok (.iinc 1 1, 3) := dk_132 1 1 (dk_at dksX0_ones_0 8 rfl rfl)
theorem dX0_ones_11 : decode cX0_ones 11 = .ok (.iload_n 2, 1) := dk_28 (dk_at dksX0_ones_0 11 rfl rfl)
theorem dX0_ones_12 : decode cX0_ones 12 = .ok (.iload_n 2, 1) := dk_28 (dk_at dksX0_ones_0 12 rfl rfl)
theorem dX0_ones_13 : decode cX0_ones 13 = .ok (.iconst 1, 1) := dk_4 (dk_at dksX0_ones_0 13 rfl rfl)
theorem dX0_ones_14 : decode cX0_ones 14 = .ok (.isub, 1) := dk_100 (dk_at dksX0_ones_0 14 rfl rfl)
theorem dX0_ones_15 : decode cX0_ones 15 = .ok (.iand, 1) := dk_126 (dk_at dksX0_ones_0 15 rfl rfl)
theorem dX0_ones_16 : decode cX0_ones 16 = .ok (.istore_n 2, 1) := dk_61 (dk_at dksX0_ones_0 16 rfl rfl)
theorem dX0_ones_17 : decode cX0_ones 17 = .ok (.goto (-13), 3) := dk_167 255 243 (dk_at dksX0_ones_0 17 rfl rfl)
theorem dX0_ones_20 : decode cX0_ones 20 = .ok (.iload_n 1, 1) := dk_27 (dk_at dksX0_ones_0 20 rfl rfl)
theorem dX0_ones_21 : decode cX0_ones 21 = .ok (.ireturn, 1) := dk_172 (dk_at dksX0_ones_0 21 rfl rfl)
abbrev cX0_befriendIt : ByteArray := prog_1_method_44_code
def yX0_befriendIt : MethodName := ⟨RX0, "befriendIt", "(II)I"⟩
def dkwX0_befriendIt_1 : List UInt8 := [180, 0, 53, 180, 0, 168, 27, 28, 79, 29, 172]
abbrev dktX0_befriendIt_1 : List UInt8 := dkwX0_befriendIt_1 ++ []
def dkwX0_befriendIt_0 : List UInt8 := [42, 27, 182, 1, 11, 28, 16, 6, 184, 1, 3, 42, 180, 0, 53, 180, 0, 168, 27, 46, 62, 42]
abbrev dktX0_befriendIt_0 : List UInt8 := dkwX0_befriendIt_0 ++ dktX0_befriendIt_1
theorem dksX0_befriendIt_0 : cX0_befriendIt.data.toList.drop 0 = dktX0_befriendIt_0 := by decide +kernel
theorem dksX0_befriendIt_1 : cX0_befriendIt.data.toList.drop 22 = dktX0_befriendIt_1 := dk_seg dksX0_befriendIt_0 22 rfl rfl
theorem dX0_befriendIt_0 : decode cX0_befriendIt 0 = .ok (.aload_n 0, 1) := dk_42 (dk_at dksX0_befriendIt_0 0 rfl rfl)
theorem dX0_befriendIt_1 : decode cX0_befriendIt 1 = .ok (.iload_n 1, 1) := dk_27 (dk_at dksX0_befriendIt_0 1 rfl rfl)
theorem dX0_befriendIt_2 : decode cX0_befriendIt 2 = .ok (.invokevirtual 267, 3) := dk_182 1 11 (dk_at dksX0_befriendIt_0 2 rfl rfl)
theorem dX0_befriendIt_5 : decode cX0_befriendIt 5 = .ok (.iload_n 2, 1) := dk_28 (dk_at dksX0_befriendIt_0 5 rfl rfl)
theorem dX0_befriendIt_6 : decode cX0_befriendIt 6 = .ok (.bipush 6, 2) := dk_16 6 (dk_at dksX0_befriendIt_0 6 rfl rfl)
theorem dX0_befriendIt_8 : decode cX0_befriendIt 8 = .ok (.invokestatic 259, 3) := dk_184 1 3 (dk_at dksX0_befriendIt_0 8 rfl rfl)
theorem dX0_befriendIt_11 : decode cX0_befriendIt 11 = .ok (.aload_n 0, 1) := dk_42 (dk_at dksX0_befriendIt_0 11 rfl rfl)
theorem dX0_befriendIt_12 : decode cX0_befriendIt 12 = .ok (.getfield 53, 3) := dk_180 0 53 (dk_at dksX0_befriendIt_0 12 rfl rfl)
theorem dX0_befriendIt_15 : decode cX0_befriendIt 15 = .ok (.getfield 168, 3) := dk_180 0 168 (dk_at dksX0_befriendIt_0 15 rfl rfl)
theorem dX0_befriendIt_18 : decode cX0_befriendIt 18 = .ok (.iload_n 1, 1) := dk_27 (dk_at dksX0_befriendIt_0 18 rfl rfl)
theorem dX0_befriendIt_19 : decode cX0_befriendIt 19 = .ok (.iaload, 1) := dk_46 (dk_at dksX0_befriendIt_0 19 rfl rfl)
theorem dX0_befriendIt_20 : decode cX0_befriendIt 20 = .ok (.istore_n 3, 1) := dk_62 (dk_at dksX0_befriendIt_0 20 rfl rfl)
theorem dX0_befriendIt_21 : decode cX0_befriendIt 21 = .ok (.aload_n 0, 1) := dk_42 (dk_at dksX0_befriendIt_0 21 rfl rfl)
theorem dX0_befriendIt_22 : decode cX0_befriendIt 22 = .ok (.getfield 53, 3) := dk_180 0 53 (dk_at dksX0_befriendIt_1 0 rfl rfl)
theorem dX0_befriendIt_25 : decode cX0_befriendIt 25 = .ok (.getfield 168, 3) := dk_180 0 168 (dk_at dksX0_befriendIt_1 3 rfl rfl)
theorem dX0_befriendIt_28 : decode cX0_befriendIt 28 = .ok (.iload_n 1, 1) := dk_27 (dk_at dksX0_befriendIt_1 6 rfl rfl)
theorem dX0_befriendIt_29 : decode cX0_befriendIt 29 = .ok (.iload_n 2, 1) := dk_28 (dk_at dksX0_befriendIt_1 7 rfl rfl)
theorem dX0_befriendIt_30 : decode cX0_befriendIt 30 = .ok (.iastore, 1) := dk_79 (dk_at dksX0_befriendIt_1 8 rfl rfl)
theorem dX0_befriendIt_31 : decode cX0_befriendIt 31 = .ok (.iload_n 3, 1) := dk_29 (dk_at dksX0_befriendIt_1 9 rfl rfl)
theorem dX0_befriendIt_32 : decode cX0_befriendIt 32 = .ok (.ireturn, 1) := dk_172 (dk_at dksX0_befriendIt_1 10 rfl rfl)
abbrev cX0_becomes : ByteArray := prog_1_method_45_code
def yX0_becomes : MethodName := ⟨RX0, "becomes", "([IIII)I"⟩
def dkwX0_becomes_1 : List UInt8 := [21, 5, 172]
abbrev dktX0_becomes_1 : List UInt8 := dkwX0_becomes_1 ++ []
def dkwX0_becomes_0 : List UInt8 := [42, 28, 182, 1, 11, 29, 133, 9, 21, 4, 133, 184, 0, 188, 43, 28, 46, 54, 5, 43, 28, 29, 79]
abbrev dktX0_becomes_0 : List UInt8 := dkwX0_becomes_0 ++ dktX0_becomes_1
theorem dksX0_becomes_0 : cX0_becomes.data.toList.drop 0 = dktX0_becomes_0 := by decide +kernel
theorem dksX0_becomes_1 : cX0_becomes.data.toList.drop 23 = dktX0_becomes_1 := dk_seg dksX0_becomes_0 23 rfl rfl
theorem dX0_becomes_0 : decode cX0_becomes 0 = .ok (.aload_n 0, 1) := dk_42 (dk_at dksX0_becomes_0 0 rfl rfl)
theorem dX0_becomes_1 : decode cX0_becomes 1 = .ok (.iload_n 2, 1) := dk_28 (dk_at dksX0_becomes_0 1 rfl rfl)
theorem dX0_becomes_2 : decode cX0_becomes 2 = .ok (.invokevirtual 267, 3) := dk_182 1 11 (dk_at dksX0_becomes_0 2 rfl rfl)
theorem dX0_becomes_5 : decode cX0_becomes 5 = .ok (.iload_n 3, 1) := dk_29 (dk_at dksX0_becomes_0 5 rfl rfl)
theorem dX0_becomes_6 : decode cX0_becomes 6 = .ok (.i2l, 1) := dk_133 (dk_at dksX0_becomes_0 6 rfl rfl)
theorem dX0_becomes_7 : decode cX0_becomes 7 = .ok (.lconst 0, 1) := dk_9 (dk_at dksX0_becomes_0 7 rfl rfl)
theorem dX0_becomes_8 : decode cX0_becomes 8 = .ok (.iload 4, 2) := dk_21 4 (dk_at dksX0_becomes_0 8 rfl rfl)
theorem dX0_becomes_10 : decode cX0_becomes 10 = .ok (.i2l, 1) := dk_133 (dk_at dksX0_becomes_0 10 rfl rfl)
theorem dX0_becomes_11 : decode cX0_becomes 11 = .ok (.invokestatic 188, 3) := dk_184 0 188 (dk_at dksX0_becomes_0 11 rfl rfl)
theorem dX0_becomes_14 : decode cX0_becomes 14 = .ok (.aload_n 1, 1) := dk_43 (dk_at dksX0_becomes_0 14 rfl rfl)
theorem dX0_becomes_15 : decode cX0_becomes 15 = .ok (.iload_n 2, 1) := dk_28 (dk_at dksX0_becomes_0 15 rfl rfl)
theorem dX0_becomes_16 : decode cX0_becomes 16 = .ok (.iaload, 1) := dk_46 (dk_at dksX0_becomes_0 16 rfl rfl)
theorem dX0_becomes_17 : decode cX0_becomes 17 = .ok (.istore 5, 2) := dk_54 5 (dk_at dksX0_becomes_0 17 rfl rfl)
theorem dX0_becomes_19 : decode cX0_becomes 19 = .ok (.aload_n 1, 1) := dk_43 (dk_at dksX0_becomes_0 19 rfl rfl)
theorem dX0_becomes_20 : decode cX0_becomes 20 = .ok (.iload_n 2, 1) := dk_28 (dk_at dksX0_becomes_0 20 rfl rfl)
theorem dX0_becomes_21 : decode cX0_becomes 21 = .ok (.iload_n 3, 1) := dk_29 (dk_at dksX0_becomes_0 21 rfl rfl)
theorem dX0_becomes_22 : decode cX0_becomes 22 = .ok (.iastore, 1) := dk_79 (dk_at dksX0_becomes_0 22 rfl rfl)
theorem dX0_becomes_23 : decode cX0_becomes 23 = .ok (.iload 5, 2) := dk_21 5 (dk_at dksX0_becomes_1 0 rfl rfl)
theorem dX0_becomes_25 : decode cX0_becomes 25 = .ok (.ireturn, 1) := dk_172 (dk_at dksX0_becomes_1 2 rfl rfl)
abbrev cX0_waterIt : ByteArray := prog_1_method_46_code
def yX0_waterIt : MethodName := ⟨RX0, "waterIt", "(I)I"⟩
def dkwX0_waterIt_1 : List UInt8 := [181, 0, 145, 28, 172]
abbrev dktX0_waterIt_1 : List UInt8 := dkwX0_waterIt_1 ++ []
def dkwX0_waterIt_0 : List UInt8 := [27, 133, 9, 20, 1, 18, 184, 0, 188, 42, 180, 0, 53, 180, 0, 145, 61, 42, 180, 0, 53, 27]
abbrev dktX0_waterIt_0 : List UInt8 := dkwX0_waterIt_0 ++ dktX0_waterIt_1
theorem dksX0_waterIt_0 : cX0_waterIt.data.toList.drop 0 = dktX0_waterIt_0 := by decide +kernel
theorem dksX0_waterIt_1 : cX0_waterIt.data.toList.drop 22 = dktX0_waterIt_1 := dk_seg dksX0_waterIt_0 22 rfl rfl
theorem dX0_waterIt_0 : decode cX0_waterIt 0 = .ok (.iload_n 1, 1) := dk_27 (dk_at dksX0_waterIt_0 0 rfl rfl)
theorem dX0_waterIt_1 : decode cX0_waterIt 1 = .ok (.i2l, 1) := dk_133 (dk_at dksX0_waterIt_0 1 rfl rfl)
theorem dX0_waterIt_2 : decode cX0_waterIt 2 = .ok (.lconst 0, 1) := dk_9 (dk_at dksX0_waterIt_0 2 rfl rfl)
theorem dX0_waterIt_3 : decode cX0_waterIt 3 = .ok (.ldc2_w 274, 3) := dk_20 1 18 (dk_at dksX0_waterIt_0 3 rfl rfl)
theorem dX0_waterIt_6 : decode cX0_waterIt 6 = .ok (.invokestatic 188, 3) := dk_184 0 188 (dk_at dksX0_waterIt_0 6 rfl rfl)
theorem dX0_waterIt_9 : decode cX0_waterIt 9 = .ok (.aload_n 0, 1) := dk_42 (dk_at dksX0_waterIt_0 9 rfl rfl)
theorem dX0_waterIt_10 : decode cX0_waterIt 10 = .ok (.getfield 53, 3) := dk_180 0 53 (dk_at dksX0_waterIt_0 10 rfl rfl)
theorem dX0_waterIt_13 : decode cX0_waterIt 13 = .ok (.getfield 145, 3) := dk_180 0 145 (dk_at dksX0_waterIt_0 13 rfl rfl)
theorem dX0_waterIt_16 : decode cX0_waterIt 16 = .ok (.istore_n 2, 1) := dk_61 (dk_at dksX0_waterIt_0 16 rfl rfl)
theorem dX0_waterIt_17 : decode cX0_waterIt 17 = .ok (.aload_n 0, 1) := dk_42 (dk_at dksX0_waterIt_0 17 rfl rfl)
theorem dX0_waterIt_18 : decode cX0_waterIt 18 = .ok (.getfield 53, 3) := dk_180 0 53 (dk_at dksX0_waterIt_0 18 rfl rfl)
theorem dX0_waterIt_21 : decode cX0_waterIt 21 = .ok (.iload_n 1, 1) := dk_27 (dk_at dksX0_waterIt_0 21 rfl rfl)
theorem dX0_waterIt_22 : decode cX0_waterIt 22 = .ok (.putfield 145, 3) := dk_181 0 145 (dk_at dksX0_waterIt_1 0 rfl rfl)
theorem dX0_waterIt_25 : decode cX0_waterIt 25 = .ok (.iload_n 2, 1) := dk_28 (dk_at dksX0_waterIt_1 3 rfl rfl)
theorem dX0_waterIt_26 : decode cX0_waterIt 26 = .ok (.ireturn, 1) := dk_172 (dk_at dksX0_waterIt_1 4 rfl rfl)
abbrev cX0_flowIt : ByteArray := prog_1_method_47_code
def yX0_flowIt : MethodName := ⟨RX0, "flowIt", "(I)I"⟩
def dkwX0_flowIt_1 : List UInt8 := [181, 0, 148, 28, 172]
abbrev dktX0_flowIt_1 : List UInt8 := dkwX0_flowIt_1 ++ []
def dkwX0_flowIt_0 : List UInt8 := [27, 133, 9, 20, 1, 20, 184, 0, 188, 42, 180, 0, 53, 180, 0, 148, 61, 42, 180, 0, 53, 27]
abbrev dktX0_flowIt_0 : List UInt8 := dkwX0_flowIt_0 ++ dktX0_flowIt_1
theorem dksX0_flowIt_0 : cX0_flowIt.data.toList.drop 0 = dktX0_flowIt_0 := by decide +kernel
theorem dksX0_flowIt_1 : cX0_flowIt.data.toList.drop 22 = dktX0_flowIt_1 := dk_seg dksX0_flowIt_0 22 rfl rfl
theorem dX0_flowIt_0 : decode cX0_flowIt 0 = .ok (.iload_n 1, 1) := dk_27 (dk_at dksX0_flowIt_0 0 rfl rfl)
theorem dX0_flowIt_1 : decode cX0_flowIt 1 = .ok (.i2l, 1) := dk_133 (dk_at dksX0_flowIt_0 1 rfl rfl)
theorem dX0_flowIt_2 : decode cX0_flowIt 2 = .ok (.lconst 0, 1) := dk_9 (dk_at dksX0_flowIt_0 2 rfl rfl)
theorem dX0_flowIt_3 : decode cX0_flowIt 3 = .ok (.ldc2_w 276, 3) := dk_20 1 20 (dk_at dksX0_flowIt_0 3 rfl rfl)
theorem dX0_flowIt_6 : decode cX0_flowIt 6 = .ok (.invokestatic 188, 3) := dk_184 0 188 (dk_at dksX0_flowIt_0 6 rfl rfl)
theorem dX0_flowIt_9 : decode cX0_flowIt 9 = .ok (.aload_n 0, 1) := dk_42 (dk_at dksX0_flowIt_0 9 rfl rfl)
theorem dX0_flowIt_10 : decode cX0_flowIt 10 = .ok (.getfield 53, 3) := dk_180 0 53 (dk_at dksX0_flowIt_0 10 rfl rfl)
theorem dX0_flowIt_13 : decode cX0_flowIt 13 = .ok (.getfield 148, 3) := dk_180 0 148 (dk_at dksX0_flowIt_0 13 rfl rfl)
theorem dX0_flowIt_16 : decode cX0_flowIt 16 = .ok (.istore_n 2, 1) := dk_61 (dk_at dksX0_flowIt_0 16 rfl rfl)
theorem dX0_flowIt_17 : decode cX0_flowIt 17 = .ok (.aload_n 0, 1) := dk_42 (dk_at dksX0_flowIt_0 17 rfl rfl)
theorem dX0_flowIt_18 : decode cX0_flowIt 18 = .ok (.getfield 53, 3) := dk_180 0 53 (dk_at dksX0_flowIt_0 18 rfl rfl)
theorem dX0_flowIt_21 : decode cX0_flowIt 21 = .ok (.iload_n 1, 1) := dk_27 (dk_at dksX0_flowIt_0 21 rfl rfl)
theorem dX0_flowIt_22 : decode cX0_flowIt 22 = .ok (.putfield 148, 3) := dk_181 0 148 (dk_at dksX0_flowIt_1 0 rfl rfl)
theorem dX0_flowIt_25 : decode cX0_flowIt 25 = .ok (.iload_n 2, 1) := dk_28 (dk_at dksX0_flowIt_1 3 rfl rfl)
theorem dX0_flowIt_26 : decode cX0_flowIt 26 = .ok (.ireturn, 1) := dk_172 (dk_at dksX0_flowIt_1 4 rfl rfl)
abbrev cX0_turnIt : ByteArray := prog_1_method_48_code
def yX0_turnIt : MethodName := ⟨RX0, "turnIt", "(III)I"⟩
def dkwX0_turnIt_3 : List UInt8 := [50, 83, 42, 180, 0, 53, 180, 0, 228, 27, 29, 79, 21, 4, 172]
abbrev dktX0_turnIt_3 : List UInt8 := dkwX0_turnIt_3 ++ []
def dkwX0_turnIt_2 : List UInt8 := [180, 0, 53, 180, 0, 228, 27, 46, 96, 54, 4, 42, 180, 0, 53, 180, 0, 209, 27, 42, 180, 0, 46, 28]
abbrev dktX0_turnIt_2 : List UInt8 := dkwX0_turnIt_2 ++ dktX0_turnIt_3
def dkwX0_turnIt_1 : List UInt8 := [20, 1, 24, 184, 0, 188, 16, 10, 42, 180, 0, 53, 180, 0, 209, 27, 50, 182, 1, 16, 104, 42]
abbrev dktX0_turnIt_1 : List UInt8 := dkwX0_turnIt_1 ++ dktX0_turnIt_2
def dkwX0_turnIt_0 : List UInt8 := [42, 27, 182, 1, 11, 28, 133, 9, 20, 1, 22, 184, 0, 13, 16, 254, 184, 0, 9, 29, 133, 9]
abbrev dktX0_turnIt_0 : List UInt8 := dkwX0_turnIt_0 ++ dktX0_turnIt_1
theorem dksX0_turnIt_0 : cX0_turnIt.data.toList.drop 0 = dktX0_turnIt_0 := by decide +kernel
theorem dksX0_turnIt_1 : cX0_turnIt.data.toList.drop 22 = dktX0_turnIt_1 := dk_seg dksX0_turnIt_0 22 rfl rfl
theorem dksX0_turnIt_2 : cX0_turnIt.data.toList.drop 44 = dktX0_turnIt_2 := dk_seg dksX0_turnIt_1 22 rfl rfl
theorem dksX0_turnIt_3 : cX0_turnIt.data.toList.drop 68 = dktX0_turnIt_3 := dk_seg dksX0_turnIt_2 24 rfl rfl
theorem dX0_turnIt_0 : decode cX0_turnIt 0 = .ok (.aload_n 0, 1) := dk_42 (dk_at dksX0_turnIt_0 0 rfl rfl)
theorem dX0_turnIt_1 : decode cX0_turnIt 1 = .ok (.iload_n 1, 1) := dk_27 (dk_at dksX0_turnIt_0 1 rfl rfl)
theorem dX0_turnIt_2 : decode cX0_turnIt 2 = .ok (.invokevirtual 267, 3) := dk_182 1 11 (dk_at dksX0_turnIt_0 2 rfl rfl)
theorem dX0_turnIt_5 : decode cX0_turnIt 5 = .ok (.iload_n 2, 1) := dk_28 (dk_at dksX0_turnIt_0 5 rfl rfl)
theorem dX0_turnIt_6 : decode cX0_turnIt 6 = .ok (.i2l, 1) := dk_133 (dk_at dksX0_turnIt_0 6 rfl rfl)
theorem dX0_turnIt_7 : decode cX0_turnIt 7 = .ok (.lconst 0, 1) := dk_9 (dk_at dksX0_turnIt_0 7 rfl rfl)
theorem dX0_turnIt_8 : decode cX0_turnIt 8 = .ok (.ldc2_w 278, 3) := dk_20 1 22 (dk_at dksX0_turnIt_0 8 rfl rfl)
theorem dX0_turnIt_11 : decode cX0_turnIt 11 = .ok (.invokestatic 13, 3) := dk_184 0 13 (dk_at dksX0_turnIt_0 11 rfl rfl)
theorem dX0_turnIt_14 : decode cX0_turnIt 14 = .ok (.bipush (-2), 2) := dk_16 254 (dk_at dksX0_turnIt_0 14 rfl rfl)
theorem dX0_turnIt_16 : decode cX0_turnIt 16 = .ok (.invokestatic 9, 3) := dk_184 0 9 (dk_at dksX0_turnIt_0 16 rfl rfl)
theorem dX0_turnIt_19 : decode cX0_turnIt 19 = .ok (.iload_n 3, 1) := dk_29 (dk_at dksX0_turnIt_0 19 rfl rfl)
theorem dX0_turnIt_20 : decode cX0_turnIt 20 = .ok (.i2l, 1) := dk_133 (dk_at dksX0_turnIt_0 20 rfl rfl)
theorem dX0_turnIt_21 : decode cX0_turnIt 21 = .ok (.lconst 0, 1) := dk_9 (dk_at dksX0_turnIt_0 21 rfl rfl)
theorem dX0_turnIt_22 : decode cX0_turnIt 22 = .ok (.ldc2_w 280, 3) := dk_20 1 24 (dk_at dksX0_turnIt_1 0 rfl rfl)
theorem dX0_turnIt_25 : decode cX0_turnIt 25 = .ok (.invokestatic 188, 3) := dk_184 0 188 (dk_at dksX0_turnIt_1 3 rfl rfl)
theorem dX0_turnIt_28 : decode cX0_turnIt 28 = .ok (.bipush 10, 2) := dk_16 10 (dk_at dksX0_turnIt_1 6 rfl rfl)
theorem dX0_turnIt_30 : decode cX0_turnIt 30 = .ok (.aload_n 0, 1) := dk_42 (dk_at dksX0_turnIt_1 8 rfl rfl)
theorem dX0_turnIt_31 : decode cX0_turnIt 31 = .ok (.getfield 53, 3) := dk_180 0 53 (dk_at dksX0_turnIt_1 9 rfl rfl)
theorem dX0_turnIt_34 : decode cX0_turnIt 34 = .ok (.getfield 209, 3) := dk_180 0 209 (dk_at dksX0_turnIt_1 12 rfl rfl)
theorem dX0_turnIt_37 : decode cX0_turnIt 37 = .ok (.iload_n 1, 1) := dk_27 (dk_at dksX0_turnIt_1 15 rfl rfl)
theorem dX0_turnIt_38 : decode cX0_turnIt 38 = .ok (.aaload, 1) := dk_50 (dk_at dksX0_turnIt_1 16 rfl rfl)
theorem dX0_turnIt_39 : decode cX0_turnIt 39 = .ok (.invokevirtual 272, 3) := dk_182 1 16 (dk_at dksX0_turnIt_1 17 rfl rfl)
theorem dX0_turnIt_42 : decode cX0_turnIt 42 = .ok (.imul, 1) := dk_104 (dk_at dksX0_turnIt_1 20 rfl rfl)
theorem dX0_turnIt_43 : decode cX0_turnIt 43 = .ok (.aload_n 0, 1) := dk_42 (dk_at dksX0_turnIt_1 21 rfl rfl)
theorem dX0_turnIt_44 : decode cX0_turnIt 44 = .ok (.getfield 53, 3) := dk_180 0 53 (dk_at dksX0_turnIt_2 0 rfl rfl)
theorem dX0_turnIt_47 : decode cX0_turnIt 47 = .ok (.getfield 228, 3) := dk_180 0 228 (dk_at dksX0_turnIt_2 3 rfl rfl)
theorem dX0_turnIt_50 : decode cX0_turnIt 50 = .ok (.iload_n 1, 1) := dk_27 (dk_at dksX0_turnIt_2 6 rfl rfl)
theorem dX0_turnIt_51 : decode cX0_turnIt 51 = .ok (.iaload, 1) := dk_46 (dk_at dksX0_turnIt_2 7 rfl rfl)
theorem dX0_turnIt_52 : decode cX0_turnIt 52 = .ok (.iadd, 1) := dk_96 (dk_at dksX0_turnIt_2 8 rfl rfl)
theorem dX0_turnIt_53 : decode cX0_turnIt 53 = .ok (.istore 4, 2) := dk_54 4 (dk_at dksX0_turnIt_2 9 rfl rfl)
theorem dX0_turnIt_55 : decode cX0_turnIt 55 = .ok (.aload_n 0, 1) := dk_42 (dk_at dksX0_turnIt_2 11 rfl rfl)
theorem dX0_turnIt_56 : decode cX0_turnIt 56 = .ok (.getfield 53, 3) := dk_180 0 53 (dk_at dksX0_turnIt_2 12 rfl rfl)
theorem dX0_turnIt_59 : decode cX0_turnIt 59 = .ok (.getfield 209, 3) := dk_180 0 209 (dk_at dksX0_turnIt_2 15 rfl rfl)
theorem dX0_turnIt_62 : decode cX0_turnIt 62 = .ok (.iload_n 1, 1) := dk_27 (dk_at dksX0_turnIt_2 18 rfl rfl)
theorem dX0_turnIt_63 : decode cX0_turnIt 63 = .ok (.aload_n 0, 1) := dk_42 (dk_at dksX0_turnIt_2 19 rfl rfl)
theorem dX0_turnIt_64 : decode cX0_turnIt 64 = .ok (.getfield 46, 3) := dk_180 0 46 (dk_at dksX0_turnIt_2 20 rfl rfl)
theorem dX0_turnIt_67 : decode cX0_turnIt 67 = .ok (.iload_n 2, 1) := dk_28 (dk_at dksX0_turnIt_2 23 rfl rfl)
theorem dX0_turnIt_68 : decode cX0_turnIt 68 = .ok (.aaload, 1) := dk_50 (dk_at dksX0_turnIt_3 0 rfl rfl)
theorem dX0_turnIt_69 : decode cX0_turnIt 69 = .ok (.aastore, 1) := dk_83 (dk_at dksX0_turnIt_3 1 rfl rfl)
theorem dX0_turnIt_70 : decode cX0_turnIt 70 = .ok (.aload_n 0, 1) := dk_42 (dk_at dksX0_turnIt_3 2 rfl rfl)
theorem dX0_turnIt_71 : decode cX0_turnIt 71 = .ok (.getfield 53, 3) := dk_180 0 53 (dk_at dksX0_turnIt_3 3 rfl rfl)
theorem dX0_turnIt_74 : decode cX0_turnIt 74 = .ok (.getfield 228, 3) := dk_180 0 228 (dk_at dksX0_turnIt_3 6 rfl rfl)
theorem dX0_turnIt_77 : decode cX0_turnIt 77 = .ok (.iload_n 1, 1) := dk_27 (dk_at dksX0_turnIt_3 9 rfl rfl)
theorem dX0_turnIt_78 : decode cX0_turnIt 78 = .ok (.iload_n 3, 1) := dk_29 (dk_at dksX0_turnIt_3 10 rfl rfl)
theorem dX0_turnIt_79 : decode cX0_turnIt 79 = .ok (.iastore, 1) := dk_79 (dk_at dksX0_turnIt_3 11 rfl rfl)
theorem dX0_turnIt_80 : decode cX0_turnIt 80 = .ok (.iload 4, 2) := dk_21 4 (dk_at dksX0_turnIt_3 12 rfl rfl)
theorem dX0_turnIt_82 : decode cX0_turnIt 82 = .ok (.ireturn, 1) := dk_172 (dk_at dksX0_turnIt_3 14 rfl rfl)
abbrev cX0_hoursIt : ByteArray := prog_1_method_49_code
def yX0_hoursIt : MethodName := ⟨RX0, "hoursIt", "(I)I"⟩
def dkwX0_hoursIt_1 : List UInt8 := [4, 167, 0, 4, 3, 16, 250, 184, 0, 9, 42, 180, 0, 53, 27, 182, 0, 120, 180, 0, 145, 172]
abbrev dktX0_hoursIt_1 : List UInt8 := dkwX0_hoursIt_1 ++ []
def dkwX0_hoursIt_0 : List UInt8 := [27, 133, 10, 20, 1, 26, 184, 0, 188, 42, 180, 0, 53, 180, 0, 198, 27, 96, 17, 3, 231, 163, 0, 7]
abbrev dktX0_hoursIt_0 : List UInt8 := dkwX0_hoursIt_0 ++ dktX0_hoursIt_1
theorem dksX0_hoursIt_0 : cX0_hoursIt.data.toList.drop 0 = dktX0_hoursIt_0 := by decide +kernel
theorem dksX0_hoursIt_1 : cX0_hoursIt.data.toList.drop 24 = dktX0_hoursIt_1 := dk_seg dksX0_hoursIt_0 24 rfl rfl
theorem dX0_hoursIt_0 : decode cX0_hoursIt 0 = .ok (.iload_n 1, 1) := dk_27 (dk_at dksX0_hoursIt_0 0 rfl rfl)
theorem dX0_hoursIt_1 : decode cX0_hoursIt 1 = .ok (.i2l, 1) := dk_133 (dk_at dksX0_hoursIt_0 1 rfl rfl)
theorem dX0_hoursIt_2 : decode cX0_hoursIt 2 = .ok (.lconst 1, 1) := dk_10 (dk_at dksX0_hoursIt_0 2 rfl rfl)
theorem dX0_hoursIt_3 : decode cX0_hoursIt 3 = .ok (.ldc2_w 282, 3) := dk_20 1 26 (dk_at dksX0_hoursIt_0 3 rfl rfl)
theorem dX0_hoursIt_6 : decode cX0_hoursIt 6 = .ok (.invokestatic 188, 3) := dk_184 0 188 (dk_at dksX0_hoursIt_0 6 rfl rfl)
theorem dX0_hoursIt_9 : decode cX0_hoursIt 9 = .ok (.aload_n 0, 1) := dk_42 (dk_at dksX0_hoursIt_0 9 rfl rfl)
theorem dX0_hoursIt_10 : decode cX0_hoursIt 10 = .ok (.getfield 53, 3) := dk_180 0 53 (dk_at dksX0_hoursIt_0 10 rfl rfl)
theorem dX0_hoursIt_13 : decode cX0_hoursIt 13 = .ok (.getfield 198, 3) := dk_180 0 198 (dk_at dksX0_hoursIt_0 13 rfl rfl)
theorem dX0_hoursIt_16 : decode cX0_hoursIt 16 = .ok (.iload_n 1, 1) := dk_27 (dk_at dksX0_hoursIt_0 16 rfl rfl)
theorem dX0_hoursIt_17 : decode cX0_hoursIt 17 = .ok (.iadd, 1) := dk_96 (dk_at dksX0_hoursIt_0 17 rfl rfl)
theorem dX0_hoursIt_18 : decode cX0_hoursIt 18 = .ok (.sipush 999, 3) := dk_17 3 231 (dk_at dksX0_hoursIt_0 18 rfl rfl)
theorem dX0_hoursIt_21 : decode cX0_hoursIt 21 = .ok (.if_icmp .gt 7, 3) := dk_163 0 7 (dk_at dksX0_hoursIt_0 21 rfl rfl)
theorem dX0_hoursIt_24 : decode cX0_hoursIt 24 = .ok (.iconst 1, 1) := dk_4 (dk_at dksX0_hoursIt_1 0 rfl rfl)
theorem dX0_hoursIt_25 : decode cX0_hoursIt 25 = .ok (.goto 4, 3) := dk_167 0 4 (dk_at dksX0_hoursIt_1 1 rfl rfl)
theorem dX0_hoursIt_28 : decode cX0_hoursIt 28 = .ok (.iconst 0, 1) := dk_3 (dk_at dksX0_hoursIt_1 4 rfl rfl)
theorem dX0_hoursIt_29 : decode cX0_hoursIt 29 = .ok (.bipush (-6), 2) := dk_16 250 (dk_at dksX0_hoursIt_1 5 rfl rfl)
theorem dX0_hoursIt_31 : decode cX0_hoursIt 31 = .ok (.invokestatic 9, 3) := dk_184 0 9 (dk_at dksX0_hoursIt_1 7 rfl rfl)
theorem dX0_hoursIt_34 : decode cX0_hoursIt 34 = .ok (.aload_n 0, 1) := dk_42 (dk_at dksX0_hoursIt_1 10 rfl rfl)
theorem dX0_hoursIt_35 : decode cX0_hoursIt 35 = .ok (.getfield 53, 3) := dk_180 0 53 (dk_at dksX0_hoursIt_1 11 rfl rfl)
theorem dX0_hoursIt_38 : decode cX0_hoursIt 38 = .ok (.iload_n 1, 1) := dk_27 (dk_at dksX0_hoursIt_1 14 rfl rfl)
theorem dX0_hoursIt_39 : decode cX0_hoursIt 39 = .ok (.invokevirtual 120, 3) := dk_182 0 120 (dk_at dksX0_hoursIt_1 15 rfl rfl)
theorem dX0_hoursIt_42 : decode cX0_hoursIt 42 = .ok (.getfield 145, 3) := dk_180 0 145 (dk_at dksX0_hoursIt_1 18 rfl rfl)
theorem dX0_hoursIt_45 : decode cX0_hoursIt 45 = .ok (.ireturn, 1) := dk_172 (dk_at dksX0_hoursIt_1 21 rfl rfl)
abbrev cX0_ofHours : ByteArray := prog_1_method_57_code
def yX0_ofHours : MethodName := ⟨RX0, "ofHours", "(III)I"⟩
def dkwX0_ofHours_5 : List UInt8 := [28, 29, 182, 1, 106, 172]
abbrev dktX0_ofHours_5 : List UInt8 := dkwX0_ofHours_5 ++ []
def dkwX0_ofHours_4 : List UInt8 := [172, 28, 184, 1, 61, 42, 28, 182, 1, 97, 172, 42, 28, 182, 1, 100, 172, 42, 28, 182, 1, 103, 172, 42]
abbrev dktX0_ofHours_4 : List UInt8 := dkwX0_ofHours_4 ++ dktX0_ofHours_5
def dkwX0_ofHours_3 : List UInt8 := [172, 28, 184, 1, 61, 42, 28, 182, 1, 88, 172, 42, 28, 29, 182, 1, 91, 172, 42, 28, 29, 182, 1, 94]
abbrev dktX0_ofHours_3 : List UInt8 := dkwX0_ofHours_3 ++ dktX0_ofHours_4
def dkwX0_ofHours_2 : List UInt8 := [42, 28, 29, 182, 1, 76, 172, 42, 28, 29, 182, 1, 79, 172, 42, 28, 182, 1, 82, 172, 42, 182, 1, 85]
abbrev dktX0_ofHours_2 : List UInt8 := dkwX0_ofHours_2 ++ dktX0_ofHours_3
def dkwX0_ofHours_1 : List UInt8 := [170, 0, 0, 0, 0, 0, 126, 0, 0, 0, 11, 0, 0, 0, 20, 0, 0, 0, 55, 0, 0, 0, 62, 0, 0, 0, 69, 0, 0, 0, 75, 0, 0, 0, 80, 0, 0, 0, 90, 0, 0, 0, 97, 0, 0, 0, 104, 0, 0, 0, 114, 0, 0, 0, 120]
abbrev dktX0_ofHours_1 : List UInt8 := dkwX0_ofHours_1 ++ dktX0_ofHours_2
def dkwX0_ofHours_0 : List UInt8 := [27]
abbrev dktX0_ofHours_0 : List UInt8 := dkwX0_ofHours_0 ++ dktX0_ofHours_1
theorem dksX0_ofHours_0 : cX0_ofHours.data.toList.drop 0 = dktX0_ofHours_0 := by decide +kernel
theorem dksX0_ofHours_1 : cX0_ofHours.data.toList.drop 1 = dktX0_ofHours_1 := dk_seg dksX0_ofHours_0 1 rfl rfl
theorem dksX0_ofHours_2 : cX0_ofHours.data.toList.drop 56 = dktX0_ofHours_2 := dk_seg dksX0_ofHours_1 55 rfl rfl
theorem dksX0_ofHours_3 : cX0_ofHours.data.toList.drop 80 = dktX0_ofHours_3 := dk_seg dksX0_ofHours_2 24 rfl rfl
theorem dksX0_ofHours_4 : cX0_ofHours.data.toList.drop 104 = dktX0_ofHours_4 := dk_seg dksX0_ofHours_3 24 rfl rfl
theorem dksX0_ofHours_5 : cX0_ofHours.data.toList.drop 128 = dktX0_ofHours_5 := dk_seg dksX0_ofHours_4 24 rfl rfl
theorem dX0_ofHours_0 : decode cX0_ofHours 0 = .ok (.iload_n 1, 1) := dk_27 (dk_at dksX0_ofHours_0 0 rfl rfl)
theorem dX0_ofHours_1 : decode cX0_ofHours 1 = .ok (.tableswitch 126 11 20 #[55, 62, 69, 75, 80, 90, 97, 104, 114, 120], 55) := by decide +kernel
theorem dX0_ofHours_56 : decode cX0_ofHours 56 = .ok (.aload_n 0, 1) := dk_42 (dk_at dksX0_ofHours_2 0 rfl rfl)
theorem dX0_ofHours_57 : decode cX0_ofHours 57 = .ok (.iload_n 2, 1) := dk_28 (dk_at dksX0_ofHours_2 1 rfl rfl)
theorem dX0_ofHours_58 : decode cX0_ofHours 58 = .ok (.iload_n 3, 1) := dk_29 (dk_at dksX0_ofHours_2 2 rfl rfl)
theorem dX0_ofHours_59 : decode cX0_ofHours 59 = .ok (.invokevirtual 332, 3) := dk_182 1 76 (dk_at dksX0_ofHours_2 3 rfl rfl)
theorem dX0_ofHours_62 : decode cX0_ofHours 62 = .ok (.ireturn, 1) := dk_172 (dk_at dksX0_ofHours_2 6 rfl rfl)
theorem dX0_ofHours_63 : decode cX0_ofHours 63 = .ok (.aload_n 0, 1) := dk_42 (dk_at dksX0_ofHours_2 7 rfl rfl)
theorem dX0_ofHours_64 : decode cX0_ofHours 64 = .ok (.iload_n 2, 1) := dk_28 (dk_at dksX0_ofHours_2 8 rfl rfl)
theorem dX0_ofHours_65 : decode cX0_ofHours 65 = .ok (.iload_n 3, 1) := dk_29 (dk_at dksX0_ofHours_2 9 rfl rfl)
theorem dX0_ofHours_66 : decode cX0_ofHours 66 = .ok (.invokevirtual 335, 3) := dk_182 1 79 (dk_at dksX0_ofHours_2 10 rfl rfl)
theorem dX0_ofHours_69 : decode cX0_ofHours 69 = .ok (.ireturn, 1) := dk_172 (dk_at dksX0_ofHours_2 13 rfl rfl)
theorem dX0_ofHours_70 : decode cX0_ofHours 70 = .ok (.aload_n 0, 1) := dk_42 (dk_at dksX0_ofHours_2 14 rfl rfl)
theorem dX0_ofHours_71 : decode cX0_ofHours 71 = .ok (.iload_n 2, 1) := dk_28 (dk_at dksX0_ofHours_2 15 rfl rfl)
theorem dX0_ofHours_72 : decode cX0_ofHours 72 = .ok (.invokevirtual 338, 3) := dk_182 1 82 (dk_at dksX0_ofHours_2 16 rfl rfl)
theorem dX0_ofHours_75 : decode cX0_ofHours 75 = .ok (.ireturn, 1) := dk_172 (dk_at dksX0_ofHours_2 19 rfl rfl)
theorem dX0_ofHours_76 : decode cX0_ofHours 76 = .ok (.aload_n 0, 1) := dk_42 (dk_at dksX0_ofHours_2 20 rfl rfl)
theorem dX0_ofHours_77 : decode cX0_ofHours 77 = .ok (.invokevirtual 341, 3) := dk_182 1 85 (dk_at dksX0_ofHours_2 21 rfl rfl)
theorem dX0_ofHours_80 : decode cX0_ofHours 80 = .ok (.ireturn, 1) := dk_172 (dk_at dksX0_ofHours_3 0 rfl rfl)
theorem dX0_ofHours_81 : decode cX0_ofHours 81 = .ok (.iload_n 2, 1) := dk_28 (dk_at dksX0_ofHours_3 1 rfl rfl)
theorem dX0_ofHours_82 : decode cX0_ofHours 82 = .ok (.invokestatic 317, 3) := dk_184 1 61 (dk_at dksX0_ofHours_3 2 rfl rfl)
theorem dX0_ofHours_85 : decode cX0_ofHours 85 = .ok (.aload_n 0, 1) := dk_42 (dk_at dksX0_ofHours_3 5 rfl rfl)
theorem dX0_ofHours_86 : decode cX0_ofHours 86 = .ok (.iload_n 2, 1) := dk_28 (dk_at dksX0_ofHours_3 6 rfl rfl)
theorem dX0_ofHours_87 : decode cX0_ofHours 87 = .ok (.invokevirtual 344, 3) := dk_182 1 88 (dk_at dksX0_ofHours_3 7 rfl rfl)
theorem dX0_ofHours_90 : decode cX0_ofHours 90 = .ok (.ireturn, 1) := dk_172 (dk_at dksX0_ofHours_3 10 rfl rfl)
theorem dX0_ofHours_91 : decode cX0_ofHours 91 = .ok (.aload_n 0, 1) := dk_42 (dk_at dksX0_ofHours_3 11 rfl rfl)
theorem dX0_ofHours_92 : decode cX0_ofHours 92 = .ok (.iload_n 2, 1) := dk_28 (dk_at dksX0_ofHours_3 12 rfl rfl)
theorem dX0_ofHours_93 : decode cX0_ofHours 93 = .ok (.iload_n 3, 1) := dk_29 (dk_at dksX0_ofHours_3 13 rfl rfl)
theorem dX0_ofHours_94 : decode cX0_ofHours 94 = .ok (.invokevirtual 347, 3) := dk_182 1 91 (dk_at dksX0_ofHours_3 14 rfl rfl)
theorem dX0_ofHours_97 : decode cX0_ofHours 97 = .ok (.ireturn, 1) := dk_172 (dk_at dksX0_ofHours_3 17 rfl rfl)
theorem dX0_ofHours_98 : decode cX0_ofHours 98 = .ok (.aload_n 0, 1) := dk_42 (dk_at dksX0_ofHours_3 18 rfl rfl)
theorem dX0_ofHours_99 : decode cX0_ofHours 99 = .ok (.iload_n 2, 1) := dk_28 (dk_at dksX0_ofHours_3 19 rfl rfl)
theorem dX0_ofHours_100 : decode cX0_ofHours 100 = .ok (.iload_n 3, 1) := dk_29 (dk_at dksX0_ofHours_3 20 rfl rfl)
theorem dX0_ofHours_101 : decode cX0_ofHours 101 = .ok (.invokevirtual 350, 3) := dk_182 1 94 (dk_at dksX0_ofHours_3 21 rfl rfl)
theorem dX0_ofHours_104 : decode cX0_ofHours 104 = .ok (.ireturn, 1) := dk_172 (dk_at dksX0_ofHours_4 0 rfl rfl)
theorem dX0_ofHours_105 : decode cX0_ofHours 105 = .ok (.iload_n 2, 1) := dk_28 (dk_at dksX0_ofHours_4 1 rfl rfl)
theorem dX0_ofHours_106 : decode cX0_ofHours 106 = .ok (.invokestatic 317, 3) := dk_184 1 61 (dk_at dksX0_ofHours_4 2 rfl rfl)
theorem dX0_ofHours_109 : decode cX0_ofHours 109 = .ok (.aload_n 0, 1) := dk_42 (dk_at dksX0_ofHours_4 5 rfl rfl)
theorem dX0_ofHours_110 : decode cX0_ofHours 110 = .ok (.iload_n 2, 1) := dk_28 (dk_at dksX0_ofHours_4 6 rfl rfl)
theorem dX0_ofHours_111 : decode cX0_ofHours 111 = .ok (.invokevirtual 353, 3) := dk_182 1 97 (dk_at dksX0_ofHours_4 7 rfl rfl)
theorem dX0_ofHours_114 : decode cX0_ofHours 114 = .ok (.ireturn, 1) := dk_172 (dk_at dksX0_ofHours_4 10 rfl rfl)
theorem dX0_ofHours_115 : decode cX0_ofHours 115 = .ok (.aload_n 0, 1) := dk_42 (dk_at dksX0_ofHours_4 11 rfl rfl)
theorem dX0_ofHours_116 : decode cX0_ofHours 116 = .ok (.iload_n 2, 1) := dk_28 (dk_at dksX0_ofHours_4 12 rfl rfl)
theorem dX0_ofHours_117 : decode cX0_ofHours 117 = .ok (.invokevirtual 356, 3) := dk_182 1 100 (dk_at dksX0_ofHours_4 13 rfl rfl)
theorem dX0_ofHours_120 : decode cX0_ofHours 120 = .ok (.ireturn, 1) := dk_172 (dk_at dksX0_ofHours_4 16 rfl rfl)
theorem dX0_ofHours_121 : decode cX0_ofHours 121 = .ok (.aload_n 0, 1) := dk_42 (dk_at dksX0_ofHours_4 17 rfl rfl)
theorem dX0_ofHours_122 : decode cX0_ofHours 122 = .ok (.iload_n 2, 1) := dk_28 (dk_at dksX0_ofHours_4 18 rfl rfl)
theorem dX0_ofHours_123 : decode cX0_ofHours 123 = .ok (.invokevirtual 359, 3) := dk_182 1 103 (dk_at dksX0_ofHours_4 19 rfl rfl)
theorem dX0_ofHours_126 : decode cX0_ofHours 126 = .ok (.ireturn, 1) := dk_172 (dk_at dksX0_ofHours_4 22 rfl rfl)
theorem dX0_ofHours_127 : decode cX0_ofHours 127 = .ok (.aload_n 0, 1) := dk_42 (dk_at dksX0_ofHours_4 23 rfl rfl)
theorem dX0_ofHours_128 : decode cX0_ofHours 128 = .ok (.iload_n 2, 1) := dk_28 (dk_at dksX0_ofHours_5 0 rfl rfl)
theorem dX0_ofHours_129 : decode cX0_ofHours 129 = .ok (.iload_n 3, 1) := dk_29 (dk_at dksX0_ofHours_5 1 rfl rfl)
theorem dX0_ofHours_130 : decode cX0_ofHours 130 = .ok (.invokevirtual 362, 3) := dk_182 1 106 (dk_at dksX0_ofHours_5 2 rfl rfl)
theorem dX0_ofHours_133 : decode cX0_ofHours 133 = .ok (.ireturn, 1) := dk_172 (dk_at dksX0_ofHours_5 5 rfl rfl)
abbrev cX0_hasAhead : ByteArray := prog_1_method_51_code
def yX0_hasAhead : MethodName := ⟨RX0, "hasAhead", "(II)I"⟩
def dkwX0_hasAhead_1 : List UInt8 := [172]
abbrev dktX0_hasAhead_1 : List UInt8 := dkwX0_hasAhead_1 ++ []
def dkwX0_hasAhead_0 : List UInt8 := [42, 27, 182, 1, 11, 28, 133, 9, 20, 1, 26, 184, 0, 188, 42, 28, 182, 0, 161, 180, 0, 124, 27, 46]
abbrev dktX0_hasAhead_0 : List UInt8 := dkwX0_hasAhead_0 ++ dktX0_hasAhead_1
theorem dksX0_hasAhead_0 : cX0_hasAhead.data.toList.drop 0 = dktX0_hasAhead_0 := by decide +kernel
theorem dksX0_hasAhead_1 : cX0_hasAhead.data.toList.drop 24 = dktX0_hasAhead_1 := dk_seg dksX0_hasAhead_0 24 rfl rfl
theorem dX0_hasAhead_0 : decode cX0_hasAhead 0 = .ok (.aload_n 0, 1) := dk_42 (dk_at dksX0_hasAhead_0 0 rfl rfl)
theorem dX0_hasAhead_1 : decode cX0_hasAhead 1 = .ok (.iload_n 1, 1) := dk_27 (dk_at dksX0_hasAhead_0 1 rfl rfl)
theorem dX0_hasAhead_2 : decode cX0_hasAhead 2 = .ok (.invokevirtual 267, 3) := dk_182 1 11 (dk_at dksX0_hasAhead_0 2 rfl rfl)
theorem dX0_hasAhead_5 : decode cX0_hasAhead 5 = .ok (.iload_n 2, 1) := dk_28 (dk_at dksX0_hasAhead_0 5 rfl rfl)
theorem dX0_hasAhead_6 : decode cX0_hasAhead 6 = .ok (.i2l, 1) := dk_133 (dk_at dksX0_hasAhead_0 6 rfl rfl)
theorem dX0_hasAhead_7 : decode cX0_hasAhead 7 = .ok (.lconst 0, 1) := dk_9 (dk_at dksX0_hasAhead_0 7 rfl rfl)
theorem dX0_hasAhead_8 : decode cX0_hasAhead 8 = .ok (.ldc2_w 282, 3) := dk_20 1 26 (dk_at dksX0_hasAhead_0 8 rfl rfl)
theorem dX0_hasAhead_11 : decode cX0_hasAhead 11 = .ok (.invokestatic 188, 3) := dk_184 0 188 (dk_at dksX0_hasAhead_0 11 rfl rfl)
theorem dX0_hasAhead_14 : decode cX0_hasAhead 14 = .ok (.aload_n 0, 1) := dk_42 (dk_at dksX0_hasAhead_0 14 rfl rfl)
theorem dX0_hasAhead_15 : decode cX0_hasAhead 15 = .ok (.iload_n 2, 1) := dk_28 (dk_at dksX0_hasAhead_0 15 rfl rfl)
theorem dX0_hasAhead_16 : decode cX0_hasAhead 16 = .ok (.invokevirtual 161, 3) := dk_182 0 161 (dk_at dksX0_hasAhead_0 16 rfl rfl)
theorem dX0_hasAhead_19 : decode cX0_hasAhead 19 = .ok (.getfield 124, 3) := dk_180 0 124 (dk_at dksX0_hasAhead_0 19 rfl rfl)
theorem dX0_hasAhead_22 : decode cX0_hasAhead 22 = .ok (.iload_n 1, 1) := dk_27 (dk_at dksX0_hasAhead_0 22 rfl rfl)
theorem dX0_hasAhead_23 : decode cX0_hasAhead 23 = .ok (.iaload, 1) := dk_46 (dk_at dksX0_hasAhead_0 23 rfl rfl)
theorem dX0_hasAhead_24 : decode cX0_hasAhead 24 = .ok (.ireturn, 1) := dk_172 (dk_at dksX0_hasAhead_1 0 rfl rfl)
abbrev cX0_ahead : ByteArray := prog_1_method_13_code
def yX0_ahead : MethodName := ⟨RX0, "ahead", "(I)LWellOfTheSilent$Hill;"⟩
def dkwX0_ahead_0 : List UInt8 := [42, 182, 0, 116, 27, 182, 0, 120, 176]
abbrev dktX0_ahead_0 : List UInt8 := dkwX0_ahead_0 ++ []
theorem dksX0_ahead_0 : cX0_ahead.data.toList.drop 0 = dktX0_ahead_0 := by decide +kernel
theorem dX0_ahead_0 : decode cX0_ahead 0 = .ok (.aload_n 0, 1) := dk_42 (dk_at dksX0_ahead_0 0 rfl rfl)
theorem dX0_ahead_1 : decode cX0_ahead 1 = .ok (.invokevirtual 116, 3) := dk_182 0 116 (dk_at dksX0_ahead_0 1 rfl rfl)
theorem dX0_ahead_4 : decode cX0_ahead 4 = .ok (.iload_n 1, 1) := dk_27 (dk_at dksX0_ahead_0 4 rfl rfl)
theorem dX0_ahead_5 : decode cX0_ahead 5 = .ok (.invokevirtual 120, 3) := dk_182 0 120 (dk_at dksX0_ahead_0 5 rfl rfl)
theorem dX0_ahead_8 : decode cX0_ahead 8 = .ok (.areturn, 1) := dk_176 (dk_at dksX0_ahead_0 8 rfl rfl)
abbrev cX0_openMind : ByteArray := prog_1_method_12_code
def yX0_openMind : MethodName := ⟨RX0, "openMind", "()LWellOfTheSilent$Hill;"⟩
def dkwX0_openMind_0 : List UInt8 := [42, 180, 0, 57, 42, 180, 0, 53, 182, 0, 102, 87, 42, 180, 0, 57, 176]
abbrev dktX0_openMind_0 : List UInt8 := dkwX0_openMind_0 ++ []
theorem dksX0_openMind_0 : cX0_openMind.data.toList.drop 0 = dktX0_openMind_0 := by decide +kernel
theorem dX0_openMind_0 : decode cX0_openMind 0 = .ok (.aload_n 0, 1) := dk_42 (dk_at dksX0_openMind_0 0 rfl rfl)
theorem dX0_openMind_1 : decode cX0_openMind 1 = .ok (.getfield 57, 3) := dk_180 0 57 (dk_at dksX0_openMind_0 1 rfl rfl)
theorem dX0_openMind_4 : decode cX0_openMind 4 = .ok (.aload_n 0, 1) := dk_42 (dk_at dksX0_openMind_0 4 rfl rfl)
theorem dX0_openMind_5 : decode cX0_openMind 5 = .ok (.getfield 53, 3) := dk_180 0 53 (dk_at dksX0_openMind_0 5 rfl rfl)
theorem dX0_openMind_8 : decode cX0_openMind 8 = .ok (.invokevirtual 102, 3) := dk_182 0 102 (dk_at dksX0_openMind_0 8 rfl rfl)
theorem dX0_openMind_11 : decode cX0_openMind 11 = .ok (.pop, 1) := dk_87 (dk_at dksX0_openMind_0 11 rfl rfl)
theorem dX0_openMind_12 : decode cX0_openMind 12 = .ok (.aload_n 0, 1) := dk_42 (dk_at dksX0_openMind_0 12 rfl rfl)
theorem dX0_openMind_13 : decode cX0_openMind 13 = .ok (.getfield 57, 3) := dk_180 0 57 (dk_at dksX0_openMind_0 13 rfl rfl)
theorem dX0_openMind_16 : decode cX0_openMind 16 = .ok (.areturn, 1) := dk_176 (dk_at dksX0_openMind_0 16 rfl rfl)
abbrev cX0_thenTold : ByteArray := prog_1_method_52_code
def yX0_thenTold : MethodName := ⟨RX0, "thenTold", "(II)I"⟩
def dkwX0_thenTold_2 : List UInt8 := [180, 0, 183, 167, 0, 19, 28, 5, 160, 0, 10, 45, 180, 0, 201, 167, 0, 7, 45, 182, 0, 174, 172]
abbrev dktX0_thenTold_2 : List UInt8 := dkwX0_thenTold_2 ++ []
def dkwX0_thenTold_1 : List UInt8 := [27, 182, 0, 161, 78, 28, 154, 0, 10, 45, 180, 0, 145, 167, 0, 31, 28, 4, 160, 0, 10, 45]
abbrev dktX0_thenTold_1 : List UInt8 := dkwX0_thenTold_1 ++ dktX0_thenTold_2
def dkwX0_thenTold_0 : List UInt8 := [27, 133, 9, 20, 1, 26, 184, 0, 188, 28, 133, 9, 20, 1, 59, 184, 0, 13, 16, 254, 184, 0, 9, 42]
abbrev dktX0_thenTold_0 : List UInt8 := dkwX0_thenTold_0 ++ dktX0_thenTold_1
theorem dksX0_thenTold_0 : cX0_thenTold.data.toList.drop 0 = dktX0_thenTold_0 := by decide +kernel
theorem dksX0_thenTold_1 : cX0_thenTold.data.toList.drop 24 = dktX0_thenTold_1 := dk_seg dksX0_thenTold_0 24 rfl rfl
theorem dksX0_thenTold_2 : cX0_thenTold.data.toList.drop 46 = dktX0_thenTold_2 := dk_seg dksX0_thenTold_1 22 rfl rfl
theorem dX0_thenTold_0 : decode cX0_thenTold 0 = .ok (.iload_n 1, 1) := dk_27 (dk_at dksX0_thenTold_0 0 rfl rfl)
theorem dX0_thenTold_1 : decode cX0_thenTold 1 = .ok (.i2l, 1) := dk_133 (dk_at dksX0_thenTold_0 1 rfl rfl)
theorem dX0_thenTold_2 : decode cX0_thenTold 2 = .ok (.lconst 0, 1) := dk_9 (dk_at dksX0_thenTold_0 2 rfl rfl)
theorem dX0_thenTold_3 : decode cX0_thenTold 3 = .ok (.ldc2_w 282, 3) := dk_20 1 26 (dk_at dksX0_thenTold_0 3 rfl rfl)
theorem dX0_thenTold_6 : decode cX0_thenTold 6 = .ok (.invokestatic 188, 3) := dk_184 0 188 (dk_at dksX0_thenTold_0 6 rfl rfl)
theorem dX0_thenTold_9 : decode cX0_thenTold 9 = .ok (.iload_n 2, 1) := dk_28 (dk_at dksX0_thenTold_0 9 rfl rfl)
theorem dX0_thenTold_10 : decode cX0_thenTold 10 = .ok (.i2l, 1) := dk_133 (dk_at dksX0_thenTold_0 10 rfl rfl)
theorem dX0_thenTold_11 : decode cX0_thenTold 11 = .ok (.lconst 0, 1) := dk_9 (dk_at dksX0_thenTold_0 11 rfl rfl)
theorem dX0_thenTold_12 : decode cX0_thenTold 12 = .ok (.ldc2_w 315, 3) := dk_20 1 59 (dk_at dksX0_thenTold_0 12 rfl rfl)
theorem dX0_thenTold_15 : decode cX0_thenTold 15 = .ok (.invokestatic 13, 3) := dk_184 0 13 (dk_at dksX0_thenTold_0 15 rfl rfl)
theorem dX0_thenTold_18 : decode cX0_thenTold 18 = .ok (.bipush (-2), 2) := dk_16 254 (dk_at dksX0_thenTold_0 18 rfl rfl)
theorem dX0_thenTold_20 : decode cX0_thenTold 20 = .ok (.invokestatic 9, 3) := dk_184 0 9 (dk_at dksX0_thenTold_0 20 rfl rfl)
theorem dX0_thenTold_23 : decode cX0_thenTold 23 = .ok (.aload_n 0, 1) := dk_42 (dk_at dksX0_thenTold_0 23 rfl rfl)
theorem dX0_thenTold_24 : decode cX0_thenTold 24 = .ok (.iload_n 1, 1) := dk_27 (dk_at dksX0_thenTold_1 0 rfl rfl)
theorem dX0_thenTold_25 : decode cX0_thenTold 25 = .ok (.invokevirtual 161, 3) := dk_182 0 161 (dk_at dksX0_thenTold_1 1 rfl rfl)
theorem dX0_thenTold_28 : decode cX0_thenTold 28 = .ok (.astore_n 3, 1) := dk_78 (dk_at dksX0_thenTold_1 4 rfl rfl)
theorem dX0_thenTold_29 : decode cX0_thenTold 29 = .ok (.iload_n 2, 1) := dk_28 (dk_at dksX0_thenTold_1 5 rfl rfl)
theorem dX0_thenTold_30 : decode cX0_thenTold 30 = .ok (.ifCond .ne 10, 3) := dk_154 0 10 (dk_at dksX0_thenTold_1 6 rfl rfl)
theorem dX0_thenTold_33 : decode cX0_thenTold 33 = .ok (.aload_n 3, 1) := dk_45 (dk_at dksX0_thenTold_1 9 rfl rfl)
theorem dX0_thenTold_34 : decode cX0_thenTold 34 = .ok (.getfield 145, 3) := dk_180 0 145 (dk_at dksX0_thenTold_1 10 rfl rfl)
theorem dX0_thenTold_37 : decode cX0_thenTold 37 = .ok (.goto 31, 3) := dk_167 0 31 (dk_at dksX0_thenTold_1 13 rfl rfl)
theorem dX0_thenTold_40 : decode cX0_thenTold 40 = .ok (.iload_n 2, 1) := dk_28 (dk_at dksX0_thenTold_1 16 rfl rfl)
theorem dX0_thenTold_41 : decode cX0_thenTold 41 = .ok (.iconst 1, 1) := dk_4 (dk_at dksX0_thenTold_1 17 rfl rfl)
theorem dX0_thenTold_42 : decode cX0_thenTold 42 = .ok (.if_icmp .ne 10, 3) := dk_160 0 10 (dk_at dksX0_thenTold_1 18 rfl rfl)
theorem dX0_thenTold_45 : decode cX0_thenTold 45 = .ok (.aload_n 3, 1) := dk_45 (dk_at dksX0_thenTold_1 21 rfl rfl)
theorem dX0_thenTold_46 : decode cX0_thenTold 46 = .ok (.getfield 183, 3) := dk_180 0 183 (dk_at dksX0_thenTold_2 0 rfl rfl)
theorem dX0_thenTold_49 : decode cX0_thenTold 49 = .ok (.goto 19, 3) := dk_167 0 19 (dk_at dksX0_thenTold_2 3 rfl rfl)
theorem dX0_thenTold_52 : decode cX0_thenTold 52 = .ok (.iload_n 2, 1) := dk_28 (dk_at dksX0_thenTold_2 6 rfl rfl)
theorem dX0_thenTold_53 : decode cX0_thenTold 53 = .ok (.iconst 2, 1) := dk_5 (dk_at dksX0_thenTold_2 7 rfl rfl)
theorem dX0_thenTold_54 : decode cX0_thenTold 54 = .ok (.if_icmp .ne 10, 3) := dk_160 0 10 (dk_at dksX0_thenTold_2 8 rfl rfl)
theorem dX0_thenTold_57 : decode cX0_thenTold 57 = .ok (.aload_n 3, 1) := dk_45 (dk_at dksX0_thenTold_2 11 rfl rfl)
theorem dX0_thenTold_58 : decode cX0_thenTold 58 = .ok (.getfield 201, 3) := dk_180 0 201 (dk_at dksX0_thenTold_2 12 rfl rfl)
theorem dX0_thenTold_61 : decode cX0_thenTold 61 = .ok (.goto 7, 3) := dk_167 0 7 (dk_at dksX0_thenTold_2 15 rfl rfl)
theorem dX0_thenTold_64 : decode cX0_thenTold 64 = .ok (.aload_n 3, 1) := dk_45 (dk_at dksX0_thenTold_2 18 rfl rfl)
theorem dX0_thenTold_65 : decode cX0_thenTold 65 = .ok (.invokevirtual 174, 3) := dk_182 0 174 (dk_at dksX0_thenTold_2 19 rfl rfl)
theorem dX0_thenTold_68 : decode cX0_thenTold 68 = .ok (.ireturn, 1) := dk_172 (dk_at dksX0_thenTold_2 22 rfl rfl)
abbrev cX0_dryTold : ByteArray := prog_1_method_15_code
def yX0_dryTold : MethodName := ⟨RX0, "dryTold", "(I)I"⟩
def dkwX0_dryTold_4 : List UInt8 := [62, 132, 4, 1, 167, 255, 213, 28, 172]
abbrev dktX0_dryTold_4 : List UInt8 := dkwX0_dryTold_4 ++ []
def dkwX0_dryTold_3 : List UInt8 := [182, 0, 135, 54, 5, 21, 5, 29, 162, 0, 8, 21, 4, 167, 0, 4, 28, 61, 29, 21, 5, 184, 0, 139]
abbrev dktX0_dryTold_3 : List UInt8 := dkwX0_dryTold_3 ++ dktX0_dryTold_4
def dkwX0_dryTold_2 : List UInt8 := [61, 16, 61, 62, 3, 54, 4, 21, 4, 42, 180, 0, 53, 180, 0, 132, 162, 0, 37, 42, 21, 4]
abbrev dktX0_dryTold_2 : List UInt8 := dkwX0_dryTold_2 ++ dktX0_dryTold_3
def dkwX0_dryTold_1 : List UInt8 := [155, 0, 22, 42, 27, 182, 0, 135, 61, 28, 16, 61, 160, 0, 8, 16, 247, 167, 0, 4, 28, 172, 16, 247]
abbrev dktX0_dryTold_1 : List UInt8 := dkwX0_dryTold_1 ++ dktX0_dryTold_2
def dkwX0_dryTold_0 : List UInt8 := [27, 133, 20, 0, 130, 42, 180, 0, 53, 180, 0, 132, 4, 100, 133, 184, 0, 13, 2, 184, 0, 9, 27]
abbrev dktX0_dryTold_0 : List UInt8 := dkwX0_dryTold_0 ++ dktX0_dryTold_1
theorem dksX0_dryTold_0 : cX0_dryTold.data.toList.drop 0 = dktX0_dryTold_0 := by decide +kernel
theorem dksX0_dryTold_1 : cX0_dryTold.data.toList.drop 23 = dktX0_dryTold_1 := dk_seg dksX0_dryTold_0 23 rfl rfl
theorem dksX0_dryTold_2 : cX0_dryTold.data.toList.drop 47 = dktX0_dryTold_2 := dk_seg dksX0_dryTold_1 24 rfl rfl
theorem dksX0_dryTold_3 : cX0_dryTold.data.toList.drop 69 = dktX0_dryTold_3 := dk_seg dksX0_dryTold_2 22 rfl rfl
theorem dksX0_dryTold_4 : cX0_dryTold.data.toList.drop 93 = dktX0_dryTold_4 := dk_seg dksX0_dryTold_3 24 rfl rfl
theorem dX0_dryTold_0 : decode cX0_dryTold 0 = .ok (.iload_n 1, 1) := dk_27 (dk_at dksX0_dryTold_0 0 rfl rfl)
theorem dX0_dryTold_1 : decode cX0_dryTold 1 = .ok (.i2l, 1) := dk_133 (dk_at dksX0_dryTold_0 1 rfl rfl)
theorem dX0_dryTold_2 : decode cX0_dryTold 2 = .ok (.ldc2_w 130, 3) := dk_20 0 130 (dk_at dksX0_dryTold_0 2 rfl rfl)
theorem dX0_dryTold_5 : decode cX0_dryTold 5 = .ok (.aload_n 0, 1) := dk_42 (dk_at dksX0_dryTold_0 5 rfl rfl)
theorem dX0_dryTold_6 : decode cX0_dryTold 6 = .ok (.getfield 53, 3) := dk_180 0 53 (dk_at dksX0_dryTold_0 6 rfl rfl)
theorem dX0_dryTold_9 : decode cX0_dryTold 9 = .ok (.getfield 132, 3) := dk_180 0 132 (dk_at dksX0_dryTold_0 9 rfl rfl)
theorem dX0_dryTold_12 : decode cX0_dryTold 12 = .ok (.iconst 1, 1) := dk_4 (dk_at dksX0_dryTold_0 12 rfl rfl)
theorem dX0_dryTold_13 : decode cX0_dryTold 13 = .ok (.isub, 1) := dk_100 (dk_at dksX0_dryTold_0 13 rfl rfl)
theorem dX0_dryTold_14 : decode cX0_dryTold 14 = .ok (.i2l, 1) := dk_133 (dk_at dksX0_dryTold_0 14 rfl rfl)
theorem dX0_dryTold_15 : decode cX0_dryTold 15 = .ok (.invokestatic 13, 3) := dk_184 0 13 (dk_at dksX0_dryTold_0 15 rfl rfl)
theorem dX0_dryTold_18 : decode cX0_dryTold 18 = .ok (.iconst (-1), 1) := dk_2 (dk_at dksX0_dryTold_0 18 rfl rfl)
theorem dX0_dryTold_19 : decode cX0_dryTold 19 = .ok (.invokestatic 9, 3) := dk_184 0 9 (dk_at dksX0_dryTold_0 19 rfl rfl)
theorem dX0_dryTold_22 : decode cX0_dryTold 22 = .ok (.iload_n 1, 1) := dk_27 (dk_at dksX0_dryTold_0 22 rfl rfl)
theorem dX0_dryTold_23 : decode cX0_dryTold 23 = .ok (.ifCond .lt 22, 3) := dk_155 0 22 (dk_at dksX0_dryTold_1 0 rfl rfl)
theorem dX0_dryTold_26 : decode cX0_dryTold 26 = .ok (.aload_n 0, 1) := dk_42 (dk_at dksX0_dryTold_1 3 rfl rfl)
theorem dX0_dryTold_27 : decode cX0_dryTold 27 = .ok (.iload_n 1, 1) := dk_27 (dk_at dksX0_dryTold_1 4 rfl rfl)
theorem dX0_dryTold_28 : decode cX0_dryTold 28 = .ok (.invokevirtual 135, 3) := dk_182 0 135 (dk_at dksX0_dryTold_1 5 rfl rfl)
theorem dX0_dryTold_31 : decode cX0_dryTold 31 = .ok (.istore_n 2, 1) := dk_61 (dk_at dksX0_dryTold_1 8 rfl rfl)
theorem dX0_dryTold_32 : decode cX0_dryTold 32 = .ok (.iload_n 2, 1) := dk_28 (dk_at dksX0_dryTold_1 9 rfl rfl)
theorem dX0_dryTold_33 : decode cX0_dryTold 33 = .ok (.bipush 61, 2) := dk_16 61 (dk_at dksX0_dryTold_1 10 rfl rfl)
theorem dX0_dryTold_35 : decode cX0_dryTold 35 = .ok (.if_icmp .ne 8, 3) := dk_160 0 8 (dk_at dksX0_dryTold_1 12 rfl rfl)
theorem dX0_dryTold_38 : decode cX0_dryTold 38 = .ok (.bipush (-9), 2) := dk_16 247 (dk_at dksX0_dryTold_1 15 rfl rfl)
theorem dX0_dryTold_40 : decode cX0_dryTold 40 = .ok (.goto 4, 3) := dk_167 0 4 (dk_at dksX0_dryTold_1 17 rfl rfl)
theorem dX0_dryTold_43 : decode cX0_dryTold 43 = .ok (.iload_n 2, 1) := dk_28 (dk_at dksX0_dryTold_1 20 rfl rfl)
theorem dX0_dryTold_44 : decode cX0_dryTold 44 = .ok (.ireturn, 1) := dk_172 (dk_at dksX0_dryTold_1 21 rfl rfl)
theorem dX0_dryTold_45 : decode cX0_dryTold 45 = .ok (.bipush (-9), 2) := dk_16 247 (dk_at dksX0_dryTold_1 22 rfl rfl)
theorem dX0_dryTold_47 : decode cX0_dryTold 47 = .ok (.istore_n 2, 1) := dk_61 (dk_at dksX0_dryTold_2 0 rfl rfl)
theorem dX0_dryTold_48 : decode cX0_dryTold 48 = .ok (.bipush 61, 2) := dk_16 61 (dk_at dksX0_dryTold_2 1 rfl rfl)
theorem dX0_dryTold_50 : decode cX0_dryTold 50 = .ok (.istore_n 3, 1) := dk_62 (dk_at dksX0_dryTold_2 3 rfl rfl)
theorem dX0_dryTold_51 : decode cX0_dryTold 51 = .ok (.iconst 0, 1) := dk_3 (dk_at dksX0_dryTold_2 4 rfl rfl)
theorem dX0_dryTold_52 : decode cX0_dryTold 52 = .ok (.istore 4, 2) := dk_54 4 (dk_at dksX0_dryTold_2 5 rfl rfl)
theorem dX0_dryTold_54 : decode cX0_dryTold 54 = .ok (.iload 4, 2) := dk_21 4 (dk_at dksX0_dryTold_2 7 rfl rfl)
theorem dX0_dryTold_56 : decode cX0_dryTold 56 = .ok (.aload_n 0, 1) := dk_42 (dk_at dksX0_dryTold_2 9 rfl rfl)
theorem dX0_dryTold_57 : decode cX0_dryTold 57 = .ok (.getfield 53, 3) := dk_180 0 53 (dk_at dksX0_dryTold_2 10 rfl rfl)
theorem dX0_dryTold_60 : decode cX0_dryTold 60 = .ok (.getfield 132, 3) := dk_180 0 132 (dk_at dksX0_dryTold_2 13 rfl rfl)
theorem dX0_dryTold_63 : decode cX0_dryTold 63 = .ok (.if_icmp .ge 37, 3) := dk_162 0 37 (dk_at dksX0_dryTold_2 16 rfl rfl)
theorem dX0_dryTold_66 : decode cX0_dryTold 66 = .ok (.aload_n 0, 1) := dk_42 (dk_at dksX0_dryTold_2 19 rfl rfl)
theorem dX0_dryTold_67 : decode cX0_dryTold 67 = .ok (.iload 4, 2) := dk_21 4 (dk_at dksX0_dryTold_2 20 rfl rfl)
theorem dX0_dryTold_69 : decode cX0_dryTold 69 = .ok (.invokevirtual 135, 3) := dk_182 0 135 (dk_at dksX0_dryTold_3 0 rfl rfl)
theorem dX0_dryTold_72 : decode cX0_dryTold 72 = .ok (.istore 5, 2) := dk_54 5 (dk_at dksX0_dryTold_3 3 rfl rfl)
theorem dX0_dryTold_74 : decode cX0_dryTold 74 = .ok (.iload 5, 2) := dk_21 5 (dk_at dksX0_dryTold_3 5 rfl rfl)
theorem dX0_dryTold_76 : decode cX0_dryTold 76 = .ok (.iload_n 3, 1) := dk_29 (dk_at dksX0_dryTold_3 7 rfl rfl)
theorem dX0_dryTold_77 : decode cX0_dryTold 77 = .ok (.if_icmp .ge 8, 3) := dk_162 0 8 (dk_at dksX0_dryTold_3 8 rfl rfl)
theorem dX0_dryTold_80 : decode cX0_dryTold 80 = .ok (.iload 4, 2) := dk_21 4 (dk_at dksX0_dryTold_3 11 rfl rfl)
theorem dX0_dryTold_82 : decode cX0_dryTold 82 = .ok (.goto 4, 3) := dk_167 0 4 (dk_at dksX0_dryTold_3 13 rfl rfl)
theorem dX0_dryTold_85 : decode cX0_dryTold 85 = .ok (.iload_n 2, 1) := dk_28 (dk_at dksX0_dryTold_3 16 rfl rfl)
theorem dX0_dryTold_86 : decode cX0_dryTold 86 = .ok (.istore_n 2, 1) := dk_61 (dk_at dksX0_dryTold_3 17 rfl rfl)
theorem dX0_dryTold_87 : decode cX0_dryTold 87 = .ok (.iload_n 3, 1) := dk_29 (dk_at dksX0_dryTold_3 18 rfl rfl)
theorem dX0_dryTold_88 : decode cX0_dryTold 88 = .ok (.iload 5, 2) := dk_21 5 (dk_at dksX0_dryTold_3 19 rfl rfl)
theorem dX0_dryTold_90 : decode cX0_dryTold 90 = .ok (.invokestatic 139, 3) := dk_184 0 139 (dk_at dksX0_dryTold_3 21 rfl rfl)
theorem dX0_dryTold_93 : decode cX0_dryTold 93 = .ok (.istore_n 3, 1) := dk_62 (dk_at dksX0_dryTold_4 0 rfl rfl)
theorem dX0_dryTold_94 : decode cX0_dryTold 94 = .ok (.iinc 4 1, 3) := dk_132 4 1 (dk_at dksX0_dryTold_4 1 rfl rfl)
theorem dX0_dryTold_97 : decode cX0_dryTold 97 = .ok (.goto (-43), 3) := dk_167 255 213 (dk_at dksX0_dryTold_4 4 rfl rfl)
theorem dX0_dryTold_100 : decode cX0_dryTold 100 = .ok (.iload_n 2, 1) := dk_28 (dk_at dksX0_dryTold_4 7 rfl rfl)
theorem dX0_dryTold_101 : decode cX0_dryTold 101 = .ok (.ireturn, 1) := dk_172 (dk_at dksX0_dryTold_4 8 rfl rfl)
abbrev cX0_dryIn : ByteArray := prog_1_method_14_code
def yX0_dryIn : MethodName := ⟨RX0, "dryIn", "(I)I"⟩
def dkwX0_dryIn_1 : List UInt8 := [182, 0, 127, 132, 3, 1, 167, 255, 234, 29, 172]
abbrev dktX0_dryIn_1 : List UInt8 := dkwX0_dryIn_1 ++ []
def dkwX0_dryIn_0 : List UInt8 := [42, 182, 0, 116, 77, 3, 62, 29, 16, 60, 163, 0, 22, 44, 180, 0, 124, 27, 46, 158, 0, 13, 44]
abbrev dktX0_dryIn_0 : List UInt8 := dkwX0_dryIn_0 ++ dktX0_dryIn_1
theorem dksX0_dryIn_0 : cX0_dryIn.data.toList.drop 0 = dktX0_dryIn_0 := by decide +kernel
theorem dksX0_dryIn_1 : cX0_dryIn.data.toList.drop 23 = dktX0_dryIn_1 := dk_seg dksX0_dryIn_0 23 rfl rfl
theorem dX0_dryIn_0 : decode cX0_dryIn 0 = .ok (.aload_n 0, 1) := dk_42 (dk_at dksX0_dryIn_0 0 rfl rfl)
theorem dX0_dryIn_1 : decode cX0_dryIn 1 = .ok (.invokevirtual 116, 3) := dk_182 0 116 (dk_at dksX0_dryIn_0 1 rfl rfl)
theorem dX0_dryIn_4 : decode cX0_dryIn 4 = .ok (.astore_n 2, 1) := dk_77 (dk_at dksX0_dryIn_0 4 rfl rfl)
theorem dX0_dryIn_5 : decode cX0_dryIn 5 = .ok (.iconst 0, 1) := dk_3 (dk_at dksX0_dryIn_0 5 rfl rfl)
theorem dX0_dryIn_6 : decode cX0_dryIn 6 = .ok (.istore_n 3, 1) := dk_62 (dk_at dksX0_dryIn_0 6 rfl rfl)
theorem dX0_dryIn_7 : decode cX0_dryIn 7 = .ok (.iload_n 3, 1) := dk_29 (dk_at dksX0_dryIn_0 7 rfl rfl)
theorem dX0_dryIn_8 : decode cX0_dryIn 8 = .ok (.bipush 60, 2) := dk_16 60 (dk_at dksX0_dryIn_0 8 rfl rfl)
theorem dX0_dryIn_10 : decode cX0_dryIn 10 = .ok (.if_icmp .gt 22, 3) := dk_163 0 22 (dk_at dksX0_dryIn_0 10 rfl rfl)
theorem dX0_dryIn_13 : decode cX0_dryIn 13 = .ok (.aload_n 2, 1) := dk_44 (dk_at dksX0_dryIn_0 13 rfl rfl)
theorem dX0_dryIn_14 : decode cX0_dryIn 14 = .ok (.getfield 124, 3) := dk_180 0 124 (dk_at dksX0_dryIn_0 14 rfl rfl)
theorem dX0_dryIn_17 : decode cX0_dryIn 17 = .ok (.iload_n 1, 1) := dk_27 (dk_at dksX0_dryIn_0 17 rfl rfl)
theorem dX0_dryIn_18 : decode cX0_dryIn 18 = .ok (.iaload, 1) := dk_46 (dk_at dksX0_dryIn_0 18 rfl rfl)
theorem dX0_dryIn_19 : decode cX0_dryIn 19 = .ok (.ifCond .le 13, 3) := dk_158 0 13 (dk_at dksX0_dryIn_0 19 rfl rfl)
theorem dX0_dryIn_22 : decode cX0_dryIn 22 = .ok (.aload_n 2, 1) := dk_44 (dk_at dksX0_dryIn_0 22 rfl rfl)
theorem dX0_dryIn_23 : decode cX0_dryIn 23 = .ok (.invokevirtual 127, 3) := dk_182 0 127 (dk_at dksX0_dryIn_1 0 rfl rfl)
theorem dX0_dryIn_26 : decode cX0_dryIn 26 = .ok (.iinc 3 1, 3) := dk_132 3 1 (dk_at dksX0_dryIn_1 3 rfl rfl)
theorem dX0_dryIn_29 : decode cX0_dryIn 29 = .ok (.goto (-22), 3) := dk_167 255 234 (dk_at dksX0_dryIn_1 6 rfl rfl)
theorem dX0_dryIn_32 : decode cX0_dryIn 32 = .ok (.iload_n 3, 1) := dk_29 (dk_at dksX0_dryIn_1 9 rfl rfl)
theorem dX0_dryIn_33 : decode cX0_dryIn 33 = .ok (.ireturn, 1) := dk_172 (dk_at dksX0_dryIn_1 10 rfl rfl)
abbrev cX0_emptyIn : ByteArray := prog_1_method_16_code
def yX0_emptyIn : MethodName := ⟨RX0, "emptyIn", "()I"⟩
def dkwX0_emptyIn_1 : List UInt8 := [182, 0, 127, 132, 2, 1, 167, 255, 234, 16, 247, 172]
abbrev dktX0_emptyIn_1 : List UInt8 := dkwX0_emptyIn_1 ++ []
def dkwX0_emptyIn_0 : List UInt8 := [42, 182, 0, 116, 76, 3, 61, 28, 16, 60, 163, 0, 22, 43, 180, 0, 145, 154, 0, 5, 28, 172, 43]
abbrev dktX0_emptyIn_0 : List UInt8 := dkwX0_emptyIn_0 ++ dktX0_emptyIn_1
theorem dksX0_emptyIn_0 : cX0_emptyIn.data.toList.drop 0 = dktX0_emptyIn_0 := by decide +kernel
theorem dksX0_emptyIn_1 : cX0_emptyIn.data.toList.drop 23 = dktX0_emptyIn_1 := dk_seg dksX0_emptyIn_0 23 rfl rfl
theorem dX0_emptyIn_0 : decode cX0_emptyIn 0 = .ok (.aload_n 0, 1) := dk_42 (dk_at dksX0_emptyIn_0 0 rfl rfl)
theorem dX0_emptyIn_1 : decode cX0_emptyIn 1 = .ok (.invokevirtual 116, 3) := dk_182 0 116 (dk_at dksX0_emptyIn_0 1 rfl rfl)
theorem dX0_emptyIn_4 : decode cX0_emptyIn 4 = .ok (.astore_n 1, 1) := dk_76 (dk_at dksX0_emptyIn_0 4 rfl rfl)
theorem dX0_emptyIn_5 : decode cX0_emptyIn 5 = .ok (.iconst 0, 1) := dk_3 (dk_at dksX0_emptyIn_0 5 rfl rfl)
theorem dX0_emptyIn_6 : decode cX0_emptyIn 6 = .ok (.istore_n 2, 1) := dk_61 (dk_at dksX0_emptyIn_0 6 rfl rfl)
theorem dX0_emptyIn_7 : decode cX0_emptyIn 7 = .ok (.iload_n 2, 1) := dk_28 (dk_at dksX0_emptyIn_0 7 rfl rfl)
theorem dX0_emptyIn_8 : decode cX0_emptyIn 8 = .ok (.bipush 60, 2) := dk_16 60 (dk_at dksX0_emptyIn_0 8 rfl rfl)
theorem dX0_emptyIn_10 : decode cX0_emptyIn 10 = .ok (.if_icmp .gt 22, 3) := dk_163 0 22 (dk_at dksX0_emptyIn_0 10 rfl rfl)
theorem dX0_emptyIn_13 : decode cX0_emptyIn 13 = .ok (.aload_n 1, 1) := dk_43 (dk_at dksX0_emptyIn_0 13 rfl rfl)
theorem dX0_emptyIn_14 : decode cX0_emptyIn 14 = .ok (.getfield 145, 3) := dk_180 0 145 (dk_at dksX0_emptyIn_0 14 rfl rfl)
theorem dX0_emptyIn_17 : decode cX0_emptyIn 17 = .ok (.ifCond .ne 5, 3) := dk_154 0 5 (dk_at dksX0_emptyIn_0 17 rfl rfl)
theorem dX0_emptyIn_20 : decode cX0_emptyIn 20 = .ok (.iload_n 2, 1) := dk_28 (dk_at dksX0_emptyIn_0 20 rfl rfl)
theorem dX0_emptyIn_21 : decode cX0_emptyIn 21 = .ok (.ireturn, 1) := dk_172 (dk_at dksX0_emptyIn_0 21 rfl rfl)
theorem dX0_emptyIn_22 : decode cX0_emptyIn 22 = .ok (.aload_n 1, 1) := dk_43 (dk_at dksX0_emptyIn_0 22 rfl rfl)
theorem dX0_emptyIn_23 : decode cX0_emptyIn 23 = .ok (.invokevirtual 127, 3) := dk_182 0 127 (dk_at dksX0_emptyIn_1 0 rfl rfl)
theorem dX0_emptyIn_26 : decode cX0_emptyIn 26 = .ok (.iinc 2 1, 3) := dk_132 2 1 (dk_at dksX0_emptyIn_1 3 rfl rfl)
theorem dX0_emptyIn_29 : decode cX0_emptyIn 29 = .ok (.goto (-22), 3) := dk_167 255 234 (dk_at dksX0_emptyIn_1 6 rfl rfl)
theorem dX0_emptyIn_32 : decode cX0_emptyIn 32 = .ok (.bipush (-9), 2) := dk_16 247 (dk_at dksX0_emptyIn_1 9 rfl rfl)
theorem dX0_emptyIn_34 : decode cX0_emptyIn 34 = .ok (.ireturn, 1) := dk_172 (dk_at dksX0_emptyIn_1 11 rfl rfl)
abbrev cX0_mustBeSoon : ByteArray := prog_1_method_40_code
def yX0_mustBeSoon : MethodName := ⟨RX0, "mustBeSoon", "(I)V"⟩
def dkwX0_mustBeSoon_0 : List UInt8 := [26, 133, 9, 20, 1, 7, 184, 0, 188, 177]
abbrev dktX0_mustBeSoon_0 : List UInt8 := dkwX0_mustBeSoon_0 ++ []
theorem dksX0_mustBeSoon_0 : cX0_mustBeSoon.data.toList.drop 0 = dktX0_mustBeSoon_0 := by decide +kernel
theorem dX0_mustBeSoon_0 : decode cX0_mustBeSoon 0 = .ok (.iload_n 0, 1) := dk_26 (dk_at dksX0_mustBeSoon_0 0 rfl rfl)
theorem dX0_mustBeSoon_1 : decode cX0_mustBeSoon 1 = .ok (.i2l, 1) := dk_133 (dk_at dksX0_mustBeSoon_0 1 rfl rfl)
theorem dX0_mustBeSoon_2 : decode cX0_mustBeSoon 2 = .ok (.lconst 0, 1) := dk_9 (dk_at dksX0_mustBeSoon_0 2 rfl rfl)
theorem dX0_mustBeSoon_3 : decode cX0_mustBeSoon 3 = .ok (.ldc2_w 263, 3) := dk_20 1 7 (dk_at dksX0_mustBeSoon_0 3 rfl rfl)
theorem dX0_mustBeSoon_6 : decode cX0_mustBeSoon 6 = .ok (.invokestatic 188, 3) := dk_184 0 188 (dk_at dksX0_mustBeSoon_0 6 rfl rfl)
theorem dX0_mustBeSoon_9 : decode cX0_mustBeSoon 9 = .ok (.return_, 1) := dk_177 (dk_at dksX0_mustBeSoon_0 9 rfl rfl)
abbrev cX0_leastFlow : ByteArray := prog_1_method_17_code
def yX0_leastFlow : MethodName := ⟨RX0, "leastFlow", "(I)I"⟩
def dkwX0_leastFlow_1 : List UInt8 := [153, 0, 5, 28, 172, 132, 2, 1, 167, 255, 227, 16, 247, 172]
abbrev dktX0_leastFlow_1 : List UInt8 := dkwX0_leastFlow_1 ++ []
def dkwX0_leastFlow_0 : List UInt8 := [3, 61, 28, 16, 30, 163, 0, 29, 42, 182, 0, 116, 78, 45, 28, 181, 0, 148, 45, 27, 182, 0, 150]
abbrev dktX0_leastFlow_0 : List UInt8 := dkwX0_leastFlow_0 ++ dktX0_leastFlow_1
theorem dksX0_leastFlow_0 : cX0_leastFlow.data.toList.drop 0 = dktX0_leastFlow_0 := by decide +kernel
theorem dksX0_leastFlow_1 : cX0_leastFlow.data.toList.drop 23 = dktX0_leastFlow_1 := dk_seg dksX0_leastFlow_0 23 rfl rfl
theorem dX0_leastFlow_0 : decode cX0_leastFlow 0 = .ok (.iconst 0, 1) := dk_3 (dk_at dksX0_leastFlow_0 0 rfl rfl)
theorem dX0_leastFlow_1 : decode cX0_leastFlow 1 = .ok (.istore_n 2, 1) := dk_61 (dk_at dksX0_leastFlow_0 1 rfl rfl)
theorem dX0_leastFlow_2 : decode cX0_leastFlow 2 = .ok (.iload_n 2, 1) := dk_28 (dk_at dksX0_leastFlow_0 2 rfl rfl)
theorem dX0_leastFlow_3 : decode cX0_leastFlow 3 = .ok (.bipush 30, 2) := dk_16 30 (dk_at dksX0_leastFlow_0 3 rfl rfl)
theorem dX0_leastFlow_5 : decode cX0_leastFlow 5 = .ok (.if_icmp .gt 29, 3) := dk_163 0 29 (dk_at dksX0_leastFlow_0 5 rfl rfl)
theorem dX0_leastFlow_8 : decode cX0_leastFlow 8 = .ok (.aload_n 0, 1) := dk_42 (dk_at dksX0_leastFlow_0 8 rfl rfl)
theorem dX0_leastFlow_9 : decode cX0_leastFlow 9 = .ok (.invokevirtual 116, 3) := dk_182 0 116 (dk_at dksX0_leastFlow_0 9 rfl rfl)
theorem dX0_leastFlow_12 : decode cX0_leastFlow 12 = .ok (.astore_n 3, 1) := dk_78 (dk_at dksX0_leastFlow_0 12 rfl rfl)
theorem dX0_leastFlow_13 : decode cX0_leastFlow 13 = .ok (.aload_n 3, 1) := dk_45 (dk_at dksX0_leastFlow_0 13 rfl rfl)
theorem dX0_leastFlow_14 : decode cX0_leastFlow 14 = .ok (.iload_n 2, 1) := dk_28 (dk_at dksX0_leastFlow_0 14 rfl rfl)
theorem dX0_leastFlow_15 : decode cX0_leastFlow 15 = .ok (.putfield 148, 3) := dk_181 0 148 (dk_at dksX0_leastFlow_0 15 rfl rfl)
theorem dX0_leastFlow_18 : decode cX0_leastFlow 18 = .ok (.aload_n 3, 1) := dk_45 (dk_at dksX0_leastFlow_0 18 rfl rfl)
theorem dX0_leastFlow_19 : decode cX0_leastFlow 19 = .ok (.iload_n 1, 1) := dk_27 (dk_at dksX0_leastFlow_0 19 rfl rfl)
theorem dX0_leastFlow_20 : decode cX0_leastFlow 20 = .ok (.invokevirtual 150, 3) := dk_182 0 150 (dk_at dksX0_leastFlow_0 20 rfl rfl)
theorem dX0_leastFlow_23 : decode cX0_leastFlow 23 = .ok (.ifCond .eq 5, 3) := dk_153 0 5 (dk_at dksX0_leastFlow_1 0 rfl rfl)
theorem dX0_leastFlow_26 : decode cX0_leastFlow 26 = .ok (.iload_n 2, 1) := dk_28 (dk_at dksX0_leastFlow_1 3 rfl rfl)
theorem dX0_leastFlow_27 : decode cX0_leastFlow 27 = .ok (.ireturn, 1) := dk_172 (dk_at dksX0_leastFlow_1 4 rfl rfl)
theorem dX0_leastFlow_28 : decode cX0_leastFlow 28 = .ok (.iinc 2 1, 3) := dk_132 2 1 (dk_at dksX0_leastFlow_1 5 rfl rfl)
theorem dX0_leastFlow_31 : decode cX0_leastFlow 31 = .ok (.goto (-29), 3) := dk_167 255 227 (dk_at dksX0_leastFlow_1 8 rfl rfl)
theorem dX0_leastFlow_34 : decode cX0_leastFlow 34 = .ok (.bipush (-9), 2) := dk_16 247 (dk_at dksX0_leastFlow_1 11 rfl rfl)
theorem dX0_leastFlow_36 : decode cX0_leastFlow 36 = .ok (.ireturn, 1) := dk_172 (dk_at dksX0_leastFlow_1 13 rfl rfl)
abbrev cX0_canTold : ByteArray := prog_1_method_53_code
def yX0_canTold : MethodName := ⟨RX0, "canTold", "(II)I"⟩
def dkwX0_canTold_0 : List UInt8 := [42, 27, 182, 1, 11, 28, 184, 1, 61, 42, 27, 28, 182, 1, 64, 172]
abbrev dktX0_canTold_0 : List UInt8 := dkwX0_canTold_0 ++ []
theorem dksX0_canTold_0 : cX0_canTold.data.toList.drop 0 = dktX0_canTold_0 := by decide +kernel
theorem dX0_canTold_0 : decode cX0_canTold 0 = .ok (.aload_n 0, 1) := dk_42 (dk_at dksX0_canTold_0 0 rfl rfl)
theorem dX0_canTold_1 : decode cX0_canTold 1 = .ok (.iload_n 1, 1) := dk_27 (dk_at dksX0_canTold_0 1 rfl rfl)
theorem dX0_canTold_2 : decode cX0_canTold 2 = .ok (.invokevirtual 267, 3) := dk_182 1 11 (dk_at dksX0_canTold_0 2 rfl rfl)
theorem dX0_canTold_5 : decode cX0_canTold 5 = .ok (.iload_n 2, 1) := dk_28 (dk_at dksX0_canTold_0 5 rfl rfl)
theorem dX0_canTold_6 : decode cX0_canTold 6 = .ok (.invokestatic 317, 3) := dk_184 1 61 (dk_at dksX0_canTold_0 6 rfl rfl)
theorem dX0_canTold_9 : decode cX0_canTold 9 = .ok (.aload_n 0, 1) := dk_42 (dk_at dksX0_canTold_0 9 rfl rfl)
theorem dX0_canTold_10 : decode cX0_canTold 10 = .ok (.iload_n 1, 1) := dk_27 (dk_at dksX0_canTold_0 10 rfl rfl)
theorem dX0_canTold_11 : decode cX0_canTold 11 = .ok (.iload_n 2, 1) := dk_28 (dk_at dksX0_canTold_0 11 rfl rfl)
theorem dX0_canTold_12 : decode cX0_canTold 12 = .ok (.invokevirtual 320, 3) := dk_182 1 64 (dk_at dksX0_canTold_0 12 rfl rfl)
theorem dX0_canTold_15 : decode cX0_canTold 15 = .ok (.ireturn, 1) := dk_172 (dk_at dksX0_canTold_0 15 rfl rfl)
abbrev cX0_leastCan : ByteArray := prog_1_method_18_code
def yX0_leastCan : MethodName := ⟨RX0, "leastCan", "(II)I"⟩
def dkwX0_leastCan_1 : List UInt8 := [27, 28, 182, 0, 157, 153, 0, 5, 29, 172, 132, 3, 1, 167, 255, 221, 16, 247, 172]
abbrev dktX0_leastCan_1 : List UInt8 := dkwX0_leastCan_1 ++ []
def dkwX0_leastCan_0 : List UInt8 := [3, 62, 29, 16, 9, 163, 0, 35, 42, 182, 0, 116, 58, 4, 25, 4, 180, 0, 154, 27, 29, 79, 25, 4]
abbrev dktX0_leastCan_0 : List UInt8 := dkwX0_leastCan_0 ++ dktX0_leastCan_1
theorem dksX0_leastCan_0 : cX0_leastCan.data.toList.drop 0 = dktX0_leastCan_0 := by decide +kernel
theorem dksX0_leastCan_1 : cX0_leastCan.data.toList.drop 24 = dktX0_leastCan_1 := dk_seg dksX0_leastCan_0 24 rfl rfl
theorem dX0_leastCan_0 : decode cX0_leastCan 0 = .ok (.iconst 0, 1) := dk_3 (dk_at dksX0_leastCan_0 0 rfl rfl)
theorem dX0_leastCan_1 : decode cX0_leastCan 1 = .ok (.istore_n 3, 1) := dk_62 (dk_at dksX0_leastCan_0 1 rfl rfl)
theorem dX0_leastCan_2 : decode cX0_leastCan 2 = .ok (.iload_n 3, 1) := dk_29 (dk_at dksX0_leastCan_0 2 rfl rfl)
theorem dX0_leastCan_3 : decode cX0_leastCan 3 = .ok (.bipush 9, 2) := dk_16 9 (dk_at dksX0_leastCan_0 3 rfl rfl)
theorem dX0_leastCan_5 : decode cX0_leastCan 5 = .ok (.if_icmp .gt 35, 3) := dk_163 0 35 (dk_at dksX0_leastCan_0 5 rfl rfl)
theorem dX0_leastCan_8 : decode cX0_leastCan 8 = .ok (.aload_n 0, 1) := dk_42 (dk_at dksX0_leastCan_0 8 rfl rfl)
theorem dX0_leastCan_9 : decode cX0_leastCan 9 = .ok (.invokevirtual 116, 3) := dk_182 0 116 (dk_at dksX0_leastCan_0 9 rfl rfl)
theorem dX0_leastCan_12 : decode cX0_leastCan 12 = .ok (.astore 4, 2) := dk_58 4 (dk_at dksX0_leastCan_0 12 rfl rfl)
theorem dX0_leastCan_14 : decode cX0_leastCan 14 = .ok (.aload 4, 2) := dk_25 4 (dk_at dksX0_leastCan_0 14 rfl rfl)
theorem dX0_leastCan_16 : decode cX0_leastCan 16 = .ok (.getfield 154, 3) := dk_180 0 154 (dk_at dksX0_leastCan_0 16 rfl rfl)
theorem dX0_leastCan_19 : decode cX0_leastCan 19 = .ok (.iload_n 1, 1) := dk_27 (dk_at dksX0_leastCan_0 19 rfl rfl)
theorem dX0_leastCan_20 : decode cX0_leastCan 20 = .ok (.iload_n 3, 1) := dk_29 (dk_at dksX0_leastCan_0 20 rfl rfl)
theorem dX0_leastCan_21 : decode cX0_leastCan 21 = .ok (.iastore, 1) := dk_79 (dk_at dksX0_leastCan_0 21 rfl rfl)
theorem dX0_leastCan_22 : decode cX0_leastCan 22 = .ok (.aload 4, 2) := dk_25 4 (dk_at dksX0_leastCan_0 22 rfl rfl)
theorem dX0_leastCan_24 : decode cX0_leastCan 24 = .ok (.iload_n 1, 1) := dk_27 (dk_at dksX0_leastCan_1 0 rfl rfl)
theorem dX0_leastCan_25 : decode cX0_leastCan 25 = .ok (.iload_n 2, 1) := dk_28 (dk_at dksX0_leastCan_1 1 rfl rfl)
theorem dX0_leastCan_26 : decode cX0_leastCan 26 = .ok (.invokevirtual 157, 3) := dk_182 0 157 (dk_at dksX0_leastCan_1 2 rfl rfl)
theorem dX0_leastCan_29 : decode cX0_leastCan 29 = .ok (.ifCond .eq 5, 3) := dk_153 0 5 (dk_at dksX0_leastCan_1 5 rfl rfl)
theorem dX0_leastCan_32 : decode cX0_leastCan 32 = .ok (.iload_n 3, 1) := dk_29 (dk_at dksX0_leastCan_1 8 rfl rfl)
theorem dX0_leastCan_33 : decode cX0_leastCan 33 = .ok (.ireturn, 1) := dk_172 (dk_at dksX0_leastCan_1 9 rfl rfl)
theorem dX0_leastCan_34 : decode cX0_leastCan 34 = .ok (.iinc 3 1, 3) := dk_132 3 1 (dk_at dksX0_leastCan_1 10 rfl rfl)
theorem dX0_leastCan_37 : decode cX0_leastCan 37 = .ok (.goto (-35), 3) := dk_167 255 221 (dk_at dksX0_leastCan_1 13 rfl rfl)
theorem dX0_leastCan_40 : decode cX0_leastCan 40 = .ok (.bipush (-9), 2) := dk_16 247 (dk_at dksX0_leastCan_1 16 rfl rfl)
theorem dX0_leastCan_42 : decode cX0_leastCan 42 = .ok (.ireturn, 1) := dk_172 (dk_at dksX0_leastCan_1 18 rfl rfl)
abbrev cX0_friendTold : ByteArray := prog_1_method_54_code
def yX0_friendTold : MethodName := ⟨RX0, "friendTold", "(II)I"⟩
def dkwX0_friendTold_0 : List UInt8 := [42, 27, 182, 1, 11, 28, 184, 1, 61, 42, 27, 28, 182, 1, 67, 172]
abbrev dktX0_friendTold_0 : List UInt8 := dkwX0_friendTold_0 ++ []
theorem dksX0_friendTold_0 : cX0_friendTold.data.toList.drop 0 = dktX0_friendTold_0 := by decide +kernel
theorem dX0_friendTold_0 : decode cX0_friendTold 0 = .ok (.aload_n 0, 1) := dk_42 (dk_at dksX0_friendTold_0 0 rfl rfl)
theorem dX0_friendTold_1 : decode cX0_friendTold 1 = .ok (.iload_n 1, 1) := dk_27 (dk_at dksX0_friendTold_0 1 rfl rfl)
theorem dX0_friendTold_2 : decode cX0_friendTold 2 = .ok (.invokevirtual 267, 3) := dk_182 1 11 (dk_at dksX0_friendTold_0 2 rfl rfl)
theorem dX0_friendTold_5 : decode cX0_friendTold 5 = .ok (.iload_n 2, 1) := dk_28 (dk_at dksX0_friendTold_0 5 rfl rfl)
theorem dX0_friendTold_6 : decode cX0_friendTold 6 = .ok (.invokestatic 317, 3) := dk_184 1 61 (dk_at dksX0_friendTold_0 6 rfl rfl)
theorem dX0_friendTold_9 : decode cX0_friendTold 9 = .ok (.aload_n 0, 1) := dk_42 (dk_at dksX0_friendTold_0 9 rfl rfl)
theorem dX0_friendTold_10 : decode cX0_friendTold 10 = .ok (.iload_n 1, 1) := dk_27 (dk_at dksX0_friendTold_0 10 rfl rfl)
theorem dX0_friendTold_11 : decode cX0_friendTold 11 = .ok (.iload_n 2, 1) := dk_28 (dk_at dksX0_friendTold_0 11 rfl rfl)
theorem dX0_friendTold_12 : decode cX0_friendTold 12 = .ok (.invokevirtual 323, 3) := dk_182 1 67 (dk_at dksX0_friendTold_0 12 rfl rfl)
theorem dX0_friendTold_15 : decode cX0_friendTold 15 = .ok (.ireturn, 1) := dk_172 (dk_at dksX0_friendTold_0 15 rfl rfl)
abbrev cX0_bestFriend : ByteArray := prog_1_method_19_code
def yX0_bestFriend : MethodName := ⟨RX0, "bestFriend", "(II)I"⟩
def dkwX0_bestFriend_3 : List UInt8 := [167, 0, 5, 21, 4, 54, 4, 29, 21, 7, 184, 0, 171, 62, 132, 5, 1, 167, 255, 187, 21, 4, 172]
abbrev dktX0_bestFriend_3 : List UInt8 := dkwX0_bestFriend_3 ++ []
def dkwX0_bestFriend_2 : List UInt8 := [21, 5, 79, 25, 6, 28, 182, 0, 120, 182, 0, 164, 54, 7, 21, 7, 29, 164, 0, 8, 21, 5]
abbrev dktX0_bestFriend_2 : List UInt8 := dkwX0_bestFriend_2 ++ dktX0_bestFriend_3
def dkwX0_bestFriend_1 : List UInt8 := [180, 0, 132, 162, 0, 63, 21, 5, 27, 159, 0, 51, 42, 182, 0, 116, 58, 6, 25, 6, 180, 0, 168, 27]
abbrev dktX0_bestFriend_1 : List UInt8 := dkwX0_bestFriend_1 ++ dktX0_bestFriend_2
def dkwX0_bestFriend_0 : List UInt8 := [42, 28, 182, 0, 161, 182, 0, 164, 62, 16, 247, 54, 4, 3, 54, 5, 21, 5, 42, 180, 0, 53]
abbrev dktX0_bestFriend_0 : List UInt8 := dkwX0_bestFriend_0 ++ dktX0_bestFriend_1
theorem dksX0_bestFriend_0 : cX0_bestFriend.data.toList.drop 0 = dktX0_bestFriend_0 := by decide +kernel
theorem dksX0_bestFriend_1 : cX0_bestFriend.data.toList.drop 22 = dktX0_bestFriend_1 := dk_seg dksX0_bestFriend_0 22 rfl rfl
theorem dksX0_bestFriend_2 : cX0_bestFriend.data.toList.drop 46 = dktX0_bestFriend_2 := dk_seg dksX0_bestFriend_1 24 rfl rfl
theorem dksX0_bestFriend_3 : cX0_bestFriend.data.toList.drop 68 = dktX0_bestFriend_3 := dk_seg dksX0_bestFriend_2 22 rfl rfl
theorem dX0_bestFriend_0 : decode cX0_bestFriend 0 = .ok (.aload_n 0, 1) := dk_42 (dk_at dksX0_bestFriend_0 0 rfl rfl)
theorem dX0_bestFriend_1 : decode cX0_bestFriend 1 = .ok (.iload_n 2, 1) := dk_28 (dk_at dksX0_bestFriend_0 1 rfl rfl)
theorem dX0_bestFriend_2 : decode cX0_bestFriend 2 = .ok (.invokevirtual 161, 3) := dk_182 0 161 (dk_at dksX0_bestFriend_0 2 rfl rfl)
theorem dX0_bestFriend_5 : decode cX0_bestFriend 5 = .ok (.invokevirtual 164, 3) := dk_182 0 164 (dk_at dksX0_bestFriend_0 5 rfl rfl)
theorem dX0_bestFriend_8 : decode cX0_bestFriend 8 = .ok (.istore_n 3, 1) := dk_62 (dk_at dksX0_bestFriend_0 8 rfl rfl)
theorem dX0_bestFriend_9 : decode cX0_bestFriend 9 = .ok (.bipush (-9), 2) := dk_16 247 (dk_at dksX0_bestFriend_0 9 rfl rfl)
theorem dX0_bestFriend_11 : decode cX0_bestFriend 11 = .ok (.istore 4, 2) := dk_54 4 (dk_at dksX0_bestFriend_0 11 rfl rfl)
theorem dX0_bestFriend_13 : decode cX0_bestFriend 13 = .ok (.iconst 0, 1) := dk_3 (dk_at dksX0_bestFriend_0 13 rfl rfl)
theorem dX0_bestFriend_14 : decode cX0_bestFriend 14 = .ok (.istore 5, 2) := dk_54 5 (dk_at dksX0_bestFriend_0 14 rfl rfl)
theorem dX0_bestFriend_16 : decode cX0_bestFriend 16 = .ok (.iload 5, 2) := dk_21 5 (dk_at dksX0_bestFriend_0 16 rfl rfl)
theorem dX0_bestFriend_18 : decode cX0_bestFriend 18 = .ok (.aload_n 0, 1) := dk_42 (dk_at dksX0_bestFriend_0 18 rfl rfl)
theorem dX0_bestFriend_19 : decode cX0_bestFriend 19 = .ok (.getfield 53, 3) := dk_180 0 53 (dk_at dksX0_bestFriend_0 19 rfl rfl)
theorem dX0_bestFriend_22 : decode cX0_bestFriend 22 = .ok (.getfield 132, 3) := dk_180 0 132 (dk_at dksX0_bestFriend_1 0 rfl rfl)
theorem dX0_bestFriend_25 : decode cX0_bestFriend 25 = .ok (.if_icmp .ge 63, 3) := dk_162 0 63 (dk_at dksX0_bestFriend_1 3 rfl rfl)
theorem dX0_bestFriend_28 : decode cX0_bestFriend 28 = .ok (.iload 5, 2) := dk_21 5 (dk_at dksX0_bestFriend_1 6 rfl rfl)
theorem dX0_bestFriend_30 : decode cX0_bestFriend 30 = .ok (.iload_n 1, 1) := dk_27 (dk_at dksX0_bestFriend_1 8 rfl rfl)
theorem dX0_bestFriend_31 : decode cX0_bestFriend 31 = .ok (.if_icmp .eq 51, 3) := dk_159 0 51 (dk_at dksX0_bestFriend_1 9 rfl rfl)
theorem dX0_bestFriend_34 : decode cX0_bestFriend 34 = .ok (.aload_n 0, 1) := dk_42 (dk_at dksX0_bestFriend_1 12 rfl rfl)
theorem dX0_bestFriend_35 : decode cX0_bestFriend 35 = .ok (.invokevirtual 116, 3) := dk_182 0 116 (dk_at dksX0_bestFriend_1 13 rfl rfl)
theorem dX0_bestFriend_38 : decode cX0_bestFriend 38 = .ok (.astore 6, 2) := dk_58 6 (dk_at dksX0_bestFriend_1 16 rfl rfl)
theorem dX0_bestFriend_40 : decode cX0_bestFriend 40 = .ok (.aload 6, 2) := dk_25 6 (dk_at dksX0_bestFriend_1 18 rfl rfl)
theorem dX0_bestFriend_42 : decode cX0_bestFriend 42 = .ok (.getfield 168, 3) := dk_180 0 168 (dk_at dksX0_bestFriend_1 20 rfl rfl)
theorem dX0_bestFriend_45 : decode cX0_bestFriend 45 = .ok (.iload_n 1, 1) := dk_27 (dk_at dksX0_bestFriend_1 23 rfl rfl)
theorem dX0_bestFriend_46 : decode cX0_bestFriend 46 = .ok (.iload 5, 2) := dk_21 5 (dk_at dksX0_bestFriend_2 0 rfl rfl)
theorem dX0_bestFriend_48 : decode cX0_bestFriend 48 = .ok (.iastore, 1) := dk_79 (dk_at dksX0_bestFriend_2 2 rfl rfl)
theorem dX0_bestFriend_49 : decode cX0_bestFriend 49 = .ok (.aload 6, 2) := dk_25 6 (dk_at dksX0_bestFriend_2 3 rfl rfl)
theorem dX0_bestFriend_51 : decode cX0_bestFriend 51 = .ok (.iload_n 2, 1) := dk_28 (dk_at dksX0_bestFriend_2 5 rfl rfl)
theorem dX0_bestFriend_52 : decode cX0_bestFriend 52 = .ok (.invokevirtual 120, 3) := dk_182 0 120 (dk_at dksX0_bestFriend_2 6 rfl rfl)
theorem dX0_bestFriend_55 : decode cX0_bestFriend 55 = .ok (.invokevirtual 164, 3) := dk_182 0 164 (dk_at dksX0_bestFriend_2 9 rfl rfl)
theorem dX0_bestFriend_58 : decode cX0_bestFriend 58 = .ok (.istore 7, 2) := dk_54 7 (dk_at dksX0_bestFriend_2 12 rfl rfl)
theorem dX0_bestFriend_60 : decode cX0_bestFriend 60 = .ok (.iload 7, 2) := dk_21 7 (dk_at dksX0_bestFriend_2 14 rfl rfl)
theorem dX0_bestFriend_62 : decode cX0_bestFriend 62 = .ok (.iload_n 3, 1) := dk_29 (dk_at dksX0_bestFriend_2 16 rfl rfl)
theorem dX0_bestFriend_63 : decode cX0_bestFriend 63 = .ok (.if_icmp .le 8, 3) := dk_164 0 8 (dk_at dksX0_bestFriend_2 17 rfl rfl)
theorem dX0_bestFriend_66 : decode cX0_bestFriend 66 = .ok (.iload 5, 2) := dk_21 5 (dk_at dksX0_bestFriend_2 20 rfl rfl)
theorem dX0_bestFriend_68 : decode cX0_bestFriend 68 = .ok (.goto 5, 3) := dk_167 0 5 (dk_at dksX0_bestFriend_3 0 rfl rfl)
theorem dX0_bestFriend_71 : decode cX0_bestFriend 71 = .ok (.iload 4, 2) := dk_21 4 (dk_at dksX0_bestFriend_3 3 rfl rfl)
theorem dX0_bestFriend_73 : decode cX0_bestFriend 73 = .ok (.istore 4, 2) := dk_54 4 (dk_at dksX0_bestFriend_3 5 rfl rfl)
theorem dX0_bestFriend_75 : decode cX0_bestFriend 75 = .ok (.iload_n 3, 1) := dk_29 (dk_at dksX0_bestFriend_3 7 rfl rfl)
theorem dX0_bestFriend_76 : decode cX0_bestFriend 76 = .ok (.iload 7, 2) := dk_21 7 (dk_at dksX0_bestFriend_3 8 rfl rfl)
theorem dX0_bestFriend_78 : decode cX0_bestFriend 78 = .ok (.invokestatic 171, 3) := dk_184 0 171 (dk_at dksX0_bestFriend_3 10 rfl rfl)
theorem dX0_bestFriend_81 : decode cX0_bestFriend 81 = .ok (.istore_n 3, 1) := dk_62 (dk_at dksX0_bestFriend_3 13 rfl rfl)
theorem dX0_bestFriend_82 : decode cX0_bestFriend 82 = .ok (.iinc 5 1, 3) := dk_132 5 1 (dk_at dksX0_bestFriend_3 14 rfl rfl)
theorem dX0_bestFriend_85 : decode cX0_bestFriend 85 = .ok (.goto (-69), 3) := dk_167 255 187 (dk_at dksX0_bestFriend_3 17 rfl rfl)
theorem dX0_bestFriend_88 : decode cX0_bestFriend 88 = .ok (.iload 4, 2) := dk_21 4 (dk_at dksX0_bestFriend_3 20 rfl rfl)
theorem dX0_bestFriend_90 : decode cX0_bestFriend 90 = .ok (.ireturn, 1) := dk_172 (dk_at dksX0_bestFriend_3 22 rfl rfl)
abbrev cX0_bestHushed : ByteArray := prog_1_method_20_code
def yX0_bestHushed : MethodName := ⟨RX0, "bestHushed", "(I)I"⟩
def dkwX0_bestHushed_3 : List UInt8 := [61, 132, 4, 1, 167, 255, 195, 29, 172]
abbrev dktX0_bestHushed_3 : List UInt8 := dkwX0_bestHushed_3 ++ []
def dkwX0_bestHushed_2 : List UInt8 := [182, 0, 174, 54, 6, 21, 6, 28, 164, 0, 8, 21, 4, 167, 0, 4, 29, 62, 28, 21, 6, 184, 0, 171]
abbrev dktX0_bestHushed_2 : List UInt8 := dkwX0_bestHushed_2 ++ dktX0_bestHushed_3
def dkwX0_bestHushed_1 : List UInt8 := [162, 0, 55, 42, 182, 0, 116, 58, 5, 25, 5, 4, 21, 4, 120, 181, 0, 177, 25, 5, 27, 182, 0, 120]
abbrev dktX0_bestHushed_1 : List UInt8 := dkwX0_bestHushed_1 ++ dktX0_bestHushed_2
def dkwX0_bestHushed_0 : List UInt8 := [42, 27, 182, 0, 161, 182, 0, 174, 61, 16, 247, 62, 3, 54, 4, 21, 4, 42, 180, 0, 53, 180, 0, 132]
abbrev dktX0_bestHushed_0 : List UInt8 := dkwX0_bestHushed_0 ++ dktX0_bestHushed_1
theorem dksX0_bestHushed_0 : cX0_bestHushed.data.toList.drop 0 = dktX0_bestHushed_0 := by decide +kernel
theorem dksX0_bestHushed_1 : cX0_bestHushed.data.toList.drop 24 = dktX0_bestHushed_1 := dk_seg dksX0_bestHushed_0 24 rfl rfl
theorem dksX0_bestHushed_2 : cX0_bestHushed.data.toList.drop 48 = dktX0_bestHushed_2 := dk_seg dksX0_bestHushed_1 24 rfl rfl
theorem dksX0_bestHushed_3 : cX0_bestHushed.data.toList.drop 72 = dktX0_bestHushed_3 := dk_seg dksX0_bestHushed_2 24 rfl rfl
theorem dX0_bestHushed_0 : decode cX0_bestHushed 0 = .ok (.aload_n 0, 1) := dk_42 (dk_at dksX0_bestHushed_0 0 rfl rfl)
theorem dX0_bestHushed_1 : decode cX0_bestHushed 1 = .ok (.iload_n 1, 1) := dk_27 (dk_at dksX0_bestHushed_0 1 rfl rfl)
theorem dX0_bestHushed_2 : decode cX0_bestHushed 2 = .ok (.invokevirtual 161, 3) := dk_182 0 161 (dk_at dksX0_bestHushed_0 2 rfl rfl)
theorem dX0_bestHushed_5 : decode cX0_bestHushed 5 = .ok (.invokevirtual 174, 3) := dk_182 0 174 (dk_at dksX0_bestHushed_0 5 rfl rfl)
theorem dX0_bestHushed_8 : decode cX0_bestHushed 8 = .ok (.istore_n 2, 1) := dk_61 (dk_at dksX0_bestHushed_0 8 rfl rfl)
theorem dX0_bestHushed_9 : decode cX0_bestHushed 9 = .ok (.bipush (-9), 2) := dk_16 247 (dk_at dksX0_bestHushed_0 9 rfl rfl)
theorem dX0_bestHushed_11 : decode cX0_bestHushed 11 = .ok (.istore_n 3, 1) := dk_62 (dk_at dksX0_bestHushed_0 11 rfl rfl)
theorem dX0_bestHushed_12 : decode cX0_bestHushed 12 = .ok (.iconst 0, 1) := dk_3 (dk_at dksX0_bestHushed_0 12 rfl rfl)
theorem dX0_bestHushed_13 : decode cX0_bestHushed 13 = .ok (.istore 4, 2) := dk_54 4 (dk_at dksX0_bestHushed_0 13 rfl rfl)
theorem dX0_bestHushed_15 : decode cX0_bestHushed 15 = .ok (.iload 4, 2) := dk_21 4 (dk_at dksX0_bestHushed_0 15 rfl rfl)
theorem dX0_bestHushed_17 : decode cX0_bestHushed 17 = .ok (.aload_n 0, 1) := dk_42 (dk_at dksX0_bestHushed_0 17 rfl rfl)
theorem dX0_bestHushed_18 : decode cX0_bestHushed 18 = .ok (.getfield 53, 3) := dk_180 0 53 (dk_at dksX0_bestHushed_0 18 rfl rfl)
theorem dX0_bestHushed_21 : decode cX0_bestHushed 21 = .ok (.getfield 132, 3) := dk_180 0 132 (dk_at dksX0_bestHushed_0 21 rfl rfl)
theorem dX0_bestHushed_24 : decode cX0_bestHushed 24 = .ok (.if_icmp .ge 55, 3) := dk_162 0 55 (dk_at dksX0_bestHushed_1 0 rfl rfl)
theorem dX0_bestHushed_27 : decode cX0_bestHushed 27 = .ok (.aload_n 0, 1) := dk_42 (dk_at dksX0_bestHushed_1 3 rfl rfl)
theorem dX0_bestHushed_28 : decode cX0_bestHushed 28 = .ok (.invokevirtual 116, 3) := dk_182 0 116 (dk_at dksX0_bestHushed_1 4 rfl rfl)
theorem dX0_bestHushed_31 : decode cX0_bestHushed 31 = .ok (.astore 5, 2) := dk_58 5 (dk_at dksX0_bestHushed_1 7 rfl rfl)
theorem dX0_bestHushed_33 : decode cX0_bestHushed 33 = .ok (.aload 5, 2) := dk_25 5 (dk_at dksX0_bestHushed_1 9 rfl rfl)
theorem dX0_bestHushed_35 : decode cX0_bestHushed 35 = .ok (.iconst 1, 1) := dk_4 (dk_at dksX0_bestHushed_1 11 rfl rfl)
theorem dX0_bestHushed_36 : decode cX0_bestHushed 36 = .ok (.iload 4, 2) := dk_21 4 (dk_at dksX0_bestHushed_1 12 rfl rfl)
theorem dX0_bestHushed_38 : decode cX0_bestHushed 38 = .ok (.ishl, 1) := dk_120 (dk_at dksX0_bestHushed_1 14 rfl rfl)
theorem dX0_bestHushed_39 : decode cX0_bestHushed 39 = .ok (.putfield 177, 3) := dk_181 0 177 (dk_at dksX0_bestHushed_1 15 rfl rfl)
theorem dX0_bestHushed_42 : decode cX0_bestHushed 42 = .ok (.aload 5, 2) := dk_25 5 (dk_at dksX0_bestHushed_1 18 rfl rfl)
theorem dX0_bestHushed_44 : decode cX0_bestHushed 44 = .ok (.iload_n 1, 1) := dk_27 (dk_at dksX0_bestHushed_1 20 rfl rfl)
theorem dX0_bestHushed_45 : decode cX0_bestHushed 45 = .ok (.invokevirtual 120, 3) := dk_182 0 120 (dk_at dksX0_bestHushed_1 21 rfl rfl)
theorem dX0_bestHushed_48 : decode cX0_bestHushed 48 = .ok (.invokevirtual 174, 3) := dk_182 0 174 (dk_at dksX0_bestHushed_2 0 rfl rfl)
theorem dX0_bestHushed_51 : decode cX0_bestHushed 51 = .ok (.istore 6, 2) := dk_54 6 (dk_at dksX0_bestHushed_2 3 rfl rfl)
theorem dX0_bestHushed_53 : decode cX0_bestHushed 53 = .ok (.iload 6, 2) := dk_21 6 (dk_at dksX0_bestHushed_2 5 rfl rfl)
theorem dX0_bestHushed_55 : decode cX0_bestHushed 55 = .ok (.iload_n 2, 1) := dk_28 (dk_at dksX0_bestHushed_2 7 rfl rfl)
theorem dX0_bestHushed_56 : decode cX0_bestHushed 56 = .ok (.if_icmp .le 8, 3) := dk_164 0 8 (dk_at dksX0_bestHushed_2 8 rfl rfl)
theorem dX0_bestHushed_59 : decode cX0_bestHushed 59 = .ok (.iload 4, 2) := dk_21 4 (dk_at dksX0_bestHushed_2 11 rfl rfl)
theorem dX0_bestHushed_61 : decode cX0_bestHushed 61 = .ok (.goto 4, 3) := dk_167 0 4 (dk_at dksX0_bestHushed_2 13 rfl rfl)
theorem dX0_bestHushed_64 : decode cX0_bestHushed 64 = .ok (.iload_n 3, 1) := dk_29 (dk_at dksX0_bestHushed_2 16 rfl rfl)
theorem dX0_bestHushed_65 : decode cX0_bestHushed 65 = .ok (.istore_n 3, 1) := dk_62 (dk_at dksX0_bestHushed_2 17 rfl rfl)
theorem dX0_bestHushed_66 : decode cX0_bestHushed 66 = .ok (.iload_n 2, 1) := dk_28 (dk_at dksX0_bestHushed_2 18 rfl rfl)
theorem dX0_bestHushed_67 : decode cX0_bestHushed 67 = .ok (.iload 6, 2) := dk_21 6 (dk_at dksX0_bestHushed_2 19 rfl rfl)
theorem dX0_bestHushed_69 : decode cX0_bestHushed 69 = .ok (.invokestatic 171, 3) := dk_184 0 171 (dk_at dksX0_bestHushed_2 21 rfl rfl)
theorem dX0_bestHushed_72 : decode cX0_bestHushed 72 = .ok (.istore_n 2, 1) := dk_61 (dk_at dksX0_bestHushed_3 0 rfl rfl)
theorem dX0_bestHushed_73 : decode cX0_bestHushed 73 = .ok (.iinc 4 1, 3) := dk_132 4 1 (dk_at dksX0_bestHushed_3 1 rfl rfl)
theorem dX0_bestHushed_76 : decode cX0_bestHushed 76 = .ok (.goto (-61), 3) := dk_167 255 195 (dk_at dksX0_bestHushed_3 4 rfl rfl)
theorem dX0_bestHushed_79 : decode cX0_bestHushed 79 = .ok (.iload_n 3, 1) := dk_29 (dk_at dksX0_bestHushed_3 7 rfl rfl)
theorem dX0_bestHushed_80 : decode cX0_bestHushed 80 = .ok (.ireturn, 1) := dk_172 (dk_at dksX0_bestHushed_3 8 rfl rfl)
abbrev cX0_fewestTold : ByteArray := prog_1_method_55_code
def yX0_fewestTold : MethodName := ⟨RX0, "fewestTold", "(I)I"⟩
def dkwX0_fewestTold_0 : List UInt8 := [27, 133, 9, 20, 0, 186, 184, 0, 188, 42, 27, 182, 1, 70, 172]
abbrev dktX0_fewestTold_0 : List UInt8 := dkwX0_fewestTold_0 ++ []
theorem dksX0_fewestTold_0 : cX0_fewestTold.data.toList.drop 0 = dktX0_fewestTold_0 := by decide +kernel
theorem dX0_fewestTold_0 : decode cX0_fewestTold 0 = .ok (.iload_n 1, 1) := dk_27 (dk_at dksX0_fewestTold_0 0 rfl rfl)
theorem dX0_fewestTold_1 : decode cX0_fewestTold 1 = .ok (.i2l, 1) := dk_133 (dk_at dksX0_fewestTold_0 1 rfl rfl)
theorem dX0_fewestTold_2 : decode cX0_fewestTold 2 = .ok (.lconst 0, 1) := dk_9 (dk_at dksX0_fewestTold_0 2 rfl rfl)
theorem dX0_fewestTold_3 : decode cX0_fewestTold 3 = .ok (.ldc2_w 186, 3) := dk_20 0 186 (dk_at dksX0_fewestTold_0 3 rfl rfl)
theorem dX0_fewestTold_6 : decode cX0_fewestTold 6 = .ok (.invokestatic 188, 3) := dk_184 0 188 (dk_at dksX0_fewestTold_0 6 rfl rfl)
theorem dX0_fewestTold_9 : decode cX0_fewestTold 9 = .ok (.aload_n 0, 1) := dk_42 (dk_at dksX0_fewestTold_0 9 rfl rfl)
theorem dX0_fewestTold_10 : decode cX0_fewestTold 10 = .ok (.iload_n 1, 1) := dk_27 (dk_at dksX0_fewestTold_0 10 rfl rfl)
theorem dX0_fewestTold_11 : decode cX0_fewestTold 11 = .ok (.invokevirtual 326, 3) := dk_182 1 70 (dk_at dksX0_fewestTold_0 11 rfl rfl)
theorem dX0_fewestTold_14 : decode cX0_fewestTold 14 = .ok (.ireturn, 1) := dk_172 (dk_at dksX0_fewestTold_0 14 rfl rfl)
abbrev cX0_fewestHushed : ByteArray := prog_1_method_21_code
def yX0_fewestHushed : MethodName := ⟨RX0, "fewestHushed", "(I)I"⟩
def dkwX0_fewestHushed_3 : List UInt8 := [29, 167, 0, 4, 28, 61, 132, 3, 255, 167, 255, 193, 28, 172]
abbrev dktX0_fewestHushed_3 : List UInt8 := dkwX0_fewestHushed_3 ++ []
def dkwX0_fewestHushed_2 : List UInt8 := [153, 0, 30, 42, 182, 0, 116, 58, 5, 25, 5, 29, 181, 0, 177, 25, 5, 27, 182, 0, 150, 153, 0, 7]
abbrev dktX0_fewestHushed_2 : List UInt8 := dkwX0_fewestHushed_2 ++ dktX0_fewestHushed_3
def dkwX0_fewestHushed_1 : List UInt8 := [159, 0, 14, 29, 184, 0, 180, 28, 184, 0, 180, 163, 0, 7, 4, 167, 0, 4, 3, 54, 4, 21, 4]
abbrev dktX0_fewestHushed_1 : List UInt8 := dkwX0_fewestHushed_1 ++ dktX0_fewestHushed_2
def dkwX0_fewestHushed_0 : List UInt8 := [16, 247, 61, 4, 42, 180, 0, 53, 180, 0, 132, 120, 4, 100, 62, 29, 155, 0, 65, 28, 16, 247]
abbrev dktX0_fewestHushed_0 : List UInt8 := dkwX0_fewestHushed_0 ++ dktX0_fewestHushed_1
theorem dksX0_fewestHushed_0 : cX0_fewestHushed.data.toList.drop 0 = dktX0_fewestHushed_0 := by decide +kernel
theorem dksX0_fewestHushed_1 : cX0_fewestHushed.data.toList.drop 22 = dktX0_fewestHushed_1 := dk_seg dksX0_fewestHushed_0 22 rfl rfl
theorem dksX0_fewestHushed_2 : cX0_fewestHushed.data.toList.drop 45 = dktX0_fewestHushed_2 := dk_seg dksX0_fewestHushed_1 23 rfl rfl
theorem dksX0_fewestHushed_3 : cX0_fewestHushed.data.toList.drop 69 = dktX0_fewestHushed_3 := dk_seg dksX0_fewestHushed_2 24 rfl rfl
theorem dX0_fewestHushed_0 : decode cX0_fewestHushed 0 = .ok (.bipush (-9), 2) := dk_16 247 (dk_at dksX0_fewestHushed_0 0 rfl rfl)
theorem dX0_fewestHushed_2 : decode cX0_fewestHushed 2 = .ok (.istore_n 2, 1) := dk_61 (dk_at dksX0_fewestHushed_0 2 rfl rfl)
theorem dX0_fewestHushed_3 : decode cX0_fewestHushed 3 = .ok (.iconst 1, 1) := dk_4 (dk_at dksX0_fewestHushed_0 3 rfl rfl)
theorem dX0_fewestHushed_4 : decode cX0_fewestHushed 4 = .ok (.aload_n 0, 1) := dk_42 (dk_at dksX0_fewestHushed_0 4 rfl rfl)
theorem dX0_fewestHushed_5 : decode cX0_fewestHushed 5 = .ok (.getfield 53, 3) := dk_180 0 53 (dk_at dksX0_fewestHushed_0 5 rfl rfl)
theorem dX0_fewestHushed_8 : decode cX0_fewestHushed 8 = .ok (.getfield 132, 3) := dk_180 0 132 (dk_at dksX0_fewestHushed_0 8 rfl rfl)
theorem dX0_fewestHushed_11 : decode cX0_fewestHushed 11 = .ok (.ishl, 1) := dk_120 (dk_at dksX0_fewestHushed_0 11 rfl rfl)
theorem dX0_fewestHushed_12 : decode cX0_fewestHushed 12 = .ok (.iconst 1, 1) := dk_4 (dk_at dksX0_fewestHushed_0 12 rfl rfl)
theorem dX0_fewestHushed_13 : decode cX0_fewestHushed 13 = .ok (.isub, 1) := dk_100 (dk_at dksX0_fewestHushed_0 13 rfl rfl)
theorem dX0_fewestHushed_14 : decode cX0_fewestHushed 14 = .ok (.istore_n 3, 1) := dk_62 (dk_at dksX0_fewestHushed_0 14 rfl rfl)
theorem dX0_fewestHushed_15 : decode cX0_fewestHushed 15 = .ok (.iload_n 3, 1) := dk_29 (dk_at dksX0_fewestHushed_0 15 rfl rfl)
theorem dX0_fewestHushed_16 : decode cX0_fewestHushed 16 = .ok (.ifCond .lt 65, 3) := dk_155 0 65 (dk_at dksX0_fewestHushed_0 16 rfl rfl)
theorem dX0_fewestHushed_19 : decode cX0_fewestHushed 19 = .ok (.iload_n 2, 1) := dk_28 (dk_at dksX0_fewestHushed_0 19 rfl rfl)
theorem dX0_fewestHushed_20 : decode cX0_fewestHushed 20 = .ok (.bipush (-9), 2) := dk_16 247 (dk_at dksX0_fewestHushed_0 20 rfl rfl)
theorem dX0_fewestHushed_22 : decode cX0_fewestHushed 22 = .ok (.if_icmp .eq 14, 3) := dk_159 0 14 (dk_at dksX0_fewestHushed_1 0 rfl rfl)
theorem dX0_fewestHushed_25 : decode cX0_fewestHushed 25 = .ok (.iload_n 3, 1) := dk_29 (dk_at dksX0_fewestHushed_1 3 rfl rfl)
theorem dX0_fewestHushed_26 : decode cX0_fewestHushed 26 = .ok (.invokestatic 180, 3) := dk_184 0 180 (dk_at dksX0_fewestHushed_1 4 rfl rfl)
theorem dX0_fewestHushed_29 : decode cX0_fewestHushed 29 = .ok (.iload_n 2, 1) := dk_28 (dk_at dksX0_fewestHushed_1 7 rfl rfl)
theorem dX0_fewestHushed_30 : decode cX0_fewestHushed 30 = .ok (.invokestatic 180, 3) := dk_184 0 180 (dk_at dksX0_fewestHushed_1 8 rfl rfl)
theorem dX0_fewestHushed_33 : decode cX0_fewestHushed 33 = .ok (.if_icmp .gt 7, 3) := dk_163 0 7 (dk_at dksX0_fewestHushed_1 11 rfl rfl)
theorem dX0_fewestHushed_36 : decode cX0_fewestHushed 36 = .ok (.iconst 1, 1) := dk_4 (dk_at dksX0_fewestHushed_1 14 rfl rfl)
theorem dX0_fewestHushed_37 : decode cX0_fewestHushed 37 = .ok (.goto 4, 3) := dk_167 0 4 (dk_at dksX0_fewestHushed_1 15 rfl rfl)
theorem dX0_fewestHushed_40 : decode cX0_fewestHushed 40 = .ok (.iconst 0, 1) := dk_3 (dk_at dksX0_fewestHushed_1 18 rfl rfl)
theorem dX0_fewestHushed_41 : decode cX0_fewestHushed 41 = .ok (.istore 4, 2) := dk_54 4 (dk_at dksX0_fewestHushed_1 19 rfl rfl)
theorem dX0_fewestHushed_43 : decode cX0_fewestHushed 43 = .ok (.iload 4, 2) := dk_21 4 (dk_at dksX0_fewestHushed_1 21 rfl rfl)
theorem dX0_fewestHushed_45 : decode cX0_fewestHushed 45 = .ok (.ifCond .eq 30, 3) := dk_153 0 30 (dk_at dksX0_fewestHushed_2 0 rfl rfl)
theorem dX0_fewestHushed_48 : decode cX0_fewestHushed 48 = .ok (.aload_n 0, 1) := dk_42 (dk_at dksX0_fewestHushed_2 3 rfl rfl)
theorem dX0_fewestHushed_49 : decode cX0_fewestHushed 49 = .ok (.invokevirtual 116, 3) := dk_182 0 116 (dk_at dksX0_fewestHushed_2 4 rfl rfl)
theorem dX0_fewestHushed_52 : decode cX0_fewestHushed 52 = .ok (.astore 5, 2) := dk_58 5 (dk_at dksX0_fewestHushed_2 7 rfl rfl)
theorem dX0_fewestHushed_54 : decode cX0_fewestHushed 54 = .ok (.aload 5, 2) := dk_25 5 (dk_at dksX0_fewestHushed_2 9 rfl rfl)
theorem dX0_fewestHushed_56 : decode cX0_fewestHushed 56 = .ok (.iload_n 3, 1) := dk_29 (dk_at dksX0_fewestHushed_2 11 rfl rfl)
theorem dX0_fewestHushed_57 : decode cX0_fewestHushed 57 = .ok (.putfield 177, 3) := dk_181 0 177 (dk_at dksX0_fewestHushed_2 12 rfl rfl)
theorem dX0_fewestHushed_60 : decode cX0_fewestHushed 60 = .ok (.aload 5, 2) := dk_25 5 (dk_at dksX0_fewestHushed_2 15 rfl rfl)
theorem dX0_fewestHushed_62 : decode cX0_fewestHushed 62 = .ok (.iload_n 1, 1) := dk_27 (dk_at dksX0_fewestHushed_2 17 rfl rfl)
theorem dX0_fewestHushed_63 : decode cX0_fewestHushed 63 = .ok (.invokevirtual 150, 3) := dk_182 0 150 (dk_at dksX0_fewestHushed_2 18 rfl rfl)
theorem dX0_fewestHushed_66 : decode cX0_fewestHushed 66 = .ok (.ifCond .eq 7, 3) := dk_153 0 7 (dk_at dksX0_fewestHushed_2 21 rfl rfl)
theorem dX0_fewestHushed_69 : decode cX0_fewestHushed 69 = .ok (.iload_n 3, 1) := dk_29 (dk_at dksX0_fewestHushed_3 0 rfl rfl)
theorem dX0_fewestHushed_70 : decode cX0_fewestHushed 70 = .ok (.goto 4, 3) := dk_167 0 4 (dk_at dksX0_fewestHushed_3 1 rfl rfl)
theorem dX0_fewestHushed_73 : decode cX0_fewestHushed 73 = .ok (.iload_n 2, 1) := dk_28 (dk_at dksX0_fewestHushed_3 4 rfl rfl)
theorem dX0_fewestHushed_74 : decode cX0_fewestHushed 74 = .ok (.istore_n 2, 1) := dk_61 (dk_at dksX0_fewestHushed_3 5 rfl rfl)
theorem dX0_fewestHushed_75 : decode cX0_fewestHushed 75 = .ok (.iinc 3 (-1), 3) := dk_132 3 255 (dk_at dksX0_fewestHushed_3 6 rfl rfl)
theorem dX0_fewestHushed_78 : decode cX0_fewestHushed 78 = .ok (.goto (-63), 3) := dk_167 255 193 (dk_at dksX0_fewestHushed_3 9 rfl rfl)
theorem dX0_fewestHushed_81 : decode cX0_fewestHushed 81 = .ok (.iload_n 2, 1) := dk_28 (dk_at dksX0_fewestHushed_3 12 rfl rfl)
theorem dX0_fewestHushed_82 : decode cX0_fewestHushed 82 = .ok (.ireturn, 1) := dk_172 (dk_at dksX0_fewestHushed_3 13 rfl rfl)
abbrev cX0_wordTold : ByteArray := prog_1_method_56_code
def yX0_wordTold : MethodName := ⟨RX0, "wordTold", "(I)I"⟩
def dkwX0_wordTold_0 : List UInt8 := [27, 133, 10, 20, 0, 186, 184, 0, 188, 42, 27, 182, 1, 73, 172]
abbrev dktX0_wordTold_0 : List UInt8 := dkwX0_wordTold_0 ++ []
theorem dksX0_wordTold_0 : cX0_wordTold.data.toList.drop 0 = dktX0_wordTold_0 := by decide +kernel
theorem dX0_wordTold_0 : decode cX0_wordTold 0 = .ok (.iload_n 1, 1) := dk_27 (dk_at dksX0_wordTold_0 0 rfl rfl)
theorem dX0_wordTold_1 : decode cX0_wordTold 1 = .ok (.i2l, 1) := dk_133 (dk_at dksX0_wordTold_0 1 rfl rfl)
theorem dX0_wordTold_2 : decode cX0_wordTold 2 = .ok (.lconst 1, 1) := dk_10 (dk_at dksX0_wordTold_0 2 rfl rfl)
theorem dX0_wordTold_3 : decode cX0_wordTold 3 = .ok (.ldc2_w 186, 3) := dk_20 0 186 (dk_at dksX0_wordTold_0 3 rfl rfl)
theorem dX0_wordTold_6 : decode cX0_wordTold 6 = .ok (.invokestatic 188, 3) := dk_184 0 188 (dk_at dksX0_wordTold_0 6 rfl rfl)
theorem dX0_wordTold_9 : decode cX0_wordTold 9 = .ok (.aload_n 0, 1) := dk_42 (dk_at dksX0_wordTold_0 9 rfl rfl)
theorem dX0_wordTold_10 : decode cX0_wordTold 10 = .ok (.iload_n 1, 1) := dk_27 (dk_at dksX0_wordTold_0 10 rfl rfl)
theorem dX0_wordTold_11 : decode cX0_wordTold 11 = .ok (.invokevirtual 329, 3) := dk_182 1 73 (dk_at dksX0_wordTold_0 11 rfl rfl)
theorem dX0_wordTold_14 : decode cX0_wordTold 14 = .ok (.ireturn, 1) := dk_172 (dk_at dksX0_wordTold_0 14 rfl rfl)
abbrev cX0_worstWord : ByteArray := prog_1_method_22_code
def yX0_worstWord : MethodName := ⟨RX0, "worstWord", "(I)I"⟩
def dkwX0_worstWord_3 : List UInt8 := [28, 21, 6, 184, 0, 139, 61, 132, 4, 1, 167, 255, 190, 29, 172]
abbrev dktX0_worstWord_3 : List UInt8 := dkwX0_worstWord_3 ++ []
def dkwX0_worstWord_2 : List UInt8 := [25, 5, 27, 182, 0, 120, 182, 0, 174, 54, 6, 21, 6, 28, 162, 0, 8, 21, 4, 167, 0, 4, 29, 62]
abbrev dktX0_worstWord_2 : List UInt8 := dkwX0_worstWord_2 ++ dktX0_worstWord_3
def dkwX0_worstWord_1 : List UInt8 := [162, 0, 60, 42, 182, 0, 116, 58, 5, 25, 5, 89, 180, 0, 183, 4, 21, 4, 120, 128, 181, 0, 183]
abbrev dktX0_worstWord_1 : List UInt8 := dkwX0_worstWord_1 ++ dktX0_worstWord_2
def dkwX0_worstWord_0 : List UInt8 := [42, 27, 182, 0, 161, 182, 0, 174, 61, 16, 247, 62, 3, 54, 4, 21, 4, 42, 180, 0, 53, 180, 0, 132]
abbrev dktX0_worstWord_0 : List UInt8 := dkwX0_worstWord_0 ++ dktX0_worstWord_1
theorem dksX0_worstWord_0 : cX0_worstWord.data.toList.drop 0 = dktX0_worstWord_0 := by decide +kernel
theorem dksX0_worstWord_1 : cX0_worstWord.data.toList.drop 24 = dktX0_worstWord_1 := dk_seg dksX0_worstWord_0 24 rfl rfl
theorem dksX0_worstWord_2 : cX0_worstWord.data.toList.drop 47 = dktX0_worstWord_2 := dk_seg dksX0_worstWord_1 23 rfl rfl
theorem dksX0_worstWord_3 : cX0_worstWord.data.toList.drop 71 = dktX0_worstWord_3 := dk_seg dksX0_worstWord_2 24 rfl rfl
theorem dX0_worstWord_0 : decode cX0_worstWord 0 = .ok (.aload_n 0, 1) := dk_42 (dk_at dksX0_worstWord_0 0 rfl rfl)
theorem dX0_worstWord_1 : decode cX0_worstWord 1 = .ok (.iload_n 1, 1) := dk_27 (dk_at dksX0_worstWord_0 1 rfl rfl)
theorem dX0_worstWord_2 : decode cX0_worstWord 2 = .ok (.invokevirtual 161, 3) := dk_182 0 161 (dk_at dksX0_worstWord_0 2 rfl rfl)
theorem dX0_worstWord_5 : decode cX0_worstWord 5 = .ok (.invokevirtual 174, 3) := dk_182 0 174 (dk_at dksX0_worstWord_0 5 rfl rfl)
theorem dX0_worstWord_8 : decode cX0_worstWord 8 = .ok (.istore_n 2, 1) := dk_61 (dk_at dksX0_worstWord_0 8 rfl rfl)
theorem dX0_worstWord_9 : decode cX0_worstWord 9 = .ok (.bipush (-9), 2) := dk_16 247 (dk_at dksX0_worstWord_0 9 rfl rfl)
theorem dX0_worstWord_11 : decode cX0_worstWord 11 = .ok (.istore_n 3, 1) := dk_62 (dk_at dksX0_worstWord_0 11 rfl rfl)
theorem dX0_worstWord_12 : decode cX0_worstWord 12 = .ok (.iconst 0, 1) := dk_3 (dk_at dksX0_worstWord_0 12 rfl rfl)
theorem dX0_worstWord_13 : decode cX0_worstWord 13 = .ok (.istore 4, 2) := dk_54 4 (dk_at dksX0_worstWord_0 13 rfl rfl)
theorem dX0_worstWord_15 : decode cX0_worstWord 15 = .ok (.iload 4, 2) := dk_21 4 (dk_at dksX0_worstWord_0 15 rfl rfl)
theorem dX0_worstWord_17 : decode cX0_worstWord 17 = .ok (.aload_n 0, 1) := dk_42 (dk_at dksX0_worstWord_0 17 rfl rfl)
theorem dX0_worstWord_18 : decode cX0_worstWord 18 = .ok (.getfield 53, 3) := dk_180 0 53 (dk_at dksX0_worstWord_0 18 rfl rfl)
theorem dX0_worstWord_21 : decode cX0_worstWord 21 = .ok (.getfield 132, 3) := dk_180 0 132 (dk_at dksX0_worstWord_0 21 rfl rfl)
theorem dX0_worstWord_24 : decode cX0_worstWord 24 = .ok (.if_icmp .ge 60, 3) := dk_162 0 60 (dk_at dksX0_worstWord_1 0 rfl rfl)
theorem dX0_worstWord_27 : decode cX0_worstWord 27 = .ok (.aload_n 0, 1) := dk_42 (dk_at dksX0_worstWord_1 3 rfl rfl)
theorem dX0_worstWord_28 : decode cX0_worstWord 28 = .ok (.invokevirtual 116, 3) := dk_182 0 116 (dk_at dksX0_worstWord_1 4 rfl rfl)
theorem dX0_worstWord_31 : decode cX0_worstWord 31 = .ok (.astore 5, 2) := dk_58 5 (dk_at dksX0_worstWord_1 7 rfl rfl)
theorem dX0_worstWord_33 : decode cX0_worstWord 33 = .ok (.aload 5, 2) := dk_25 5 (dk_at dksX0_worstWord_1 9 rfl rfl)
theorem dX0_worstWord_35 : decode cX0_worstWord 35 = .ok (.dup, 1) := dk_89 (dk_at dksX0_worstWord_1 11 rfl rfl)
theorem dX0_worstWord_36 : decode cX0_worstWord 36 = .ok (.getfield 183, 3) := dk_180 0 183 (dk_at dksX0_worstWord_1 12 rfl rfl)
theorem dX0_worstWord_39 : decode cX0_worstWord 39 = .ok (.iconst 1, 1) := dk_4 (dk_at dksX0_worstWord_1 15 rfl rfl)
theorem dX0_worstWord_40 : decode cX0_worstWord 40 = .ok (.iload 4, 2) := dk_21 4 (dk_at dksX0_worstWord_1 16 rfl rfl)
theorem dX0_worstWord_42 : decode cX0_worstWord 42 = .ok (.ishl, 1) := dk_120 (dk_at dksX0_worstWord_1 18 rfl rfl)
theorem dX0_worstWord_43 : decode cX0_worstWord 43 = .ok (.ior, 1) := dk_128 (dk_at dksX0_worstWord_1 19 rfl rfl)
theorem dX0_worstWord_44 : decode cX0_worstWord 44 = .ok (.putfield 183, 3) := dk_181 0 183 (dk_at dksX0_worstWord_1 20 rfl rfl)
theorem dX0_worstWord_47 : decode cX0_worstWord 47 = .ok (.aload 5, 2) := dk_25 5 (dk_at dksX0_worstWord_2 0 rfl rfl)
theorem dX0_worstWord_49 : decode cX0_worstWord 49 = .ok (.iload_n 1, 1) := dk_27 (dk_at dksX0_worstWord_2 2 rfl rfl)
theorem dX0_worstWord_50 : decode cX0_worstWord 50 = .ok (.invokevirtual 120, 3) := dk_182 0 120 (dk_at dksX0_worstWord_2 3 rfl rfl)
theorem dX0_worstWord_53 : decode cX0_worstWord 53 = .ok (.invokevirtual 174, 3) := dk_182 0 174 (dk_at dksX0_worstWord_2 6 rfl rfl)
theorem dX0_worstWord_56 : decode cX0_worstWord 56 = .ok (.istore 6, 2) := dk_54 6 (dk_at dksX0_worstWord_2 9 rfl rfl)
theorem dX0_worstWord_58 : decode cX0_worstWord 58 = .ok (.iload 6, 2) := dk_21 6 (dk_at dksX0_worstWord_2 11 rfl rfl)
theorem dX0_worstWord_60 : decode cX0_worstWord 60 = .ok (.iload_n 2, 1) := dk_28 (dk_at dksX0_worstWord_2 13 rfl rfl)
theorem dX0_worstWord_61 : decode cX0_worstWord 61 = .ok (.if_icmp .ge 8, 3) := dk_162 0 8 (dk_at dksX0_worstWord_2 14 rfl rfl)
theorem dX0_worstWord_64 : decode cX0_worstWord 64 = .ok (.iload 4, 2) := dk_21 4 (dk_at dksX0_worstWord_2 17 rfl rfl)
theorem dX0_worstWord_66 : decode cX0_worstWord 66 = .ok (.goto 4, 3) := dk_167 0 4 (dk_at dksX0_worstWord_2 19 rfl rfl)
theorem dX0_worstWord_69 : decode cX0_worstWord 69 = .ok (.iload_n 3, 1) := dk_29 (dk_at dksX0_worstWord_2 22 rfl rfl)
theorem dX0_worstWord_70 : decode cX0_worstWord 70 = .ok (.istore_n 3, 1) := dk_62 (dk_at dksX0_worstWord_2 23 rfl rfl)
theorem dX0_worstWord_71 : decode cX0_worstWord 71 = .ok (.iload_n 2, 1) := dk_28 (dk_at dksX0_worstWord_3 0 rfl rfl)
theorem dX0_worstWord_72 : decode cX0_worstWord 72 = .ok (.iload 6, 2) := dk_21 6 (dk_at dksX0_worstWord_3 1 rfl rfl)
theorem dX0_worstWord_74 : decode cX0_worstWord 74 = .ok (.invokestatic 139, 3) := dk_184 0 139 (dk_at dksX0_worstWord_3 3 rfl rfl)
theorem dX0_worstWord_77 : decode cX0_worstWord 77 = .ok (.istore_n 2, 1) := dk_61 (dk_at dksX0_worstWord_3 6 rfl rfl)
theorem dX0_worstWord_78 : decode cX0_worstWord 78 = .ok (.iinc 4 1, 3) := dk_132 4 1 (dk_at dksX0_worstWord_3 7 rfl rfl)
theorem dX0_worstWord_81 : decode cX0_worstWord 81 = .ok (.goto (-66), 3) := dk_167 255 190 (dk_at dksX0_worstWord_3 10 rfl rfl)
theorem dX0_worstWord_84 : decode cX0_worstWord 84 = .ok (.iload_n 3, 1) := dk_29 (dk_at dksX0_worstWord_3 13 rfl rfl)
theorem dX0_worstWord_85 : decode cX0_worstWord 85 = .ok (.ireturn, 1) := dk_172 (dk_at dksX0_worstWord_3 14 rfl rfl)
abbrev cX0_sendTold : ByteArray := prog_1_method_23_code
def yX0_sendTold : MethodName := ⟨RX0, "sendTold", "(II)I"⟩
def dkwX0_sendTold_6 : List UInt8 := [167, 255, 140, 28, 154, 0, 7, 29, 167, 0, 5, 21, 4, 172]
abbrev dktX0_sendTold_6 : List UInt8 := dkwX0_sendTold_6 ++ []
def dkwX0_sendTold_5 : List UInt8 := [164, 0, 8, 21, 5, 167, 0, 4, 29, 62, 21, 4, 21, 7, 184, 0, 171, 54, 4, 132, 5, 1]
abbrev dktX0_sendTold_5 : List UInt8 := dkwX0_sendTold_5 ++ dktX0_sendTold_6
def dkwX0_sendTold_4 : List UInt8 := [25, 6, 180, 0, 124, 21, 5, 46, 154, 0, 7, 4, 167, 0, 4, 3, 96, 54, 7, 21, 7, 21, 4]
abbrev dktX0_sendTold_4 : List UInt8 := dkwX0_sendTold_4 ++ dktX0_sendTold_5
def dkwX0_sendTold_3 : List UInt8 := [21, 5, 3, 79, 25, 6, 27, 182, 0, 120, 87, 25, 6, 180, 0, 132, 4, 100, 25, 6, 182, 0, 195, 100]
abbrev dktX0_sendTold_3 : List UInt8 := dkwX0_sendTold_3 ++ dktX0_sendTold_4
def dkwX0_sendTold_2 : List UInt8 := [180, 0, 145, 25, 6, 180, 0, 124, 21, 5, 46, 96, 184, 0, 139, 181, 0, 145, 25, 6, 180, 0, 124]
abbrev dktX0_sendTold_2 : List UInt8 := dkwX0_sendTold_2 ++ dktX0_sendTold_3
def dkwX0_sendTold_1 : List UInt8 := [21, 5, 42, 180, 0, 53, 180, 0, 132, 162, 0, 110, 42, 182, 0, 116, 58, 6, 25, 6, 16, 99, 25, 6]
abbrev dktX0_sendTold_1 : List UInt8 := dkwX0_sendTold_1 ++ dktX0_sendTold_2
def dkwX0_sendTold_0 : List UInt8 := [27, 133, 9, 20, 0, 186, 184, 0, 188, 28, 184, 0, 192, 16, 247, 62, 16, 247, 54, 4, 3, 54, 5]
abbrev dktX0_sendTold_0 : List UInt8 := dkwX0_sendTold_0 ++ dktX0_sendTold_1
theorem dksX0_sendTold_0 : cX0_sendTold.data.toList.drop 0 = dktX0_sendTold_0 := by decide +kernel
theorem dksX0_sendTold_1 : cX0_sendTold.data.toList.drop 23 = dktX0_sendTold_1 := dk_seg dksX0_sendTold_0 23 rfl rfl
theorem dksX0_sendTold_2 : cX0_sendTold.data.toList.drop 47 = dktX0_sendTold_2 := dk_seg dksX0_sendTold_1 24 rfl rfl
theorem dksX0_sendTold_3 : cX0_sendTold.data.toList.drop 70 = dktX0_sendTold_3 := dk_seg dksX0_sendTold_2 23 rfl rfl
theorem dksX0_sendTold_4 : cX0_sendTold.data.toList.drop 94 = dktX0_sendTold_4 := dk_seg dksX0_sendTold_3 24 rfl rfl
theorem dksX0_sendTold_5 : cX0_sendTold.data.toList.drop 117 = dktX0_sendTold_5 := dk_seg dksX0_sendTold_4 23 rfl rfl
theorem dksX0_sendTold_6 : cX0_sendTold.data.toList.drop 139 = dktX0_sendTold_6 := dk_seg dksX0_sendTold_5 22 rfl rfl
theorem dX0_sendTold_0 : decode cX0_sendTold 0 = .ok (.iload_n 1, 1) := dk_27 (dk_at dksX0_sendTold_0 0 rfl rfl)
theorem dX0_sendTold_1 : decode cX0_sendTold 1 = .ok (.i2l, 1) := dk_133 (dk_at dksX0_sendTold_0 1 rfl rfl)
theorem dX0_sendTold_2 : decode cX0_sendTold 2 = .ok (.lconst 0, 1) := dk_9 (dk_at dksX0_sendTold_0 2 rfl rfl)
theorem dX0_sendTold_3 : decode cX0_sendTold 3 = .ok (.ldc2_w 186, 3) := dk_20 0 186 (dk_at dksX0_sendTold_0 3 rfl rfl)
theorem dX0_sendTold_6 : decode cX0_sendTold 6 = .ok (.invokestatic 188, 3) := dk_184 0 188 (dk_at dksX0_sendTold_0 6 rfl rfl)
theorem dX0_sendTold_9 : decode cX0_sendTold 9 = .ok (.iload_n 2, 1) := dk_28 (dk_at dksX0_sendTold_0 9 rfl rfl)
theorem dX0_sendTold_10 : decode cX0_sendTold 10 = .ok (.invokestatic 192, 3) := dk_184 0 192 (dk_at dksX0_sendTold_0 10 rfl rfl)
theorem dX0_sendTold_13 : decode cX0_sendTold 13 = .ok (.bipush (-9), 2) := dk_16 247 (dk_at dksX0_sendTold_0 13 rfl rfl)
theorem dX0_sendTold_15 : decode cX0_sendTold 15 = .ok (.istore_n 3, 1) := dk_62 (dk_at dksX0_sendTold_0 15 rfl rfl)
theorem dX0_sendTold_16 : decode cX0_sendTold 16 = .ok (.bipush (-9), 2) := dk_16 247 (dk_at dksX0_sendTold_0 16 rfl rfl)
theorem dX0_sendTold_18 : decode cX0_sendTold 18 = .ok (.istore 4, 2) := dk_54 4 (dk_at dksX0_sendTold_0 18 rfl rfl)
theorem dX0_sendTold_20 : decode cX0_sendTold 20 = .ok (.iconst 0, 1) := dk_3 (dk_at dksX0_sendTold_0 20 rfl rfl)
theorem dX0_sendTold_21 : decode cX0_sendTold 21 = .ok (.istore 5, 2) := dk_54 5 (dk_at dksX0_sendTold_0 21 rfl rfl)
theorem dX0_sendTold_23 : decode cX0_sendTold 23 = .ok (.iload 5, 2) := dk_21 5 (dk_at dksX0_sendTold_1 0 rfl rfl)
theorem dX0_sendTold_25 : decode cX0_sendTold 25 = .ok (.aload_n 0, 1) := dk_42 (dk_at dksX0_sendTold_1 2 rfl rfl)
theorem dX0_sendTold_26 : decode cX0_sendTold 26 = .ok (.getfield 53, 3) := dk_180 0 53 (dk_at dksX0_sendTold_1 3 rfl rfl)
theorem dX0_sendTold_29 : decode cX0_sendTold 29 = .ok (.getfield 132, 3) := dk_180 0 132 (dk_at dksX0_sendTold_1 6 rfl rfl)
theorem dX0_sendTold_32 : decode cX0_sendTold 32 = .ok (.if_icmp .ge 110, 3) := dk_162 0 110 (dk_at dksX0_sendTold_1 9 rfl rfl)
theorem dX0_sendTold_35 : decode cX0_sendTold 35 = .ok (.aload_n 0, 1) := dk_42 (dk_at dksX0_sendTold_1 12 rfl rfl)
theorem dX0_sendTold_36 : decode cX0_sendTold 36 = .ok (.invokevirtual 116, 3) := dk_182 0 116 (dk_at dksX0_sendTold_1 13 rfl rfl)
theorem dX0_sendTold_39 : decode cX0_sendTold 39 = .ok (.astore 6, 2) := dk_58 6 (dk_at dksX0_sendTold_1 16 rfl rfl)
theorem dX0_sendTold_41 : decode cX0_sendTold 41 = .ok (.aload 6, 2) := dk_25 6 (dk_at dksX0_sendTold_1 18 rfl rfl)
theorem dX0_sendTold_43 : decode cX0_sendTold 43 = .ok (.bipush 99, 2) := dk_16 99 (dk_at dksX0_sendTold_1 20 rfl rfl)
theorem dX0_sendTold_45 : decode cX0_sendTold 45 = .ok (.aload 6, 2) := dk_25 6 (dk_at dksX0_sendTold_1 22 rfl rfl)
theorem dX0_sendTold_47 : decode cX0_sendTold 47 = .ok (.getfield 145, 3) := dk_180 0 145 (dk_at dksX0_sendTold_2 0 rfl rfl)
theorem dX0_sendTold_50 : decode cX0_sendTold 50 = .ok (.aload 6, 2) := dk_25 6 (dk_at dksX0_sendTold_2 3 rfl rfl)
theorem dX0_sendTold_52 : decode cX0_sendTold 52 = .ok (.getfield 124, 3) := dk_180 0 124 (dk_at dksX0_sendTold_2 5 rfl rfl)
theorem dX0_sendTold_55 : decode cX0_sendTold 55 = .ok (.iload 5, 2) := dk_21 5 (dk_at dksX0_sendTold_2 8 rfl rfl)
theorem dX0_sendTold_57 : decode cX0_sendTold 57 = .ok (.iaload, 1) := dk_46 (dk_at dksX0_sendTold_2 10 rfl rfl)
theorem dX0_sendTold_58 : decode cX0_sendTold 58 = .ok (.iadd, 1) := dk_96 (dk_at dksX0_sendTold_2 11 rfl rfl)
theorem dX0_sendTold_59 : decode cX0_sendTold 59 = .ok (.invokestatic 139, 3) := dk_184 0 139 (dk_at dksX0_sendTold_2 12 rfl rfl)
theorem dX0_sendTold_62 : decode cX0_sendTold 62 = .ok (.putfield 145, 3) := dk_181 0 145 (dk_at dksX0_sendTold_2 15 rfl rfl)
theorem dX0_sendTold_65 : decode cX0_sendTold 65 = .ok (.aload 6, 2) := dk_25 6 (dk_at dksX0_sendTold_2 18 rfl rfl)
theorem dX0_sendTold_67 : decode cX0_sendTold 67 = .ok (.getfield 124, 3) := dk_180 0 124 (dk_at dksX0_sendTold_2 20 rfl rfl)
theorem dX0_sendTold_70 : decode cX0_sendTold 70 = .ok (.iload 5, 2) := dk_21 5 (dk_at dksX0_sendTold_3 0 rfl rfl)
theorem dX0_sendTold_72 : decode cX0_sendTold 72 = .ok (.iconst 0, 1) := dk_3 (dk_at dksX0_sendTold_3 2 rfl rfl)
theorem dX0_sendTold_73 : decode cX0_sendTold 73 = .ok (.iastore, 1) := dk_79 (dk_at dksX0_sendTold_3 3 rfl rfl)
theorem dX0_sendTold_74 : decode cX0_sendTold 74 = .ok (.aload 6, 2) := dk_25 6 (dk_at dksX0_sendTold_3 4 rfl rfl)
theorem dX0_sendTold_76 : decode cX0_sendTold 76 = .ok (.iload_n 1, 1) := dk_27 (dk_at dksX0_sendTold_3 6 rfl rfl)
theorem dX0_sendTold_77 : decode cX0_sendTold 77 = .ok (.invokevirtual 120, 3) := dk_182 0 120 (dk_at dksX0_sendTold_3 7 rfl rfl)
theorem dX0_sendTold_80 : decode cX0_sendTold 80 = .ok (.pop, 1) := dk_87 (dk_at dksX0_sendTold_3 10 rfl rfl)
theorem dX0_sendTold_81 : decode cX0_sendTold 81 = .ok (.aload 6, 2) := dk_25 6 (dk_at dksX0_sendTold_3 11 rfl rfl)
theorem dX0_sendTold_83 : decode cX0_sendTold 83 = .ok (.getfield 132, 3) := dk_180 0 132 (dk_at dksX0_sendTold_3 13 rfl rfl)
theorem dX0_sendTold_86 : decode cX0_sendTold 86 = .ok (.iconst 1, 1) := dk_4 (dk_at dksX0_sendTold_3 16 rfl rfl)
theorem dX0_sendTold_87 : decode cX0_sendTold 87 = .ok (.isub, 1) := dk_100 (dk_at dksX0_sendTold_3 17 rfl rfl)
theorem dX0_sendTold_88 : decode cX0_sendTold 88 = .ok (.aload 6, 2) := dk_25 6 (dk_at dksX0_sendTold_3 18 rfl rfl)
theorem dX0_sendTold_90 : decode cX0_sendTold 90 = .ok (.invokevirtual 195, 3) := dk_182 0 195 (dk_at dksX0_sendTold_3 20 rfl rfl)
theorem dX0_sendTold_93 : decode cX0_sendTold 93 = .ok (.isub, 1) := dk_100 (dk_at dksX0_sendTold_3 23 rfl rfl)
theorem dX0_sendTold_94 : decode cX0_sendTold 94 = .ok (.aload 6, 2) := dk_25 6 (dk_at dksX0_sendTold_4 0 rfl rfl)
theorem dX0_sendTold_96 : decode cX0_sendTold 96 = .ok (.getfield 124, 3) := dk_180 0 124 (dk_at dksX0_sendTold_4 2 rfl rfl)
theorem dX0_sendTold_99 : decode cX0_sendTold 99 = .ok (.iload 5, 2) := dk_21 5 (dk_at dksX0_sendTold_4 5 rfl rfl)
theorem dX0_sendTold_101 : decode cX0_sendTold 101 = .ok (.iaload, 1) := dk_46 (dk_at dksX0_sendTold_4 7 rfl rfl)
theorem dX0_sendTold_102 : decode cX0_sendTold 102 = .ok (.ifCond .ne 7, 3) := dk_154 0 7 (dk_at dksX0_sendTold_4 8 rfl rfl)
theorem dX0_sendTold_105 : decode cX0_sendTold 105 = .ok (.iconst 1, 1) := dk_4 (dk_at dksX0_sendTold_4 11 rfl rfl)
theorem dX0_sendTold_106 : decode cX0_sendTold 106 = .ok (.goto 4, 3) := dk_167 0 4 (dk_at dksX0_sendTold_4 12 rfl rfl)
theorem dX0_sendTold_109 : decode cX0_sendTold 109 = .ok (.iconst 0, 1) := dk_3 (dk_at dksX0_sendTold_4 15 rfl rfl)
theorem dX0_sendTold_110 : decode cX0_sendTold 110 = .ok (.iadd, 1) := dk_96 (dk_at dksX0_sendTold_4 16 rfl rfl)
theorem dX0_sendTold_111 : decode cX0_sendTold 111 = .ok (.istore 7, 2) := dk_54 7 (dk_at dksX0_sendTold_4 17 rfl rfl)
theorem dX0_sendTold_113 : decode cX0_sendTold 113 = .ok (.iload 7, 2) := dk_21 7 (dk_at dksX0_sendTold_4 19 rfl rfl)
theorem dX0_sendTold_115 : decode cX0_sendTold 115 = .ok (.iload 4, 2) := dk_21 4 (dk_at dksX0_sendTold_4 21 rfl rfl)
theorem dX0_sendTold_117 : decode cX0_sendTold 117 = .ok (.if_icmp .le 8, 3) := dk_164 0 8 (dk_at dksX0_sendTold_5 0 rfl rfl)
theorem dX0_sendTold_120 : decode cX0_sendTold 120 = .ok (.iload 5, 2) := dk_21 5 (dk_at dksX0_sendTold_5 3 rfl rfl)
theorem dX0_sendTold_122 : decode cX0_sendTold 122 = .ok (.goto 4, 3) := dk_167 0 4 (dk_at dksX0_sendTold_5 5 rfl rfl)
theorem dX0_sendTold_125 : decode cX0_sendTold 125 = .ok (.iload_n 3, 1) := dk_29 (dk_at dksX0_sendTold_5 8 rfl rfl)
theorem dX0_sendTold_126 : decode cX0_sendTold 126 = .ok (.istore_n 3, 1) := dk_62 (dk_at dksX0_sendTold_5 9 rfl rfl)
theorem dX0_sendTold_127 : decode cX0_sendTold 127 = .ok (.iload 4, 2) := dk_21 4 (dk_at dksX0_sendTold_5 10 rfl rfl)
theorem dX0_sendTold_129 : decode cX0_sendTold 129 = .ok (.iload 7, 2) := dk_21 7 (dk_at dksX0_sendTold_5 12 rfl rfl)
theorem dX0_sendTold_131 : decode cX0_sendTold 131 = .ok (.invokestatic 171, 3) := dk_184 0 171 (dk_at dksX0_sendTold_5 14 rfl rfl)
theorem dX0_sendTold_134 : decode cX0_sendTold 134 = .ok (.istore 4, 2) := dk_54 4 (dk_at dksX0_sendTold_5 17 rfl rfl)
theorem dX0_sendTold_136 : decode cX0_sendTold 136 = .ok (.iinc 5 1, 3) := dk_132 5 1 (dk_at dksX0_sendTold_5 19 rfl rfl)
theorem dX0_sendTold_139 : decode cX0_sendTold 139 = .ok (.goto (-116), 3) := dk_167 255 140 (dk_at dksX0_sendTold_6 0 rfl rfl)
theorem dX0_sendTold_142 : decode cX0_sendTold 142 = .ok (.iload_n 2, 1) := dk_28 (dk_at dksX0_sendTold_6 3 rfl rfl)
theorem dX0_sendTold_143 : decode cX0_sendTold 143 = .ok (.ifCond .ne 7, 3) := dk_154 0 7 (dk_at dksX0_sendTold_6 4 rfl rfl)
theorem dX0_sendTold_146 : decode cX0_sendTold 146 = .ok (.iload_n 3, 1) := dk_29 (dk_at dksX0_sendTold_6 7 rfl rfl)
theorem dX0_sendTold_147 : decode cX0_sendTold 147 = .ok (.goto 5, 3) := dk_167 0 5 (dk_at dksX0_sendTold_6 8 rfl rfl)
theorem dX0_sendTold_150 : decode cX0_sendTold 150 = .ok (.iload 4, 2) := dk_21 4 (dk_at dksX0_sendTold_6 11 rfl rfl)
theorem dX0_sendTold_152 : decode cX0_sendTold 152 = .ok (.ireturn, 1) := dk_172 (dk_at dksX0_sendTold_6 13 rfl rfl)
abbrev cX0_mustBeBit : ByteArray := prog_1_method_39_code
def yX0_mustBeBit : MethodName := ⟨RX0, "mustBeBit", "(I)V"⟩
def dkwX0_mustBeBit_0 : List UInt8 := [26, 133, 9, 10, 184, 0, 13, 16, 254, 184, 0, 9, 177]
abbrev dktX0_mustBeBit_0 : List UInt8 := dkwX0_mustBeBit_0 ++ []
theorem dksX0_mustBeBit_0 : cX0_mustBeBit.data.toList.drop 0 = dktX0_mustBeBit_0 := by decide +kernel
theorem dX0_mustBeBit_0 : decode cX0_mustBeBit 0 = .ok (.iload_n 0, 1) := dk_26 (dk_at dksX0_mustBeBit_0 0 rfl rfl)
theorem dX0_mustBeBit_1 : decode cX0_mustBeBit 1 = .ok (.i2l, 1) := dk_133 (dk_at dksX0_mustBeBit_0 1 rfl rfl)
theorem dX0_mustBeBit_2 : decode cX0_mustBeBit 2 = .ok (.lconst 0, 1) := dk_9 (dk_at dksX0_mustBeBit_0 2 rfl rfl)
theorem dX0_mustBeBit_3 : decode cX0_mustBeBit 3 = .ok (.lconst 1, 1) := dk_10 (dk_at dksX0_mustBeBit_0 3 rfl rfl)
theorem dX0_mustBeBit_4 : decode cX0_mustBeBit 4 = .ok (.invokestatic 13, 3) := dk_184 0 13 (dk_at dksX0_mustBeBit_0 4 rfl rfl)
theorem dX0_mustBeBit_7 : decode cX0_mustBeBit 7 = .ok (.bipush (-2), 2) := dk_16 254 (dk_at dksX0_mustBeBit_0 7 rfl rfl)
theorem dX0_mustBeBit_9 : decode cX0_mustBeBit 9 = .ok (.invokestatic 9, 3) := dk_184 0 9 (dk_at dksX0_mustBeBit_0 9 rfl rfl)
theorem dX0_mustBeBit_12 : decode cX0_mustBeBit 12 = .ok (.return_, 1) := dk_177 (dk_at dksX0_mustBeBit_0 12 rfl rfl)
abbrev cX0_ofRest : ByteArray := prog_1_method_62_code
def yX0_ofRest : MethodName := ⟨RX0, "ofRest", "(IIII)I"⟩
def dkwX0_ofRest_4 : List UInt8 := [182, 1, 141, 172, 42, 27, 28, 29, 21, 4, 182, 1, 144, 172]
abbrev dktX0_ofRest_4 : List UInt8 := dkwX0_ofRest_4 ++ []
def dkwX0_ofRest_3 : List UInt8 := [182, 1, 132, 172, 42, 28, 182, 1, 135, 172, 42, 28, 29, 21, 4, 182, 1, 138, 172, 42, 28, 29]
abbrev dktX0_ofRest_3 : List UInt8 := dkwX0_ofRest_3 ++ dktX0_ofRest_4
def dkwX0_ofRest_2 : List UInt8 := [42, 182, 1, 120, 172, 42, 28, 182, 1, 123, 172, 42, 28, 182, 1, 126, 172, 42, 182, 1, 129, 172, 42, 28]
abbrev dktX0_ofRest_2 : List UInt8 := dkwX0_ofRest_2 ++ dktX0_ofRest_3
def dkwX0_ofRest_1 : List UInt8 := [170, 0, 0, 0, 0, 0, 97, 0, 0, 0, 22, 0, 0, 0, 29, 0, 0, 0, 47, 0, 0, 0, 52, 0, 0, 0, 58, 0, 0, 0, 64, 0, 0, 0, 69, 0, 0, 0, 75, 0, 0, 0, 81, 0, 0, 0, 90]
abbrev dktX0_ofRest_1 : List UInt8 := dkwX0_ofRest_1 ++ dktX0_ofRest_2
def dkwX0_ofRest_0 : List UInt8 := [27]
abbrev dktX0_ofRest_0 : List UInt8 := dkwX0_ofRest_0 ++ dktX0_ofRest_1
theorem dksX0_ofRest_0 : cX0_ofRest.data.toList.drop 0 = dktX0_ofRest_0 := by decide +kernel
theorem dksX0_ofRest_1 : cX0_ofRest.data.toList.drop 1 = dktX0_ofRest_1 := dk_seg dksX0_ofRest_0 1 rfl rfl
theorem dksX0_ofRest_2 : cX0_ofRest.data.toList.drop 48 = dktX0_ofRest_2 := dk_seg dksX0_ofRest_1 47 rfl rfl
theorem dksX0_ofRest_3 : cX0_ofRest.data.toList.drop 72 = dktX0_ofRest_3 := dk_seg dksX0_ofRest_2 24 rfl rfl
theorem dksX0_ofRest_4 : cX0_ofRest.data.toList.drop 94 = dktX0_ofRest_4 := dk_seg dksX0_ofRest_3 22 rfl rfl
theorem dX0_ofRest_0 : decode cX0_ofRest 0 = .ok (.iload_n 1, 1) := dk_27 (dk_at dksX0_ofRest_0 0 rfl rfl)
theorem dX0_ofRest_1 : decode cX0_ofRest 1 = .ok (.tableswitch 97 22 29 #[47, 52, 58, 64, 69, 75, 81, 90], 47) := by decide +kernel
theorem dX0_ofRest_48 : decode cX0_ofRest 48 = .ok (.aload_n 0, 1) := dk_42 (dk_at dksX0_ofRest_2 0 rfl rfl)
theorem dX0_ofRest_49 : decode cX0_ofRest 49 = .ok (.invokevirtual 376, 3) := dk_182 1 120 (dk_at dksX0_ofRest_2 1 rfl rfl)
theorem dX0_ofRest_52 : decode cX0_ofRest 52 = .ok (.ireturn, 1) := dk_172 (dk_at dksX0_ofRest_2 4 rfl rfl)
theorem dX0_ofRest_53 : decode cX0_ofRest 53 = .ok (.aload_n 0, 1) := dk_42 (dk_at dksX0_ofRest_2 5 rfl rfl)
theorem dX0_ofRest_54 : decode cX0_ofRest 54 = .ok (.iload_n 2, 1) := dk_28 (dk_at dksX0_ofRest_2 6 rfl rfl)
theorem dX0_ofRest_55 : decode cX0_ofRest 55 = .ok (.invokevirtual 379, 3) := dk_182 1 123 (dk_at dksX0_ofRest_2 7 rfl rfl)
theorem dX0_ofRest_58 : decode cX0_ofRest 58 = .ok (.ireturn, 1) := dk_172 (dk_at dksX0_ofRest_2 10 rfl rfl)
theorem dX0_ofRest_59 : decode cX0_ofRest 59 = .ok (.aload_n 0, 1) := dk_42 (dk_at dksX0_ofRest_2 11 rfl rfl)
theorem dX0_ofRest_60 : decode cX0_ofRest 60 = .ok (.iload_n 2, 1) := dk_28 (dk_at dksX0_ofRest_2 12 rfl rfl)
theorem dX0_ofRest_61 : decode cX0_ofRest 61 = .ok (.invokevirtual 382, 3) := dk_182 1 126 (dk_at dksX0_ofRest_2 13 rfl rfl)
theorem dX0_ofRest_64 : decode cX0_ofRest 64 = .ok (.ireturn, 1) := dk_172 (dk_at dksX0_ofRest_2 16 rfl rfl)
theorem dX0_ofRest_65 : decode cX0_ofRest 65 = .ok (.aload_n 0, 1) := dk_42 (dk_at dksX0_ofRest_2 17 rfl rfl)
theorem dX0_ofRest_66 : decode cX0_ofRest 66 = .ok (.invokevirtual 385, 3) := dk_182 1 129 (dk_at dksX0_ofRest_2 18 rfl rfl)
theorem dX0_ofRest_69 : decode cX0_ofRest 69 = .ok (.ireturn, 1) := dk_172 (dk_at dksX0_ofRest_2 21 rfl rfl)
theorem dX0_ofRest_70 : decode cX0_ofRest 70 = .ok (.aload_n 0, 1) := dk_42 (dk_at dksX0_ofRest_2 22 rfl rfl)
theorem dX0_ofRest_71 : decode cX0_ofRest 71 = .ok (.iload_n 2, 1) := dk_28 (dk_at dksX0_ofRest_2 23 rfl rfl)
theorem dX0_ofRest_72 : decode cX0_ofRest 72 = .ok (.invokevirtual 388, 3) := dk_182 1 132 (dk_at dksX0_ofRest_3 0 rfl rfl)
theorem dX0_ofRest_75 : decode cX0_ofRest 75 = .ok (.ireturn, 1) := dk_172 (dk_at dksX0_ofRest_3 3 rfl rfl)
theorem dX0_ofRest_76 : decode cX0_ofRest 76 = .ok (.aload_n 0, 1) := dk_42 (dk_at dksX0_ofRest_3 4 rfl rfl)
theorem dX0_ofRest_77 : decode cX0_ofRest 77 = .ok (.iload_n 2, 1) := dk_28 (dk_at dksX0_ofRest_3 5 rfl rfl)
theorem dX0_ofRest_78 : decode cX0_ofRest 78 = .ok (.invokevirtual 391, 3) := dk_182 1 135 (dk_at dksX0_ofRest_3 6 rfl rfl)
theorem dX0_ofRest_81 : decode cX0_ofRest 81 = .ok (.ireturn, 1) := dk_172 (dk_at dksX0_ofRest_3 9 rfl rfl)
theorem dX0_ofRest_82 : decode cX0_ofRest 82 = .ok (.aload_n 0, 1) := dk_42 (dk_at dksX0_ofRest_3 10 rfl rfl)
theorem dX0_ofRest_83 : decode cX0_ofRest 83 = .ok (.iload_n 2, 1) := dk_28 (dk_at dksX0_ofRest_3 11 rfl rfl)
theorem dX0_ofRest_84 : decode cX0_ofRest 84 = .ok (.iload_n 3, 1) := dk_29 (dk_at dksX0_ofRest_3 12 rfl rfl)
theorem dX0_ofRest_85 : decode cX0_ofRest 85 = .ok (.iload 4, 2) := dk_21 4 (dk_at dksX0_ofRest_3 13 rfl rfl)
theorem dX0_ofRest_87 : decode cX0_ofRest 87 = .ok (.invokevirtual 394, 3) := dk_182 1 138 (dk_at dksX0_ofRest_3 15 rfl rfl)
theorem dX0_ofRest_90 : decode cX0_ofRest 90 = .ok (.ireturn, 1) := dk_172 (dk_at dksX0_ofRest_3 18 rfl rfl)
theorem dX0_ofRest_91 : decode cX0_ofRest 91 = .ok (.aload_n 0, 1) := dk_42 (dk_at dksX0_ofRest_3 19 rfl rfl)
theorem dX0_ofRest_92 : decode cX0_ofRest 92 = .ok (.iload_n 2, 1) := dk_28 (dk_at dksX0_ofRest_3 20 rfl rfl)
theorem dX0_ofRest_93 : decode cX0_ofRest 93 = .ok (.iload_n 3, 1) := dk_29 (dk_at dksX0_ofRest_3 21 rfl rfl)
theorem dX0_ofRest_94 : decode cX0_ofRest 94 = .ok (.invokevirtual 397, 3) := dk_182 1 141 (dk_at dksX0_ofRest_4 0 rfl rfl)
theorem dX0_ofRest_97 : decode cX0_ofRest 97 = .ok (.ireturn, 1) := dk_172 (dk_at dksX0_ofRest_4 3 rfl rfl)
theorem dX0_ofRest_98 : decode cX0_ofRest 98 = .ok (.aload_n 0, 1) := dk_42 (dk_at dksX0_ofRest_4 4 rfl rfl)
theorem dX0_ofRest_99 : decode cX0_ofRest 99 = .ok (.iload_n 1, 1) := dk_27 (dk_at dksX0_ofRest_4 5 rfl rfl)
theorem dX0_ofRest_100 : decode cX0_ofRest 100 = .ok (.iload_n 2, 1) := dk_28 (dk_at dksX0_ofRest_4 6 rfl rfl)
theorem dX0_ofRest_101 : decode cX0_ofRest 101 = .ok (.iload_n 3, 1) := dk_29 (dk_at dksX0_ofRest_4 7 rfl rfl)
theorem dX0_ofRest_102 : decode cX0_ofRest 102 = .ok (.iload 4, 2) := dk_21 4 (dk_at dksX0_ofRest_4 8 rfl rfl)
theorem dX0_ofRest_104 : decode cX0_ofRest 104 = .ok (.invokevirtual 400, 3) := dk_182 1 144 (dk_at dksX0_ofRest_4 10 rfl rfl)
theorem dX0_ofRest_107 : decode cX0_ofRest 107 = .ok (.ireturn, 1) := dk_172 (dk_at dksX0_ofRest_4 13 rfl rfl)
abbrev cX0_nextDrawing : ByteArray := prog_1_method_24_code
def yX0_nextDrawing : MethodName := ⟨RX0, "nextDrawing", "()I"⟩
def dkwX0_nextDrawing_1 : List UInt8 := [43, 182, 0, 127, 43, 180, 0, 201, 28, 2, 130, 126, 172]
abbrev dktX0_nextDrawing_1 : List UInt8 := dkwX0_nextDrawing_1 ++ []
def dkwX0_nextDrawing_0 : List UInt8 := [42, 182, 0, 116, 76, 43, 180, 0, 198, 16, 12, 112, 154, 0, 7, 3, 167, 0, 7, 43, 180, 0, 201, 61]
abbrev dktX0_nextDrawing_0 : List UInt8 := dkwX0_nextDrawing_0 ++ dktX0_nextDrawing_1
theorem dksX0_nextDrawing_0 : cX0_nextDrawing.data.toList.drop 0 = dktX0_nextDrawing_0 := by decide +kernel
theorem dksX0_nextDrawing_1 : cX0_nextDrawing.data.toList.drop 24 = dktX0_nextDrawing_1 := dk_seg dksX0_nextDrawing_0 24 rfl rfl
theorem dX0_nextDrawing_0 : decode cX0_nextDrawing 0 = .ok (.aload_n 0, 1) := dk_42 (dk_at dksX0_nextDrawing_0 0 rfl rfl)
theorem dX0_nextDrawing_1 : decode cX0_nextDrawing 1 = .ok (.invokevirtual 116, 3) := dk_182 0 116 (dk_at dksX0_nextDrawing_0 1 rfl rfl)
theorem dX0_nextDrawing_4 : decode cX0_nextDrawing 4 = .ok (.astore_n 1, 1) := dk_76 (dk_at dksX0_nextDrawing_0 4 rfl rfl)
theorem dX0_nextDrawing_5 : decode cX0_nextDrawing 5 = .ok (.aload_n 1, 1) := dk_43 (dk_at dksX0_nextDrawing_0 5 rfl rfl)
theorem dX0_nextDrawing_6 : decode cX0_nextDrawing 6 = .ok (.getfield 198, 3) := dk_180 0 198 (dk_at dksX0_nextDrawing_0 6 rfl rfl)
theorem dX0_nextDrawing_9 : decode cX0_nextDrawing 9 = .ok (.bipush 12, 2) := dk_16 12 (dk_at dksX0_nextDrawing_0 9 rfl rfl)
theorem dX0_nextDrawing_11 : decode cX0_nextDrawing 11 = .ok (.irem, 1) := dk_112 (dk_at dksX0_nextDrawing_0 11 rfl rfl)
theorem dX0_nextDrawing_12 : decode cX0_nextDrawing 12 = .ok (.ifCond .ne 7, 3) := dk_154 0 7 (dk_at dksX0_nextDrawing_0 12 rfl rfl)
theorem dX0_nextDrawing_15 : decode cX0_nextDrawing 15 = .ok (.iconst 0, 1) := dk_3 (dk_at dksX0_nextDrawing_0 15 rfl rfl)
theorem dX0_nextDrawing_16 : decode cX0_nextDrawing 16 = .ok (.goto 7, 3) := dk_167 0 7 (dk_at dksX0_nextDrawing_0 16 rfl rfl)
theorem dX0_nextDrawing_19 : decode cX0_nextDrawing 19 = .ok (.aload_n 1, 1) := dk_43 (dk_at dksX0_nextDrawing_0 19 rfl rfl)
theorem dX0_nextDrawing_20 : decode cX0_nextDrawing 20 = .ok (.getfield 201, 3) := dk_180 0 201 (dk_at dksX0_nextDrawing_0 20 rfl rfl)
theorem dX0_nextDrawing_23 : decode cX0_nextDrawing 23 = .ok (.istore_n 2, 1) := dk_61 (dk_at dksX0_nextDrawing_0 23 rfl rfl)
theorem dX0_nextDrawing_24 : decode cX0_nextDrawing 24 = .ok (.aload_n 1, 1) := dk_43 (dk_at dksX0_nextDrawing_1 0 rfl rfl)
theorem dX0_nextDrawing_25 : decode cX0_nextDrawing 25 = .ok (.invokevirtual 127, 3) := dk_182 0 127 (dk_at dksX0_nextDrawing_1 1 rfl rfl)
theorem dX0_nextDrawing_28 : decode cX0_nextDrawing 28 = .ok (.aload_n 1, 1) := dk_43 (dk_at dksX0_nextDrawing_1 4 rfl rfl)
theorem dX0_nextDrawing_29 : decode cX0_nextDrawing 29 = .ok (.getfield 201, 3) := dk_180 0 201 (dk_at dksX0_nextDrawing_1 5 rfl rfl)
theorem dX0_nextDrawing_32 : decode cX0_nextDrawing 32 = .ok (.iload_n 2, 1) := dk_28 (dk_at dksX0_nextDrawing_1 8 rfl rfl)
theorem dX0_nextDrawing_33 : decode cX0_nextDrawing 33 = .ok (.iconst (-1), 1) := dk_2 (dk_at dksX0_nextDrawing_1 9 rfl rfl)
theorem dX0_nextDrawing_34 : decode cX0_nextDrawing 34 = .ok (.ixor, 1) := dk_130 (dk_at dksX0_nextDrawing_1 10 rfl rfl)
theorem dX0_nextDrawing_35 : decode cX0_nextDrawing 35 = .ok (.iand, 1) := dk_126 (dk_at dksX0_nextDrawing_1 11 rfl rfl)
theorem dX0_nextDrawing_36 : decode cX0_nextDrawing 36 = .ok (.ireturn, 1) := dk_172 (dk_at dksX0_nextDrawing_1 12 rfl rfl)
abbrev cX0_richestTold : ByteArray := prog_1_method_25_code
def yX0_richestTold : MethodName := ⟨RX0, "richestTold", "(I)I"⟩
def dkwX0_richestTold_4 : List UInt8 := [61, 29, 21, 5, 184, 0, 171, 62, 132, 4, 1, 167, 255, 174, 28, 172]
abbrev dktX0_richestTold_4 : List UInt8 := dkwX0_richestTold_4 ++ []
def dkwX0_richestTold_3 : List UInt8 := [180, 0, 53, 180, 0, 124, 21, 4, 46, 116, 54, 5, 21, 5, 29, 164, 0, 8, 21, 4, 167, 0, 4, 28]
abbrev dktX0_richestTold_3 : List UInt8 := dkwX0_richestTold_3 ++ dktX0_richestTold_4
def dkwX0_richestTold_2 : List UInt8 := [182, 0, 206, 167, 0, 31, 27, 154, 0, 16, 42, 180, 0, 53, 180, 0, 124, 21, 4, 46, 167, 0, 14, 42]
abbrev dktX0_richestTold_2 : List UInt8 := dkwX0_richestTold_2 ++ dktX0_richestTold_3
def dkwX0_richestTold_1 : List UInt8 := [21, 4, 42, 180, 0, 53, 180, 0, 132, 162, 0, 76, 27, 5, 160, 0, 15, 42, 180, 0, 53, 21, 4]
abbrev dktX0_richestTold_1 : List UInt8 := dkwX0_richestTold_1 ++ dktX0_richestTold_2
def dkwX0_richestTold_0 : List UInt8 := [27, 133, 9, 20, 0, 204, 184, 0, 13, 16, 254, 184, 0, 9, 16, 247, 61, 16, 156, 62, 3, 54, 4]
abbrev dktX0_richestTold_0 : List UInt8 := dkwX0_richestTold_0 ++ dktX0_richestTold_1
theorem dksX0_richestTold_0 : cX0_richestTold.data.toList.drop 0 = dktX0_richestTold_0 := by decide +kernel
theorem dksX0_richestTold_1 : cX0_richestTold.data.toList.drop 23 = dktX0_richestTold_1 := dk_seg dksX0_richestTold_0 23 rfl rfl
theorem dksX0_richestTold_2 : cX0_richestTold.data.toList.drop 46 = dktX0_richestTold_2 := dk_seg dksX0_richestTold_1 23 rfl rfl
theorem dksX0_richestTold_3 : cX0_richestTold.data.toList.drop 70 = dktX0_richestTold_3 := dk_seg dksX0_richestTold_2 24 rfl rfl
theorem dksX0_richestTold_4 : cX0_richestTold.data.toList.drop 94 = dktX0_richestTold_4 := dk_seg dksX0_richestTold_3 24 rfl rfl
theorem dX0_richestTold_0 : decode cX0_richestTold 0 = .ok (.iload_n 1, 1) := dk_27 (dk_at dksX0_richestTold_0 0 rfl rfl)
theorem dX0_richestTold_1 : decode cX0_richestTold 1 = .ok (.i2l, 1) := dk_133 (dk_at dksX0_richestTold_0 1 rfl rfl)
theorem dX0_richestTold_2 : decode cX0_richestTold 2 = .ok (.lconst 0, 1) := dk_9 (dk_at dksX0_richestTold_0 2 rfl rfl)
theorem dX0_richestTold_3 : decode cX0_richestTold 3 = .ok (.ldc2_w 204, 3) := dk_20 0 204 (dk_at dksX0_richestTold_0 3 rfl rfl)
theorem dX0_richestTold_6 : decode cX0_richestTold 6 = .ok (.invokestatic 13, 3) := dk_184 0 13 (dk_at dksX0_richestTold_0 6 rfl rfl)
theorem dX0_richestTold_9 : decode cX0_richestTold 9 = .ok (.bipush (-2), 2) := dk_16 254 (dk_at dksX0_richestTold_0 9 rfl rfl)
theorem dX0_richestTold_11 : decode cX0_richestTold 11 = .ok (.invokestatic 9, 3) := dk_184 0 9 (dk_at dksX0_richestTold_0 11 rfl rfl)
theorem dX0_richestTold_14 : decode cX0_richestTold 14 = .ok (.bipush (-9), 2) := dk_16 247 (dk_at dksX0_richestTold_0 14 rfl rfl)
theorem dX0_richestTold_16 : decode cX0_richestTold 16 = .ok (.istore_n 2, 1) := dk_61 (dk_at dksX0_richestTold_0 16 rfl rfl)
theorem dX0_richestTold_17 : decode cX0_richestTold 17 = .ok (.bipush (-100), 2) := dk_16 156 (dk_at dksX0_richestTold_0 17 rfl rfl)
theorem dX0_richestTold_19 : decode cX0_richestTold 19 = .ok (.istore_n 3, 1) := dk_62 (dk_at dksX0_richestTold_0 19 rfl rfl)
theorem dX0_richestTold_20 : decode cX0_richestTold 20 = .ok (.iconst 0, 1) := dk_3 (dk_at dksX0_richestTold_0 20 rfl rfl)
theorem dX0_richestTold_21 : decode cX0_richestTold 21 = .ok (.istore 4, 2) := dk_54 4 (dk_at dksX0_richestTold_0 21 rfl rfl)
theorem dX0_richestTold_23 : decode cX0_richestTold 23 = .ok (.iload 4, 2) := dk_21 4 (dk_at dksX0_richestTold_1 0 rfl rfl)
theorem dX0_richestTold_25 : decode cX0_richestTold 25 = .ok (.aload_n 0, 1) := dk_42 (dk_at dksX0_richestTold_1 2 rfl rfl)
theorem dX0_richestTold_26 : decode cX0_richestTold 26 = .ok (.getfield 53, 3) := dk_180 0 53 (dk_at dksX0_richestTold_1 3 rfl rfl)
theorem dX0_richestTold_29 : decode cX0_richestTold 29 = .ok (.getfield 132, 3) := dk_180 0 132 (dk_at dksX0_richestTold_1 6 rfl rfl)
theorem dX0_richestTold_32 : decode cX0_richestTold 32 = .ok (.if_icmp .ge 76, 3) := dk_162 0 76 (dk_at dksX0_richestTold_1 9 rfl rfl)
theorem dX0_richestTold_35 : decode cX0_richestTold 35 = .ok (.iload_n 1, 1) := dk_27 (dk_at dksX0_richestTold_1 12 rfl rfl)
theorem dX0_richestTold_36 : decode cX0_richestTold 36 = .ok (.iconst 2, 1) := dk_5 (dk_at dksX0_richestTold_1 13 rfl rfl)
theorem dX0_richestTold_37 : decode cX0_richestTold 37 = .ok (.if_icmp .ne 15, 3) := dk_160 0 15 (dk_at dksX0_richestTold_1 14 rfl rfl)
theorem dX0_richestTold_40 : decode cX0_richestTold 40 = .ok (.aload_n 0, 1) := dk_42 (dk_at dksX0_richestTold_1 17 rfl rfl)
theorem dX0_richestTold_41 : decode cX0_richestTold 41 = .ok (.getfield 53, 3) := dk_180 0 53 (dk_at dksX0_richestTold_1 18 rfl rfl)
theorem dX0_richestTold_44 : decode cX0_richestTold 44 = .ok (.iload 4, 2) := dk_21 4 (dk_at dksX0_richestTold_1 21 rfl rfl)
theorem dX0_richestTold_46 : decode cX0_richestTold 46 = .ok (.invokevirtual 206, 3) := dk_182 0 206 (dk_at dksX0_richestTold_2 0 rfl rfl)
theorem dX0_richestTold_49 : decode cX0_richestTold 49 = .ok (.goto 31, 3) := dk_167 0 31 (dk_at dksX0_richestTold_2 3 rfl rfl)
theorem dX0_richestTold_52 : decode cX0_richestTold 52 = .ok (.iload_n 1, 1) := dk_27 (dk_at dksX0_richestTold_2 6 rfl rfl)
theorem dX0_richestTold_53 : decode cX0_richestTold 53 = .ok (.ifCond .ne 16, 3) := dk_154 0 16 (dk_at dksX0_richestTold_2 7 rfl rfl)
theorem dX0_richestTold_56 : decode cX0_richestTold 56 = .ok (.aload_n 0, 1) := dk_42 (dk_at dksX0_richestTold_2 10 rfl rfl)
theorem dX0_richestTold_57 : decode cX0_richestTold 57 = .ok (.getfield 53, 3) := dk_180 0 53 (dk_at dksX0_richestTold_2 11 rfl rfl)
theorem dX0_richestTold_60 : decode cX0_richestTold 60 = .ok (.getfield 124, 3) := dk_180 0 124 (dk_at dksX0_richestTold_2 14 rfl rfl)
theorem dX0_richestTold_63 : decode cX0_richestTold 63 = .ok (.iload 4, 2) := dk_21 4 (dk_at dksX0_richestTold_2 17 rfl rfl)
theorem dX0_richestTold_65 : decode cX0_richestTold 65 = .ok (.iaload, 1) := dk_46 (dk_at dksX0_richestTold_2 19 rfl rfl)
theorem dX0_richestTold_66 : decode cX0_richestTold 66 = .ok (.goto 14, 3) := dk_167 0 14 (dk_at dksX0_richestTold_2 20 rfl rfl)
theorem dX0_richestTold_69 : decode cX0_richestTold 69 = .ok (.aload_n 0, 1) := dk_42 (dk_at dksX0_richestTold_2 23 rfl rfl)
theorem dX0_richestTold_70 : decode cX0_richestTold 70 = .ok (.getfield 53, 3) := dk_180 0 53 (dk_at dksX0_richestTold_3 0 rfl rfl)
theorem dX0_richestTold_73 : decode cX0_richestTold 73 = .ok (.getfield 124, 3) := dk_180 0 124 (dk_at dksX0_richestTold_3 3 rfl rfl)
theorem dX0_richestTold_76 : decode cX0_richestTold 76 = .ok (.iload 4, 2) := dk_21 4 (dk_at dksX0_richestTold_3 6 rfl rfl)
theorem dX0_richestTold_78 : decode cX0_richestTold 78 = .ok (.iaload, 1) := dk_46 (dk_at dksX0_richestTold_3 8 rfl rfl)
theorem dX0_richestTold_79 : decode cX0_richestTold 79 = .ok (.ineg, 1) := dk_116 (dk_at dksX0_richestTold_3 9 rfl rfl)
theorem dX0_richestTold_80 : decode cX0_richestTold 80 = .ok (.istore 5, 2) := dk_54 5 (dk_at dksX0_richestTold_3 10 rfl rfl)
theorem dX0_richestTold_82 : decode cX0_richestTold 82 = .ok (.iload 5, 2) := dk_21 5 (dk_at dksX0_richestTold_3 12 rfl rfl)
theorem dX0_richestTold_84 : decode cX0_richestTold 84 = .ok (.iload_n 3, 1) := dk_29 (dk_at dksX0_richestTold_3 14 rfl rfl)
theorem dX0_richestTold_85 : decode cX0_richestTold 85 = .ok (.if_icmp .le 8, 3) := dk_164 0 8 (dk_at dksX0_richestTold_3 15 rfl rfl)
theorem dX0_richestTold_88 : decode cX0_richestTold 88 = .ok (.iload 4, 2) := dk_21 4 (dk_at dksX0_richestTold_3 18 rfl rfl)
theorem dX0_richestTold_90 : decode cX0_richestTold 90 = .ok (.goto 4, 3) := dk_167 0 4 (dk_at dksX0_richestTold_3 20 rfl rfl)
theorem dX0_richestTold_93 : decode cX0_richestTold 93 = .ok (.iload_n 2, 1) := dk_28 (dk_at dksX0_richestTold_3 23 rfl rfl)
theorem dX0_richestTold_94 : decode cX0_richestTold 94 = .ok (.istore_n 2, 1) := dk_61 (dk_at dksX0_richestTold_4 0 rfl rfl)
theorem dX0_richestTold_95 : decode cX0_richestTold 95 = .ok (.iload_n 3, 1) := dk_29 (dk_at dksX0_richestTold_4 1 rfl rfl)
theorem dX0_richestTold_96 : decode cX0_richestTold 96 = .ok (.iload 5, 2) := dk_21 5 (dk_at dksX0_richestTold_4 2 rfl rfl)
theorem dX0_richestTold_98 : decode cX0_richestTold 98 = .ok (.invokestatic 171, 3) := dk_184 0 171 (dk_at dksX0_richestTold_4 4 rfl rfl)
theorem dX0_richestTold_101 : decode cX0_richestTold 101 = .ok (.istore_n 3, 1) := dk_62 (dk_at dksX0_richestTold_4 7 rfl rfl)
theorem dX0_richestTold_102 : decode cX0_richestTold 102 = .ok (.iinc 4 1, 3) := dk_132 4 1 (dk_at dksX0_richestTold_4 8 rfl rfl)
theorem dX0_richestTold_105 : decode cX0_richestTold 105 = .ok (.goto (-82), 3) := dk_167 255 174 (dk_at dksX0_richestTold_4 11 rfl rfl)
theorem dX0_richestTold_108 : decode cX0_richestTold 108 = .ok (.iload_n 2, 1) := dk_28 (dk_at dksX0_richestTold_4 14 rfl rfl)
theorem dX0_richestTold_109 : decode cX0_richestTold 109 = .ok (.ireturn, 1) := dk_172 (dk_at dksX0_richestTold_4 15 rfl rfl)
abbrev cX0_quietTold : ByteArray := prog_1_method_58_code
def yX0_quietTold : MethodName := ⟨RX0, "quietTold", "(I)I"⟩
def dkwX0_quietTold_0 : List UInt8 := [27, 133, 9, 20, 1, 109, 184, 0, 188, 42, 27, 182, 1, 111, 172]
abbrev dktX0_quietTold_0 : List UInt8 := dkwX0_quietTold_0 ++ []
theorem dksX0_quietTold_0 : cX0_quietTold.data.toList.drop 0 = dktX0_quietTold_0 := by decide +kernel
theorem dX0_quietTold_0 : decode cX0_quietTold 0 = .ok (.iload_n 1, 1) := dk_27 (dk_at dksX0_quietTold_0 0 rfl rfl)
theorem dX0_quietTold_1 : decode cX0_quietTold 1 = .ok (.i2l, 1) := dk_133 (dk_at dksX0_quietTold_0 1 rfl rfl)
theorem dX0_quietTold_2 : decode cX0_quietTold 2 = .ok (.lconst 0, 1) := dk_9 (dk_at dksX0_quietTold_0 2 rfl rfl)
theorem dX0_quietTold_3 : decode cX0_quietTold 3 = .ok (.ldc2_w 365, 3) := dk_20 1 109 (dk_at dksX0_quietTold_0 3 rfl rfl)
theorem dX0_quietTold_6 : decode cX0_quietTold 6 = .ok (.invokestatic 188, 3) := dk_184 0 188 (dk_at dksX0_quietTold_0 6 rfl rfl)
theorem dX0_quietTold_9 : decode cX0_quietTold 9 = .ok (.aload_n 0, 1) := dk_42 (dk_at dksX0_quietTold_0 9 rfl rfl)
theorem dX0_quietTold_10 : decode cX0_quietTold 10 = .ok (.iload_n 1, 1) := dk_27 (dk_at dksX0_quietTold_0 10 rfl rfl)
theorem dX0_quietTold_11 : decode cX0_quietTold 11 = .ok (.invokevirtual 367, 3) := dk_182 1 111 (dk_at dksX0_quietTold_0 11 rfl rfl)
theorem dX0_quietTold_14 : decode cX0_quietTold 14 = .ok (.ireturn, 1) := dk_172 (dk_at dksX0_quietTold_0 14 rfl rfl)
abbrev cX0_quietIn : ByteArray := prog_1_method_26_code
def yX0_quietIn : MethodName := ⟨RX0, "quietIn", "(I)I"⟩
def dkwX0_quietIn_1 : List UInt8 := [27, 164, 0, 7, 4, 167, 0, 4, 3, 96, 61, 132, 3, 1, 167, 255, 222, 28, 172]
abbrev dktX0_quietIn_1 : List UInt8 := dkwX0_quietIn_1 ++ []
def dkwX0_quietIn_0 : List UInt8 := [3, 61, 3, 62, 29, 42, 180, 0, 53, 180, 0, 132, 162, 0, 29, 28, 42, 180, 0, 53, 29, 182, 0, 206]
abbrev dktX0_quietIn_0 : List UInt8 := dkwX0_quietIn_0 ++ dktX0_quietIn_1
theorem dksX0_quietIn_0 : cX0_quietIn.data.toList.drop 0 = dktX0_quietIn_0 := by decide +kernel
theorem dksX0_quietIn_1 : cX0_quietIn.data.toList.drop 24 = dktX0_quietIn_1 := dk_seg dksX0_quietIn_0 24 rfl rfl
theorem dX0_quietIn_0 : decode cX0_quietIn 0 = .ok (.iconst 0, 1) := dk_3 (dk_at dksX0_quietIn_0 0 rfl rfl)
theorem dX0_quietIn_1 : decode cX0_quietIn 1 = .ok (.istore_n 2, 1) := dk_61 (dk_at dksX0_quietIn_0 1 rfl rfl)
theorem dX0_quietIn_2 : decode cX0_quietIn 2 = .ok (.iconst 0, 1) := dk_3 (dk_at dksX0_quietIn_0 2 rfl rfl)
theorem dX0_quietIn_3 : decode cX0_quietIn 3 = .ok (.istore_n 3, 1) := dk_62 (dk_at dksX0_quietIn_0 3 rfl rfl)
theorem dX0_quietIn_4 : decode cX0_quietIn 4 = .ok (.iload_n 3, 1) := dk_29 (dk_at dksX0_quietIn_0 4 rfl rfl)
theorem dX0_quietIn_5 : decode cX0_quietIn 5 = .ok (.aload_n 0, 1) := dk_42 (dk_at dksX0_quietIn_0 5 rfl rfl)
theorem dX0_quietIn_6 : decode cX0_quietIn 6 = .ok (.getfield 53, 3) := dk_180 0 53 (dk_at dksX0_quietIn_0 6 rfl rfl)
theorem dX0_quietIn_9 : decode cX0_quietIn 9 = .ok (.getfield 132, 3) := dk_180 0 132 (dk_at dksX0_quietIn_0 9 rfl rfl)
theorem dX0_quietIn_12 : decode cX0_quietIn 12 = .ok (.if_icmp .ge 29, 3) := dk_162 0 29 (dk_at dksX0_quietIn_0 12 rfl rfl)
theorem dX0_quietIn_15 : decode cX0_quietIn 15 = .ok (.iload_n 2, 1) := dk_28 (dk_at dksX0_quietIn_0 15 rfl rfl)
theorem dX0_quietIn_16 : decode cX0_quietIn 16 = .ok (.aload_n 0, 1) := dk_42 (dk_at dksX0_quietIn_0 16 rfl rfl)
theorem dX0_quietIn_17 : decode cX0_quietIn 17 = .ok (.getfield 53, 3) := dk_180 0 53 (dk_at dksX0_quietIn_0 17 rfl rfl)
theorem dX0_quietIn_20 : decode cX0_quietIn 20 = .ok (.iload_n 3, 1) := dk_29 (dk_at dksX0_quietIn_0 20 rfl rfl)
theorem dX0_quietIn_21 : decode cX0_quietIn 21 = .ok (.invokevirtual 206, 3) := dk_182 0 206 (dk_at dksX0_quietIn_0 21 rfl rfl)
theorem dX0_quietIn_24 : decode cX0_quietIn 24 = .ok (.iload_n 1, 1) := dk_27 (dk_at dksX0_quietIn_1 0 rfl rfl)
theorem dX0_quietIn_25 : decode cX0_quietIn 25 = .ok (.if_icmp .le 7, 3) := dk_164 0 7 (dk_at dksX0_quietIn_1 1 rfl rfl)
theorem dX0_quietIn_28 : decode cX0_quietIn 28 = .ok (.iconst 1, 1) := dk_4 (dk_at dksX0_quietIn_1 4 rfl rfl)
theorem dX0_quietIn_29 : decode cX0_quietIn 29 = .ok (.goto 4, 3) := dk_167 0 4 (dk_at dksX0_quietIn_1 5 rfl rfl)
theorem dX0_quietIn_32 : decode cX0_quietIn 32 = .ok (.iconst 0, 1) := dk_3 (dk_at dksX0_quietIn_1 8 rfl rfl)
theorem dX0_quietIn_33 : decode cX0_quietIn 33 = .ok (.iadd, 1) := dk_96 (dk_at dksX0_quietIn_1 9 rfl rfl)
theorem dX0_quietIn_34 : decode cX0_quietIn 34 = .ok (.istore_n 2, 1) := dk_61 (dk_at dksX0_quietIn_1 10 rfl rfl)
theorem dX0_quietIn_35 : decode cX0_quietIn 35 = .ok (.iinc 3 1, 3) := dk_132 3 1 (dk_at dksX0_quietIn_1 11 rfl rfl)
theorem dX0_quietIn_38 : decode cX0_quietIn 38 = .ok (.goto (-34), 3) := dk_167 255 222 (dk_at dksX0_quietIn_1 14 rfl rfl)
theorem dX0_quietIn_41 : decode cX0_quietIn 41 = .ok (.iload_n 2, 1) := dk_28 (dk_at dksX0_quietIn_1 17 rfl rfl)
theorem dX0_quietIn_42 : decode cX0_quietIn 42 = .ok (.ireturn, 1) := dk_172 (dk_at dksX0_quietIn_1 18 rfl rfl)
abbrev cX0_allDrink : ByteArray := prog_1_method_27_code
def yX0_allDrink : MethodName := ⟨RX0, "allDrink", "()I"⟩
def dkwX0_allDrink_1 : List UInt8 := [50, 182, 0, 212, 96, 60, 132, 2, 1, 167, 255, 227, 27, 172]
abbrev dktX0_allDrink_1 : List UInt8 := dkwX0_allDrink_1 ++ []
def dkwX0_allDrink_0 : List UInt8 := [3, 60, 3, 61, 28, 42, 180, 0, 53, 180, 0, 132, 162, 0, 24, 27, 42, 180, 0, 53, 180, 0, 209, 28]
abbrev dktX0_allDrink_0 : List UInt8 := dkwX0_allDrink_0 ++ dktX0_allDrink_1
theorem dksX0_allDrink_0 : cX0_allDrink.data.toList.drop 0 = dktX0_allDrink_0 := by decide +kernel
theorem dksX0_allDrink_1 : cX0_allDrink.data.toList.drop 24 = dktX0_allDrink_1 := dk_seg dksX0_allDrink_0 24 rfl rfl
theorem dX0_allDrink_0 : decode cX0_allDrink 0 = .ok (.iconst 0, 1) := dk_3 (dk_at dksX0_allDrink_0 0 rfl rfl)
theorem dX0_allDrink_1 : decode cX0_allDrink 1 = .ok (.istore_n 1, 1) := dk_60 (dk_at dksX0_allDrink_0 1 rfl rfl)
theorem dX0_allDrink_2 : decode cX0_allDrink 2 = .ok (.iconst 0, 1) := dk_3 (dk_at dksX0_allDrink_0 2 rfl rfl)
theorem dX0_allDrink_3 : decode cX0_allDrink 3 = .ok (.istore_n 2, 1) := dk_61 (dk_at dksX0_allDrink_0 3 rfl rfl)
theorem dX0_allDrink_4 : decode cX0_allDrink 4 = .ok (.iload_n 2, 1) := dk_28 (dk_at dksX0_allDrink_0 4 rfl rfl)
theorem dX0_allDrink_5 : decode cX0_allDrink 5 = .ok (.aload_n 0, 1) := dk_42 (dk_at dksX0_allDrink_0 5 rfl rfl)
theorem dX0_allDrink_6 : decode cX0_allDrink 6 = .ok (.getfield 53, 3) := dk_180 0 53 (dk_at dksX0_allDrink_0 6 rfl rfl)
theorem dX0_allDrink_9 : decode cX0_allDrink 9 = .ok (.getfield 132, 3) := dk_180 0 132 (dk_at dksX0_allDrink_0 9 rfl rfl)
theorem dX0_allDrink_12 : decode cX0_allDrink 12 = .ok (.if_icmp .ge 24, 3) := dk_162 0 24 (dk_at dksX0_allDrink_0 12 rfl rfl)
theorem dX0_allDrink_15 : decode cX0_allDrink 15 = .ok (.iload_n 1, 1) := dk_27 (dk_at dksX0_allDrink_0 15 rfl rfl)
theorem dX0_allDrink_16 : decode cX0_allDrink 16 = .ok (.aload_n 0, 1) := dk_42 (dk_at dksX0_allDrink_0 16 rfl rfl)
theorem dX0_allDrink_17 : decode cX0_allDrink 17 = .ok (.getfield 53, 3) := dk_180 0 53 (dk_at dksX0_allDrink_0 17 rfl rfl)
theorem dX0_allDrink_20 : decode cX0_allDrink 20 = .ok (.getfield 209, 3) := dk_180 0 209 (dk_at dksX0_allDrink_0 20 rfl rfl)
theorem dX0_allDrink_23 : decode cX0_allDrink 23 = .ok (.iload_n 2, 1) := dk_28 (dk_at dksX0_allDrink_0 23 rfl rfl)
theorem dX0_allDrink_24 : decode cX0_allDrink 24 = .ok (.aaload, 1) := dk_50 (dk_at dksX0_allDrink_1 0 rfl rfl)
theorem dX0_allDrink_25 : decode cX0_allDrink 25 = .ok (.invokevirtual 212, 3) := dk_182 0 212 (dk_at dksX0_allDrink_1 1 rfl rfl)
theorem dX0_allDrink_28 : decode cX0_allDrink 28 = .ok (.iadd, 1) := dk_96 (dk_at dksX0_allDrink_1 4 rfl rfl)
theorem dX0_allDrink_29 : decode cX0_allDrink 29 = .ok (.istore_n 1, 1) := dk_60 (dk_at dksX0_allDrink_1 5 rfl rfl)
theorem dX0_allDrink_30 : decode cX0_allDrink 30 = .ok (.iinc 2 1, 3) := dk_132 2 1 (dk_at dksX0_allDrink_1 6 rfl rfl)
theorem dX0_allDrink_33 : decode cX0_allDrink 33 = .ok (.goto (-29), 3) := dk_167 255 227 (dk_at dksX0_allDrink_1 9 rfl rfl)
theorem dX0_allDrink_36 : decode cX0_allDrink 36 = .ok (.iload_n 1, 1) := dk_27 (dk_at dksX0_allDrink_1 12 rfl rfl)
theorem dX0_allDrink_37 : decode cX0_allDrink 37 = .ok (.ireturn, 1) := dk_172 (dk_at dksX0_allDrink_1 13 rfl rfl)
abbrev cX0_lastsTold : ByteArray := prog_1_method_59_code
def yX0_lastsTold : MethodName := ⟨RX0, "lastsTold", "(I)I"⟩
def dkwX0_lastsTold_1 : List UInt8 := [167, 0, 14, 42, 180, 0, 53, 180, 0, 124, 27, 46, 28, 108, 172]
abbrev dktX0_lastsTold_1 : List UInt8 := dkwX0_lastsTold_1 ++ []
def dkwX0_lastsTold_0 : List UInt8 := [42, 27, 182, 1, 11, 42, 180, 0, 53, 180, 0, 209, 27, 50, 182, 0, 212, 61, 28, 154, 0, 8, 16, 99]
abbrev dktX0_lastsTold_0 : List UInt8 := dkwX0_lastsTold_0 ++ dktX0_lastsTold_1
theorem dksX0_lastsTold_0 : cX0_lastsTold.data.toList.drop 0 = dktX0_lastsTold_0 := by decide +kernel
theorem dksX0_lastsTold_1 : cX0_lastsTold.data.toList.drop 24 = dktX0_lastsTold_1 := dk_seg dksX0_lastsTold_0 24 rfl rfl
theorem dX0_lastsTold_0 : decode cX0_lastsTold 0 = .ok (.aload_n 0, 1) := dk_42 (dk_at dksX0_lastsTold_0 0 rfl rfl)
theorem dX0_lastsTold_1 : decode cX0_lastsTold 1 = .ok (.iload_n 1, 1) := dk_27 (dk_at dksX0_lastsTold_0 1 rfl rfl)
theorem dX0_lastsTold_2 : decode cX0_lastsTold 2 = .ok (.invokevirtual 267, 3) := dk_182 1 11 (dk_at dksX0_lastsTold_0 2 rfl rfl)
theorem dX0_lastsTold_5 : decode cX0_lastsTold 5 = .ok (.aload_n 0, 1) := dk_42 (dk_at dksX0_lastsTold_0 5 rfl rfl)
theorem dX0_lastsTold_6 : decode cX0_lastsTold 6 = .ok (.getfield 53, 3) := dk_180 0 53 (dk_at dksX0_lastsTold_0 6 rfl rfl)
theorem dX0_lastsTold_9 : decode cX0_lastsTold 9 = .ok (.getfield 209, 3) := dk_180 0 209 (dk_at dksX0_lastsTold_0 9 rfl rfl)
theorem dX0_lastsTold_12 : decode cX0_lastsTold 12 = .ok (.iload_n 1, 1) := dk_27 (dk_at dksX0_lastsTold_0 12 rfl rfl)
theorem dX0_lastsTold_13 : decode cX0_lastsTold 13 = .ok (.aaload, 1) := dk_50 (dk_at dksX0_lastsTold_0 13 rfl rfl)
theorem dX0_lastsTold_14 : decode cX0_lastsTold 14 = .ok (.invokevirtual 212, 3) := dk_182 0 212 (dk_at dksX0_lastsTold_0 14 rfl rfl)
theorem dX0_lastsTold_17 : decode cX0_lastsTold 17 = .ok (.istore_n 2, 1) := dk_61 (dk_at dksX0_lastsTold_0 17 rfl rfl)
theorem dX0_lastsTold_18 : decode cX0_lastsTold 18 = .ok (.iload_n 2, 1) := dk_28 (dk_at dksX0_lastsTold_0 18 rfl rfl)
theorem dX0_lastsTold_19 : decode cX0_lastsTold 19 = .ok (.ifCond .ne 8, 3) := dk_154 0 8 (dk_at dksX0_lastsTold_0 19 rfl rfl)
theorem dX0_lastsTold_22 : decode cX0_lastsTold 22 = .ok (.bipush 99, 2) := dk_16 99 (dk_at dksX0_lastsTold_0 22 rfl rfl)
theorem dX0_lastsTold_24 : decode cX0_lastsTold 24 = .ok (.goto 14, 3) := dk_167 0 14 (dk_at dksX0_lastsTold_1 0 rfl rfl)
theorem dX0_lastsTold_27 : decode cX0_lastsTold 27 = .ok (.aload_n 0, 1) := dk_42 (dk_at dksX0_lastsTold_1 3 rfl rfl)
theorem dX0_lastsTold_28 : decode cX0_lastsTold 28 = .ok (.getfield 53, 3) := dk_180 0 53 (dk_at dksX0_lastsTold_1 4 rfl rfl)
theorem dX0_lastsTold_31 : decode cX0_lastsTold 31 = .ok (.getfield 124, 3) := dk_180 0 124 (dk_at dksX0_lastsTold_1 7 rfl rfl)
theorem dX0_lastsTold_34 : decode cX0_lastsTold 34 = .ok (.iload_n 1, 1) := dk_27 (dk_at dksX0_lastsTold_1 10 rfl rfl)
theorem dX0_lastsTold_35 : decode cX0_lastsTold 35 = .ok (.iaload, 1) := dk_46 (dk_at dksX0_lastsTold_1 11 rfl rfl)
theorem dX0_lastsTold_36 : decode cX0_lastsTold 36 = .ok (.iload_n 2, 1) := dk_28 (dk_at dksX0_lastsTold_1 12 rfl rfl)
theorem dX0_lastsTold_37 : decode cX0_lastsTold 37 = .ok (.idiv, 1) := dk_108 (dk_at dksX0_lastsTold_1 13 rfl rfl)
theorem dX0_lastsTold_38 : decode cX0_lastsTold 38 = .ok (.ireturn, 1) := dk_172 (dk_at dksX0_lastsTold_1 14 rfl rfl)
abbrev cX0_carriesTold : ByteArray := prog_1_method_28_code
def yX0_carriesTold : MethodName := ⟨RX0, "carriesTold", "(I)I"⟩
def dkwX0_carriesTold_5 : List UInt8 := [27, 154, 0, 7, 28, 167, 0, 4, 29, 172]
abbrev dktX0_carriesTold_5 : List UInt8 := dkwX0_carriesTold_5 ++ []
def dkwX0_carriesTold_4 : List UInt8 := [180, 0, 168, 21, 5, 46, 21, 4, 160, 0, 7, 4, 167, 0, 4, 3, 96, 62, 132, 4, 1, 167, 255, 152]
abbrev dktX0_carriesTold_4 : List UInt8 := dkwX0_carriesTold_4 ++ dktX0_carriesTold_5
def dkwX0_carriesTold_3 : List UInt8 := [167, 0, 4, 3, 128, 61, 29, 21, 6, 153, 0, 29, 21, 5, 21, 4, 164, 0, 22, 42, 180, 0, 53]
abbrev dktX0_carriesTold_3 : List UInt8 := dkwX0_carriesTold_3 ++ dktX0_carriesTold_4
def dkwX0_carriesTold_2 : List UInt8 := [180, 0, 132, 162, 0, 7, 4, 167, 0, 4, 3, 54, 6, 28, 21, 6, 153, 0, 10, 4, 21, 5, 120]
abbrev dktX0_carriesTold_2 : List UInt8 := dkwX0_carriesTold_2 ++ dktX0_carriesTold_3
def dkwX0_carriesTold_1 : List UInt8 := [180, 0, 53, 180, 0, 168, 21, 4, 46, 54, 5, 21, 5, 21, 4, 159, 0, 19, 21, 5, 42, 180, 0, 53]
abbrev dktX0_carriesTold_1 : List UInt8 := dkwX0_carriesTold_1 ++ dktX0_carriesTold_2
def dkwX0_carriesTold_0 : List UInt8 := [27, 184, 0, 192, 3, 61, 3, 62, 3, 54, 4, 21, 4, 42, 180, 0, 53, 180, 0, 132, 162, 0, 98, 42]
abbrev dktX0_carriesTold_0 : List UInt8 := dkwX0_carriesTold_0 ++ dktX0_carriesTold_1
theorem dksX0_carriesTold_0 : cX0_carriesTold.data.toList.drop 0 = dktX0_carriesTold_0 := by decide +kernel
theorem dksX0_carriesTold_1 : cX0_carriesTold.data.toList.drop 24 = dktX0_carriesTold_1 := dk_seg dksX0_carriesTold_0 24 rfl rfl
theorem dksX0_carriesTold_2 : cX0_carriesTold.data.toList.drop 48 = dktX0_carriesTold_2 := dk_seg dksX0_carriesTold_1 24 rfl rfl
theorem dksX0_carriesTold_3 : cX0_carriesTold.data.toList.drop 71 = dktX0_carriesTold_3 := dk_seg dksX0_carriesTold_2 23 rfl rfl
theorem dksX0_carriesTold_4 : cX0_carriesTold.data.toList.drop 94 = dktX0_carriesTold_4 := dk_seg dksX0_carriesTold_3 23 rfl rfl
theorem dksX0_carriesTold_5 : cX0_carriesTold.data.toList.drop 118 = dktX0_carriesTold_5 := dk_seg dksX0_carriesTold_4 24 rfl rfl
theorem dX0_carriesTold_0 : decode cX0_carriesTold 0 = .ok (.iload_n 1, 1) := dk_27 (dk_at dksX0_carriesTold_0 0 rfl rfl)
theorem dX0_carriesTold_1 : decode cX0_carriesTold 1 = .ok (.invokestatic 192, 3) := dk_184 0 192 (dk_at dksX0_carriesTold_0 1 rfl rfl)
theorem dX0_carriesTold_4 : decode cX0_carriesTold 4 = .ok (.iconst 0, 1) := dk_3 (dk_at dksX0_carriesTold_0 4 rfl rfl)
theorem dX0_carriesTold_5 : decode cX0_carriesTold 5 = .ok (.istore_n 2, 1) := dk_61 (dk_at dksX0_carriesTold_0 5 rfl rfl)
theorem dX0_carriesTold_6 : decode cX0_carriesTold 6 = .ok (.iconst 0, 1) := dk_3 (dk_at dksX0_carriesTold_0 6 rfl rfl)
theorem dX0_carriesTold_7 : decode cX0_carriesTold 7 = .ok (.istore_n 3, 1) := dk_62 (dk_at dksX0_carriesTold_0 7 rfl rfl)
theorem dX0_carriesTold_8 : decode cX0_carriesTold 8 = .ok (.iconst 0, 1) := dk_3 (dk_at dksX0_carriesTold_0 8 rfl rfl)
theorem dX0_carriesTold_9 : decode cX0_carriesTold 9 = .ok (.istore 4, 2) := dk_54 4 (dk_at dksX0_carriesTold_0 9 rfl rfl)
theorem dX0_carriesTold_11 : decode cX0_carriesTold 11 = .ok (.iload 4, 2) := dk_21 4 (dk_at dksX0_carriesTold_0 11 rfl rfl)
theorem dX0_carriesTold_13 : decode cX0_carriesTold 13 = .ok (.aload_n 0, 1) := dk_42 (dk_at dksX0_carriesTold_0 13 rfl rfl)
theorem dX0_carriesTold_14 : decode cX0_carriesTold 14 = .ok (.getfield 53, 3) := dk_180 0 53 (dk_at dksX0_carriesTold_0 14 rfl rfl)
theorem dX0_carriesTold_17 : decode cX0_carriesTold 17 = .ok (.getfield 132, 3) := dk_180 0 132 (dk_at dksX0_carriesTold_0 17 rfl rfl)
theorem dX0_carriesTold_20 : decode cX0_carriesTold 20 = .ok (.if_icmp .ge 98, 3) := dk_162 0 98 (dk_at dksX0_carriesTold_0 20 rfl rfl)
theorem dX0_carriesTold_23 : decode cX0_carriesTold 23 = .ok (.aload_n 0, 1) := dk_42 (dk_at dksX0_carriesTold_0 23 rfl rfl)
theorem dX0_carriesTold_24 : decode cX0_carriesTold 24 = .ok (.getfield 53, 3) := dk_180 0 53 (dk_at dksX0_carriesTold_1 0 rfl rfl)
theorem dX0_carriesTold_27 : decode cX0_carriesTold 27 = .ok (.getfield 168, 3) := dk_180 0 168 (dk_at dksX0_carriesTold_1 3 rfl rfl)
theorem dX0_carriesTold_30 : decode cX0_carriesTold 30 = .ok (.iload 4, 2) := dk_21 4 (dk_at dksX0_carriesTold_1 6 rfl rfl)
theorem dX0_carriesTold_32 : decode cX0_carriesTold 32 = .ok (.iaload, 1) := dk_46 (dk_at dksX0_carriesTold_1 8 rfl rfl)
theorem dX0_carriesTold_33 : decode cX0_carriesTold 33 = .ok (.istore 5, 2) := dk_54 5 (dk_at dksX0_carriesTold_1 9 rfl rfl)
theorem dX0_carriesTold_35 : decode cX0_carriesTold 35 = .ok (.iload 5, 2) := dk_21 5 (dk_at dksX0_carriesTold_1 11 rfl rfl)
theorem dX0_carriesTold_37 : decode cX0_carriesTold 37 = .ok (.iload 4, 2) := dk_21 4 (dk_at dksX0_carriesTold_1 13 rfl rfl)
theorem dX0_carriesTold_39 : decode cX0_carriesTold 39 = .ok (.if_icmp .eq 19, 3) := dk_159 0 19 (dk_at dksX0_carriesTold_1 15 rfl rfl)
theorem dX0_carriesTold_42 : decode cX0_carriesTold 42 = .ok (.iload 5, 2) := dk_21 5 (dk_at dksX0_carriesTold_1 18 rfl rfl)
theorem dX0_carriesTold_44 : decode cX0_carriesTold 44 = .ok (.aload_n 0, 1) := dk_42 (dk_at dksX0_carriesTold_1 20 rfl rfl)
theorem dX0_carriesTold_45 : decode cX0_carriesTold 45 = .ok (.getfield 53, 3) := dk_180 0 53 (dk_at dksX0_carriesTold_1 21 rfl rfl)
theorem dX0_carriesTold_48 : decode cX0_carriesTold 48 = .ok (.getfield 132, 3) := dk_180 0 132 (dk_at dksX0_carriesTold_2 0 rfl rfl)
theorem dX0_carriesTold_51 : decode cX0_carriesTold 51 = .ok (.if_icmp .ge 7, 3) := dk_162 0 7 (dk_at dksX0_carriesTold_2 3 rfl rfl)
theorem dX0_carriesTold_54 : decode cX0_carriesTold 54 = .ok (.iconst 1, 1) := dk_4 (dk_at dksX0_carriesTold_2 6 rfl rfl)
theorem dX0_carriesTold_55 : decode cX0_carriesTold 55 = .ok (.goto 4, 3) := dk_167 0 4 (dk_at dksX0_carriesTold_2 7 rfl rfl)
theorem dX0_carriesTold_58 : decode cX0_carriesTold 58 = .ok (.iconst 0, 1) := dk_3 (dk_at dksX0_carriesTold_2 10 rfl rfl)
theorem dX0_carriesTold_59 : decode cX0_carriesTold 59 = .ok (.istore 6, 2) := dk_54 6 (dk_at dksX0_carriesTold_2 11 rfl rfl)
theorem dX0_carriesTold_61 : decode cX0_carriesTold 61 = .ok (.iload_n 2, 1) := dk_28 (dk_at dksX0_carriesTold_2 13 rfl rfl)
theorem dX0_carriesTold_62 : decode cX0_carriesTold 62 = .ok (.iload 6, 2) := dk_21 6 (dk_at dksX0_carriesTold_2 14 rfl rfl)
theorem dX0_carriesTold_64 : decode cX0_carriesTold 64 = .ok (.ifCond .eq 10, 3) := dk_153 0 10 (dk_at dksX0_carriesTold_2 16 rfl rfl)
theorem dX0_carriesTold_67 : decode cX0_carriesTold 67 = .ok (.iconst 1, 1) := dk_4 (dk_at dksX0_carriesTold_2 19 rfl rfl)
theorem dX0_carriesTold_68 : decode cX0_carriesTold 68 = .ok (.iload 5, 2) := dk_21 5 (dk_at dksX0_carriesTold_2 20 rfl rfl)
theorem dX0_carriesTold_70 : decode cX0_carriesTold 70 = .ok (.ishl, 1) := dk_120 (dk_at dksX0_carriesTold_2 22 rfl rfl)
theorem dX0_carriesTold_71 : decode cX0_carriesTold 71 = .ok (.goto 4, 3) := dk_167 0 4 (dk_at dksX0_carriesTold_3 0 rfl rfl)
theorem dX0_carriesTold_74 : decode cX0_carriesTold 74 = .ok (.iconst 0, 1) := dk_3 (dk_at dksX0_carriesTold_3 3 rfl rfl)
theorem dX0_carriesTold_75 : decode cX0_carriesTold 75 = .ok (.ior, 1) := dk_128 (dk_at dksX0_carriesTold_3 4 rfl rfl)
theorem dX0_carriesTold_76 : decode cX0_carriesTold 76 = .ok (.istore_n 2, 1) := dk_61 (dk_at dksX0_carriesTold_3 5 rfl rfl)
theorem dX0_carriesTold_77 : decode cX0_carriesTold 77 = .ok (.iload_n 3, 1) := dk_29 (dk_at dksX0_carriesTold_3 6 rfl rfl)
theorem dX0_carriesTold_78 : decode cX0_carriesTold 78 = .ok (.iload 6, 2) := dk_21 6 (dk_at dksX0_carriesTold_3 7 rfl rfl)
theorem dX0_carriesTold_80 : decode cX0_carriesTold 80 = .ok (.ifCond .eq 29, 3) := dk_153 0 29 (dk_at dksX0_carriesTold_3 9 rfl rfl)
theorem dX0_carriesTold_83 : decode cX0_carriesTold 83 = .ok (.iload 5, 2) := dk_21 5 (dk_at dksX0_carriesTold_3 12 rfl rfl)
theorem dX0_carriesTold_85 : decode cX0_carriesTold 85 = .ok (.iload 4, 2) := dk_21 4 (dk_at dksX0_carriesTold_3 14 rfl rfl)
theorem dX0_carriesTold_87 : decode cX0_carriesTold 87 = .ok (.if_icmp .le 22, 3) := dk_164 0 22 (dk_at dksX0_carriesTold_3 16 rfl rfl)
theorem dX0_carriesTold_90 : decode cX0_carriesTold 90 = .ok (.aload_n 0, 1) := dk_42 (dk_at dksX0_carriesTold_3 19 rfl rfl)
theorem dX0_carriesTold_91 : decode cX0_carriesTold 91 = .ok (.getfield 53, 3) := dk_180 0 53 (dk_at dksX0_carriesTold_3 20 rfl rfl)
theorem dX0_carriesTold_94 : decode cX0_carriesTold 94 = .ok (.getfield 168, 3) := dk_180 0 168 (dk_at dksX0_carriesTold_4 0 rfl rfl)
theorem dX0_carriesTold_97 : decode cX0_carriesTold 97 = .ok (.iload 5, 2) := dk_21 5 (dk_at dksX0_carriesTold_4 3 rfl rfl)
theorem dX0_carriesTold_99 : decode cX0_carriesTold 99 = .ok (.iaload, 1) := dk_46 (dk_at dksX0_carriesTold_4 5 rfl rfl)
theorem dX0_carriesTold_100 : decode cX0_carriesTold 100 = .ok (.iload 4, 2) := dk_21 4 (dk_at dksX0_carriesTold_4 6 rfl rfl)
theorem dX0_carriesTold_102 : decode cX0_carriesTold 102 = .ok (.if_icmp .ne 7, 3) := dk_160 0 7 (dk_at dksX0_carriesTold_4 8 rfl rfl)
theorem dX0_carriesTold_105 : decode cX0_carriesTold 105 = .ok (.iconst 1, 1) := dk_4 (dk_at dksX0_carriesTold_4 11 rfl rfl)
theorem dX0_carriesTold_106 : decode cX0_carriesTold 106 = .ok (.goto 4, 3) := dk_167 0 4 (dk_at dksX0_carriesTold_4 12 rfl rfl)
theorem dX0_carriesTold_109 : decode cX0_carriesTold 109 = .ok (.iconst 0, 1) := dk_3 (dk_at dksX0_carriesTold_4 15 rfl rfl)
theorem dX0_carriesTold_110 : decode cX0_carriesTold 110 = .ok (.iadd, 1) := dk_96 (dk_at dksX0_carriesTold_4 16 rfl rfl)
theorem dX0_carriesTold_111 : decode cX0_carriesTold 111 = .ok (.istore_n 3, 1) := dk_62 (dk_at dksX0_carriesTold_4 17 rfl rfl)
theorem dX0_carriesTold_112 : decode cX0_carriesTold 112 = .ok (.iinc 4 1, 3) := dk_132 4 1 (dk_at dksX0_carriesTold_4 18 rfl rfl)
theorem dX0_carriesTold_115 : decode cX0_carriesTold 115 = .ok (.goto (-104), 3) := dk_167 255 152 (dk_at dksX0_carriesTold_4 21 rfl rfl)
theorem dX0_carriesTold_118 : decode cX0_carriesTold 118 = .ok (.iload_n 1, 1) := dk_27 (dk_at dksX0_carriesTold_5 0 rfl rfl)
theorem dX0_carriesTold_119 : decode cX0_carriesTold 119 = .ok (.ifCond .ne 7, 3) := dk_154 0 7 (dk_at dksX0_carriesTold_5 1 rfl rfl)
theorem dX0_carriesTold_122 : decode cX0_carriesTold 122 = .ok (.iload_n 2, 1) := dk_28 (dk_at dksX0_carriesTold_5 4 rfl rfl)
theorem dX0_carriesTold_123 : decode cX0_carriesTold 123 = .ok (.goto 4, 3) := dk_167 0 4 (dk_at dksX0_carriesTold_5 5 rfl rfl)
theorem dX0_carriesTold_126 : decode cX0_carriesTold 126 = .ok (.iload_n 3, 1) := dk_29 (dk_at dksX0_carriesTold_5 8 rfl rfl)
theorem dX0_carriesTold_127 : decode cX0_carriesTold 127 = .ok (.ireturn, 1) := dk_172 (dk_at dksX0_carriesTold_5 9 rfl rfl)
abbrev cX0_twoTold : ByteArray := prog_1_method_60_code
def yX0_twoTold : MethodName := ⟨RX0, "twoTold", "(III)I"⟩
def dkwX0_twoTold_1 : List UInt8 := [29, 133, 9, 20, 0, 186, 184, 0, 188, 42, 27, 28, 29, 182, 1, 114, 172]
abbrev dktX0_twoTold_1 : List UInt8 := dkwX0_twoTold_1 ++ []
def dkwX0_twoTold_0 : List UInt8 := [42, 27, 182, 1, 11, 42, 28, 182, 1, 11, 27, 28, 159, 0, 7, 4, 167, 0, 4, 3, 2, 184, 0, 9]
abbrev dktX0_twoTold_0 : List UInt8 := dkwX0_twoTold_0 ++ dktX0_twoTold_1
theorem dksX0_twoTold_0 : cX0_twoTold.data.toList.drop 0 = dktX0_twoTold_0 := by decide +kernel
theorem dksX0_twoTold_1 : cX0_twoTold.data.toList.drop 24 = dktX0_twoTold_1 := dk_seg dksX0_twoTold_0 24 rfl rfl
theorem dX0_twoTold_0 : decode cX0_twoTold 0 = .ok (.aload_n 0, 1) := dk_42 (dk_at dksX0_twoTold_0 0 rfl rfl)
theorem dX0_twoTold_1 : decode cX0_twoTold 1 = .ok (.iload_n 1, 1) := dk_27 (dk_at dksX0_twoTold_0 1 rfl rfl)
theorem dX0_twoTold_2 : decode cX0_twoTold 2 = .ok (.invokevirtual 267, 3) := dk_182 1 11 (dk_at dksX0_twoTold_0 2 rfl rfl)
theorem dX0_twoTold_5 : decode cX0_twoTold 5 = .ok (.aload_n 0, 1) := dk_42 (dk_at dksX0_twoTold_0 5 rfl rfl)
theorem dX0_twoTold_6 : decode cX0_twoTold 6 = .ok (.iload_n 2, 1) := dk_28 (dk_at dksX0_twoTold_0 6 rfl rfl)
theorem dX0_twoTold_7 : decode cX0_twoTold 7 = .ok (.invokevirtual 267, 3) := dk_182 1 11 (dk_at dksX0_twoTold_0 7 rfl rfl)
theorem dX0_twoTold_10 : decode cX0_twoTold 10 = .ok (.iload_n 1, 1) := dk_27 (dk_at dksX0_twoTold_0 10 rfl rfl)
theorem dX0_twoTold_11 : decode cX0_twoTold 11 = .ok (.iload_n 2, 1) := dk_28 (dk_at dksX0_twoTold_0 11 rfl rfl)
theorem dX0_twoTold_12 : decode cX0_twoTold 12 = .ok (.if_icmp .eq 7, 3) := dk_159 0 7 (dk_at dksX0_twoTold_0 12 rfl rfl)
theorem dX0_twoTold_15 : decode cX0_twoTold 15 = .ok (.iconst 1, 1) := dk_4 (dk_at dksX0_twoTold_0 15 rfl rfl)
theorem dX0_twoTold_16 : decode cX0_twoTold 16 = .ok (.goto 4, 3) := dk_167 0 4 (dk_at dksX0_twoTold_0 16 rfl rfl)
theorem dX0_twoTold_19 : decode cX0_twoTold 19 = .ok (.iconst 0, 1) := dk_3 (dk_at dksX0_twoTold_0 19 rfl rfl)
theorem dX0_twoTold_20 : decode cX0_twoTold 20 = .ok (.iconst (-1), 1) := dk_2 (dk_at dksX0_twoTold_0 20 rfl rfl)
theorem dX0_twoTold_21 : decode cX0_twoTold 21 = .ok (.invokestatic 9, 3) := dk_184 0 9 (dk_at dksX0_twoTold_0 21 rfl rfl)
theorem dX0_twoTold_24 : decode cX0_twoTold 24 = .ok (.iload_n 3, 1) := dk_29 (dk_at dksX0_twoTold_1 0 rfl rfl)
theorem dX0_twoTold_25 : decode cX0_twoTold 25 = .ok (.i2l, 1) := dk_133 (dk_at dksX0_twoTold_1 1 rfl rfl)
theorem dX0_twoTold_26 : decode cX0_twoTold 26 = .ok (.lconst 0, 1) := dk_9 (dk_at dksX0_twoTold_1 2 rfl rfl)
theorem dX0_twoTold_27 : decode cX0_twoTold 27 = .ok (.ldc2_w 186, 3) := dk_20 0 186 (dk_at dksX0_twoTold_1 3 rfl rfl)
theorem dX0_twoTold_30 : decode cX0_twoTold 30 = .ok (.invokestatic 188, 3) := dk_184 0 188 (dk_at dksX0_twoTold_1 6 rfl rfl)
theorem dX0_twoTold_33 : decode cX0_twoTold 33 = .ok (.aload_n 0, 1) := dk_42 (dk_at dksX0_twoTold_1 9 rfl rfl)
theorem dX0_twoTold_34 : decode cX0_twoTold 34 = .ok (.iload_n 1, 1) := dk_27 (dk_at dksX0_twoTold_1 10 rfl rfl)
theorem dX0_twoTold_35 : decode cX0_twoTold 35 = .ok (.iload_n 2, 1) := dk_28 (dk_at dksX0_twoTold_1 11 rfl rfl)
theorem dX0_twoTold_36 : decode cX0_twoTold 36 = .ok (.iload_n 3, 1) := dk_29 (dk_at dksX0_twoTold_1 12 rfl rfl)
theorem dX0_twoTold_37 : decode cX0_twoTold 37 = .ok (.invokevirtual 370, 3) := dk_182 1 114 (dk_at dksX0_twoTold_1 13 rfl rfl)
theorem dX0_twoTold_40 : decode cX0_twoTold 40 = .ok (.ireturn, 1) := dk_172 (dk_at dksX0_twoTold_1 16 rfl rfl)
abbrev cX0_restingWords : ByteArray := prog_1_method_29_code
def yX0_restingWords : MethodName := ⟨RX0, "restingWords", "(III)I"⟩
def dkwX0_restingWords_6 : List UInt8 := [21, 4, 5, 108, 104, 21, 4, 5, 112, 96, 172, 132, 4, 1, 167, 255, 196, 16, 247, 172]
abbrev dktX0_restingWords_6 : List UInt8 := dkwX0_restingWords_6 ++ []
def dkwX0_restingWords_5 : List UInt8 := [161, 0, 35, 42, 180, 0, 78, 21, 4, 46, 42, 180, 0, 78, 21, 4, 4, 130, 46, 161, 0, 16, 16, 10]
abbrev dktX0_restingWords_5 : List UInt8 := dkwX0_restingWords_5 ++ dktX0_restingWords_6
def dkwX0_restingWords_4 : List UInt8 := [54, 4, 21, 4, 7, 162, 0, 60, 42, 180, 0, 75, 21, 4, 46, 42, 180, 0, 75, 21, 4, 5, 130, 46]
abbrev dktX0_restingWords_4 : List UInt8 := dkwX0_restingWords_4 ++ dktX0_restingWords_5
def dkwX0_restingWords_3 : List UInt8 := [21, 4, 25, 5, 180, 0, 124, 28, 46, 21, 4, 5, 112, 5, 104, 96, 79, 132, 4, 1, 167, 255, 169, 3]
abbrev dktX0_restingWords_3 : List UInt8 := dkwX0_restingWords_3 ++ dktX0_restingWords_4
def dkwX0_restingWords_2 : List UInt8 := [180, 0, 75, 21, 4, 25, 5, 180, 0, 124, 27, 46, 21, 4, 5, 108, 5, 104, 96, 79, 42, 180, 0, 78]
abbrev dktX0_restingWords_2 : List UInt8 := dkwX0_restingWords_2 ++ dktX0_restingWords_3
def dkwX0_restingWords_1 : List UInt8 := [108, 27, 120, 21, 4, 5, 112, 28, 120, 128, 128, 181, 0, 183, 25, 5, 29, 182, 0, 120, 87, 42]
abbrev dktX0_restingWords_1 : List UInt8 := dkwX0_restingWords_1 ++ dktX0_restingWords_2
def dkwX0_restingWords_0 : List UInt8 := [3, 54, 4, 21, 4, 7, 162, 0, 87, 42, 182, 0, 116, 58, 5, 25, 5, 89, 180, 0, 183, 21, 4, 5]
abbrev dktX0_restingWords_0 : List UInt8 := dkwX0_restingWords_0 ++ dktX0_restingWords_1
theorem dksX0_restingWords_0 : cX0_restingWords.data.toList.drop 0 = dktX0_restingWords_0 := by decide +kernel
theorem dksX0_restingWords_1 : cX0_restingWords.data.toList.drop 24 = dktX0_restingWords_1 := dk_seg dksX0_restingWords_0 24 rfl rfl
theorem dksX0_restingWords_2 : cX0_restingWords.data.toList.drop 46 = dktX0_restingWords_2 := dk_seg dksX0_restingWords_1 22 rfl rfl
theorem dksX0_restingWords_3 : cX0_restingWords.data.toList.drop 70 = dktX0_restingWords_3 := dk_seg dksX0_restingWords_2 24 rfl rfl
theorem dksX0_restingWords_4 : cX0_restingWords.data.toList.drop 94 = dktX0_restingWords_4 := dk_seg dksX0_restingWords_3 24 rfl rfl
theorem dksX0_restingWords_5 : cX0_restingWords.data.toList.drop 118 = dktX0_restingWords_5 := dk_seg dksX0_restingWords_4 24 rfl rfl
theorem dksX0_restingWords_6 : cX0_restingWords.data.toList.drop 142 = dktX0_restingWords_6 := dk_seg dksX0_restingWords_5 24 rfl rfl
theorem dX0_restingWords_0 : decode cX0_restingWords 0 = .ok (.iconst 0, 1) := dk_3 (dk_at dksX0_restingWords_0 0 rfl rfl)
theorem dX0_restingWords_1 : decode cX0_restingWords 1 = .ok (.istore 4, 2) := dk_54 4 (dk_at dksX0_restingWords_0 1 rfl rfl)
theorem dX0_restingWords_3 : decode cX0_restingWords 3 = .ok (.iload 4, 2) := dk_21 4 (dk_at dksX0_restingWords_0 3 rfl rfl)
theorem dX0_restingWords_5 : decode cX0_restingWords 5 = .ok (.iconst 4, 1) := dk_7 (dk_at dksX0_restingWords_0 5 rfl rfl)
theorem dX0_restingWords_6 : decode cX0_restingWords 6 = .ok (.if_icmp .ge 87, 3) := dk_162 0 87 (dk_at dksX0_restingWords_0 6 rfl rfl)
theorem dX0_restingWords_9 : decode cX0_restingWords 9 = .ok (.aload_n 0, 1) := dk_42 (dk_at dksX0_restingWords_0 9 rfl rfl)
theorem dX0_restingWords_10 : decode cX0_restingWords 10 = .ok (.invokevirtual 116, 3) := dk_182 0 116 (dk_at dksX0_restingWords_0 10 rfl rfl)
theorem dX0_restingWords_13 : decode cX0_restingWords 13 = .ok (.astore 5, 2) := dk_58 5 (dk_at dksX0_restingWords_0 13 rfl rfl)
theorem dX0_restingWords_15 : decode cX0_restingWords 15 = .ok (.aload 5, 2) := dk_25 5 (dk_at dksX0_restingWords_0 15 rfl rfl)
theorem dX0_restingWords_17 : decode cX0_restingWords 17 = .ok (.dup, 1) := dk_89 (dk_at dksX0_restingWords_0 17 rfl rfl)
theorem dX0_restingWords_18 : decode cX0_restingWords 18 = .ok (.getfield 183, 3) := dk_180 0 183 (dk_at dksX0_restingWords_0 18 rfl rfl)
theorem dX0_restingWords_21 : decode cX0_restingWords 21 = .ok (.iload 4, 2) := dk_21 4 (dk_at dksX0_restingWords_0 21 rfl rfl)
theorem dX0_restingWords_23 : decode cX0_restingWords 23 = .ok (.iconst 2, 1) := dk_5 (dk_at dksX0_restingWords_0 23 rfl rfl)
theorem dX0_restingWords_24 : decode cX0_restingWords 24 = .ok (.idiv, 1) := dk_108 (dk_at dksX0_restingWords_1 0 rfl rfl)
theorem dX0_restingWords_25 : decode cX0_restingWords 25 = .ok (.iload_n 1, 1) := dk_27 (dk_at dksX0_restingWords_1 1 rfl rfl)
theorem dX0_restingWords_26 : decode cX0_restingWords 26 = .ok (.ishl, 1) := dk_120 (dk_at dksX0_restingWords_1 2 rfl rfl)
theorem dX0_restingWords_27 : decode cX0_restingWords 27 = .ok (.iload 4, 2) := dk_21 4 (dk_at dksX0_restingWords_1 3 rfl rfl)
theorem dX0_restingWords_29 : decode cX0_restingWords 29 = .ok (.iconst 2, 1) := dk_5 (dk_at dksX0_restingWords_1 5 rfl rfl)
theorem dX0_restingWords_30 : decode cX0_restingWords 30 = .ok (.irem, 1) := dk_112 (dk_at dksX0_restingWords_1 6 rfl rfl)
theorem dX0_restingWords_31 : decode cX0_restingWords 31 = .ok (.iload_n 2, 1) := dk_28 (dk_at dksX0_restingWords_1 7 rfl rfl)
theorem dX0_restingWords_32 : decode cX0_restingWords 32 = .ok (.ishl, 1) := dk_120 (dk_at dksX0_restingWords_1 8 rfl rfl)
theorem dX0_restingWords_33 : decode cX0_restingWords 33 = .ok (.ior, 1) := dk_128 (dk_at dksX0_restingWords_1 9 rfl rfl)
theorem dX0_restingWords_34 : decode cX0_restingWords 34 = .ok (.ior, 1) := dk_128 (dk_at dksX0_restingWords_1 10 rfl rfl)
theorem dX0_restingWords_35 : decode cX0_restingWords 35 = .ok (.putfield 183, 3) := dk_181 0 183 (dk_at dksX0_restingWords_1 11 rfl rfl)
theorem dX0_restingWords_38 : decode cX0_restingWords 38 = .ok (.aload 5, 2) := dk_25 5 (dk_at dksX0_restingWords_1 14 rfl rfl)
theorem dX0_restingWords_40 : decode cX0_restingWords 40 = .ok (.iload_n 3, 1) := dk_29 (dk_at dksX0_restingWords_1 16 rfl rfl)
theorem dX0_restingWords_41 : decode cX0_restingWords 41 = .ok (.invokevirtual 120, 3) := dk_182 0 120 (dk_at dksX0_restingWords_1 17 rfl rfl)
theorem dX0_restingWords_44 : decode cX0_restingWords 44 = .ok (.pop, 1) := dk_87 (dk_at dksX0_restingWords_1 20 rfl rfl)
theorem dX0_restingWords_45 : decode cX0_restingWords 45 = .ok (.aload_n 0, 1) := dk_42 (dk_at dksX0_restingWords_1 21 rfl rfl)
theorem dX0_restingWords_46 : decode cX0_restingWords 46 = .ok (.getfield 75, 3) := dk_180 0 75 (dk_at dksX0_restingWords_2 0 rfl rfl)
theorem dX0_restingWords_49 : decode cX0_restingWords 49 = .ok (.iload 4, 2) := dk_21 4 (dk_at dksX0_restingWords_2 3 rfl rfl)
theorem dX0_restingWords_51 : decode cX0_restingWords 51 = .ok (.aload 5, 2) := dk_25 5 (dk_at dksX0_restingWords_2 5 rfl rfl)
theorem dX0_restingWords_53 : decode cX0_restingWords 53 = .ok (.getfield 124, 3) := dk_180 0 124 (dk_at dksX0_restingWords_2 7 rfl rfl)
theorem dX0_restingWords_56 : decode cX0_restingWords 56 = .ok (.iload_n 1, 1) := dk_27 (dk_at dksX0_restingWords_2 10 rfl rfl)
theorem dX0_restingWords_57 : decode cX0_restingWords 57 = .ok (.iaload, 1) := dk_46 (dk_at dksX0_restingWords_2 11 rfl rfl)
theorem dX0_restingWords_58 : decode cX0_restingWords 58 = .ok (.iload 4, 2) := dk_21 4 (dk_at dksX0_restingWords_2 12 rfl rfl)
theorem dX0_restingWords_60 : decode cX0_restingWords 60 = .ok (.iconst 2, 1) := dk_5 (dk_at dksX0_restingWords_2 14 rfl rfl)
theorem dX0_restingWords_61 : decode cX0_restingWords 61 = .ok (.idiv, 1) := dk_108 (dk_at dksX0_restingWords_2 15 rfl rfl)
theorem dX0_restingWords_62 : decode cX0_restingWords 62 = .ok (.iconst 2, 1) := dk_5 (dk_at dksX0_restingWords_2 16 rfl rfl)
theorem dX0_restingWords_63 : decode cX0_restingWords 63 = .ok (.imul, 1) := dk_104 (dk_at dksX0_restingWords_2 17 rfl rfl)
theorem dX0_restingWords_64 : decode cX0_restingWords 64 = .ok (.iadd, 1) := dk_96 (dk_at dksX0_restingWords_2 18 rfl rfl)
theorem dX0_restingWords_65 : decode cX0_restingWords 65 = .ok (.iastore, 1) := dk_79 (dk_at dksX0_restingWords_2 19 rfl rfl)
theorem dX0_restingWords_66 : decode cX0_restingWords 66 = .ok (.aload_n 0, 1) := dk_42 (dk_at dksX0_restingWords_2 20 rfl rfl)
theorem dX0_restingWords_67 : decode cX0_restingWords 67 = .ok (.getfield 78, 3) := dk_180 0 78 (dk_at dksX0_restingWords_2 21 rfl rfl)
theorem dX0_restingWords_70 : decode cX0_restingWords 70 = .ok (.iload 4, 2) := dk_21 4 (dk_at dksX0_restingWords_3 0 rfl rfl)
theorem dX0_restingWords_72 : decode cX0_restingWords 72 = .ok (.aload 5, 2) := dk_25 5 (dk_at dksX0_restingWords_3 2 rfl rfl)
theorem dX0_restingWords_74 : decode cX0_restingWords 74 = .ok (.getfield 124, 3) := dk_180 0 124 (dk_at dksX0_restingWords_3 4 rfl rfl)
theorem dX0_restingWords_77 : decode cX0_restingWords 77 = .ok (.iload_n 2, 1) := dk_28 (dk_at dksX0_restingWords_3 7 rfl rfl)
theorem dX0_restingWords_78 : decode cX0_restingWords 78 = .ok (.iaload, 1) := dk_46 (dk_at dksX0_restingWords_3 8 rfl rfl)
theorem dX0_restingWords_79 : decode cX0_restingWords 79 = .ok (.iload 4, 2) := dk_21 4 (dk_at dksX0_restingWords_3 9 rfl rfl)
theorem dX0_restingWords_81 : decode cX0_restingWords 81 = .ok (.iconst 2, 1) := dk_5 (dk_at dksX0_restingWords_3 11 rfl rfl)
theorem dX0_restingWords_82 : decode cX0_restingWords 82 = .ok (.irem, 1) := dk_112 (dk_at dksX0_restingWords_3 12 rfl rfl)
theorem dX0_restingWords_83 : decode cX0_restingWords 83 = .ok (.iconst 2, 1) := dk_5 (dk_at dksX0_restingWords_3 13 rfl rfl)
theorem dX0_restingWords_84 : decode cX0_restingWords 84 = .ok (.imul, 1) := dk_104 (dk_at dksX0_restingWords_3 14 rfl rfl)
theorem dX0_restingWords_85 : decode cX0_restingWords 85 = .ok (.iadd, 1) := dk_96 (dk_at dksX0_restingWords_3 15 rfl rfl)
theorem dX0_restingWords_86 : decode cX0_restingWords 86 = .ok (.iastore, 1) := dk_79 (dk_at dksX0_restingWords_3 16 rfl rfl)
theorem dX0_restingWords_87 : decode cX0_restingWords 87 = .ok (.iinc 4 1, 3) := dk_132 4 1 (dk_at dksX0_restingWords_3 17 rfl rfl)
theorem dX0_restingWords_90 : decode cX0_restingWords 90 = .ok (.goto (-87), 3) := dk_167 255 169 (dk_at dksX0_restingWords_3 20 rfl rfl)
theorem dX0_restingWords_93 : decode cX0_restingWords 93 = .ok (.iconst 0, 1) := dk_3 (dk_at dksX0_restingWords_3 23 rfl rfl)
theorem dX0_restingWords_94 : decode cX0_restingWords 94 = .ok (.istore 4, 2) := dk_54 4 (dk_at dksX0_restingWords_4 0 rfl rfl)
theorem dX0_restingWords_96 : decode cX0_restingWords 96 = .ok (.iload 4, 2) := dk_21 4 (dk_at dksX0_restingWords_4 2 rfl rfl)
theorem dX0_restingWords_98 : decode cX0_restingWords 98 = .ok (.iconst 4, 1) := dk_7 (dk_at dksX0_restingWords_4 4 rfl rfl)
theorem dX0_restingWords_99 : decode cX0_restingWords 99 = .ok (.if_icmp .ge 60, 3) := dk_162 0 60 (dk_at dksX0_restingWords_4 5 rfl rfl)
theorem dX0_restingWords_102 : decode cX0_restingWords 102 = .ok (.aload_n 0, 1) := dk_42 (dk_at dksX0_restingWords_4 8 rfl rfl)
theorem dX0_restingWords_103 : decode cX0_restingWords 103 = .ok (.getfield 75, 3) := dk_180 0 75 (dk_at dksX0_restingWords_4 9 rfl rfl)
theorem dX0_restingWords_106 : decode cX0_restingWords 106 = .ok (.iload 4, 2) := dk_21 4 (dk_at dksX0_restingWords_4 12 rfl rfl)
theorem dX0_restingWords_108 : decode cX0_restingWords 108 = .ok (.iaload, 1) := dk_46 (dk_at dksX0_restingWords_4 14 rfl rfl)
theorem dX0_restingWords_109 : decode cX0_restingWords 109 = .ok (.aload_n 0, 1) := dk_42 (dk_at dksX0_restingWords_4 15 rfl rfl)
theorem dX0_restingWords_110 : decode cX0_restingWords 110 = .ok (.getfield 75, 3) := dk_180 0 75 (dk_at dksX0_restingWords_4 16 rfl rfl)
theorem dX0_restingWords_113 : decode cX0_restingWords 113 = .ok (.iload 4, 2) := dk_21 4 (dk_at dksX0_restingWords_4 19 rfl rfl)
theorem dX0_restingWords_115 : decode cX0_restingWords 115 = .ok (.iconst 2, 1) := dk_5 (dk_at dksX0_restingWords_4 21 rfl rfl)
theorem dX0_restingWords_116 : decode cX0_restingWords 116 = .ok (.ixor, 1) := dk_130 (dk_at dksX0_restingWords_4 22 rfl rfl)
theorem dX0_restingWords_117 : decode cX0_restingWords 117 = .ok (.iaload, 1) := dk_46 (dk_at dksX0_restingWords_4 23 rfl rfl)
theorem dX0_restingWords_118 : decode cX0_restingWords 118 = .ok (.if_icmp .lt 35, 3) := dk_161 0 35 (dk_at dksX0_restingWords_5 0 rfl rfl)
theorem dX0_restingWords_121 : decode cX0_restingWords 121 = .ok (.aload_n 0, 1) := dk_42 (dk_at dksX0_restingWords_5 3 rfl rfl)
theorem dX0_restingWords_122 : decode cX0_restingWords 122 = .ok (.getfield 78, 3) := dk_180 0 78 (dk_at dksX0_restingWords_5 4 rfl rfl)
theorem dX0_restingWords_125 : decode cX0_restingWords 125 = .ok (.iload 4, 2) := dk_21 4 (dk_at dksX0_restingWords_5 7 rfl rfl)
theorem dX0_restingWords_127 : decode cX0_restingWords 127 = .ok (.iaload, 1) := dk_46 (dk_at dksX0_restingWords_5 9 rfl rfl)
theorem dX0_restingWords_128 : decode cX0_restingWords 128 = .ok (.aload_n 0, 1) := dk_42 (dk_at dksX0_restingWords_5 10 rfl rfl)
theorem dX0_restingWords_129 : decode cX0_restingWords 129 = .ok (.getfield 78, 3) := dk_180 0 78 (dk_at dksX0_restingWords_5 11 rfl rfl)
theorem dX0_restingWords_132 : decode cX0_restingWords 132 = .ok (.iload 4, 2) := dk_21 4 (dk_at dksX0_restingWords_5 14 rfl rfl)
theorem dX0_restingWords_134 : decode cX0_restingWords 134 = .ok (.iconst 1, 1) := dk_4 (dk_at dksX0_restingWords_5 16 rfl rfl)
theorem dX0_restingWords_135 : decode cX0_restingWords 135 = .ok (.ixor, 1) := dk_130 (dk_at dksX0_restingWords_5 17 rfl rfl)
theorem dX0_restingWords_136 : decode cX0_restingWords 136 = .ok (.iaload, 1) := dk_46 (dk_at dksX0_restingWords_5 18 rfl rfl)
theorem dX0_restingWords_137 : decode cX0_restingWords 137 = .ok (.if_icmp .lt 16, 3) := dk_161 0 16 (dk_at dksX0_restingWords_5 19 rfl rfl)
theorem dX0_restingWords_140 : decode cX0_restingWords 140 = .ok (.bipush 10, 2) := dk_16 10 (dk_at dksX0_restingWords_5 22 rfl rfl)
theorem dX0_restingWords_142 : decode cX0_restingWords 142 = .ok (.iload 4, 2) := dk_21 4 (dk_at dksX0_restingWords_6 0 rfl rfl)
theorem dX0_restingWords_144 : decode cX0_restingWords 144 = .ok (.iconst 2, 1) := dk_5 (dk_at dksX0_restingWords_6 2 rfl rfl)
theorem dX0_restingWords_145 : decode cX0_restingWords 145 = .ok (.idiv, 1) := dk_108 (dk_at dksX0_restingWords_6 3 rfl rfl)
theorem dX0_restingWords_146 : decode cX0_restingWords 146 = .ok (.imul, 1) := dk_104 (dk_at dksX0_restingWords_6 4 rfl rfl)
theorem dX0_restingWords_147 : decode cX0_restingWords 147 = .ok (.iload 4, 2) := dk_21 4 (dk_at dksX0_restingWords_6 5 rfl rfl)
theorem dX0_restingWords_149 : decode cX0_restingWords 149 = .ok (.iconst 2, 1) := dk_5 (dk_at dksX0_restingWords_6 7 rfl rfl)
theorem dX0_restingWords_150 : decode cX0_restingWords 150 = .ok (.irem, 1) := dk_112 (dk_at dksX0_restingWords_6 8 rfl rfl)
theorem dX0_restingWords_151 : decode cX0_restingWords 151 = .ok (.iadd, 1) := dk_96 (dk_at dksX0_restingWords_6 9 rfl rfl)
theorem dX0_restingWords_152 : decode cX0_restingWords 152 = .ok (.ireturn, 1) := dk_172 (dk_at dksX0_restingWords_6 10 rfl rfl)
theorem dX0_restingWords_153 : decode cX0_restingWords 153 = .ok (.iinc 4 1, 3) := dk_132 4 1 (dk_at dksX0_restingWords_6 11 rfl rfl)
theorem dX0_restingWords_156 : decode cX0_restingWords 156 = .ok (.goto (-60), 3) := dk_167 255 196 (dk_at dksX0_restingWords_6 14 rfl rfl)
theorem dX0_restingWords_159 : decode cX0_restingWords 159 = .ok (.bipush (-9), 2) := dk_16 247 (dk_at dksX0_restingWords_6 17 rfl rfl)
theorem dX0_restingWords_161 : decode cX0_restingWords 161 = .ok (.ireturn, 1) := dk_172 (dk_at dksX0_restingWords_6 19 rfl rfl)
abbrev cX0_whatTold : ByteArray := prog_1_method_61_code
def yX0_whatTold : MethodName := ⟨RX0, "whatTold", "(II)I"⟩
def dkwX0_whatTold_0 : List UInt8 := [42, 27, 182, 1, 11, 28, 184, 0, 192, 42, 27, 28, 182, 1, 117, 172]
abbrev dktX0_whatTold_0 : List UInt8 := dkwX0_whatTold_0 ++ []
theorem dksX0_whatTold_0 : cX0_whatTold.data.toList.drop 0 = dktX0_whatTold_0 := by decide +kernel
theorem dX0_whatTold_0 : decode cX0_whatTold 0 = .ok (.aload_n 0, 1) := dk_42 (dk_at dksX0_whatTold_0 0 rfl rfl)
theorem dX0_whatTold_1 : decode cX0_whatTold 1 = .ok (.iload_n 1, 1) := dk_27 (dk_at dksX0_whatTold_0 1 rfl rfl)
theorem dX0_whatTold_2 : decode cX0_whatTold 2 = .ok (.invokevirtual 267, 3) := dk_182 1 11 (dk_at dksX0_whatTold_0 2 rfl rfl)
theorem dX0_whatTold_5 : decode cX0_whatTold 5 = .ok (.iload_n 2, 1) := dk_28 (dk_at dksX0_whatTold_0 5 rfl rfl)
theorem dX0_whatTold_6 : decode cX0_whatTold 6 = .ok (.invokestatic 192, 3) := dk_184 0 192 (dk_at dksX0_whatTold_0 6 rfl rfl)
theorem dX0_whatTold_9 : decode cX0_whatTold 9 = .ok (.aload_n 0, 1) := dk_42 (dk_at dksX0_whatTold_0 9 rfl rfl)
theorem dX0_whatTold_10 : decode cX0_whatTold 10 = .ok (.iload_n 1, 1) := dk_27 (dk_at dksX0_whatTold_0 10 rfl rfl)
theorem dX0_whatTold_11 : decode cX0_whatTold 11 = .ok (.iload_n 2, 1) := dk_28 (dk_at dksX0_whatTold_0 11 rfl rfl)
theorem dX0_whatTold_12 : decode cX0_whatTold 12 = .ok (.invokevirtual 373, 3) := dk_182 1 117 (dk_at dksX0_whatTold_0 12 rfl rfl)
theorem dX0_whatTold_15 : decode cX0_whatTold 15 = .ok (.ireturn, 1) := dk_172 (dk_at dksX0_whatTold_0 15 rfl rfl)
abbrev cX0_fitting : ByteArray := prog_1_method_32_code
def yX0_fitting : MethodName := ⟨RX0, "fitting", "(II)I"⟩
def dkwX0_fitting_4 : List UInt8 := [21, 4, 120, 167, 0, 4, 3, 128, 62, 132, 4, 1, 167, 255, 158, 29, 172]
abbrev dktX0_fitting_4 : List UInt8 := dkwX0_fitting_4 ++ []
def dkwX0_fitting_3 : List UInt8 := [167, 0, 10, 25, 5, 180, 0, 228, 27, 46, 79, 29, 42, 25, 5, 27, 182, 0, 231, 153, 0, 10, 4]
abbrev dktX0_fitting_3 : List UInt8 := dkwX0_fitting_3 ++ dktX0_fitting_4
def dkwX0_fitting_2 : List UInt8 := [167, 0, 10, 25, 5, 180, 0, 209, 27, 50, 83, 25, 5, 180, 0, 228, 27, 28, 4, 160, 0, 8, 21, 4]
abbrev dktX0_fitting_2 : List UInt8 := dkwX0_fitting_2 ++ dktX0_fitting_3
def dkwX0_fitting_1 : List UInt8 := [182, 0, 116, 58, 5, 25, 5, 180, 0, 209, 27, 28, 154, 0, 13, 42, 180, 0, 46, 21, 4, 50]
abbrev dktX0_fitting_1 : List UInt8 := dkwX0_fitting_1 ++ dktX0_fitting_2
def dkwX0_fitting_0 : List UInt8 := [3, 62, 3, 54, 4, 21, 4, 28, 154, 0, 8, 16, 6, 167, 0, 5, 16, 10, 162, 0, 88, 42]
abbrev dktX0_fitting_0 : List UInt8 := dkwX0_fitting_0 ++ dktX0_fitting_1
theorem dksX0_fitting_0 : cX0_fitting.data.toList.drop 0 = dktX0_fitting_0 := by decide +kernel
theorem dksX0_fitting_1 : cX0_fitting.data.toList.drop 22 = dktX0_fitting_1 := dk_seg dksX0_fitting_0 22 rfl rfl
theorem dksX0_fitting_2 : cX0_fitting.data.toList.drop 44 = dktX0_fitting_2 := dk_seg dksX0_fitting_1 22 rfl rfl
theorem dksX0_fitting_3 : cX0_fitting.data.toList.drop 68 = dktX0_fitting_3 := dk_seg dksX0_fitting_2 24 rfl rfl
theorem dksX0_fitting_4 : cX0_fitting.data.toList.drop 91 = dktX0_fitting_4 := dk_seg dksX0_fitting_3 23 rfl rfl
theorem dX0_fitting_0 : decode cX0_fitting 0 = .ok (.iconst 0, 1) := dk_3 (dk_at dksX0_fitting_0 0 rfl rfl)
theorem dX0_fitting_1 : decode cX0_fitting 1 = .ok (.istore_n 3, 1) := dk_62 (dk_at dksX0_fitting_0 1 rfl rfl)
theorem dX0_fitting_2 : decode cX0_fitting 2 = .ok (.iconst 0, 1) := dk_3 (dk_at dksX0_fitting_0 2 rfl rfl)
theorem dX0_fitting_3 : decode cX0_fitting 3 = .ok (.istore 4, 2) := dk_54 4 (dk_at dksX0_fitting_0 3 rfl rfl)
theorem dX0_fitting_5 : decode cX0_fitting 5 = .ok (.iload 4, 2) := dk_21 4 (dk_at dksX0_fitting_0 5 rfl rfl)
theorem dX0_fitting_7 : decode cX0_fitting 7 = .ok (.iload_n 2, 1) := dk_28 (dk_at dksX0_fitting_0 7 rfl rfl)
theorem dX0_fitting_8 : decode cX0_fitting 8 = .ok (.ifCond .ne 8, 3) := dk_154 0 8 (dk_at dksX0_fitting_0 8 rfl rfl)
theorem dX0_fitting_11 : decode cX0_fitting 11 = .ok (.bipush 6, 2) := dk_16 6 (dk_at dksX0_fitting_0 11 rfl rfl)
theorem dX0_fitting_13 : decode cX0_fitting 13 = .ok (.goto 5, 3) := dk_167 0 5 (dk_at dksX0_fitting_0 13 rfl rfl)
theorem dX0_fitting_16 : decode cX0_fitting 16 = .ok (.bipush 10, 2) := dk_16 10 (dk_at dksX0_fitting_0 16 rfl rfl)
theorem dX0_fitting_18 : decode cX0_fitting 18 = .ok (.if_icmp .ge 88, 3) := dk_162 0 88 (dk_at dksX0_fitting_0 18 rfl rfl)
theorem dX0_fitting_21 : decode cX0_fitting 21 = .ok (.aload_n 0, 1) := dk_42 (dk_at dksX0_fitting_0 21 rfl rfl)
theorem dX0_fitting_22 : decode cX0_fitting 22 = .ok (.invokevirtual 116, 3) := dk_182 0 116 (dk_at dksX0_fitting_1 0 rfl rfl)
theorem dX0_fitting_25 : decode cX0_fitting 25 = .ok (.astore 5, 2) := dk_58 5 (dk_at dksX0_fitting_1 3 rfl rfl)
theorem dX0_fitting_27 : decode cX0_fitting 27 = .ok (.aload 5, 2) := dk_25 5 (dk_at dksX0_fitting_1 5 rfl rfl)
theorem dX0_fitting_29 : decode cX0_fitting 29 = .ok (.getfield 209, 3) := dk_180 0 209 (dk_at dksX0_fitting_1 7 rfl rfl)
theorem dX0_fitting_32 : decode cX0_fitting 32 = .ok (.iload_n 1, 1) := dk_27 (dk_at dksX0_fitting_1 10 rfl rfl)
theorem dX0_fitting_33 : decode cX0_fitting 33 = .ok (.iload_n 2, 1) := dk_28 (dk_at dksX0_fitting_1 11 rfl rfl)
theorem dX0_fitting_34 : decode cX0_fitting 34 = .ok (.ifCond .ne 13, 3) := dk_154 0 13 (dk_at dksX0_fitting_1 12 rfl rfl)
theorem dX0_fitting_37 : decode cX0_fitting 37 = .ok (.aload_n 0, 1) := dk_42 (dk_at dksX0_fitting_1 15 rfl rfl)
theorem dX0_fitting_38 : decode cX0_fitting 38 = .ok (.getfield 46, 3) := dk_180 0 46 (dk_at dksX0_fitting_1 16 rfl rfl)
theorem dX0_fitting_41 : decode cX0_fitting 41 = .ok (.iload 4, 2) := dk_21 4 (dk_at dksX0_fitting_1 19 rfl rfl)
theorem dX0_fitting_43 : decode cX0_fitting 43 = .ok (.aaload, 1) := dk_50 (dk_at dksX0_fitting_1 21 rfl rfl)
theorem dX0_fitting_44 : decode cX0_fitting 44 = .ok (.goto 10, 3) := dk_167 0 10 (dk_at dksX0_fitting_2 0 rfl rfl)
theorem dX0_fitting_47 : decode cX0_fitting 47 = .ok (.aload 5, 2) := dk_25 5 (dk_at dksX0_fitting_2 3 rfl rfl)
theorem dX0_fitting_49 : decode cX0_fitting 49 = .ok (.getfield 209, 3) := dk_180 0 209 (dk_at dksX0_fitting_2 5 rfl rfl)
theorem dX0_fitting_52 : decode cX0_fitting 52 = .ok (.iload_n 1, 1) := dk_27 (dk_at dksX0_fitting_2 8 rfl rfl)
theorem dX0_fitting_53 : decode cX0_fitting 53 = .ok (.aaload, 1) := dk_50 (dk_at dksX0_fitting_2 9 rfl rfl)
theorem dX0_fitting_54 : decode cX0_fitting 54 = .ok (.aastore, 1) := dk_83 (dk_at dksX0_fitting_2 10 rfl rfl)
theorem dX0_fitting_55 : decode cX0_fitting 55 = .ok (.aload 5, 2) := dk_25 5 (dk_at dksX0_fitting_2 11 rfl rfl)
theorem dX0_fitting_57 : decode cX0_fitting 57 = .ok (.getfield 228, 3) := dk_180 0 228 (dk_at dksX0_fitting_2 13 rfl rfl)
theorem dX0_fitting_60 : decode cX0_fitting 60 = .ok (.iload_n 1, 1) := dk_27 (dk_at dksX0_fitting_2 16 rfl rfl)
theorem dX0_fitting_61 : decode cX0_fitting 61 = .ok (.iload_n 2, 1) := dk_28 (dk_at dksX0_fitting_2 17 rfl rfl)
theorem dX0_fitting_62 : decode cX0_fitting 62 = .ok (.iconst 1, 1) := dk_4 (dk_at dksX0_fitting_2 18 rfl rfl)
theorem dX0_fitting_63 : decode cX0_fitting 63 = .ok (.if_icmp .ne 8, 3) := dk_160 0 8 (dk_at dksX0_fitting_2 19 rfl rfl)
theorem dX0_fitting_66 : decode cX0_fitting 66 = .ok (.iload 4, 2) := dk_21 4 (dk_at dksX0_fitting_2 22 rfl rfl)
theorem dX0_fitting_68 : decode cX0_fitting 68 = .ok (.goto 10, 3) := dk_167 0 10 (dk_at dksX0_fitting_3 0 rfl rfl)
theorem dX0_fitting_71 : decode cX0_fitting 71 = .ok (.aload 5, 2) := dk_25 5 (dk_at dksX0_fitting_3 3 rfl rfl)
theorem dX0_fitting_73 : decode cX0_fitting 73 = .ok (.getfield 228, 3) := dk_180 0 228 (dk_at dksX0_fitting_3 5 rfl rfl)
theorem dX0_fitting_76 : decode cX0_fitting 76 = .ok (.iload_n 1, 1) := dk_27 (dk_at dksX0_fitting_3 8 rfl rfl)
theorem dX0_fitting_77 : decode cX0_fitting 77 = .ok (.iaload, 1) := dk_46 (dk_at dksX0_fitting_3 9 rfl rfl)
theorem dX0_fitting_78 : decode cX0_fitting 78 = .ok (.iastore, 1) := dk_79 (dk_at dksX0_fitting_3 10 rfl rfl)
theorem dX0_fitting_79 : decode cX0_fitting 79 = .ok (.iload_n 3, 1) := dk_29 (dk_at dksX0_fitting_3 11 rfl rfl)
theorem dX0_fitting_80 : decode cX0_fitting 80 = .ok (.aload_n 0, 1) := dk_42 (dk_at dksX0_fitting_3 12 rfl rfl)
theorem dX0_fitting_81 : decode cX0_fitting 81 = .ok (.aload 5, 2) := dk_25 5 (dk_at dksX0_fitting_3 13 rfl rfl)
theorem dX0_fitting_83 : decode cX0_fitting 83 = .ok (.iload_n 1, 1) := dk_27 (dk_at dksX0_fitting_3 15 rfl rfl)
theorem dX0_fitting_84 : decode cX0_fitting 84 = .ok (.invokevirtual 231, 3) := dk_182 0 231 (dk_at dksX0_fitting_3 16 rfl rfl)
theorem dX0_fitting_87 : decode cX0_fitting 87 = .ok (.ifCond .eq 10, 3) := dk_153 0 10 (dk_at dksX0_fitting_3 19 rfl rfl)
theorem dX0_fitting_90 : decode cX0_fitting 90 = .ok (.iconst 1, 1) := dk_4 (dk_at dksX0_fitting_3 22 rfl rfl)
theorem dX0_fitting_91 : decode cX0_fitting 91 = .ok (.iload 4, 2) := dk_21 4 (dk_at dksX0_fitting_4 0 rfl rfl)
theorem dX0_fitting_93 : decode cX0_fitting 93 = .ok (.ishl, 1) := dk_120 (dk_at dksX0_fitting_4 2 rfl rfl)
theorem dX0_fitting_94 : decode cX0_fitting 94 = .ok (.goto 4, 3) := dk_167 0 4 (dk_at dksX0_fitting_4 3 rfl rfl)
theorem dX0_fitting_97 : decode cX0_fitting 97 = .ok (.iconst 0, 1) := dk_3 (dk_at dksX0_fitting_4 6 rfl rfl)
theorem dX0_fitting_98 : decode cX0_fitting 98 = .ok (.ior, 1) := dk_128 (dk_at dksX0_fitting_4 7 rfl rfl)
theorem dX0_fitting_99 : decode cX0_fitting 99 = .ok (.istore_n 3, 1) := dk_62 (dk_at dksX0_fitting_4 8 rfl rfl)
theorem dX0_fitting_100 : decode cX0_fitting 100 = .ok (.iinc 4 1, 3) := dk_132 4 1 (dk_at dksX0_fitting_4 9 rfl rfl)
theorem dX0_fitting_103 : decode cX0_fitting 103 = .ok (.goto (-98), 3) := dk_167 255 158 (dk_at dksX0_fitting_4 12 rfl rfl)
theorem dX0_fitting_106 : decode cX0_fitting 106 = .ok (.iload_n 3, 1) := dk_29 (dk_at dksX0_fitting_4 15 rfl rfl)
theorem dX0_fitting_107 : decode cX0_fitting 107 = .ok (.ireturn, 1) := dk_172 (dk_at dksX0_fitting_4 16 rfl rfl)
abbrev cX0_isRow : ByteArray := prog_1_method_31_code
def yX0_isRow : MethodName := ⟨RX0, "isRow", "(LWellOfTheSilent$Hill;I)Z"⟩
def dkwX0_isRow_2 : List UInt8 := [172]
abbrev dktX0_isRow_2 : List UInt8 := dkwX0_isRow_2 ++ []
def dkwX0_isRow_1 : List UInt8 := [42, 180, 0, 63, 29, 51, 43, 180, 0, 124, 28, 46, 159, 0, 5, 3, 172, 132, 3, 1, 167, 255, 214, 4]
abbrev dktX0_isRow_1 : List UInt8 := dkwX0_isRow_1 ++ dktX0_isRow_2
def dkwX0_isRow_0 : List UInt8 := [3, 62, 29, 42, 180, 0, 225, 162, 0, 40, 43, 29, 154, 0, 7, 3, 167, 0, 4, 4, 182, 0, 120, 87]
abbrev dktX0_isRow_0 : List UInt8 := dkwX0_isRow_0 ++ dktX0_isRow_1
theorem dksX0_isRow_0 : cX0_isRow.data.toList.drop 0 = dktX0_isRow_0 := by decide +kernel
theorem dksX0_isRow_1 : cX0_isRow.data.toList.drop 24 = dktX0_isRow_1 := dk_seg dksX0_isRow_0 24 rfl rfl
theorem dksX0_isRow_2 : cX0_isRow.data.toList.drop 48 = dktX0_isRow_2 := dk_seg dksX0_isRow_1 24 rfl rfl
theorem dX0_isRow_0 : decode cX0_isRow 0 = .ok (.iconst 0, 1) := dk_3 (dk_at dksX0_isRow_0 0 rfl rfl)
theorem dX0_isRow_1 : decode cX0_isRow 1 = .ok (.istore_n 3, 1) := dk_62 (dk_at dksX0_isRow_0 1 rfl rfl)
theorem dX0_isRow_2 : decode cX0_isRow 2 = .ok (.iload_n 3, 1) := dk_29 (dk_at dksX0_isRow_0 2 rfl rfl)
theorem dX0_isRow_3 : decode cX0_isRow 3 = .ok (.aload_n 0, 1) := dk_42 (dk_at dksX0_isRow_0 3 rfl rfl)
theorem dX0_isRow_4 : decode cX0_isRow 4 = .ok (.getfield 225, 3) := dk_180 0 225 (dk_at dksX0_isRow_0 4 rfl rfl)
theorem dX0_isRow_7 : decode cX0_isRow 7 = .ok (.if_icmp .ge 40, 3) := dk_162 0 40 (dk_at dksX0_isRow_0 7 rfl rfl)
theorem dX0_isRow_10 : decode cX0_isRow 10 = .ok (.aload_n 1, 1) := dk_43 (dk_at dksX0_isRow_0 10 rfl rfl)
theorem dX0_isRow_11 : decode cX0_isRow 11 = .ok (.iload_n 3, 1) := dk_29 (dk_at dksX0_isRow_0 11 rfl rfl)
theorem dX0_isRow_12 : decode cX0_isRow 12 = .ok (.ifCond .ne 7, 3) := dk_154 0 7 (dk_at dksX0_isRow_0 12 rfl rfl)
theorem dX0_isRow_15 : decode cX0_isRow 15 = .ok (.iconst 0, 1) := dk_3 (dk_at dksX0_isRow_0 15 rfl rfl)
theorem dX0_isRow_16 : decode cX0_isRow 16 = .ok (.goto 4, 3) := dk_167 0 4 (dk_at dksX0_isRow_0 16 rfl rfl)
theorem dX0_isRow_19 : decode cX0_isRow 19 = .ok (.iconst 1, 1) := dk_4 (dk_at dksX0_isRow_0 19 rfl rfl)
theorem dX0_isRow_20 : decode cX0_isRow 20 = .ok (.invokevirtual 120, 3) := dk_182 0 120 (dk_at dksX0_isRow_0 20 rfl rfl)
theorem dX0_isRow_23 : decode cX0_isRow 23 = .ok (.pop, 1) := dk_87 (dk_at dksX0_isRow_0 23 rfl rfl)
theorem dX0_isRow_24 : decode cX0_isRow 24 = .ok (.aload_n 0, 1) := dk_42 (dk_at dksX0_isRow_1 0 rfl rfl)
theorem dX0_isRow_25 : decode cX0_isRow 25 = .ok (.getfield 63, 3) := dk_180 0 63 (dk_at dksX0_isRow_1 1 rfl rfl)
theorem dX0_isRow_28 : decode cX0_isRow 28 = .ok (.iload_n 3, 1) := dk_29 (dk_at dksX0_isRow_1 4 rfl rfl)
theorem dX0_isRow_29 : decode cX0_isRow 29 = .ok (.baload, 1) := dk_51 (dk_at dksX0_isRow_1 5 rfl rfl)
theorem dX0_isRow_30 : decode cX0_isRow 30 = .ok (.aload_n 1, 1) := dk_43 (dk_at dksX0_isRow_1 6 rfl rfl)
theorem dX0_isRow_31 : decode cX0_isRow 31 = .ok (.getfield 124, 3) := dk_180 0 124 (dk_at dksX0_isRow_1 7 rfl rfl)
theorem dX0_isRow_34 : decode cX0_isRow 34 = .ok (.iload_n 2, 1) := dk_28 (dk_at dksX0_isRow_1 10 rfl rfl)
theorem dX0_isRow_35 : decode cX0_isRow 35 = .ok (.iaload, 1) := dk_46 (dk_at dksX0_isRow_1 11 rfl rfl)
theorem dX0_isRow_36 : decode cX0_isRow 36 = .ok (.if_icmp .eq 5, 3) := dk_159 0 5 (dk_at dksX0_isRow_1 12 rfl rfl)
theorem dX0_isRow_39 : decode cX0_isRow 39 = .ok (.iconst 0, 1) := dk_3 (dk_at dksX0_isRow_1 15 rfl rfl)
theorem dX0_isRow_40 : decode cX0_isRow 40 = .ok (.ireturn, 1) := dk_172 (dk_at dksX0_isRow_1 16 rfl rfl)
theorem dX0_isRow_41 : decode cX0_isRow 41 = .ok (.iinc 3 1, 3) := dk_132 3 1 (dk_at dksX0_isRow_1 17 rfl rfl)
theorem dX0_isRow_44 : decode cX0_isRow 44 = .ok (.goto (-42), 3) := dk_167 255 214 (dk_at dksX0_isRow_1 20 rfl rfl)
theorem dX0_isRow_47 : decode cX0_isRow 47 = .ok (.iconst 1, 1) := dk_4 (dk_at dksX0_isRow_1 23 rfl rfl)
theorem dX0_isRow_48 : decode cX0_isRow 48 = .ok (.ireturn, 1) := dk_172 (dk_at dksX0_isRow_2 0 rfl rfl)
abbrev cX0_ofLast : ByteArray := prog_1_method_64_code
def yX0_ofLast : MethodName := ⟨RX0, "ofLast", "(IIII)I"⟩
def dkwX0_ofLast_7 : List UInt8 := [42, 180, 0, 53, 42, 180, 0, 60, 182, 0, 102, 87, 42, 180, 0, 53, 180, 0, 198, 172]
abbrev dktX0_ofLast_7 : List UInt8 := dkwX0_ofLast_7 ++ []
def dkwX0_ofLast_6 : List UInt8 := [180, 0, 53, 182, 0, 102, 87, 42, 180, 0, 53, 180, 0, 198, 172, 42, 180, 1, 158, 16, 253, 184, 0, 9]
abbrev dktX0_ofLast_6 : List UInt8 := dkwX0_ofLast_6 ++ dktX0_ofLast_7
def dkwX0_ofLast_5 : List UInt8 := [21, 5, 172, 42, 28, 29, 21, 4, 182, 1, 155, 172, 42, 4, 181, 1, 158, 42, 180, 0, 60, 42]
abbrev dktX0_ofLast_5 : List UInt8 := dkwX0_ofLast_5 ++ dktX0_ofLast_6
def dkwX0_ofLast_4 : List UInt8 := [181, 0, 225, 42, 180, 0, 225, 172, 42, 182, 1, 152, 172, 42, 180, 0, 225, 54, 5, 42, 3, 181, 0, 225]
abbrev dktX0_ofLast_4 : List UInt8 := dkwX0_ofLast_4 ++ dktX0_ofLast_5
def dkwX0_ofLast_3 : List UInt8 := [16, 250, 184, 0, 9, 42, 180, 0, 63, 42, 180, 0, 225, 28, 145, 84, 42, 89, 180, 0, 225, 4, 96]
abbrev dktX0_ofLast_3 : List UInt8 := dkwX0_ofLast_3 ++ dktX0_ofLast_4
def dkwX0_ofLast_2 : List UInt8 := [28, 133, 9, 20, 1, 18, 184, 0, 188, 42, 180, 0, 225, 16, 16, 162, 0, 7, 4, 167, 0, 4, 3]
abbrev dktX0_ofLast_2 : List UInt8 := dkwX0_ofLast_2 ++ dktX0_ofLast_3
def dkwX0_ofLast_1 : List UInt8 := [170, 0, 0, 0, 0, 0, 142, 0, 0, 0, 30, 0, 0, 0, 34, 0, 0, 0, 35, 0, 0, 0, 89, 0, 0, 0, 94, 0, 0, 0, 108, 0, 0, 0, 117]
abbrev dktX0_ofLast_1 : List UInt8 := dkwX0_ofLast_1 ++ dktX0_ofLast_2
def dkwX0_ofLast_0 : List UInt8 := [27]
abbrev dktX0_ofLast_0 : List UInt8 := dkwX0_ofLast_0 ++ dktX0_ofLast_1
theorem dksX0_ofLast_0 : cX0_ofLast.data.toList.drop 0 = dktX0_ofLast_0 := by decide +kernel
theorem dksX0_ofLast_1 : cX0_ofLast.data.toList.drop 1 = dktX0_ofLast_1 := dk_seg dksX0_ofLast_0 1 rfl rfl
theorem dksX0_ofLast_2 : cX0_ofLast.data.toList.drop 36 = dktX0_ofLast_2 := dk_seg dksX0_ofLast_1 35 rfl rfl
theorem dksX0_ofLast_3 : cX0_ofLast.data.toList.drop 59 = dktX0_ofLast_3 := dk_seg dksX0_ofLast_2 23 rfl rfl
theorem dksX0_ofLast_4 : cX0_ofLast.data.toList.drop 82 = dktX0_ofLast_4 := dk_seg dksX0_ofLast_3 23 rfl rfl
theorem dksX0_ofLast_5 : cX0_ofLast.data.toList.drop 106 = dktX0_ofLast_5 := dk_seg dksX0_ofLast_4 24 rfl rfl
theorem dksX0_ofLast_6 : cX0_ofLast.data.toList.drop 128 = dktX0_ofLast_6 := dk_seg dksX0_ofLast_5 22 rfl rfl
theorem dksX0_ofLast_7 : cX0_ofLast.data.toList.drop 152 = dktX0_ofLast_7 := dk_seg dksX0_ofLast_6 24 rfl rfl
theorem dX0_ofLast_0 : decode cX0_ofLast 0 = .ok (.iload_n 1, 1) := dk_27 (dk_at dksX0_ofLast_0 0 rfl rfl)
theorem dX0_ofLast_1 : decode cX0_ofLast 1 = .ok (.tableswitch 142 30 34 #[35, 89, 94, 108, 117], 35) := by decide +kernel
theorem dX0_ofLast_36 : decode cX0_ofLast 36 = .ok (.iload_n 2, 1) := dk_28 (dk_at dksX0_ofLast_2 0 rfl rfl)
theorem dX0_ofLast_37 : decode cX0_ofLast 37 = .ok (.i2l, 1) := dk_133 (dk_at dksX0_ofLast_2 1 rfl rfl)
theorem dX0_ofLast_38 : decode cX0_ofLast 38 = .ok (.lconst 0, 1) := dk_9 (dk_at dksX0_ofLast_2 2 rfl rfl)
theorem dX0_ofLast_39 : decode cX0_ofLast 39 = .ok (.ldc2_w 274, 3) := dk_20 1 18 (dk_at dksX0_ofLast_2 3 rfl rfl)
theorem dX0_ofLast_42 : decode cX0_ofLast 42 = .ok (.invokestatic 188, 3) := dk_184 0 188 (dk_at dksX0_ofLast_2 6 rfl rfl)
theorem dX0_ofLast_45 : decode cX0_ofLast 45 = .ok (.aload_n 0, 1) := dk_42 (dk_at dksX0_ofLast_2 9 rfl rfl)
theorem dX0_ofLast_46 : decode cX0_ofLast 46 = .ok (.getfield 225, 3) := dk_180 0 225 (dk_at dksX0_ofLast_2 10 rfl rfl)
theorem dX0_ofLast_49 : decode cX0_ofLast 49 = .ok (.bipush 16, 2) := dk_16 16 (dk_at dksX0_ofLast_2 13 rfl rfl)
theorem dX0_ofLast_51 : decode cX0_ofLast 51 = .ok (.if_icmp .ge 7, 3) := dk_162 0 7 (dk_at dksX0_ofLast_2 15 rfl rfl)
theorem dX0_ofLast_54 : decode cX0_ofLast 54 = .ok (.iconst 1, 1) := dk_4 (dk_at dksX0_ofLast_2 18 rfl rfl)
theorem dX0_ofLast_55 : decode cX0_ofLast 55 = .ok (.goto 4, 3) := dk_167 0 4 (dk_at dksX0_ofLast_2 19 rfl rfl)
theorem dX0_ofLast_58 : decode cX0_ofLast 58 = .ok (.iconst 0, 1) := dk_3 (dk_at dksX0_ofLast_2 22 rfl rfl)
theorem dX0_ofLast_59 : decode cX0_ofLast 59 = .ok (.bipush (-6), 2) := dk_16 250 (dk_at dksX0_ofLast_3 0 rfl rfl)
theorem dX0_ofLast_61 : decode cX0_ofLast 61 = .ok (.invokestatic 9, 3) := dk_184 0 9 (dk_at dksX0_ofLast_3 2 rfl rfl)
theorem dX0_ofLast_64 : decode cX0_ofLast 64 = .ok (.aload_n 0, 1) := dk_42 (dk_at dksX0_ofLast_3 5 rfl rfl)
theorem dX0_ofLast_65 : decode cX0_ofLast 65 = .ok (.getfield 63, 3) := dk_180 0 63 (dk_at dksX0_ofLast_3 6 rfl rfl)
theorem dX0_ofLast_68 : decode cX0_ofLast 68 = .ok (.aload_n 0, 1) := dk_42 (dk_at dksX0_ofLast_3 9 rfl rfl)
theorem dX0_ofLast_69 : decode cX0_ofLast 69 = .ok (.getfield 225, 3) := dk_180 0 225 (dk_at dksX0_ofLast_3 10 rfl rfl)
theorem dX0_ofLast_72 : decode cX0_ofLast 72 = .ok (.iload_n 2, 1) := dk_28 (dk_at dksX0_ofLast_3 13 rfl rfl)
theorem dX0_ofLast_73 : decode cX0_ofLast 73 = .ok (.i2b, 1) := dk_145 (dk_at dksX0_ofLast_3 14 rfl rfl)
theorem dX0_ofLast_74 : decode cX0_ofLast 74 = .ok (.bastore, 1) := dk_84 (dk_at dksX0_ofLast_3 15 rfl rfl)
theorem dX0_ofLast_75 : decode cX0_ofLast 75 = .ok (.aload_n 0, 1) := dk_42 (dk_at dksX0_ofLast_3 16 rfl rfl)
theorem dX0_ofLast_76 : decode cX0_ofLast 76 = .ok (.dup, 1) := dk_89 (dk_at dksX0_ofLast_3 17 rfl rfl)
theorem dX0_ofLast_77 : decode cX0_ofLast 77 = .ok (.getfield 225, 3) := dk_180 0 225 (dk_at dksX0_ofLast_3 18 rfl rfl)
theorem dX0_ofLast_80 : decode cX0_ofLast 80 = .ok (.iconst 1, 1) := dk_4 (dk_at dksX0_ofLast_3 21 rfl rfl)
theorem dX0_ofLast_81 : decode cX0_ofLast 81 = .ok (.iadd, 1) := dk_96 (dk_at dksX0_ofLast_3 22 rfl rfl)
theorem dX0_ofLast_82 : decode cX0_ofLast 82 = .ok (.putfield 225, 3) := dk_181 0 225 (dk_at dksX0_ofLast_4 0 rfl rfl)
theorem dX0_ofLast_85 : decode cX0_ofLast 85 = .ok (.aload_n 0, 1) := dk_42 (dk_at dksX0_ofLast_4 3 rfl rfl)
theorem dX0_ofLast_86 : decode cX0_ofLast 86 = .ok (.getfield 225, 3) := dk_180 0 225 (dk_at dksX0_ofLast_4 4 rfl rfl)
theorem dX0_ofLast_89 : decode cX0_ofLast 89 = .ok (.ireturn, 1) := dk_172 (dk_at dksX0_ofLast_4 7 rfl rfl)
theorem dX0_ofLast_90 : decode cX0_ofLast 90 = .ok (.aload_n 0, 1) := dk_42 (dk_at dksX0_ofLast_4 8 rfl rfl)
theorem dX0_ofLast_91 : decode cX0_ofLast 91 = .ok (.invokevirtual 408, 3) := dk_182 1 152 (dk_at dksX0_ofLast_4 9 rfl rfl)
theorem dX0_ofLast_94 : decode cX0_ofLast 94 = .ok (.ireturn, 1) := dk_172 (dk_at dksX0_ofLast_4 12 rfl rfl)
theorem dX0_ofLast_95 : decode cX0_ofLast 95 = .ok (.aload_n 0, 1) := dk_42 (dk_at dksX0_ofLast_4 13 rfl rfl)
theorem dX0_ofLast_96 : decode cX0_ofLast 96 = .ok (.getfield 225, 3) := dk_180 0 225 (dk_at dksX0_ofLast_4 14 rfl rfl)
theorem dX0_ofLast_99 : decode cX0_ofLast 99 = .ok (.istore 5, 2) := dk_54 5 (dk_at dksX0_ofLast_4 17 rfl rfl)
theorem dX0_ofLast_101 : decode cX0_ofLast 101 = .ok (.aload_n 0, 1) := dk_42 (dk_at dksX0_ofLast_4 19 rfl rfl)
theorem dX0_ofLast_102 : decode cX0_ofLast 102 = .ok (.iconst 0, 1) := dk_3 (dk_at dksX0_ofLast_4 20 rfl rfl)
theorem dX0_ofLast_103 : decode cX0_ofLast 103 = .ok (.putfield 225, 3) := dk_181 0 225 (dk_at dksX0_ofLast_4 21 rfl rfl)
theorem dX0_ofLast_106 : decode cX0_ofLast 106 = .ok (.iload 5, 2) := dk_21 5 (dk_at dksX0_ofLast_5 0 rfl rfl)
theorem dX0_ofLast_108 : decode cX0_ofLast 108 = .ok (.ireturn, 1) := dk_172 (dk_at dksX0_ofLast_5 2 rfl rfl)
theorem dX0_ofLast_109 : decode cX0_ofLast 109 = .ok (.aload_n 0, 1) := dk_42 (dk_at dksX0_ofLast_5 3 rfl rfl)
theorem dX0_ofLast_110 : decode cX0_ofLast 110 = .ok (.iload_n 2, 1) := dk_28 (dk_at dksX0_ofLast_5 4 rfl rfl)
theorem dX0_ofLast_111 : decode cX0_ofLast 111 = .ok (.iload_n 3, 1) := dk_29 (dk_at dksX0_ofLast_5 5 rfl rfl)
theorem dX0_ofLast_112 : decode cX0_ofLast 112 = .ok (.iload 4, 2) := dk_21 4 (dk_at dksX0_ofLast_5 6 rfl rfl)
theorem dX0_ofLast_114 : decode cX0_ofLast 114 = .ok (.invokevirtual 411, 3) := dk_182 1 155 (dk_at dksX0_ofLast_5 8 rfl rfl)
theorem dX0_ofLast_117 : decode cX0_ofLast 117 = .ok (.ireturn, 1) := dk_172 (dk_at dksX0_ofLast_5 11 rfl rfl)
theorem dX0_ofLast_118 : decode cX0_ofLast 118 = .ok (.aload_n 0, 1) := dk_42 (dk_at dksX0_ofLast_5 12 rfl rfl)
theorem dX0_ofLast_119 : decode cX0_ofLast 119 = .ok (.iconst 1, 1) := dk_4 (dk_at dksX0_ofLast_5 13 rfl rfl)
theorem dX0_ofLast_120 : decode cX0_ofLast 120 = .ok (.putfield 414, 3) := dk_181 1 158 (dk_at dksX0_ofLast_5 14 rfl rfl)
theorem dX0_ofLast_123 : decode cX0_ofLast 123 = .ok (.aload_n 0, 1) := dk_42 (dk_at dksX0_ofLast_5 17 rfl rfl)
theorem dX0_ofLast_124 : decode cX0_ofLast 124 = .ok (.getfield 60, 3) := dk_180 0 60 (dk_at dksX0_ofLast_5 18 rfl rfl)
theorem dX0_ofLast_127 : decode cX0_ofLast 127 = .ok (.aload_n 0, 1) := dk_42 (dk_at dksX0_ofLast_5 21 rfl rfl)
theorem dX0_ofLast_128 : decode cX0_ofLast 128 = .ok (.getfield 53, 3) := dk_180 0 53 (dk_at dksX0_ofLast_6 0 rfl rfl)
theorem dX0_ofLast_131 : decode cX0_ofLast 131 = .ok (.invokevirtual 102, 3) := dk_182 0 102 (dk_at dksX0_ofLast_6 3 rfl rfl)
theorem dX0_ofLast_134 : decode cX0_ofLast 134 = .ok (.pop, 1) := dk_87 (dk_at dksX0_ofLast_6 6 rfl rfl)
theorem dX0_ofLast_135 : decode cX0_ofLast 135 = .ok (.aload_n 0, 1) := dk_42 (dk_at dksX0_ofLast_6 7 rfl rfl)
theorem dX0_ofLast_136 : decode cX0_ofLast 136 = .ok (.getfield 53, 3) := dk_180 0 53 (dk_at dksX0_ofLast_6 8 rfl rfl)
theorem dX0_ofLast_139 : decode cX0_ofLast 139 = .ok (.getfield 198, 3) := dk_180 0 198 (dk_at dksX0_ofLast_6 11 rfl rfl)
theorem dX0_ofLast_142 : decode cX0_ofLast 142 = .ok (.ireturn, 1) := dk_172 (dk_at dksX0_ofLast_6 14 rfl rfl)
theorem dX0_ofLast_143 : decode cX0_ofLast 143 = .ok (.aload_n 0, 1) := dk_42 (dk_at dksX0_ofLast_6 15 rfl rfl)
theorem dX0_ofLast_144 : decode cX0_ofLast 144 = .ok (.getfield 414, 3) := dk_180 1 158 (dk_at dksX0_ofLast_6 16 rfl rfl)
theorem dX0_ofLast_147 : decode cX0_ofLast 147 = .ok (.bipush (-3), 2) := dk_16 253 (dk_at dksX0_ofLast_6 19 rfl rfl)
theorem dX0_ofLast_149 : decode cX0_ofLast 149 = .ok (.invokestatic 9, 3) := dk_184 0 9 (dk_at dksX0_ofLast_6 21 rfl rfl)
theorem dX0_ofLast_152 : decode cX0_ofLast 152 = .ok (.aload_n 0, 1) := dk_42 (dk_at dksX0_ofLast_7 0 rfl rfl)
theorem dX0_ofLast_153 : decode cX0_ofLast 153 = .ok (.getfield 53, 3) := dk_180 0 53 (dk_at dksX0_ofLast_7 1 rfl rfl)
theorem dX0_ofLast_156 : decode cX0_ofLast 156 = .ok (.aload_n 0, 1) := dk_42 (dk_at dksX0_ofLast_7 4 rfl rfl)
theorem dX0_ofLast_157 : decode cX0_ofLast 157 = .ok (.getfield 60, 3) := dk_180 0 60 (dk_at dksX0_ofLast_7 5 rfl rfl)
theorem dX0_ofLast_160 : decode cX0_ofLast 160 = .ok (.invokevirtual 102, 3) := dk_182 0 102 (dk_at dksX0_ofLast_7 8 rfl rfl)
theorem dX0_ofLast_163 : decode cX0_ofLast 163 = .ok (.pop, 1) := dk_87 (dk_at dksX0_ofLast_7 11 rfl rfl)
theorem dX0_ofLast_164 : decode cX0_ofLast 164 = .ok (.aload_n 0, 1) := dk_42 (dk_at dksX0_ofLast_7 12 rfl rfl)
theorem dX0_ofLast_165 : decode cX0_ofLast 165 = .ok (.getfield 53, 3) := dk_180 0 53 (dk_at dksX0_ofLast_7 13 rfl rfl)
theorem dX0_ofLast_168 : decode cX0_ofLast 168 = .ok (.getfield 198, 3) := dk_180 0 198 (dk_at dksX0_ofLast_7 16 rfl rfl)
theorem dX0_ofLast_171 : decode cX0_ofLast 171 = .ok (.ireturn, 1) := dk_172 (dk_at dksX0_ofLast_7 19 rfl rfl)
abbrev cX0_judgeRow : ByteArray := prog_1_method_33_code
def yX0_judgeRow : MethodName := ⟨RX0, "judgeRow", "()I"⟩
def dkwX0_judgeRow_2 : List UInt8 := [28, 172, 132, 2, 1, 167, 255, 217, 16, 247, 172]
abbrev dktX0_judgeRow_2 : List UInt8 := dkwX0_judgeRow_2 ++ []
def dkwX0_judgeRow_1 : List UInt8 := [180, 0, 132, 162, 0, 21, 42, 180, 0, 53, 180, 0, 154, 28, 46, 42, 180, 0, 63, 28, 51, 159, 0, 5]
abbrev dktX0_judgeRow_1 : List UInt8 := dkwX0_judgeRow_1 ++ dktX0_judgeRow_2
def dkwX0_judgeRow_0 : List UInt8 := [42, 180, 0, 225, 60, 42, 3, 181, 0, 225, 3, 61, 28, 27, 162, 0, 40, 28, 42, 180, 0, 53]
abbrev dktX0_judgeRow_0 : List UInt8 := dkwX0_judgeRow_0 ++ dktX0_judgeRow_1
theorem dksX0_judgeRow_0 : cX0_judgeRow.data.toList.drop 0 = dktX0_judgeRow_0 := by decide +kernel
theorem dksX0_judgeRow_1 : cX0_judgeRow.data.toList.drop 22 = dktX0_judgeRow_1 := dk_seg dksX0_judgeRow_0 22 rfl rfl
theorem dksX0_judgeRow_2 : cX0_judgeRow.data.toList.drop 46 = dktX0_judgeRow_2 := dk_seg dksX0_judgeRow_1 24 rfl rfl
theorem dX0_judgeRow_0 : decode cX0_judgeRow 0 = .ok (.aload_n 0, 1) := dk_42 (dk_at dksX0_judgeRow_0 0 rfl rfl)
theorem dX0_judgeRow_1 : decode cX0_judgeRow 1 = .ok (.getfield 225, 3) := dk_180 0 225 (dk_at dksX0_judgeRow_0 1 rfl rfl)
theorem dX0_judgeRow_4 : decode cX0_judgeRow 4 = .ok (.istore_n 1, 1) := dk_60 (dk_at dksX0_judgeRow_0 4 rfl rfl)
theorem dX0_judgeRow_5 : decode cX0_judgeRow 5 = .ok (.aload_n 0, 1) := dk_42 (dk_at dksX0_judgeRow_0 5 rfl rfl)
theorem dX0_judgeRow_6 : decode cX0_judgeRow 6 = .ok (.iconst 0, 1) := dk_3 (dk_at dksX0_judgeRow_0 6 rfl rfl)
theorem dX0_judgeRow_7 : decode cX0_judgeRow 7 = .ok (.putfield 225, 3) := dk_181 0 225 (dk_at dksX0_judgeRow_0 7 rfl rfl)
theorem dX0_judgeRow_10 : decode cX0_judgeRow 10 = .ok (.iconst 0, 1) := dk_3 (dk_at dksX0_judgeRow_0 10 rfl rfl)
theorem dX0_judgeRow_11 : decode cX0_judgeRow 11 = .ok (.istore_n 2, 1) := dk_61 (dk_at dksX0_judgeRow_0 11 rfl rfl)
theorem dX0_judgeRow_12 : decode cX0_judgeRow 12 = .ok (.iload_n 2, 1) := dk_28 (dk_at dksX0_judgeRow_0 12 rfl rfl)
theorem dX0_judgeRow_13 : decode cX0_judgeRow 13 = .ok (.iload_n 1, 1) := dk_27 (dk_at dksX0_judgeRow_0 13 rfl rfl)
theorem dX0_judgeRow_14 : decode cX0_judgeRow 14 = .ok (.if_icmp .ge 40, 3) := dk_162 0 40 (dk_at dksX0_judgeRow_0 14 rfl rfl)
theorem dX0_judgeRow_17 : decode cX0_judgeRow 17 = .ok (.iload_n 2, 1) := dk_28 (dk_at dksX0_judgeRow_0 17 rfl rfl)
theorem dX0_judgeRow_18 : decode cX0_judgeRow 18 = .ok (.aload_n 0, 1) := dk_42 (dk_at dksX0_judgeRow_0 18 rfl rfl)
theorem dX0_judgeRow_19 : decode cX0_judgeRow 19 = .ok (.getfield 53, 3) := dk_180 0 53 (dk_at dksX0_judgeRow_0 19 rfl rfl)
theorem dX0_judgeRow_22 : decode cX0_judgeRow 22 = .ok (.getfield 132, 3) := dk_180 0 132 (dk_at dksX0_judgeRow_1 0 rfl rfl)
theorem dX0_judgeRow_25 : decode cX0_judgeRow 25 = .ok (.if_icmp .ge 21, 3) := dk_162 0 21 (dk_at dksX0_judgeRow_1 3 rfl rfl)
theorem dX0_judgeRow_28 : decode cX0_judgeRow 28 = .ok (.aload_n 0, 1) := dk_42 (dk_at dksX0_judgeRow_1 6 rfl rfl)
theorem dX0_judgeRow_29 : decode cX0_judgeRow 29 = .ok (.getfield 53, 3) := dk_180 0 53 (dk_at dksX0_judgeRow_1 7 rfl rfl)
theorem dX0_judgeRow_32 : decode cX0_judgeRow 32 = .ok (.getfield 154, 3) := dk_180 0 154 (dk_at dksX0_judgeRow_1 10 rfl rfl)
theorem dX0_judgeRow_35 : decode cX0_judgeRow 35 = .ok (.iload_n 2, 1) := dk_28 (dk_at dksX0_judgeRow_1 13 rfl rfl)
theorem dX0_judgeRow_36 : decode cX0_judgeRow 36 = .ok (.iaload, 1) := dk_46 (dk_at dksX0_judgeRow_1 14 rfl rfl)
theorem dX0_judgeRow_37 : decode cX0_judgeRow 37 = .ok (.aload_n 0, 1) := dk_42 (dk_at dksX0_judgeRow_1 15 rfl rfl)
theorem dX0_judgeRow_38 : decode cX0_judgeRow 38 = .ok (.getfield 63, 3) := dk_180 0 63 (dk_at dksX0_judgeRow_1 16 rfl rfl)
theorem dX0_judgeRow_41 : decode cX0_judgeRow 41 = .ok (.iload_n 2, 1) := dk_28 (dk_at dksX0_judgeRow_1 19 rfl rfl)
theorem dX0_judgeRow_42 : decode cX0_judgeRow 42 = .ok (.baload, 1) := dk_51 (dk_at dksX0_judgeRow_1 20 rfl rfl)
theorem dX0_judgeRow_43 : decode cX0_judgeRow 43 = .ok (.if_icmp .eq 5, 3) := dk_159 0 5 (dk_at dksX0_judgeRow_1 21 rfl rfl)
theorem dX0_judgeRow_46 : decode cX0_judgeRow 46 = .ok (.iload_n 2, 1) := dk_28 (dk_at dksX0_judgeRow_2 0 rfl rfl)
theorem dX0_judgeRow_47 : decode cX0_judgeRow 47 = .ok (.ireturn, 1) := dk_172 (dk_at dksX0_judgeRow_2 1 rfl rfl)
theorem dX0_judgeRow_48 : decode cX0_judgeRow 48 = .ok (.iinc 2 1, 3) := dk_132 2 1 (dk_at dksX0_judgeRow_2 2 rfl rfl)
theorem dX0_judgeRow_51 : decode cX0_judgeRow 51 = .ok (.goto (-39), 3) := dk_167 255 217 (dk_at dksX0_judgeRow_2 5 rfl rfl)
theorem dX0_judgeRow_54 : decode cX0_judgeRow 54 = .ok (.bipush (-9), 2) := dk_16 247 (dk_at dksX0_judgeRow_2 8 rfl rfl)
theorem dX0_judgeRow_56 : decode cX0_judgeRow 56 = .ok (.ireturn, 1) := dk_172 (dk_at dksX0_judgeRow_2 10 rfl rfl)
abbrev cX0_lotsTold : ByteArray := prog_1_method_63_code
def yX0_lotsTold : MethodName := ⟨RX0, "lotsTold", "(III)I"⟩
def dkwX0_lotsTold_0 : List UInt8 := [27, 133, 10, 20, 1, 147, 184, 0, 188, 29, 184, 0, 192, 42, 27, 28, 29, 182, 1, 149, 172]
abbrev dktX0_lotsTold_0 : List UInt8 := dkwX0_lotsTold_0 ++ []
theorem dksX0_lotsTold_0 : cX0_lotsTold.data.toList.drop 0 = dktX0_lotsTold_0 := by decide +kernel
theorem dX0_lotsTold_0 : decode cX0_lotsTold 0 = .ok (.iload_n 1, 1) := dk_27 (dk_at dksX0_lotsTold_0 0 rfl rfl)
theorem dX0_lotsTold_1 : decode cX0_lotsTold 1 = .ok (.i2l, 1) := dk_133 (dk_at dksX0_lotsTold_0 1 rfl rfl)
theorem dX0_lotsTold_2 : decode cX0_lotsTold 2 = .ok (.lconst 1, 1) := dk_10 (dk_at dksX0_lotsTold_0 2 rfl rfl)
theorem dX0_lotsTold_3 : decode cX0_lotsTold 3 = .ok (.ldc2_w 403, 3) := dk_20 1 147 (dk_at dksX0_lotsTold_0 3 rfl rfl)
theorem dX0_lotsTold_6 : decode cX0_lotsTold 6 = .ok (.invokestatic 188, 3) := dk_184 0 188 (dk_at dksX0_lotsTold_0 6 rfl rfl)
theorem dX0_lotsTold_9 : decode cX0_lotsTold 9 = .ok (.iload_n 3, 1) := dk_29 (dk_at dksX0_lotsTold_0 9 rfl rfl)
theorem dX0_lotsTold_10 : decode cX0_lotsTold 10 = .ok (.invokestatic 192, 3) := dk_184 0 192 (dk_at dksX0_lotsTold_0 10 rfl rfl)
theorem dX0_lotsTold_13 : decode cX0_lotsTold 13 = .ok (.aload_n 0, 1) := dk_42 (dk_at dksX0_lotsTold_0 13 rfl rfl)
theorem dX0_lotsTold_14 : decode cX0_lotsTold 14 = .ok (.iload_n 1, 1) := dk_27 (dk_at dksX0_lotsTold_0 14 rfl rfl)
theorem dX0_lotsTold_15 : decode cX0_lotsTold 15 = .ok (.iload_n 2, 1) := dk_28 (dk_at dksX0_lotsTold_0 15 rfl rfl)
theorem dX0_lotsTold_16 : decode cX0_lotsTold 16 = .ok (.iload_n 3, 1) := dk_29 (dk_at dksX0_lotsTold_0 16 rfl rfl)
theorem dX0_lotsTold_17 : decode cX0_lotsTold 17 = .ok (.invokevirtual 405, 3) := dk_182 1 149 (dk_at dksX0_lotsTold_0 17 rfl rfl)
theorem dX0_lotsTold_20 : decode cX0_lotsTold 20 = .ok (.ireturn, 1) := dk_172 (dk_at dksX0_lotsTold_0 20 rfl rfl)
abbrev cX0_byLots : ByteArray := prog_1_method_34_code
def yX0_byLots : MethodName := ⟨RX0, "byLots", "(III)I"⟩
def dkwX0_byLots_4 : List UInt8 := [132, 6, 1, 167, 255, 169, 21, 5, 172]
abbrev dktX0_byLots_4 : List UInt8 := dkwX0_byLots_4 ++ []
def dkwX0_byLots_3 : List UInt8 := [21, 5, 29, 154, 0, 11, 25, 7, 182, 0, 174, 167, 0, 8, 25, 7, 182, 0, 195, 96, 54, 5]
abbrev dktX0_byLots_3 : List UInt8 := dkwX0_byLots_3 ++ dktX0_byLots_4
def dkwX0_byLots_2 : List UInt8 := [17, 1, 0, 108, 16, 31, 112, 181, 0, 148, 25, 7, 16, 12, 182, 0, 120, 87, 132, 8, 1, 167, 255, 212]
abbrev dktX0_byLots_2 : List UInt8 := dkwX0_byLots_2 ++ dktX0_byLots_3
def dkwX0_byLots_1 : List UInt8 := [21, 8, 7, 162, 0, 44, 21, 4, 18, 235, 104, 18, 236, 96, 54, 4, 25, 7, 21, 4, 18, 237, 126]
abbrev dktX0_byLots_1 : List UInt8 := dkwX0_byLots_1 ++ dktX0_byLots_2
def dkwX0_byLots_0 : List UInt8 := [28, 54, 4, 3, 54, 5, 3, 54, 6, 21, 6, 27, 162, 0, 87, 42, 182, 0, 116, 58, 7, 3, 54, 8]
abbrev dktX0_byLots_0 : List UInt8 := dkwX0_byLots_0 ++ dktX0_byLots_1
theorem dksX0_byLots_0 : cX0_byLots.data.toList.drop 0 = dktX0_byLots_0 := by decide +kernel
theorem dksX0_byLots_1 : cX0_byLots.data.toList.drop 24 = dktX0_byLots_1 := dk_seg dksX0_byLots_0 24 rfl rfl
theorem dksX0_byLots_2 : cX0_byLots.data.toList.drop 47 = dktX0_byLots_2 := dk_seg dksX0_byLots_1 23 rfl rfl
theorem dksX0_byLots_3 : cX0_byLots.data.toList.drop 71 = dktX0_byLots_3 := dk_seg dksX0_byLots_2 24 rfl rfl
theorem dksX0_byLots_4 : cX0_byLots.data.toList.drop 93 = dktX0_byLots_4 := dk_seg dksX0_byLots_3 22 rfl rfl
theorem dX0_byLots_0 : decode cX0_byLots 0 = .ok (.iload_n 2, 1) := dk_28 (dk_at dksX0_byLots_0 0 rfl rfl)
theorem dX0_byLots_1 : decode cX0_byLots 1 = .ok (.istore 4, 2) := dk_54 4 (dk_at dksX0_byLots_0 1 rfl rfl)
theorem dX0_byLots_3 : decode cX0_byLots 3 = .ok (.iconst 0, 1) := dk_3 (dk_at dksX0_byLots_0 3 rfl rfl)
theorem dX0_byLots_4 : decode cX0_byLots 4 = .ok (.istore 5, 2) := dk_54 5 (dk_at dksX0_byLots_0 4 rfl rfl)
theorem dX0_byLots_6 : decode cX0_byLots 6 = .ok (.iconst 0, 1) := dk_3 (dk_at dksX0_byLots_0 6 rfl rfl)
theorem dX0_byLots_7 : decode cX0_byLots 7 = .ok (.istore 6, 2) := dk_54 6 (dk_at dksX0_byLots_0 7 rfl rfl)
theorem dX0_byLots_9 : decode cX0_byLots 9 = .ok (.iload 6, 2) := dk_21 6 (dk_at dksX0_byLots_0 9 rfl rfl)
theorem dX0_byLots_11 : decode cX0_byLots 11 = .ok (.iload_n 1, 1) := dk_27 (dk_at dksX0_byLots_0 11 rfl rfl)
theorem dX0_byLots_12 : decode cX0_byLots 12 = .ok (.if_icmp .ge 87, 3) := dk_162 0 87 (dk_at dksX0_byLots_0 12 rfl rfl)
theorem dX0_byLots_15 : decode cX0_byLots 15 = .ok (.aload_n 0, 1) := dk_42 (dk_at dksX0_byLots_0 15 rfl rfl)
theorem dX0_byLots_16 : decode cX0_byLots 16 = .ok (.invokevirtual 116, 3) := dk_182 0 116 (dk_at dksX0_byLots_0 16 rfl rfl)
theorem dX0_byLots_19 : decode cX0_byLots 19 = .ok (.astore 7, 2) := dk_58 7 (dk_at dksX0_byLots_0 19 rfl rfl)
theorem dX0_byLots_21 : decode cX0_byLots 21 = .ok (.iconst 0, 1) := dk_3 (dk_at dksX0_byLots_0 21 rfl rfl)
theorem dX0_byLots_22 : decode cX0_byLots 22 = .ok (.istore 8, 2) := dk_54 8 (dk_at dksX0_byLots_0 22 rfl rfl)
theorem dX0_byLots_24 : decode cX0_byLots 24 = .ok (.iload 8, 2) := dk_21 8 (dk_at dksX0_byLots_1 0 rfl rfl)
theorem dX0_byLots_26 : decode cX0_byLots 26 = .ok (.iconst 4, 1) := dk_7 (dk_at dksX0_byLots_1 2 rfl rfl)
theorem dX0_byLots_27 : decode cX0_byLots 27 = .ok (.if_icmp .ge 44, 3) := dk_162 0 44 (dk_at dksX0_byLots_1 3 rfl rfl)
theorem dX0_byLots_30 : decode cX0_byLots 30 = .ok (.iload 4, 2) := dk_21 4 (dk_at dksX0_byLots_1 6 rfl rfl)
theorem dX0_byLots_32 : decode cX0_byLots 32 = .ok (.ldc 235, 2) := dk_18 235 (dk_at dksX0_byLots_1 8 rfl rfl)
theorem dX0_byLots_34 : decode cX0_byLots 34 = .ok (.imul, 1) := dk_104 (dk_at dksX0_byLots_1 10 rfl rfl)
theorem dX0_byLots_35 : decode cX0_byLots 35 = .ok (.ldc 236, 2) := dk_18 236 (dk_at dksX0_byLots_1 11 rfl rfl)
theorem dX0_byLots_37 : decode cX0_byLots 37 = .ok (.iadd, 1) := dk_96 (dk_at dksX0_byLots_1 13 rfl rfl)
theorem dX0_byLots_38 : decode cX0_byLots 38 = .ok (.istore 4, 2) := dk_54 4 (dk_at dksX0_byLots_1 14 rfl rfl)
theorem dX0_byLots_40 : decode cX0_byLots 40 = .ok (.aload 7, 2) := dk_25 7 (dk_at dksX0_byLots_1 16 rfl rfl)
theorem dX0_byLots_42 : decode cX0_byLots 42 = .ok (.iload 4, 2) := dk_21 4 (dk_at dksX0_byLots_1 18 rfl rfl)
theorem dX0_byLots_44 : decode cX0_byLots 44 = .ok (.ldc 237, 2) := dk_18 237 (dk_at dksX0_byLots_1 20 rfl rfl)
theorem dX0_byLots_46 : decode cX0_byLots 46 = .ok (.iand, 1) := dk_126 (dk_at dksX0_byLots_1 22 rfl rfl)
theorem dX0_byLots_47 : decode cX0_byLots 47 = .ok (.sipush 256, 3) := dk_17 1 0 (dk_at dksX0_byLots_2 0 rfl rfl)
theorem dX0_byLots_50 : decode cX0_byLots 50 = .ok (.idiv, 1) := dk_108 (dk_at dksX0_byLots_2 3 rfl rfl)
theorem dX0_byLots_51 : decode cX0_byLots 51 = .ok (.bipush 31, 2) := dk_16 31 (dk_at dksX0_byLots_2 4 rfl rfl)
theorem dX0_byLots_53 : decode cX0_byLots 53 = .ok (.irem, 1) := dk_112 (dk_at dksX0_byLots_2 6 rfl rfl)
theorem dX0_byLots_54 : decode cX0_byLots 54 = .ok (.putfield 148, 3) := dk_181 0 148 (dk_at dksX0_byLots_2 7 rfl rfl)
theorem dX0_byLots_57 : decode cX0_byLots 57 = .ok (.aload 7, 2) := dk_25 7 (dk_at dksX0_byLots_2 10 rfl rfl)
theorem dX0_byLots_59 : decode cX0_byLots 59 = .ok (.bipush 12, 2) := dk_16 12 (dk_at dksX0_byLots_2 12 rfl rfl)
theorem dX0_byLots_61 : decode cX0_byLots 61 = .ok (.invokevirtual 120, 3) := dk_182 0 120 (dk_at dksX0_byLots_2 14 rfl rfl)
theorem dX0_byLots_64 : decode cX0_byLots 64 = .ok (.pop, 1) := dk_87 (dk_at dksX0_byLots_2 17 rfl rfl)
theorem dX0_byLots_65 : decode cX0_byLots 65 = .ok (.iinc 8 1, 3) := dk_132 8 1 (dk_at dksX0_byLots_2 18 rfl rfl)
theorem dX0_byLots_68 : decode cX0_byLots 68 = .ok (.goto (-44), 3) := dk_167 255 212 (dk_at dksX0_byLots_2 21 rfl rfl)
theorem dX0_byLots_71 : decode cX0_byLots 71 = .ok (.iload 5, 2) := dk_21 5 (dk_at dksX0_byLots_3 0 rfl rfl)
theorem dX0_byLots_73 : decode cX0_byLots 73 = .ok (.iload_n 3, 1) := dk_29 (dk_at dksX0_byLots_3 2 rfl rfl)
theorem dX0_byLots_74 : decode cX0_byLots 74 = .ok (.ifCond .ne 11, 3) := dk_154 0 11 (dk_at dksX0_byLots_3 3 rfl rfl)
theorem dX0_byLots_77 : decode cX0_byLots 77 = .ok (.aload 7, 2) := dk_25 7 (dk_at dksX0_byLots_3 6 rfl rfl)
theorem dX0_byLots_79 : decode cX0_byLots 79 = .ok (.invokevirtual 174, 3) := dk_182 0 174 (dk_at dksX0_byLots_3 8 rfl rfl)
theorem dX0_byLots_82 : decode cX0_byLots 82 = .ok (.goto 8, 3) := dk_167 0 8 (dk_at dksX0_byLots_3 11 rfl rfl)
theorem dX0_byLots_85 : decode cX0_byLots 85 = .ok (.aload 7, 2) := dk_25 7 (dk_at dksX0_byLots_3 14 rfl rfl)
theorem dX0_byLots_87 : decode cX0_byLots 87 = .ok (.invokevirtual 195, 3) := dk_182 0 195 (dk_at dksX0_byLots_3 16 rfl rfl)
theorem dX0_byLots_90 : decode cX0_byLots 90 = .ok (.iadd, 1) := dk_96 (dk_at dksX0_byLots_3 19 rfl rfl)
theorem dX0_byLots_91 : decode cX0_byLots 91 = .ok (.istore 5, 2) := dk_54 5 (dk_at dksX0_byLots_3 20 rfl rfl)
theorem dX0_byLots_93 : decode cX0_byLots 93 = .ok (.iinc 6 1, 3) := dk_132 6 1 (dk_at dksX0_byLots_4 0 rfl rfl)
theorem dX0_byLots_96 : decode cX0_byLots 96 = .ok (.goto (-87), 3) := dk_167 255 169 (dk_at dksX0_byLots_4 3 rfl rfl)
theorem dX0_byLots_99 : decode cX0_byLots 99 = .ok (.iload 5, 2) := dk_21 5 (dk_at dksX0_byLots_4 6 rfl rfl)
theorem dX0_byLots_101 : decode cX0_byLots 101 = .ok (.ireturn, 1) := dk_172 (dk_at dksX0_byLots_4 8 rfl rfl)
abbrev cX0_refuse : ByteArray := prog_1_method_35_code
def yX0_refuse : MethodName := ⟨RX0, "refuse", "(I)I"⟩
def dkwX0_refuse_0 : List UInt8 := [27, 16, 236, 164, 0, 14, 42, 180, 0, 71, 27, 116, 92, 46, 4, 96, 79, 27, 172]
abbrev dktX0_refuse_0 : List UInt8 := dkwX0_refuse_0 ++ []
theorem dksX0_refuse_0 : cX0_refuse.data.toList.drop 0 = dktX0_refuse_0 := by decide +kernel
theorem dX0_refuse_0 : decode cX0_refuse 0 = .ok (.iload_n 1, 1) := dk_27 (dk_at dksX0_refuse_0 0 rfl rfl)
theorem dX0_refuse_1 : decode cX0_refuse 1 = .ok (.bipush (-20), 2) := dk_16 236 (dk_at dksX0_refuse_0 1 rfl rfl)
theorem dX0_refuse_3 : decode cX0_refuse 3 = .ok (.if_icmp .le 14, 3) := dk_164 0 14 (dk_at dksX0_refuse_0 3 rfl rfl)
theorem dX0_refuse_6 : decode cX0_refuse 6 = .ok (.aload_n 0, 1) := dk_42 (dk_at dksX0_refuse_0 6 rfl rfl)
theorem dX0_refuse_7 : decode cX0_refuse 7 = .ok (.getfield 71, 3) := dk_180 0 71 (dk_at dksX0_refuse_0 7 rfl rfl)
theorem dX0_refuse_10 : decode cX0_refuse 10 = .ok (.iload_n 1, 1) := dk_27 (dk_at dksX0_refuse_0 10 rfl rfl)
theorem dX0_refuse_11 : decode cX0_refuse 11 = .ok (.ineg, 1) := dk_116 (dk_at dksX0_refuse_0 11 rfl rfl)
theorem dX0_refuse_12 : decode cX0_refuse 12 = .ok (.dup2, 1) := dk_92 (dk_at dksX0_refuse_0 12 rfl rfl)
theorem dX0_refuse_13 : decode cX0_refuse 13 = .ok (.iaload, 1) := dk_46 (dk_at dksX0_refuse_0 13 rfl rfl)
theorem dX0_refuse_14 : decode cX0_refuse 14 = .ok (.iconst 1, 1) := dk_4 (dk_at dksX0_refuse_0 14 rfl rfl)
theorem dX0_refuse_15 : decode cX0_refuse 15 = .ok (.iadd, 1) := dk_96 (dk_at dksX0_refuse_0 15 rfl rfl)
theorem dX0_refuse_16 : decode cX0_refuse 16 = .ok (.iastore, 1) := dk_79 (dk_at dksX0_refuse_0 16 rfl rfl)
theorem dX0_refuse_17 : decode cX0_refuse 17 = .ok (.iload_n 1, 1) := dk_27 (dk_at dksX0_refuse_0 17 rfl rfl)
theorem dX0_refuse_18 : decode cX0_refuse 18 = .ok (.ireturn, 1) := dk_172 (dk_at dksX0_refuse_0 18 rfl rfl)
abbrev cX0_hill : ByteArray := prog_1_method_68_code
def yX0_hill : MethodName := ⟨RX0, "hill", "()I"⟩
def dkwX0_hill_0 : List UInt8 := [42, 4, 3, 3, 3, 182, 1, 170, 172]
abbrev dktX0_hill_0 : List UInt8 := dkwX0_hill_0 ++ []
theorem dksX0_hill_0 : cX0_hill.data.toList.drop 0 = dktX0_hill_0 := by decide +kernel
theorem dX0_hill_0 : decode cX0_hill 0 = .ok (.aload_n 0, 1) := dk_42 (dk_at dksX0_hill_0 0 rfl rfl)
theorem dX0_hill_1 : decode cX0_hill 1 = .ok (.iconst 1, 1) := dk_4 (dk_at dksX0_hill_0 1 rfl rfl)
theorem dX0_hill_2 : decode cX0_hill 2 = .ok (.iconst 0, 1) := dk_3 (dk_at dksX0_hill_0 2 rfl rfl)
theorem dX0_hill_3 : decode cX0_hill 3 = .ok (.iconst 0, 1) := dk_3 (dk_at dksX0_hill_0 3 rfl rfl)
theorem dX0_hill_4 : decode cX0_hill 4 = .ok (.iconst 0, 1) := dk_3 (dk_at dksX0_hill_0 4 rfl rfl)
theorem dX0_hill_5 : decode cX0_hill 5 = .ok (.invokevirtual 426, 3) := dk_182 1 170 (dk_at dksX0_hill_0 5 rfl rfl)
theorem dX0_hill_8 : decode cX0_hill 8 = .ok (.ireturn, 1) := dk_172 (dk_at dksX0_hill_0 8 rfl rfl)
abbrev cX0_person : ByteArray := prog_1_method_69_code
def yX0_person : MethodName := ⟨RX0, "person", "(II)I"⟩
def dkwX0_person_0 : List UInt8 := [42, 5, 27, 28, 3, 182, 1, 170, 172]
abbrev dktX0_person_0 : List UInt8 := dkwX0_person_0 ++ []
theorem dksX0_person_0 : cX0_person.data.toList.drop 0 = dktX0_person_0 := by decide +kernel
theorem dX0_person_0 : decode cX0_person 0 = .ok (.aload_n 0, 1) := dk_42 (dk_at dksX0_person_0 0 rfl rfl)
theorem dX0_person_1 : decode cX0_person 1 = .ok (.iconst 2, 1) := dk_5 (dk_at dksX0_person_0 1 rfl rfl)
theorem dX0_person_2 : decode cX0_person 2 = .ok (.iload_n 1, 1) := dk_27 (dk_at dksX0_person_0 2 rfl rfl)
theorem dX0_person_3 : decode cX0_person 3 = .ok (.iload_n 2, 1) := dk_28 (dk_at dksX0_person_0 3 rfl rfl)
theorem dX0_person_4 : decode cX0_person 4 = .ok (.iconst 0, 1) := dk_3 (dk_at dksX0_person_0 4 rfl rfl)
theorem dX0_person_5 : decode cX0_person 5 = .ok (.invokevirtual 426, 3) := dk_182 1 170 (dk_at dksX0_person_0 5 rfl rfl)
theorem dX0_person_8 : decode cX0_person 8 = .ok (.ireturn, 1) := dk_172 (dk_at dksX0_person_0 8 rfl rfl)
abbrev cX0_speaks : ByteArray := prog_1_method_70_code
def yX0_speaks : MethodName := ⟨RX0, "speaks", "(I)I"⟩
def dkwX0_speaks_0 : List UInt8 := [42, 6, 27, 3, 3, 182, 1, 170, 172]
abbrev dktX0_speaks_0 : List UInt8 := dkwX0_speaks_0 ++ []
theorem dksX0_speaks_0 : cX0_speaks.data.toList.drop 0 = dktX0_speaks_0 := by decide +kernel
theorem dX0_speaks_0 : decode cX0_speaks 0 = .ok (.aload_n 0, 1) := dk_42 (dk_at dksX0_speaks_0 0 rfl rfl)
theorem dX0_speaks_1 : decode cX0_speaks 1 = .ok (.iconst 3, 1) := dk_6 (dk_at dksX0_speaks_0 1 rfl rfl)
theorem dX0_speaks_2 : decode cX0_speaks 2 = .ok (.iload_n 1, 1) := dk_27 (dk_at dksX0_speaks_0 2 rfl rfl)
theorem dX0_speaks_3 : decode cX0_speaks 3 = .ok (.iconst 0, 1) := dk_3 (dk_at dksX0_speaks_0 3 rfl rfl)
theorem dX0_speaks_4 : decode cX0_speaks 4 = .ok (.iconst 0, 1) := dk_3 (dk_at dksX0_speaks_0 4 rfl rfl)
theorem dX0_speaks_5 : decode cX0_speaks 5 = .ok (.invokevirtual 426, 3) := dk_182 1 170 (dk_at dksX0_speaks_0 5 rfl rfl)
theorem dX0_speaks_8 : decode cX0_speaks 8 = .ok (.ireturn, 1) := dk_172 (dk_at dksX0_speaks_0 8 rfl rfl)
abbrev cX0_befriends : ByteArray := prog_1_method_71_code
def yX0_befriends : MethodName := ⟨RX0, "befriends", "(II)I"⟩
def dkwX0_befriends_0 : List UInt8 := [42, 7, 27, 28, 3, 182, 1, 170, 172]
abbrev dktX0_befriends_0 : List UInt8 := dkwX0_befriends_0 ++ []
theorem dksX0_befriends_0 : cX0_befriends.data.toList.drop 0 = dktX0_befriends_0 := by decide +kernel
theorem dX0_befriends_0 : decode cX0_befriends 0 = .ok (.aload_n 0, 1) := dk_42 (dk_at dksX0_befriends_0 0 rfl rfl)
theorem dX0_befriends_1 : decode cX0_befriends 1 = .ok (.iconst 4, 1) := dk_7 (dk_at dksX0_befriends_0 1 rfl rfl)
theorem dX0_befriends_2 : decode cX0_befriends 2 = .ok (.iload_n 1, 1) := dk_27 (dk_at dksX0_befriends_0 2 rfl rfl)
theorem dX0_befriends_3 : decode cX0_befriends 3 = .ok (.iload_n 2, 1) := dk_28 (dk_at dksX0_befriends_0 3 rfl rfl)
theorem dX0_befriends_4 : decode cX0_befriends 4 = .ok (.iconst 0, 1) := dk_3 (dk_at dksX0_befriends_0 4 rfl rfl)
theorem dX0_befriends_5 : decode cX0_befriends 5 = .ok (.invokevirtual 426, 3) := dk_182 1 170 (dk_at dksX0_befriends_0 5 rfl rfl)
theorem dX0_befriends_8 : decode cX0_befriends 8 = .ok (.ireturn, 1) := dk_172 (dk_at dksX0_befriends_0 8 rfl rfl)
abbrev cX0_pours : ByteArray := prog_1_method_72_code
def yX0_pours : MethodName := ⟨RX0, "pours", "(II)I"⟩
def dkwX0_pours_0 : List UInt8 := [42, 8, 27, 28, 3, 182, 1, 170, 172]
abbrev dktX0_pours_0 : List UInt8 := dkwX0_pours_0 ++ []
theorem dksX0_pours_0 : cX0_pours.data.toList.drop 0 = dktX0_pours_0 := by decide +kernel
theorem dX0_pours_0 : decode cX0_pours 0 = .ok (.aload_n 0, 1) := dk_42 (dk_at dksX0_pours_0 0 rfl rfl)
theorem dX0_pours_1 : decode cX0_pours 1 = .ok (.iconst 5, 1) := dk_8 (dk_at dksX0_pours_0 1 rfl rfl)
theorem dX0_pours_2 : decode cX0_pours 2 = .ok (.iload_n 1, 1) := dk_27 (dk_at dksX0_pours_0 2 rfl rfl)
theorem dX0_pours_3 : decode cX0_pours 3 = .ok (.iload_n 2, 1) := dk_28 (dk_at dksX0_pours_0 3 rfl rfl)
theorem dX0_pours_4 : decode cX0_pours 4 = .ok (.iconst 0, 1) := dk_3 (dk_at dksX0_pours_0 4 rfl rfl)
theorem dX0_pours_5 : decode cX0_pours 5 = .ok (.invokevirtual 426, 3) := dk_182 1 170 (dk_at dksX0_pours_0 5 rfl rfl)
theorem dX0_pours_8 : decode cX0_pours 8 = .ok (.ireturn, 1) := dk_172 (dk_at dksX0_pours_0 8 rfl rfl)
abbrev cX0_cans : ByteArray := prog_1_method_73_code
def yX0_cans : MethodName := ⟨RX0, "cans", "(II)I"⟩
def dkwX0_cans_0 : List UInt8 := [42, 16, 6, 27, 28, 3, 182, 1, 170, 172]
abbrev dktX0_cans_0 : List UInt8 := dkwX0_cans_0 ++ []
theorem dksX0_cans_0 : cX0_cans.data.toList.drop 0 = dktX0_cans_0 := by decide +kernel
theorem dX0_cans_0 : decode cX0_cans 0 = .ok (.aload_n 0, 1) := dk_42 (dk_at dksX0_cans_0 0 rfl rfl)
theorem dX0_cans_1 : decode cX0_cans 1 = .ok (.bipush 6, 2) := dk_16 6 (dk_at dksX0_cans_0 1 rfl rfl)
theorem dX0_cans_3 : decode cX0_cans 3 = .ok (.iload_n 1, 1) := dk_27 (dk_at dksX0_cans_0 3 rfl rfl)
theorem dX0_cans_4 : decode cX0_cans 4 = .ok (.iload_n 2, 1) := dk_28 (dk_at dksX0_cans_0 4 rfl rfl)
theorem dX0_cans_5 : decode cX0_cans 5 = .ok (.iconst 0, 1) := dk_3 (dk_at dksX0_cans_0 5 rfl rfl)
theorem dX0_cans_6 : decode cX0_cans 6 = .ok (.invokevirtual 426, 3) := dk_182 1 170 (dk_at dksX0_cans_0 6 rfl rfl)
theorem dX0_cans_9 : decode cX0_cans 9 = .ok (.ireturn, 1) := dk_172 (dk_at dksX0_cans_0 9 rfl rfl)
abbrev cX0_water : ByteArray := prog_1_method_74_code
def yX0_water : MethodName := ⟨RX0, "water", "(I)I"⟩
def dkwX0_water_0 : List UInt8 := [42, 16, 7, 27, 3, 3, 182, 1, 170, 172]
abbrev dktX0_water_0 : List UInt8 := dkwX0_water_0 ++ []
theorem dksX0_water_0 : cX0_water.data.toList.drop 0 = dktX0_water_0 := by decide +kernel
theorem dX0_water_0 : decode cX0_water 0 = .ok (.aload_n 0, 1) := dk_42 (dk_at dksX0_water_0 0 rfl rfl)
theorem dX0_water_1 : decode cX0_water 1 = .ok (.bipush 7, 2) := dk_16 7 (dk_at dksX0_water_0 1 rfl rfl)
theorem dX0_water_3 : decode cX0_water 3 = .ok (.iload_n 1, 1) := dk_27 (dk_at dksX0_water_0 3 rfl rfl)
theorem dX0_water_4 : decode cX0_water 4 = .ok (.iconst 0, 1) := dk_3 (dk_at dksX0_water_0 4 rfl rfl)
theorem dX0_water_5 : decode cX0_water 5 = .ok (.iconst 0, 1) := dk_3 (dk_at dksX0_water_0 5 rfl rfl)
theorem dX0_water_6 : decode cX0_water 6 = .ok (.invokevirtual 426, 3) := dk_182 1 170 (dk_at dksX0_water_0 6 rfl rfl)
theorem dX0_water_9 : decode cX0_water 9 = .ok (.ireturn, 1) := dk_172 (dk_at dksX0_water_0 9 rfl rfl)
abbrev cX0_flow : ByteArray := prog_1_method_75_code
def yX0_flow : MethodName := ⟨RX0, "flow", "(I)I"⟩
def dkwX0_flow_0 : List UInt8 := [42, 16, 8, 27, 3, 3, 182, 1, 170, 172]
abbrev dktX0_flow_0 : List UInt8 := dkwX0_flow_0 ++ []
theorem dksX0_flow_0 : cX0_flow.data.toList.drop 0 = dktX0_flow_0 := by decide +kernel
theorem dX0_flow_0 : decode cX0_flow 0 = .ok (.aload_n 0, 1) := dk_42 (dk_at dksX0_flow_0 0 rfl rfl)
theorem dX0_flow_1 : decode cX0_flow 1 = .ok (.bipush 8, 2) := dk_16 8 (dk_at dksX0_flow_0 1 rfl rfl)
theorem dX0_flow_3 : decode cX0_flow 3 = .ok (.iload_n 1, 1) := dk_27 (dk_at dksX0_flow_0 3 rfl rfl)
theorem dX0_flow_4 : decode cX0_flow 4 = .ok (.iconst 0, 1) := dk_3 (dk_at dksX0_flow_0 4 rfl rfl)
theorem dX0_flow_5 : decode cX0_flow 5 = .ok (.iconst 0, 1) := dk_3 (dk_at dksX0_flow_0 5 rfl rfl)
theorem dX0_flow_6 : decode cX0_flow 6 = .ok (.invokevirtual 426, 3) := dk_182 1 170 (dk_at dksX0_flow_0 6 rfl rfl)
theorem dX0_flow_9 : decode cX0_flow 9 = .ok (.ireturn, 1) := dk_172 (dk_at dksX0_flow_0 9 rfl rfl)
abbrev cX0_turn : ByteArray := prog_1_method_76_code
def yX0_turn : MethodName := ⟨RX0, "turn", "(III)I"⟩
def dkwX0_turn_0 : List UInt8 := [42, 16, 9, 27, 28, 29, 182, 1, 170, 172]
abbrev dktX0_turn_0 : List UInt8 := dkwX0_turn_0 ++ []
theorem dksX0_turn_0 : cX0_turn.data.toList.drop 0 = dktX0_turn_0 := by decide +kernel
theorem dX0_turn_0 : decode cX0_turn 0 = .ok (.aload_n 0, 1) := dk_42 (dk_at dksX0_turn_0 0 rfl rfl)
theorem dX0_turn_1 : decode cX0_turn 1 = .ok (.bipush 9, 2) := dk_16 9 (dk_at dksX0_turn_0 1 rfl rfl)
theorem dX0_turn_3 : decode cX0_turn 3 = .ok (.iload_n 1, 1) := dk_27 (dk_at dksX0_turn_0 3 rfl rfl)
theorem dX0_turn_4 : decode cX0_turn 4 = .ok (.iload_n 2, 1) := dk_28 (dk_at dksX0_turn_0 4 rfl rfl)
theorem dX0_turn_5 : decode cX0_turn 5 = .ok (.iload_n 3, 1) := dk_29 (dk_at dksX0_turn_0 5 rfl rfl)
theorem dX0_turn_6 : decode cX0_turn 6 = .ok (.invokevirtual 426, 3) := dk_182 1 170 (dk_at dksX0_turn_0 6 rfl rfl)
theorem dX0_turn_9 : decode cX0_turn 9 = .ok (.ireturn, 1) := dk_172 (dk_at dksX0_turn_0 9 rfl rfl)
abbrev cX0_hours : ByteArray := prog_1_method_77_code
def yX0_hours : MethodName := ⟨RX0, "hours", "(I)I"⟩
def dkwX0_hours_0 : List UInt8 := [42, 16, 10, 27, 3, 3, 182, 1, 170, 172]
abbrev dktX0_hours_0 : List UInt8 := dkwX0_hours_0 ++ []
theorem dksX0_hours_0 : cX0_hours.data.toList.drop 0 = dktX0_hours_0 := by decide +kernel
theorem dX0_hours_0 : decode cX0_hours 0 = .ok (.aload_n 0, 1) := dk_42 (dk_at dksX0_hours_0 0 rfl rfl)
theorem dX0_hours_1 : decode cX0_hours 1 = .ok (.bipush 10, 2) := dk_16 10 (dk_at dksX0_hours_0 1 rfl rfl)
theorem dX0_hours_3 : decode cX0_hours 3 = .ok (.iload_n 1, 1) := dk_27 (dk_at dksX0_hours_0 3 rfl rfl)
theorem dX0_hours_4 : decode cX0_hours 4 = .ok (.iconst 0, 1) := dk_3 (dk_at dksX0_hours_0 4 rfl rfl)
theorem dX0_hours_5 : decode cX0_hours 5 = .ok (.iconst 0, 1) := dk_3 (dk_at dksX0_hours_0 5 rfl rfl)
theorem dX0_hours_6 : decode cX0_hours 6 = .ok (.invokevirtual 426, 3) := dk_182 1 170 (dk_at dksX0_hours_0 6 rfl rfl)
theorem dX0_hours_9 : decode cX0_hours 9 = .ok (.ireturn, 1) := dk_172 (dk_at dksX0_hours_0 9 rfl rfl)
abbrev cX0_hasThen : ByteArray := prog_1_method_78_code
def yX0_hasThen : MethodName := ⟨RX0, "hasThen", "(II)I"⟩
def dkwX0_hasThen_0 : List UInt8 := [42, 16, 11, 27, 28, 3, 182, 1, 170, 172]
abbrev dktX0_hasThen_0 : List UInt8 := dkwX0_hasThen_0 ++ []
theorem dksX0_hasThen_0 : cX0_hasThen.data.toList.drop 0 = dktX0_hasThen_0 := by decide +kernel
theorem dX0_hasThen_0 : decode cX0_hasThen 0 = .ok (.aload_n 0, 1) := dk_42 (dk_at dksX0_hasThen_0 0 rfl rfl)
theorem dX0_hasThen_1 : decode cX0_hasThen 1 = .ok (.bipush 11, 2) := dk_16 11 (dk_at dksX0_hasThen_0 1 rfl rfl)
theorem dX0_hasThen_3 : decode cX0_hasThen 3 = .ok (.iload_n 1, 1) := dk_27 (dk_at dksX0_hasThen_0 3 rfl rfl)
theorem dX0_hasThen_4 : decode cX0_hasThen 4 = .ok (.iload_n 2, 1) := dk_28 (dk_at dksX0_hasThen_0 4 rfl rfl)
theorem dX0_hasThen_5 : decode cX0_hasThen 5 = .ok (.iconst 0, 1) := dk_3 (dk_at dksX0_hasThen_0 5 rfl rfl)
theorem dX0_hasThen_6 : decode cX0_hasThen 6 = .ok (.invokevirtual 426, 3) := dk_182 1 170 (dk_at dksX0_hasThen_0 6 rfl rfl)
theorem dX0_hasThen_9 : decode cX0_hasThen 9 = .ok (.ireturn, 1) := dk_172 (dk_at dksX0_hasThen_0 9 rfl rfl)
abbrev cX0_then : ByteArray := prog_1_method_79_code
def yX0_then : MethodName := ⟨RX0, "then", "(II)I"⟩
def dkwX0_then_0 : List UInt8 := [42, 16, 12, 27, 28, 3, 182, 1, 170, 172]
abbrev dktX0_then_0 : List UInt8 := dkwX0_then_0 ++ []
theorem dksX0_then_0 : cX0_then.data.toList.drop 0 = dktX0_then_0 := by decide +kernel
theorem dX0_then_0 : decode cX0_then 0 = .ok (.aload_n 0, 1) := dk_42 (dk_at dksX0_then_0 0 rfl rfl)
theorem dX0_then_1 : decode cX0_then 1 = .ok (.bipush 12, 2) := dk_16 12 (dk_at dksX0_then_0 1 rfl rfl)
theorem dX0_then_3 : decode cX0_then 3 = .ok (.iload_n 1, 1) := dk_27 (dk_at dksX0_then_0 3 rfl rfl)
theorem dX0_then_4 : decode cX0_then 4 = .ok (.iload_n 2, 1) := dk_28 (dk_at dksX0_then_0 4 rfl rfl)
theorem dX0_then_5 : decode cX0_then 5 = .ok (.iconst 0, 1) := dk_3 (dk_at dksX0_then_0 5 rfl rfl)
theorem dX0_then_6 : decode cX0_then 6 = .ok (.invokevirtual 426, 3) := dk_182 1 170 (dk_at dksX0_then_0 6 rfl rfl)
theorem dX0_then_9 : decode cX0_then 9 = .ok (.ireturn, 1) := dk_172 (dk_at dksX0_then_0 9 rfl rfl)
abbrev cX0_dry : ByteArray := prog_1_method_80_code
def yX0_dry : MethodName := ⟨RX0, "dry", "(I)I"⟩
def dkwX0_dry_0 : List UInt8 := [42, 16, 13, 27, 3, 3, 182, 1, 170, 172]
abbrev dktX0_dry_0 : List UInt8 := dkwX0_dry_0 ++ []
theorem dksX0_dry_0 : cX0_dry.data.toList.drop 0 = dktX0_dry_0 := by decide +kernel
theorem dX0_dry_0 : decode cX0_dry 0 = .ok (.aload_n 0, 1) := dk_42 (dk_at dksX0_dry_0 0 rfl rfl)
theorem dX0_dry_1 : decode cX0_dry 1 = .ok (.bipush 13, 2) := dk_16 13 (dk_at dksX0_dry_0 1 rfl rfl)
theorem dX0_dry_3 : decode cX0_dry 3 = .ok (.iload_n 1, 1) := dk_27 (dk_at dksX0_dry_0 3 rfl rfl)
theorem dX0_dry_4 : decode cX0_dry 4 = .ok (.iconst 0, 1) := dk_3 (dk_at dksX0_dry_0 4 rfl rfl)
theorem dX0_dry_5 : decode cX0_dry 5 = .ok (.iconst 0, 1) := dk_3 (dk_at dksX0_dry_0 5 rfl rfl)
theorem dX0_dry_6 : decode cX0_dry 6 = .ok (.invokevirtual 426, 3) := dk_182 1 170 (dk_at dksX0_dry_0 6 rfl rfl)
theorem dX0_dry_9 : decode cX0_dry 9 = .ok (.ireturn, 1) := dk_172 (dk_at dksX0_dry_0 9 rfl rfl)
abbrev cX0_empty : ByteArray := prog_1_method_81_code
def yX0_empty : MethodName := ⟨RX0, "empty", "()I"⟩
def dkwX0_empty_0 : List UInt8 := [42, 16, 14, 3, 3, 3, 182, 1, 170, 172]
abbrev dktX0_empty_0 : List UInt8 := dkwX0_empty_0 ++ []
theorem dksX0_empty_0 : cX0_empty.data.toList.drop 0 = dktX0_empty_0 := by decide +kernel
theorem dX0_empty_0 : decode cX0_empty 0 = .ok (.aload_n 0, 1) := dk_42 (dk_at dksX0_empty_0 0 rfl rfl)
theorem dX0_empty_1 : decode cX0_empty 1 = .ok (.bipush 14, 2) := dk_16 14 (dk_at dksX0_empty_0 1 rfl rfl)
theorem dX0_empty_3 : decode cX0_empty 3 = .ok (.iconst 0, 1) := dk_3 (dk_at dksX0_empty_0 3 rfl rfl)
theorem dX0_empty_4 : decode cX0_empty 4 = .ok (.iconst 0, 1) := dk_3 (dk_at dksX0_empty_0 4 rfl rfl)
theorem dX0_empty_5 : decode cX0_empty 5 = .ok (.iconst 0, 1) := dk_3 (dk_at dksX0_empty_0 5 rfl rfl)
theorem dX0_empty_6 : decode cX0_empty 6 = .ok (.invokevirtual 426, 3) := dk_182 1 170 (dk_at dksX0_empty_0 6 rfl rfl)
theorem dX0_empty_9 : decode cX0_empty 9 = .ok (.ireturn, 1) := dk_172 (dk_at dksX0_empty_0 9 rfl rfl)
abbrev cX0_flowBest : ByteArray := prog_1_method_82_code
def yX0_flowBest : MethodName := ⟨RX0, "flowBest", "(I)I"⟩
def dkwX0_flowBest_0 : List UInt8 := [42, 16, 15, 27, 3, 3, 182, 1, 170, 172]
abbrev dktX0_flowBest_0 : List UInt8 := dkwX0_flowBest_0 ++ []
theorem dksX0_flowBest_0 : cX0_flowBest.data.toList.drop 0 = dktX0_flowBest_0 := by decide +kernel
theorem dX0_flowBest_0 : decode cX0_flowBest 0 = .ok (.aload_n 0, 1) := dk_42 (dk_at dksX0_flowBest_0 0 rfl rfl)
theorem dX0_flowBest_1 : decode cX0_flowBest 1 = .ok (.bipush 15, 2) := dk_16 15 (dk_at dksX0_flowBest_0 1 rfl rfl)
theorem dX0_flowBest_3 : decode cX0_flowBest 3 = .ok (.iload_n 1, 1) := dk_27 (dk_at dksX0_flowBest_0 3 rfl rfl)
theorem dX0_flowBest_4 : decode cX0_flowBest 4 = .ok (.iconst 0, 1) := dk_3 (dk_at dksX0_flowBest_0 4 rfl rfl)
theorem dX0_flowBest_5 : decode cX0_flowBest 5 = .ok (.iconst 0, 1) := dk_3 (dk_at dksX0_flowBest_0 5 rfl rfl)
theorem dX0_flowBest_6 : decode cX0_flowBest 6 = .ok (.invokevirtual 426, 3) := dk_182 1 170 (dk_at dksX0_flowBest_0 6 rfl rfl)
theorem dX0_flowBest_9 : decode cX0_flowBest 9 = .ok (.ireturn, 1) := dk_172 (dk_at dksX0_flowBest_0 9 rfl rfl)
abbrev cX0_canBest : ByteArray := prog_1_method_83_code
def yX0_canBest : MethodName := ⟨RX0, "canBest", "(II)I"⟩
def dkwX0_canBest_0 : List UInt8 := [42, 16, 16, 27, 28, 3, 182, 1, 170, 172]
abbrev dktX0_canBest_0 : List UInt8 := dkwX0_canBest_0 ++ []
theorem dksX0_canBest_0 : cX0_canBest.data.toList.drop 0 = dktX0_canBest_0 := by decide +kernel
theorem dX0_canBest_0 : decode cX0_canBest 0 = .ok (.aload_n 0, 1) := dk_42 (dk_at dksX0_canBest_0 0 rfl rfl)
theorem dX0_canBest_1 : decode cX0_canBest 1 = .ok (.bipush 16, 2) := dk_16 16 (dk_at dksX0_canBest_0 1 rfl rfl)
theorem dX0_canBest_3 : decode cX0_canBest 3 = .ok (.iload_n 1, 1) := dk_27 (dk_at dksX0_canBest_0 3 rfl rfl)
theorem dX0_canBest_4 : decode cX0_canBest 4 = .ok (.iload_n 2, 1) := dk_28 (dk_at dksX0_canBest_0 4 rfl rfl)
theorem dX0_canBest_5 : decode cX0_canBest 5 = .ok (.iconst 0, 1) := dk_3 (dk_at dksX0_canBest_0 5 rfl rfl)
theorem dX0_canBest_6 : decode cX0_canBest 6 = .ok (.invokevirtual 426, 3) := dk_182 1 170 (dk_at dksX0_canBest_0 6 rfl rfl)
theorem dX0_canBest_9 : decode cX0_canBest 9 = .ok (.ireturn, 1) := dk_172 (dk_at dksX0_canBest_0 9 rfl rfl)
abbrev cX0_friendBest : ByteArray := prog_1_method_84_code
def yX0_friendBest : MethodName := ⟨RX0, "friendBest", "(II)I"⟩
def dkwX0_friendBest_0 : List UInt8 := [42, 16, 17, 27, 28, 3, 182, 1, 170, 172]
abbrev dktX0_friendBest_0 : List UInt8 := dkwX0_friendBest_0 ++ []
theorem dksX0_friendBest_0 : cX0_friendBest.data.toList.drop 0 = dktX0_friendBest_0 := by decide +kernel
theorem dX0_friendBest_0 : decode cX0_friendBest 0 = .ok (.aload_n 0, 1) := dk_42 (dk_at dksX0_friendBest_0 0 rfl rfl)
theorem dX0_friendBest_1 : decode cX0_friendBest 1 = .ok (.bipush 17, 2) := dk_16 17 (dk_at dksX0_friendBest_0 1 rfl rfl)
theorem dX0_friendBest_3 : decode cX0_friendBest 3 = .ok (.iload_n 1, 1) := dk_27 (dk_at dksX0_friendBest_0 3 rfl rfl)
theorem dX0_friendBest_4 : decode cX0_friendBest 4 = .ok (.iload_n 2, 1) := dk_28 (dk_at dksX0_friendBest_0 4 rfl rfl)
theorem dX0_friendBest_5 : decode cX0_friendBest 5 = .ok (.iconst 0, 1) := dk_3 (dk_at dksX0_friendBest_0 5 rfl rfl)
theorem dX0_friendBest_6 : decode cX0_friendBest 6 = .ok (.invokevirtual 426, 3) := dk_182 1 170 (dk_at dksX0_friendBest_0 6 rfl rfl)
theorem dX0_friendBest_9 : decode cX0_friendBest 9 = .ok (.ireturn, 1) := dk_172 (dk_at dksX0_friendBest_0 9 rfl rfl)
abbrev cX0_hush : ByteArray := prog_1_method_85_code
def yX0_hush : MethodName := ⟨RX0, "hush", "(I)I"⟩
def dkwX0_hush_0 : List UInt8 := [42, 16, 18, 27, 3, 3, 182, 1, 170, 172]
abbrev dktX0_hush_0 : List UInt8 := dkwX0_hush_0 ++ []
theorem dksX0_hush_0 : cX0_hush.data.toList.drop 0 = dktX0_hush_0 := by decide +kernel
theorem dX0_hush_0 : decode cX0_hush 0 = .ok (.aload_n 0, 1) := dk_42 (dk_at dksX0_hush_0 0 rfl rfl)
theorem dX0_hush_1 : decode cX0_hush 1 = .ok (.bipush 18, 2) := dk_16 18 (dk_at dksX0_hush_0 1 rfl rfl)
theorem dX0_hush_3 : decode cX0_hush 3 = .ok (.iload_n 1, 1) := dk_27 (dk_at dksX0_hush_0 3 rfl rfl)
theorem dX0_hush_4 : decode cX0_hush 4 = .ok (.iconst 0, 1) := dk_3 (dk_at dksX0_hush_0 4 rfl rfl)
theorem dX0_hush_5 : decode cX0_hush 5 = .ok (.iconst 0, 1) := dk_3 (dk_at dksX0_hush_0 5 rfl rfl)
theorem dX0_hush_6 : decode cX0_hush 6 = .ok (.invokevirtual 426, 3) := dk_182 1 170 (dk_at dksX0_hush_0 6 rfl rfl)
theorem dX0_hush_9 : decode cX0_hush 9 = .ok (.ireturn, 1) := dk_172 (dk_at dksX0_hush_0 9 rfl rfl)
abbrev cX0_fewest : ByteArray := prog_1_method_86_code
def yX0_fewest : MethodName := ⟨RX0, "fewest", "(I)I"⟩
def dkwX0_fewest_0 : List UInt8 := [42, 16, 19, 27, 3, 3, 182, 1, 170, 172]
abbrev dktX0_fewest_0 : List UInt8 := dkwX0_fewest_0 ++ []
theorem dksX0_fewest_0 : cX0_fewest.data.toList.drop 0 = dktX0_fewest_0 := by decide +kernel
theorem dX0_fewest_0 : decode cX0_fewest 0 = .ok (.aload_n 0, 1) := dk_42 (dk_at dksX0_fewest_0 0 rfl rfl)
theorem dX0_fewest_1 : decode cX0_fewest 1 = .ok (.bipush 19, 2) := dk_16 19 (dk_at dksX0_fewest_0 1 rfl rfl)
theorem dX0_fewest_3 : decode cX0_fewest 3 = .ok (.iload_n 1, 1) := dk_27 (dk_at dksX0_fewest_0 3 rfl rfl)
theorem dX0_fewest_4 : decode cX0_fewest 4 = .ok (.iconst 0, 1) := dk_3 (dk_at dksX0_fewest_0 4 rfl rfl)
theorem dX0_fewest_5 : decode cX0_fewest 5 = .ok (.iconst 0, 1) := dk_3 (dk_at dksX0_fewest_0 5 rfl rfl)
theorem dX0_fewest_6 : decode cX0_fewest 6 = .ok (.invokevirtual 426, 3) := dk_182 1 170 (dk_at dksX0_fewest_0 6 rfl rfl)
theorem dX0_fewest_9 : decode cX0_fewest 9 = .ok (.ireturn, 1) := dk_172 (dk_at dksX0_fewest_0 9 rfl rfl)
abbrev cX0_word : ByteArray := prog_1_method_87_code
def yX0_word : MethodName := ⟨RX0, "word", "(I)I"⟩
def dkwX0_word_0 : List UInt8 := [42, 16, 20, 27, 3, 3, 182, 1, 170, 172]
abbrev dktX0_word_0 : List UInt8 := dkwX0_word_0 ++ []
theorem dksX0_word_0 : cX0_word.data.toList.drop 0 = dktX0_word_0 := by decide +kernel
theorem dX0_word_0 : decode cX0_word 0 = .ok (.aload_n 0, 1) := dk_42 (dk_at dksX0_word_0 0 rfl rfl)
theorem dX0_word_1 : decode cX0_word 1 = .ok (.bipush 20, 2) := dk_16 20 (dk_at dksX0_word_0 1 rfl rfl)
theorem dX0_word_3 : decode cX0_word 3 = .ok (.iload_n 1, 1) := dk_27 (dk_at dksX0_word_0 3 rfl rfl)
theorem dX0_word_4 : decode cX0_word 4 = .ok (.iconst 0, 1) := dk_3 (dk_at dksX0_word_0 4 rfl rfl)
theorem dX0_word_5 : decode cX0_word 5 = .ok (.iconst 0, 1) := dk_3 (dk_at dksX0_word_0 5 rfl rfl)
theorem dX0_word_6 : decode cX0_word 6 = .ok (.invokevirtual 426, 3) := dk_182 1 170 (dk_at dksX0_word_0 6 rfl rfl)
theorem dX0_word_9 : decode cX0_word 9 = .ok (.ireturn, 1) := dk_172 (dk_at dksX0_word_0 9 rfl rfl)
abbrev cX0_send : ByteArray := prog_1_method_88_code
def yX0_send : MethodName := ⟨RX0, "send", "(II)I"⟩
def dkwX0_send_0 : List UInt8 := [42, 16, 21, 27, 28, 3, 182, 1, 170, 172]
abbrev dktX0_send_0 : List UInt8 := dkwX0_send_0 ++ []
theorem dksX0_send_0 : cX0_send.data.toList.drop 0 = dktX0_send_0 := by decide +kernel
theorem dX0_send_0 : decode cX0_send 0 = .ok (.aload_n 0, 1) := dk_42 (dk_at dksX0_send_0 0 rfl rfl)
theorem dX0_send_1 : decode cX0_send 1 = .ok (.bipush 21, 2) := dk_16 21 (dk_at dksX0_send_0 1 rfl rfl)
theorem dX0_send_3 : decode cX0_send 3 = .ok (.iload_n 1, 1) := dk_27 (dk_at dksX0_send_0 3 rfl rfl)
theorem dX0_send_4 : decode cX0_send 4 = .ok (.iload_n 2, 1) := dk_28 (dk_at dksX0_send_0 4 rfl rfl)
theorem dX0_send_5 : decode cX0_send 5 = .ok (.iconst 0, 1) := dk_3 (dk_at dksX0_send_0 5 rfl rfl)
theorem dX0_send_6 : decode cX0_send 6 = .ok (.invokevirtual 426, 3) := dk_182 1 170 (dk_at dksX0_send_0 6 rfl rfl)
theorem dX0_send_9 : decode cX0_send 9 = .ok (.ireturn, 1) := dk_172 (dk_at dksX0_send_0 9 rfl rfl)
abbrev cX0_next : ByteArray := prog_1_method_89_code
def yX0_next : MethodName := ⟨RX0, "next", "()I"⟩
def dkwX0_next_0 : List UInt8 := [42, 16, 22, 3, 3, 3, 182, 1, 170, 172]
abbrev dktX0_next_0 : List UInt8 := dkwX0_next_0 ++ []
theorem dksX0_next_0 : cX0_next.data.toList.drop 0 = dktX0_next_0 := by decide +kernel
theorem dX0_next_0 : decode cX0_next 0 = .ok (.aload_n 0, 1) := dk_42 (dk_at dksX0_next_0 0 rfl rfl)
theorem dX0_next_1 : decode cX0_next 1 = .ok (.bipush 22, 2) := dk_16 22 (dk_at dksX0_next_0 1 rfl rfl)
theorem dX0_next_3 : decode cX0_next 3 = .ok (.iconst 0, 1) := dk_3 (dk_at dksX0_next_0 3 rfl rfl)
theorem dX0_next_4 : decode cX0_next 4 = .ok (.iconst 0, 1) := dk_3 (dk_at dksX0_next_0 4 rfl rfl)
theorem dX0_next_5 : decode cX0_next 5 = .ok (.iconst 0, 1) := dk_3 (dk_at dksX0_next_0 5 rfl rfl)
theorem dX0_next_6 : decode cX0_next 6 = .ok (.invokevirtual 426, 3) := dk_182 1 170 (dk_at dksX0_next_0 6 rfl rfl)
theorem dX0_next_9 : decode cX0_next 9 = .ok (.ireturn, 1) := dk_172 (dk_at dksX0_next_0 9 rfl rfl)
abbrev cX0_richest : ByteArray := prog_1_method_90_code
def yX0_richest : MethodName := ⟨RX0, "richest", "(I)I"⟩
def dkwX0_richest_0 : List UInt8 := [42, 16, 23, 27, 3, 3, 182, 1, 170, 172]
abbrev dktX0_richest_0 : List UInt8 := dkwX0_richest_0 ++ []
theorem dksX0_richest_0 : cX0_richest.data.toList.drop 0 = dktX0_richest_0 := by decide +kernel
theorem dX0_richest_0 : decode cX0_richest 0 = .ok (.aload_n 0, 1) := dk_42 (dk_at dksX0_richest_0 0 rfl rfl)
theorem dX0_richest_1 : decode cX0_richest 1 = .ok (.bipush 23, 2) := dk_16 23 (dk_at dksX0_richest_0 1 rfl rfl)
theorem dX0_richest_3 : decode cX0_richest 3 = .ok (.iload_n 1, 1) := dk_27 (dk_at dksX0_richest_0 3 rfl rfl)
theorem dX0_richest_4 : decode cX0_richest 4 = .ok (.iconst 0, 1) := dk_3 (dk_at dksX0_richest_0 4 rfl rfl)
theorem dX0_richest_5 : decode cX0_richest 5 = .ok (.iconst 0, 1) := dk_3 (dk_at dksX0_richest_0 5 rfl rfl)
theorem dX0_richest_6 : decode cX0_richest 6 = .ok (.invokevirtual 426, 3) := dk_182 1 170 (dk_at dksX0_richest_0 6 rfl rfl)
theorem dX0_richest_9 : decode cX0_richest 9 = .ok (.ireturn, 1) := dk_172 (dk_at dksX0_richest_0 9 rfl rfl)
abbrev cX0_quiet : ByteArray := prog_1_method_91_code
def yX0_quiet : MethodName := ⟨RX0, "quiet", "(I)I"⟩
def dkwX0_quiet_0 : List UInt8 := [42, 16, 24, 27, 3, 3, 182, 1, 170, 172]
abbrev dktX0_quiet_0 : List UInt8 := dkwX0_quiet_0 ++ []
theorem dksX0_quiet_0 : cX0_quiet.data.toList.drop 0 = dktX0_quiet_0 := by decide +kernel
theorem dX0_quiet_0 : decode cX0_quiet 0 = .ok (.aload_n 0, 1) := dk_42 (dk_at dksX0_quiet_0 0 rfl rfl)
theorem dX0_quiet_1 : decode cX0_quiet 1 = .ok (.bipush 24, 2) := dk_16 24 (dk_at dksX0_quiet_0 1 rfl rfl)
theorem dX0_quiet_3 : decode cX0_quiet 3 = .ok (.iload_n 1, 1) := dk_27 (dk_at dksX0_quiet_0 3 rfl rfl)
theorem dX0_quiet_4 : decode cX0_quiet 4 = .ok (.iconst 0, 1) := dk_3 (dk_at dksX0_quiet_0 4 rfl rfl)
theorem dX0_quiet_5 : decode cX0_quiet 5 = .ok (.iconst 0, 1) := dk_3 (dk_at dksX0_quiet_0 5 rfl rfl)
theorem dX0_quiet_6 : decode cX0_quiet 6 = .ok (.invokevirtual 426, 3) := dk_182 1 170 (dk_at dksX0_quiet_0 6 rfl rfl)
theorem dX0_quiet_9 : decode cX0_quiet 9 = .ok (.ireturn, 1) := dk_172 (dk_at dksX0_quiet_0 9 rfl rfl)
abbrev cX0_thirst : ByteArray := prog_1_method_92_code
def yX0_thirst : MethodName := ⟨RX0, "thirst", "()I"⟩
def dkwX0_thirst_0 : List UInt8 := [42, 16, 25, 3, 3, 3, 182, 1, 170, 172]
abbrev dktX0_thirst_0 : List UInt8 := dkwX0_thirst_0 ++ []
theorem dksX0_thirst_0 : cX0_thirst.data.toList.drop 0 = dktX0_thirst_0 := by decide +kernel
theorem dX0_thirst_0 : decode cX0_thirst 0 = .ok (.aload_n 0, 1) := dk_42 (dk_at dksX0_thirst_0 0 rfl rfl)
theorem dX0_thirst_1 : decode cX0_thirst 1 = .ok (.bipush 25, 2) := dk_16 25 (dk_at dksX0_thirst_0 1 rfl rfl)
theorem dX0_thirst_3 : decode cX0_thirst 3 = .ok (.iconst 0, 1) := dk_3 (dk_at dksX0_thirst_0 3 rfl rfl)
theorem dX0_thirst_4 : decode cX0_thirst 4 = .ok (.iconst 0, 1) := dk_3 (dk_at dksX0_thirst_0 4 rfl rfl)
theorem dX0_thirst_5 : decode cX0_thirst 5 = .ok (.iconst 0, 1) := dk_3 (dk_at dksX0_thirst_0 5 rfl rfl)
theorem dX0_thirst_6 : decode cX0_thirst 6 = .ok (.invokevirtual 426, 3) := dk_182 1 170 (dk_at dksX0_thirst_0 6 rfl rfl)
theorem dX0_thirst_9 : decode cX0_thirst 9 = .ok (.ireturn, 1) := dk_172 (dk_at dksX0_thirst_0 9 rfl rfl)
abbrev cX0_lasts : ByteArray := prog_1_method_93_code
def yX0_lasts : MethodName := ⟨RX0, "lasts", "(I)I"⟩
def dkwX0_lasts_0 : List UInt8 := [42, 16, 26, 27, 3, 3, 182, 1, 170, 172]
abbrev dktX0_lasts_0 : List UInt8 := dkwX0_lasts_0 ++ []
theorem dksX0_lasts_0 : cX0_lasts.data.toList.drop 0 = dktX0_lasts_0 := by decide +kernel
theorem dX0_lasts_0 : decode cX0_lasts 0 = .ok (.aload_n 0, 1) := dk_42 (dk_at dksX0_lasts_0 0 rfl rfl)
theorem dX0_lasts_1 : decode cX0_lasts 1 = .ok (.bipush 26, 2) := dk_16 26 (dk_at dksX0_lasts_0 1 rfl rfl)
theorem dX0_lasts_3 : decode cX0_lasts 3 = .ok (.iload_n 1, 1) := dk_27 (dk_at dksX0_lasts_0 3 rfl rfl)
theorem dX0_lasts_4 : decode cX0_lasts 4 = .ok (.iconst 0, 1) := dk_3 (dk_at dksX0_lasts_0 4 rfl rfl)
theorem dX0_lasts_5 : decode cX0_lasts 5 = .ok (.iconst 0, 1) := dk_3 (dk_at dksX0_lasts_0 5 rfl rfl)
theorem dX0_lasts_6 : decode cX0_lasts 6 = .ok (.invokevirtual 426, 3) := dk_182 1 170 (dk_at dksX0_lasts_0 6 rfl rfl)
theorem dX0_lasts_9 : decode cX0_lasts 9 = .ok (.ireturn, 1) := dk_172 (dk_at dksX0_lasts_0 9 rfl rfl)
abbrev cX0_carries : ByteArray := prog_1_method_94_code
def yX0_carries : MethodName := ⟨RX0, "carries", "(I)I"⟩
def dkwX0_carries_0 : List UInt8 := [42, 16, 27, 27, 3, 3, 182, 1, 170, 172]
abbrev dktX0_carries_0 : List UInt8 := dkwX0_carries_0 ++ []
theorem dksX0_carries_0 : cX0_carries.data.toList.drop 0 = dktX0_carries_0 := by decide +kernel
theorem dX0_carries_0 : decode cX0_carries 0 = .ok (.aload_n 0, 1) := dk_42 (dk_at dksX0_carries_0 0 rfl rfl)
theorem dX0_carries_1 : decode cX0_carries 1 = .ok (.bipush 27, 2) := dk_16 27 (dk_at dksX0_carries_0 1 rfl rfl)
theorem dX0_carries_3 : decode cX0_carries 3 = .ok (.iload_n 1, 1) := dk_27 (dk_at dksX0_carries_0 3 rfl rfl)
theorem dX0_carries_4 : decode cX0_carries 4 = .ok (.iconst 0, 1) := dk_3 (dk_at dksX0_carries_0 4 rfl rfl)
theorem dX0_carries_5 : decode cX0_carries 5 = .ok (.iconst 0, 1) := dk_3 (dk_at dksX0_carries_0 5 rfl rfl)
theorem dX0_carries_6 : decode cX0_carries 6 = .ok (.invokevirtual 426, 3) := dk_182 1 170 (dk_at dksX0_carries_0 6 rfl rfl)
theorem dX0_carries_9 : decode cX0_carries 9 = .ok (.ireturn, 1) := dk_172 (dk_at dksX0_carries_0 9 rfl rfl)
abbrev cX0_two : ByteArray := prog_1_method_95_code
def yX0_two : MethodName := ⟨RX0, "two", "(III)I"⟩
def dkwX0_two_0 : List UInt8 := [42, 16, 28, 27, 28, 29, 182, 1, 170, 172]
abbrev dktX0_two_0 : List UInt8 := dkwX0_two_0 ++ []
theorem dksX0_two_0 : cX0_two.data.toList.drop 0 = dktX0_two_0 := by decide +kernel
theorem dX0_two_0 : decode cX0_two 0 = .ok (.aload_n 0, 1) := dk_42 (dk_at dksX0_two_0 0 rfl rfl)
theorem dX0_two_1 : decode cX0_two 1 = .ok (.bipush 28, 2) := dk_16 28 (dk_at dksX0_two_0 1 rfl rfl)
theorem dX0_two_3 : decode cX0_two 3 = .ok (.iload_n 1, 1) := dk_27 (dk_at dksX0_two_0 3 rfl rfl)
theorem dX0_two_4 : decode cX0_two 4 = .ok (.iload_n 2, 1) := dk_28 (dk_at dksX0_two_0 4 rfl rfl)
theorem dX0_two_5 : decode cX0_two 5 = .ok (.iload_n 3, 1) := dk_29 (dk_at dksX0_two_0 5 rfl rfl)
theorem dX0_two_6 : decode cX0_two 6 = .ok (.invokevirtual 426, 3) := dk_182 1 170 (dk_at dksX0_two_0 6 rfl rfl)
theorem dX0_two_9 : decode cX0_two 9 = .ok (.ireturn, 1) := dk_172 (dk_at dksX0_two_0 9 rfl rfl)
abbrev cX0_sneeze : ByteArray := prog_1_method_96_code
def yX0_sneeze : MethodName := ⟨RX0, "sneeze", "(IIIII)J"⟩
def dkwX0_sneeze_0 : List UInt8 := [42, 27, 28, 29, 21, 4, 21, 5, 182, 1, 173, 173]
abbrev dktX0_sneeze_0 : List UInt8 := dkwX0_sneeze_0 ++ []
theorem dksX0_sneeze_0 : cX0_sneeze.data.toList.drop 0 = dktX0_sneeze_0 := by decide +kernel
theorem dX0_sneeze_0 : decode cX0_sneeze 0 = .ok (.aload_n 0, 1) := dk_42 (dk_at dksX0_sneeze_0 0 rfl rfl)
theorem dX0_sneeze_1 : decode cX0_sneeze 1 = .ok (.iload_n 1, 1) := dk_27 (dk_at dksX0_sneeze_0 1 rfl rfl)
theorem dX0_sneeze_2 : decode cX0_sneeze 2 = .ok (.iload_n 2, 1) := dk_28 (dk_at dksX0_sneeze_0 2 rfl rfl)
theorem dX0_sneeze_3 : decode cX0_sneeze 3 = .ok (.iload_n 3, 1) := dk_29 (dk_at dksX0_sneeze_0 3 rfl rfl)
theorem dX0_sneeze_4 : decode cX0_sneeze 4 = .ok (.iload 4, 2) := dk_21 4 (dk_at dksX0_sneeze_0 4 rfl rfl)
theorem dX0_sneeze_6 : decode cX0_sneeze 6 = .ok (.iload 5, 2) := dk_21 5 (dk_at dksX0_sneeze_0 6 rfl rfl)
theorem dX0_sneeze_8 : decode cX0_sneeze 8 = .ok (.invokevirtual 429, 3) := dk_182 1 173 (dk_at dksX0_sneeze_0 8 rfl rfl)
theorem dX0_sneeze_11 : decode cX0_sneeze 11 = .ok (.lreturn, 1) := dk_173 (dk_at dksX0_sneeze_0 11 rfl rfl)
abbrev cX0_sneezeTold : ByteArray := prog_1_method_65_code
def yX0_sneezeTold : MethodName := ⟨RX0, "sneezeTold", "(IIIII)J"⟩
def dkwX0_sneezeTold_3 : List UInt8 := [182, 1, 162, 173, 58, 6, 42, 25, 6, 182, 1, 166, 173]
abbrev dktX0_sneezeTold_3 : List UInt8 := dkwX0_sneezeTold_3 ++ []
def dkwX0_sneezeTold_2 : List UInt8 := [4, 167, 0, 4, 3, 16, 250, 184, 0, 9, 21, 5, 184, 0, 192, 42, 27, 28, 29, 21, 4, 21, 5]
abbrev dktX0_sneezeTold_2 : List UInt8 := dkwX0_sneezeTold_2 ++ dktX0_sneezeTold_3
def dkwX0_sneezeTold_1 : List UInt8 := [16, 252, 184, 0, 9, 28, 16, 7, 163, 0, 20, 29, 16, 20, 163, 0, 14, 21, 4, 16, 99, 163, 0, 7]
abbrev dktX0_sneezeTold_1 : List UInt8 := dkwX0_sneezeTold_1 ++ dktX0_sneezeTold_2
def dkwX0_sneezeTold_0 : List UInt8 := [42, 27, 182, 1, 11, 28, 155, 0, 17, 21, 4, 155, 0, 12, 29, 5, 161, 0, 7, 4, 167, 0, 4, 3]
abbrev dktX0_sneezeTold_0 : List UInt8 := dkwX0_sneezeTold_0 ++ dktX0_sneezeTold_1
theorem dksX0_sneezeTold_0 : cX0_sneezeTold.data.toList.drop 0 = dktX0_sneezeTold_0 := by decide +kernel
theorem dksX0_sneezeTold_1 : cX0_sneezeTold.data.toList.drop 24 = dktX0_sneezeTold_1 := dk_seg dksX0_sneezeTold_0 24 rfl rfl
theorem dksX0_sneezeTold_2 : cX0_sneezeTold.data.toList.drop 48 = dktX0_sneezeTold_2 := dk_seg dksX0_sneezeTold_1 24 rfl rfl
theorem dksX0_sneezeTold_3 : cX0_sneezeTold.data.toList.drop 71 = dktX0_sneezeTold_3 := dk_seg dksX0_sneezeTold_2 23 rfl rfl
theorem dX0_sneezeTold_0 : decode cX0_sneezeTold 0 = .ok (.aload_n 0, 1) := dk_42 (dk_at dksX0_sneezeTold_0 0 rfl rfl)
theorem dX0_sneezeTold_1 : decode cX0_sneezeTold 1 = .ok (.iload_n 1, 1) := dk_27 (dk_at dksX0_sneezeTold_0 1 rfl rfl)
theorem dX0_sneezeTold_2 : decode cX0_sneezeTold 2 = .ok (.invokevirtual 267, 3) := dk_182 1 11 (dk_at dksX0_sneezeTold_0 2 rfl rfl)
theorem dX0_sneezeTold_5 : decode cX0_sneezeTold 5 = .ok (.iload_n 2, 1) := dk_28 (dk_at dksX0_sneezeTold_0 5 rfl rfl)
theorem dX0_sneezeTold_6 : decode cX0_sneezeTold 6 = .ok (.ifCond .lt 17, 3) := dk_155 0 17 (dk_at dksX0_sneezeTold_0 6 rfl rfl)
theorem dX0_sneezeTold_9 : decode cX0_sneezeTold 9 = .ok (.iload 4, 2) := dk_21 4 (dk_at dksX0_sneezeTold_0 9 rfl rfl)
theorem dX0_sneezeTold_11 : decode cX0_sneezeTold 11 = .ok (.ifCond .lt 12, 3) := dk_155 0 12 (dk_at dksX0_sneezeTold_0 11 rfl rfl)
theorem dX0_sneezeTold_14 : decode cX0_sneezeTold 14 = .ok (.iload_n 3, 1) := dk_29 (dk_at dksX0_sneezeTold_0 14 rfl rfl)
theorem dX0_sneezeTold_15 : decode cX0_sneezeTold 15 = .ok (.iconst 2, 1) := dk_5 (dk_at dksX0_sneezeTold_0 15 rfl rfl)
theorem dX0_sneezeTold_16 : decode cX0_sneezeTold 16 = .ok (.if_icmp .lt 7, 3) := dk_161 0 7 (dk_at dksX0_sneezeTold_0 16 rfl rfl)
theorem dX0_sneezeTold_19 : decode cX0_sneezeTold 19 = .ok (.iconst 1, 1) := dk_4 (dk_at dksX0_sneezeTold_0 19 rfl rfl)
theorem dX0_sneezeTold_20 : decode cX0_sneezeTold 20 = .ok (.goto 4, 3) := dk_167 0 4 (dk_at dksX0_sneezeTold_0 20 rfl rfl)
theorem dX0_sneezeTold_23 : decode cX0_sneezeTold 23 = .ok (.iconst 0, 1) := dk_3 (dk_at dksX0_sneezeTold_0 23 rfl rfl)
theorem dX0_sneezeTold_24 : decode cX0_sneezeTold 24 = .ok (.bipush (-4), 2) := dk_16 252 (dk_at dksX0_sneezeTold_1 0 rfl rfl)
theorem dX0_sneezeTold_26 : decode cX0_sneezeTold 26 = .ok (.invokestatic 9, 3) := dk_184 0 9 (dk_at dksX0_sneezeTold_1 2 rfl rfl)
theorem dX0_sneezeTold_29 : decode cX0_sneezeTold 29 = .ok (.iload_n 2, 1) := dk_28 (dk_at dksX0_sneezeTold_1 5 rfl rfl)
theorem dX0_sneezeTold_30 : decode cX0_sneezeTold 30 = .ok (.bipush 7, 2) := dk_16 7 (dk_at dksX0_sneezeTold_1 6 rfl rfl)
theorem dX0_sneezeTold_32 : decode cX0_sneezeTold 32 = .ok (.if_icmp .gt 20, 3) := dk_163 0 20 (dk_at dksX0_sneezeTold_1 8 rfl rfl)
theorem dX0_sneezeTold_35 : decode cX0_sneezeTold 35 = .ok (.iload_n 3, 1) := dk_29 (dk_at dksX0_sneezeTold_1 11 rfl rfl)
theorem dX0_sneezeTold_36 : decode cX0_sneezeTold 36 = .ok (.bipush 20, 2) := dk_16 20 (dk_at dksX0_sneezeTold_1 12 rfl rfl)
theorem dX0_sneezeTold_38 : decode cX0_sneezeTold 38 = .ok (.if_icmp .gt 14, 3) := dk_163 0 14 (dk_at dksX0_sneezeTold_1 14 rfl rfl)
theorem dX0_sneezeTold_41 : decode cX0_sneezeTold 41 = .ok (.iload 4, 2) := dk_21 4 (dk_at dksX0_sneezeTold_1 17 rfl rfl)
theorem dX0_sneezeTold_43 : decode cX0_sneezeTold 43 = .ok (.bipush 99, 2) := dk_16 99 (dk_at dksX0_sneezeTold_1 19 rfl rfl)
theorem dX0_sneezeTold_45 : decode cX0_sneezeTold 45 = .ok (.if_icmp .gt 7, 3) := dk_163 0 7 (dk_at dksX0_sneezeTold_1 21 rfl rfl)
theorem dX0_sneezeTold_48 : decode cX0_sneezeTold 48 = .ok (.iconst 1, 1) := dk_4 (dk_at dksX0_sneezeTold_2 0 rfl rfl)
theorem dX0_sneezeTold_49 : decode cX0_sneezeTold 49 = .ok (.goto 4, 3) := dk_167 0 4 (dk_at dksX0_sneezeTold_2 1 rfl rfl)
theorem dX0_sneezeTold_52 : decode cX0_sneezeTold 52 = .ok (.iconst 0, 1) := dk_3 (dk_at dksX0_sneezeTold_2 4 rfl rfl)
theorem dX0_sneezeTold_53 : decode cX0_sneezeTold 53 = .ok (.bipush (-6), 2) := dk_16 250 (dk_at dksX0_sneezeTold_2 5 rfl rfl)
theorem dX0_sneezeTold_55 : decode cX0_sneezeTold 55 = .ok (.invokestatic 9, 3) := dk_184 0 9 (dk_at dksX0_sneezeTold_2 7 rfl rfl)
theorem dX0_sneezeTold_58 : decode cX0_sneezeTold 58 = .ok (.iload 5, 2) := dk_21 5 (dk_at dksX0_sneezeTold_2 10 rfl rfl)
theorem dX0_sneezeTold_60 : decode cX0_sneezeTold 60 = .ok (.invokestatic 192, 3) := dk_184 0 192 (dk_at dksX0_sneezeTold_2 12 rfl rfl)
theorem dX0_sneezeTold_63 : decode cX0_sneezeTold 63 = .ok (.aload_n 0, 1) := dk_42 (dk_at dksX0_sneezeTold_2 15 rfl rfl)
theorem dX0_sneezeTold_64 : decode cX0_sneezeTold 64 = .ok (.iload_n 1, 1) := dk_27 (dk_at dksX0_sneezeTold_2 16 rfl rfl)
theorem dX0_sneezeTold_65 : decode cX0_sneezeTold 65 = .ok (.iload_n 2, 1) := dk_28 (dk_at dksX0_sneezeTold_2 17 rfl rfl)
theorem dX0_sneezeTold_66 : decode cX0_sneezeTold 66 = .ok (.iload_n 3, 1) := dk_29 (dk_at dksX0_sneezeTold_2 18 rfl rfl)
theorem dX0_sneezeTold_67 : decode cX0_sneezeTold 67 = .ok (.iload 4, 2) := dk_21 4 (dk_at dksX0_sneezeTold_2 19 rfl rfl)
theorem dX0_sneezeTold_69 : decode cX0_sneezeTold 69 = .ok (.iload 5, 2) := dk_21 5 (dk_at dksX0_sneezeTold_2 21 rfl rfl)
theorem dX0_sneezeTold_71 : decode cX0_sneezeTold 71 = .ok (.invokevirtual 418, 3) := dk_182 1 162 (dk_at dksX0_sneezeTold_3 0 rfl rfl)
theorem dX0_sneezeTold_74 : decode cX0_sneezeTold 74 = .ok (.lreturn, 1) := dk_173 (dk_at dksX0_sneezeTold_3 3 rfl rfl)
theorem dX0_sneezeTold_75 : decode cX0_sneezeTold 75 = .ok (.astore 6, 2) := dk_58 6 (dk_at dksX0_sneezeTold_3 4 rfl rfl)
theorem dX0_sneezeTold_77 : decode cX0_sneezeTold 77 = .ok (.aload_n 0, 1) := dk_42 (dk_at dksX0_sneezeTold_3 6 rfl rfl)
theorem dX0_sneezeTold_78 : decode cX0_sneezeTold 78 = .ok (.aload 6, 2) := dk_25 6 (dk_at dksX0_sneezeTold_3 7 rfl rfl)
theorem dX0_sneezeTold_80 : decode cX0_sneezeTold 80 = .ok (.invokevirtual 422, 3) := dk_182 1 166 (dk_at dksX0_sneezeTold_3 9 rfl rfl)
theorem dX0_sneezeTold_83 : decode cX0_sneezeTold 83 = .ok (.lreturn, 1) := dk_173 (dk_at dksX0_sneezeTold_3 12 rfl rfl)
abbrev cX0_sneezePart : ByteArray := prog_1_method_30_code
def yX0_sneezePart : MethodName := ⟨RX0, "sneezePart", "(IIIII)J"⟩
def dkwX0_sneezePart_6 : List UInt8 := [167, 255, 148, 22, 6, 22, 8, 21, 5, 184, 0, 221, 173]
abbrev dktX0_sneezePart_6 : List UInt8 := dkwX0_sneezePart_6 ++ []
def dkwX0_sneezePart_5 : List UInt8 := [180, 0, 124, 27, 46, 21, 4, 161, 0, 8, 22, 12, 167, 0, 4, 9, 97, 55, 6, 132, 10, 1]
abbrev dktX0_sneezePart_5 : List UInt8 := dkwX0_sneezePart_5 ++ dktX0_sneezePart_6
def dkwX0_sneezePart_4 : List UInt8 := [153, 0, 7, 10, 167, 0, 7, 29, 4, 100, 133, 105, 55, 12, 132, 14, 1, 167, 255, 197, 22, 6, 25, 11]
abbrev dktX0_sneezePart_4 : List UInt8 := dkwX0_sneezePart_4 ++ dktX0_sneezePart_5
def dkwX0_sneezePart_3 : List UInt8 := [27, 120, 167, 0, 4, 3, 181, 0, 218, 25, 11, 182, 0, 127, 22, 12, 21, 10, 21, 14, 184, 0, 215]
abbrev dktX0_sneezePart_3 : List UInt8 := dkwX0_sneezePart_3 ++ dktX0_sneezePart_4
def dkwX0_sneezePart_2 : List UInt8 := [55, 12, 3, 54, 14, 21, 14, 28, 162, 0, 59, 25, 11, 21, 10, 21, 14, 184, 0, 215, 153, 0, 9, 4]
abbrev dktX0_sneezePart_2 : List UInt8 := dkwX0_sneezePart_2 ++ dktX0_sneezePart_3
def dkwX0_sneezePart_1 : List UInt8 := [132, 10, 1, 167, 255, 240, 3, 54, 10, 21, 10, 4, 28, 120, 162, 0, 106, 42, 182, 0, 116, 58, 11, 10]
abbrev dktX0_sneezePart_1 : List UInt8 := dkwX0_sneezePart_1 ++ dktX0_sneezePart_2
def dkwX0_sneezePart_0 : List UInt8 := [9, 55, 6, 10, 55, 8, 3, 54, 10, 21, 10, 28, 162, 0, 16, 22, 8, 29, 133, 105, 55, 8]
abbrev dktX0_sneezePart_0 : List UInt8 := dkwX0_sneezePart_0 ++ dktX0_sneezePart_1
theorem dksX0_sneezePart_0 : cX0_sneezePart.data.toList.drop 0 = dktX0_sneezePart_0 := by decide +kernel
theorem dksX0_sneezePart_1 : cX0_sneezePart.data.toList.drop 22 = dktX0_sneezePart_1 := dk_seg dksX0_sneezePart_0 22 rfl rfl
theorem dksX0_sneezePart_2 : cX0_sneezePart.data.toList.drop 46 = dktX0_sneezePart_2 := dk_seg dksX0_sneezePart_1 24 rfl rfl
theorem dksX0_sneezePart_3 : cX0_sneezePart.data.toList.drop 70 = dktX0_sneezePart_3 := dk_seg dksX0_sneezePart_2 24 rfl rfl
theorem dksX0_sneezePart_4 : cX0_sneezePart.data.toList.drop 93 = dktX0_sneezePart_4 := dk_seg dksX0_sneezePart_3 23 rfl rfl
theorem dksX0_sneezePart_5 : cX0_sneezePart.data.toList.drop 117 = dktX0_sneezePart_5 := dk_seg dksX0_sneezePart_4 24 rfl rfl
theorem dksX0_sneezePart_6 : cX0_sneezePart.data.toList.drop 139 = dktX0_sneezePart_6 := dk_seg dksX0_sneezePart_5 22 rfl rfl
theorem dX0_sneezePart_0 : decode cX0_sneezePart 0 = .ok (.lconst 0, 1) := dk_9 (dk_at dksX0_sneezePart_0 0 rfl rfl)
theorem dX0_sneezePart_1 : decode cX0_sneezePart 1 = .ok (.lstore 6, 2) := dk_55 6 (dk_at dksX0_sneezePart_0 1 rfl rfl)
theorem dX0_sneezePart_3 : decode cX0_sneezePart 3 = .ok (.lconst 1, 1) := dk_10 (dk_at dksX0_sneezePart_0 3 rfl rfl)
theorem dX0_sneezePart_4 : decode cX0_sneezePart 4 = .ok (.lstore 8, 2) := dk_55 8 (dk_at dksX0_sneezePart_0 4 rfl rfl)
theorem dX0_sneezePart_6 : decode cX0_sneezePart 6 = .ok (.iconst 0, 1) := dk_3 (dk_at dksX0_sneezePart_0 6 rfl rfl)
theorem dX0_sneezePart_7 : decode cX0_sneezePart 7 = .ok (.istore 10, 2) := dk_54 10 (dk_at dksX0_sneezePart_0 7 rfl rfl)
theorem dX0_sneezePart_9 : decode cX0_sneezePart 9 = .ok (.iload 10, 2) := dk_21 10 (dk_at dksX0_sneezePart_0 9 rfl rfl)
theorem dX0_sneezePart_11 : decode cX0_sneezePart 11 = .ok (.iload_n 2, 1) := dk_28 (dk_at dksX0_sneezePart_0 11 rfl rfl)
theorem dX0_sneezePart_12 : decode cX0_sneezePart 12 = .ok (.if_icmp .ge 16, 3) := dk_162 0 16 (dk_at dksX0_sneezePart_0 12 rfl rfl)
theorem dX0_sneezePart_15 : decode cX0_sneezePart 15 = .ok (.lload 8, 2) := dk_22 8 (dk_at dksX0_sneezePart_0 15 rfl rfl)
theorem dX0_sneezePart_17 : decode cX0_sneezePart 17 = .ok (.iload_n 3, 1) := dk_29 (dk_at dksX0_sneezePart_0 17 rfl rfl)
theorem dX0_sneezePart_18 : decode cX0_sneezePart 18 = .ok (.i2l, 1) := dk_133 (dk_at dksX0_sneezePart_0 18 rfl rfl)
theorem dX0_sneezePart_19 : decode cX0_sneezePart 19 = .ok (.lmul, 1) := dk_105 (dk_at dksX0_sneezePart_0 19 rfl rfl)
theorem dX0_sneezePart_20 : decode cX0_sneezePart 20 = .ok (.lstore 8, 2) := dk_55 8 (dk_at dksX0_sneezePart_0 20 rfl rfl)
theorem dX0_sneezePart_22 : decode cX0_sneezePart 22 = .ok (.iinc 10 1, 3) := dk_132 10 1 (dk_at dksX0_sneezePart_1 0 rfl rfl)
theorem dX0_sneezePart_25 : decode cX0_sneezePart 25 = .ok (.goto (-16), 3) := dk_167 255 240 (dk_at dksX0_sneezePart_1 3 rfl rfl)
theorem dX0_sneezePart_28 : decode cX0_sneezePart 28 = .ok (.iconst 0, 1) := dk_3 (dk_at dksX0_sneezePart_1 6 rfl rfl)
theorem dX0_sneezePart_29 : decode cX0_sneezePart 29 = .ok (.istore 10, 2) := dk_54 10 (dk_at dksX0_sneezePart_1 7 rfl rfl)
theorem dX0_sneezePart_31 : decode cX0_sneezePart 31 = .ok (.iload 10, 2) := dk_21 10 (dk_at dksX0_sneezePart_1 9 rfl rfl)
theorem dX0_sneezePart_33 : decode cX0_sneezePart 33 = .ok (.iconst 1, 1) := dk_4 (dk_at dksX0_sneezePart_1 11 rfl rfl)
theorem dX0_sneezePart_34 : decode cX0_sneezePart 34 = .ok (.iload_n 2, 1) := dk_28 (dk_at dksX0_sneezePart_1 12 rfl rfl)
theorem dX0_sneezePart_35 : decode cX0_sneezePart 35 = .ok (.ishl, 1) := dk_120 (dk_at dksX0_sneezePart_1 13 rfl rfl)
theorem dX0_sneezePart_36 : decode cX0_sneezePart 36 = .ok (.if_icmp .ge 106, 3) := dk_162 0 106 (dk_at dksX0_sneezePart_1 14 rfl rfl)
theorem dX0_sneezePart_39 : decode cX0_sneezePart 39 = .ok (.aload_n 0, 1) := dk_42 (dk_at dksX0_sneezePart_1 17 rfl rfl)
theorem dX0_sneezePart_40 : decode cX0_sneezePart 40 = .ok (.invokevirtual 116, 3) := dk_182 0 116 (dk_at dksX0_sneezePart_1 18 rfl rfl)
theorem dX0_sneezePart_43 : decode cX0_sneezePart 43 = .ok (.astore 11, 2) := dk_58 11 (dk_at dksX0_sneezePart_1 21 rfl rfl)
theorem dX0_sneezePart_45 : decode cX0_sneezePart 45 = .ok (.lconst 1, 1) := dk_10 (dk_at dksX0_sneezePart_1 23 rfl rfl)
theorem dX0_sneezePart_46 : decode cX0_sneezePart 46 = .ok (.lstore 12, 2) := dk_55 12 (dk_at dksX0_sneezePart_2 0 rfl rfl)
theorem dX0_sneezePart_48 : decode cX0_sneezePart 48 = .ok (.iconst 0, 1) := dk_3 (dk_at dksX0_sneezePart_2 2 rfl rfl)
theorem dX0_sneezePart_49 : decode cX0_sneezePart 49 = .ok (.istore 14, 2) := dk_54 14 (dk_at dksX0_sneezePart_2 3 rfl rfl)
theorem dX0_sneezePart_51 : decode cX0_sneezePart 51 = .ok (.iload 14, 2) := dk_21 14 (dk_at dksX0_sneezePart_2 5 rfl rfl)
theorem dX0_sneezePart_53 : decode cX0_sneezePart 53 = .ok (.iload_n 2, 1) := dk_28 (dk_at dksX0_sneezePart_2 7 rfl rfl)
theorem dX0_sneezePart_54 : decode cX0_sneezePart 54 = .ok (.if_icmp .ge 59, 3) := dk_162 0 59 (dk_at dksX0_sneezePart_2 8 rfl rfl)
theorem dX0_sneezePart_57 : decode cX0_sneezePart 57 = .ok (.aload 11, 2) := dk_25 11 (dk_at dksX0_sneezePart_2 11 rfl rfl)
theorem dX0_sneezePart_59 : decode cX0_sneezePart 59 = .ok (.iload 10, 2) := dk_21 10 (dk_at dksX0_sneezePart_2 13 rfl rfl)
theorem dX0_sneezePart_61 : decode cX0_sneezePart 61 = .ok (.iload 14, 2) := dk_21 14 (dk_at dksX0_sneezePart_2 15 rfl rfl)
theorem dX0_sneezePart_63 : decode cX0_sneezePart 63 = .ok (.invokestatic 215, 3) := dk_184 0 215 (dk_at dksX0_sneezePart_2 17 rfl rfl)
theorem dX0_sneezePart_66 : decode cX0_sneezePart 66 = .ok (.ifCond .eq 9, 3) := dk_153 0 9 (dk_at dksX0_sneezePart_2 20 rfl rfl)
theorem dX0_sneezePart_69 : decode cX0_sneezePart 69 = .ok (.iconst 1, 1) := dk_4 (dk_at dksX0_sneezePart_2 23 rfl rfl)
theorem dX0_sneezePart_70 : decode cX0_sneezePart 70 = .ok (.iload_n 1, 1) := dk_27 (dk_at dksX0_sneezePart_3 0 rfl rfl)
theorem dX0_sneezePart_71 : decode cX0_sneezePart 71 = .ok (.ishl, 1) := dk_120 (dk_at dksX0_sneezePart_3 1 rfl rfl)
theorem dX0_sneezePart_72 : decode cX0_sneezePart 72 = .ok (.goto 4, 3) := dk_167 0 4 (dk_at dksX0_sneezePart_3 2 rfl rfl)
theorem dX0_sneezePart_75 : decode cX0_sneezePart 75 = .ok (.iconst 0, 1) := dk_3 (dk_at dksX0_sneezePart_3 5 rfl rfl)
theorem dX0_sneezePart_76 : decode cX0_sneezePart 76 = .ok (.putfield 218, 3) := dk_181 0 218 (dk_at dksX0_sneezePart_3 6 rfl rfl)
theorem dX0_sneezePart_79 : decode cX0_sneezePart 79 = .ok (.aload 11, 2) := dk_25 11 (dk_at dksX0_sneezePart_3 9 rfl rfl)
theorem dX0_sneezePart_81 : decode cX0_sneezePart 81 = .ok (.invokevirtual 127, 3) := dk_182 0 127 (dk_at dksX0_sneezePart_3 11 rfl rfl)
theorem dX0_sneezePart_84 : decode cX0_sneezePart 84 = .ok (.lload 12, 2) := dk_22 12 (dk_at dksX0_sneezePart_3 14 rfl rfl)
theorem dX0_sneezePart_86 : decode cX0_sneezePart 86 = .ok (.iload 10, 2) := dk_21 10 (dk_at dksX0_sneezePart_3 16 rfl rfl)
theorem dX0_sneezePart_88 : decode cX0_sneezePart 88 = .ok (.iload 14, 2) := dk_21 14 (dk_at dksX0_sneezePart_3 18 rfl rfl)
theorem dX0_sneezePart_90 : decode cX0_sneezePart 90 = .ok (.invokestatic 215, 3) := dk_184 0 215 (dk_at dksX0_sneezePart_3 20 rfl rfl)
theorem dX0_sneezePart_93 : decode cX0_sneezePart 93 = .ok (.ifCond .eq 7, 3) := dk_153 0 7 (dk_at dksX0_sneezePart_4 0 rfl rfl)
theorem dX0_sneezePart_96 : decode cX0_sneezePart 96 = .ok (.lconst 1, 1) := dk_10 (dk_at dksX0_sneezePart_4 3 rfl rfl)
theorem dX0_sneezePart_97 : decode cX0_sneezePart 97 = .ok (.goto 7, 3) := dk_167 0 7 (dk_at dksX0_sneezePart_4 4 rfl rfl)
theorem dX0_sneezePart_100 : decode cX0_sneezePart 100 = .ok (.iload_n 3, 1) := dk_29 (dk_at dksX0_sneezePart_4 7 rfl rfl)
theorem dX0_sneezePart_101 : decode cX0_sneezePart 101 = .ok (.iconst 1, 1) := dk_4 (dk_at dksX0_sneezePart_4 8 rfl rfl)
theorem dX0_sneezePart_102 : decode cX0_sneezePart 102 = .ok (.isub, 1) := dk_100 (dk_at dksX0_sneezePart_4 9 rfl rfl)
theorem dX0_sneezePart_103 : decode cX0_sneezePart 103 = .ok (.i2l, 1) := dk_133 (dk_at dksX0_sneezePart_4 10 rfl rfl)
theorem dX0_sneezePart_104 : decode cX0_sneezePart 104 = .ok (.lmul, 1) := dk_105 (dk_at dksX0_sneezePart_4 11 rfl rfl)
theorem dX0_sneezePart_105 : decode cX0_sneezePart 105 = .ok (.lstore 12, 2) := dk_55 12 (dk_at dksX0_sneezePart_4 12 rfl rfl)
theorem dX0_sneezePart_107 : decode cX0_sneezePart 107 = .ok (.iinc 14 1, 3) := dk_132 14 1 (dk_at dksX0_sneezePart_4 14 rfl rfl)
theorem dX0_sneezePart_110 : decode cX0_sneezePart 110 = .ok (.goto (-59), 3) := dk_167 255 197 (dk_at dksX0_sneezePart_4 17 rfl rfl)
theorem dX0_sneezePart_113 : decode cX0_sneezePart 113 = .ok (.lload 6, 2) := dk_22 6 (dk_at dksX0_sneezePart_4 20 rfl rfl)
theorem dX0_sneezePart_115 : decode cX0_sneezePart 115 = .ok (.aload 11, 2) := dk_25 11 (dk_at dksX0_sneezePart_4 22 rfl rfl)
theorem dX0_sneezePart_117 : decode cX0_sneezePart 117 = .ok (.getfield 124, 3) := dk_180 0 124 (dk_at dksX0_sneezePart_5 0 rfl rfl)
theorem dX0_sneezePart_120 : decode cX0_sneezePart 120 = .ok (.iload_n 1, 1) := dk_27 (dk_at dksX0_sneezePart_5 3 rfl rfl)
theorem dX0_sneezePart_121 : decode cX0_sneezePart 121 = .ok (.iaload, 1) := dk_46 (dk_at dksX0_sneezePart_5 4 rfl rfl)
theorem dX0_sneezePart_122 : decode cX0_sneezePart 122 = .ok (.iload 4, 2) := dk_21 4 (dk_at dksX0_sneezePart_5 5 rfl rfl)
theorem dX0_sneezePart_124 : decode cX0_sneezePart 124 = .ok (.if_icmp .lt 8, 3) := dk_161 0 8 (dk_at dksX0_sneezePart_5 7 rfl rfl)
theorem dX0_sneezePart_127 : decode cX0_sneezePart 127 = .ok (.lload 12, 2) := dk_22 12 (dk_at dksX0_sneezePart_5 10 rfl rfl)
theorem dX0_sneezePart_129 : decode cX0_sneezePart 129 = .ok (.goto 4, 3) := dk_167 0 4 (dk_at dksX0_sneezePart_5 12 rfl rfl)
theorem dX0_sneezePart_132 : decode cX0_sneezePart 132 = .ok (.lconst 0, 1) := dk_9 (dk_at dksX0_sneezePart_5 15 rfl rfl)
theorem dX0_sneezePart_133 : decode cX0_sneezePart 133 = .ok (.ladd, 1) := dk_97 (dk_at dksX0_sneezePart_5 16 rfl rfl)
theorem dX0_sneezePart_134 : decode cX0_sneezePart 134 = .ok (.lstore 6, 2) := dk_55 6 (dk_at dksX0_sneezePart_5 17 rfl rfl)
theorem dX0_sneezePart_136 : decode cX0_sneezePart 136 = .ok (.iinc 10 1, 3) := dk_132 10 1 (dk_at dksX0_sneezePart_5 19 rfl rfl)
theorem dX0_sneezePart_139 : decode cX0_sneezePart 139 = .ok (.goto (-108), 3) := dk_167 255 148 (dk_at dksX0_sneezePart_6 0 rfl rfl)
theorem dX0_sneezePart_142 : decode cX0_sneezePart 142 = .ok (.lload 6, 2) := dk_22 6 (dk_at dksX0_sneezePart_6 3 rfl rfl)
theorem dX0_sneezePart_144 : decode cX0_sneezePart 144 = .ok (.lload 8, 2) := dk_22 8 (dk_at dksX0_sneezePart_6 5 rfl rfl)
theorem dX0_sneezePart_146 : decode cX0_sneezePart 146 = .ok (.iload 5, 2) := dk_21 5 (dk_at dksX0_sneezePart_6 7 rfl rfl)
theorem dX0_sneezePart_148 : decode cX0_sneezePart 148 = .ok (.invokestatic 221, 3) := dk_184 0 221 (dk_at dksX0_sneezePart_6 9 rfl rfl)
theorem dX0_sneezePart_151 : decode cX0_sneezePart 151 = .ok (.lreturn, 1) := dk_173 (dk_at dksX0_sneezePart_6 12 rfl rfl)
abbrev cX0_partOf : ByteArray := prog_1_method_8_code
def yX0_partOf : MethodName := ⟨RX0, "partOf", "(JJI)J"⟩
def dkwX0_partOf_1 : List UInt8 := [22, 5, 109, 167, 0, 7, 32, 22, 5, 109, 173]
abbrev dktX0_partOf_1 : List UInt8 := dkwX0_partOf_1 ++ []
def dkwX0_partOf_0 : List UInt8 := [30, 9, 148, 154, 0, 7, 21, 4, 133, 173, 30, 32, 184, 0, 17, 55, 5, 21, 4, 154, 0, 10, 30]
abbrev dktX0_partOf_0 : List UInt8 := dkwX0_partOf_0 ++ dktX0_partOf_1
theorem dksX0_partOf_0 : cX0_partOf.data.toList.drop 0 = dktX0_partOf_0 := by decide +kernel
theorem dksX0_partOf_1 : cX0_partOf.data.toList.drop 23 = dktX0_partOf_1 := dk_seg dksX0_partOf_0 23 rfl rfl
theorem dX0_partOf_0 : decode cX0_partOf 0 = .ok (.lload_n 0, 1) := dk_30 (dk_at dksX0_partOf_0 0 rfl rfl)
theorem dX0_partOf_1 : decode cX0_partOf 1 = .ok (.lconst 0, 1) := dk_9 (dk_at dksX0_partOf_0 1 rfl rfl)
theorem dX0_partOf_2 : decode cX0_partOf 2 = .ok (.lcmp, 1) := dk_148 (dk_at dksX0_partOf_0 2 rfl rfl)
theorem dX0_partOf_3 : decode cX0_partOf 3 = .ok (.ifCond .ne 7, 3) := dk_154 0 7 (dk_at dksX0_partOf_0 3 rfl rfl)
theorem dX0_partOf_6 : decode cX0_partOf 6 = .ok (.iload 4, 2) := dk_21 4 (dk_at dksX0_partOf_0 6 rfl rfl)
theorem dX0_partOf_8 : decode cX0_partOf 8 = .ok (.i2l, 1) := dk_133 (dk_at dksX0_partOf_0 8 rfl rfl)
theorem dX0_partOf_9 : decode cX0_partOf 9 = .ok (.lreturn, 1) := dk_173 (dk_at dksX0_partOf_0 9 rfl rfl)
theorem dX0_partOf_10 : decode cX0_partOf 10 = .ok (.lload_n 0, 1) := dk_30 (dk_at dksX0_partOf_0 10 rfl rfl)
theorem dX0_partOf_11 : decode cX0_partOf 11 = .ok (.lload_n 2, 1) := dk_32 (dk_at dksX0_partOf_0 11 rfl rfl)
theorem dX0_partOf_12 : decode cX0_partOf 12 = .ok (.invokestatic 17, 3) := dk_184 0 17 (dk_at dksX0_partOf_0 12 rfl rfl)
theorem dX0_partOf_15 : decode cX0_partOf 15 = .ok (.lstore 5, 2) := dk_55 5 (dk_at dksX0_partOf_0 15 rfl rfl)
theorem dX0_partOf_17 : decode cX0_partOf 17 = .ok (.iload 4, 2) := dk_21 4 (dk_at dksX0_partOf_0 17 rfl rfl)
theorem dX0_partOf_19 : decode cX0_partOf 19 = .ok (.ifCond .ne 10, 3) := dk_154 0 10 (dk_at dksX0_partOf_0 19 rfl rfl)
theorem dX0_partOf_22 : decode cX0_partOf 22 = .ok (.lload_n 0, 1) := dk_30 (dk_at dksX0_partOf_0 22 rfl rfl)
theorem dX0_partOf_23 : decode cX0_partOf 23 = .ok (.lload 5, 2) := dk_22 5 (dk_at dksX0_partOf_1 0 rfl rfl)
theorem dX0_partOf_25 : decode cX0_partOf 25 = .ok (.ldiv, 1) := dk_109 (dk_at dksX0_partOf_1 2 rfl rfl)
theorem dX0_partOf_26 : decode cX0_partOf 26 = .ok (.goto 7, 3) := dk_167 0 7 (dk_at dksX0_partOf_1 3 rfl rfl)
theorem dX0_partOf_29 : decode cX0_partOf 29 = .ok (.lload_n 2, 1) := dk_32 (dk_at dksX0_partOf_1 6 rfl rfl)
theorem dX0_partOf_30 : decode cX0_partOf 30 = .ok (.lload 5, 2) := dk_22 5 (dk_at dksX0_partOf_1 7 rfl rfl)
theorem dX0_partOf_32 : decode cX0_partOf 32 = .ok (.ldiv, 1) := dk_109 (dk_at dksX0_partOf_1 9 rfl rfl)
theorem dX0_partOf_33 : decode cX0_partOf 33 = .ok (.lreturn, 1) := dk_173 (dk_at dksX0_partOf_1 10 rfl rfl)
abbrev cX0_divisor : ByteArray := prog_1_method_7_code
def yX0_divisor : MethodName := ⟨RX0, "divisor", "(JJ)J"⟩
def dkwX0_divisor_1 : List UInt8 := [22, 8, 55, 6, 167, 255, 234, 22, 4, 173]
abbrev dktX0_divisor_1 : List UInt8 := dkwX0_divisor_1 ++ []
def dkwX0_divisor_0 : List UInt8 := [30, 55, 4, 32, 55, 6, 22, 6, 9, 148, 153, 0, 21, 22, 4, 22, 6, 113, 55, 8, 22, 6, 55, 4]
abbrev dktX0_divisor_0 : List UInt8 := dkwX0_divisor_0 ++ dktX0_divisor_1
theorem dksX0_divisor_0 : cX0_divisor.data.toList.drop 0 = dktX0_divisor_0 := by decide +kernel
theorem dksX0_divisor_1 : cX0_divisor.data.toList.drop 24 = dktX0_divisor_1 := dk_seg dksX0_divisor_0 24 rfl rfl
theorem dX0_divisor_0 : decode cX0_divisor 0 = .ok (.lload_n 0, 1) := dk_30 (dk_at dksX0_divisor_0 0 rfl rfl)
theorem dX0_divisor_1 : decode cX0_divisor 1 = .ok (.lstore 4, 2) := dk_55 4 (dk_at dksX0_divisor_0 1 rfl rfl)
theorem dX0_divisor_3 : decode cX0_divisor 3 = .ok (.lload_n 2, 1) := dk_32 (dk_at dksX0_divisor_0 3 rfl rfl)
theorem dX0_divisor_4 : decode cX0_divisor 4 = .ok (.lstore 6, 2) := dk_55 6 (dk_at dksX0_divisor_0 4 rfl rfl)
theorem dX0_divisor_6 : decode cX0_divisor 6 = .ok (.lload 6, 2) := dk_22 6 (dk_at dksX0_divisor_0 6 rfl rfl)
theorem dX0_divisor_8 : decode cX0_divisor 8 = .ok (.lconst 0, 1) := dk_9 (dk_at dksX0_divisor_0 8 rfl rfl)
theorem dX0_divisor_9 : decode cX0_divisor 9 = .ok (.lcmp, 1) := dk_148 (dk_at dksX0_divisor_0 9 rfl rfl)
theorem dX0_divisor_10 : decode cX0_divisor 10 = .ok (.ifCond .eq 21, 3) := dk_153 0 21 (dk_at dksX0_divisor_0 10 rfl rfl)
theorem dX0_divisor_13 : decode cX0_divisor 13 = .ok (.lload 4, 2) := dk_22 4 (dk_at dksX0_divisor_0 13 rfl rfl)
theorem dX0_divisor_15 : decode cX0_divisor 15 = .ok (.lload 6, 2) := dk_22 6 (dk_at dksX0_divisor_0 15 rfl rfl)
theorem dX0_divisor_17 : decode cX0_divisor 17 = .ok (.lrem, 1) := dk_113 (dk_at dksX0_divisor_0 17 rfl rfl)
theorem dX0_divisor_18 : decode cX0_divisor 18 = .ok (.lstore 8, 2) := dk_55 8 (dk_at dksX0_divisor_0 18 rfl rfl)
theorem dX0_divisor_20 : decode cX0_divisor 20 = .ok (.lload 6, 2) := dk_22 6 (dk_at dksX0_divisor_0 20 rfl rfl)
theorem dX0_divisor_22 : decode cX0_divisor 22 = .ok (.lstore 4, 2) := dk_55 4 (dk_at dksX0_divisor_0 22 rfl rfl)
theorem dX0_divisor_24 : decode cX0_divisor 24 = .ok (.lload 8, 2) := dk_22 8 (dk_at dksX0_divisor_1 0 rfl rfl)
theorem dX0_divisor_26 : decode cX0_divisor 26 = .ok (.lstore 6, 2) := dk_55 6 (dk_at dksX0_divisor_1 2 rfl rfl)
theorem dX0_divisor_28 : decode cX0_divisor 28 = .ok (.goto (-22), 3) := dk_167 255 234 (dk_at dksX0_divisor_1 4 rfl rfl)
theorem dX0_divisor_31 : decode cX0_divisor 31 = .ok (.lload 4, 2) := dk_22 4 (dk_at dksX0_divisor_1 7 rfl rfl)
theorem dX0_divisor_33 : decode cX0_divisor 33 = .ok (.lreturn, 1) := dk_173 (dk_at dksX0_divisor_1 9 rfl rfl)
abbrev cX0_far : ByteArray := prog_1_method_37_code
def yX0_far : MethodName := ⟨RX0, "far", "(LWellOfTheSilent$Refusal;)J"⟩
def dkwX0_far_0 : List UInt8 := [20, 1, 1, 42, 43, 182, 0, 251, 182, 0, 254, 133, 101, 173]
abbrev dktX0_far_0 : List UInt8 := dkwX0_far_0 ++ []
theorem dksX0_far_0 : cX0_far.data.toList.drop 0 = dktX0_far_0 := by decide +kernel
theorem dX0_far_0 : decode cX0_far 0 = .ok (.ldc2_w 257, 3) := dk_20 1 1 (dk_at dksX0_far_0 0 rfl rfl)
theorem dX0_far_3 : decode cX0_far 3 = .ok (.aload_n 0, 1) := dk_42 (dk_at dksX0_far_0 3 rfl rfl)
theorem dX0_far_4 : decode cX0_far 4 = .ok (.aload_n 1, 1) := dk_43 (dk_at dksX0_far_0 4 rfl rfl)
theorem dX0_far_5 : decode cX0_far 5 = .ok (.invokevirtual 251, 3) := dk_182 0 251 (dk_at dksX0_far_0 5 rfl rfl)
theorem dX0_far_8 : decode cX0_far 8 = .ok (.invokevirtual 254, 3) := dk_182 0 254 (dk_at dksX0_far_0 8 rfl rfl)
theorem dX0_far_11 : decode cX0_far 11 = .ok (.i2l, 1) := dk_133 (dk_at dksX0_far_0 11 rfl rfl)
theorem dX0_far_12 : decode cX0_far 12 = .ok (.lsub, 1) := dk_101 (dk_at dksX0_far_0 12 rfl rfl)
theorem dX0_far_13 : decode cX0_far 13 = .ok (.lreturn, 1) := dk_173 (dk_at dksX0_far_0 13 rfl rfl)
abbrev cX0_mean : ByteArray := prog_1_method_97_code
def yX0_mean : MethodName := ⟨RX0, "mean", "(I)J"⟩
def dkwX0_mean_0 : List UInt8 := [42, 27, 182, 1, 176, 173]
abbrev dktX0_mean_0 : List UInt8 := dkwX0_mean_0 ++ []
theorem dksX0_mean_0 : cX0_mean.data.toList.drop 0 = dktX0_mean_0 := by decide +kernel
theorem dX0_mean_0 : decode cX0_mean 0 = .ok (.aload_n 0, 1) := dk_42 (dk_at dksX0_mean_0 0 rfl rfl)
theorem dX0_mean_1 : decode cX0_mean 1 = .ok (.iload_n 1, 1) := dk_27 (dk_at dksX0_mean_0 1 rfl rfl)
theorem dX0_mean_2 : decode cX0_mean 2 = .ok (.invokevirtual 432, 3) := dk_182 1 176 (dk_at dksX0_mean_0 2 rfl rfl)
theorem dX0_mean_5 : decode cX0_mean 5 = .ok (.lreturn, 1) := dk_173 (dk_at dksX0_mean_0 5 rfl rfl)
abbrev cX0_meanTold : ByteArray := prog_1_method_66_code
def yX0_meanTold : MethodName := ⟨RX0, "meanTold", "(I)J"⟩
def dkwX0_meanTold_1 : List UInt8 := [27, 184, 0, 221, 173, 77, 42, 44, 182, 1, 166, 173]
abbrev dktX0_meanTold_1 : List UInt8 := dkwX0_meanTold_1 ++ []
def dkwX0_meanTold_0 : List UInt8 := [27, 184, 0, 192, 42, 180, 0, 53, 182, 0, 174, 133, 4, 42, 180, 0, 53, 180, 0, 132, 184, 0, 171, 133]
abbrev dktX0_meanTold_0 : List UInt8 := dkwX0_meanTold_0 ++ dktX0_meanTold_1
theorem dksX0_meanTold_0 : cX0_meanTold.data.toList.drop 0 = dktX0_meanTold_0 := by decide +kernel
theorem dksX0_meanTold_1 : cX0_meanTold.data.toList.drop 24 = dktX0_meanTold_1 := dk_seg dksX0_meanTold_0 24 rfl rfl
theorem dX0_meanTold_0 : decode cX0_meanTold 0 = .ok (.iload_n 1, 1) := dk_27 (dk_at dksX0_meanTold_0 0 rfl rfl)
theorem dX0_meanTold_1 : decode cX0_meanTold 1 = .ok (.invokestatic 192, 3) := dk_184 0 192 (dk_at dksX0_meanTold_0 1 rfl rfl)
theorem dX0_meanTold_4 : decode cX0_meanTold 4 = .ok (.aload_n 0, 1) := dk_42 (dk_at dksX0_meanTold_0 4 rfl rfl)
theorem dX0_meanTold_5 : decode cX0_meanTold 5 = .ok (.getfield 53, 3) := dk_180 0 53 (dk_at dksX0_meanTold_0 5 rfl rfl)
theorem dX0_meanTold_8 : decode cX0_meanTold 8 = .ok (.invokevirtual 174, 3) := dk_182 0 174 (dk_at dksX0_meanTold_0 8 rfl rfl)
theorem dX0_meanTold_11 : decode cX0_meanTold 11 = .ok (.i2l, 1) := dk_133 (dk_at dksX0_meanTold_0 11 rfl rfl)
theorem dX0_meanTold_12 : decode cX0_meanTold 12 = .ok (.iconst 1, 1) := dk_4 (dk_at dksX0_meanTold_0 12 rfl rfl)
theorem dX0_meanTold_13 : decode cX0_meanTold 13 = .ok (.aload_n 0, 1) := dk_42 (dk_at dksX0_meanTold_0 13 rfl rfl)
theorem dX0_meanTold_14 : decode cX0_meanTold 14 = .ok (.getfield 53, 3) := dk_180 0 53 (dk_at dksX0_meanTold_0 14 rfl rfl)
theorem dX0_meanTold_17 : decode cX0_meanTold 17 = .ok (.getfield 132, 3) := dk_180 0 132 (dk_at dksX0_meanTold_0 17 rfl rfl)
theorem dX0_meanTold_20 : decode cX0_meanTold 20 = .ok (.invokestatic 171, 3) := dk_184 0 171 (dk_at dksX0_meanTold_0 20 rfl rfl)
theorem dX0_meanTold_23 : decode cX0_meanTold 23 = .ok (.i2l, 1) := dk_133 (dk_at dksX0_meanTold_0 23 rfl rfl)
theorem dX0_meanTold_24 : decode cX0_meanTold 24 = .ok (.iload_n 1, 1) := dk_27 (dk_at dksX0_meanTold_1 0 rfl rfl)
theorem dX0_meanTold_25 : decode cX0_meanTold 25 = .ok (.invokestatic 221, 3) := dk_184 0 221 (dk_at dksX0_meanTold_1 1 rfl rfl)
theorem dX0_meanTold_28 : decode cX0_meanTold 28 = .ok (.lreturn, 1) := dk_173 (dk_at dksX0_meanTold_1 4 rfl rfl)
theorem dX0_meanTold_29 : decode cX0_meanTold 29 = .ok (.astore_n 2, 1) := dk_77 (dk_at dksX0_meanTold_1 5 rfl rfl)
theorem dX0_meanTold_30 : decode cX0_meanTold 30 = .ok (.aload_n 0, 1) := dk_42 (dk_at dksX0_meanTold_1 6 rfl rfl)
theorem dX0_meanTold_31 : decode cX0_meanTold 31 = .ok (.aload_n 2, 1) := dk_44 (dk_at dksX0_meanTold_1 7 rfl rfl)
theorem dX0_meanTold_32 : decode cX0_meanTold 32 = .ok (.invokevirtual 422, 3) := dk_182 1 166 (dk_at dksX0_meanTold_1 8 rfl rfl)
theorem dX0_meanTold_35 : decode cX0_meanTold 35 = .ok (.lreturn, 1) := dk_173 (dk_at dksX0_meanTold_1 11 rfl rfl)
abbrev cX0_whatIs : ByteArray := prog_1_method_98_code
def yX0_whatIs : MethodName := ⟨RX0, "whatIs", "(II)I"⟩
def dkwX0_whatIs_0 : List UInt8 := [42, 16, 29, 27, 28, 3, 182, 1, 170, 172]
abbrev dktX0_whatIs_0 : List UInt8 := dkwX0_whatIs_0 ++ []
theorem dksX0_whatIs_0 : cX0_whatIs.data.toList.drop 0 = dktX0_whatIs_0 := by decide +kernel
theorem dX0_whatIs_0 : decode cX0_whatIs 0 = .ok (.aload_n 0, 1) := dk_42 (dk_at dksX0_whatIs_0 0 rfl rfl)
theorem dX0_whatIs_1 : decode cX0_whatIs 1 = .ok (.bipush 29, 2) := dk_16 29 (dk_at dksX0_whatIs_0 1 rfl rfl)
theorem dX0_whatIs_3 : decode cX0_whatIs 3 = .ok (.iload_n 1, 1) := dk_27 (dk_at dksX0_whatIs_0 3 rfl rfl)
theorem dX0_whatIs_4 : decode cX0_whatIs 4 = .ok (.iload_n 2, 1) := dk_28 (dk_at dksX0_whatIs_0 4 rfl rfl)
theorem dX0_whatIs_5 : decode cX0_whatIs 5 = .ok (.iconst 0, 1) := dk_3 (dk_at dksX0_whatIs_0 5 rfl rfl)
theorem dX0_whatIs_6 : decode cX0_whatIs 6 = .ok (.invokevirtual 426, 3) := dk_182 1 170 (dk_at dksX0_whatIs_0 6 rfl rfl)
theorem dX0_whatIs_9 : decode cX0_whatIs 9 = .ok (.ireturn, 1) := dk_172 (dk_at dksX0_whatIs_0 9 rfl rfl)
abbrev cX0_row : ByteArray := prog_1_method_99_code
def yX0_row : MethodName := ⟨RX0, "row", "(I)I"⟩
def dkwX0_row_0 : List UInt8 := [42, 16, 30, 27, 3, 3, 182, 1, 170, 172]
abbrev dktX0_row_0 : List UInt8 := dkwX0_row_0 ++ []
theorem dksX0_row_0 : cX0_row.data.toList.drop 0 = dktX0_row_0 := by decide +kernel
theorem dX0_row_0 : decode cX0_row 0 = .ok (.aload_n 0, 1) := dk_42 (dk_at dksX0_row_0 0 rfl rfl)
theorem dX0_row_1 : decode cX0_row 1 = .ok (.bipush 30, 2) := dk_16 30 (dk_at dksX0_row_0 1 rfl rfl)
theorem dX0_row_3 : decode cX0_row 3 = .ok (.iload_n 1, 1) := dk_27 (dk_at dksX0_row_0 3 rfl rfl)
theorem dX0_row_4 : decode cX0_row 4 = .ok (.iconst 0, 1) := dk_3 (dk_at dksX0_row_0 4 rfl rfl)
theorem dX0_row_5 : decode cX0_row 5 = .ok (.iconst 0, 1) := dk_3 (dk_at dksX0_row_0 5 rfl rfl)
theorem dX0_row_6 : decode cX0_row 6 = .ok (.invokevirtual 426, 3) := dk_182 1 170 (dk_at dksX0_row_0 6 rfl rfl)
theorem dX0_row_9 : decode cX0_row 9 = .ok (.ireturn, 1) := dk_172 (dk_at dksX0_row_0 9 rfl rfl)
abbrev cX0_judge : ByteArray := prog_1_method_100_code
def yX0_judge : MethodName := ⟨RX0, "judge", "()I"⟩
def dkwX0_judge_0 : List UInt8 := [42, 16, 31, 3, 3, 3, 182, 1, 170, 172]
abbrev dktX0_judge_0 : List UInt8 := dkwX0_judge_0 ++ []
theorem dksX0_judge_0 : cX0_judge.data.toList.drop 0 = dktX0_judge_0 := by decide +kernel
theorem dX0_judge_0 : decode cX0_judge 0 = .ok (.aload_n 0, 1) := dk_42 (dk_at dksX0_judge_0 0 rfl rfl)
theorem dX0_judge_1 : decode cX0_judge 1 = .ok (.bipush 31, 2) := dk_16 31 (dk_at dksX0_judge_0 1 rfl rfl)
theorem dX0_judge_3 : decode cX0_judge 3 = .ok (.iconst 0, 1) := dk_3 (dk_at dksX0_judge_0 3 rfl rfl)
theorem dX0_judge_4 : decode cX0_judge 4 = .ok (.iconst 0, 1) := dk_3 (dk_at dksX0_judge_0 4 rfl rfl)
theorem dX0_judge_5 : decode cX0_judge 5 = .ok (.iconst 0, 1) := dk_3 (dk_at dksX0_judge_0 5 rfl rfl)
theorem dX0_judge_6 : decode cX0_judge 6 = .ok (.invokevirtual 426, 3) := dk_182 1 170 (dk_at dksX0_judge_0 6 rfl rfl)
theorem dX0_judge_9 : decode cX0_judge 9 = .ok (.ireturn, 1) := dk_172 (dk_at dksX0_judge_0 9 rfl rfl)
abbrev cX0_clear : ByteArray := prog_1_method_101_code
def yX0_clear : MethodName := ⟨RX0, "clear", "()I"⟩
def dkwX0_clear_0 : List UInt8 := [42, 16, 32, 3, 3, 3, 182, 1, 170, 172]
abbrev dktX0_clear_0 : List UInt8 := dkwX0_clear_0 ++ []
theorem dksX0_clear_0 : cX0_clear.data.toList.drop 0 = dktX0_clear_0 := by decide +kernel
theorem dX0_clear_0 : decode cX0_clear 0 = .ok (.aload_n 0, 1) := dk_42 (dk_at dksX0_clear_0 0 rfl rfl)
theorem dX0_clear_1 : decode cX0_clear 1 = .ok (.bipush 32, 2) := dk_16 32 (dk_at dksX0_clear_0 1 rfl rfl)
theorem dX0_clear_3 : decode cX0_clear 3 = .ok (.iconst 0, 1) := dk_3 (dk_at dksX0_clear_0 3 rfl rfl)
theorem dX0_clear_4 : decode cX0_clear 4 = .ok (.iconst 0, 1) := dk_3 (dk_at dksX0_clear_0 4 rfl rfl)
theorem dX0_clear_5 : decode cX0_clear 5 = .ok (.iconst 0, 1) := dk_3 (dk_at dksX0_clear_0 5 rfl rfl)
theorem dX0_clear_6 : decode cX0_clear 6 = .ok (.invokevirtual 426, 3) := dk_182 1 170 (dk_at dksX0_clear_0 6 rfl rfl)
theorem dX0_clear_9 : decode cX0_clear 9 = .ok (.ireturn, 1) := dk_172 (dk_at dksX0_clear_0 9 rfl rfl)
abbrev cX0_lots : ByteArray := prog_1_method_102_code
def yX0_lots : MethodName := ⟨RX0, "lots", "(III)I"⟩
def dkwX0_lots_0 : List UInt8 := [42, 16, 33, 27, 28, 29, 182, 1, 170, 172]
abbrev dktX0_lots_0 : List UInt8 := dkwX0_lots_0 ++ []
theorem dksX0_lots_0 : cX0_lots.data.toList.drop 0 = dktX0_lots_0 := by decide +kernel
theorem dX0_lots_0 : decode cX0_lots 0 = .ok (.aload_n 0, 1) := dk_42 (dk_at dksX0_lots_0 0 rfl rfl)
theorem dX0_lots_1 : decode cX0_lots 1 = .ok (.bipush 33, 2) := dk_16 33 (dk_at dksX0_lots_0 1 rfl rfl)
theorem dX0_lots_3 : decode cX0_lots 3 = .ok (.iload_n 1, 1) := dk_27 (dk_at dksX0_lots_0 3 rfl rfl)
theorem dX0_lots_4 : decode cX0_lots 4 = .ok (.iload_n 2, 1) := dk_28 (dk_at dksX0_lots_0 4 rfl rfl)
theorem dX0_lots_5 : decode cX0_lots 5 = .ok (.iload_n 3, 1) := dk_29 (dk_at dksX0_lots_0 5 rfl rfl)
theorem dX0_lots_6 : decode cX0_lots 6 = .ok (.invokevirtual 426, 3) := dk_182 1 170 (dk_at dksX0_lots_0 6 rfl rfl)
theorem dX0_lots_9 : decode cX0_lots 9 = .ok (.ireturn, 1) := dk_172 (dk_at dksX0_lots_0 9 rfl rfl)
abbrev cX0_image : ByteArray := prog_1_method_103_code
def yX0_image : MethodName := ⟨RX0, "image", "()I"⟩
def dkwX0_image_0 : List UInt8 := [42, 16, 34, 3, 3, 3, 182, 1, 170, 172]
abbrev dktX0_image_0 : List UInt8 := dkwX0_image_0 ++ []
theorem dksX0_image_0 : cX0_image.data.toList.drop 0 = dktX0_image_0 := by decide +kernel
theorem dX0_image_0 : decode cX0_image 0 = .ok (.aload_n 0, 1) := dk_42 (dk_at dksX0_image_0 0 rfl rfl)
theorem dX0_image_1 : decode cX0_image 1 = .ok (.bipush 34, 2) := dk_16 34 (dk_at dksX0_image_0 1 rfl rfl)
theorem dX0_image_3 : decode cX0_image 3 = .ok (.iconst 0, 1) := dk_3 (dk_at dksX0_image_0 3 rfl rfl)
theorem dX0_image_4 : decode cX0_image 4 = .ok (.iconst 0, 1) := dk_3 (dk_at dksX0_image_0 4 rfl rfl)
theorem dX0_image_5 : decode cX0_image 5 = .ok (.iconst 0, 1) := dk_3 (dk_at dksX0_image_0 5 rfl rfl)
theorem dX0_image_6 : decode cX0_image 6 = .ok (.invokevirtual 426, 3) := dk_182 1 170 (dk_at dksX0_image_0 6 rfl rfl)
theorem dX0_image_9 : decode cX0_image 9 = .ok (.ireturn, 1) := dk_172 (dk_at dksX0_image_0 9 rfl rfl)
abbrev cX0_on : ByteArray := prog_1_method_104_code
def yX0_on : MethodName := ⟨RX0, "on", "()I"⟩
def dkwX0_on_0 : List UInt8 := [42, 16, 35, 3, 3, 3, 182, 1, 170, 172]
abbrev dktX0_on_0 : List UInt8 := dkwX0_on_0 ++ []
theorem dksX0_on_0 : cX0_on.data.toList.drop 0 = dktX0_on_0 := by decide +kernel
theorem dX0_on_0 : decode cX0_on 0 = .ok (.aload_n 0, 1) := dk_42 (dk_at dksX0_on_0 0 rfl rfl)
theorem dX0_on_1 : decode cX0_on 1 = .ok (.bipush 35, 2) := dk_16 35 (dk_at dksX0_on_0 1 rfl rfl)
theorem dX0_on_3 : decode cX0_on 3 = .ok (.iconst 0, 1) := dk_3 (dk_at dksX0_on_0 3 rfl rfl)
theorem dX0_on_4 : decode cX0_on 4 = .ok (.iconst 0, 1) := dk_3 (dk_at dksX0_on_0 4 rfl rfl)
theorem dX0_on_5 : decode cX0_on 5 = .ok (.iconst 0, 1) := dk_3 (dk_at dksX0_on_0 5 rfl rfl)
theorem dX0_on_6 : decode cX0_on 6 = .ok (.invokevirtual 426, 3) := dk_182 1 170 (dk_at dksX0_on_0 6 rfl rfl)
theorem dX0_on_9 : decode cX0_on 9 = .ok (.ireturn, 1) := dk_172 (dk_at dksX0_on_0 9 rfl rfl)
abbrev cX0_count : ByteArray := prog_1_method_105_code
def yX0_count : MethodName := ⟨RX0, "count", "(I)I"⟩
def dkwX0_count_5 : List UInt8 := [42, 180, 0, 71, 27, 16, 10, 100, 46, 167, 0, 5, 16, 247, 172]
abbrev dktX0_count_5 : List UInt8 := dkwX0_count_5 ++ []
def dkwX0_count_4 : List UInt8 := [42, 180, 0, 225, 172, 42, 180, 0, 86, 172, 27, 133, 20, 1, 109, 20, 1, 180, 184, 0, 13, 153, 0, 15]
abbrev dktX0_count_4 : List UInt8 := dkwX0_count_4 ++ dktX0_count_5
def dkwX0_count_3 : List UInt8 := [42, 180, 0, 53, 180, 0, 148, 172, 42, 180, 0, 53, 180, 0, 183, 172, 42, 180, 0, 53, 182, 0, 174, 172]
abbrev dktX0_count_3 : List UInt8 := dkwX0_count_3 ++ dktX0_count_4
def dkwX0_count_2 : List UInt8 := [42, 180, 0, 53, 180, 0, 132, 172, 42, 180, 0, 53, 180, 0, 198, 172, 42, 180, 0, 53, 180, 0, 145, 172]
abbrev dktX0_count_2 : List UInt8 := dkwX0_count_2 ++ dktX0_count_3
def dkwX0_count_1 : List UInt8 := [170, 0, 0, 0, 0, 0, 105, 0, 0, 0, 0, 0, 0, 0, 7, 0, 0, 0, 47, 0, 0, 0, 55, 0, 0, 0, 63, 0, 0, 0, 71, 0, 0, 0, 79, 0, 0, 0, 87, 0, 0, 0, 95, 0, 0, 0, 100]
abbrev dktX0_count_1 : List UInt8 := dkwX0_count_1 ++ dktX0_count_2
def dkwX0_count_0 : List UInt8 := [27]
abbrev dktX0_count_0 : List UInt8 := dkwX0_count_0 ++ dktX0_count_1
theorem dksX0_count_0 : cX0_count.data.toList.drop 0 = dktX0_count_0 := by decide +kernel
theorem dksX0_count_1 : cX0_count.data.toList.drop 1 = dktX0_count_1 := dk_seg dksX0_count_0 1 rfl rfl
theorem dksX0_count_2 : cX0_count.data.toList.drop 48 = dktX0_count_2 := dk_seg dksX0_count_1 47 rfl rfl
theorem dksX0_count_3 : cX0_count.data.toList.drop 72 = dktX0_count_3 := dk_seg dksX0_count_2 24 rfl rfl
theorem dksX0_count_4 : cX0_count.data.toList.drop 96 = dktX0_count_4 := dk_seg dksX0_count_3 24 rfl rfl
theorem dksX0_count_5 : cX0_count.data.toList.drop 120 = dktX0_count_5 := dk_seg dksX0_count_4 24 rfl rfl
theorem dX0_count_0 : decode cX0_count 0 = .ok (.iload_n 1, 1) := dk_27 (dk_at dksX0_count_0 0 rfl rfl)
theorem dX0_count_1 : decode cX0_count 1 = .ok (.tableswitch 105 0 7 #[47, 55, 63, 71, 79, 87, 95, 100], 47) := by decide +kernel
theorem dX0_count_48 : decode cX0_count 48 = .ok (.aload_n 0, 1) := dk_42 (dk_at dksX0_count_2 0 rfl rfl)
theorem dX0_count_49 : decode cX0_count 49 = .ok (.getfield 53, 3) := dk_180 0 53 (dk_at dksX0_count_2 1 rfl rfl)
theorem dX0_count_52 : decode cX0_count 52 = .ok (.getfield 132, 3) := dk_180 0 132 (dk_at dksX0_count_2 4 rfl rfl)
theorem dX0_count_55 : decode cX0_count 55 = .ok (.ireturn, 1) := dk_172 (dk_at dksX0_count_2 7 rfl rfl)
theorem dX0_count_56 : decode cX0_count 56 = .ok (.aload_n 0, 1) := dk_42 (dk_at dksX0_count_2 8 rfl rfl)
theorem dX0_count_57 : decode cX0_count 57 = .ok (.getfield 53, 3) := dk_180 0 53 (dk_at dksX0_count_2 9 rfl rfl)
theorem dX0_count_60 : decode cX0_count 60 = .ok (.getfield 198, 3) := dk_180 0 198 (dk_at dksX0_count_2 12 rfl rfl)
theorem dX0_count_63 : decode cX0_count 63 = .ok (.ireturn, 1) := dk_172 (dk_at dksX0_count_2 15 rfl rfl)
theorem dX0_count_64 : decode cX0_count 64 = .ok (.aload_n 0, 1) := dk_42 (dk_at dksX0_count_2 16 rfl rfl)
theorem dX0_count_65 : decode cX0_count 65 = .ok (.getfield 53, 3) := dk_180 0 53 (dk_at dksX0_count_2 17 rfl rfl)
theorem dX0_count_68 : decode cX0_count 68 = .ok (.getfield 145, 3) := dk_180 0 145 (dk_at dksX0_count_2 20 rfl rfl)
theorem dX0_count_71 : decode cX0_count 71 = .ok (.ireturn, 1) := dk_172 (dk_at dksX0_count_2 23 rfl rfl)
theorem dX0_count_72 : decode cX0_count 72 = .ok (.aload_n 0, 1) := dk_42 (dk_at dksX0_count_3 0 rfl rfl)
theorem dX0_count_73 : decode cX0_count 73 = .ok (.getfield 53, 3) := dk_180 0 53 (dk_at dksX0_count_3 1 rfl rfl)
theorem dX0_count_76 : decode cX0_count 76 = .ok (.getfield 148, 3) := dk_180 0 148 (dk_at dksX0_count_3 4 rfl rfl)
theorem dX0_count_79 : decode cX0_count 79 = .ok (.ireturn, 1) := dk_172 (dk_at dksX0_count_3 7 rfl rfl)
theorem dX0_count_80 : decode cX0_count 80 = .ok (.aload_n 0, 1) := dk_42 (dk_at dksX0_count_3 8 rfl rfl)
theorem dX0_count_81 : decode cX0_count 81 = .ok (.getfield 53, 3) := dk_180 0 53 (dk_at dksX0_count_3 9 rfl rfl)
theorem dX0_count_84 : decode cX0_count 84 = .ok (.getfield 183, 3) := dk_180 0 183 (dk_at dksX0_count_3 12 rfl rfl)
theorem dX0_count_87 : decode cX0_count 87 = .ok (.ireturn, 1) := dk_172 (dk_at dksX0_count_3 15 rfl rfl)
theorem dX0_count_88 : decode cX0_count 88 = .ok (.aload_n 0, 1) := dk_42 (dk_at dksX0_count_3 16 rfl rfl)
theorem dX0_count_89 : decode cX0_count 89 = .ok (.getfield 53, 3) := dk_180 0 53 (dk_at dksX0_count_3 17 rfl rfl)
theorem dX0_count_92 : decode cX0_count 92 = .ok (.invokevirtual 174, 3) := dk_182 0 174 (dk_at dksX0_count_3 20 rfl rfl)
theorem dX0_count_95 : decode cX0_count 95 = .ok (.ireturn, 1) := dk_172 (dk_at dksX0_count_3 23 rfl rfl)
theorem dX0_count_96 : decode cX0_count 96 = .ok (.aload_n 0, 1) := dk_42 (dk_at dksX0_count_4 0 rfl rfl)
theorem dX0_count_97 : decode cX0_count 97 = .ok (.getfield 225, 3) := dk_180 0 225 (dk_at dksX0_count_4 1 rfl rfl)
theorem dX0_count_100 : decode cX0_count 100 = .ok (.ireturn, 1) := dk_172 (dk_at dksX0_count_4 4 rfl rfl)
theorem dX0_count_101 : decode cX0_count 101 = .ok (.aload_n 0, 1) := dk_42 (dk_at dksX0_count_4 5 rfl rfl)
theorem dX0_count_102 : decode cX0_count 102 = .ok (.getfield 86, 3) := dk_180 0 86 (dk_at dksX0_count_4 6 rfl rfl)
theorem dX0_count_105 : decode cX0_count 105 = .ok (.ireturn, 1) := dk_172 (dk_at dksX0_count_4 9 rfl rfl)
theorem dX0_count_106 : decode cX0_count 106 = .ok (.iload_n 1, 1) := dk_27 (dk_at dksX0_count_4 10 rfl rfl)
theorem dX0_count_107 : decode cX0_count 107 = .ok (.i2l, 1) := dk_133 (dk_at dksX0_count_4 11 rfl rfl)
theorem dX0_count_108 : decode cX0_count 108 = .ok (.ldc2_w 365, 3) := dk_20 1 109 (dk_at dksX0_count_4 12 rfl rfl)
theorem dX0_count_111 : decode cX0_count 111 = .ok (.ldc2_w 436, 3) := dk_20 1 180 (dk_at dksX0_count_4 15 rfl rfl)
theorem dX0_count_114 : decode cX0_count 114 = .ok (.invokestatic 13, 3) := dk_184 0 13 (dk_at dksX0_count_4 18 rfl rfl)
theorem dX0_count_117 : decode cX0_count 117 = .ok (.ifCond .eq 15, 3) := dk_153 0 15 (dk_at dksX0_count_4 21 rfl rfl)
theorem dX0_count_120 : decode cX0_count 120 = .ok (.aload_n 0, 1) := dk_42 (dk_at dksX0_count_5 0 rfl rfl)
theorem dX0_count_121 : decode cX0_count 121 = .ok (.getfield 71, 3) := dk_180 0 71 (dk_at dksX0_count_5 1 rfl rfl)
theorem dX0_count_124 : decode cX0_count 124 = .ok (.iload_n 1, 1) := dk_27 (dk_at dksX0_count_5 4 rfl rfl)
theorem dX0_count_125 : decode cX0_count 125 = .ok (.bipush 10, 2) := dk_16 10 (dk_at dksX0_count_5 5 rfl rfl)
theorem dX0_count_127 : decode cX0_count 127 = .ok (.isub, 1) := dk_100 (dk_at dksX0_count_5 7 rfl rfl)
theorem dX0_count_128 : decode cX0_count 128 = .ok (.iaload, 1) := dk_46 (dk_at dksX0_count_5 8 rfl rfl)
theorem dX0_count_129 : decode cX0_count 129 = .ok (.goto 5, 3) := dk_167 0 5 (dk_at dksX0_count_5 9 rfl rfl)
theorem dX0_count_132 : decode cX0_count 132 = .ok (.bipush (-9), 2) := dk_16 247 (dk_at dksX0_count_5 12 rfl rfl)
theorem dX0_count_134 : decode cX0_count 134 = .ok (.ireturn, 1) := dk_172 (dk_at dksX0_count_5 14 rfl rfl)
theorem q85 : (Jvm.Cond.initialized "WellOfTheSilent") ∈ lw_all := lw_g (lw_at lw_m1 1 rfl) rfl
theorem q114 : (Jvm.Cond.instantiable "WellOfTheSilent" (12 : Nat)) ∈ lw_all := lw_g (lw_at lw_m1 30 rfl) rfl
theorem q116 : (Jvm.Cond.instanceMethod ({ cls := "WellOfTheSilent", name := "<init>", desc := "()V" } : Jvm.MethodName)) ∈ lw_all := lw_g (lw_at lw_m1 32 rfl) rfl
theorem q117 : (Jvm.Cond.code ({ cls := "WellOfTheSilent", name := "<init>", desc := "()V" } : Jvm.MethodName) prog_1_method_9_code (1 : Nat) (Option.none : Option Jvm.ClassFile.FieldType)) ∈ lw_all := lw_g (lw_at lw_m1 33 rfl) rfl
theorem q118 : (Jvm.Cond.methodLink "WellOfTheSilent" (21 : Nat) ({ cls := "java/lang/Object", name := "<init>", desc := "()V" } : Jvm.MethodName)) ∈ lw_all := lw_g (lw_at lw_m1 34 rfl) rfl
theorem q121 : (Jvm.Cond.classLink "WellOfTheSilent" (26 : Nat) "WellOfTheSilent$Kind") ∈ lw_all := lw_g (lw_at lw_m1 37 rfl) rfl
theorem q123 : (Jvm.Cond.classLink "WellOfTheSilent" (28 : Nat) "WellOfTheSilent$Person") ∈ lw_all := lw_g (lw_at lw_m1 39 rfl) rfl
theorem q125 : (Jvm.Cond.methodLinkNest "WellOfTheSilent" (30 : Nat) ({ cls := "WellOfTheSilent$Person", name := "<init>", desc := "()V" } : Jvm.MethodName) "WellOfTheSilent") ∈ lw_tbl := lw_at lw_m1 41 rfl
theorem q133 : (Jvm.Cond.classLink "WellOfTheSilent" (31 : Nat) "WellOfTheSilent$Wife") ∈ lw_all := lw_g (lw_at lw_m1 49 rfl) rfl
theorem q135 : (Jvm.Cond.methodLinkNest "WellOfTheSilent" (33 : Nat) ({ cls := "WellOfTheSilent$Wife", name := "<init>", desc := "()V" } : Jvm.MethodName) "WellOfTheSilent") ∈ lw_tbl := lw_at lw_m1 51 rfl
theorem q140 : (Jvm.Cond.classLink "WellOfTheSilent" (34 : Nat) "WellOfTheSilent$Scold") ∈ lw_all := lw_g (lw_at lw_m1 56 rfl) rfl
theorem q142 : (Jvm.Cond.methodLinkNest "WellOfTheSilent" (36 : Nat) ({ cls := "WellOfTheSilent$Scold", name := "<init>", desc := "()V" } : Jvm.MethodName) "WellOfTheSilent") ∈ lw_tbl := lw_at lw_m1 58 rfl
theorem q147 : (Jvm.Cond.classLink "WellOfTheSilent" (37 : Nat) "WellOfTheSilent$Mute") ∈ lw_all := lw_g (lw_at lw_m1 63 rfl) rfl
theorem q149 : (Jvm.Cond.methodLinkNest "WellOfTheSilent" (39 : Nat) ({ cls := "WellOfTheSilent$Mute", name := "<init>", desc := "()V" } : Jvm.MethodName) "WellOfTheSilent") ∈ lw_tbl := lw_at lw_m1 65 rfl
theorem q154 : (Jvm.Cond.classLink "WellOfTheSilent" (40 : Nat) "WellOfTheSilent$Priest") ∈ lw_all := lw_g (lw_at lw_m1 70 rfl) rfl
theorem q156 : (Jvm.Cond.methodLinkNest "WellOfTheSilent" (42 : Nat) ({ cls := "WellOfTheSilent$Priest", name := "<init>", desc := "()V" } : Jvm.MethodName) "WellOfTheSilent") ∈ lw_tbl := lw_at lw_m1 72 rfl
theorem q161 : (Jvm.Cond.classLink "WellOfTheSilent" (43 : Nat) "WellOfTheSilent$Liar") ∈ lw_all := lw_g (lw_at lw_m1 77 rfl) rfl
theorem q163 : (Jvm.Cond.methodLinkNest "WellOfTheSilent" (45 : Nat) ({ cls := "WellOfTheSilent$Liar", name := "<init>", desc := "()V" } : Jvm.MethodName) "WellOfTheSilent") ∈ lw_tbl := lw_at lw_m1 79 rfl
theorem q168 : (Jvm.Cond.classLink "WellOfTheSilent" (50 : Nat) "WellOfTheSilent$Hill") ∈ lw_all := lw_g (lw_at lw_m1 84 rfl) rfl
theorem q170 : (Jvm.Cond.methodLinkNest "WellOfTheSilent" (52 : Nat) ({ cls := "WellOfTheSilent$Hill", name := "<init>", desc := "()V" } : Jvm.MethodName) "WellOfTheSilent") ∈ lw_tbl := lw_at lw_m1 86 rfl
theorem q178 : (Jvm.Cond.fieldLinkNest "WellOfTheSilent" (132 : Nat) "WellOfTheSilent$Hill" "people" "I" "WellOfTheSilent") ∈ lw_tbl := lw_at lw_m1 94 rfl
theorem q180 : (Jvm.Cond.fieldLinkNest "WellOfTheSilent" (209 : Nat) "WellOfTheSilent$Hill" "kind" "[LWellOfTheSilent$Kind;" "WellOfTheSilent") ∈ lw_tbl := lw_at lw_m1 96 rfl
theorem q182 : (Jvm.Cond.fieldLinkNest "WellOfTheSilent" (228 : Nat) "WellOfTheSilent$Hill" "figures" "[I" "WellOfTheSilent") ∈ lw_tbl := lw_at lw_m1 98 rfl
theorem q184 : (Jvm.Cond.fieldLinkNest "WellOfTheSilent" (154 : Nat) "WellOfTheSilent$Hill" "can" "[I" "WellOfTheSilent") ∈ lw_tbl := lw_at lw_m1 100 rfl
theorem q187 : (Jvm.Cond.fieldLinkNest "WellOfTheSilent" (124 : Nat) "WellOfTheSilent$Hill" "full" "[I" "WellOfTheSilent") ∈ lw_tbl := lw_at lw_m1 103 rfl
theorem q190 : (Jvm.Cond.fieldLinkNest "WellOfTheSilent" (168 : Nat) "WellOfTheSilent$Hill" "friend" "[I" "WellOfTheSilent") ∈ lw_tbl := lw_at lw_m1 106 rfl
theorem q193 : (Jvm.Cond.fieldLinkNest "WellOfTheSilent" (183 : Nat) "WellOfTheSilent$Hill" "spoken" "I" "WellOfTheSilent") ∈ lw_tbl := lw_at lw_m1 109 rfl
theorem q195 : (Jvm.Cond.fieldLinkNest "WellOfTheSilent" (201 : Nat) "WellOfTheSilent$Hill" "drew" "I" "WellOfTheSilent") ∈ lw_tbl := lw_at lw_m1 111 rfl
theorem q198 : (Jvm.Cond.fieldLinkNest "WellOfTheSilent" (145 : Nat) "WellOfTheSilent$Hill" "well" "I" "WellOfTheSilent") ∈ lw_tbl := lw_at lw_m1 114 rfl
theorem q201 : (Jvm.Cond.fieldLinkNest "WellOfTheSilent" (148 : Nat) "WellOfTheSilent$Hill" "comes" "I" "WellOfTheSilent") ∈ lw_tbl := lw_at lw_m1 117 rfl
theorem q204 : (Jvm.Cond.fieldLinkNest "WellOfTheSilent" (198 : Nat) "WellOfTheSilent$Hill" "hour" "I" "WellOfTheSilent") ∈ lw_tbl := lw_at lw_m1 120 rfl
theorem q206 : (Jvm.Cond.fieldLinkNest "WellOfTheSilent" (177 : Nat) "WellOfTheSilent$Hill" "hushed" "I" "WellOfTheSilent") ∈ lw_tbl := lw_at lw_m1 122 rfl
theorem q208 : (Jvm.Cond.fieldLinkNest "WellOfTheSilent" (218 : Nat) "WellOfTheSilent$Hill" "forced" "I" "WellOfTheSilent") ∈ lw_tbl := lw_at lw_m1 124 rfl
theorem q238 : (Jvm.Cond.fieldLink "WellOfTheSilent" (46 : Nat) "WellOfTheSilent" "kinds" "[LWellOfTheSilent$Kind;") ∈ lw_all := lw_g (lw_at lw_m1 154 rfl) rfl
theorem q239 : (Jvm.Cond.fieldLink "WellOfTheSilent" (53 : Nat) "WellOfTheSilent" "hill0" "LWellOfTheSilent$Hill;") ∈ lw_all := lw_g (lw_at lw_m1 155 rfl) rfl
theorem q240 : (Jvm.Cond.fieldLink "WellOfTheSilent" (57 : Nat) "WellOfTheSilent" "mind" "LWellOfTheSilent$Hill;") ∈ lw_all := lw_g (lw_at lw_m1 156 rfl) rfl
theorem q241 : (Jvm.Cond.fieldLink "WellOfTheSilent" (60 : Nat) "WellOfTheSilent" "imaged" "LWellOfTheSilent$Hill;") ∈ lw_all := lw_g (lw_at lw_m1 157 rfl) rfl
theorem q242 : (Jvm.Cond.fieldLink "WellOfTheSilent" (414 : Nat) "WellOfTheSilent" "hasImage" "Z") ∈ lw_all := lw_g (lw_at lw_m1 158 rfl) rfl
theorem q243 : (Jvm.Cond.fieldLink "WellOfTheSilent" (63 : Nat) "WellOfTheSilent" "row" "[B") ∈ lw_all := lw_g (lw_at lw_m1 159 rfl) rfl
theorem q244 : (Jvm.Cond.fieldLink "WellOfTheSilent" (225 : Nat) "WellOfTheSilent" "rowMany" "I") ∈ lw_all := lw_g (lw_at lw_m1 160 rfl) rfl
theorem q246 : (Jvm.Cond.fieldLink "WellOfTheSilent" (67 : Nat) "WellOfTheSilent" "letters" "[C") ∈ lw_all := lw_g (lw_at lw_m1 162 rfl) rfl
theorem q248 : (Jvm.Cond.fieldLink "WellOfTheSilent" (86 : Nat) "WellOfTheSilent" "letterMany" "I") ∈ lw_all := lw_g (lw_at lw_m1 164 rfl) rfl
theorem q249 : (Jvm.Cond.fieldLink "WellOfTheSilent" (71 : Nat) "WellOfTheSilent" "refused" "[I") ∈ lw_all := lw_g (lw_at lw_m1 165 rfl) rfl
theorem q250 : (Jvm.Cond.fieldLink "WellOfTheSilent" (75 : Nat) "WellOfTheSilent" "oneHas" "[I") ∈ lw_all := lw_g (lw_at lw_m1 166 rfl) rfl
theorem q251 : (Jvm.Cond.fieldLink "WellOfTheSilent" (78 : Nat) "WellOfTheSilent" "otherHas" "[I") ∈ lw_all := lw_g (lw_at lw_m1 167 rfl) rfl
theorem q252 : (Jvm.Cond.laysFinal "WellOfTheSilent" "WellOfTheSilent" "kinds" "[LWellOfTheSilent$Kind;") ∈ lw_all := lw_g (lw_at lw_m1 168 rfl) rfl
theorem q253 : (Jvm.Cond.soleField "WellOfTheSilent" "kinds") ∈ lw_all := lw_g (lw_at lw_m1 169 rfl) rfl
theorem q254 : (Jvm.Cond.laysFinal "WellOfTheSilent" "WellOfTheSilent" "hill0" "LWellOfTheSilent$Hill;") ∈ lw_all := lw_g (lw_at lw_m1 170 rfl) rfl
theorem q255 : (Jvm.Cond.soleField "WellOfTheSilent" "hill0") ∈ lw_all := lw_g (lw_at lw_m1 171 rfl) rfl
theorem q256 : (Jvm.Cond.laysFinal "WellOfTheSilent" "WellOfTheSilent" "mind" "LWellOfTheSilent$Hill;") ∈ lw_all := lw_g (lw_at lw_m1 172 rfl) rfl
theorem q257 : (Jvm.Cond.soleField "WellOfTheSilent" "mind") ∈ lw_all := lw_g (lw_at lw_m1 173 rfl) rfl
theorem q258 : (Jvm.Cond.laysFinal "WellOfTheSilent" "WellOfTheSilent" "imaged" "LWellOfTheSilent$Hill;") ∈ lw_all := lw_g (lw_at lw_m1 174 rfl) rfl
theorem q259 : (Jvm.Cond.soleField "WellOfTheSilent" "imaged") ∈ lw_all := lw_g (lw_at lw_m1 175 rfl) rfl
theorem q260 : (Jvm.Cond.lays "WellOfTheSilent" "WellOfTheSilent" "hasImage" "Z") ∈ lw_all := lw_g (lw_at lw_m1 176 rfl) rfl
theorem q261 : (Jvm.Cond.soleField "WellOfTheSilent" "hasImage") ∈ lw_all := lw_g (lw_at lw_m1 177 rfl) rfl
theorem q262 : (Jvm.Cond.laysFinal "WellOfTheSilent" "WellOfTheSilent" "row" "[B") ∈ lw_all := lw_g (lw_at lw_m1 178 rfl) rfl
theorem q263 : (Jvm.Cond.soleField "WellOfTheSilent" "row") ∈ lw_all := lw_g (lw_at lw_m1 179 rfl) rfl
theorem q264 : (Jvm.Cond.lays "WellOfTheSilent" "WellOfTheSilent" "rowMany" "I") ∈ lw_all := lw_g (lw_at lw_m1 180 rfl) rfl
theorem q265 : (Jvm.Cond.soleField "WellOfTheSilent" "rowMany") ∈ lw_all := lw_g (lw_at lw_m1 181 rfl) rfl
theorem q266 : (Jvm.Cond.laysFinal "WellOfTheSilent" "WellOfTheSilent" "letters" "[C") ∈ lw_all := lw_g (lw_at lw_m1 182 rfl) rfl
theorem q267 : (Jvm.Cond.soleField "WellOfTheSilent" "letters") ∈ lw_all := lw_g (lw_at lw_m1 183 rfl) rfl
theorem q268 : (Jvm.Cond.lays "WellOfTheSilent" "WellOfTheSilent" "letterMany" "I") ∈ lw_all := lw_g (lw_at lw_m1 184 rfl) rfl
theorem q269 : (Jvm.Cond.soleField "WellOfTheSilent" "letterMany") ∈ lw_all := lw_g (lw_at lw_m1 185 rfl) rfl
theorem q270 : (Jvm.Cond.laysFinal "WellOfTheSilent" "WellOfTheSilent" "refused" "[I") ∈ lw_all := lw_g (lw_at lw_m1 186 rfl) rfl
theorem q271 : (Jvm.Cond.soleField "WellOfTheSilent" "refused") ∈ lw_all := lw_g (lw_at lw_m1 187 rfl) rfl
theorem q272 : (Jvm.Cond.laysFinal "WellOfTheSilent" "WellOfTheSilent" "oneHas" "[I") ∈ lw_all := lw_g (lw_at lw_m1 188 rfl) rfl
theorem q273 : (Jvm.Cond.soleField "WellOfTheSilent" "oneHas") ∈ lw_all := lw_g (lw_at lw_m1 189 rfl) rfl
theorem q274 : (Jvm.Cond.laysFinal "WellOfTheSilent" "WellOfTheSilent" "otherHas" "[I") ∈ lw_all := lw_g (lw_at lw_m1 190 rfl) rfl
theorem q275 : (Jvm.Cond.soleField "WellOfTheSilent" "otherHas") ∈ lw_all := lw_g (lw_at lw_m1 191 rfl) rfl
theorem q276 : (Jvm.Cond.superclass "WellOfTheSilent" "java/lang/Object") ∈ lw_all := lw_g (lw_at lw_m1 192 rfl) rfl
theorem q280 : (Jvm.Cond.instanceMethod ({ cls := "WellOfTheSilent", name := "letter", desc := "(I)I" } : Jvm.MethodName)) ∈ lw_all := lw_g (lw_at lw_m1 196 rfl) rfl
theorem q281 : (Jvm.Cond.selects "WellOfTheSilent" ({ cls := "WellOfTheSilent", name := "letter", desc := "(I)I" } : Jvm.MethodName) ({ cls := "WellOfTheSilent", name := "letter", desc := "(I)I" } : Jvm.MethodName)) ∈ lw_all := lw_g (lw_at lw_m1 197 rfl) rfl
theorem q282 : (Jvm.Cond.code ({ cls := "WellOfTheSilent", name := "letter", desc := "(I)I" } : Jvm.MethodName) prog_1_method_67_code (2 : Nat) (Option.some Jvm.ClassFile.FieldType.int)) ∈ lw_all := lw_g (lw_at lw_m1 198 rfl) rfl
theorem q283 : (Jvm.Cond.methodLink "WellOfTheSilent" (426 : Nat) ({ cls := "WellOfTheSilent", name := "act", desc := "(IIII)I" } : Jvm.MethodName)) ∈ lw_all := lw_g (lw_at lw_m1 199 rfl) rfl
theorem q284 : (Jvm.Cond.privateMethod ({ cls := "WellOfTheSilent", name := "act", desc := "(IIII)I" } : Jvm.MethodName)) ∈ lw_tbl := lw_at lw_m1 200 rfl
theorem q285 : (Jvm.Cond.instanceMethod ({ cls := "WellOfTheSilent", name := "act", desc := "(IIII)I" } : Jvm.MethodName)) ∈ lw_all := lw_g (lw_at lw_m1 201 rfl) rfl
theorem q286 : (Jvm.Cond.codeWith ({ cls := "WellOfTheSilent", name := "act", desc := "(IIII)I" } : Jvm.MethodName) prog_1_method_36_code (6 : Nat) (Option.some Jvm.ClassFile.FieldType.int) [((0 : Nat), (43 : Nat), (44 : Nat), (249 : Nat))]) ∈ lw_all := lw_g (lw_at lw_m1 202 rfl) rfl
theorem q287 : (Jvm.Cond.classLink "WellOfTheSilent" (249 : Nat) "WellOfTheSilent$Refusal") ∈ lw_all := lw_g (lw_at lw_m1 203 rfl) rfl
theorem q288 : (Jvm.Cond.methodLink "WellOfTheSilent" (238 : Nat) ({ cls := "WellOfTheSilent", name := "ofHill", desc := "(IIII)I" } : Jvm.MethodName)) ∈ lw_all := lw_g (lw_at lw_m1 204 rfl) rfl
theorem q289 : (Jvm.Cond.privateMethod ({ cls := "WellOfTheSilent", name := "ofHill", desc := "(IIII)I" } : Jvm.MethodName)) ∈ lw_tbl := lw_at lw_m1 205 rfl
theorem q290 : (Jvm.Cond.instanceMethod ({ cls := "WellOfTheSilent", name := "ofHill", desc := "(IIII)I" } : Jvm.MethodName)) ∈ lw_all := lw_g (lw_at lw_m1 206 rfl) rfl
theorem q291 : (Jvm.Cond.code ({ cls := "WellOfTheSilent", name := "ofHill", desc := "(IIII)I" } : Jvm.MethodName) prog_1_method_50_code (5 : Nat) (Option.some Jvm.ClassFile.FieldType.int)) ∈ lw_all := lw_g (lw_at lw_m1 207 rfl) rfl
theorem q292 : (Jvm.Cond.methodLink "WellOfTheSilent" (284 : Nat) ({ cls := "WellOfTheSilent", name := "letterIt", desc := "(I)I" } : Jvm.MethodName)) ∈ lw_all := lw_g (lw_at lw_m1 208 rfl) rfl
theorem q293 : (Jvm.Cond.privateMethod ({ cls := "WellOfTheSilent", name := "letterIt", desc := "(I)I" } : Jvm.MethodName)) ∈ lw_tbl := lw_at lw_m1 209 rfl
theorem q294 : (Jvm.Cond.instanceMethod ({ cls := "WellOfTheSilent", name := "letterIt", desc := "(I)I" } : Jvm.MethodName)) ∈ lw_all := lw_g (lw_at lw_m1 210 rfl) rfl
theorem q295 : (Jvm.Cond.code ({ cls := "WellOfTheSilent", name := "letterIt", desc := "(I)I" } : Jvm.MethodName) prog_1_method_41_code (2 : Nat) (Option.some Jvm.ClassFile.FieldType.int)) ∈ lw_all := lw_g (lw_at lw_m1 211 rfl) rfl
theorem q296 : (Jvm.Cond.constantLong "WellOfTheSilent" (265 : Nat) (255 : Int64)) ∈ lw_all := lw_g (lw_at lw_m1 212 rfl) rfl
theorem q297 : (Jvm.Cond.methodLink "WellOfTheSilent" (188 : Nat) ({ cls := "WellOfTheSilent", name := "within", desc := "(JJJ)V" } : Jvm.MethodName)) ∈ lw_all := lw_g (lw_at lw_m1 213 rfl) rfl
theorem q298 : (Jvm.Cond.static ({ cls := "WellOfTheSilent", name := "within", desc := "(JJJ)V" } : Jvm.MethodName)) ∈ lw_all := lw_g (lw_at lw_m1 214 rfl) rfl
theorem q299 : (Jvm.Cond.code ({ cls := "WellOfTheSilent", name := "within", desc := "(JJJ)V" } : Jvm.MethodName) prog_1_method_3_code (6 : Nat) (Option.none : Option Jvm.ClassFile.FieldType)) ∈ lw_all := lw_g (lw_at lw_m1 215 rfl) rfl
theorem q300 : (Jvm.Cond.methodLink "WellOfTheSilent" (9 : Nat) ({ cls := "WellOfTheSilent", name := "must", desc := "(ZI)V" } : Jvm.MethodName)) ∈ lw_all := lw_g (lw_at lw_m1 216 rfl) rfl
theorem q301 : (Jvm.Cond.static ({ cls := "WellOfTheSilent", name := "must", desc := "(ZI)V" } : Jvm.MethodName)) ∈ lw_all := lw_g (lw_at lw_m1 217 rfl) rfl
theorem q302 : (Jvm.Cond.code ({ cls := "WellOfTheSilent", name := "must", desc := "(ZI)V" } : Jvm.MethodName) prog_1_method_2_code (2 : Nat) (Option.none : Option Jvm.ClassFile.FieldType)) ∈ lw_all := lw_g (lw_at lw_m1 218 rfl) rfl
theorem q303 : (Jvm.Cond.classLink "WellOfTheSilent" (1 : Nat) "WellOfTheSilent$Refused") ∈ lw_all := lw_g (lw_at lw_m1 219 rfl) rfl
theorem q344 : (Jvm.Cond.methodLink "WellOfTheSilent" (3 : Nat) ({ cls := "WellOfTheSilent$Refused", name := "<init>", desc := "(I)V" } : Jvm.MethodName)) ∈ lw_all := lw_g (lw_at lw_m2 20 rfl) rfl
theorem q372 : (Jvm.Cond.methodLink "WellOfTheSilent" (287 : Nat) ({ cls := "WellOfTheSilent", name := "readHill", desc := "()I" } : Jvm.MethodName)) ∈ lw_all := lw_g (lw_at lw_m2 48 rfl) rfl
theorem q373 : (Jvm.Cond.privateMethod ({ cls := "WellOfTheSilent", name := "readHill", desc := "()I" } : Jvm.MethodName)) ∈ lw_tbl := lw_at lw_m2 49 rfl
theorem q374 : (Jvm.Cond.instanceMethod ({ cls := "WellOfTheSilent", name := "readHill", desc := "()I" } : Jvm.MethodName)) ∈ lw_all := lw_g (lw_at lw_m2 50 rfl) rfl
theorem q375 : (Jvm.Cond.code ({ cls := "WellOfTheSilent", name := "readHill", desc := "()I" } : Jvm.MethodName) prog_1_method_11_code (5 : Nat) (Option.some Jvm.ClassFile.FieldType.int)) ∈ lw_all := lw_g (lw_at lw_m2 51 rfl) rfl
theorem q376 : (Jvm.Cond.classLink "WellOfTheSilent" (81 : Nat) "WellOfTheSilent$Reader") ∈ lw_all := lw_g (lw_at lw_m2 52 rfl) rfl
theorem q378 : (Jvm.Cond.methodLinkNest "WellOfTheSilent" (83 : Nat) ({ cls := "WellOfTheSilent$Reader", name := "<init>", desc := "(LWellOfTheSilent;)V" } : Jvm.MethodName) "WellOfTheSilent") ∈ lw_tbl := lw_at lw_m2 54 rfl
theorem q383 : (Jvm.Cond.fieldLinkNest "WellOfTheSilent" (99 : Nat) "WellOfTheSilent$Reader" "size" "I" "WellOfTheSilent") ∈ lw_tbl := lw_at lw_m2 59 rfl
theorem q385 : (Jvm.Cond.fieldLinkNest "WellOfTheSilent" (96 : Nat) "WellOfTheSilent$Reader" "at" "I" "WellOfTheSilent") ∈ lw_tbl := lw_at lw_m2 61 rfl
theorem q394 : (Jvm.Cond.classLink "WellOfTheSilent" (90 : Nat) "WellOfTheSilent$Told") ∈ lw_all := lw_g (lw_at lw_m2 70 rfl) rfl
theorem q396 : (Jvm.Cond.methodLink "WellOfTheSilent" (92 : Nat) ({ cls := "WellOfTheSilent$Reader", name := "statement", desc := "()LWellOfTheSilent$Told;" } : Jvm.MethodName)) ∈ lw_all := lw_g (lw_at lw_m2 72 rfl) rfl
theorem q431 : (Jvm.Cond.privateMethod ({ cls := "WellOfTheSilent", name := "kindOf", desc := "(I)I" } : Jvm.MethodName)) ∈ lw_tbl := lw_at lw_m2 107 rfl
theorem q432 : (Jvm.Cond.instanceMethod ({ cls := "WellOfTheSilent", name := "kindOf", desc := "(I)I" } : Jvm.MethodName)) ∈ lw_all := lw_g (lw_at lw_m2 108 rfl) rfl
theorem q433 : (Jvm.Cond.code ({ cls := "WellOfTheSilent", name := "kindOf", desc := "(I)I" } : Jvm.MethodName) prog_1_method_10_code (2 : Nat) (Option.some Jvm.ClassFile.FieldType.int)) ∈ lw_all := lw_g (lw_at lw_m2 109 rfl) rfl
theorem q441 : (Jvm.Cond.static ({ cls := "WellOfTheSilent", name := "in", desc := "(JJJ)Z" } : Jvm.MethodName)) ∈ lw_all := lw_g (lw_at lw_m2 117 rfl) rfl
theorem q442 : (Jvm.Cond.code ({ cls := "WellOfTheSilent", name := "in", desc := "(JJJ)Z" } : Jvm.MethodName) prog_1_method_1_code (6 : Nat) (Option.some Jvm.ClassFile.FieldType.boolean)) ∈ lw_all := lw_g (lw_at lw_m2 118 rfl) rfl
theorem q455 : (Jvm.Cond.fieldLink "WellOfTheSilent" (112 : Nat) "WellOfTheSilent$Told" "start" "I") ∈ lw_all := lw_g (lw_at lw_m2 131 rfl) rfl
theorem q560 : (Jvm.Cond.methodLink "WellOfTheSilent" (102 : Nat) ({ cls := "WellOfTheSilent$Hill", name := "set", desc := "(LWellOfTheSilent$Hill;)LWellOfTheSilent$Hill;" } : Jvm.MethodName)) ∈ lw_all := lw_g (lw_at lw_m2 236 rfl) rfl
theorem q567 : (Jvm.Cond.methodLink "WellOfTheSilent" (106 : Nat) ({ cls := "WellOfTheSilent$Told", name := "comes", desc := "(LWellOfTheSilent$Hill;)Z" } : Jvm.MethodName)) ∈ lw_all := lw_g (lw_at lw_m3 3 rfl) rfl
theorem q631 : (Jvm.Cond.static ({ cls := "WellOfTheSilent", name := "has", desc := "(II)Z" } : Jvm.MethodName)) ∈ lw_all := lw_g (lw_at lw_m3 67 rfl) rfl
theorem q632 : (Jvm.Cond.code ({ cls := "WellOfTheSilent", name := "has", desc := "(II)Z" } : Jvm.MethodName) prog_1_method_5_code (2 : Nat) (Option.some Jvm.ClassFile.FieldType.boolean)) ∈ lw_all := lw_g (lw_at lw_m3 68 rfl) rfl
theorem q714 : (Jvm.Cond.classLink "WellOfTheSilent" (110 : Nat) "WellOfTheSilent$Fault") ∈ lw_all := lw_g (lw_at lw_m3 150 rfl) rfl
theorem q715 : (Jvm.Cond.methodLink "WellOfTheSilent" (115 : Nat) ({ cls := "WellOfTheSilent$Fault", name := "<init>", desc := "(I)V" } : Jvm.MethodName)) ∈ lw_all := lw_g (lw_at lw_m3 151 rfl) rfl
theorem q716 : (Jvm.Cond.methodLink "WellOfTheSilent" (290 : Nat) ({ cls := "WellOfTheSilent", name := "personAsked", desc := "(II)I" } : Jvm.MethodName)) ∈ lw_all := lw_g (lw_at lw_m3 152 rfl) rfl
theorem q717 : (Jvm.Cond.privateMethod ({ cls := "WellOfTheSilent", name := "personAsked", desc := "(II)I" } : Jvm.MethodName)) ∈ lw_tbl := lw_at lw_m3 153 rfl
theorem q718 : (Jvm.Cond.instanceMethod ({ cls := "WellOfTheSilent", name := "personAsked", desc := "(II)I" } : Jvm.MethodName)) ∈ lw_all := lw_g (lw_at lw_m3 154 rfl) rfl
theorem q719 : (Jvm.Cond.code ({ cls := "WellOfTheSilent", name := "personAsked", desc := "(II)I" } : Jvm.MethodName) prog_1_method_42_code (3 : Nat) (Option.some Jvm.ClassFile.FieldType.int)) ∈ lw_all := lw_g (lw_at lw_m3 155 rfl) rfl
theorem q720 : (Jvm.Cond.methodLink "WellOfTheSilent" (267 : Nat) ({ cls := "WellOfTheSilent", name := "mustBePerson", desc := "(I)V" } : Jvm.MethodName)) ∈ lw_all := lw_g (lw_at lw_m3 156 rfl) rfl
theorem q721 : (Jvm.Cond.privateMethod ({ cls := "WellOfTheSilent", name := "mustBePerson", desc := "(I)V" } : Jvm.MethodName)) ∈ lw_tbl := lw_at lw_m3 157 rfl
theorem q722 : (Jvm.Cond.instanceMethod ({ cls := "WellOfTheSilent", name := "mustBePerson", desc := "(I)V" } : Jvm.MethodName)) ∈ lw_all := lw_g (lw_at lw_m3 158 rfl) rfl
theorem q723 : (Jvm.Cond.code ({ cls := "WellOfTheSilent", name := "mustBePerson", desc := "(I)V" } : Jvm.MethodName) prog_1_method_38_code (2 : Nat) (Option.none : Option Jvm.ClassFile.FieldType)) ∈ lw_all := lw_g (lw_at lw_m3 159 rfl) rfl
theorem q724 : (Jvm.Cond.methodLink "WellOfTheSilent" (259 : Nat) ({ cls := "WellOfTheSilent", name := "mustBe", desc := "(II)V" } : Jvm.MethodName)) ∈ lw_all := lw_g (lw_at lw_m3 160 rfl) rfl
theorem q725 : (Jvm.Cond.static ({ cls := "WellOfTheSilent", name := "mustBe", desc := "(II)V" } : Jvm.MethodName)) ∈ lw_all := lw_g (lw_at lw_m3 161 rfl) rfl
theorem q726 : (Jvm.Cond.code ({ cls := "WellOfTheSilent", name := "mustBe", desc := "(II)V" } : Jvm.MethodName) prog_1_method_4_code (2 : Nat) (Option.none : Option Jvm.ClassFile.FieldType)) ∈ lw_all := lw_g (lw_at lw_m3 162 rfl) rfl
theorem q727 : (Jvm.Cond.methodLink "WellOfTheSilent" (13 : Nat) ({ cls := "WellOfTheSilent", name := "in", desc := "(JJJ)Z" } : Jvm.MethodName)) ∈ lw_all := lw_g (lw_at lw_m3 163 rfl) rfl
theorem q728 : (Jvm.Cond.constantLong "WellOfTheSilent" (270 : Nat) (8 : Int64)) ∈ lw_all := lw_g (lw_at lw_m3 164 rfl) rfl
theorem q729 : (Jvm.Cond.methodLink "WellOfTheSilent" (272 : Nat) ({ cls := "WellOfTheSilent$Kind", name := "kind", desc := "()I" } : Jvm.MethodName)) ∈ lw_all := lw_g (lw_at lw_m3 165 rfl) rfl
theorem q750 : (Jvm.Cond.methodLink "WellOfTheSilent" (215 : Nat) ({ cls := "WellOfTheSilent", name := "has", desc := "(II)Z" } : Jvm.MethodName)) ∈ lw_all := lw_g (lw_at lw_m3 186 rfl) rfl
theorem q751 : (Jvm.Cond.methodLink "WellOfTheSilent" (206 : Nat) ({ cls := "WellOfTheSilent$Hill", name := "speaksIn", desc := "(I)I" } : Jvm.MethodName)) ∈ lw_all := lw_g (lw_at lw_m3 187 rfl) rfl
theorem q752 : (Jvm.Cond.methodLink "WellOfTheSilent" (212 : Nat) ({ cls := "WellOfTheSilent$Kind", name := "drinks", desc := "()I" } : Jvm.MethodName)) ∈ lw_all := lw_g (lw_at lw_m3 188 rfl) rfl
theorem q753 : (Jvm.Cond.methodLink "WellOfTheSilent" (293 : Nat) ({ cls := "WellOfTheSilent", name := "speakIt", desc := "(I)I" } : Jvm.MethodName)) ∈ lw_all := lw_g (lw_at lw_m3 189 rfl) rfl
theorem q754 : (Jvm.Cond.privateMethod ({ cls := "WellOfTheSilent", name := "speakIt", desc := "(I)I" } : Jvm.MethodName)) ∈ lw_tbl := lw_at lw_m3 190 rfl
theorem q755 : (Jvm.Cond.instanceMethod ({ cls := "WellOfTheSilent", name := "speakIt", desc := "(I)I" } : Jvm.MethodName)) ∈ lw_all := lw_g (lw_at lw_m3 191 rfl) rfl
theorem q756 : (Jvm.Cond.code ({ cls := "WellOfTheSilent", name := "speakIt", desc := "(I)I" } : Jvm.MethodName) prog_1_method_43_code (2 : Nat) (Option.some Jvm.ClassFile.FieldType.int)) ∈ lw_all := lw_g (lw_at lw_m3 192 rfl) rfl
theorem q757 : (Jvm.Cond.methodLink "WellOfTheSilent" (180 : Nat) ({ cls := "WellOfTheSilent", name := "ones", desc := "(I)I" } : Jvm.MethodName)) ∈ lw_all := lw_g (lw_at lw_m3 193 rfl) rfl
theorem q758 : (Jvm.Cond.static ({ cls := "WellOfTheSilent", name := "ones", desc := "(I)I" } : Jvm.MethodName)) ∈ lw_all := lw_g (lw_at lw_m3 194 rfl) rfl
theorem q759 : (Jvm.Cond.code ({ cls := "WellOfTheSilent", name := "ones", desc := "(I)I" } : Jvm.MethodName) prog_1_method_6_code (3 : Nat) (Option.some Jvm.ClassFile.FieldType.int)) ∈ lw_all := lw_g (lw_at lw_m3 195 rfl) rfl
theorem q760 : (Jvm.Cond.methodLink "WellOfTheSilent" (296 : Nat) ({ cls := "WellOfTheSilent", name := "befriendIt", desc := "(II)I" } : Jvm.MethodName)) ∈ lw_all := lw_g (lw_at lw_m3 196 rfl) rfl
theorem q761 : (Jvm.Cond.privateMethod ({ cls := "WellOfTheSilent", name := "befriendIt", desc := "(II)I" } : Jvm.MethodName)) ∈ lw_tbl := lw_at lw_m3 197 rfl
theorem q762 : (Jvm.Cond.instanceMethod ({ cls := "WellOfTheSilent", name := "befriendIt", desc := "(II)I" } : Jvm.MethodName)) ∈ lw_all := lw_g (lw_at lw_m3 198 rfl) rfl
theorem q763 : (Jvm.Cond.code ({ cls := "WellOfTheSilent", name := "befriendIt", desc := "(II)I" } : Jvm.MethodName) prog_1_method_44_code (4 : Nat) (Option.some Jvm.ClassFile.FieldType.int)) ∈ lw_all := lw_g (lw_at lw_m3 199 rfl) rfl
theorem q764 : (Jvm.Cond.methodLink "WellOfTheSilent" (299 : Nat) ({ cls := "WellOfTheSilent", name := "becomes", desc := "([IIII)I" } : Jvm.MethodName)) ∈ lw_all := lw_g (lw_at lw_m3 200 rfl) rfl
theorem q765 : (Jvm.Cond.privateMethod ({ cls := "WellOfTheSilent", name := "becomes", desc := "([IIII)I" } : Jvm.MethodName)) ∈ lw_tbl := lw_at lw_m3 201 rfl
theorem q766 : (Jvm.Cond.instanceMethod ({ cls := "WellOfTheSilent", name := "becomes", desc := "([IIII)I" } : Jvm.MethodName)) ∈ lw_all := lw_g (lw_at lw_m3 202 rfl) rfl
theorem q767 : (Jvm.Cond.code ({ cls := "WellOfTheSilent", name := "becomes", desc := "([IIII)I" } : Jvm.MethodName) prog_1_method_45_code (6 : Nat) (Option.some Jvm.ClassFile.FieldType.int)) ∈ lw_all := lw_g (lw_at lw_m3 203 rfl) rfl
theorem q768 : (Jvm.Cond.methodLink "WellOfTheSilent" (303 : Nat) ({ cls := "WellOfTheSilent", name := "waterIt", desc := "(I)I" } : Jvm.MethodName)) ∈ lw_all := lw_g (lw_at lw_m3 204 rfl) rfl
theorem q769 : (Jvm.Cond.privateMethod ({ cls := "WellOfTheSilent", name := "waterIt", desc := "(I)I" } : Jvm.MethodName)) ∈ lw_tbl := lw_at lw_m3 205 rfl
theorem q770 : (Jvm.Cond.instanceMethod ({ cls := "WellOfTheSilent", name := "waterIt", desc := "(I)I" } : Jvm.MethodName)) ∈ lw_all := lw_g (lw_at lw_m3 206 rfl) rfl
theorem q771 : (Jvm.Cond.code ({ cls := "WellOfTheSilent", name := "waterIt", desc := "(I)I" } : Jvm.MethodName) prog_1_method_46_code (3 : Nat) (Option.some Jvm.ClassFile.FieldType.int)) ∈ lw_all := lw_g (lw_at lw_m3 207 rfl) rfl
theorem q772 : (Jvm.Cond.constantLong "WellOfTheSilent" (274 : Nat) (99 : Int64)) ∈ lw_all := lw_g (lw_at lw_m3 208 rfl) rfl
theorem q773 : (Jvm.Cond.methodLink "WellOfTheSilent" (306 : Nat) ({ cls := "WellOfTheSilent", name := "flowIt", desc := "(I)I" } : Jvm.MethodName)) ∈ lw_all := lw_g (lw_at lw_m3 209 rfl) rfl
theorem q774 : (Jvm.Cond.privateMethod ({ cls := "WellOfTheSilent", name := "flowIt", desc := "(I)I" } : Jvm.MethodName)) ∈ lw_tbl := lw_at lw_m3 210 rfl
theorem q775 : (Jvm.Cond.instanceMethod ({ cls := "WellOfTheSilent", name := "flowIt", desc := "(I)I" } : Jvm.MethodName)) ∈ lw_all := lw_g (lw_at lw_m3 211 rfl) rfl
theorem q776 : (Jvm.Cond.code ({ cls := "WellOfTheSilent", name := "flowIt", desc := "(I)I" } : Jvm.MethodName) prog_1_method_47_code (3 : Nat) (Option.some Jvm.ClassFile.FieldType.int)) ∈ lw_all := lw_g (lw_at lw_m3 212 rfl) rfl
theorem q777 : (Jvm.Cond.constantLong "WellOfTheSilent" (276 : Nat) (30 : Int64)) ∈ lw_all := lw_g (lw_at lw_m3 213 rfl) rfl
theorem q778 : (Jvm.Cond.methodLink "WellOfTheSilent" (309 : Nat) ({ cls := "WellOfTheSilent", name := "turnIt", desc := "(III)I" } : Jvm.MethodName)) ∈ lw_all := lw_g (lw_at lw_m3 214 rfl) rfl
theorem q779 : (Jvm.Cond.privateMethod ({ cls := "WellOfTheSilent", name := "turnIt", desc := "(III)I" } : Jvm.MethodName)) ∈ lw_tbl := lw_at lw_m3 215 rfl
theorem q780 : (Jvm.Cond.instanceMethod ({ cls := "WellOfTheSilent", name := "turnIt", desc := "(III)I" } : Jvm.MethodName)) ∈ lw_all := lw_g (lw_at lw_m3 216 rfl) rfl
theorem q781 : (Jvm.Cond.code ({ cls := "WellOfTheSilent", name := "turnIt", desc := "(III)I" } : Jvm.MethodName) prog_1_method_48_code (5 : Nat) (Option.some Jvm.ClassFile.FieldType.int)) ∈ lw_all := lw_g (lw_at lw_m3 217 rfl) rfl
theorem q782 : (Jvm.Cond.constantLong "WellOfTheSilent" (278 : Nat) (5 : Int64)) ∈ lw_all := lw_g (lw_at lw_m3 218 rfl) rfl
theorem q783 : (Jvm.Cond.constantLong "WellOfTheSilent" (280 : Nat) (9 : Int64)) ∈ lw_all := lw_g (lw_at lw_m3 219 rfl) rfl
theorem q784 : (Jvm.Cond.methodLink "WellOfTheSilent" (312 : Nat) ({ cls := "WellOfTheSilent", name := "hoursIt", desc := "(I)I" } : Jvm.MethodName)) ∈ lw_all := lw_g (lw_at lw_m3 220 rfl) rfl
theorem q785 : (Jvm.Cond.privateMethod ({ cls := "WellOfTheSilent", name := "hoursIt", desc := "(I)I" } : Jvm.MethodName)) ∈ lw_tbl := lw_at lw_m3 221 rfl
theorem q786 : (Jvm.Cond.instanceMethod ({ cls := "WellOfTheSilent", name := "hoursIt", desc := "(I)I" } : Jvm.MethodName)) ∈ lw_all := lw_g (lw_at lw_m3 222 rfl) rfl
theorem q787 : (Jvm.Cond.code ({ cls := "WellOfTheSilent", name := "hoursIt", desc := "(I)I" } : Jvm.MethodName) prog_1_method_49_code (2 : Nat) (Option.some Jvm.ClassFile.FieldType.int)) ∈ lw_all := lw_g (lw_at lw_m3 223 rfl) rfl
theorem q788 : (Jvm.Cond.constantLong "WellOfTheSilent" (282 : Nat) (60 : Int64)) ∈ lw_all := lw_g (lw_at lw_m3 224 rfl) rfl
theorem q789 : (Jvm.Cond.methodLink "WellOfTheSilent" (120 : Nat) ({ cls := "WellOfTheSilent$Hill", name := "hoursOn", desc := "(I)LWellOfTheSilent$Hill;" } : Jvm.MethodName)) ∈ lw_all := lw_g (lw_at lw_m3 225 rfl) rfl
theorem q790 : (Jvm.Cond.methodLink "WellOfTheSilent" (242 : Nat) ({ cls := "WellOfTheSilent", name := "ofHours", desc := "(III)I" } : Jvm.MethodName)) ∈ lw_all := lw_g (lw_at lw_m3 226 rfl) rfl
theorem q791 : (Jvm.Cond.privateMethod ({ cls := "WellOfTheSilent", name := "ofHours", desc := "(III)I" } : Jvm.MethodName)) ∈ lw_tbl := lw_at lw_m3 227 rfl
theorem q792 : (Jvm.Cond.instanceMethod ({ cls := "WellOfTheSilent", name := "ofHours", desc := "(III)I" } : Jvm.MethodName)) ∈ lw_all := lw_g (lw_at lw_m3 228 rfl) rfl
theorem q793 : (Jvm.Cond.code ({ cls := "WellOfTheSilent", name := "ofHours", desc := "(III)I" } : Jvm.MethodName) prog_1_method_57_code (4 : Nat) (Option.some Jvm.ClassFile.FieldType.int)) ∈ lw_all := lw_g (lw_at lw_m3 229 rfl) rfl
theorem q794 : (Jvm.Cond.methodLink "WellOfTheSilent" (332 : Nat) ({ cls := "WellOfTheSilent", name := "hasAhead", desc := "(II)I" } : Jvm.MethodName)) ∈ lw_all := lw_g (lw_at lw_m3 230 rfl) rfl
theorem q795 : (Jvm.Cond.privateMethod ({ cls := "WellOfTheSilent", name := "hasAhead", desc := "(II)I" } : Jvm.MethodName)) ∈ lw_tbl := lw_at lw_m3 231 rfl
theorem q796 : (Jvm.Cond.instanceMethod ({ cls := "WellOfTheSilent", name := "hasAhead", desc := "(II)I" } : Jvm.MethodName)) ∈ lw_all := lw_g (lw_at lw_m3 232 rfl) rfl
theorem q797 : (Jvm.Cond.code ({ cls := "WellOfTheSilent", name := "hasAhead", desc := "(II)I" } : Jvm.MethodName) prog_1_method_51_code (3 : Nat) (Option.some Jvm.ClassFile.FieldType.int)) ∈ lw_all := lw_g (lw_at lw_m3 233 rfl) rfl
theorem q798 : (Jvm.Cond.methodLink "WellOfTheSilent" (161 : Nat) ({ cls := "WellOfTheSilent", name := "ahead", desc := "(I)LWellOfTheSilent$Hill;" } : Jvm.MethodName)) ∈ lw_all := lw_g (lw_at lw_m3 234 rfl) rfl
theorem q799 : (Jvm.Cond.privateMethod ({ cls := "WellOfTheSilent", name := "ahead", desc := "(I)LWellOfTheSilent$Hill;" } : Jvm.MethodName)) ∈ lw_tbl := lw_at lw_m3 235 rfl
theorem q800 : (Jvm.Cond.instanceMethod ({ cls := "WellOfTheSilent", name := "ahead", desc := "(I)LWellOfTheSilent$Hill;" } : Jvm.MethodName)) ∈ lw_all := lw_g (lw_at lw_m3 236 rfl) rfl
theorem q801 : (Jvm.Cond.code ({ cls := "WellOfTheSilent", name := "ahead", desc := "(I)LWellOfTheSilent$Hill;" } : Jvm.MethodName) prog_1_method_13_code (2 : Nat) (Option.some (Jvm.ClassFile.FieldType.object "WellOfTheSilent$Hill"))) ∈ lw_all := lw_g (lw_at lw_m3 237 rfl) rfl
theorem q802 : (Jvm.Cond.methodLink "WellOfTheSilent" (116 : Nat) ({ cls := "WellOfTheSilent", name := "openMind", desc := "()LWellOfTheSilent$Hill;" } : Jvm.MethodName)) ∈ lw_all := lw_g (lw_at lw_m3 238 rfl) rfl
theorem q803 : (Jvm.Cond.privateMethod ({ cls := "WellOfTheSilent", name := "openMind", desc := "()LWellOfTheSilent$Hill;" } : Jvm.MethodName)) ∈ lw_tbl := lw_at lw_m3 239 rfl
theorem q804 : (Jvm.Cond.instanceMethod ({ cls := "WellOfTheSilent", name := "openMind", desc := "()LWellOfTheSilent$Hill;" } : Jvm.MethodName)) ∈ lw_all := lw_g (lw_at lw_m4 0 rfl) rfl
theorem q805 : (Jvm.Cond.code ({ cls := "WellOfTheSilent", name := "openMind", desc := "()LWellOfTheSilent$Hill;" } : Jvm.MethodName) prog_1_method_12_code (1 : Nat) (Option.some (Jvm.ClassFile.FieldType.object "WellOfTheSilent$Hill"))) ∈ lw_all := lw_g (lw_at lw_m4 1 rfl) rfl
theorem q806 : (Jvm.Cond.methodLink "WellOfTheSilent" (335 : Nat) ({ cls := "WellOfTheSilent", name := "thenTold", desc := "(II)I" } : Jvm.MethodName)) ∈ lw_all := lw_g (lw_at lw_m4 2 rfl) rfl
theorem q807 : (Jvm.Cond.privateMethod ({ cls := "WellOfTheSilent", name := "thenTold", desc := "(II)I" } : Jvm.MethodName)) ∈ lw_tbl := lw_at lw_m4 3 rfl
theorem q808 : (Jvm.Cond.instanceMethod ({ cls := "WellOfTheSilent", name := "thenTold", desc := "(II)I" } : Jvm.MethodName)) ∈ lw_all := lw_g (lw_at lw_m4 4 rfl) rfl
theorem q809 : (Jvm.Cond.code ({ cls := "WellOfTheSilent", name := "thenTold", desc := "(II)I" } : Jvm.MethodName) prog_1_method_52_code (4 : Nat) (Option.some Jvm.ClassFile.FieldType.int)) ∈ lw_all := lw_g (lw_at lw_m4 5 rfl) rfl
theorem q810 : (Jvm.Cond.constantLong "WellOfTheSilent" (315 : Nat) (3 : Int64)) ∈ lw_all := lw_g (lw_at lw_m4 6 rfl) rfl
theorem q811 : (Jvm.Cond.methodLink "WellOfTheSilent" (174 : Nat) ({ cls := "WellOfTheSilent$Hill", name := "all", desc := "()I" } : Jvm.MethodName)) ∈ lw_all := lw_g (lw_at lw_m4 7 rfl) rfl
theorem q815 : (Jvm.Cond.methodLink "WellOfTheSilent" (338 : Nat) ({ cls := "WellOfTheSilent", name := "dryTold", desc := "(I)I" } : Jvm.MethodName)) ∈ lw_all := lw_g (lw_at lw_m4 11 rfl) rfl
theorem q816 : (Jvm.Cond.privateMethod ({ cls := "WellOfTheSilent", name := "dryTold", desc := "(I)I" } : Jvm.MethodName)) ∈ lw_tbl := lw_at lw_m4 12 rfl
theorem q817 : (Jvm.Cond.instanceMethod ({ cls := "WellOfTheSilent", name := "dryTold", desc := "(I)I" } : Jvm.MethodName)) ∈ lw_all := lw_g (lw_at lw_m4 13 rfl) rfl
theorem q818 : (Jvm.Cond.code ({ cls := "WellOfTheSilent", name := "dryTold", desc := "(I)I" } : Jvm.MethodName) prog_1_method_15_code (6 : Nat) (Option.some Jvm.ClassFile.FieldType.int)) ∈ lw_all := lw_g (lw_at lw_m4 14 rfl) rfl
theorem q819 : (Jvm.Cond.constantLong "WellOfTheSilent" (130 : Nat) (-1 : Int64)) ∈ lw_all := lw_g (lw_at lw_m4 15 rfl) rfl
theorem q820 : (Jvm.Cond.methodLink "WellOfTheSilent" (135 : Nat) ({ cls := "WellOfTheSilent", name := "dryIn", desc := "(I)I" } : Jvm.MethodName)) ∈ lw_all := lw_g (lw_at lw_m4 16 rfl) rfl
theorem q821 : (Jvm.Cond.privateMethod ({ cls := "WellOfTheSilent", name := "dryIn", desc := "(I)I" } : Jvm.MethodName)) ∈ lw_tbl := lw_at lw_m4 17 rfl
theorem q822 : (Jvm.Cond.instanceMethod ({ cls := "WellOfTheSilent", name := "dryIn", desc := "(I)I" } : Jvm.MethodName)) ∈ lw_all := lw_g (lw_at lw_m4 18 rfl) rfl
theorem q823 : (Jvm.Cond.code ({ cls := "WellOfTheSilent", name := "dryIn", desc := "(I)I" } : Jvm.MethodName) prog_1_method_14_code (4 : Nat) (Option.some Jvm.ClassFile.FieldType.int)) ∈ lw_all := lw_g (lw_at lw_m4 19 rfl) rfl
theorem q824 : (Jvm.Cond.methodLink "WellOfTheSilent" (127 : Nat) ({ cls := "WellOfTheSilent$Hill", name := "hourOn", desc := "()V" } : Jvm.MethodName)) ∈ lw_all := lw_g (lw_at lw_m4 20 rfl) rfl
theorem q825 : (Jvm.Cond.methodLink "WellOfTheSilent" (139 : Nat) ({ cls := "java/lang/Math", name := "min", desc := "(II)I" } : Jvm.MethodName)) ∈ lw_all := lw_g (lw_at lw_m4 21 rfl) rfl
theorem q826 : (Jvm.Cond.methodLink "WellOfTheSilent" (341 : Nat) ({ cls := "WellOfTheSilent", name := "emptyIn", desc := "()I" } : Jvm.MethodName)) ∈ lw_all := lw_g (lw_at lw_m4 22 rfl) rfl
theorem q827 : (Jvm.Cond.privateMethod ({ cls := "WellOfTheSilent", name := "emptyIn", desc := "()I" } : Jvm.MethodName)) ∈ lw_tbl := lw_at lw_m4 23 rfl
theorem q828 : (Jvm.Cond.instanceMethod ({ cls := "WellOfTheSilent", name := "emptyIn", desc := "()I" } : Jvm.MethodName)) ∈ lw_all := lw_g (lw_at lw_m4 24 rfl) rfl
theorem q829 : (Jvm.Cond.code ({ cls := "WellOfTheSilent", name := "emptyIn", desc := "()I" } : Jvm.MethodName) prog_1_method_16_code (3 : Nat) (Option.some Jvm.ClassFile.FieldType.int)) ∈ lw_all := lw_g (lw_at lw_m4 25 rfl) rfl
theorem q830 : (Jvm.Cond.methodLink "WellOfTheSilent" (317 : Nat) ({ cls := "WellOfTheSilent", name := "mustBeSoon", desc := "(I)V" } : Jvm.MethodName)) ∈ lw_all := lw_g (lw_at lw_m4 26 rfl) rfl
theorem q831 : (Jvm.Cond.static ({ cls := "WellOfTheSilent", name := "mustBeSoon", desc := "(I)V" } : Jvm.MethodName)) ∈ lw_all := lw_g (lw_at lw_m4 27 rfl) rfl
theorem q832 : (Jvm.Cond.code ({ cls := "WellOfTheSilent", name := "mustBeSoon", desc := "(I)V" } : Jvm.MethodName) prog_1_method_40_code (1 : Nat) (Option.none : Option Jvm.ClassFile.FieldType)) ∈ lw_all := lw_g (lw_at lw_m4 28 rfl) rfl
theorem q833 : (Jvm.Cond.constantLong "WellOfTheSilent" (263 : Nat) (48 : Int64)) ∈ lw_all := lw_g (lw_at lw_m4 29 rfl) rfl
theorem q834 : (Jvm.Cond.methodLink "WellOfTheSilent" (344 : Nat) ({ cls := "WellOfTheSilent", name := "leastFlow", desc := "(I)I" } : Jvm.MethodName)) ∈ lw_all := lw_g (lw_at lw_m4 30 rfl) rfl
theorem q835 : (Jvm.Cond.privateMethod ({ cls := "WellOfTheSilent", name := "leastFlow", desc := "(I)I" } : Jvm.MethodName)) ∈ lw_tbl := lw_at lw_m4 31 rfl
theorem q836 : (Jvm.Cond.instanceMethod ({ cls := "WellOfTheSilent", name := "leastFlow", desc := "(I)I" } : Jvm.MethodName)) ∈ lw_all := lw_g (lw_at lw_m4 32 rfl) rfl
theorem q837 : (Jvm.Cond.code ({ cls := "WellOfTheSilent", name := "leastFlow", desc := "(I)I" } : Jvm.MethodName) prog_1_method_17_code (4 : Nat) (Option.some Jvm.ClassFile.FieldType.int)) ∈ lw_all := lw_g (lw_at lw_m4 33 rfl) rfl
theorem q838 : (Jvm.Cond.methodLink "WellOfTheSilent" (150 : Nat) ({ cls := "WellOfTheSilent$Hill", name := "staysWet", desc := "(I)Z" } : Jvm.MethodName)) ∈ lw_all := lw_g (lw_at lw_m4 34 rfl) rfl
theorem q846 : (Jvm.Cond.methodLink "WellOfTheSilent" (347 : Nat) ({ cls := "WellOfTheSilent", name := "canTold", desc := "(II)I" } : Jvm.MethodName)) ∈ lw_all := lw_g (lw_at lw_m4 42 rfl) rfl
theorem q847 : (Jvm.Cond.privateMethod ({ cls := "WellOfTheSilent", name := "canTold", desc := "(II)I" } : Jvm.MethodName)) ∈ lw_tbl := lw_at lw_m4 43 rfl
theorem q848 : (Jvm.Cond.instanceMethod ({ cls := "WellOfTheSilent", name := "canTold", desc := "(II)I" } : Jvm.MethodName)) ∈ lw_all := lw_g (lw_at lw_m4 44 rfl) rfl
theorem q849 : (Jvm.Cond.code ({ cls := "WellOfTheSilent", name := "canTold", desc := "(II)I" } : Jvm.MethodName) prog_1_method_53_code (3 : Nat) (Option.some Jvm.ClassFile.FieldType.int)) ∈ lw_all := lw_g (lw_at lw_m4 45 rfl) rfl
theorem q850 : (Jvm.Cond.methodLink "WellOfTheSilent" (320 : Nat) ({ cls := "WellOfTheSilent", name := "leastCan", desc := "(II)I" } : Jvm.MethodName)) ∈ lw_all := lw_g (lw_at lw_m4 46 rfl) rfl
theorem q851 : (Jvm.Cond.privateMethod ({ cls := "WellOfTheSilent", name := "leastCan", desc := "(II)I" } : Jvm.MethodName)) ∈ lw_tbl := lw_at lw_m4 47 rfl
theorem q852 : (Jvm.Cond.instanceMethod ({ cls := "WellOfTheSilent", name := "leastCan", desc := "(II)I" } : Jvm.MethodName)) ∈ lw_all := lw_g (lw_at lw_m4 48 rfl) rfl
theorem q853 : (Jvm.Cond.code ({ cls := "WellOfTheSilent", name := "leastCan", desc := "(II)I" } : Jvm.MethodName) prog_1_method_18_code (5 : Nat) (Option.some Jvm.ClassFile.FieldType.int)) ∈ lw_all := lw_g (lw_at lw_m4 49 rfl) rfl
theorem q854 : (Jvm.Cond.methodLink "WellOfTheSilent" (157 : Nat) ({ cls := "WellOfTheSilent$Hill", name := "staysWetFor", desc := "(II)Z" } : Jvm.MethodName)) ∈ lw_all := lw_g (lw_at lw_m4 50 rfl) rfl
theorem q858 : (Jvm.Cond.methodLink "WellOfTheSilent" (350 : Nat) ({ cls := "WellOfTheSilent", name := "friendTold", desc := "(II)I" } : Jvm.MethodName)) ∈ lw_all := lw_g (lw_at lw_m4 54 rfl) rfl
theorem q859 : (Jvm.Cond.privateMethod ({ cls := "WellOfTheSilent", name := "friendTold", desc := "(II)I" } : Jvm.MethodName)) ∈ lw_tbl := lw_at lw_m4 55 rfl
theorem q860 : (Jvm.Cond.instanceMethod ({ cls := "WellOfTheSilent", name := "friendTold", desc := "(II)I" } : Jvm.MethodName)) ∈ lw_all := lw_g (lw_at lw_m4 56 rfl) rfl
theorem q861 : (Jvm.Cond.code ({ cls := "WellOfTheSilent", name := "friendTold", desc := "(II)I" } : Jvm.MethodName) prog_1_method_54_code (3 : Nat) (Option.some Jvm.ClassFile.FieldType.int)) ∈ lw_all := lw_g (lw_at lw_m4 57 rfl) rfl
theorem q862 : (Jvm.Cond.methodLink "WellOfTheSilent" (323 : Nat) ({ cls := "WellOfTheSilent", name := "bestFriend", desc := "(II)I" } : Jvm.MethodName)) ∈ lw_all := lw_g (lw_at lw_m4 58 rfl) rfl
theorem q863 : (Jvm.Cond.privateMethod ({ cls := "WellOfTheSilent", name := "bestFriend", desc := "(II)I" } : Jvm.MethodName)) ∈ lw_tbl := lw_at lw_m4 59 rfl
theorem q864 : (Jvm.Cond.instanceMethod ({ cls := "WellOfTheSilent", name := "bestFriend", desc := "(II)I" } : Jvm.MethodName)) ∈ lw_all := lw_g (lw_at lw_m4 60 rfl) rfl
theorem q865 : (Jvm.Cond.code ({ cls := "WellOfTheSilent", name := "bestFriend", desc := "(II)I" } : Jvm.MethodName) prog_1_method_19_code (8 : Nat) (Option.some Jvm.ClassFile.FieldType.int)) ∈ lw_all := lw_g (lw_at lw_m4 61 rfl) rfl
theorem q866 : (Jvm.Cond.methodLink "WellOfTheSilent" (164 : Nat) ({ cls := "WellOfTheSilent$Hill", name := "least", desc := "()I" } : Jvm.MethodName)) ∈ lw_all := lw_g (lw_at lw_m4 62 rfl) rfl
theorem q870 : (Jvm.Cond.methodLink "WellOfTheSilent" (171 : Nat) ({ cls := "java/lang/Math", name := "max", desc := "(II)I" } : Jvm.MethodName)) ∈ lw_all := lw_g (lw_at lw_m4 66 rfl) rfl
theorem q871 : (Jvm.Cond.methodLink "WellOfTheSilent" (353 : Nat) ({ cls := "WellOfTheSilent", name := "bestHushed", desc := "(I)I" } : Jvm.MethodName)) ∈ lw_all := lw_g (lw_at lw_m4 67 rfl) rfl
theorem q872 : (Jvm.Cond.privateMethod ({ cls := "WellOfTheSilent", name := "bestHushed", desc := "(I)I" } : Jvm.MethodName)) ∈ lw_tbl := lw_at lw_m4 68 rfl
theorem q873 : (Jvm.Cond.instanceMethod ({ cls := "WellOfTheSilent", name := "bestHushed", desc := "(I)I" } : Jvm.MethodName)) ∈ lw_all := lw_g (lw_at lw_m4 69 rfl) rfl
theorem q874 : (Jvm.Cond.code ({ cls := "WellOfTheSilent", name := "bestHushed", desc := "(I)I" } : Jvm.MethodName) prog_1_method_20_code (7 : Nat) (Option.some Jvm.ClassFile.FieldType.int)) ∈ lw_all := lw_g (lw_at lw_m4 70 rfl) rfl
theorem q875 : (Jvm.Cond.methodLink "WellOfTheSilent" (356 : Nat) ({ cls := "WellOfTheSilent", name := "fewestTold", desc := "(I)I" } : Jvm.MethodName)) ∈ lw_all := lw_g (lw_at lw_m4 71 rfl) rfl
theorem q876 : (Jvm.Cond.privateMethod ({ cls := "WellOfTheSilent", name := "fewestTold", desc := "(I)I" } : Jvm.MethodName)) ∈ lw_tbl := lw_at lw_m4 72 rfl
theorem q877 : (Jvm.Cond.instanceMethod ({ cls := "WellOfTheSilent", name := "fewestTold", desc := "(I)I" } : Jvm.MethodName)) ∈ lw_all := lw_g (lw_at lw_m4 73 rfl) rfl
theorem q878 : (Jvm.Cond.code ({ cls := "WellOfTheSilent", name := "fewestTold", desc := "(I)I" } : Jvm.MethodName) prog_1_method_55_code (2 : Nat) (Option.some Jvm.ClassFile.FieldType.int)) ∈ lw_all := lw_g (lw_at lw_m4 74 rfl) rfl
theorem q879 : (Jvm.Cond.constantLong "WellOfTheSilent" (186 : Nat) (24 : Int64)) ∈ lw_all := lw_g (lw_at lw_m4 75 rfl) rfl
theorem q880 : (Jvm.Cond.methodLink "WellOfTheSilent" (326 : Nat) ({ cls := "WellOfTheSilent", name := "fewestHushed", desc := "(I)I" } : Jvm.MethodName)) ∈ lw_all := lw_g (lw_at lw_m4 76 rfl) rfl
theorem q881 : (Jvm.Cond.privateMethod ({ cls := "WellOfTheSilent", name := "fewestHushed", desc := "(I)I" } : Jvm.MethodName)) ∈ lw_tbl := lw_at lw_m4 77 rfl
theorem q882 : (Jvm.Cond.instanceMethod ({ cls := "WellOfTheSilent", name := "fewestHushed", desc := "(I)I" } : Jvm.MethodName)) ∈ lw_all := lw_g (lw_at lw_m4 78 rfl) rfl
theorem q883 : (Jvm.Cond.code ({ cls := "WellOfTheSilent", name := "fewestHushed", desc := "(I)I" } : Jvm.MethodName) prog_1_method_21_code (6 : Nat) (Option.some Jvm.ClassFile.FieldType.int)) ∈ lw_all := lw_g (lw_at lw_m4 79 rfl) rfl
theorem q884 : (Jvm.Cond.methodLink "WellOfTheSilent" (359 : Nat) ({ cls := "WellOfTheSilent", name := "wordTold", desc := "(I)I" } : Jvm.MethodName)) ∈ lw_all := lw_g (lw_at lw_m4 80 rfl) rfl
theorem q885 : (Jvm.Cond.privateMethod ({ cls := "WellOfTheSilent", name := "wordTold", desc := "(I)I" } : Jvm.MethodName)) ∈ lw_tbl := lw_at lw_m4 81 rfl
theorem q886 : (Jvm.Cond.instanceMethod ({ cls := "WellOfTheSilent", name := "wordTold", desc := "(I)I" } : Jvm.MethodName)) ∈ lw_all := lw_g (lw_at lw_m4 82 rfl) rfl
theorem q887 : (Jvm.Cond.code ({ cls := "WellOfTheSilent", name := "wordTold", desc := "(I)I" } : Jvm.MethodName) prog_1_method_56_code (2 : Nat) (Option.some Jvm.ClassFile.FieldType.int)) ∈ lw_all := lw_g (lw_at lw_m4 83 rfl) rfl
theorem q888 : (Jvm.Cond.methodLink "WellOfTheSilent" (329 : Nat) ({ cls := "WellOfTheSilent", name := "worstWord", desc := "(I)I" } : Jvm.MethodName)) ∈ lw_all := lw_g (lw_at lw_m4 84 rfl) rfl
theorem q889 : (Jvm.Cond.privateMethod ({ cls := "WellOfTheSilent", name := "worstWord", desc := "(I)I" } : Jvm.MethodName)) ∈ lw_tbl := lw_at lw_m4 85 rfl
theorem q890 : (Jvm.Cond.instanceMethod ({ cls := "WellOfTheSilent", name := "worstWord", desc := "(I)I" } : Jvm.MethodName)) ∈ lw_all := lw_g (lw_at lw_m4 86 rfl) rfl
theorem q891 : (Jvm.Cond.code ({ cls := "WellOfTheSilent", name := "worstWord", desc := "(I)I" } : Jvm.MethodName) prog_1_method_22_code (7 : Nat) (Option.some Jvm.ClassFile.FieldType.int)) ∈ lw_all := lw_g (lw_at lw_m4 87 rfl) rfl
theorem q892 : (Jvm.Cond.methodLink "WellOfTheSilent" (362 : Nat) ({ cls := "WellOfTheSilent", name := "sendTold", desc := "(II)I" } : Jvm.MethodName)) ∈ lw_all := lw_g (lw_at lw_m4 88 rfl) rfl
theorem q893 : (Jvm.Cond.privateMethod ({ cls := "WellOfTheSilent", name := "sendTold", desc := "(II)I" } : Jvm.MethodName)) ∈ lw_tbl := lw_at lw_m4 89 rfl
theorem q894 : (Jvm.Cond.instanceMethod ({ cls := "WellOfTheSilent", name := "sendTold", desc := "(II)I" } : Jvm.MethodName)) ∈ lw_all := lw_g (lw_at lw_m4 90 rfl) rfl
theorem q895 : (Jvm.Cond.code ({ cls := "WellOfTheSilent", name := "sendTold", desc := "(II)I" } : Jvm.MethodName) prog_1_method_23_code (8 : Nat) (Option.some Jvm.ClassFile.FieldType.int)) ∈ lw_all := lw_g (lw_at lw_m4 91 rfl) rfl
theorem q896 : (Jvm.Cond.methodLink "WellOfTheSilent" (192 : Nat) ({ cls := "WellOfTheSilent", name := "mustBeBit", desc := "(I)V" } : Jvm.MethodName)) ∈ lw_all := lw_g (lw_at lw_m4 92 rfl) rfl
theorem q897 : (Jvm.Cond.static ({ cls := "WellOfTheSilent", name := "mustBeBit", desc := "(I)V" } : Jvm.MethodName)) ∈ lw_all := lw_g (lw_at lw_m4 93 rfl) rfl
theorem q898 : (Jvm.Cond.code ({ cls := "WellOfTheSilent", name := "mustBeBit", desc := "(I)V" } : Jvm.MethodName) prog_1_method_39_code (1 : Nat) (Option.none : Option Jvm.ClassFile.FieldType)) ∈ lw_all := lw_g (lw_at lw_m4 94 rfl) rfl
theorem q899 : (Jvm.Cond.methodLink "WellOfTheSilent" (195 : Nat) ({ cls := "WellOfTheSilent$Hill", name := "dryMany", desc := "()I" } : Jvm.MethodName)) ∈ lw_all := lw_g (lw_at lw_m4 95 rfl) rfl
theorem q900 : (Jvm.Cond.methodLink "WellOfTheSilent" (246 : Nat) ({ cls := "WellOfTheSilent", name := "ofRest", desc := "(IIII)I" } : Jvm.MethodName)) ∈ lw_all := lw_g (lw_at lw_m4 96 rfl) rfl
theorem q901 : (Jvm.Cond.privateMethod ({ cls := "WellOfTheSilent", name := "ofRest", desc := "(IIII)I" } : Jvm.MethodName)) ∈ lw_tbl := lw_at lw_m4 97 rfl
theorem q902 : (Jvm.Cond.instanceMethod ({ cls := "WellOfTheSilent", name := "ofRest", desc := "(IIII)I" } : Jvm.MethodName)) ∈ lw_all := lw_g (lw_at lw_m4 98 rfl) rfl
theorem q903 : (Jvm.Cond.code ({ cls := "WellOfTheSilent", name := "ofRest", desc := "(IIII)I" } : Jvm.MethodName) prog_1_method_62_code (5 : Nat) (Option.some Jvm.ClassFile.FieldType.int)) ∈ lw_all := lw_g (lw_at lw_m4 99 rfl) rfl
theorem q904 : (Jvm.Cond.methodLink "WellOfTheSilent" (376 : Nat) ({ cls := "WellOfTheSilent", name := "nextDrawing", desc := "()I" } : Jvm.MethodName)) ∈ lw_all := lw_g (lw_at lw_m4 100 rfl) rfl
theorem q905 : (Jvm.Cond.privateMethod ({ cls := "WellOfTheSilent", name := "nextDrawing", desc := "()I" } : Jvm.MethodName)) ∈ lw_tbl := lw_at lw_m4 101 rfl
theorem q906 : (Jvm.Cond.instanceMethod ({ cls := "WellOfTheSilent", name := "nextDrawing", desc := "()I" } : Jvm.MethodName)) ∈ lw_all := lw_g (lw_at lw_m4 102 rfl) rfl
theorem q907 : (Jvm.Cond.code ({ cls := "WellOfTheSilent", name := "nextDrawing", desc := "()I" } : Jvm.MethodName) prog_1_method_24_code (3 : Nat) (Option.some Jvm.ClassFile.FieldType.int)) ∈ lw_all := lw_g (lw_at lw_m4 103 rfl) rfl
theorem q908 : (Jvm.Cond.methodLink "WellOfTheSilent" (379 : Nat) ({ cls := "WellOfTheSilent", name := "richestTold", desc := "(I)I" } : Jvm.MethodName)) ∈ lw_all := lw_g (lw_at lw_m4 104 rfl) rfl
theorem q909 : (Jvm.Cond.privateMethod ({ cls := "WellOfTheSilent", name := "richestTold", desc := "(I)I" } : Jvm.MethodName)) ∈ lw_tbl := lw_at lw_m4 105 rfl
theorem q910 : (Jvm.Cond.instanceMethod ({ cls := "WellOfTheSilent", name := "richestTold", desc := "(I)I" } : Jvm.MethodName)) ∈ lw_all := lw_g (lw_at lw_m4 106 rfl) rfl
theorem q911 : (Jvm.Cond.code ({ cls := "WellOfTheSilent", name := "richestTold", desc := "(I)I" } : Jvm.MethodName) prog_1_method_25_code (6 : Nat) (Option.some Jvm.ClassFile.FieldType.int)) ∈ lw_all := lw_g (lw_at lw_m4 107 rfl) rfl
theorem q912 : (Jvm.Cond.constantLong "WellOfTheSilent" (204 : Nat) (2 : Int64)) ∈ lw_all := lw_g (lw_at lw_m4 108 rfl) rfl
theorem q913 : (Jvm.Cond.methodLink "WellOfTheSilent" (382 : Nat) ({ cls := "WellOfTheSilent", name := "quietTold", desc := "(I)I" } : Jvm.MethodName)) ∈ lw_all := lw_g (lw_at lw_m4 109 rfl) rfl
theorem q914 : (Jvm.Cond.privateMethod ({ cls := "WellOfTheSilent", name := "quietTold", desc := "(I)I" } : Jvm.MethodName)) ∈ lw_tbl := lw_at lw_m4 110 rfl
theorem q915 : (Jvm.Cond.instanceMethod ({ cls := "WellOfTheSilent", name := "quietTold", desc := "(I)I" } : Jvm.MethodName)) ∈ lw_all := lw_g (lw_at lw_m4 111 rfl) rfl
theorem q916 : (Jvm.Cond.code ({ cls := "WellOfTheSilent", name := "quietTold", desc := "(I)I" } : Jvm.MethodName) prog_1_method_58_code (2 : Nat) (Option.some Jvm.ClassFile.FieldType.int)) ∈ lw_all := lw_g (lw_at lw_m4 112 rfl) rfl
theorem q917 : (Jvm.Cond.constantLong "WellOfTheSilent" (365 : Nat) (11 : Int64)) ∈ lw_all := lw_g (lw_at lw_m4 113 rfl) rfl
theorem q918 : (Jvm.Cond.methodLink "WellOfTheSilent" (367 : Nat) ({ cls := "WellOfTheSilent", name := "quietIn", desc := "(I)I" } : Jvm.MethodName)) ∈ lw_all := lw_g (lw_at lw_m4 114 rfl) rfl
theorem q919 : (Jvm.Cond.privateMethod ({ cls := "WellOfTheSilent", name := "quietIn", desc := "(I)I" } : Jvm.MethodName)) ∈ lw_tbl := lw_at lw_m4 115 rfl
theorem q920 : (Jvm.Cond.instanceMethod ({ cls := "WellOfTheSilent", name := "quietIn", desc := "(I)I" } : Jvm.MethodName)) ∈ lw_all := lw_g (lw_at lw_m4 116 rfl) rfl
theorem q921 : (Jvm.Cond.code ({ cls := "WellOfTheSilent", name := "quietIn", desc := "(I)I" } : Jvm.MethodName) prog_1_method_26_code (4 : Nat) (Option.some Jvm.ClassFile.FieldType.int)) ∈ lw_all := lw_g (lw_at lw_m4 117 rfl) rfl
theorem q922 : (Jvm.Cond.methodLink "WellOfTheSilent" (385 : Nat) ({ cls := "WellOfTheSilent", name := "allDrink", desc := "()I" } : Jvm.MethodName)) ∈ lw_all := lw_g (lw_at lw_m4 118 rfl) rfl
theorem q923 : (Jvm.Cond.privateMethod ({ cls := "WellOfTheSilent", name := "allDrink", desc := "()I" } : Jvm.MethodName)) ∈ lw_tbl := lw_at lw_m4 119 rfl
theorem q924 : (Jvm.Cond.instanceMethod ({ cls := "WellOfTheSilent", name := "allDrink", desc := "()I" } : Jvm.MethodName)) ∈ lw_all := lw_g (lw_at lw_m4 120 rfl) rfl
theorem q925 : (Jvm.Cond.code ({ cls := "WellOfTheSilent", name := "allDrink", desc := "()I" } : Jvm.MethodName) prog_1_method_27_code (3 : Nat) (Option.some Jvm.ClassFile.FieldType.int)) ∈ lw_all := lw_g (lw_at lw_m4 121 rfl) rfl
theorem q926 : (Jvm.Cond.methodLink "WellOfTheSilent" (388 : Nat) ({ cls := "WellOfTheSilent", name := "lastsTold", desc := "(I)I" } : Jvm.MethodName)) ∈ lw_all := lw_g (lw_at lw_m4 122 rfl) rfl
theorem q927 : (Jvm.Cond.privateMethod ({ cls := "WellOfTheSilent", name := "lastsTold", desc := "(I)I" } : Jvm.MethodName)) ∈ lw_tbl := lw_at lw_m4 123 rfl
theorem q928 : (Jvm.Cond.instanceMethod ({ cls := "WellOfTheSilent", name := "lastsTold", desc := "(I)I" } : Jvm.MethodName)) ∈ lw_all := lw_g (lw_at lw_m4 124 rfl) rfl
theorem q929 : (Jvm.Cond.code ({ cls := "WellOfTheSilent", name := "lastsTold", desc := "(I)I" } : Jvm.MethodName) prog_1_method_59_code (3 : Nat) (Option.some Jvm.ClassFile.FieldType.int)) ∈ lw_all := lw_g (lw_at lw_m4 125 rfl) rfl
theorem q930 : (Jvm.Cond.methodLink "WellOfTheSilent" (391 : Nat) ({ cls := "WellOfTheSilent", name := "carriesTold", desc := "(I)I" } : Jvm.MethodName)) ∈ lw_all := lw_g (lw_at lw_m4 126 rfl) rfl
theorem q931 : (Jvm.Cond.privateMethod ({ cls := "WellOfTheSilent", name := "carriesTold", desc := "(I)I" } : Jvm.MethodName)) ∈ lw_tbl := lw_at lw_m4 127 rfl
theorem q932 : (Jvm.Cond.instanceMethod ({ cls := "WellOfTheSilent", name := "carriesTold", desc := "(I)I" } : Jvm.MethodName)) ∈ lw_all := lw_g (lw_at lw_m4 128 rfl) rfl
theorem q933 : (Jvm.Cond.code ({ cls := "WellOfTheSilent", name := "carriesTold", desc := "(I)I" } : Jvm.MethodName) prog_1_method_28_code (7 : Nat) (Option.some Jvm.ClassFile.FieldType.int)) ∈ lw_all := lw_g (lw_at lw_m4 129 rfl) rfl
theorem q934 : (Jvm.Cond.methodLink "WellOfTheSilent" (394 : Nat) ({ cls := "WellOfTheSilent", name := "twoTold", desc := "(III)I" } : Jvm.MethodName)) ∈ lw_all := lw_g (lw_at lw_m4 130 rfl) rfl
theorem q935 : (Jvm.Cond.privateMethod ({ cls := "WellOfTheSilent", name := "twoTold", desc := "(III)I" } : Jvm.MethodName)) ∈ lw_tbl := lw_at lw_m4 131 rfl
theorem q936 : (Jvm.Cond.instanceMethod ({ cls := "WellOfTheSilent", name := "twoTold", desc := "(III)I" } : Jvm.MethodName)) ∈ lw_all := lw_g (lw_at lw_m4 132 rfl) rfl
theorem q937 : (Jvm.Cond.code ({ cls := "WellOfTheSilent", name := "twoTold", desc := "(III)I" } : Jvm.MethodName) prog_1_method_60_code (4 : Nat) (Option.some Jvm.ClassFile.FieldType.int)) ∈ lw_all := lw_g (lw_at lw_m4 133 rfl) rfl
theorem q938 : (Jvm.Cond.methodLink "WellOfTheSilent" (370 : Nat) ({ cls := "WellOfTheSilent", name := "restingWords", desc := "(III)I" } : Jvm.MethodName)) ∈ lw_all := lw_g (lw_at lw_m4 134 rfl) rfl
theorem q939 : (Jvm.Cond.privateMethod ({ cls := "WellOfTheSilent", name := "restingWords", desc := "(III)I" } : Jvm.MethodName)) ∈ lw_tbl := lw_at lw_m4 135 rfl
theorem q940 : (Jvm.Cond.instanceMethod ({ cls := "WellOfTheSilent", name := "restingWords", desc := "(III)I" } : Jvm.MethodName)) ∈ lw_all := lw_g (lw_at lw_m4 136 rfl) rfl
theorem q941 : (Jvm.Cond.code ({ cls := "WellOfTheSilent", name := "restingWords", desc := "(III)I" } : Jvm.MethodName) prog_1_method_29_code (6 : Nat) (Option.some Jvm.ClassFile.FieldType.int)) ∈ lw_all := lw_g (lw_at lw_m4 137 rfl) rfl
theorem q942 : (Jvm.Cond.methodLink "WellOfTheSilent" (397 : Nat) ({ cls := "WellOfTheSilent", name := "whatTold", desc := "(II)I" } : Jvm.MethodName)) ∈ lw_all := lw_g (lw_at lw_m4 138 rfl) rfl
theorem q943 : (Jvm.Cond.privateMethod ({ cls := "WellOfTheSilent", name := "whatTold", desc := "(II)I" } : Jvm.MethodName)) ∈ lw_tbl := lw_at lw_m4 139 rfl
theorem q944 : (Jvm.Cond.instanceMethod ({ cls := "WellOfTheSilent", name := "whatTold", desc := "(II)I" } : Jvm.MethodName)) ∈ lw_all := lw_g (lw_at lw_m4 140 rfl) rfl
theorem q945 : (Jvm.Cond.code ({ cls := "WellOfTheSilent", name := "whatTold", desc := "(II)I" } : Jvm.MethodName) prog_1_method_61_code (3 : Nat) (Option.some Jvm.ClassFile.FieldType.int)) ∈ lw_all := lw_g (lw_at lw_m4 141 rfl) rfl
theorem q946 : (Jvm.Cond.methodLink "WellOfTheSilent" (373 : Nat) ({ cls := "WellOfTheSilent", name := "fitting", desc := "(II)I" } : Jvm.MethodName)) ∈ lw_all := lw_g (lw_at lw_m4 142 rfl) rfl
theorem q947 : (Jvm.Cond.privateMethod ({ cls := "WellOfTheSilent", name := "fitting", desc := "(II)I" } : Jvm.MethodName)) ∈ lw_tbl := lw_at lw_m4 143 rfl
theorem q948 : (Jvm.Cond.instanceMethod ({ cls := "WellOfTheSilent", name := "fitting", desc := "(II)I" } : Jvm.MethodName)) ∈ lw_all := lw_g (lw_at lw_m4 144 rfl) rfl
theorem q949 : (Jvm.Cond.code ({ cls := "WellOfTheSilent", name := "fitting", desc := "(II)I" } : Jvm.MethodName) prog_1_method_32_code (6 : Nat) (Option.some Jvm.ClassFile.FieldType.int)) ∈ lw_all := lw_g (lw_at lw_m4 145 rfl) rfl
theorem q950 : (Jvm.Cond.methodLink "WellOfTheSilent" (231 : Nat) ({ cls := "WellOfTheSilent", name := "isRow", desc := "(LWellOfTheSilent$Hill;I)Z" } : Jvm.MethodName)) ∈ lw_all := lw_g (lw_at lw_m4 146 rfl) rfl
theorem q951 : (Jvm.Cond.privateMethod ({ cls := "WellOfTheSilent", name := "isRow", desc := "(LWellOfTheSilent$Hill;I)Z" } : Jvm.MethodName)) ∈ lw_tbl := lw_at lw_m4 147 rfl
theorem q952 : (Jvm.Cond.instanceMethod ({ cls := "WellOfTheSilent", name := "isRow", desc := "(LWellOfTheSilent$Hill;I)Z" } : Jvm.MethodName)) ∈ lw_all := lw_g (lw_at lw_m4 148 rfl) rfl
theorem q953 : (Jvm.Cond.code ({ cls := "WellOfTheSilent", name := "isRow", desc := "(LWellOfTheSilent$Hill;I)Z" } : Jvm.MethodName) prog_1_method_31_code (4 : Nat) (Option.some Jvm.ClassFile.FieldType.boolean)) ∈ lw_all := lw_g (lw_at lw_m4 149 rfl) rfl
theorem q954 : (Jvm.Cond.methodLink "WellOfTheSilent" (400 : Nat) ({ cls := "WellOfTheSilent", name := "ofLast", desc := "(IIII)I" } : Jvm.MethodName)) ∈ lw_all := lw_g (lw_at lw_m4 150 rfl) rfl
theorem q955 : (Jvm.Cond.privateMethod ({ cls := "WellOfTheSilent", name := "ofLast", desc := "(IIII)I" } : Jvm.MethodName)) ∈ lw_tbl := lw_at lw_m4 151 rfl
theorem q956 : (Jvm.Cond.instanceMethod ({ cls := "WellOfTheSilent", name := "ofLast", desc := "(IIII)I" } : Jvm.MethodName)) ∈ lw_all := lw_g (lw_at lw_m4 152 rfl) rfl
theorem q957 : (Jvm.Cond.code ({ cls := "WellOfTheSilent", name := "ofLast", desc := "(IIII)I" } : Jvm.MethodName) prog_1_method_64_code (6 : Nat) (Option.some Jvm.ClassFile.FieldType.int)) ∈ lw_all := lw_g (lw_at lw_m4 153 rfl) rfl
theorem q958 : (Jvm.Cond.methodLink "WellOfTheSilent" (408 : Nat) ({ cls := "WellOfTheSilent", name := "judgeRow", desc := "()I" } : Jvm.MethodName)) ∈ lw_all := lw_g (lw_at lw_m4 154 rfl) rfl
theorem q959 : (Jvm.Cond.privateMethod ({ cls := "WellOfTheSilent", name := "judgeRow", desc := "()I" } : Jvm.MethodName)) ∈ lw_tbl := lw_at lw_m4 155 rfl
theorem q960 : (Jvm.Cond.instanceMethod ({ cls := "WellOfTheSilent", name := "judgeRow", desc := "()I" } : Jvm.MethodName)) ∈ lw_all := lw_g (lw_at lw_m4 156 rfl) rfl
theorem q961 : (Jvm.Cond.code ({ cls := "WellOfTheSilent", name := "judgeRow", desc := "()I" } : Jvm.MethodName) prog_1_method_33_code (3 : Nat) (Option.some Jvm.ClassFile.FieldType.int)) ∈ lw_all := lw_g (lw_at lw_m4 157 rfl) rfl
theorem q962 : (Jvm.Cond.methodLink "WellOfTheSilent" (411 : Nat) ({ cls := "WellOfTheSilent", name := "lotsTold", desc := "(III)I" } : Jvm.MethodName)) ∈ lw_all := lw_g (lw_at lw_m4 158 rfl) rfl
theorem q963 : (Jvm.Cond.privateMethod ({ cls := "WellOfTheSilent", name := "lotsTold", desc := "(III)I" } : Jvm.MethodName)) ∈ lw_tbl := lw_at lw_m4 159 rfl
theorem q964 : (Jvm.Cond.instanceMethod ({ cls := "WellOfTheSilent", name := "lotsTold", desc := "(III)I" } : Jvm.MethodName)) ∈ lw_all := lw_g (lw_at lw_m4 160 rfl) rfl
theorem q965 : (Jvm.Cond.code ({ cls := "WellOfTheSilent", name := "lotsTold", desc := "(III)I" } : Jvm.MethodName) prog_1_method_63_code (4 : Nat) (Option.some Jvm.ClassFile.FieldType.int)) ∈ lw_all := lw_g (lw_at lw_m4 161 rfl) rfl
theorem q966 : (Jvm.Cond.constantLong "WellOfTheSilent" (403 : Nat) (20 : Int64)) ∈ lw_all := lw_g (lw_at lw_m4 162 rfl) rfl
theorem q967 : (Jvm.Cond.methodLink "WellOfTheSilent" (405 : Nat) ({ cls := "WellOfTheSilent", name := "byLots", desc := "(III)I" } : Jvm.MethodName)) ∈ lw_all := lw_g (lw_at lw_m4 163 rfl) rfl
theorem q968 : (Jvm.Cond.privateMethod ({ cls := "WellOfTheSilent", name := "byLots", desc := "(III)I" } : Jvm.MethodName)) ∈ lw_tbl := lw_at lw_m4 164 rfl
theorem q969 : (Jvm.Cond.instanceMethod ({ cls := "WellOfTheSilent", name := "byLots", desc := "(III)I" } : Jvm.MethodName)) ∈ lw_all := lw_g (lw_at lw_m4 165 rfl) rfl
theorem q970 : (Jvm.Cond.code ({ cls := "WellOfTheSilent", name := "byLots", desc := "(III)I" } : Jvm.MethodName) prog_1_method_34_code (9 : Nat) (Option.some Jvm.ClassFile.FieldType.int)) ∈ lw_all := lw_g (lw_at lw_m4 166 rfl) rfl
theorem q971 : (Jvm.Cond.constant "WellOfTheSilent" (235 : Nat) (1664525 : Int32)) ∈ lw_all := lw_g (lw_at lw_m4 167 rfl) rfl
theorem q972 : (Jvm.Cond.constant "WellOfTheSilent" (236 : Nat) (1013904223 : Int32)) ∈ lw_all := lw_g (lw_at lw_m4 168 rfl) rfl
theorem q973 : (Jvm.Cond.constant "WellOfTheSilent" (237 : Nat) (2147483647 : Int32)) ∈ lw_all := lw_g (lw_at lw_m4 169 rfl) rfl
theorem q974 : (Jvm.Cond.methodLink "WellOfTheSilent" (251 : Nat) ({ cls := "WellOfTheSilent$Refusal", name := "number", desc := "()I" } : Jvm.MethodName)) ∈ lw_all := lw_g (lw_at lw_m4 170 rfl) rfl
theorem q983 : (Jvm.Cond.methodLink "WellOfTheSilent" (254 : Nat) ({ cls := "WellOfTheSilent", name := "refuse", desc := "(I)I" } : Jvm.MethodName)) ∈ lw_all := lw_g (lw_at lw_m4 179 rfl) rfl
theorem q984 : (Jvm.Cond.privateMethod ({ cls := "WellOfTheSilent", name := "refuse", desc := "(I)I" } : Jvm.MethodName)) ∈ lw_tbl := lw_at lw_m4 180 rfl
theorem q985 : (Jvm.Cond.instanceMethod ({ cls := "WellOfTheSilent", name := "refuse", desc := "(I)I" } : Jvm.MethodName)) ∈ lw_all := lw_g (lw_at lw_m4 181 rfl) rfl
theorem q986 : (Jvm.Cond.code ({ cls := "WellOfTheSilent", name := "refuse", desc := "(I)I" } : Jvm.MethodName) prog_1_method_35_code (2 : Nat) (Option.some Jvm.ClassFile.FieldType.int)) ∈ lw_all := lw_g (lw_at lw_m4 182 rfl) rfl
theorem q988 : (Jvm.Cond.instanceMethod ({ cls := "WellOfTheSilent", name := "hill", desc := "()I" } : Jvm.MethodName)) ∈ lw_all := lw_g (lw_at lw_m4 184 rfl) rfl
theorem q989 : (Jvm.Cond.selects "WellOfTheSilent" ({ cls := "WellOfTheSilent", name := "hill", desc := "()I" } : Jvm.MethodName) ({ cls := "WellOfTheSilent", name := "hill", desc := "()I" } : Jvm.MethodName)) ∈ lw_all := lw_g (lw_at lw_m4 185 rfl) rfl
theorem q990 : (Jvm.Cond.code ({ cls := "WellOfTheSilent", name := "hill", desc := "()I" } : Jvm.MethodName) prog_1_method_68_code (1 : Nat) (Option.some Jvm.ClassFile.FieldType.int)) ∈ lw_all := lw_g (lw_at lw_m4 186 rfl) rfl
theorem q992 : (Jvm.Cond.instanceMethod ({ cls := "WellOfTheSilent", name := "person", desc := "(II)I" } : Jvm.MethodName)) ∈ lw_all := lw_g (lw_at lw_m4 188 rfl) rfl
theorem q993 : (Jvm.Cond.selects "WellOfTheSilent" ({ cls := "WellOfTheSilent", name := "person", desc := "(II)I" } : Jvm.MethodName) ({ cls := "WellOfTheSilent", name := "person", desc := "(II)I" } : Jvm.MethodName)) ∈ lw_all := lw_g (lw_at lw_m4 189 rfl) rfl
theorem q994 : (Jvm.Cond.code ({ cls := "WellOfTheSilent", name := "person", desc := "(II)I" } : Jvm.MethodName) prog_1_method_69_code (3 : Nat) (Option.some Jvm.ClassFile.FieldType.int)) ∈ lw_all := lw_g (lw_at lw_m4 190 rfl) rfl
theorem q996 : (Jvm.Cond.instanceMethod ({ cls := "WellOfTheSilent", name := "speaks", desc := "(I)I" } : Jvm.MethodName)) ∈ lw_all := lw_g (lw_at lw_m4 192 rfl) rfl
theorem q997 : (Jvm.Cond.selects "WellOfTheSilent" ({ cls := "WellOfTheSilent", name := "speaks", desc := "(I)I" } : Jvm.MethodName) ({ cls := "WellOfTheSilent", name := "speaks", desc := "(I)I" } : Jvm.MethodName)) ∈ lw_all := lw_g (lw_at lw_m4 193 rfl) rfl
theorem q998 : (Jvm.Cond.code ({ cls := "WellOfTheSilent", name := "speaks", desc := "(I)I" } : Jvm.MethodName) prog_1_method_70_code (2 : Nat) (Option.some Jvm.ClassFile.FieldType.int)) ∈ lw_all := lw_g (lw_at lw_m4 194 rfl) rfl
theorem q1000 : (Jvm.Cond.instanceMethod ({ cls := "WellOfTheSilent", name := "befriends", desc := "(II)I" } : Jvm.MethodName)) ∈ lw_all := lw_g (lw_at lw_m4 196 rfl) rfl
theorem q1001 : (Jvm.Cond.selects "WellOfTheSilent" ({ cls := "WellOfTheSilent", name := "befriends", desc := "(II)I" } : Jvm.MethodName) ({ cls := "WellOfTheSilent", name := "befriends", desc := "(II)I" } : Jvm.MethodName)) ∈ lw_all := lw_g (lw_at lw_m4 197 rfl) rfl
theorem q1002 : (Jvm.Cond.code ({ cls := "WellOfTheSilent", name := "befriends", desc := "(II)I" } : Jvm.MethodName) prog_1_method_71_code (3 : Nat) (Option.some Jvm.ClassFile.FieldType.int)) ∈ lw_all := lw_g (lw_at lw_m4 198 rfl) rfl
theorem q1004 : (Jvm.Cond.instanceMethod ({ cls := "WellOfTheSilent", name := "pours", desc := "(II)I" } : Jvm.MethodName)) ∈ lw_all := lw_g (lw_at lw_m4 200 rfl) rfl
theorem q1005 : (Jvm.Cond.selects "WellOfTheSilent" ({ cls := "WellOfTheSilent", name := "pours", desc := "(II)I" } : Jvm.MethodName) ({ cls := "WellOfTheSilent", name := "pours", desc := "(II)I" } : Jvm.MethodName)) ∈ lw_all := lw_g (lw_at lw_m4 201 rfl) rfl
theorem q1006 : (Jvm.Cond.code ({ cls := "WellOfTheSilent", name := "pours", desc := "(II)I" } : Jvm.MethodName) prog_1_method_72_code (3 : Nat) (Option.some Jvm.ClassFile.FieldType.int)) ∈ lw_all := lw_g (lw_at lw_m4 202 rfl) rfl
theorem q1008 : (Jvm.Cond.instanceMethod ({ cls := "WellOfTheSilent", name := "cans", desc := "(II)I" } : Jvm.MethodName)) ∈ lw_all := lw_g (lw_at lw_m4 204 rfl) rfl
theorem q1009 : (Jvm.Cond.selects "WellOfTheSilent" ({ cls := "WellOfTheSilent", name := "cans", desc := "(II)I" } : Jvm.MethodName) ({ cls := "WellOfTheSilent", name := "cans", desc := "(II)I" } : Jvm.MethodName)) ∈ lw_all := lw_g (lw_at lw_m4 205 rfl) rfl
theorem q1010 : (Jvm.Cond.code ({ cls := "WellOfTheSilent", name := "cans", desc := "(II)I" } : Jvm.MethodName) prog_1_method_73_code (3 : Nat) (Option.some Jvm.ClassFile.FieldType.int)) ∈ lw_all := lw_g (lw_at lw_m4 206 rfl) rfl
theorem q1012 : (Jvm.Cond.instanceMethod ({ cls := "WellOfTheSilent", name := "water", desc := "(I)I" } : Jvm.MethodName)) ∈ lw_all := lw_g (lw_at lw_m4 208 rfl) rfl
theorem q1013 : (Jvm.Cond.selects "WellOfTheSilent" ({ cls := "WellOfTheSilent", name := "water", desc := "(I)I" } : Jvm.MethodName) ({ cls := "WellOfTheSilent", name := "water", desc := "(I)I" } : Jvm.MethodName)) ∈ lw_all := lw_g (lw_at lw_m4 209 rfl) rfl
theorem q1014 : (Jvm.Cond.code ({ cls := "WellOfTheSilent", name := "water", desc := "(I)I" } : Jvm.MethodName) prog_1_method_74_code (2 : Nat) (Option.some Jvm.ClassFile.FieldType.int)) ∈ lw_all := lw_g (lw_at lw_m4 210 rfl) rfl
theorem q1016 : (Jvm.Cond.instanceMethod ({ cls := "WellOfTheSilent", name := "flow", desc := "(I)I" } : Jvm.MethodName)) ∈ lw_all := lw_g (lw_at lw_m4 212 rfl) rfl
theorem q1017 : (Jvm.Cond.selects "WellOfTheSilent" ({ cls := "WellOfTheSilent", name := "flow", desc := "(I)I" } : Jvm.MethodName) ({ cls := "WellOfTheSilent", name := "flow", desc := "(I)I" } : Jvm.MethodName)) ∈ lw_all := lw_g (lw_at lw_m4 213 rfl) rfl
theorem q1018 : (Jvm.Cond.code ({ cls := "WellOfTheSilent", name := "flow", desc := "(I)I" } : Jvm.MethodName) prog_1_method_75_code (2 : Nat) (Option.some Jvm.ClassFile.FieldType.int)) ∈ lw_all := lw_g (lw_at lw_m4 214 rfl) rfl
theorem q1020 : (Jvm.Cond.instanceMethod ({ cls := "WellOfTheSilent", name := "turn", desc := "(III)I" } : Jvm.MethodName)) ∈ lw_all := lw_g (lw_at lw_m4 216 rfl) rfl
theorem q1021 : (Jvm.Cond.selects "WellOfTheSilent" ({ cls := "WellOfTheSilent", name := "turn", desc := "(III)I" } : Jvm.MethodName) ({ cls := "WellOfTheSilent", name := "turn", desc := "(III)I" } : Jvm.MethodName)) ∈ lw_all := lw_g (lw_at lw_m4 217 rfl) rfl
theorem q1022 : (Jvm.Cond.code ({ cls := "WellOfTheSilent", name := "turn", desc := "(III)I" } : Jvm.MethodName) prog_1_method_76_code (4 : Nat) (Option.some Jvm.ClassFile.FieldType.int)) ∈ lw_all := lw_g (lw_at lw_m4 218 rfl) rfl
theorem q1024 : (Jvm.Cond.instanceMethod ({ cls := "WellOfTheSilent", name := "hours", desc := "(I)I" } : Jvm.MethodName)) ∈ lw_all := lw_g (lw_at lw_m4 220 rfl) rfl
theorem q1025 : (Jvm.Cond.selects "WellOfTheSilent" ({ cls := "WellOfTheSilent", name := "hours", desc := "(I)I" } : Jvm.MethodName) ({ cls := "WellOfTheSilent", name := "hours", desc := "(I)I" } : Jvm.MethodName)) ∈ lw_all := lw_g (lw_at lw_m4 221 rfl) rfl
theorem q1026 : (Jvm.Cond.code ({ cls := "WellOfTheSilent", name := "hours", desc := "(I)I" } : Jvm.MethodName) prog_1_method_77_code (2 : Nat) (Option.some Jvm.ClassFile.FieldType.int)) ∈ lw_all := lw_g (lw_at lw_m4 222 rfl) rfl
theorem q1028 : (Jvm.Cond.instanceMethod ({ cls := "WellOfTheSilent", name := "hasThen", desc := "(II)I" } : Jvm.MethodName)) ∈ lw_all := lw_g (lw_at lw_m4 224 rfl) rfl
theorem q1029 : (Jvm.Cond.selects "WellOfTheSilent" ({ cls := "WellOfTheSilent", name := "hasThen", desc := "(II)I" } : Jvm.MethodName) ({ cls := "WellOfTheSilent", name := "hasThen", desc := "(II)I" } : Jvm.MethodName)) ∈ lw_all := lw_g (lw_at lw_m4 225 rfl) rfl
theorem q1030 : (Jvm.Cond.code ({ cls := "WellOfTheSilent", name := "hasThen", desc := "(II)I" } : Jvm.MethodName) prog_1_method_78_code (3 : Nat) (Option.some Jvm.ClassFile.FieldType.int)) ∈ lw_all := lw_g (lw_at lw_m4 226 rfl) rfl
theorem q1032 : (Jvm.Cond.instanceMethod ({ cls := "WellOfTheSilent", name := "then", desc := "(II)I" } : Jvm.MethodName)) ∈ lw_all := lw_g (lw_at lw_m4 228 rfl) rfl
theorem q1033 : (Jvm.Cond.selects "WellOfTheSilent" ({ cls := "WellOfTheSilent", name := "then", desc := "(II)I" } : Jvm.MethodName) ({ cls := "WellOfTheSilent", name := "then", desc := "(II)I" } : Jvm.MethodName)) ∈ lw_all := lw_g (lw_at lw_m4 229 rfl) rfl
theorem q1034 : (Jvm.Cond.code ({ cls := "WellOfTheSilent", name := "then", desc := "(II)I" } : Jvm.MethodName) prog_1_method_79_code (3 : Nat) (Option.some Jvm.ClassFile.FieldType.int)) ∈ lw_all := lw_g (lw_at lw_m4 230 rfl) rfl
theorem q1036 : (Jvm.Cond.instanceMethod ({ cls := "WellOfTheSilent", name := "dry", desc := "(I)I" } : Jvm.MethodName)) ∈ lw_all := lw_g (lw_at lw_m4 232 rfl) rfl
theorem q1037 : (Jvm.Cond.selects "WellOfTheSilent" ({ cls := "WellOfTheSilent", name := "dry", desc := "(I)I" } : Jvm.MethodName) ({ cls := "WellOfTheSilent", name := "dry", desc := "(I)I" } : Jvm.MethodName)) ∈ lw_all := lw_g (lw_at lw_m4 233 rfl) rfl
theorem q1038 : (Jvm.Cond.code ({ cls := "WellOfTheSilent", name := "dry", desc := "(I)I" } : Jvm.MethodName) prog_1_method_80_code (2 : Nat) (Option.some Jvm.ClassFile.FieldType.int)) ∈ lw_all := lw_g (lw_at lw_m4 234 rfl) rfl
theorem q1040 : (Jvm.Cond.instanceMethod ({ cls := "WellOfTheSilent", name := "empty", desc := "()I" } : Jvm.MethodName)) ∈ lw_all := lw_g (lw_at lw_m4 236 rfl) rfl
theorem q1041 : (Jvm.Cond.selects "WellOfTheSilent" ({ cls := "WellOfTheSilent", name := "empty", desc := "()I" } : Jvm.MethodName) ({ cls := "WellOfTheSilent", name := "empty", desc := "()I" } : Jvm.MethodName)) ∈ lw_all := lw_g (lw_at lw_m4 237 rfl) rfl
theorem q1042 : (Jvm.Cond.code ({ cls := "WellOfTheSilent", name := "empty", desc := "()I" } : Jvm.MethodName) prog_1_method_81_code (1 : Nat) (Option.some Jvm.ClassFile.FieldType.int)) ∈ lw_all := lw_g (lw_at lw_m4 238 rfl) rfl
theorem q1044 : (Jvm.Cond.instanceMethod ({ cls := "WellOfTheSilent", name := "flowBest", desc := "(I)I" } : Jvm.MethodName)) ∈ lw_all := lw_g (lw_at lw_m5 0 rfl) rfl
theorem q1045 : (Jvm.Cond.selects "WellOfTheSilent" ({ cls := "WellOfTheSilent", name := "flowBest", desc := "(I)I" } : Jvm.MethodName) ({ cls := "WellOfTheSilent", name := "flowBest", desc := "(I)I" } : Jvm.MethodName)) ∈ lw_all := lw_g (lw_at lw_m5 1 rfl) rfl
theorem q1046 : (Jvm.Cond.code ({ cls := "WellOfTheSilent", name := "flowBest", desc := "(I)I" } : Jvm.MethodName) prog_1_method_82_code (2 : Nat) (Option.some Jvm.ClassFile.FieldType.int)) ∈ lw_all := lw_g (lw_at lw_m5 2 rfl) rfl
theorem q1048 : (Jvm.Cond.instanceMethod ({ cls := "WellOfTheSilent", name := "canBest", desc := "(II)I" } : Jvm.MethodName)) ∈ lw_all := lw_g (lw_at lw_m5 4 rfl) rfl
theorem q1049 : (Jvm.Cond.selects "WellOfTheSilent" ({ cls := "WellOfTheSilent", name := "canBest", desc := "(II)I" } : Jvm.MethodName) ({ cls := "WellOfTheSilent", name := "canBest", desc := "(II)I" } : Jvm.MethodName)) ∈ lw_all := lw_g (lw_at lw_m5 5 rfl) rfl
theorem q1050 : (Jvm.Cond.code ({ cls := "WellOfTheSilent", name := "canBest", desc := "(II)I" } : Jvm.MethodName) prog_1_method_83_code (3 : Nat) (Option.some Jvm.ClassFile.FieldType.int)) ∈ lw_all := lw_g (lw_at lw_m5 6 rfl) rfl
theorem q1052 : (Jvm.Cond.instanceMethod ({ cls := "WellOfTheSilent", name := "friendBest", desc := "(II)I" } : Jvm.MethodName)) ∈ lw_all := lw_g (lw_at lw_m5 8 rfl) rfl
theorem q1053 : (Jvm.Cond.selects "WellOfTheSilent" ({ cls := "WellOfTheSilent", name := "friendBest", desc := "(II)I" } : Jvm.MethodName) ({ cls := "WellOfTheSilent", name := "friendBest", desc := "(II)I" } : Jvm.MethodName)) ∈ lw_all := lw_g (lw_at lw_m5 9 rfl) rfl
theorem q1054 : (Jvm.Cond.code ({ cls := "WellOfTheSilent", name := "friendBest", desc := "(II)I" } : Jvm.MethodName) prog_1_method_84_code (3 : Nat) (Option.some Jvm.ClassFile.FieldType.int)) ∈ lw_all := lw_g (lw_at lw_m5 10 rfl) rfl
theorem q1056 : (Jvm.Cond.instanceMethod ({ cls := "WellOfTheSilent", name := "hush", desc := "(I)I" } : Jvm.MethodName)) ∈ lw_all := lw_g (lw_at lw_m5 12 rfl) rfl
theorem q1057 : (Jvm.Cond.selects "WellOfTheSilent" ({ cls := "WellOfTheSilent", name := "hush", desc := "(I)I" } : Jvm.MethodName) ({ cls := "WellOfTheSilent", name := "hush", desc := "(I)I" } : Jvm.MethodName)) ∈ lw_all := lw_g (lw_at lw_m5 13 rfl) rfl
theorem q1058 : (Jvm.Cond.code ({ cls := "WellOfTheSilent", name := "hush", desc := "(I)I" } : Jvm.MethodName) prog_1_method_85_code (2 : Nat) (Option.some Jvm.ClassFile.FieldType.int)) ∈ lw_all := lw_g (lw_at lw_m5 14 rfl) rfl
theorem q1060 : (Jvm.Cond.instanceMethod ({ cls := "WellOfTheSilent", name := "fewest", desc := "(I)I" } : Jvm.MethodName)) ∈ lw_all := lw_g (lw_at lw_m5 16 rfl) rfl
theorem q1061 : (Jvm.Cond.selects "WellOfTheSilent" ({ cls := "WellOfTheSilent", name := "fewest", desc := "(I)I" } : Jvm.MethodName) ({ cls := "WellOfTheSilent", name := "fewest", desc := "(I)I" } : Jvm.MethodName)) ∈ lw_all := lw_g (lw_at lw_m5 17 rfl) rfl
theorem q1062 : (Jvm.Cond.code ({ cls := "WellOfTheSilent", name := "fewest", desc := "(I)I" } : Jvm.MethodName) prog_1_method_86_code (2 : Nat) (Option.some Jvm.ClassFile.FieldType.int)) ∈ lw_all := lw_g (lw_at lw_m5 18 rfl) rfl
theorem q1064 : (Jvm.Cond.instanceMethod ({ cls := "WellOfTheSilent", name := "word", desc := "(I)I" } : Jvm.MethodName)) ∈ lw_all := lw_g (lw_at lw_m5 20 rfl) rfl
theorem q1065 : (Jvm.Cond.selects "WellOfTheSilent" ({ cls := "WellOfTheSilent", name := "word", desc := "(I)I" } : Jvm.MethodName) ({ cls := "WellOfTheSilent", name := "word", desc := "(I)I" } : Jvm.MethodName)) ∈ lw_all := lw_g (lw_at lw_m5 21 rfl) rfl
theorem q1066 : (Jvm.Cond.code ({ cls := "WellOfTheSilent", name := "word", desc := "(I)I" } : Jvm.MethodName) prog_1_method_87_code (2 : Nat) (Option.some Jvm.ClassFile.FieldType.int)) ∈ lw_all := lw_g (lw_at lw_m5 22 rfl) rfl
theorem q1068 : (Jvm.Cond.instanceMethod ({ cls := "WellOfTheSilent", name := "send", desc := "(II)I" } : Jvm.MethodName)) ∈ lw_all := lw_g (lw_at lw_m5 24 rfl) rfl
theorem q1069 : (Jvm.Cond.selects "WellOfTheSilent" ({ cls := "WellOfTheSilent", name := "send", desc := "(II)I" } : Jvm.MethodName) ({ cls := "WellOfTheSilent", name := "send", desc := "(II)I" } : Jvm.MethodName)) ∈ lw_all := lw_g (lw_at lw_m5 25 rfl) rfl
theorem q1070 : (Jvm.Cond.code ({ cls := "WellOfTheSilent", name := "send", desc := "(II)I" } : Jvm.MethodName) prog_1_method_88_code (3 : Nat) (Option.some Jvm.ClassFile.FieldType.int)) ∈ lw_all := lw_g (lw_at lw_m5 26 rfl) rfl
theorem q1072 : (Jvm.Cond.instanceMethod ({ cls := "WellOfTheSilent", name := "next", desc := "()I" } : Jvm.MethodName)) ∈ lw_all := lw_g (lw_at lw_m5 28 rfl) rfl
theorem q1073 : (Jvm.Cond.selects "WellOfTheSilent" ({ cls := "WellOfTheSilent", name := "next", desc := "()I" } : Jvm.MethodName) ({ cls := "WellOfTheSilent", name := "next", desc := "()I" } : Jvm.MethodName)) ∈ lw_all := lw_g (lw_at lw_m5 29 rfl) rfl
theorem q1074 : (Jvm.Cond.code ({ cls := "WellOfTheSilent", name := "next", desc := "()I" } : Jvm.MethodName) prog_1_method_89_code (1 : Nat) (Option.some Jvm.ClassFile.FieldType.int)) ∈ lw_all := lw_g (lw_at lw_m5 30 rfl) rfl
theorem q1076 : (Jvm.Cond.instanceMethod ({ cls := "WellOfTheSilent", name := "richest", desc := "(I)I" } : Jvm.MethodName)) ∈ lw_all := lw_g (lw_at lw_m5 32 rfl) rfl
theorem q1077 : (Jvm.Cond.selects "WellOfTheSilent" ({ cls := "WellOfTheSilent", name := "richest", desc := "(I)I" } : Jvm.MethodName) ({ cls := "WellOfTheSilent", name := "richest", desc := "(I)I" } : Jvm.MethodName)) ∈ lw_all := lw_g (lw_at lw_m5 33 rfl) rfl
theorem q1078 : (Jvm.Cond.code ({ cls := "WellOfTheSilent", name := "richest", desc := "(I)I" } : Jvm.MethodName) prog_1_method_90_code (2 : Nat) (Option.some Jvm.ClassFile.FieldType.int)) ∈ lw_all := lw_g (lw_at lw_m5 34 rfl) rfl
theorem q1080 : (Jvm.Cond.instanceMethod ({ cls := "WellOfTheSilent", name := "quiet", desc := "(I)I" } : Jvm.MethodName)) ∈ lw_all := lw_g (lw_at lw_m5 36 rfl) rfl
theorem q1081 : (Jvm.Cond.selects "WellOfTheSilent" ({ cls := "WellOfTheSilent", name := "quiet", desc := "(I)I" } : Jvm.MethodName) ({ cls := "WellOfTheSilent", name := "quiet", desc := "(I)I" } : Jvm.MethodName)) ∈ lw_all := lw_g (lw_at lw_m5 37 rfl) rfl
theorem q1082 : (Jvm.Cond.code ({ cls := "WellOfTheSilent", name := "quiet", desc := "(I)I" } : Jvm.MethodName) prog_1_method_91_code (2 : Nat) (Option.some Jvm.ClassFile.FieldType.int)) ∈ lw_all := lw_g (lw_at lw_m5 38 rfl) rfl
theorem q1084 : (Jvm.Cond.instanceMethod ({ cls := "WellOfTheSilent", name := "thirst", desc := "()I" } : Jvm.MethodName)) ∈ lw_all := lw_g (lw_at lw_m5 40 rfl) rfl
theorem q1085 : (Jvm.Cond.selects "WellOfTheSilent" ({ cls := "WellOfTheSilent", name := "thirst", desc := "()I" } : Jvm.MethodName) ({ cls := "WellOfTheSilent", name := "thirst", desc := "()I" } : Jvm.MethodName)) ∈ lw_all := lw_g (lw_at lw_m5 41 rfl) rfl
theorem q1086 : (Jvm.Cond.code ({ cls := "WellOfTheSilent", name := "thirst", desc := "()I" } : Jvm.MethodName) prog_1_method_92_code (1 : Nat) (Option.some Jvm.ClassFile.FieldType.int)) ∈ lw_all := lw_g (lw_at lw_m5 42 rfl) rfl
theorem q1088 : (Jvm.Cond.instanceMethod ({ cls := "WellOfTheSilent", name := "lasts", desc := "(I)I" } : Jvm.MethodName)) ∈ lw_all := lw_g (lw_at lw_m5 44 rfl) rfl
theorem q1089 : (Jvm.Cond.selects "WellOfTheSilent" ({ cls := "WellOfTheSilent", name := "lasts", desc := "(I)I" } : Jvm.MethodName) ({ cls := "WellOfTheSilent", name := "lasts", desc := "(I)I" } : Jvm.MethodName)) ∈ lw_all := lw_g (lw_at lw_m5 45 rfl) rfl
theorem q1090 : (Jvm.Cond.code ({ cls := "WellOfTheSilent", name := "lasts", desc := "(I)I" } : Jvm.MethodName) prog_1_method_93_code (2 : Nat) (Option.some Jvm.ClassFile.FieldType.int)) ∈ lw_all := lw_g (lw_at lw_m5 46 rfl) rfl
theorem q1092 : (Jvm.Cond.instanceMethod ({ cls := "WellOfTheSilent", name := "carries", desc := "(I)I" } : Jvm.MethodName)) ∈ lw_all := lw_g (lw_at lw_m5 48 rfl) rfl
theorem q1093 : (Jvm.Cond.selects "WellOfTheSilent" ({ cls := "WellOfTheSilent", name := "carries", desc := "(I)I" } : Jvm.MethodName) ({ cls := "WellOfTheSilent", name := "carries", desc := "(I)I" } : Jvm.MethodName)) ∈ lw_all := lw_g (lw_at lw_m5 49 rfl) rfl
theorem q1094 : (Jvm.Cond.code ({ cls := "WellOfTheSilent", name := "carries", desc := "(I)I" } : Jvm.MethodName) prog_1_method_94_code (2 : Nat) (Option.some Jvm.ClassFile.FieldType.int)) ∈ lw_all := lw_g (lw_at lw_m5 50 rfl) rfl
theorem q1096 : (Jvm.Cond.instanceMethod ({ cls := "WellOfTheSilent", name := "two", desc := "(III)I" } : Jvm.MethodName)) ∈ lw_all := lw_g (lw_at lw_m5 52 rfl) rfl
theorem q1097 : (Jvm.Cond.selects "WellOfTheSilent" ({ cls := "WellOfTheSilent", name := "two", desc := "(III)I" } : Jvm.MethodName) ({ cls := "WellOfTheSilent", name := "two", desc := "(III)I" } : Jvm.MethodName)) ∈ lw_all := lw_g (lw_at lw_m5 53 rfl) rfl
theorem q1098 : (Jvm.Cond.code ({ cls := "WellOfTheSilent", name := "two", desc := "(III)I" } : Jvm.MethodName) prog_1_method_95_code (4 : Nat) (Option.some Jvm.ClassFile.FieldType.int)) ∈ lw_all := lw_g (lw_at lw_m5 54 rfl) rfl
theorem q1100 : (Jvm.Cond.instanceMethod ({ cls := "WellOfTheSilent", name := "sneeze", desc := "(IIIII)J" } : Jvm.MethodName)) ∈ lw_all := lw_g (lw_at lw_m5 56 rfl) rfl
theorem q1101 : (Jvm.Cond.selects "WellOfTheSilent" ({ cls := "WellOfTheSilent", name := "sneeze", desc := "(IIIII)J" } : Jvm.MethodName) ({ cls := "WellOfTheSilent", name := "sneeze", desc := "(IIIII)J" } : Jvm.MethodName)) ∈ lw_all := lw_g (lw_at lw_m5 57 rfl) rfl
theorem q1102 : (Jvm.Cond.code ({ cls := "WellOfTheSilent", name := "sneeze", desc := "(IIIII)J" } : Jvm.MethodName) prog_1_method_96_code (6 : Nat) (Option.some Jvm.ClassFile.FieldType.long)) ∈ lw_all := lw_g (lw_at lw_m5 58 rfl) rfl
theorem q1103 : (Jvm.Cond.methodLink "WellOfTheSilent" (429 : Nat) ({ cls := "WellOfTheSilent", name := "sneezeTold", desc := "(IIIII)J" } : Jvm.MethodName)) ∈ lw_all := lw_g (lw_at lw_m5 59 rfl) rfl
theorem q1104 : (Jvm.Cond.privateMethod ({ cls := "WellOfTheSilent", name := "sneezeTold", desc := "(IIIII)J" } : Jvm.MethodName)) ∈ lw_tbl := lw_at lw_m5 60 rfl
theorem q1105 : (Jvm.Cond.instanceMethod ({ cls := "WellOfTheSilent", name := "sneezeTold", desc := "(IIIII)J" } : Jvm.MethodName)) ∈ lw_all := lw_g (lw_at lw_m5 61 rfl) rfl
theorem q1106 : (Jvm.Cond.codeWith ({ cls := "WellOfTheSilent", name := "sneezeTold", desc := "(IIIII)J" } : Jvm.MethodName) prog_1_method_65_code (7 : Nat) (Option.some Jvm.ClassFile.FieldType.long) [((0 : Nat), (74 : Nat), (75 : Nat), (249 : Nat))]) ∈ lw_all := lw_g (lw_at lw_m5 62 rfl) rfl
theorem q1107 : (Jvm.Cond.methodLink "WellOfTheSilent" (418 : Nat) ({ cls := "WellOfTheSilent", name := "sneezePart", desc := "(IIIII)J" } : Jvm.MethodName)) ∈ lw_all := lw_g (lw_at lw_m5 63 rfl) rfl
theorem q1108 : (Jvm.Cond.privateMethod ({ cls := "WellOfTheSilent", name := "sneezePart", desc := "(IIIII)J" } : Jvm.MethodName)) ∈ lw_tbl := lw_at lw_m5 64 rfl
theorem q1109 : (Jvm.Cond.instanceMethod ({ cls := "WellOfTheSilent", name := "sneezePart", desc := "(IIIII)J" } : Jvm.MethodName)) ∈ lw_all := lw_g (lw_at lw_m5 65 rfl) rfl
theorem q1110 : (Jvm.Cond.code ({ cls := "WellOfTheSilent", name := "sneezePart", desc := "(IIIII)J" } : Jvm.MethodName) prog_1_method_30_code (15 : Nat) (Option.some Jvm.ClassFile.FieldType.long)) ∈ lw_all := lw_g (lw_at lw_m5 66 rfl) rfl
theorem q1111 : (Jvm.Cond.methodLink "WellOfTheSilent" (221 : Nat) ({ cls := "WellOfTheSilent", name := "partOf", desc := "(JJI)J" } : Jvm.MethodName)) ∈ lw_all := lw_g (lw_at lw_m5 67 rfl) rfl
theorem q1112 : (Jvm.Cond.static ({ cls := "WellOfTheSilent", name := "partOf", desc := "(JJI)J" } : Jvm.MethodName)) ∈ lw_all := lw_g (lw_at lw_m5 68 rfl) rfl
theorem q1113 : (Jvm.Cond.code ({ cls := "WellOfTheSilent", name := "partOf", desc := "(JJI)J" } : Jvm.MethodName) prog_1_method_8_code (7 : Nat) (Option.some Jvm.ClassFile.FieldType.long)) ∈ lw_all := lw_g (lw_at lw_m5 69 rfl) rfl
theorem q1114 : (Jvm.Cond.methodLink "WellOfTheSilent" (17 : Nat) ({ cls := "WellOfTheSilent", name := "divisor", desc := "(JJ)J" } : Jvm.MethodName)) ∈ lw_all := lw_g (lw_at lw_m5 70 rfl) rfl
theorem q1115 : (Jvm.Cond.static ({ cls := "WellOfTheSilent", name := "divisor", desc := "(JJ)J" } : Jvm.MethodName)) ∈ lw_all := lw_g (lw_at lw_m5 71 rfl) rfl
theorem q1116 : (Jvm.Cond.code ({ cls := "WellOfTheSilent", name := "divisor", desc := "(JJ)J" } : Jvm.MethodName) prog_1_method_7_code (10 : Nat) (Option.some Jvm.ClassFile.FieldType.long)) ∈ lw_all := lw_g (lw_at lw_m5 72 rfl) rfl
theorem q1117 : (Jvm.Cond.methodLink "WellOfTheSilent" (422 : Nat) ({ cls := "WellOfTheSilent", name := "far", desc := "(LWellOfTheSilent$Refusal;)J" } : Jvm.MethodName)) ∈ lw_all := lw_g (lw_at lw_m5 73 rfl) rfl
theorem q1118 : (Jvm.Cond.privateMethod ({ cls := "WellOfTheSilent", name := "far", desc := "(LWellOfTheSilent$Refusal;)J" } : Jvm.MethodName)) ∈ lw_tbl := lw_at lw_m5 74 rfl
theorem q1119 : (Jvm.Cond.instanceMethod ({ cls := "WellOfTheSilent", name := "far", desc := "(LWellOfTheSilent$Refusal;)J" } : Jvm.MethodName)) ∈ lw_all := lw_g (lw_at lw_m5 75 rfl) rfl
theorem q1120 : (Jvm.Cond.code ({ cls := "WellOfTheSilent", name := "far", desc := "(LWellOfTheSilent$Refusal;)J" } : Jvm.MethodName) prog_1_method_37_code (2 : Nat) (Option.some Jvm.ClassFile.FieldType.long)) ∈ lw_all := lw_g (lw_at lw_m5 76 rfl) rfl
theorem q1121 : (Jvm.Cond.constantLong "WellOfTheSilent" (257 : Nat) (4000000000000000000 : Int64)) ∈ lw_all := lw_g (lw_at lw_m5 77 rfl) rfl
theorem q1123 : (Jvm.Cond.instanceMethod ({ cls := "WellOfTheSilent", name := "mean", desc := "(I)J" } : Jvm.MethodName)) ∈ lw_all := lw_g (lw_at lw_m5 79 rfl) rfl
theorem q1124 : (Jvm.Cond.selects "WellOfTheSilent" ({ cls := "WellOfTheSilent", name := "mean", desc := "(I)J" } : Jvm.MethodName) ({ cls := "WellOfTheSilent", name := "mean", desc := "(I)J" } : Jvm.MethodName)) ∈ lw_all := lw_g (lw_at lw_m5 80 rfl) rfl
theorem q1125 : (Jvm.Cond.code ({ cls := "WellOfTheSilent", name := "mean", desc := "(I)J" } : Jvm.MethodName) prog_1_method_97_code (2 : Nat) (Option.some Jvm.ClassFile.FieldType.long)) ∈ lw_all := lw_g (lw_at lw_m5 81 rfl) rfl
theorem q1126 : (Jvm.Cond.methodLink "WellOfTheSilent" (432 : Nat) ({ cls := "WellOfTheSilent", name := "meanTold", desc := "(I)J" } : Jvm.MethodName)) ∈ lw_all := lw_g (lw_at lw_m5 82 rfl) rfl
theorem q1127 : (Jvm.Cond.privateMethod ({ cls := "WellOfTheSilent", name := "meanTold", desc := "(I)J" } : Jvm.MethodName)) ∈ lw_tbl := lw_at lw_m5 83 rfl
theorem q1128 : (Jvm.Cond.instanceMethod ({ cls := "WellOfTheSilent", name := "meanTold", desc := "(I)J" } : Jvm.MethodName)) ∈ lw_all := lw_g (lw_at lw_m5 84 rfl) rfl
theorem q1129 : (Jvm.Cond.codeWith ({ cls := "WellOfTheSilent", name := "meanTold", desc := "(I)J" } : Jvm.MethodName) prog_1_method_66_code (3 : Nat) (Option.some Jvm.ClassFile.FieldType.long) [((0 : Nat), (28 : Nat), (29 : Nat), (249 : Nat))]) ∈ lw_all := lw_g (lw_at lw_m5 85 rfl) rfl
theorem q1131 : (Jvm.Cond.instanceMethod ({ cls := "WellOfTheSilent", name := "whatIs", desc := "(II)I" } : Jvm.MethodName)) ∈ lw_all := lw_g (lw_at lw_m5 87 rfl) rfl
theorem q1132 : (Jvm.Cond.selects "WellOfTheSilent" ({ cls := "WellOfTheSilent", name := "whatIs", desc := "(II)I" } : Jvm.MethodName) ({ cls := "WellOfTheSilent", name := "whatIs", desc := "(II)I" } : Jvm.MethodName)) ∈ lw_all := lw_g (lw_at lw_m5 88 rfl) rfl
theorem q1133 : (Jvm.Cond.code ({ cls := "WellOfTheSilent", name := "whatIs", desc := "(II)I" } : Jvm.MethodName) prog_1_method_98_code (3 : Nat) (Option.some Jvm.ClassFile.FieldType.int)) ∈ lw_all := lw_g (lw_at lw_m5 89 rfl) rfl
theorem q1135 : (Jvm.Cond.instanceMethod ({ cls := "WellOfTheSilent", name := "row", desc := "(I)I" } : Jvm.MethodName)) ∈ lw_all := lw_g (lw_at lw_m5 91 rfl) rfl
theorem q1136 : (Jvm.Cond.selects "WellOfTheSilent" ({ cls := "WellOfTheSilent", name := "row", desc := "(I)I" } : Jvm.MethodName) ({ cls := "WellOfTheSilent", name := "row", desc := "(I)I" } : Jvm.MethodName)) ∈ lw_all := lw_g (lw_at lw_m5 92 rfl) rfl
theorem q1137 : (Jvm.Cond.code ({ cls := "WellOfTheSilent", name := "row", desc := "(I)I" } : Jvm.MethodName) prog_1_method_99_code (2 : Nat) (Option.some Jvm.ClassFile.FieldType.int)) ∈ lw_all := lw_g (lw_at lw_m5 93 rfl) rfl
theorem q1139 : (Jvm.Cond.instanceMethod ({ cls := "WellOfTheSilent", name := "judge", desc := "()I" } : Jvm.MethodName)) ∈ lw_all := lw_g (lw_at lw_m5 95 rfl) rfl
theorem q1140 : (Jvm.Cond.selects "WellOfTheSilent" ({ cls := "WellOfTheSilent", name := "judge", desc := "()I" } : Jvm.MethodName) ({ cls := "WellOfTheSilent", name := "judge", desc := "()I" } : Jvm.MethodName)) ∈ lw_all := lw_g (lw_at lw_m5 96 rfl) rfl
theorem q1141 : (Jvm.Cond.code ({ cls := "WellOfTheSilent", name := "judge", desc := "()I" } : Jvm.MethodName) prog_1_method_100_code (1 : Nat) (Option.some Jvm.ClassFile.FieldType.int)) ∈ lw_all := lw_g (lw_at lw_m5 97 rfl) rfl
theorem q1143 : (Jvm.Cond.instanceMethod ({ cls := "WellOfTheSilent", name := "clear", desc := "()I" } : Jvm.MethodName)) ∈ lw_all := lw_g (lw_at lw_m5 99 rfl) rfl
theorem q1144 : (Jvm.Cond.selects "WellOfTheSilent" ({ cls := "WellOfTheSilent", name := "clear", desc := "()I" } : Jvm.MethodName) ({ cls := "WellOfTheSilent", name := "clear", desc := "()I" } : Jvm.MethodName)) ∈ lw_all := lw_g (lw_at lw_m5 100 rfl) rfl
theorem q1145 : (Jvm.Cond.code ({ cls := "WellOfTheSilent", name := "clear", desc := "()I" } : Jvm.MethodName) prog_1_method_101_code (1 : Nat) (Option.some Jvm.ClassFile.FieldType.int)) ∈ lw_all := lw_g (lw_at lw_m5 101 rfl) rfl
theorem q1147 : (Jvm.Cond.instanceMethod ({ cls := "WellOfTheSilent", name := "lots", desc := "(III)I" } : Jvm.MethodName)) ∈ lw_all := lw_g (lw_at lw_m5 103 rfl) rfl
theorem q1148 : (Jvm.Cond.selects "WellOfTheSilent" ({ cls := "WellOfTheSilent", name := "lots", desc := "(III)I" } : Jvm.MethodName) ({ cls := "WellOfTheSilent", name := "lots", desc := "(III)I" } : Jvm.MethodName)) ∈ lw_all := lw_g (lw_at lw_m5 104 rfl) rfl
theorem q1149 : (Jvm.Cond.code ({ cls := "WellOfTheSilent", name := "lots", desc := "(III)I" } : Jvm.MethodName) prog_1_method_102_code (4 : Nat) (Option.some Jvm.ClassFile.FieldType.int)) ∈ lw_all := lw_g (lw_at lw_m5 105 rfl) rfl
theorem q1151 : (Jvm.Cond.instanceMethod ({ cls := "WellOfTheSilent", name := "image", desc := "()I" } : Jvm.MethodName)) ∈ lw_all := lw_g (lw_at lw_m5 107 rfl) rfl
theorem q1152 : (Jvm.Cond.selects "WellOfTheSilent" ({ cls := "WellOfTheSilent", name := "image", desc := "()I" } : Jvm.MethodName) ({ cls := "WellOfTheSilent", name := "image", desc := "()I" } : Jvm.MethodName)) ∈ lw_all := lw_g (lw_at lw_m5 108 rfl) rfl
theorem q1153 : (Jvm.Cond.code ({ cls := "WellOfTheSilent", name := "image", desc := "()I" } : Jvm.MethodName) prog_1_method_103_code (1 : Nat) (Option.some Jvm.ClassFile.FieldType.int)) ∈ lw_all := lw_g (lw_at lw_m5 109 rfl) rfl
theorem q1155 : (Jvm.Cond.instanceMethod ({ cls := "WellOfTheSilent", name := "on", desc := "()I" } : Jvm.MethodName)) ∈ lw_all := lw_g (lw_at lw_m5 111 rfl) rfl
theorem q1156 : (Jvm.Cond.selects "WellOfTheSilent" ({ cls := "WellOfTheSilent", name := "on", desc := "()I" } : Jvm.MethodName) ({ cls := "WellOfTheSilent", name := "on", desc := "()I" } : Jvm.MethodName)) ∈ lw_all := lw_g (lw_at lw_m5 112 rfl) rfl
theorem q1157 : (Jvm.Cond.code ({ cls := "WellOfTheSilent", name := "on", desc := "()I" } : Jvm.MethodName) prog_1_method_104_code (1 : Nat) (Option.some Jvm.ClassFile.FieldType.int)) ∈ lw_all := lw_g (lw_at lw_m5 113 rfl) rfl
theorem q1159 : (Jvm.Cond.instanceMethod ({ cls := "WellOfTheSilent", name := "count", desc := "(I)I" } : Jvm.MethodName)) ∈ lw_all := lw_g (lw_at lw_m5 115 rfl) rfl
theorem q1160 : (Jvm.Cond.selects "WellOfTheSilent" ({ cls := "WellOfTheSilent", name := "count", desc := "(I)I" } : Jvm.MethodName) ({ cls := "WellOfTheSilent", name := "count", desc := "(I)I" } : Jvm.MethodName)) ∈ lw_all := lw_g (lw_at lw_m5 116 rfl) rfl
theorem q1161 : (Jvm.Cond.code ({ cls := "WellOfTheSilent", name := "count", desc := "(I)I" } : Jvm.MethodName) prog_1_method_105_code (2 : Nat) (Option.some Jvm.ClassFile.FieldType.int)) ∈ lw_all := lw_g (lw_at lw_m5 117 rfl) rfl
theorem q1162 : (Jvm.Cond.constantLong "WellOfTheSilent" (436 : Nat) (16 : Int64)) ∈ lw_all := lw_g (lw_at lw_m5 118 rfl) rfl
theorem in_X0 : ∀ w ∈ wsX00, w ∈ lw_all := lw_in wsX00 [252, 254, 256, 258, 260, 262, 264, 266, 268, 270, 272, 274] (by decide +kernel) (by decide +kernel)
