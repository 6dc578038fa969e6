/-! WellOfTheSilentModel -/
set_option maxRecDepth 100000
def RX9 : String := "WellOfTheSilentModel"
def TX9 : u_T := fun k => match k with
  | 0 => ("WellOfTheSilentModel", "s", "[I", true)
  | 1 => ("WellOfTheSilentModel", "m", "[I", true)
  | 2 => ("WellOfTheSilentModel", "image", "[I", true)
  | 3 => ("WellOfTheSilentModel", "was", "[I", true)
  | 4 => ("WellOfTheSilentModel", "hasImage", "Z", false)
  | 5 => ("WellOfTheSilentModel", "letters", "[I", true)
  | 6 => ("WellOfTheSilentModel", "row", "[I", true)
  | 7 => ("WellOfTheSilentModel", "refused", "[I", true)
  | 8 => ("WellOfTheSilentModel", "letterMany", "I", false)
  | 9 => ("WellOfTheSilentModel", "rowMany", "I", false)
  | 10 => ("WellOfTheSilentModel", "place", "I", false)
  | 11 => ("WellOfTheSilentModel", "numbers", "[I", true)
  | _ => ("WellOfTheSilentModel", "seed", "I", false)
def tyX9 : Nat → FieldType := fun k => match k with
  | 0 => .array .int
  | 1 => .array .int
  | 2 => .array .int
  | 3 => .array .int
  | 4 => .boolean
  | 5 => .array .int
  | 6 => .array .int
  | 7 => .array .int
  | 8 => .int
  | 9 => .int
  | 10 => .int
  | 11 => .array .int
  | _ => .int
abbrev wsX90 : List Cond := u_ws RX9 TX9 13
set_option maxRecDepth 100000 in
theorem nmX9 : ∀ a, a < 13 → ∀ b, b < 13 → a ≠ b → (TX9 a).2.1 ≠ (TX9 b).2.1 := by decide +kernel
set_option maxRecDepth 100000 in
theorem tyX9_ok : ∀ k, k < 13 → parseFieldDescriptor (TX9 k).2.2.1 = some (tyX9 k) := by decide +kernel
abbrev cX9_init : ByteArray := prog_24_method_1_code
def yX9_init : MethodName := ⟨RX9, "<init>", "()V"⟩
def dkwX9_init_3 : List UInt8 := [5, 16, 20, 79, 42, 180, 0, 9, 6, 16, 10, 79, 177]
abbrev dktX9_init_3 : List UInt8 := dkwX9_init_3 ++ []
def dkwX9_init_2 : List UInt8 := [188, 10, 181, 0, 25, 42, 16, 7, 188, 10, 181, 0, 28, 42, 6, 188, 10, 181, 0, 31, 42, 180, 0, 9]
abbrev dktX9_init_2 : List UInt8 := dkwX9_init_2 ++ dktX9_init_3
def dkwX9_init_1 : List UInt8 := [188, 10, 181, 0, 16, 42, 16, 47, 188, 10, 181, 0, 19, 42, 16, 96, 188, 10, 181, 0, 22, 42, 16, 16]
abbrev dktX9_init_1 : List UInt8 := dkwX9_init_1 ++ dktX9_init_2
def dkwX9_init_0 : List UInt8 := [42, 183, 0, 1, 42, 16, 47, 188, 10, 181, 0, 9, 42, 16, 47, 188, 10, 181, 0, 13, 42, 16, 47]
abbrev dktX9_init_0 : List UInt8 := dkwX9_init_0 ++ dktX9_init_1
theorem dksX9_init_0 : cX9_init.data.toList.drop 0 = dktX9_init_0 := by decide +kernel
theorem dksX9_init_1 : cX9_init.data.toList.drop 23 = dktX9_init_1 := dk_seg dksX9_init_0 23 rfl rfl
theorem dksX9_init_2 : cX9_init.data.toList.drop 47 = dktX9_init_2 := dk_seg dksX9_init_1 24 rfl rfl
theorem dksX9_init_3 : cX9_init.data.toList.drop 71 = dktX9_init_3 := dk_seg dksX9_init_2 24 rfl rfl
theorem dX9_init_0 : decode cX9_init 0 = .ok (.aload_n 0, 1) := dk_42 (dk_at dksX9_init_0 0 rfl rfl)
theorem dX9_init_1 : decode cX9_init 1 = .ok (.invokespecial 1, 3) := dk_183 0 1 (dk_at dksX9_init_0 1 rfl rfl)
theorem dX9_init_4 : decode cX9_init 4 = .ok (.aload_n 0, 1) := dk_42 (dk_at dksX9_init_0 4 rfl rfl)
theorem dX9_init_5 : decode cX9_init 5 = .ok (.bipush 47, 2) := dk_16 47 (dk_at dksX9_init_0 5 rfl rfl)
theorem dX9_init_7 : decode cX9_init 7 = .ok (.newarray .int, 2) := dk_188_10 (dk_at dksX9_init_0 7 rfl rfl)
theorem dX9_init_9 : decode cX9_init 9 = .ok (.putfield 9, 3) := dk_181 0 9 (dk_at dksX9_init_0 9 rfl rfl)
theorem dX9_init_12 : decode cX9_init 12 = .ok (.aload_n 0, 1) := dk_42 (dk_at dksX9_init_0 12 rfl rfl)
theorem dX9_init_13 : decode cX9_init 13 = .ok (.bipush 47, 2) := dk_16 47 (dk_at dksX9_init_0 13 rfl rfl)
theorem dX9_init_15 : decode cX9_init 15 = .ok (.newarray .int, 2) := dk_188_10 (dk_at dksX9_init_0 15 rfl rfl)
theorem dX9_init_17 : decode cX9_init 17 = .ok (.putfield 13, 3) := dk_181 0 13 (dk_at dksX9_init_0 17 rfl rfl)
theorem dX9_init_20 : decode cX9_init 20 = .ok (.aload_n 0, 1) := dk_42 (dk_at dksX9_init_0 20 rfl rfl)
theorem dX9_init_21 : decode cX9_init 21 = .ok (.bipush 47, 2) := dk_16 47 (dk_at dksX9_init_0 21 rfl rfl)
theorem dX9_init_23 : decode cX9_init 23 = .ok (.newarray .int, 2) := dk_188_10 (dk_at dksX9_init_1 0 rfl rfl)
theorem dX9_init_25 : decode cX9_init 25 = .ok (.putfield 16, 3) := dk_181 0 16 (dk_at dksX9_init_1 2 rfl rfl)
theorem dX9_init_28 : decode cX9_init 28 = .ok (.aload_n 0, 1) := dk_42 (dk_at dksX9_init_1 5 rfl rfl)
theorem dX9_init_29 : decode cX9_init 29 = .ok (.bipush 47, 2) := dk_16 47 (dk_at dksX9_init_1 6 rfl rfl)
theorem dX9_init_31 : decode cX9_init 31 = .ok (.newarray .int, 2) := dk_188_10 (dk_at dksX9_init_1 8 rfl rfl)
theorem dX9_init_33 : decode cX9_init 33 = .ok (.putfield 19, 3) := dk_181 0 19 (dk_at dksX9_init_1 10 rfl rfl)
theorem dX9_init_36 : decode cX9_init 36 = .ok (.aload_n 0, 1) := dk_42 (dk_at dksX9_init_1 13 rfl rfl)
theorem dX9_init_37 : decode cX9_init 37 = .ok (.bipush 96, 2) := dk_16 96 (dk_at dksX9_init_1 14 rfl rfl)
theorem dX9_init_39 : decode cX9_init 39 = .ok (.newarray .int, 2) := dk_188_10 (dk_at dksX9_init_1 16 rfl rfl)
theorem dX9_init_41 : decode cX9_init 41 = .ok (.putfield 22, 3) := dk_181 0 22 (dk_at dksX9_init_1 18 rfl rfl)
theorem dX9_init_44 : decode cX9_init 44 = .ok (.aload_n 0, 1) := dk_42 (dk_at dksX9_init_1 21 rfl rfl)
theorem dX9_init_45 : decode cX9_init 45 = .ok (.bipush 16, 2) := dk_16 16 (dk_at dksX9_init_1 22 rfl rfl)
theorem dX9_init_47 : decode cX9_init 47 = .ok (.newarray .int, 2) := dk_188_10 (dk_at dksX9_init_2 0 rfl rfl)
theorem dX9_init_49 : decode cX9_init 49 = .ok (.putfield 25, 3) := dk_181 0 25 (dk_at dksX9_init_2 2 rfl rfl)
theorem dX9_init_52 : decode cX9_init 52 = .ok (.aload_n 0, 1) := dk_42 (dk_at dksX9_init_2 5 rfl rfl)
theorem dX9_init_53 : decode cX9_init 53 = .ok (.bipush 7, 2) := dk_16 7 (dk_at dksX9_init_2 6 rfl rfl)
theorem dX9_init_55 : decode cX9_init 55 = .ok (.newarray .int, 2) := dk_188_10 (dk_at dksX9_init_2 8 rfl rfl)
theorem dX9_init_57 : decode cX9_init 57 = .ok (.putfield 28, 3) := dk_181 0 28 (dk_at dksX9_init_2 10 rfl rfl)
theorem dX9_init_60 : decode cX9_init 60 = .ok (.aload_n 0, 1) := dk_42 (dk_at dksX9_init_2 13 rfl rfl)
theorem dX9_init_61 : decode cX9_init 61 = .ok (.iconst 3, 1) := dk_6 (dk_at dksX9_init_2 14 rfl rfl)
theorem dX9_init_62 : decode cX9_init 62 = .ok (.newarray .int, 2) := dk_188_10 (dk_at dksX9_init_2 15 rfl rfl)
theorem dX9_init_64 : decode cX9_init 64 = .ok (.putfield 31, 3) := dk_181 0 31 (dk_at dksX9_init_2 17 rfl rfl)
theorem dX9_init_67 : decode cX9_init 67 = .ok (.aload_n 0, 1) := dk_42 (dk_at dksX9_init_2 20 rfl rfl)
theorem dX9_init_68 : decode cX9_init 68 = .ok (.getfield 9, 3) := dk_180 0 9 (dk_at dksX9_init_2 21 rfl rfl)
theorem dX9_init_71 : decode cX9_init 71 = .ok (.iconst 2, 1) := dk_5 (dk_at dksX9_init_3 0 rfl rfl)
theorem dX9_init_72 : decode cX9_init 72 = .ok (.bipush 20, 2) := dk_16 20 (dk_at dksX9_init_3 1 rfl rfl)
theorem dX9_init_74 : decode cX9_init 74 = .ok (.iastore, 1) := dk_79 (dk_at dksX9_init_3 3 rfl rfl)
theorem dX9_init_75 : decode cX9_init 75 = .ok (.aload_n 0, 1) := dk_42 (dk_at dksX9_init_3 4 rfl rfl)
theorem dX9_init_76 : decode cX9_init 76 = .ok (.getfield 9, 3) := dk_180 0 9 (dk_at dksX9_init_3 5 rfl rfl)
theorem dX9_init_79 : decode cX9_init 79 = .ok (.iconst 3, 1) := dk_6 (dk_at dksX9_init_3 8 rfl rfl)
theorem dX9_init_80 : decode cX9_init 80 = .ok (.bipush 10, 2) := dk_16 10 (dk_at dksX9_init_3 9 rfl rfl)
theorem dX9_init_82 : decode cX9_init 82 = .ok (.iastore, 1) := dk_79 (dk_at dksX9_init_3 11 rfl rfl)
theorem dX9_init_83 : decode cX9_init 83 = .ok (.return_, 1) := dk_177 (dk_at dksX9_init_3 12 rfl rfl)
abbrev cX9_letter : ByteArray := prog_24_method_21_code
def yX9_letter : MethodName := ⟨RX9, "letter", "(I)I"⟩
def dkwX9_letter_2 : List UInt8 := [180, 0, 76, 4, 96, 181, 0, 76, 42, 180, 0, 76, 172]
abbrev dktX9_letter_2 : List UInt8 := dkwX9_letter_2 ++ []
def dkwX9_letter_1 : List UInt8 := [160, 0, 10, 42, 16, 250, 182, 0, 36, 172, 42, 180, 0, 22, 42, 180, 0, 76, 27, 79, 42, 89]
abbrev dktX9_letter_1 : List UInt8 := dkwX9_letter_1 ++ dktX9_letter_2
def dkwX9_letter_0 : List UInt8 := [27, 156, 0, 10, 42, 16, 252, 182, 0, 36, 172, 27, 17, 0, 255, 163, 0, 12, 42, 180, 0, 76, 16, 96]
abbrev dktX9_letter_0 : List UInt8 := dkwX9_letter_0 ++ dktX9_letter_1
theorem dksX9_letter_0 : cX9_letter.data.toList.drop 0 = dktX9_letter_0 := by decide +kernel
theorem dksX9_letter_1 : cX9_letter.data.toList.drop 24 = dktX9_letter_1 := dk_seg dksX9_letter_0 24 rfl rfl
theorem dksX9_letter_2 : cX9_letter.data.toList.drop 46 = dktX9_letter_2 := dk_seg dksX9_letter_1 22 rfl rfl
theorem dX9_letter_0 : decode cX9_letter 0 = .ok (.iload_n 1, 1) := dk_27 (dk_at dksX9_letter_0 0 rfl rfl)
theorem dX9_letter_1 : decode cX9_letter 1 = .ok (.ifCond .ge 10, 3) := dk_156 0 10 (dk_at dksX9_letter_0 1 rfl rfl)
theorem dX9_letter_4 : decode cX9_letter 4 = .ok (.aload_n 0, 1) := dk_42 (dk_at dksX9_letter_0 4 rfl rfl)
theorem dX9_letter_5 : decode cX9_letter 5 = .ok (.bipush (-4), 2) := dk_16 252 (dk_at dksX9_letter_0 5 rfl rfl)
theorem dX9_letter_7 : decode cX9_letter 7 = .ok (.invokevirtual 36, 3) := dk_182 0 36 (dk_at dksX9_letter_0 7 rfl rfl)
theorem dX9_letter_10 : decode cX9_letter 10 = .ok (.ireturn, 1) := dk_172 (dk_at dksX9_letter_0 10 rfl rfl)
theorem dX9_letter_11 : decode cX9_letter 11 = .ok (.iload_n 1, 1) := dk_27 (dk_at dksX9_letter_0 11 rfl rfl)
theorem dX9_letter_12 : decode cX9_letter 12 = .ok (.sipush 255, 3) := dk_17 0 255 (dk_at dksX9_letter_0 12 rfl rfl)
theorem dX9_letter_15 : decode cX9_letter 15 = .ok (.if_icmp .gt 12, 3) := dk_163 0 12 (dk_at dksX9_letter_0 15 rfl rfl)
theorem dX9_letter_18 : decode cX9_letter 18 = .ok (.aload_n 0, 1) := dk_42 (dk_at dksX9_letter_0 18 rfl rfl)
theorem dX9_letter_19 : decode cX9_letter 19 = .ok (.getfield 76, 3) := dk_180 0 76 (dk_at dksX9_letter_0 19 rfl rfl)
theorem dX9_letter_22 : decode cX9_letter 22 = .ok (.bipush 96, 2) := dk_16 96 (dk_at dksX9_letter_0 22 rfl rfl)
theorem dX9_letter_24 : decode cX9_letter 24 = .ok (.if_icmp .ne 10, 3) := dk_160 0 10 (dk_at dksX9_letter_1 0 rfl rfl)
theorem dX9_letter_27 : decode cX9_letter 27 = .ok (.aload_n 0, 1) := dk_42 (dk_at dksX9_letter_1 3 rfl rfl)
theorem dX9_letter_28 : decode cX9_letter 28 = .ok (.bipush (-6), 2) := dk_16 250 (dk_at dksX9_letter_1 4 rfl rfl)
theorem dX9_letter_30 : decode cX9_letter 30 = .ok (.invokevirtual 36, 3) := dk_182 0 36 (dk_at dksX9_letter_1 6 rfl rfl)
theorem dX9_letter_33 : decode cX9_letter 33 = .ok (.ireturn, 1) := dk_172 (dk_at dksX9_letter_1 9 rfl rfl)
theorem dX9_letter_34 : decode cX9_letter 34 = .ok (.aload_n 0, 1) := dk_42 (dk_at dksX9_letter_1 10 rfl rfl)
theorem dX9_letter_35 : decode cX9_letter 35 = .ok (.getfield 22, 3) := dk_180 0 22 (dk_at dksX9_letter_1 11 rfl rfl)
theorem dX9_letter_38 : decode cX9_letter 38 = .ok (.aload_n 0, 1) := dk_42 (dk_at dksX9_letter_1 14 rfl rfl)
theorem dX9_letter_39 : decode cX9_letter 39 = .ok (.getfield 76, 3) := dk_180 0 76 (dk_at dksX9_letter_1 15 rfl rfl)
theorem dX9_letter_42 : decode cX9_letter 42 = .ok (.iload_n 1, 1) := dk_27 (dk_at dksX9_letter_1 18 rfl rfl)
theorem dX9_letter_43 : decode cX9_letter 43 = .ok (.iastore, 1) := dk_79 (dk_at dksX9_letter_1 19 rfl rfl)
theorem dX9_letter_44 : decode cX9_letter 44 = .ok (.aload_n 0, 1) := dk_42 (dk_at dksX9_letter_1 20 rfl rfl)
theorem dX9_letter_45 : decode cX9_letter 45 = .ok (.dup, 1) := dk_89 (dk_at dksX9_letter_1 21 rfl rfl)
theorem dX9_letter_46 : decode cX9_letter 46 = .ok (.getfield 76, 3) := dk_180 0 76 (dk_at dksX9_letter_2 0 rfl rfl)
theorem dX9_letter_49 : decode cX9_letter 49 = .ok (.iconst 1, 1) := dk_4 (dk_at dksX9_letter_2 3 rfl rfl)
theorem dX9_letter_50 : decode cX9_letter 50 = .ok (.iadd, 1) := dk_96 (dk_at dksX9_letter_2 4 rfl rfl)
theorem dX9_letter_51 : decode cX9_letter 51 = .ok (.putfield 76, 3) := dk_181 0 76 (dk_at dksX9_letter_2 5 rfl rfl)
theorem dX9_letter_54 : decode cX9_letter 54 = .ok (.aload_n 0, 1) := dk_42 (dk_at dksX9_letter_2 8 rfl rfl)
theorem dX9_letter_55 : decode cX9_letter 55 = .ok (.getfield 76, 3) := dk_180 0 76 (dk_at dksX9_letter_2 9 rfl rfl)
theorem dX9_letter_58 : decode cX9_letter 58 = .ok (.ireturn, 1) := dk_172 (dk_at dksX9_letter_2 12 rfl rfl)
abbrev cX9_no : ByteArray := prog_24_method_5_code
def yX9_no : MethodName := ⟨RX9, "no", "(I)I"⟩
def dkwX9_no_0 : List UInt8 := [42, 180, 0, 28, 27, 116, 92, 46, 4, 96, 79, 27, 172]
abbrev dktX9_no_0 : List UInt8 := dkwX9_no_0 ++ []
theorem dksX9_no_0 : cX9_no.data.toList.drop 0 = dktX9_no_0 := by decide +kernel
theorem dX9_no_0 : decode cX9_no 0 = .ok (.aload_n 0, 1) := dk_42 (dk_at dksX9_no_0 0 rfl rfl)
theorem dX9_no_1 : decode cX9_no 1 = .ok (.getfield 28, 3) := dk_180 0 28 (dk_at dksX9_no_0 1 rfl rfl)
theorem dX9_no_4 : decode cX9_no 4 = .ok (.iload_n 1, 1) := dk_27 (dk_at dksX9_no_0 4 rfl rfl)
theorem dX9_no_5 : decode cX9_no 5 = .ok (.ineg, 1) := dk_116 (dk_at dksX9_no_0 5 rfl rfl)
theorem dX9_no_6 : decode cX9_no 6 = .ok (.dup2, 1) := dk_92 (dk_at dksX9_no_0 6 rfl rfl)
theorem dX9_no_7 : decode cX9_no 7 = .ok (.iaload, 1) := dk_46 (dk_at dksX9_no_0 7 rfl rfl)
theorem dX9_no_8 : decode cX9_no 8 = .ok (.iconst 1, 1) := dk_4 (dk_at dksX9_no_0 8 rfl rfl)
theorem dX9_no_9 : decode cX9_no 9 = .ok (.iadd, 1) := dk_96 (dk_at dksX9_no_0 9 rfl rfl)
theorem dX9_no_10 : decode cX9_no 10 = .ok (.iastore, 1) := dk_79 (dk_at dksX9_no_0 10 rfl rfl)
theorem dX9_no_11 : decode cX9_no 11 = .ok (.iload_n 1, 1) := dk_27 (dk_at dksX9_no_0 11 rfl rfl)
theorem dX9_no_12 : decode cX9_no 12 = .ok (.ireturn, 1) := dk_172 (dk_at dksX9_no_0 12 rfl rfl)
abbrev cX9_hill : ByteArray := prog_24_method_29_code
def yX9_hill : MethodName := ⟨RX9, "hill", "()I"⟩
def dkwX9_hill_6 : List UInt8 := [27, 167, 0, 4, 28, 172]
abbrev dktX9_hill_6 : List UInt8 := dkwX9_hill_6 ++ []
def dkwX9_hill_5 : List UInt8 := [180, 0, 19, 42, 180, 0, 9, 184, 0, 110, 167, 255, 193, 42, 3, 181, 0, 76, 28, 16, 247, 160, 0, 7]
abbrev dktX9_hill_5 : List UInt8 := dkwX9_hill_5 ++ dktX9_hill_6
def dkwX9_hill_4 : List UInt8 := [182, 0, 107, 54, 5, 42, 21, 4, 182, 0, 114, 153, 0, 6, 167, 255, 213, 17, 248, 48, 29, 100, 61, 42]
abbrev dktX9_hill_4 : List UInt8 := dkwX9_hill_4 ++ dktX9_hill_5
def dkwX9_hill_3 : List UInt8 := [180, 0, 80, 42, 180, 0, 76, 162, 0, 52, 42, 180, 0, 80, 62, 42, 182, 0, 83, 54, 4, 42]
abbrev dktX9_hill_3 : List UInt8 := dkwX9_hill_3 ++ dktX9_hill_4
def dkwX9_hill_2 : List UInt8 := [180, 0, 9, 42, 180, 0, 19, 184, 0, 110, 42, 3, 181, 0, 80, 28, 16, 247, 160, 0, 63, 42]
abbrev dktX9_hill_2 : List UInt8 := dkwX9_hill_2 ++ dktX9_hill_3
def dkwX9_hill_1 : List UInt8 := [100, 61, 132, 1, 1, 28, 16, 247, 160, 0, 14, 42, 180, 0, 80, 42, 180, 0, 76, 161, 255, 223, 42]
abbrev dktX9_hill_1 : List UInt8 := dkwX9_hill_1 ++ dktX9_hill_2
def dkwX9_hill_0 : List UInt8 := [42, 3, 181, 0, 80, 3, 60, 16, 247, 61, 42, 182, 0, 107, 154, 0, 12, 17, 252, 24, 42, 180, 0, 80]
abbrev dktX9_hill_0 : List UInt8 := dkwX9_hill_0 ++ dktX9_hill_1
theorem dksX9_hill_0 : cX9_hill.data.toList.drop 0 = dktX9_hill_0 := by decide +kernel
theorem dksX9_hill_1 : cX9_hill.data.toList.drop 24 = dktX9_hill_1 := dk_seg dksX9_hill_0 24 rfl rfl
theorem dksX9_hill_2 : cX9_hill.data.toList.drop 47 = dktX9_hill_2 := dk_seg dksX9_hill_1 23 rfl rfl
theorem dksX9_hill_3 : cX9_hill.data.toList.drop 69 = dktX9_hill_3 := dk_seg dksX9_hill_2 22 rfl rfl
theorem dksX9_hill_4 : cX9_hill.data.toList.drop 91 = dktX9_hill_4 := dk_seg dksX9_hill_3 22 rfl rfl
theorem dksX9_hill_5 : cX9_hill.data.toList.drop 115 = dktX9_hill_5 := dk_seg dksX9_hill_4 24 rfl rfl
theorem dksX9_hill_6 : cX9_hill.data.toList.drop 139 = dktX9_hill_6 := dk_seg dksX9_hill_5 24 rfl rfl
theorem dX9_hill_0 : decode cX9_hill 0 = .ok (.aload_n 0, 1) := dk_42 (dk_at dksX9_hill_0 0 rfl rfl)
theorem dX9_hill_1 : decode cX9_hill 1 = .ok (.iconst 0, 1) := dk_3 (dk_at dksX9_hill_0 1 rfl rfl)
theorem dX9_hill_2 : decode cX9_hill 2 = .ok (.putfield 80, 3) := dk_181 0 80 (dk_at dksX9_hill_0 2 rfl rfl)
theorem dX9_hill_5 : decode cX9_hill 5 = .ok (.iconst 0, 1) := dk_3 (dk_at dksX9_hill_0 5 rfl rfl)
theorem dX9_hill_6 : decode cX9_hill 6 = .ok (.istore_n 1, 1) := dk_60 (dk_at dksX9_hill_0 6 rfl rfl)
theorem dX9_hill_7 : decode cX9_hill 7 = .ok (.bipush (-9), 2) := dk_16 247 (dk_at dksX9_hill_0 7 rfl rfl)
theorem dX9_hill_9 : decode cX9_hill 9 = .ok (.istore_n 2, 1) := dk_61 (dk_at dksX9_hill_0 9 rfl rfl)
theorem dX9_hill_10 : decode cX9_hill 10 = .ok (.aload_n 0, 1) := dk_42 (dk_at dksX9_hill_0 10 rfl rfl)
theorem dX9_hill_11 : decode cX9_hill 11 = .ok (.invokevirtual 107, 3) := dk_182 0 107 (dk_at dksX9_hill_0 11 rfl rfl)
theorem dX9_hill_14 : decode cX9_hill 14 = .ok (.ifCond .ne 12, 3) := dk_154 0 12 (dk_at dksX9_hill_0 14 rfl rfl)
theorem dX9_hill_17 : decode cX9_hill 17 = .ok (.sipush (-1000), 3) := dk_17 252 24 (dk_at dksX9_hill_0 17 rfl rfl)
theorem dX9_hill_20 : decode cX9_hill 20 = .ok (.aload_n 0, 1) := dk_42 (dk_at dksX9_hill_0 20 rfl rfl)
theorem dX9_hill_21 : decode cX9_hill 21 = .ok (.getfield 80, 3) := dk_180 0 80 (dk_at dksX9_hill_0 21 rfl rfl)
theorem dX9_hill_24 : decode cX9_hill 24 = .ok (.isub, 1) := dk_100 (dk_at dksX9_hill_1 0 rfl rfl)
theorem dX9_hill_25 : decode cX9_hill 25 = .ok (.istore_n 2, 1) := dk_61 (dk_at dksX9_hill_1 1 rfl rfl)
theorem dX9_hill_26 : decode cX9_hill 26 = .ok (.iinc 1 1, 3) := dk_132 1 1 (dk_at dksX9_hill_1 2 rfl rfl)
theorem dX9_hill_29 : decode cX9_hill 29 = .ok (.iload_n 2, 1) := dk_28 (dk_at dksX9_hill_1 5 rfl rfl)
theorem dX9_hill_30 : decode cX9_hill 30 = .ok (.bipush (-9), 2) := dk_16 247 (dk_at dksX9_hill_1 6 rfl rfl)
theorem dX9_hill_32 : decode cX9_hill 32 = .ok (.if_icmp .ne 14, 3) := dk_160 0 14 (dk_at dksX9_hill_1 8 rfl rfl)
theorem dX9_hill_35 : decode cX9_hill 35 = .ok (.aload_n 0, 1) := dk_42 (dk_at dksX9_hill_1 11 rfl rfl)
theorem dX9_hill_36 : decode cX9_hill 36 = .ok (.getfield 80, 3) := dk_180 0 80 (dk_at dksX9_hill_1 12 rfl rfl)
theorem dX9_hill_39 : decode cX9_hill 39 = .ok (.aload_n 0, 1) := dk_42 (dk_at dksX9_hill_1 15 rfl rfl)
theorem dX9_hill_40 : decode cX9_hill 40 = .ok (.getfield 76, 3) := dk_180 0 76 (dk_at dksX9_hill_1 16 rfl rfl)
theorem dX9_hill_43 : decode cX9_hill 43 = .ok (.if_icmp .lt (-33), 3) := dk_161 255 223 (dk_at dksX9_hill_1 19 rfl rfl)
theorem dX9_hill_46 : decode cX9_hill 46 = .ok (.aload_n 0, 1) := dk_42 (dk_at dksX9_hill_1 22 rfl rfl)
theorem dX9_hill_47 : decode cX9_hill 47 = .ok (.getfield 9, 3) := dk_180 0 9 (dk_at dksX9_hill_2 0 rfl rfl)
theorem dX9_hill_50 : decode cX9_hill 50 = .ok (.aload_n 0, 1) := dk_42 (dk_at dksX9_hill_2 3 rfl rfl)
theorem dX9_hill_51 : decode cX9_hill 51 = .ok (.getfield 19, 3) := dk_180 0 19 (dk_at dksX9_hill_2 4 rfl rfl)
theorem dX9_hill_54 : decode cX9_hill 54 = .ok (.invokestatic 110, 3) := dk_184 0 110 (dk_at dksX9_hill_2 7 rfl rfl)
theorem dX9_hill_57 : decode cX9_hill 57 = .ok (.aload_n 0, 1) := dk_42 (dk_at dksX9_hill_2 10 rfl rfl)
theorem dX9_hill_58 : decode cX9_hill 58 = .ok (.iconst 0, 1) := dk_3 (dk_at dksX9_hill_2 11 rfl rfl)
theorem dX9_hill_59 : decode cX9_hill 59 = .ok (.putfield 80, 3) := dk_181 0 80 (dk_at dksX9_hill_2 12 rfl rfl)
theorem dX9_hill_62 : decode cX9_hill 62 = .ok (.iload_n 2, 1) := dk_28 (dk_at dksX9_hill_2 15 rfl rfl)
theorem dX9_hill_63 : decode cX9_hill 63 = .ok (.bipush (-9), 2) := dk_16 247 (dk_at dksX9_hill_2 16 rfl rfl)
theorem dX9_hill_65 : decode cX9_hill 65 = .ok (.if_icmp .ne 63, 3) := dk_160 0 63 (dk_at dksX9_hill_2 18 rfl rfl)
theorem dX9_hill_68 : decode cX9_hill 68 = .ok (.aload_n 0, 1) := dk_42 (dk_at dksX9_hill_2 21 rfl rfl)
theorem dX9_hill_69 : decode cX9_hill 69 = .ok (.getfield 80, 3) := dk_180 0 80 (dk_at dksX9_hill_3 0 rfl rfl)
theorem dX9_hill_72 : decode cX9_hill 72 = .ok (.aload_n 0, 1) := dk_42 (dk_at dksX9_hill_3 3 rfl rfl)
theorem dX9_hill_73 : decode cX9_hill 73 = .ok (.getfield 76, 3) := dk_180 0 76 (dk_at dksX9_hill_3 4 rfl rfl)
theorem dX9_hill_76 : decode cX9_hill 76 = .ok (.if_icmp .ge 52, 3) := dk_162 0 52 (dk_at dksX9_hill_3 7 rfl rfl)
theorem dX9_hill_79 : decode cX9_hill 79 = .ok (.aload_n 0, 1) := dk_42 (dk_at dksX9_hill_3 10 rfl rfl)
theorem dX9_hill_80 : decode cX9_hill 80 = .ok (.getfield 80, 3) := dk_180 0 80 (dk_at dksX9_hill_3 11 rfl rfl)
theorem dX9_hill_83 : decode cX9_hill 83 = .ok (.istore_n 3, 1) := dk_62 (dk_at dksX9_hill_3 14 rfl rfl)
theorem dX9_hill_84 : decode cX9_hill 84 = .ok (.aload_n 0, 1) := dk_42 (dk_at dksX9_hill_3 15 rfl rfl)
theorem dX9_hill_85 : decode cX9_hill 85 = .ok (.invokevirtual 83, 3) := dk_182 0 83 (dk_at dksX9_hill_3 16 rfl rfl)
theorem dX9_hill_88 : decode cX9_hill 88 = .ok (.istore 4, 2) := dk_54 4 (dk_at dksX9_hill_3 19 rfl rfl)
theorem dX9_hill_90 : decode cX9_hill 90 = .ok (.aload_n 0, 1) := dk_42 (dk_at dksX9_hill_3 21 rfl rfl)
theorem dX9_hill_91 : decode cX9_hill 91 = .ok (.invokevirtual 107, 3) := dk_182 0 107 (dk_at dksX9_hill_4 0 rfl rfl)
theorem dX9_hill_94 : decode cX9_hill 94 = .ok (.istore 5, 2) := dk_54 5 (dk_at dksX9_hill_4 3 rfl rfl)
theorem dX9_hill_96 : decode cX9_hill 96 = .ok (.aload_n 0, 1) := dk_42 (dk_at dksX9_hill_4 5 rfl rfl)
theorem dX9_hill_97 : decode cX9_hill 97 = .ok (.iload 4, 2) := dk_21 4 (dk_at dksX9_hill_4 6 rfl rfl)
theorem dX9_hill_99 : decode cX9_hill 99 = .ok (.invokevirtual 114, 3) := dk_182 0 114 (dk_at dksX9_hill_4 8 rfl rfl)
theorem dX9_hill_102 : decode cX9_hill 102 = .ok (.ifCond .eq 6, 3) := dk_153 0 6 (dk_at dksX9_hill_4 11 rfl rfl)
theorem dX9_hill_105 : decode cX9_hill 105 = .ok (.goto (-43), 3) := dk_167 255 213 (dk_at dksX9_hill_4 14 rfl rfl)
theorem dX9_hill_108 : decode cX9_hill 108 = .ok (.sipush (-2000), 3) := dk_17 248 48 (dk_at dksX9_hill_4 17 rfl rfl)
theorem dX9_hill_111 : decode cX9_hill 111 = .ok (.iload_n 3, 1) := dk_29 (dk_at dksX9_hill_4 20 rfl rfl)
theorem dX9_hill_112 : decode cX9_hill 112 = .ok (.isub, 1) := dk_100 (dk_at dksX9_hill_4 21 rfl rfl)
theorem dX9_hill_113 : decode cX9_hill 113 = .ok (.istore_n 2, 1) := dk_61 (dk_at dksX9_hill_4 22 rfl rfl)
theorem dX9_hill_114 : decode cX9_hill 114 = .ok (.aload_n 0, 1) := dk_42 (dk_at dksX9_hill_4 23 rfl rfl)
theorem dX9_hill_115 : decode cX9_hill 115 = .ok (.getfield 19, 3) := dk_180 0 19 (dk_at dksX9_hill_5 0 rfl rfl)
theorem dX9_hill_118 : decode cX9_hill 118 = .ok (.aload_n 0, 1) := dk_42 (dk_at dksX9_hill_5 3 rfl rfl)
theorem dX9_hill_119 : decode cX9_hill 119 = .ok (.getfield 9, 3) := dk_180 0 9 (dk_at dksX9_hill_5 4 rfl rfl)
theorem dX9_hill_122 : decode cX9_hill 122 = .ok (.invokestatic 110, 3) := dk_184 0 110 (dk_at dksX9_hill_5 7 rfl rfl)
theorem dX9_hill_125 : decode cX9_hill 125 = .ok (.goto (-63), 3) := dk_167 255 193 (dk_at dksX9_hill_5 10 rfl rfl)
theorem dX9_hill_128 : decode cX9_hill 128 = .ok (.aload_n 0, 1) := dk_42 (dk_at dksX9_hill_5 13 rfl rfl)
theorem dX9_hill_129 : decode cX9_hill 129 = .ok (.iconst 0, 1) := dk_3 (dk_at dksX9_hill_5 14 rfl rfl)
theorem dX9_hill_130 : decode cX9_hill 130 = .ok (.putfield 76, 3) := dk_181 0 76 (dk_at dksX9_hill_5 15 rfl rfl)
theorem dX9_hill_133 : decode cX9_hill 133 = .ok (.iload_n 2, 1) := dk_28 (dk_at dksX9_hill_5 18 rfl rfl)
theorem dX9_hill_134 : decode cX9_hill 134 = .ok (.bipush (-9), 2) := dk_16 247 (dk_at dksX9_hill_5 19 rfl rfl)
theorem dX9_hill_136 : decode cX9_hill 136 = .ok (.if_icmp .ne 7, 3) := dk_160 0 7 (dk_at dksX9_hill_5 21 rfl rfl)
theorem dX9_hill_139 : decode cX9_hill 139 = .ok (.iload_n 1, 1) := dk_27 (dk_at dksX9_hill_6 0 rfl rfl)
theorem dX9_hill_140 : decode cX9_hill 140 = .ok (.goto 4, 3) := dk_167 0 4 (dk_at dksX9_hill_6 1 rfl rfl)
theorem dX9_hill_143 : decode cX9_hill 143 = .ok (.iload_n 2, 1) := dk_28 (dk_at dksX9_hill_6 4 rfl rfl)
theorem dX9_hill_144 : decode cX9_hill 144 = .ok (.ireturn, 1) := dk_172 (dk_at dksX9_hill_6 5 rfl rfl)
abbrev cX9_readsStatement : ByteArray := prog_24_method_26_code
def yX9_readsStatement : MethodName := ⟨RX9, "readsStatement", "()Z"⟩
def dkwX9_readsStatement_8 : List UInt8 := [181, 0, 80, 4, 172]
abbrev dktX9_readsStatement_8 : List UInt8 := dkwX9_readsStatement_8 ++ []
def dkwX9_readsStatement_7 : List UInt8 := [3, 172, 28, 153, 0, 12, 42, 182, 0, 83, 16, 59, 159, 0, 5, 3, 172, 42, 89, 180, 0, 80, 4, 96]
abbrev dktX9_readsStatement_7 : List UInt8 := dkwX9_readsStatement_7 ++ dktX9_readsStatement_8
def dkwX9_readsStatement_6 : List UInt8 := [61, 167, 0, 25, 42, 3, 4, 182, 0, 94, 61, 167, 0, 15, 42, 89, 180, 0, 80, 4, 100, 181, 0, 80]
abbrev dktX9_readsStatement_6 : List UInt8 := dkwX9_readsStatement_6 ++ dktX9_readsStatement_7
def dkwX9_readsStatement_5 : List UInt8 := [42, 4, 5, 182, 0, 94, 153, 0, 7, 4, 167, 0, 4, 3, 61, 167, 0, 35, 42, 3, 5, 182, 0, 94]
abbrev dktX9_readsStatement_5 : List UInt8 := dkwX9_readsStatement_5 ++ dktX9_readsStatement_6
def dkwX9_readsStatement_4 : List UInt8 := [182, 0, 94, 153, 0, 7, 4, 167, 0, 4, 3, 61, 167, 0, 62, 42, 3, 4, 182, 0, 94, 153, 0, 16]
abbrev dktX9_readsStatement_4 : List UInt8 := dkwX9_readsStatement_4 ++ dktX9_readsStatement_5
def dkwX9_readsStatement_3 : List UInt8 := [153, 0, 7, 4, 167, 0, 4, 3, 61, 167, 0, 89, 42, 3, 4, 182, 0, 94, 153, 0, 16, 42, 4, 4]
abbrev dktX9_readsStatement_3 : List UInt8 := dkwX9_readsStatement_3 ++ dktX9_readsStatement_4
def dkwX9_readsStatement_2 : List UInt8 := [42, 182, 0, 90, 153, 0, 25, 42, 4, 4, 182, 0, 94, 153, 0, 16, 42, 5, 4, 182, 0, 94]
abbrev dktX9_readsStatement_2 : List UInt8 := dkwX9_readsStatement_2 ++ dktX9_readsStatement_3
def dkwX9_readsStatement_1 : List UInt8 := [170, 0, 0, 0, 0, 0, 0, 196, 0, 0, 0, 102, 0, 0, 0, 119, 0, 0, 0, 122, 0, 0, 0, 149, 0, 0, 0, 176, 0, 0, 0, 196, 0, 0, 0, 196, 0, 0, 0, 196, 0, 0, 0, 176, 0, 0, 0, 196, 0, 0, 0, 196, 0, 0, 0, 196, 0, 0, 0, 88, 0, 0, 0, 196, 0, 0, 0, 196, 0, 0, 0, 186, 0, 0, 0, 196, 0, 0, 0, 196, 0, 0, 0, 196, 0, 0, 0, 176]
abbrev dktX9_readsStatement_1 : List UInt8 := dkwX9_readsStatement_1 ++ dktX9_readsStatement_2
def dkwX9_readsStatement_0 : List UInt8 := [42, 182, 0, 83, 60, 42, 89, 180, 0, 80, 4, 96, 181, 0, 80, 27]
abbrev dktX9_readsStatement_0 : List UInt8 := dkwX9_readsStatement_0 ++ dktX9_readsStatement_1
theorem dksX9_readsStatement_0 : cX9_readsStatement.data.toList.drop 0 = dktX9_readsStatement_0 := by decide +kernel
theorem dksX9_readsStatement_1 : cX9_readsStatement.data.toList.drop 16 = dktX9_readsStatement_1 := dk_seg dksX9_readsStatement_0 16 rfl rfl
theorem dksX9_readsStatement_2 : cX9_readsStatement.data.toList.drop 104 = dktX9_readsStatement_2 := dk_seg dksX9_readsStatement_1 88 rfl rfl
theorem dksX9_readsStatement_3 : cX9_readsStatement.data.toList.drop 126 = dktX9_readsStatement_3 := dk_seg dksX9_readsStatement_2 22 rfl rfl
theorem dksX9_readsStatement_4 : cX9_readsStatement.data.toList.drop 150 = dktX9_readsStatement_4 := dk_seg dksX9_readsStatement_3 24 rfl rfl
theorem dksX9_readsStatement_5 : cX9_readsStatement.data.toList.drop 174 = dktX9_readsStatement_5 := dk_seg dksX9_readsStatement_4 24 rfl rfl
theorem dksX9_readsStatement_6 : cX9_readsStatement.data.toList.drop 198 = dktX9_readsStatement_6 := dk_seg dksX9_readsStatement_5 24 rfl rfl
theorem dksX9_readsStatement_7 : cX9_readsStatement.data.toList.drop 222 = dktX9_readsStatement_7 := dk_seg dksX9_readsStatement_6 24 rfl rfl
theorem dksX9_readsStatement_8 : cX9_readsStatement.data.toList.drop 246 = dktX9_readsStatement_8 := dk_seg dksX9_readsStatement_7 24 rfl rfl
theorem dX9_readsStatement_0 : decode cX9_readsStatement 0 = .ok (.aload_n 0, 1) := dk_42 (dk_at dksX9_readsStatement_0 0 rfl rfl)
theorem dX9_readsStatement_1 : decode cX9_readsStatement 1 = .ok (.invokevirtual 83, 3) := dk_182 0 83 (dk_at dksX9_readsStatement_0 1 rfl rfl)
theorem dX9_readsStatement_4 : decode cX9_readsStatement 4 = .ok (.istore_n 1, 1) := dk_60 (dk_at dksX9_readsStatement_0 4 rfl rfl)
theorem dX9_readsStatement_5 : decode cX9_readsStatement 5 = .ok (.aload_n 0, 1) := dk_42 (dk_at dksX9_readsStatement_0 5 rfl rfl)
theorem dX9_readsStatement_6 : decode cX9_readsStatement 6 = .ok (.dup, 1) := dk_89 (dk_at dksX9_readsStatement_0 6 rfl rfl)
theorem dX9_readsStatement_7 : decode cX9_readsStatement 7 = .ok (.getfield 80, 3) := dk_180 0 80 (dk_at dksX9_readsStatement_0 7 rfl rfl)
theorem dX9_readsStatement_10 : decode cX9_readsStatement 10 = .ok (.iconst 1, 1) := dk_4 (dk_at dksX9_readsStatement_0 10 rfl rfl)
theorem dX9_readsStatement_11 : decode cX9_readsStatement 11 = .ok (.iadd, 1) := dk_96 (dk_at dksX9_readsStatement_0 11 rfl rfl)
theorem dX9_readsStatement_12 : decode cX9_readsStatement 12 = .ok (.putfield 80, 3) := dk_181 0 80 (dk_at dksX9_readsStatement_0 12 rfl rfl)
theorem dX9_readsStatement_15 : decode cX9_readsStatement 15 = .ok (.iload_n 1, 1) := dk_27 (dk_at dksX9_readsStatement_0 15 rfl rfl)
theorem dX9_readsStatement_16 : decode cX9_readsStatement 16 = .ok (.tableswitch 196 102 119 #[122, 149, 176, 196, 196, 196, 176, 196, 196, 196, 88, 196, 196, 186, 196, 196, 196, 176], 88) := by decide +kernel
theorem dX9_readsStatement_104 : decode cX9_readsStatement 104 = .ok (.aload_n 0, 1) := dk_42 (dk_at dksX9_readsStatement_2 0 rfl rfl)
theorem dX9_readsStatement_105 : decode cX9_readsStatement 105 = .ok (.invokevirtual 90, 3) := dk_182 0 90 (dk_at dksX9_readsStatement_2 1 rfl rfl)
theorem dX9_readsStatement_108 : decode cX9_readsStatement 108 = .ok (.ifCond .eq 25, 3) := dk_153 0 25 (dk_at dksX9_readsStatement_2 4 rfl rfl)
theorem dX9_readsStatement_111 : decode cX9_readsStatement 111 = .ok (.aload_n 0, 1) := dk_42 (dk_at dksX9_readsStatement_2 7 rfl rfl)
theorem dX9_readsStatement_112 : decode cX9_readsStatement 112 = .ok (.iconst 1, 1) := dk_4 (dk_at dksX9_readsStatement_2 8 rfl rfl)
theorem dX9_readsStatement_113 : decode cX9_readsStatement 113 = .ok (.iconst 1, 1) := dk_4 (dk_at dksX9_readsStatement_2 9 rfl rfl)
theorem dX9_readsStatement_114 : decode cX9_readsStatement 114 = .ok (.invokevirtual 94, 3) := dk_182 0 94 (dk_at dksX9_readsStatement_2 10 rfl rfl)
theorem dX9_readsStatement_117 : decode cX9_readsStatement 117 = .ok (.ifCond .eq 16, 3) := dk_153 0 16 (dk_at dksX9_readsStatement_2 13 rfl rfl)
theorem dX9_readsStatement_120 : decode cX9_readsStatement 120 = .ok (.aload_n 0, 1) := dk_42 (dk_at dksX9_readsStatement_2 16 rfl rfl)
theorem dX9_readsStatement_121 : decode cX9_readsStatement 121 = .ok (.iconst 2, 1) := dk_5 (dk_at dksX9_readsStatement_2 17 rfl rfl)
theorem dX9_readsStatement_122 : decode cX9_readsStatement 122 = .ok (.iconst 1, 1) := dk_4 (dk_at dksX9_readsStatement_2 18 rfl rfl)
theorem dX9_readsStatement_123 : decode cX9_readsStatement 123 = .ok (.invokevirtual 94, 3) := dk_182 0 94 (dk_at dksX9_readsStatement_2 19 rfl rfl)
theorem dX9_readsStatement_126 : decode cX9_readsStatement 126 = .ok (.ifCond .eq 7, 3) := dk_153 0 7 (dk_at dksX9_readsStatement_3 0 rfl rfl)
theorem dX9_readsStatement_129 : decode cX9_readsStatement 129 = .ok (.iconst 1, 1) := dk_4 (dk_at dksX9_readsStatement_3 3 rfl rfl)
theorem dX9_readsStatement_130 : decode cX9_readsStatement 130 = .ok (.goto 4, 3) := dk_167 0 4 (dk_at dksX9_readsStatement_3 4 rfl rfl)
theorem dX9_readsStatement_133 : decode cX9_readsStatement 133 = .ok (.iconst 0, 1) := dk_3 (dk_at dksX9_readsStatement_3 7 rfl rfl)
theorem dX9_readsStatement_134 : decode cX9_readsStatement 134 = .ok (.istore_n 2, 1) := dk_61 (dk_at dksX9_readsStatement_3 8 rfl rfl)
theorem dX9_readsStatement_135 : decode cX9_readsStatement 135 = .ok (.goto 89, 3) := dk_167 0 89 (dk_at dksX9_readsStatement_3 9 rfl rfl)
theorem dX9_readsStatement_138 : decode cX9_readsStatement 138 = .ok (.aload_n 0, 1) := dk_42 (dk_at dksX9_readsStatement_3 12 rfl rfl)
theorem dX9_readsStatement_139 : decode cX9_readsStatement 139 = .ok (.iconst 0, 1) := dk_3 (dk_at dksX9_readsStatement_3 13 rfl rfl)
theorem dX9_readsStatement_140 : decode cX9_readsStatement 140 = .ok (.iconst 1, 1) := dk_4 (dk_at dksX9_readsStatement_3 14 rfl rfl)
theorem dX9_readsStatement_141 : decode cX9_readsStatement 141 = .ok (.invokevirtual 94, 3) := dk_182 0 94 (dk_at dksX9_readsStatement_3 15 rfl rfl)
theorem dX9_readsStatement_144 : decode cX9_readsStatement 144 = .ok (.ifCond .eq 16, 3) := dk_153 0 16 (dk_at dksX9_readsStatement_3 18 rfl rfl)
theorem dX9_readsStatement_147 : decode cX9_readsStatement 147 = .ok (.aload_n 0, 1) := dk_42 (dk_at dksX9_readsStatement_3 21 rfl rfl)
theorem dX9_readsStatement_148 : decode cX9_readsStatement 148 = .ok (.iconst 1, 1) := dk_4 (dk_at dksX9_readsStatement_3 22 rfl rfl)
theorem dX9_readsStatement_149 : decode cX9_readsStatement 149 = .ok (.iconst 1, 1) := dk_4 (dk_at dksX9_readsStatement_3 23 rfl rfl)
theorem dX9_readsStatement_150 : decode cX9_readsStatement 150 = .ok (.invokevirtual 94, 3) := dk_182 0 94 (dk_at dksX9_readsStatement_4 0 rfl rfl)
theorem dX9_readsStatement_153 : decode cX9_readsStatement 153 = .ok (.ifCond .eq 7, 3) := dk_153 0 7 (dk_at dksX9_readsStatement_4 3 rfl rfl)
theorem dX9_readsStatement_156 : decode cX9_readsStatement 156 = .ok (.iconst 1, 1) := dk_4 (dk_at dksX9_readsStatement_4 6 rfl rfl)
theorem dX9_readsStatement_157 : decode cX9_readsStatement 157 = .ok (.goto 4, 3) := dk_167 0 4 (dk_at dksX9_readsStatement_4 7 rfl rfl)
theorem dX9_readsStatement_160 : decode cX9_readsStatement 160 = .ok (.iconst 0, 1) := dk_3 (dk_at dksX9_readsStatement_4 10 rfl rfl)
theorem dX9_readsStatement_161 : decode cX9_readsStatement 161 = .ok (.istore_n 2, 1) := dk_61 (dk_at dksX9_readsStatement_4 11 rfl rfl)
theorem dX9_readsStatement_162 : decode cX9_readsStatement 162 = .ok (.goto 62, 3) := dk_167 0 62 (dk_at dksX9_readsStatement_4 12 rfl rfl)
theorem dX9_readsStatement_165 : decode cX9_readsStatement 165 = .ok (.aload_n 0, 1) := dk_42 (dk_at dksX9_readsStatement_4 15 rfl rfl)
theorem dX9_readsStatement_166 : decode cX9_readsStatement 166 = .ok (.iconst 0, 1) := dk_3 (dk_at dksX9_readsStatement_4 16 rfl rfl)
theorem dX9_readsStatement_167 : decode cX9_readsStatement 167 = .ok (.iconst 1, 1) := dk_4 (dk_at dksX9_readsStatement_4 17 rfl rfl)
theorem dX9_readsStatement_168 : decode cX9_readsStatement 168 = .ok (.invokevirtual 94, 3) := dk_182 0 94 (dk_at dksX9_readsStatement_4 18 rfl rfl)
theorem dX9_readsStatement_171 : decode cX9_readsStatement 171 = .ok (.ifCond .eq 16, 3) := dk_153 0 16 (dk_at dksX9_readsStatement_4 21 rfl rfl)
theorem dX9_readsStatement_174 : decode cX9_readsStatement 174 = .ok (.aload_n 0, 1) := dk_42 (dk_at dksX9_readsStatement_5 0 rfl rfl)
theorem dX9_readsStatement_175 : decode cX9_readsStatement 175 = .ok (.iconst 1, 1) := dk_4 (dk_at dksX9_readsStatement_5 1 rfl rfl)
theorem dX9_readsStatement_176 : decode cX9_readsStatement 176 = .ok (.iconst 2, 1) := dk_5 (dk_at dksX9_readsStatement_5 2 rfl rfl)
theorem dX9_readsStatement_177 : decode cX9_readsStatement 177 = .ok (.invokevirtual 94, 3) := dk_182 0 94 (dk_at dksX9_readsStatement_5 3 rfl rfl)
theorem dX9_readsStatement_180 : decode cX9_readsStatement 180 = .ok (.ifCond .eq 7, 3) := dk_153 0 7 (dk_at dksX9_readsStatement_5 6 rfl rfl)
theorem dX9_readsStatement_183 : decode cX9_readsStatement 183 = .ok (.iconst 1, 1) := dk_4 (dk_at dksX9_readsStatement_5 9 rfl rfl)
theorem dX9_readsStatement_184 : decode cX9_readsStatement 184 = .ok (.goto 4, 3) := dk_167 0 4 (dk_at dksX9_readsStatement_5 10 rfl rfl)
theorem dX9_readsStatement_187 : decode cX9_readsStatement 187 = .ok (.iconst 0, 1) := dk_3 (dk_at dksX9_readsStatement_5 13 rfl rfl)
theorem dX9_readsStatement_188 : decode cX9_readsStatement 188 = .ok (.istore_n 2, 1) := dk_61 (dk_at dksX9_readsStatement_5 14 rfl rfl)
theorem dX9_readsStatement_189 : decode cX9_readsStatement 189 = .ok (.goto 35, 3) := dk_167 0 35 (dk_at dksX9_readsStatement_5 15 rfl rfl)
theorem dX9_readsStatement_192 : decode cX9_readsStatement 192 = .ok (.aload_n 0, 1) := dk_42 (dk_at dksX9_readsStatement_5 18 rfl rfl)
theorem dX9_readsStatement_193 : decode cX9_readsStatement 193 = .ok (.iconst 0, 1) := dk_3 (dk_at dksX9_readsStatement_5 19 rfl rfl)
theorem dX9_readsStatement_194 : decode cX9_readsStatement 194 = .ok (.iconst 2, 1) := dk_5 (dk_at dksX9_readsStatement_5 20 rfl rfl)
theorem dX9_readsStatement_195 : decode cX9_readsStatement 195 = .ok (.invokevirtual 94, 3) := dk_182 0 94 (dk_at dksX9_readsStatement_5 21 rfl rfl)
theorem dX9_readsStatement_198 : decode cX9_readsStatement 198 = .ok (.istore_n 2, 1) := dk_61 (dk_at dksX9_readsStatement_6 0 rfl rfl)
theorem dX9_readsStatement_199 : decode cX9_readsStatement 199 = .ok (.goto 25, 3) := dk_167 0 25 (dk_at dksX9_readsStatement_6 1 rfl rfl)
theorem dX9_readsStatement_202 : decode cX9_readsStatement 202 = .ok (.aload_n 0, 1) := dk_42 (dk_at dksX9_readsStatement_6 4 rfl rfl)
theorem dX9_readsStatement_203 : decode cX9_readsStatement 203 = .ok (.iconst 0, 1) := dk_3 (dk_at dksX9_readsStatement_6 5 rfl rfl)
theorem dX9_readsStatement_204 : decode cX9_readsStatement 204 = .ok (.iconst 1, 1) := dk_4 (dk_at dksX9_readsStatement_6 6 rfl rfl)
theorem dX9_readsStatement_205 : decode cX9_readsStatement 205 = .ok (.invokevirtual 94, 3) := dk_182 0 94 (dk_at dksX9_readsStatement_6 7 rfl rfl)
theorem dX9_readsStatement_208 : decode cX9_readsStatement 208 = .ok (.istore_n 2, 1) := dk_61 (dk_at dksX9_readsStatement_6 10 rfl rfl)
theorem dX9_readsStatement_209 : decode cX9_readsStatement 209 = .ok (.goto 15, 3) := dk_167 0 15 (dk_at dksX9_readsStatement_6 11 rfl rfl)
theorem dX9_readsStatement_212 : decode cX9_readsStatement 212 = .ok (.aload_n 0, 1) := dk_42 (dk_at dksX9_readsStatement_6 14 rfl rfl)
theorem dX9_readsStatement_213 : decode cX9_readsStatement 213 = .ok (.dup, 1) := dk_89 (dk_at dksX9_readsStatement_6 15 rfl rfl)
theorem dX9_readsStatement_214 : decode cX9_readsStatement 214 = .ok (.getfield 80, 3) := dk_180 0 80 (dk_at dksX9_readsStatement_6 16 rfl rfl)
theorem dX9_readsStatement_217 : decode cX9_readsStatement 217 = .ok (.iconst 1, 1) := dk_4 (dk_at dksX9_readsStatement_6 19 rfl rfl)
theorem dX9_readsStatement_218 : decode cX9_readsStatement 218 = .ok (.isub, 1) := dk_100 (dk_at dksX9_readsStatement_6 20 rfl rfl)
theorem dX9_readsStatement_219 : decode cX9_readsStatement 219 = .ok (.putfield 80, 3) := dk_181 0 80 (dk_at dksX9_readsStatement_6 21 rfl rfl)
theorem dX9_readsStatement_222 : decode cX9_readsStatement 222 = .ok (.iconst 0, 1) := dk_3 (dk_at dksX9_readsStatement_7 0 rfl rfl)
theorem dX9_readsStatement_223 : decode cX9_readsStatement 223 = .ok (.ireturn, 1) := dk_172 (dk_at dksX9_readsStatement_7 1 rfl rfl)
theorem dX9_readsStatement_224 : decode cX9_readsStatement 224 = .ok (.iload_n 2, 1) := dk_28 (dk_at dksX9_readsStatement_7 2 rfl rfl)
theorem dX9_readsStatement_225 : decode cX9_readsStatement 225 = .ok (.ifCond .eq 12, 3) := dk_153 0 12 (dk_at dksX9_readsStatement_7 3 rfl rfl)
theorem dX9_readsStatement_228 : decode cX9_readsStatement 228 = .ok (.aload_n 0, 1) := dk_42 (dk_at dksX9_readsStatement_7 6 rfl rfl)
theorem dX9_readsStatement_229 : decode cX9_readsStatement 229 = .ok (.invokevirtual 83, 3) := dk_182 0 83 (dk_at dksX9_readsStatement_7 7 rfl rfl)
theorem dX9_readsStatement_232 : decode cX9_readsStatement 232 = .ok (.bipush 59, 2) := dk_16 59 (dk_at dksX9_readsStatement_7 10 rfl rfl)
theorem dX9_readsStatement_234 : decode cX9_readsStatement 234 = .ok (.if_icmp .eq 5, 3) := dk_159 0 5 (dk_at dksX9_readsStatement_7 12 rfl rfl)
theorem dX9_readsStatement_237 : decode cX9_readsStatement 237 = .ok (.iconst 0, 1) := dk_3 (dk_at dksX9_readsStatement_7 15 rfl rfl)
theorem dX9_readsStatement_238 : decode cX9_readsStatement 238 = .ok (.ireturn, 1) := dk_172 (dk_at dksX9_readsStatement_7 16 rfl rfl)
theorem dX9_readsStatement_239 : decode cX9_readsStatement 239 = .ok (.aload_n 0, 1) := dk_42 (dk_at dksX9_readsStatement_7 17 rfl rfl)
theorem dX9_readsStatement_240 : decode cX9_readsStatement 240 = .ok (.dup, 1) := dk_89 (dk_at dksX9_readsStatement_7 18 rfl rfl)
theorem dX9_readsStatement_241 : decode cX9_readsStatement 241 = .ok (.getfield 80, 3) := dk_180 0 80 (dk_at dksX9_readsStatement_7 19 rfl rfl)
theorem dX9_readsStatement_244 : decode cX9_readsStatement 244 = .ok (.iconst 1, 1) := dk_4 (dk_at dksX9_readsStatement_7 22 rfl rfl)
theorem dX9_readsStatement_245 : decode cX9_readsStatement 245 = .ok (.iadd, 1) := dk_96 (dk_at dksX9_readsStatement_7 23 rfl rfl)
theorem dX9_readsStatement_246 : decode cX9_readsStatement 246 = .ok (.putfield 80, 3) := dk_181 0 80 (dk_at dksX9_readsStatement_8 0 rfl rfl)
theorem dX9_readsStatement_249 : decode cX9_readsStatement 249 = .ok (.iconst 1, 1) := dk_4 (dk_at dksX9_readsStatement_8 3 rfl rfl)
theorem dX9_readsStatement_250 : decode cX9_readsStatement 250 = .ok (.ireturn, 1) := dk_172 (dk_at dksX9_readsStatement_8 4 rfl rfl)
abbrev cX9_here : ByteArray := prog_24_method_22_code
def yX9_here : MethodName := ⟨RX9, "here", "()I"⟩
def dkwX9_here_1 : List UInt8 := [172]
abbrev dktX9_here_1 : List UInt8 := dkwX9_here_1 ++ []
def dkwX9_here_0 : List UInt8 := [42, 180, 0, 80, 42, 180, 0, 76, 162, 0, 15, 42, 180, 0, 22, 42, 180, 0, 80, 46, 167, 0, 4, 2]
abbrev dktX9_here_0 : List UInt8 := dkwX9_here_0 ++ dktX9_here_1
theorem dksX9_here_0 : cX9_here.data.toList.drop 0 = dktX9_here_0 := by decide +kernel
theorem dksX9_here_1 : cX9_here.data.toList.drop 24 = dktX9_here_1 := dk_seg dksX9_here_0 24 rfl rfl
theorem dX9_here_0 : decode cX9_here 0 = .ok (.aload_n 0, 1) := dk_42 (dk_at dksX9_here_0 0 rfl rfl)
theorem dX9_here_1 : decode cX9_here 1 = .ok (.getfield 80, 3) := dk_180 0 80 (dk_at dksX9_here_0 1 rfl rfl)
theorem dX9_here_4 : decode cX9_here 4 = .ok (.aload_n 0, 1) := dk_42 (dk_at dksX9_here_0 4 rfl rfl)
theorem dX9_here_5 : decode cX9_here 5 = .ok (.getfield 76, 3) := dk_180 0 76 (dk_at dksX9_here_0 5 rfl rfl)
theorem dX9_here_8 : decode cX9_here 8 = .ok (.if_icmp .ge 15, 3) := dk_162 0 15 (dk_at dksX9_here_0 8 rfl rfl)
theorem dX9_here_11 : decode cX9_here 11 = .ok (.aload_n 0, 1) := dk_42 (dk_at dksX9_here_0 11 rfl rfl)
theorem dX9_here_12 : decode cX9_here 12 = .ok (.getfield 22, 3) := dk_180 0 22 (dk_at dksX9_here_0 12 rfl rfl)
theorem dX9_here_15 : decode cX9_here 15 = .ok (.aload_n 0, 1) := dk_42 (dk_at dksX9_here_0 15 rfl rfl)
theorem dX9_here_16 : decode cX9_here 16 = .ok (.getfield 80, 3) := dk_180 0 80 (dk_at dksX9_here_0 16 rfl rfl)
theorem dX9_here_19 : decode cX9_here 19 = .ok (.iaload, 1) := dk_46 (dk_at dksX9_here_0 19 rfl rfl)
theorem dX9_here_20 : decode cX9_here 20 = .ok (.goto 4, 3) := dk_167 0 4 (dk_at dksX9_here_0 20 rfl rfl)
theorem dX9_here_23 : decode cX9_here 23 = .ok (.iconst (-1), 1) := dk_2 (dk_at dksX9_here_0 23 rfl rfl)
theorem dX9_here_24 : decode cX9_here 24 = .ok (.ireturn, 1) := dk_172 (dk_at dksX9_here_1 0 rfl rfl)
abbrev cX9_readsKind : ByteArray := prog_24_method_25_code
def yX9_readsKind : MethodName := ⟨RX9, "readsKind", "()Z"⟩
def dkwX9_readsKind_2 : List UInt8 := [167, 0, 4, 3, 172]
abbrev dktX9_readsKind_2 : List UInt8 := dkwX9_readsKind_2 ++ []
def dkwX9_readsKind_1 : List UInt8 := [156, 0, 7, 3, 167, 0, 4, 4, 96, 181, 0, 80, 42, 180, 0, 31, 3, 46, 155, 0, 7, 4]
abbrev dktX9_readsKind_1 : List UInt8 := dkwX9_readsKind_1 ++ dktX9_readsKind_2
def dkwX9_readsKind_0 : List UInt8 := [42, 180, 0, 31, 3, 42, 182, 0, 83, 184, 0, 87, 79, 42, 89, 180, 0, 80, 42, 180, 0, 31, 3, 46]
abbrev dktX9_readsKind_0 : List UInt8 := dkwX9_readsKind_0 ++ dktX9_readsKind_1
theorem dksX9_readsKind_0 : cX9_readsKind.data.toList.drop 0 = dktX9_readsKind_0 := by decide +kernel
theorem dksX9_readsKind_1 : cX9_readsKind.data.toList.drop 24 = dktX9_readsKind_1 := dk_seg dksX9_readsKind_0 24 rfl rfl
theorem dksX9_readsKind_2 : cX9_readsKind.data.toList.drop 46 = dktX9_readsKind_2 := dk_seg dksX9_readsKind_1 22 rfl rfl
theorem dX9_readsKind_0 : decode cX9_readsKind 0 = .ok (.aload_n 0, 1) := dk_42 (dk_at dksX9_readsKind_0 0 rfl rfl)
theorem dX9_readsKind_1 : decode cX9_readsKind 1 = .ok (.getfield 31, 3) := dk_180 0 31 (dk_at dksX9_readsKind_0 1 rfl rfl)
theorem dX9_readsKind_4 : decode cX9_readsKind 4 = .ok (.iconst 0, 1) := dk_3 (dk_at dksX9_readsKind_0 4 rfl rfl)
theorem dX9_readsKind_5 : decode cX9_readsKind 5 = .ok (.aload_n 0, 1) := dk_42 (dk_at dksX9_readsKind_0 5 rfl rfl)
theorem dX9_readsKind_6 : decode cX9_readsKind 6 = .ok (.invokevirtual 83, 3) := dk_182 0 83 (dk_at dksX9_readsKind_0 6 rfl rfl)
theorem dX9_readsKind_9 : decode cX9_readsKind 9 = .ok (.invokestatic 87, 3) := dk_184 0 87 (dk_at dksX9_readsKind_0 9 rfl rfl)
theorem dX9_readsKind_12 : decode cX9_readsKind 12 = .ok (.iastore, 1) := dk_79 (dk_at dksX9_readsKind_0 12 rfl rfl)
theorem dX9_readsKind_13 : decode cX9_readsKind 13 = .ok (.aload_n 0, 1) := dk_42 (dk_at dksX9_readsKind_0 13 rfl rfl)
theorem dX9_readsKind_14 : decode cX9_readsKind 14 = .ok (.dup, 1) := dk_89 (dk_at dksX9_readsKind_0 14 rfl rfl)
theorem dX9_readsKind_15 : decode cX9_readsKind 15 = .ok (.getfield 80, 3) := dk_180 0 80 (dk_at dksX9_readsKind_0 15 rfl rfl)
theorem dX9_readsKind_18 : decode cX9_readsKind 18 = .ok (.aload_n 0, 1) := dk_42 (dk_at dksX9_readsKind_0 18 rfl rfl)
theorem dX9_readsKind_19 : decode cX9_readsKind 19 = .ok (.getfield 31, 3) := dk_180 0 31 (dk_at dksX9_readsKind_0 19 rfl rfl)
theorem dX9_readsKind_22 : decode cX9_readsKind 22 = .ok (.iconst 0, 1) := dk_3 (dk_at dksX9_readsKind_0 22 rfl rfl)
theorem dX9_readsKind_23 : decode cX9_readsKind 23 = .ok (.iaload, 1) := dk_46 (dk_at dksX9_readsKind_0 23 rfl rfl)
theorem dX9_readsKind_24 : decode cX9_readsKind 24 = .ok (.ifCond .ge 7, 3) := dk_156 0 7 (dk_at dksX9_readsKind_1 0 rfl rfl)
theorem dX9_readsKind_27 : decode cX9_readsKind 27 = .ok (.iconst 0, 1) := dk_3 (dk_at dksX9_readsKind_1 3 rfl rfl)
theorem dX9_readsKind_28 : decode cX9_readsKind 28 = .ok (.goto 4, 3) := dk_167 0 4 (dk_at dksX9_readsKind_1 4 rfl rfl)
theorem dX9_readsKind_31 : decode cX9_readsKind 31 = .ok (.iconst 1, 1) := dk_4 (dk_at dksX9_readsKind_1 7 rfl rfl)
theorem dX9_readsKind_32 : decode cX9_readsKind 32 = .ok (.iadd, 1) := dk_96 (dk_at dksX9_readsKind_1 8 rfl rfl)
theorem dX9_readsKind_33 : decode cX9_readsKind 33 = .ok (.putfield 80, 3) := dk_181 0 80 (dk_at dksX9_readsKind_1 9 rfl rfl)
theorem dX9_readsKind_36 : decode cX9_readsKind 36 = .ok (.aload_n 0, 1) := dk_42 (dk_at dksX9_readsKind_1 12 rfl rfl)
theorem dX9_readsKind_37 : decode cX9_readsKind 37 = .ok (.getfield 31, 3) := dk_180 0 31 (dk_at dksX9_readsKind_1 13 rfl rfl)
theorem dX9_readsKind_40 : decode cX9_readsKind 40 = .ok (.iconst 0, 1) := dk_3 (dk_at dksX9_readsKind_1 16 rfl rfl)
theorem dX9_readsKind_41 : decode cX9_readsKind 41 = .ok (.iaload, 1) := dk_46 (dk_at dksX9_readsKind_1 17 rfl rfl)
theorem dX9_readsKind_42 : decode cX9_readsKind 42 = .ok (.ifCond .lt 7, 3) := dk_155 0 7 (dk_at dksX9_readsKind_1 18 rfl rfl)
theorem dX9_readsKind_45 : decode cX9_readsKind 45 = .ok (.iconst 1, 1) := dk_4 (dk_at dksX9_readsKind_1 21 rfl rfl)
theorem dX9_readsKind_46 : decode cX9_readsKind 46 = .ok (.goto 4, 3) := dk_167 0 4 (dk_at dksX9_readsKind_2 0 rfl rfl)
theorem dX9_readsKind_49 : decode cX9_readsKind 49 = .ok (.iconst 0, 1) := dk_3 (dk_at dksX9_readsKind_2 3 rfl rfl)
theorem dX9_readsKind_50 : decode cX9_readsKind 50 = .ok (.ireturn, 1) := dk_172 (dk_at dksX9_readsKind_2 4 rfl rfl)
abbrev cX9_kindBy : ByteArray := prog_24_method_24_code
def yX9_kindBy : MethodName := ⟨RX9, "kindBy", "(I)I"⟩
def dkwX9_kindBy_2 : List UInt8 := [3, 172, 4, 172, 5, 172, 6, 172, 7, 172, 8, 172, 16, 247, 172]
abbrev dktX9_kindBy_2 : List UInt8 := dkwX9_kindBy_2 ++ []
def dkwX9_kindBy_1 : List UInt8 := [170, 0, 0, 0, 0, 0, 75, 0, 0, 0, 108, 0, 0, 0, 119, 0, 0, 0, 73, 0, 0, 0, 69, 0, 0, 0, 75, 0, 0, 0, 75, 0, 0, 0, 63, 0, 0, 0, 75, 0, 0, 0, 75, 0, 0, 0, 67, 0, 0, 0, 71, 0, 0, 0, 75, 0, 0, 0, 75, 0, 0, 0, 65]
abbrev dktX9_kindBy_1 : List UInt8 := dkwX9_kindBy_1 ++ dktX9_kindBy_2
def dkwX9_kindBy_0 : List UInt8 := [26]
abbrev dktX9_kindBy_0 : List UInt8 := dkwX9_kindBy_0 ++ dktX9_kindBy_1
theorem dksX9_kindBy_0 : cX9_kindBy.data.toList.drop 0 = dktX9_kindBy_0 := by decide +kernel
theorem dksX9_kindBy_1 : cX9_kindBy.data.toList.drop 1 = dktX9_kindBy_1 := dk_seg dksX9_kindBy_0 1 rfl rfl
theorem dksX9_kindBy_2 : cX9_kindBy.data.toList.drop 64 = dktX9_kindBy_2 := dk_seg dksX9_kindBy_1 63 rfl rfl
theorem dX9_kindBy_0 : decode cX9_kindBy 0 = .ok (.iload_n 0, 1) := dk_26 (dk_at dksX9_kindBy_0 0 rfl rfl)
theorem dX9_kindBy_1 : decode cX9_kindBy 1 = .ok (.tableswitch 75 108 119 #[73, 69, 75, 75, 63, 75, 75, 67, 71, 75, 75, 65], 63) := by decide +kernel
theorem dX9_kindBy_64 : decode cX9_kindBy 64 = .ok (.iconst 0, 1) := dk_3 (dk_at dksX9_kindBy_2 0 rfl rfl)
theorem dX9_kindBy_65 : decode cX9_kindBy 65 = .ok (.ireturn, 1) := dk_172 (dk_at dksX9_kindBy_2 1 rfl rfl)
theorem dX9_kindBy_66 : decode cX9_kindBy 66 = .ok (.iconst 1, 1) := dk_4 (dk_at dksX9_kindBy_2 2 rfl rfl)
theorem dX9_kindBy_67 : decode cX9_kindBy 67 = .ok (.ireturn, 1) := dk_172 (dk_at dksX9_kindBy_2 3 rfl rfl)
theorem dX9_kindBy_68 : decode cX9_kindBy 68 = .ok (.iconst 2, 1) := dk_5 (dk_at dksX9_kindBy_2 4 rfl rfl)
theorem dX9_kindBy_69 : decode cX9_kindBy 69 = .ok (.ireturn, 1) := dk_172 (dk_at dksX9_kindBy_2 5 rfl rfl)
theorem dX9_kindBy_70 : decode cX9_kindBy 70 = .ok (.iconst 3, 1) := dk_6 (dk_at dksX9_kindBy_2 6 rfl rfl)
theorem dX9_kindBy_71 : decode cX9_kindBy 71 = .ok (.ireturn, 1) := dk_172 (dk_at dksX9_kindBy_2 7 rfl rfl)
theorem dX9_kindBy_72 : decode cX9_kindBy 72 = .ok (.iconst 4, 1) := dk_7 (dk_at dksX9_kindBy_2 8 rfl rfl)
theorem dX9_kindBy_73 : decode cX9_kindBy 73 = .ok (.ireturn, 1) := dk_172 (dk_at dksX9_kindBy_2 9 rfl rfl)
theorem dX9_kindBy_74 : decode cX9_kindBy 74 = .ok (.iconst 5, 1) := dk_8 (dk_at dksX9_kindBy_2 10 rfl rfl)
theorem dX9_kindBy_75 : decode cX9_kindBy 75 = .ok (.ireturn, 1) := dk_172 (dk_at dksX9_kindBy_2 11 rfl rfl)
theorem dX9_kindBy_76 : decode cX9_kindBy 76 = .ok (.bipush (-9), 2) := dk_16 247 (dk_at dksX9_kindBy_2 12 rfl rfl)
theorem dX9_kindBy_78 : decode cX9_kindBy 78 = .ok (.ireturn, 1) := dk_172 (dk_at dksX9_kindBy_2 14 rfl rfl)
abbrev cX9_readsNumber : ByteArray := prog_24_method_23_code
def yX9_readsNumber : MethodName := ⟨RX9, "readsNumber", "(II)Z"⟩
def dkwX9_readsNumber_3 : List UInt8 := [4, 172]
abbrev dktX9_readsNumber_3 : List UInt8 := dkwX9_readsNumber_3 ++ []
def dkwX9_readsNumber_2 : List UInt8 := [182, 0, 83, 96, 16, 48, 100, 79, 42, 89, 180, 0, 80, 4, 96, 181, 0, 80, 132, 3, 1, 167, 255, 199]
abbrev dktX9_readsNumber_2 : List UInt8 := dkwX9_readsNumber_2 ++ dktX9_readsNumber_3
def dkwX9_readsNumber_1 : List UInt8 := [184, 0, 40, 154, 0, 5, 3, 172, 42, 180, 0, 31, 27, 16, 10, 42, 180, 0, 31, 27, 46, 104, 42]
abbrev dktX9_readsNumber_1 : List UInt8 := dkwX9_readsNumber_1 ++ dktX9_readsNumber_2
def dkwX9_readsNumber_0 : List UInt8 := [42, 180, 0, 31, 27, 3, 79, 3, 62, 29, 28, 162, 0, 58, 42, 182, 0, 83, 16, 48, 16, 57]
abbrev dktX9_readsNumber_0 : List UInt8 := dkwX9_readsNumber_0 ++ dktX9_readsNumber_1
theorem dksX9_readsNumber_0 : cX9_readsNumber.data.toList.drop 0 = dktX9_readsNumber_0 := by decide +kernel
theorem dksX9_readsNumber_1 : cX9_readsNumber.data.toList.drop 22 = dktX9_readsNumber_1 := dk_seg dksX9_readsNumber_0 22 rfl rfl
theorem dksX9_readsNumber_2 : cX9_readsNumber.data.toList.drop 45 = dktX9_readsNumber_2 := dk_seg dksX9_readsNumber_1 23 rfl rfl
theorem dksX9_readsNumber_3 : cX9_readsNumber.data.toList.drop 69 = dktX9_readsNumber_3 := dk_seg dksX9_readsNumber_2 24 rfl rfl
theorem dX9_readsNumber_0 : decode cX9_readsNumber 0 = .ok (.aload_n 0, 1) := dk_42 (dk_at dksX9_readsNumber_0 0 rfl rfl)
theorem dX9_readsNumber_1 : decode cX9_readsNumber 1 = .ok (.getfield 31, 3) := dk_180 0 31 (dk_at dksX9_readsNumber_0 1 rfl rfl)
theorem dX9_readsNumber_4 : decode cX9_readsNumber 4 = .ok (.iload_n 1, 1) := dk_27 (dk_at dksX9_readsNumber_0 4 rfl rfl)
theorem dX9_readsNumber_5 : decode cX9_readsNumber 5 = .ok (.iconst 0, 1) := dk_3 (dk_at dksX9_readsNumber_0 5 rfl rfl)
theorem dX9_readsNumber_6 : decode cX9_readsNumber 6 = .ok (.iastore, 1) := dk_79 (dk_at dksX9_readsNumber_0 6 rfl rfl)
theorem dX9_readsNumber_7 : decode cX9_readsNumber 7 = .ok (.iconst 0, 1) := dk_3 (dk_at dksX9_readsNumber_0 7 rfl rfl)
theorem dX9_readsNumber_8 : decode cX9_readsNumber 8 = .ok (.istore_n 3, 1) := dk_62 (dk_at dksX9_readsNumber_0 8 rfl rfl)
theorem dX9_readsNumber_9 : decode cX9_readsNumber 9 = .ok (.iload_n 3, 1) := dk_29 (dk_at dksX9_readsNumber_0 9 rfl rfl)
theorem dX9_readsNumber_10 : decode cX9_readsNumber 10 = .ok (.iload_n 2, 1) := dk_28 (dk_at dksX9_readsNumber_0 10 rfl rfl)
theorem dX9_readsNumber_11 : decode cX9_readsNumber 11 = .ok (.if_icmp .ge 58, 3) := dk_162 0 58 (dk_at dksX9_readsNumber_0 11 rfl rfl)
theorem dX9_readsNumber_14 : decode cX9_readsNumber 14 = .ok (.aload_n 0, 1) := dk_42 (dk_at dksX9_readsNumber_0 14 rfl rfl)
theorem dX9_readsNumber_15 : decode cX9_readsNumber 15 = .ok (.invokevirtual 83, 3) := dk_182 0 83 (dk_at dksX9_readsNumber_0 15 rfl rfl)
theorem dX9_readsNumber_18 : decode cX9_readsNumber 18 = .ok (.bipush 48, 2) := dk_16 48 (dk_at dksX9_readsNumber_0 18 rfl rfl)
theorem dX9_readsNumber_20 : decode cX9_readsNumber 20 = .ok (.bipush 57, 2) := dk_16 57 (dk_at dksX9_readsNumber_0 20 rfl rfl)
theorem dX9_readsNumber_22 : decode cX9_readsNumber 22 = .ok (.invokestatic 40, 3) := dk_184 0 40 (dk_at dksX9_readsNumber_1 0 rfl rfl)
theorem dX9_readsNumber_25 : decode cX9_readsNumber 25 = .ok (.ifCond .ne 5, 3) := dk_154 0 5 (dk_at dksX9_readsNumber_1 3 rfl rfl)
theorem dX9_readsNumber_28 : decode cX9_readsNumber 28 = .ok (.iconst 0, 1) := dk_3 (dk_at dksX9_readsNumber_1 6 rfl rfl)
theorem dX9_readsNumber_29 : decode cX9_readsNumber 29 = .ok (.ireturn, 1) := dk_172 (dk_at dksX9_readsNumber_1 7 rfl rfl)
theorem dX9_readsNumber_30 : decode cX9_readsNumber 30 = .ok (.aload_n 0, 1) := dk_42 (dk_at dksX9_readsNumber_1 8 rfl rfl)
theorem dX9_readsNumber_31 : decode cX9_readsNumber 31 = .ok (.getfield 31, 3) := dk_180 0 31 (dk_at dksX9_readsNumber_1 9 rfl rfl)
theorem dX9_readsNumber_34 : decode cX9_readsNumber 34 = .ok (.iload_n 1, 1) := dk_27 (dk_at dksX9_readsNumber_1 12 rfl rfl)
theorem dX9_readsNumber_35 : decode cX9_readsNumber 35 = .ok (.bipush 10, 2) := dk_16 10 (dk_at dksX9_readsNumber_1 13 rfl rfl)
theorem dX9_readsNumber_37 : decode cX9_readsNumber 37 = .ok (.aload_n 0, 1) := dk_42 (dk_at dksX9_readsNumber_1 15 rfl rfl)
theorem dX9_readsNumber_38 : decode cX9_readsNumber 38 = .ok (.getfield 31, 3) := dk_180 0 31 (dk_at dksX9_readsNumber_1 16 rfl rfl)
theorem dX9_readsNumber_41 : decode cX9_readsNumber 41 = .ok (.iload_n 1, 1) := dk_27 (dk_at dksX9_readsNumber_1 19 rfl rfl)
theorem dX9_readsNumber_42 : decode cX9_readsNumber 42 = .ok (.iaload, 1) := dk_46 (dk_at dksX9_readsNumber_1 20 rfl rfl)
theorem dX9_readsNumber_43 : decode cX9_readsNumber 43 = .ok (.imul, 1) := dk_104 (dk_at dksX9_readsNumber_1 21 rfl rfl)
theorem dX9_readsNumber_44 : decode cX9_readsNumber 44 = .ok (.aload_n 0, 1) := dk_42 (dk_at dksX9_readsNumber_1 22 rfl rfl)
theorem dX9_readsNumber_45 : decode cX9_readsNumber 45 = .ok (.invokevirtual 83, 3) := dk_182 0 83 (dk_at dksX9_readsNumber_2 0 rfl rfl)
theorem dX9_readsNumber_48 : decode cX9_readsNumber 48 = .ok (.iadd, 1) := dk_96 (dk_at dksX9_readsNumber_2 3 rfl rfl)
theorem dX9_readsNumber_49 : decode cX9_readsNumber 49 = .ok (.bipush 48, 2) := dk_16 48 (dk_at dksX9_readsNumber_2 4 rfl rfl)
theorem dX9_readsNumber_51 : decode cX9_readsNumber 51 = .ok (.isub, 1) := dk_100 (dk_at dksX9_readsNumber_2 6 rfl rfl)
theorem dX9_readsNumber_52 : decode cX9_readsNumber 52 = .ok (.iastore, 1) := dk_79 (dk_at dksX9_readsNumber_2 7 rfl rfl)
theorem dX9_readsNumber_53 : decode cX9_readsNumber 53 = .ok (.aload_n 0, 1) := dk_42 (dk_at dksX9_readsNumber_2 8 rfl rfl)
theorem dX9_readsNumber_54 : decode cX9_readsNumber 54 = .ok (.dup, 1) := dk_89 (dk_at dksX9_readsNumber_2 9 rfl rfl)
theorem dX9_readsNumber_55 : decode cX9_readsNumber 55 = .ok (.getfield 80, 3) := dk_180 0 80 (dk_at dksX9_readsNumber_2 10 rfl rfl)
theorem dX9_readsNumber_58 : decode cX9_readsNumber 58 = .ok (.iconst 1, 1) := dk_4 (dk_at dksX9_readsNumber_2 13 rfl rfl)
theorem dX9_readsNumber_59 : decode cX9_readsNumber 59 = .ok (.iadd, 1) := dk_96 (dk_at dksX9_readsNumber_2 14 rfl rfl)
theorem dX9_readsNumber_60 : decode cX9_readsNumber 60 = .ok (.putfield 80, 3) := dk_181 0 80 (dk_at dksX9_readsNumber_2 15 rfl rfl)
theorem dX9_readsNumber_63 : decode cX9_readsNumber 63 = .ok (.iinc 3 1, 3) := dk_132 3 1 (dk_at dksX9_readsNumber_2 18 rfl rfl)
theorem dX9_readsNumber_66 : decode cX9_readsNumber 66 = .ok (.goto (-57), 3) := dk_167 255 199 (dk_at dksX9_readsNumber_2 21 rfl rfl)
theorem dX9_readsNumber_69 : decode cX9_readsNumber 69 = .ok (.iconst 1, 1) := dk_4 (dk_at dksX9_readsNumber_3 0 rfl rfl)
theorem dX9_readsNumber_70 : decode cX9_readsNumber 70 = .ok (.ireturn, 1) := dk_172 (dk_at dksX9_readsNumber_3 1 rfl rfl)
abbrev cX9_isIn : ByteArray := prog_24_method_2_code
def yX9_isIn : MethodName := ⟨RX9, "isIn", "(III)Z"⟩
def dkwX9_isIn_0 : List UInt8 := [26, 27, 161, 0, 12, 26, 28, 163, 0, 7, 4, 167, 0, 4, 3, 172]
abbrev dktX9_isIn_0 : List UInt8 := dkwX9_isIn_0 ++ []
theorem dksX9_isIn_0 : cX9_isIn.data.toList.drop 0 = dktX9_isIn_0 := by decide +kernel
theorem dX9_isIn_0 : decode cX9_isIn 0 = .ok (.iload_n 0, 1) := dk_26 (dk_at dksX9_isIn_0 0 rfl rfl)
theorem dX9_isIn_1 : decode cX9_isIn 1 = .ok (.iload_n 1, 1) := dk_27 (dk_at dksX9_isIn_0 1 rfl rfl)
theorem dX9_isIn_2 : decode cX9_isIn 2 = .ok (.if_icmp .lt 12, 3) := dk_161 0 12 (dk_at dksX9_isIn_0 2 rfl rfl)
theorem dX9_isIn_5 : decode cX9_isIn 5 = .ok (.iload_n 0, 1) := dk_26 (dk_at dksX9_isIn_0 5 rfl rfl)
theorem dX9_isIn_6 : decode cX9_isIn 6 = .ok (.iload_n 2, 1) := dk_28 (dk_at dksX9_isIn_0 6 rfl rfl)
theorem dX9_isIn_7 : decode cX9_isIn 7 = .ok (.if_icmp .gt 7, 3) := dk_163 0 7 (dk_at dksX9_isIn_0 7 rfl rfl)
theorem dX9_isIn_10 : decode cX9_isIn 10 = .ok (.iconst 1, 1) := dk_4 (dk_at dksX9_isIn_0 10 rfl rfl)
theorem dX9_isIn_11 : decode cX9_isIn 11 = .ok (.goto 4, 3) := dk_167 0 4 (dk_at dksX9_isIn_0 11 rfl rfl)
theorem dX9_isIn_14 : decode cX9_isIn 14 = .ok (.iconst 0, 1) := dk_3 (dk_at dksX9_isIn_0 14 rfl rfl)
theorem dX9_isIn_15 : decode cX9_isIn 15 = .ok (.ireturn, 1) := dk_172 (dk_at dksX9_isIn_0 15 rfl rfl)
abbrev cX9_copies : ByteArray := prog_24_method_4_code
def yX9_copies : MethodName := ⟨RX9, "copies", "([I[I)V"⟩
def dkwX9_copies_0 : List UInt8 := [3, 61, 28, 16, 47, 162, 0, 15, 43, 28, 42, 28, 46, 79, 132, 2, 1, 167, 255, 241, 177]
abbrev dktX9_copies_0 : List UInt8 := dkwX9_copies_0 ++ []
theorem dksX9_copies_0 : cX9_copies.data.toList.drop 0 = dktX9_copies_0 := by decide +kernel
theorem dX9_copies_0 : decode cX9_copies 0 = .ok (.iconst 0, 1) := dk_3 (dk_at dksX9_copies_0 0 rfl rfl)
theorem dX9_copies_1 : decode cX9_copies 1 = .ok (.istore_n 2, 1) := dk_61 (dk_at dksX9_copies_0 1 rfl rfl)
theorem dX9_copies_2 : decode cX9_copies 2 = .ok (.iload_n 2, 1) := dk_28 (dk_at dksX9_copies_0 2 rfl rfl)
theorem dX9_copies_3 : decode cX9_copies 3 = .ok (.bipush 47, 2) := dk_16 47 (dk_at dksX9_copies_0 3 rfl rfl)
theorem dX9_copies_5 : decode cX9_copies 5 = .ok (.if_icmp .ge 15, 3) := dk_162 0 15 (dk_at dksX9_copies_0 5 rfl rfl)
theorem dX9_copies_8 : decode cX9_copies 8 = .ok (.aload_n 1, 1) := dk_43 (dk_at dksX9_copies_0 8 rfl rfl)
theorem dX9_copies_9 : decode cX9_copies 9 = .ok (.iload_n 2, 1) := dk_28 (dk_at dksX9_copies_0 9 rfl rfl)
theorem dX9_copies_10 : decode cX9_copies 10 = .ok (.aload_n 0, 1) := dk_42 (dk_at dksX9_copies_0 10 rfl rfl)
theorem dX9_copies_11 : decode cX9_copies 11 = .ok (.iload_n 2, 1) := dk_28 (dk_at dksX9_copies_0 11 rfl rfl)
theorem dX9_copies_12 : decode cX9_copies 12 = .ok (.iaload, 1) := dk_46 (dk_at dksX9_copies_0 12 rfl rfl)
theorem dX9_copies_13 : decode cX9_copies 13 = .ok (.iastore, 1) := dk_79 (dk_at dksX9_copies_0 13 rfl rfl)
theorem dX9_copies_14 : decode cX9_copies 14 = .ok (.iinc 2 1, 3) := dk_132 2 1 (dk_at dksX9_copies_0 14 rfl rfl)
theorem dX9_copies_17 : decode cX9_copies 17 = .ok (.goto (-15), 3) := dk_167 255 241 (dk_at dksX9_copies_0 17 rfl rfl)
theorem dX9_copies_20 : decode cX9_copies 20 = .ok (.return_, 1) := dk_177 (dk_at dksX9_copies_0 20 rfl rfl)
abbrev cX9_isDone : ByteArray := prog_24_method_28_code
def yX9_isDone : MethodName := ⟨RX9, "isDone", "(I)Z"⟩
def dkwX9_isDone_8 : List UInt8 := [180, 0, 9, 28, 184, 0, 104, 4, 172]
abbrev dktX9_isDone_8 : List UInt8 := dkwX9_isDone_8 ++ []
def dkwX9_isDone_7 : List UInt8 := [184, 0, 40, 153, 0, 17, 42, 180, 0, 9, 4, 46, 28, 96, 17, 3, 231, 164, 0, 5, 3, 172, 42]
abbrev dktX9_isDone_7 : List UInt8 := dkwX9_isDone_7 ++ dktX9_isDone_8
def dkwX9_isDone_6 : List UInt8 := [154, 0, 5, 3, 172, 42, 180, 0, 9, 28, 7, 184, 0, 52, 4, 79, 4, 172, 28, 4, 16, 60]
abbrev dktX9_isDone_6 : List UInt8 := dkwX9_isDone_6 ++ dktX9_isDone_7
def dkwX9_isDone_5 : List UInt8 := [180, 0, 9, 6, 28, 79, 28, 16, 30, 163, 0, 7, 4, 167, 0, 4, 3, 172, 42, 28, 182, 0, 100]
abbrev dktX9_isDone_5 : List UInt8 := dkwX9_isDone_5 ++ dktX9_isDone_6
def dkwX9_isDone_4 : List UInt8 := [180, 0, 9, 28, 6, 184, 0, 52, 29, 79, 4, 172, 42, 180, 0, 9, 5, 28, 79, 4, 172, 42]
abbrev dktX9_isDone_4 : List UInt8 := dkwX9_isDone_4 ++ dktX9_isDone_5
def dkwX9_isDone_3 : List UInt8 := [180, 0, 9, 28, 16, 6, 184, 0, 52, 29, 79, 4, 172, 42, 28, 182, 0, 100, 154, 0, 5, 3, 172, 42]
abbrev dktX9_isDone_3 : List UInt8 := dkwX9_isDone_3 ++ dktX9_isDone_4
def dkwX9_isDone_2 : List UInt8 := [42, 182, 0, 97, 172, 42, 28, 182, 0, 100, 153, 0, 9, 29, 16, 6, 161, 0, 5, 3, 172, 42]
abbrev dktX9_isDone_2 : List UInt8 := dkwX9_isDone_2 ++ dktX9_isDone_3
def dkwX9_isDone_1 : List UInt8 := [170, 0, 0, 0, 194, 0, 0, 0, 102, 0, 0, 0, 119, 0, 0, 0, 90, 0, 0, 0, 120, 0, 0, 0, 194, 0, 0, 0, 194, 0, 0, 0, 194, 0, 0, 0, 194, 0, 0, 0, 152, 0, 0, 0, 194, 0, 0, 0, 194, 0, 0, 0, 194, 0, 0, 0, 85, 0, 0, 0, 194, 0, 0, 0, 194, 0, 0, 0, 171, 0, 0, 0, 194, 0, 0, 0, 194, 0, 0, 0, 194, 0, 0, 0, 143]
abbrev dktX9_isDone_1 : List UInt8 := dkwX9_isDone_1 ++ dktX9_isDone_2
def dkwX9_isDone_0 : List UInt8 := [42, 180, 0, 31, 3, 46, 61, 42, 180, 0, 31, 4, 46, 62, 27]
abbrev dktX9_isDone_0 : List UInt8 := dkwX9_isDone_0 ++ dktX9_isDone_1
theorem dksX9_isDone_0 : cX9_isDone.data.toList.drop 0 = dktX9_isDone_0 := by decide +kernel
theorem dksX9_isDone_1 : cX9_isDone.data.toList.drop 15 = dktX9_isDone_1 := dk_seg dksX9_isDone_0 15 rfl rfl
theorem dksX9_isDone_2 : cX9_isDone.data.toList.drop 100 = dktX9_isDone_2 := dk_seg dksX9_isDone_1 85 rfl rfl
theorem dksX9_isDone_3 : cX9_isDone.data.toList.drop 122 = dktX9_isDone_3 := dk_seg dksX9_isDone_2 22 rfl rfl
theorem dksX9_isDone_4 : cX9_isDone.data.toList.drop 146 = dktX9_isDone_4 := dk_seg dksX9_isDone_3 24 rfl rfl
theorem dksX9_isDone_5 : cX9_isDone.data.toList.drop 168 = dktX9_isDone_5 := dk_seg dksX9_isDone_4 22 rfl rfl
theorem dksX9_isDone_6 : cX9_isDone.data.toList.drop 191 = dktX9_isDone_6 := dk_seg dksX9_isDone_5 23 rfl rfl
theorem dksX9_isDone_7 : cX9_isDone.data.toList.drop 213 = dktX9_isDone_7 := dk_seg dksX9_isDone_6 22 rfl rfl
theorem dksX9_isDone_8 : cX9_isDone.data.toList.drop 236 = dktX9_isDone_8 := dk_seg dksX9_isDone_7 23 rfl rfl
theorem dX9_isDone_0 : decode cX9_isDone 0 = .ok (.aload_n 0, 1) := dk_42 (dk_at dksX9_isDone_0 0 rfl rfl)
theorem dX9_isDone_1 : decode cX9_isDone 1 = .ok (.getfield 31, 3) := dk_180 0 31 (dk_at dksX9_isDone_0 1 rfl rfl)
theorem dX9_isDone_4 : decode cX9_isDone 4 = .ok (.iconst 0, 1) := dk_3 (dk_at dksX9_isDone_0 4 rfl rfl)
theorem dX9_isDone_5 : decode cX9_isDone 5 = .ok (.iaload, 1) := dk_46 (dk_at dksX9_isDone_0 5 rfl rfl)
theorem dX9_isDone_6 : decode cX9_isDone 6 = .ok (.istore_n 2, 1) := dk_61 (dk_at dksX9_isDone_0 6 rfl rfl)
theorem dX9_isDone_7 : decode cX9_isDone 7 = .ok (.aload_n 0, 1) := dk_42 (dk_at dksX9_isDone_0 7 rfl rfl)
theorem dX9_isDone_8 : decode cX9_isDone 8 = .ok (.getfield 31, 3) := dk_180 0 31 (dk_at dksX9_isDone_0 8 rfl rfl)
theorem dX9_isDone_11 : decode cX9_isDone 11 = .ok (.iconst 1, 1) := dk_4 (dk_at dksX9_isDone_0 11 rfl rfl)
theorem dX9_isDone_12 : decode cX9_isDone 12 = .ok (.iaload, 1) := dk_46 (dk_at dksX9_isDone_0 12 rfl rfl)
theorem dX9_isDone_13 : decode cX9_isDone 13 = .ok (.istore_n 3, 1) := dk_62 (dk_at dksX9_isDone_0 13 rfl rfl)
theorem dX9_isDone_14 : decode cX9_isDone 14 = .ok (.iload_n 1, 1) := dk_27 (dk_at dksX9_isDone_0 14 rfl rfl)
theorem dX9_isDone_15 : decode cX9_isDone 15 = .ok (.tableswitch 194 102 119 #[90, 120, 194, 194, 194, 194, 152, 194, 194, 194, 85, 194, 194, 171, 194, 194, 194, 143], 85) := by decide +kernel
theorem dX9_isDone_100 : decode cX9_isDone 100 = .ok (.aload_n 0, 1) := dk_42 (dk_at dksX9_isDone_2 0 rfl rfl)
theorem dX9_isDone_101 : decode cX9_isDone 101 = .ok (.invokevirtual 97, 3) := dk_182 0 97 (dk_at dksX9_isDone_2 1 rfl rfl)
theorem dX9_isDone_104 : decode cX9_isDone 104 = .ok (.ireturn, 1) := dk_172 (dk_at dksX9_isDone_2 4 rfl rfl)
theorem dX9_isDone_105 : decode cX9_isDone 105 = .ok (.aload_n 0, 1) := dk_42 (dk_at dksX9_isDone_2 5 rfl rfl)
theorem dX9_isDone_106 : decode cX9_isDone 106 = .ok (.iload_n 2, 1) := dk_28 (dk_at dksX9_isDone_2 6 rfl rfl)
theorem dX9_isDone_107 : decode cX9_isDone 107 = .ok (.invokevirtual 100, 3) := dk_182 0 100 (dk_at dksX9_isDone_2 7 rfl rfl)
theorem dX9_isDone_110 : decode cX9_isDone 110 = .ok (.ifCond .eq 9, 3) := dk_153 0 9 (dk_at dksX9_isDone_2 10 rfl rfl)
theorem dX9_isDone_113 : decode cX9_isDone 113 = .ok (.iload_n 3, 1) := dk_29 (dk_at dksX9_isDone_2 13 rfl rfl)
theorem dX9_isDone_114 : decode cX9_isDone 114 = .ok (.bipush 6, 2) := dk_16 6 (dk_at dksX9_isDone_2 14 rfl rfl)
theorem dX9_isDone_116 : decode cX9_isDone 116 = .ok (.if_icmp .lt 5, 3) := dk_161 0 5 (dk_at dksX9_isDone_2 16 rfl rfl)
theorem dX9_isDone_119 : decode cX9_isDone 119 = .ok (.iconst 0, 1) := dk_3 (dk_at dksX9_isDone_2 19 rfl rfl)
theorem dX9_isDone_120 : decode cX9_isDone 120 = .ok (.ireturn, 1) := dk_172 (dk_at dksX9_isDone_2 20 rfl rfl)
theorem dX9_isDone_121 : decode cX9_isDone 121 = .ok (.aload_n 0, 1) := dk_42 (dk_at dksX9_isDone_2 21 rfl rfl)
theorem dX9_isDone_122 : decode cX9_isDone 122 = .ok (.getfield 9, 3) := dk_180 0 9 (dk_at dksX9_isDone_3 0 rfl rfl)
theorem dX9_isDone_125 : decode cX9_isDone 125 = .ok (.iload_n 2, 1) := dk_28 (dk_at dksX9_isDone_3 3 rfl rfl)
theorem dX9_isDone_126 : decode cX9_isDone 126 = .ok (.bipush 6, 2) := dk_16 6 (dk_at dksX9_isDone_3 4 rfl rfl)
theorem dX9_isDone_128 : decode cX9_isDone 128 = .ok (.invokestatic 52, 3) := dk_184 0 52 (dk_at dksX9_isDone_3 6 rfl rfl)
theorem dX9_isDone_131 : decode cX9_isDone 131 = .ok (.iload_n 3, 1) := dk_29 (dk_at dksX9_isDone_3 9 rfl rfl)
theorem dX9_isDone_132 : decode cX9_isDone 132 = .ok (.iastore, 1) := dk_79 (dk_at dksX9_isDone_3 10 rfl rfl)
theorem dX9_isDone_133 : decode cX9_isDone 133 = .ok (.iconst 1, 1) := dk_4 (dk_at dksX9_isDone_3 11 rfl rfl)
theorem dX9_isDone_134 : decode cX9_isDone 134 = .ok (.ireturn, 1) := dk_172 (dk_at dksX9_isDone_3 12 rfl rfl)
theorem dX9_isDone_135 : decode cX9_isDone 135 = .ok (.aload_n 0, 1) := dk_42 (dk_at dksX9_isDone_3 13 rfl rfl)
theorem dX9_isDone_136 : decode cX9_isDone 136 = .ok (.iload_n 2, 1) := dk_28 (dk_at dksX9_isDone_3 14 rfl rfl)
theorem dX9_isDone_137 : decode cX9_isDone 137 = .ok (.invokevirtual 100, 3) := dk_182 0 100 (dk_at dksX9_isDone_3 15 rfl rfl)
theorem dX9_isDone_140 : decode cX9_isDone 140 = .ok (.ifCond .ne 5, 3) := dk_154 0 5 (dk_at dksX9_isDone_3 18 rfl rfl)
theorem dX9_isDone_143 : decode cX9_isDone 143 = .ok (.iconst 0, 1) := dk_3 (dk_at dksX9_isDone_3 21 rfl rfl)
theorem dX9_isDone_144 : decode cX9_isDone 144 = .ok (.ireturn, 1) := dk_172 (dk_at dksX9_isDone_3 22 rfl rfl)
theorem dX9_isDone_145 : decode cX9_isDone 145 = .ok (.aload_n 0, 1) := dk_42 (dk_at dksX9_isDone_3 23 rfl rfl)
theorem dX9_isDone_146 : decode cX9_isDone 146 = .ok (.getfield 9, 3) := dk_180 0 9 (dk_at dksX9_isDone_4 0 rfl rfl)
theorem dX9_isDone_149 : decode cX9_isDone 149 = .ok (.iload_n 2, 1) := dk_28 (dk_at dksX9_isDone_4 3 rfl rfl)
theorem dX9_isDone_150 : decode cX9_isDone 150 = .ok (.iconst 3, 1) := dk_6 (dk_at dksX9_isDone_4 4 rfl rfl)
theorem dX9_isDone_151 : decode cX9_isDone 151 = .ok (.invokestatic 52, 3) := dk_184 0 52 (dk_at dksX9_isDone_4 5 rfl rfl)
theorem dX9_isDone_154 : decode cX9_isDone 154 = .ok (.iload_n 3, 1) := dk_29 (dk_at dksX9_isDone_4 8 rfl rfl)
theorem dX9_isDone_155 : decode cX9_isDone 155 = .ok (.iastore, 1) := dk_79 (dk_at dksX9_isDone_4 9 rfl rfl)
theorem dX9_isDone_156 : decode cX9_isDone 156 = .ok (.iconst 1, 1) := dk_4 (dk_at dksX9_isDone_4 10 rfl rfl)
theorem dX9_isDone_157 : decode cX9_isDone 157 = .ok (.ireturn, 1) := dk_172 (dk_at dksX9_isDone_4 11 rfl rfl)
theorem dX9_isDone_158 : decode cX9_isDone 158 = .ok (.aload_n 0, 1) := dk_42 (dk_at dksX9_isDone_4 12 rfl rfl)
theorem dX9_isDone_159 : decode cX9_isDone 159 = .ok (.getfield 9, 3) := dk_180 0 9 (dk_at dksX9_isDone_4 13 rfl rfl)
theorem dX9_isDone_162 : decode cX9_isDone 162 = .ok (.iconst 2, 1) := dk_5 (dk_at dksX9_isDone_4 16 rfl rfl)
theorem dX9_isDone_163 : decode cX9_isDone 163 = .ok (.iload_n 2, 1) := dk_28 (dk_at dksX9_isDone_4 17 rfl rfl)
theorem dX9_isDone_164 : decode cX9_isDone 164 = .ok (.iastore, 1) := dk_79 (dk_at dksX9_isDone_4 18 rfl rfl)
theorem dX9_isDone_165 : decode cX9_isDone 165 = .ok (.iconst 1, 1) := dk_4 (dk_at dksX9_isDone_4 19 rfl rfl)
theorem dX9_isDone_166 : decode cX9_isDone 166 = .ok (.ireturn, 1) := dk_172 (dk_at dksX9_isDone_4 20 rfl rfl)
theorem dX9_isDone_167 : decode cX9_isDone 167 = .ok (.aload_n 0, 1) := dk_42 (dk_at dksX9_isDone_4 21 rfl rfl)
theorem dX9_isDone_168 : decode cX9_isDone 168 = .ok (.getfield 9, 3) := dk_180 0 9 (dk_at dksX9_isDone_5 0 rfl rfl)
theorem dX9_isDone_171 : decode cX9_isDone 171 = .ok (.iconst 3, 1) := dk_6 (dk_at dksX9_isDone_5 3 rfl rfl)
theorem dX9_isDone_172 : decode cX9_isDone 172 = .ok (.iload_n 2, 1) := dk_28 (dk_at dksX9_isDone_5 4 rfl rfl)
theorem dX9_isDone_173 : decode cX9_isDone 173 = .ok (.iastore, 1) := dk_79 (dk_at dksX9_isDone_5 5 rfl rfl)
theorem dX9_isDone_174 : decode cX9_isDone 174 = .ok (.iload_n 2, 1) := dk_28 (dk_at dksX9_isDone_5 6 rfl rfl)
theorem dX9_isDone_175 : decode cX9_isDone 175 = .ok (.bipush 30, 2) := dk_16 30 (dk_at dksX9_isDone_5 7 rfl rfl)
theorem dX9_isDone_177 : decode cX9_isDone 177 = .ok (.if_icmp .gt 7, 3) := dk_163 0 7 (dk_at dksX9_isDone_5 9 rfl rfl)
theorem dX9_isDone_180 : decode cX9_isDone 180 = .ok (.iconst 1, 1) := dk_4 (dk_at dksX9_isDone_5 12 rfl rfl)
theorem dX9_isDone_181 : decode cX9_isDone 181 = .ok (.goto 4, 3) := dk_167 0 4 (dk_at dksX9_isDone_5 13 rfl rfl)
theorem dX9_isDone_184 : decode cX9_isDone 184 = .ok (.iconst 0, 1) := dk_3 (dk_at dksX9_isDone_5 16 rfl rfl)
theorem dX9_isDone_185 : decode cX9_isDone 185 = .ok (.ireturn, 1) := dk_172 (dk_at dksX9_isDone_5 17 rfl rfl)
theorem dX9_isDone_186 : decode cX9_isDone 186 = .ok (.aload_n 0, 1) := dk_42 (dk_at dksX9_isDone_5 18 rfl rfl)
theorem dX9_isDone_187 : decode cX9_isDone 187 = .ok (.iload_n 2, 1) := dk_28 (dk_at dksX9_isDone_5 19 rfl rfl)
theorem dX9_isDone_188 : decode cX9_isDone 188 = .ok (.invokevirtual 100, 3) := dk_182 0 100 (dk_at dksX9_isDone_5 20 rfl rfl)
theorem dX9_isDone_191 : decode cX9_isDone 191 = .ok (.ifCond .ne 5, 3) := dk_154 0 5 (dk_at dksX9_isDone_6 0 rfl rfl)
theorem dX9_isDone_194 : decode cX9_isDone 194 = .ok (.iconst 0, 1) := dk_3 (dk_at dksX9_isDone_6 3 rfl rfl)
theorem dX9_isDone_195 : decode cX9_isDone 195 = .ok (.ireturn, 1) := dk_172 (dk_at dksX9_isDone_6 4 rfl rfl)
theorem dX9_isDone_196 : decode cX9_isDone 196 = .ok (.aload_n 0, 1) := dk_42 (dk_at dksX9_isDone_6 5 rfl rfl)
theorem dX9_isDone_197 : decode cX9_isDone 197 = .ok (.getfield 9, 3) := dk_180 0 9 (dk_at dksX9_isDone_6 6 rfl rfl)
theorem dX9_isDone_200 : decode cX9_isDone 200 = .ok (.iload_n 2, 1) := dk_28 (dk_at dksX9_isDone_6 9 rfl rfl)
theorem dX9_isDone_201 : decode cX9_isDone 201 = .ok (.iconst 4, 1) := dk_7 (dk_at dksX9_isDone_6 10 rfl rfl)
theorem dX9_isDone_202 : decode cX9_isDone 202 = .ok (.invokestatic 52, 3) := dk_184 0 52 (dk_at dksX9_isDone_6 11 rfl rfl)
theorem dX9_isDone_205 : decode cX9_isDone 205 = .ok (.iconst 1, 1) := dk_4 (dk_at dksX9_isDone_6 14 rfl rfl)
theorem dX9_isDone_206 : decode cX9_isDone 206 = .ok (.iastore, 1) := dk_79 (dk_at dksX9_isDone_6 15 rfl rfl)
theorem dX9_isDone_207 : decode cX9_isDone 207 = .ok (.iconst 1, 1) := dk_4 (dk_at dksX9_isDone_6 16 rfl rfl)
theorem dX9_isDone_208 : decode cX9_isDone 208 = .ok (.ireturn, 1) := dk_172 (dk_at dksX9_isDone_6 17 rfl rfl)
theorem dX9_isDone_209 : decode cX9_isDone 209 = .ok (.iload_n 2, 1) := dk_28 (dk_at dksX9_isDone_6 18 rfl rfl)
theorem dX9_isDone_210 : decode cX9_isDone 210 = .ok (.iconst 1, 1) := dk_4 (dk_at dksX9_isDone_6 19 rfl rfl)
theorem dX9_isDone_211 : decode cX9_isDone 211 = .ok (.bipush 60, 2) := dk_16 60 (dk_at dksX9_isDone_6 20 rfl rfl)
theorem dX9_isDone_213 : decode cX9_isDone 213 = .ok (.invokestatic 40, 3) := dk_184 0 40 (dk_at dksX9_isDone_7 0 rfl rfl)
theorem dX9_isDone_216 : decode cX9_isDone 216 = .ok (.ifCond .eq 17, 3) := dk_153 0 17 (dk_at dksX9_isDone_7 3 rfl rfl)
theorem dX9_isDone_219 : decode cX9_isDone 219 = .ok (.aload_n 0, 1) := dk_42 (dk_at dksX9_isDone_7 6 rfl rfl)
theorem dX9_isDone_220 : decode cX9_isDone 220 = .ok (.getfield 9, 3) := dk_180 0 9 (dk_at dksX9_isDone_7 7 rfl rfl)
theorem dX9_isDone_223 : decode cX9_isDone 223 = .ok (.iconst 1, 1) := dk_4 (dk_at dksX9_isDone_7 10 rfl rfl)
theorem dX9_isDone_224 : decode cX9_isDone 224 = .ok (.iaload, 1) := dk_46 (dk_at dksX9_isDone_7 11 rfl rfl)
theorem dX9_isDone_225 : decode cX9_isDone 225 = .ok (.iload_n 2, 1) := dk_28 (dk_at dksX9_isDone_7 12 rfl rfl)
theorem dX9_isDone_226 : decode cX9_isDone 226 = .ok (.iadd, 1) := dk_96 (dk_at dksX9_isDone_7 13 rfl rfl)
theorem dX9_isDone_227 : decode cX9_isDone 227 = .ok (.sipush 999, 3) := dk_17 3 231 (dk_at dksX9_isDone_7 14 rfl rfl)
theorem dX9_isDone_230 : decode cX9_isDone 230 = .ok (.if_icmp .le 5, 3) := dk_164 0 5 (dk_at dksX9_isDone_7 17 rfl rfl)
theorem dX9_isDone_233 : decode cX9_isDone 233 = .ok (.iconst 0, 1) := dk_3 (dk_at dksX9_isDone_7 20 rfl rfl)
theorem dX9_isDone_234 : decode cX9_isDone 234 = .ok (.ireturn, 1) := dk_172 (dk_at dksX9_isDone_7 21 rfl rfl)
theorem dX9_isDone_235 : decode cX9_isDone 235 = .ok (.aload_n 0, 1) := dk_42 (dk_at dksX9_isDone_7 22 rfl rfl)
theorem dX9_isDone_236 : decode cX9_isDone 236 = .ok (.getfield 9, 3) := dk_180 0 9 (dk_at dksX9_isDone_8 0 rfl rfl)
theorem dX9_isDone_239 : decode cX9_isDone 239 = .ok (.iload_n 2, 1) := dk_28 (dk_at dksX9_isDone_8 3 rfl rfl)
theorem dX9_isDone_240 : decode cX9_isDone 240 = .ok (.invokestatic 104, 3) := dk_184 0 104 (dk_at dksX9_isDone_8 4 rfl rfl)
theorem dX9_isDone_243 : decode cX9_isDone 243 = .ok (.iconst 1, 1) := dk_4 (dk_at dksX9_isDone_8 7 rfl rfl)
theorem dX9_isDone_244 : decode cX9_isDone 244 = .ok (.ireturn, 1) := dk_172 (dk_at dksX9_isDone_8 8 rfl rfl)
abbrev cX9_addsPerson : ByteArray := prog_24_method_27_code
def yX9_addsPerson : MethodName := ⟨RX9, "addsPerson", "()Z"⟩
def dkwX9_addsPerson_4 : List UInt8 := [42, 180, 0, 9, 3, 92, 46, 4, 96, 79, 4, 172]
abbrev dktX9_addsPerson_4 : List UInt8 := dkwX9_addsPerson_4 ++ []
def dkwX9_addsPerson_3 : List UInt8 := [79, 42, 180, 0, 9, 27, 8, 184, 0, 52, 3, 79, 42, 180, 0, 9, 27, 16, 6, 184, 0, 52, 27, 79]
abbrev dktX9_addsPerson_3 : List UInt8 := dkwX9_addsPerson_3 ++ dktX9_addsPerson_4
def dkwX9_addsPerson_2 : List UInt8 := [167, 255, 232, 42, 180, 0, 9, 27, 6, 184, 0, 52, 8, 79, 42, 180, 0, 9, 27, 7, 184, 0, 52, 3]
abbrev dktX9_addsPerson_2 : List UInt8 := dkwX9_addsPerson_2 ++ dktX9_addsPerson_3
def dkwX9_addsPerson_1 : List UInt8 := [162, 0, 25, 42, 180, 0, 9, 27, 28, 184, 0, 52, 42, 180, 0, 31, 28, 46, 79, 132, 2, 1]
abbrev dktX9_addsPerson_1 : List UInt8 := dkwX9_addsPerson_1 ++ dktX9_addsPerson_2
def dkwX9_addsPerson_0 : List UInt8 := [42, 180, 0, 9, 3, 46, 16, 6, 160, 0, 5, 3, 172, 42, 180, 0, 9, 3, 46, 60, 3, 61, 28, 6]
abbrev dktX9_addsPerson_0 : List UInt8 := dkwX9_addsPerson_0 ++ dktX9_addsPerson_1
theorem dksX9_addsPerson_0 : cX9_addsPerson.data.toList.drop 0 = dktX9_addsPerson_0 := by decide +kernel
theorem dksX9_addsPerson_1 : cX9_addsPerson.data.toList.drop 24 = dktX9_addsPerson_1 := dk_seg dksX9_addsPerson_0 24 rfl rfl
theorem dksX9_addsPerson_2 : cX9_addsPerson.data.toList.drop 46 = dktX9_addsPerson_2 := dk_seg dksX9_addsPerson_1 22 rfl rfl
theorem dksX9_addsPerson_3 : cX9_addsPerson.data.toList.drop 70 = dktX9_addsPerson_3 := dk_seg dksX9_addsPerson_2 24 rfl rfl
theorem dksX9_addsPerson_4 : cX9_addsPerson.data.toList.drop 94 = dktX9_addsPerson_4 := dk_seg dksX9_addsPerson_3 24 rfl rfl
theorem dX9_addsPerson_0 : decode cX9_addsPerson 0 = .ok (.aload_n 0, 1) := dk_42 (dk_at dksX9_addsPerson_0 0 rfl rfl)
theorem dX9_addsPerson_1 : decode cX9_addsPerson 1 = .ok (.getfield 9, 3) := dk_180 0 9 (dk_at dksX9_addsPerson_0 1 rfl rfl)
theorem dX9_addsPerson_4 : decode cX9_addsPerson 4 = .ok (.iconst 0, 1) := dk_3 (dk_at dksX9_addsPerson_0 4 rfl rfl)
theorem dX9_addsPerson_5 : decode cX9_addsPerson 5 = .ok (.iaload, 1) := dk_46 (dk_at dksX9_addsPerson_0 5 rfl rfl)
theorem dX9_addsPerson_6 : decode cX9_addsPerson 6 = .ok (.bipush 6, 2) := dk_16 6 (dk_at dksX9_addsPerson_0 6 rfl rfl)
theorem dX9_addsPerson_8 : decode cX9_addsPerson 8 = .ok (.if_icmp .ne 5, 3) := dk_160 0 5 (dk_at dksX9_addsPerson_0 8 rfl rfl)
theorem dX9_addsPerson_11 : decode cX9_addsPerson 11 = .ok (.iconst 0, 1) := dk_3 (dk_at dksX9_addsPerson_0 11 rfl rfl)
theorem dX9_addsPerson_12 : decode cX9_addsPerson 12 = .ok (.ireturn, 1) := dk_172 (dk_at dksX9_addsPerson_0 12 rfl rfl)
theorem dX9_addsPerson_13 : decode cX9_addsPerson 13 = .ok (.aload_n 0, 1) := dk_42 (dk_at dksX9_addsPerson_0 13 rfl rfl)
theorem dX9_addsPerson_14 : decode cX9_addsPerson 14 = .ok (.getfield 9, 3) := dk_180 0 9 (dk_at dksX9_addsPerson_0 14 rfl rfl)
theorem dX9_addsPerson_17 : decode cX9_addsPerson 17 = .ok (.iconst 0, 1) := dk_3 (dk_at dksX9_addsPerson_0 17 rfl rfl)
theorem dX9_addsPerson_18 : decode cX9_addsPerson 18 = .ok (.iaload, 1) := dk_46 (dk_at dksX9_addsPerson_0 18 rfl rfl)
theorem dX9_addsPerson_19 : decode cX9_addsPerson 19 = .ok (.istore_n 1, 1) := dk_60 (dk_at dksX9_addsPerson_0 19 rfl rfl)
theorem dX9_addsPerson_20 : decode cX9_addsPerson 20 = .ok (.iconst 0, 1) := dk_3 (dk_at dksX9_addsPerson_0 20 rfl rfl)
theorem dX9_addsPerson_21 : decode cX9_addsPerson 21 = .ok (.istore_n 2, 1) := dk_61 (dk_at dksX9_addsPerson_0 21 rfl rfl)
theorem dX9_addsPerson_22 : decode cX9_addsPerson 22 = .ok (.iload_n 2, 1) := dk_28 (dk_at dksX9_addsPerson_0 22 rfl rfl)
theorem dX9_addsPerson_23 : decode cX9_addsPerson 23 = .ok (.iconst 3, 1) := dk_6 (dk_at dksX9_addsPerson_0 23 rfl rfl)
theorem dX9_addsPerson_24 : decode cX9_addsPerson 24 = .ok (.if_icmp .ge 25, 3) := dk_162 0 25 (dk_at dksX9_addsPerson_1 0 rfl rfl)
theorem dX9_addsPerson_27 : decode cX9_addsPerson 27 = .ok (.aload_n 0, 1) := dk_42 (dk_at dksX9_addsPerson_1 3 rfl rfl)
theorem dX9_addsPerson_28 : decode cX9_addsPerson 28 = .ok (.getfield 9, 3) := dk_180 0 9 (dk_at dksX9_addsPerson_1 4 rfl rfl)
theorem dX9_addsPerson_31 : decode cX9_addsPerson 31 = .ok (.iload_n 1, 1) := dk_27 (dk_at dksX9_addsPerson_1 7 rfl rfl)
theorem dX9_addsPerson_32 : decode cX9_addsPerson 32 = .ok (.iload_n 2, 1) := dk_28 (dk_at dksX9_addsPerson_1 8 rfl rfl)
theorem dX9_addsPerson_33 : decode cX9_addsPerson 33 = .ok (.invokestatic 52, 3) := dk_184 0 52 (dk_at dksX9_addsPerson_1 9 rfl rfl)
theorem dX9_addsPerson_36 : decode cX9_addsPerson 36 = .ok (.aload_n 0, 1) := dk_42 (dk_at dksX9_addsPerson_1 12 rfl rfl)
theorem dX9_addsPerson_37 : decode cX9_addsPerson 37 = .ok (.getfield 31, 3) := dk_180 0 31 (dk_at dksX9_addsPerson_1 13 rfl rfl)
theorem dX9_addsPerson_40 : decode cX9_addsPerson 40 = .ok (.iload_n 2, 1) := dk_28 (dk_at dksX9_addsPerson_1 16 rfl rfl)
theorem dX9_addsPerson_41 : decode cX9_addsPerson 41 = .ok (.iaload, 1) := dk_46 (dk_at dksX9_addsPerson_1 17 rfl rfl)
theorem dX9_addsPerson_42 : decode cX9_addsPerson 42 = .ok (.iastore, 1) := dk_79 (dk_at dksX9_addsPerson_1 18 rfl rfl)
theorem dX9_addsPerson_43 : decode cX9_addsPerson 43 = .ok (.iinc 2 1, 3) := dk_132 2 1 (dk_at dksX9_addsPerson_1 19 rfl rfl)
theorem dX9_addsPerson_46 : decode cX9_addsPerson 46 = .ok (.goto (-24), 3) := dk_167 255 232 (dk_at dksX9_addsPerson_2 0 rfl rfl)
theorem dX9_addsPerson_49 : decode cX9_addsPerson 49 = .ok (.aload_n 0, 1) := dk_42 (dk_at dksX9_addsPerson_2 3 rfl rfl)
theorem dX9_addsPerson_50 : decode cX9_addsPerson 50 = .ok (.getfield 9, 3) := dk_180 0 9 (dk_at dksX9_addsPerson_2 4 rfl rfl)
theorem dX9_addsPerson_53 : decode cX9_addsPerson 53 = .ok (.iload_n 1, 1) := dk_27 (dk_at dksX9_addsPerson_2 7 rfl rfl)
theorem dX9_addsPerson_54 : decode cX9_addsPerson 54 = .ok (.iconst 3, 1) := dk_6 (dk_at dksX9_addsPerson_2 8 rfl rfl)
theorem dX9_addsPerson_55 : decode cX9_addsPerson 55 = .ok (.invokestatic 52, 3) := dk_184 0 52 (dk_at dksX9_addsPerson_2 9 rfl rfl)
theorem dX9_addsPerson_58 : decode cX9_addsPerson 58 = .ok (.iconst 5, 1) := dk_8 (dk_at dksX9_addsPerson_2 12 rfl rfl)
theorem dX9_addsPerson_59 : decode cX9_addsPerson 59 = .ok (.iastore, 1) := dk_79 (dk_at dksX9_addsPerson_2 13 rfl rfl)
theorem dX9_addsPerson_60 : decode cX9_addsPerson 60 = .ok (.aload_n 0, 1) := dk_42 (dk_at dksX9_addsPerson_2 14 rfl rfl)
theorem dX9_addsPerson_61 : decode cX9_addsPerson 61 = .ok (.getfield 9, 3) := dk_180 0 9 (dk_at dksX9_addsPerson_2 15 rfl rfl)
theorem dX9_addsPerson_64 : decode cX9_addsPerson 64 = .ok (.iload_n 1, 1) := dk_27 (dk_at dksX9_addsPerson_2 18 rfl rfl)
theorem dX9_addsPerson_65 : decode cX9_addsPerson 65 = .ok (.iconst 4, 1) := dk_7 (dk_at dksX9_addsPerson_2 19 rfl rfl)
theorem dX9_addsPerson_66 : decode cX9_addsPerson 66 = .ok (.invokestatic 52, 3) := dk_184 0 52 (dk_at dksX9_addsPerson_2 20 rfl rfl)
theorem dX9_addsPerson_69 : decode cX9_addsPerson 69 = .ok (.iconst 0, 1) := dk_3 (dk_at dksX9_addsPerson_2 23 rfl rfl)
theorem dX9_addsPerson_70 : decode cX9_addsPerson 70 = .ok (.iastore, 1) := dk_79 (dk_at dksX9_addsPerson_3 0 rfl rfl)
theorem dX9_addsPerson_71 : decode cX9_addsPerson 71 = .ok (.aload_n 0, 1) := dk_42 (dk_at dksX9_addsPerson_3 1 rfl rfl)
theorem dX9_addsPerson_72 : decode cX9_addsPerson 72 = .ok (.getfield 9, 3) := dk_180 0 9 (dk_at dksX9_addsPerson_3 2 rfl rfl)
theorem dX9_addsPerson_75 : decode cX9_addsPerson 75 = .ok (.iload_n 1, 1) := dk_27 (dk_at dksX9_addsPerson_3 5 rfl rfl)
theorem dX9_addsPerson_76 : decode cX9_addsPerson 76 = .ok (.iconst 5, 1) := dk_8 (dk_at dksX9_addsPerson_3 6 rfl rfl)
theorem dX9_addsPerson_77 : decode cX9_addsPerson 77 = .ok (.invokestatic 52, 3) := dk_184 0 52 (dk_at dksX9_addsPerson_3 7 rfl rfl)
theorem dX9_addsPerson_80 : decode cX9_addsPerson 80 = .ok (.iconst 0, 1) := dk_3 (dk_at dksX9_addsPerson_3 10 rfl rfl)
theorem dX9_addsPerson_81 : decode cX9_addsPerson 81 = .ok (.iastore, 1) := dk_79 (dk_at dksX9_addsPerson_3 11 rfl rfl)
theorem dX9_addsPerson_82 : decode cX9_addsPerson 82 = .ok (.aload_n 0, 1) := dk_42 (dk_at dksX9_addsPerson_3 12 rfl rfl)
theorem dX9_addsPerson_83 : decode cX9_addsPerson 83 = .ok (.getfield 9, 3) := dk_180 0 9 (dk_at dksX9_addsPerson_3 13 rfl rfl)
theorem dX9_addsPerson_86 : decode cX9_addsPerson 86 = .ok (.iload_n 1, 1) := dk_27 (dk_at dksX9_addsPerson_3 16 rfl rfl)
theorem dX9_addsPerson_87 : decode cX9_addsPerson 87 = .ok (.bipush 6, 2) := dk_16 6 (dk_at dksX9_addsPerson_3 17 rfl rfl)
theorem dX9_addsPerson_89 : decode cX9_addsPerson 89 = .ok (.invokestatic 52, 3) := dk_184 0 52 (dk_at dksX9_addsPerson_3 19 rfl rfl)
theorem dX9_addsPerson_92 : decode cX9_addsPerson 92 = .ok (.iload_n 1, 1) := dk_27 (dk_at dksX9_addsPerson_3 22 rfl rfl)
theorem dX9_addsPerson_93 : decode cX9_addsPerson 93 = .ok (.iastore, 1) := dk_79 (dk_at dksX9_addsPerson_3 23 rfl rfl)
theorem dX9_addsPerson_94 : decode cX9_addsPerson 94 = .ok (.aload_n 0, 1) := dk_42 (dk_at dksX9_addsPerson_4 0 rfl rfl)
theorem dX9_addsPerson_95 : decode cX9_addsPerson 95 = .ok (.getfield 9, 3) := dk_180 0 9 (dk_at dksX9_addsPerson_4 1 rfl rfl)
theorem dX9_addsPerson_98 : decode cX9_addsPerson 98 = .ok (.iconst 0, 1) := dk_3 (dk_at dksX9_addsPerson_4 4 rfl rfl)
theorem dX9_addsPerson_99 : decode cX9_addsPerson 99 = .ok (.dup2, 1) := dk_92 (dk_at dksX9_addsPerson_4 5 rfl rfl)
theorem dX9_addsPerson_100 : decode cX9_addsPerson 100 = .ok (.iaload, 1) := dk_46 (dk_at dksX9_addsPerson_4 6 rfl rfl)
theorem dX9_addsPerson_101 : decode cX9_addsPerson 101 = .ok (.iconst 1, 1) := dk_4 (dk_at dksX9_addsPerson_4 7 rfl rfl)
theorem dX9_addsPerson_102 : decode cX9_addsPerson 102 = .ok (.iadd, 1) := dk_96 (dk_at dksX9_addsPerson_4 8 rfl rfl)
theorem dX9_addsPerson_103 : decode cX9_addsPerson 103 = .ok (.iastore, 1) := dk_79 (dk_at dksX9_addsPerson_4 9 rfl rfl)
theorem dX9_addsPerson_104 : decode cX9_addsPerson 104 = .ok (.iconst 1, 1) := dk_4 (dk_at dksX9_addsPerson_4 10 rfl rfl)
theorem dX9_addsPerson_105 : decode cX9_addsPerson 105 = .ok (.ireturn, 1) := dk_172 (dk_at dksX9_addsPerson_4 11 rfl rfl)
abbrev cX9_of : ByteArray := prog_24_method_7_code
def yX9_of : MethodName := ⟨RX9, "of", "(II)I"⟩
def dkwX9_of_0 : List UInt8 := [8, 16, 7, 26, 104, 96, 27, 96, 172]
abbrev dktX9_of_0 : List UInt8 := dkwX9_of_0 ++ []
theorem dksX9_of_0 : cX9_of.data.toList.drop 0 = dktX9_of_0 := by decide +kernel
theorem dX9_of_0 : decode cX9_of 0 = .ok (.iconst 5, 1) := dk_8 (dk_at dksX9_of_0 0 rfl rfl)
theorem dX9_of_1 : decode cX9_of 1 = .ok (.bipush 7, 2) := dk_16 7 (dk_at dksX9_of_0 1 rfl rfl)
theorem dX9_of_3 : decode cX9_of 3 = .ok (.iload_n 0, 1) := dk_26 (dk_at dksX9_of_0 3 rfl rfl)
theorem dX9_of_4 : decode cX9_of 4 = .ok (.imul, 1) := dk_104 (dk_at dksX9_of_0 4 rfl rfl)
theorem dX9_of_5 : decode cX9_of 5 = .ok (.iadd, 1) := dk_96 (dk_at dksX9_of_0 5 rfl rfl)
theorem dX9_of_6 : decode cX9_of 6 = .ok (.iload_n 1, 1) := dk_27 (dk_at dksX9_of_0 6 rfl rfl)
theorem dX9_of_7 : decode cX9_of 7 = .ok (.iadd, 1) := dk_96 (dk_at dksX9_of_0 7 rfl rfl)
theorem dX9_of_8 : decode cX9_of 8 = .ok (.ireturn, 1) := dk_172 (dk_at dksX9_of_0 8 rfl rfl)
abbrev cX9_isPerson : ByteArray := prog_24_method_8_code
def yX9_isPerson : MethodName := ⟨RX9, "isPerson", "(I)Z"⟩
def dkwX9_isPerson_0 : List UInt8 := [27, 3, 42, 180, 0, 9, 3, 46, 4, 100, 184, 0, 40, 172]
abbrev dktX9_isPerson_0 : List UInt8 := dkwX9_isPerson_0 ++ []
theorem dksX9_isPerson_0 : cX9_isPerson.data.toList.drop 0 = dktX9_isPerson_0 := by decide +kernel
theorem dX9_isPerson_0 : decode cX9_isPerson 0 = .ok (.iload_n 1, 1) := dk_27 (dk_at dksX9_isPerson_0 0 rfl rfl)
theorem dX9_isPerson_1 : decode cX9_isPerson 1 = .ok (.iconst 0, 1) := dk_3 (dk_at dksX9_isPerson_0 1 rfl rfl)
theorem dX9_isPerson_2 : decode cX9_isPerson 2 = .ok (.aload_n 0, 1) := dk_42 (dk_at dksX9_isPerson_0 2 rfl rfl)
theorem dX9_isPerson_3 : decode cX9_isPerson 3 = .ok (.getfield 9, 3) := dk_180 0 9 (dk_at dksX9_isPerson_0 3 rfl rfl)
theorem dX9_isPerson_6 : decode cX9_isPerson 6 = .ok (.iconst 0, 1) := dk_3 (dk_at dksX9_isPerson_0 6 rfl rfl)
theorem dX9_isPerson_7 : decode cX9_isPerson 7 = .ok (.iaload, 1) := dk_46 (dk_at dksX9_isPerson_0 7 rfl rfl)
theorem dX9_isPerson_8 : decode cX9_isPerson 8 = .ok (.iconst 1, 1) := dk_4 (dk_at dksX9_isPerson_0 8 rfl rfl)
theorem dX9_isPerson_9 : decode cX9_isPerson 9 = .ok (.isub, 1) := dk_100 (dk_at dksX9_isPerson_0 9 rfl rfl)
theorem dX9_isPerson_10 : decode cX9_isPerson 10 = .ok (.invokestatic 40, 3) := dk_184 0 40 (dk_at dksX9_isPerson_0 10 rfl rfl)
theorem dX9_isPerson_13 : decode cX9_isPerson 13 = .ok (.ireturn, 1) := dk_172 (dk_at dksX9_isPerson_0 13 rfl rfl)
abbrev cX9_hoursOn : ByteArray := prog_24_method_17_code
def yX9_hoursOn : MethodName := ⟨RX9, "hoursOn", "([II)V"⟩
def dkwX9_hoursOn_0 : List UInt8 := [3, 61, 28, 27, 162, 0, 14, 42, 3, 184, 0, 73, 132, 2, 1, 167, 255, 243, 177]
abbrev dktX9_hoursOn_0 : List UInt8 := dkwX9_hoursOn_0 ++ []
theorem dksX9_hoursOn_0 : cX9_hoursOn.data.toList.drop 0 = dktX9_hoursOn_0 := by decide +kernel
theorem dX9_hoursOn_0 : decode cX9_hoursOn 0 = .ok (.iconst 0, 1) := dk_3 (dk_at dksX9_hoursOn_0 0 rfl rfl)
theorem dX9_hoursOn_1 : decode cX9_hoursOn 1 = .ok (.istore_n 2, 1) := dk_61 (dk_at dksX9_hoursOn_0 1 rfl rfl)
theorem dX9_hoursOn_2 : decode cX9_hoursOn 2 = .ok (.iload_n 2, 1) := dk_28 (dk_at dksX9_hoursOn_0 2 rfl rfl)
theorem dX9_hoursOn_3 : decode cX9_hoursOn 3 = .ok (.iload_n 1, 1) := dk_27 (dk_at dksX9_hoursOn_0 3 rfl rfl)
theorem dX9_hoursOn_4 : decode cX9_hoursOn 4 = .ok (.if_icmp .ge 14, 3) := dk_162 0 14 (dk_at dksX9_hoursOn_0 4 rfl rfl)
theorem dX9_hoursOn_7 : decode cX9_hoursOn 7 = .ok (.aload_n 0, 1) := dk_42 (dk_at dksX9_hoursOn_0 7 rfl rfl)
theorem dX9_hoursOn_8 : decode cX9_hoursOn 8 = .ok (.iconst 0, 1) := dk_3 (dk_at dksX9_hoursOn_0 8 rfl rfl)
theorem dX9_hoursOn_9 : decode cX9_hoursOn 9 = .ok (.invokestatic 73, 3) := dk_184 0 73 (dk_at dksX9_hoursOn_0 9 rfl rfl)
theorem dX9_hoursOn_12 : decode cX9_hoursOn 12 = .ok (.iinc 2 1, 3) := dk_132 2 1 (dk_at dksX9_hoursOn_0 12 rfl rfl)
theorem dX9_hoursOn_15 : decode cX9_hoursOn 15 = .ok (.goto (-13), 3) := dk_167 255 243 (dk_at dksX9_hoursOn_0 15 rfl rfl)
theorem dX9_hoursOn_18 : decode cX9_hoursOn 18 = .ok (.return_, 1) := dk_177 (dk_at dksX9_hoursOn_0 18 rfl rfl)
abbrev cX9_hour : ByteArray := prog_24_method_16_code
def yX9_hour : MethodName := ⟨RX9, "hour", "([II)V"⟩
def dkwX9_hour_7 : List UInt8 := [167, 0, 5, 21, 4, 79, 132, 3, 1, 167, 255, 202, 42, 4, 92, 46, 4, 96, 79, 177]
abbrev dktX9_hour_7 : List UInt8 := dkwX9_hour_7 ++ []
def dkwX9_hour_6 : List UInt8 := [184, 0, 52, 46, 184, 0, 70, 100, 54, 4, 42, 29, 6, 184, 0, 52, 21, 4, 156, 0, 7, 3]
abbrev dktX9_hour_6 : List UInt8 := dkwX9_hour_6 ++ dktX9_hour_7
def dkwX9_hour_5 : List UInt8 := [62, 29, 42, 3, 46, 162, 0, 53, 28, 16, 11, 160, 0, 47, 42, 29, 6, 184, 0, 52, 46, 42, 29, 3]
abbrev dktX9_hour_5 : List UInt8 := dkwX9_hour_5 ++ dktX9_hour_6
def dkwX9_hour_4 : List UInt8 := [167, 255, 221, 3, 62, 29, 42, 3, 46, 162, 0, 14, 42, 29, 184, 0, 66, 132, 3, 1, 167, 255, 241, 3]
abbrev dktX9_hour_4 : List UInt8 := dkwX9_hour_4 ++ dktX9_hour_5
def dkwX9_hour_3 : List UInt8 := [28, 159, 0, 11, 27, 29, 184, 0, 48, 153, 0, 11, 42, 29, 7, 184, 0, 52, 4, 79, 132, 3, 1]
abbrev dktX9_hour_3 : List UInt8 := dkwX9_hour_3 ++ dktX9_hour_4
def dkwX9_hour_2 : List UInt8 := [5, 46, 42, 6, 46, 96, 184, 0, 44, 79, 3, 62, 29, 42, 3, 46, 162, 0, 34, 42, 29, 184, 0, 62]
abbrev dktX9_hour_2 : List UInt8 := dkwX9_hour_2 ++ dktX9_hour_3
def dkwX9_hour_1 : List UInt8 := [184, 0, 52, 3, 79, 42, 29, 8, 184, 0, 52, 3, 79, 132, 3, 1, 167, 255, 230, 42, 5, 16, 99, 42]
abbrev dktX9_hour_1 : List UInt8 := dkwX9_hour_1 ++ dktX9_hour_2
def dkwX9_hour_0 : List UInt8 := [42, 4, 46, 16, 12, 112, 61, 28, 154, 0, 49, 3, 62, 29, 42, 3, 46, 162, 0, 25, 42, 29, 7]
abbrev dktX9_hour_0 : List UInt8 := dkwX9_hour_0 ++ dktX9_hour_1
theorem dksX9_hour_0 : cX9_hour.data.toList.drop 0 = dktX9_hour_0 := by decide +kernel
theorem dksX9_hour_1 : cX9_hour.data.toList.drop 23 = dktX9_hour_1 := dk_seg dksX9_hour_0 23 rfl rfl
theorem dksX9_hour_2 : cX9_hour.data.toList.drop 47 = dktX9_hour_2 := dk_seg dksX9_hour_1 24 rfl rfl
theorem dksX9_hour_3 : cX9_hour.data.toList.drop 71 = dktX9_hour_3 := dk_seg dksX9_hour_2 24 rfl rfl
theorem dksX9_hour_4 : cX9_hour.data.toList.drop 94 = dktX9_hour_4 := dk_seg dksX9_hour_3 23 rfl rfl
theorem dksX9_hour_5 : cX9_hour.data.toList.drop 118 = dktX9_hour_5 := dk_seg dksX9_hour_4 24 rfl rfl
theorem dksX9_hour_6 : cX9_hour.data.toList.drop 142 = dktX9_hour_6 := dk_seg dksX9_hour_5 24 rfl rfl
theorem dksX9_hour_7 : cX9_hour.data.toList.drop 164 = dktX9_hour_7 := dk_seg dksX9_hour_6 22 rfl rfl
theorem dX9_hour_0 : decode cX9_hour 0 = .ok (.aload_n 0, 1) := dk_42 (dk_at dksX9_hour_0 0 rfl rfl)
theorem dX9_hour_1 : decode cX9_hour 1 = .ok (.iconst 1, 1) := dk_4 (dk_at dksX9_hour_0 1 rfl rfl)
theorem dX9_hour_2 : decode cX9_hour 2 = .ok (.iaload, 1) := dk_46 (dk_at dksX9_hour_0 2 rfl rfl)
theorem dX9_hour_3 : decode cX9_hour 3 = .ok (.bipush 12, 2) := dk_16 12 (dk_at dksX9_hour_0 3 rfl rfl)
theorem dX9_hour_5 : decode cX9_hour 5 = .ok (.irem, 1) := dk_112 (dk_at dksX9_hour_0 5 rfl rfl)
theorem dX9_hour_6 : decode cX9_hour 6 = .ok (.istore_n 2, 1) := dk_61 (dk_at dksX9_hour_0 6 rfl rfl)
theorem dX9_hour_7 : decode cX9_hour 7 = .ok (.iload_n 2, 1) := dk_28 (dk_at dksX9_hour_0 7 rfl rfl)
theorem dX9_hour_8 : decode cX9_hour 8 = .ok (.ifCond .ne 49, 3) := dk_154 0 49 (dk_at dksX9_hour_0 8 rfl rfl)
theorem dX9_hour_11 : decode cX9_hour 11 = .ok (.iconst 0, 1) := dk_3 (dk_at dksX9_hour_0 11 rfl rfl)
theorem dX9_hour_12 : decode cX9_hour 12 = .ok (.istore_n 3, 1) := dk_62 (dk_at dksX9_hour_0 12 rfl rfl)
theorem dX9_hour_13 : decode cX9_hour 13 = .ok (.iload_n 3, 1) := dk_29 (dk_at dksX9_hour_0 13 rfl rfl)
theorem dX9_hour_14 : decode cX9_hour 14 = .ok (.aload_n 0, 1) := dk_42 (dk_at dksX9_hour_0 14 rfl rfl)
theorem dX9_hour_15 : decode cX9_hour 15 = .ok (.iconst 0, 1) := dk_3 (dk_at dksX9_hour_0 15 rfl rfl)
theorem dX9_hour_16 : decode cX9_hour 16 = .ok (.iaload, 1) := dk_46 (dk_at dksX9_hour_0 16 rfl rfl)
theorem dX9_hour_17 : decode cX9_hour 17 = .ok (.if_icmp .ge 25, 3) := dk_162 0 25 (dk_at dksX9_hour_0 17 rfl rfl)
theorem dX9_hour_20 : decode cX9_hour 20 = .ok (.aload_n 0, 1) := dk_42 (dk_at dksX9_hour_0 20 rfl rfl)
theorem dX9_hour_21 : decode cX9_hour 21 = .ok (.iload_n 3, 1) := dk_29 (dk_at dksX9_hour_0 21 rfl rfl)
theorem dX9_hour_22 : decode cX9_hour 22 = .ok (.iconst 4, 1) := dk_7 (dk_at dksX9_hour_0 22 rfl rfl)
theorem dX9_hour_23 : decode cX9_hour 23 = .ok (.invokestatic 52, 3) := dk_184 0 52 (dk_at dksX9_hour_1 0 rfl rfl)
theorem dX9_hour_26 : decode cX9_hour 26 = .ok (.iconst 0, 1) := dk_3 (dk_at dksX9_hour_1 3 rfl rfl)
theorem dX9_hour_27 : decode cX9_hour 27 = .ok (.iastore, 1) := dk_79 (dk_at dksX9_hour_1 4 rfl rfl)
theorem dX9_hour_28 : decode cX9_hour 28 = .ok (.aload_n 0, 1) := dk_42 (dk_at dksX9_hour_1 5 rfl rfl)
theorem dX9_hour_29 : decode cX9_hour 29 = .ok (.iload_n 3, 1) := dk_29 (dk_at dksX9_hour_1 6 rfl rfl)
theorem dX9_hour_30 : decode cX9_hour 30 = .ok (.iconst 5, 1) := dk_8 (dk_at dksX9_hour_1 7 rfl rfl)
theorem dX9_hour_31 : decode cX9_hour 31 = .ok (.invokestatic 52, 3) := dk_184 0 52 (dk_at dksX9_hour_1 8 rfl rfl)
theorem dX9_hour_34 : decode cX9_hour 34 = .ok (.iconst 0, 1) := dk_3 (dk_at dksX9_hour_1 11 rfl rfl)
theorem dX9_hour_35 : decode cX9_hour 35 = .ok (.iastore, 1) := dk_79 (dk_at dksX9_hour_1 12 rfl rfl)
theorem dX9_hour_36 : decode cX9_hour 36 = .ok (.iinc 3 1, 3) := dk_132 3 1 (dk_at dksX9_hour_1 13 rfl rfl)
theorem dX9_hour_39 : decode cX9_hour 39 = .ok (.goto (-26), 3) := dk_167 255 230 (dk_at dksX9_hour_1 16 rfl rfl)
theorem dX9_hour_42 : decode cX9_hour 42 = .ok (.aload_n 0, 1) := dk_42 (dk_at dksX9_hour_1 19 rfl rfl)
theorem dX9_hour_43 : decode cX9_hour 43 = .ok (.iconst 2, 1) := dk_5 (dk_at dksX9_hour_1 20 rfl rfl)
theorem dX9_hour_44 : decode cX9_hour 44 = .ok (.bipush 99, 2) := dk_16 99 (dk_at dksX9_hour_1 21 rfl rfl)
theorem dX9_hour_46 : decode cX9_hour 46 = .ok (.aload_n 0, 1) := dk_42 (dk_at dksX9_hour_1 23 rfl rfl)
theorem dX9_hour_47 : decode cX9_hour 47 = .ok (.iconst 2, 1) := dk_5 (dk_at dksX9_hour_2 0 rfl rfl)
theorem dX9_hour_48 : decode cX9_hour 48 = .ok (.iaload, 1) := dk_46 (dk_at dksX9_hour_2 1 rfl rfl)
theorem dX9_hour_49 : decode cX9_hour 49 = .ok (.aload_n 0, 1) := dk_42 (dk_at dksX9_hour_2 2 rfl rfl)
theorem dX9_hour_50 : decode cX9_hour 50 = .ok (.iconst 3, 1) := dk_6 (dk_at dksX9_hour_2 3 rfl rfl)
theorem dX9_hour_51 : decode cX9_hour 51 = .ok (.iaload, 1) := dk_46 (dk_at dksX9_hour_2 4 rfl rfl)
theorem dX9_hour_52 : decode cX9_hour 52 = .ok (.iadd, 1) := dk_96 (dk_at dksX9_hour_2 5 rfl rfl)
theorem dX9_hour_53 : decode cX9_hour 53 = .ok (.invokestatic 44, 3) := dk_184 0 44 (dk_at dksX9_hour_2 6 rfl rfl)
theorem dX9_hour_56 : decode cX9_hour 56 = .ok (.iastore, 1) := dk_79 (dk_at dksX9_hour_2 9 rfl rfl)
theorem dX9_hour_57 : decode cX9_hour 57 = .ok (.iconst 0, 1) := dk_3 (dk_at dksX9_hour_2 10 rfl rfl)
theorem dX9_hour_58 : decode cX9_hour 58 = .ok (.istore_n 3, 1) := dk_62 (dk_at dksX9_hour_2 11 rfl rfl)
theorem dX9_hour_59 : decode cX9_hour 59 = .ok (.iload_n 3, 1) := dk_29 (dk_at dksX9_hour_2 12 rfl rfl)
theorem dX9_hour_60 : decode cX9_hour 60 = .ok (.aload_n 0, 1) := dk_42 (dk_at dksX9_hour_2 13 rfl rfl)
theorem dX9_hour_61 : decode cX9_hour 61 = .ok (.iconst 0, 1) := dk_3 (dk_at dksX9_hour_2 14 rfl rfl)
theorem dX9_hour_62 : decode cX9_hour 62 = .ok (.iaload, 1) := dk_46 (dk_at dksX9_hour_2 15 rfl rfl)
theorem dX9_hour_63 : decode cX9_hour 63 = .ok (.if_icmp .ge 34, 3) := dk_162 0 34 (dk_at dksX9_hour_2 16 rfl rfl)
theorem dX9_hour_66 : decode cX9_hour 66 = .ok (.aload_n 0, 1) := dk_42 (dk_at dksX9_hour_2 19 rfl rfl)
theorem dX9_hour_67 : decode cX9_hour 67 = .ok (.iload_n 3, 1) := dk_29 (dk_at dksX9_hour_2 20 rfl rfl)
theorem dX9_hour_68 : decode cX9_hour 68 = .ok (.invokestatic 62, 3) := dk_184 0 62 (dk_at dksX9_hour_2 21 rfl rfl)
theorem dX9_hour_71 : decode cX9_hour 71 = .ok (.iload_n 2, 1) := dk_28 (dk_at dksX9_hour_3 0 rfl rfl)
theorem dX9_hour_72 : decode cX9_hour 72 = .ok (.if_icmp .eq 11, 3) := dk_159 0 11 (dk_at dksX9_hour_3 1 rfl rfl)
theorem dX9_hour_75 : decode cX9_hour 75 = .ok (.iload_n 1, 1) := dk_27 (dk_at dksX9_hour_3 4 rfl rfl)
theorem dX9_hour_76 : decode cX9_hour 76 = .ok (.iload_n 3, 1) := dk_29 (dk_at dksX9_hour_3 5 rfl rfl)
theorem dX9_hour_77 : decode cX9_hour 77 = .ok (.invokestatic 48, 3) := dk_184 0 48 (dk_at dksX9_hour_3 6 rfl rfl)
theorem dX9_hour_80 : decode cX9_hour 80 = .ok (.ifCond .eq 11, 3) := dk_153 0 11 (dk_at dksX9_hour_3 9 rfl rfl)
theorem dX9_hour_83 : decode cX9_hour 83 = .ok (.aload_n 0, 1) := dk_42 (dk_at dksX9_hour_3 12 rfl rfl)
theorem dX9_hour_84 : decode cX9_hour 84 = .ok (.iload_n 3, 1) := dk_29 (dk_at dksX9_hour_3 13 rfl rfl)
theorem dX9_hour_85 : decode cX9_hour 85 = .ok (.iconst 4, 1) := dk_7 (dk_at dksX9_hour_3 14 rfl rfl)
theorem dX9_hour_86 : decode cX9_hour 86 = .ok (.invokestatic 52, 3) := dk_184 0 52 (dk_at dksX9_hour_3 15 rfl rfl)
theorem dX9_hour_89 : decode cX9_hour 89 = .ok (.iconst 1, 1) := dk_4 (dk_at dksX9_hour_3 18 rfl rfl)
theorem dX9_hour_90 : decode cX9_hour 90 = .ok (.iastore, 1) := dk_79 (dk_at dksX9_hour_3 19 rfl rfl)
theorem dX9_hour_91 : decode cX9_hour 91 = .ok (.iinc 3 1, 3) := dk_132 3 1 (dk_at dksX9_hour_3 20 rfl rfl)
theorem dX9_hour_94 : decode cX9_hour 94 = .ok (.goto (-35), 3) := dk_167 255 221 (dk_at dksX9_hour_4 0 rfl rfl)
theorem dX9_hour_97 : decode cX9_hour 97 = .ok (.iconst 0, 1) := dk_3 (dk_at dksX9_hour_4 3 rfl rfl)
theorem dX9_hour_98 : decode cX9_hour 98 = .ok (.istore_n 3, 1) := dk_62 (dk_at dksX9_hour_4 4 rfl rfl)
theorem dX9_hour_99 : decode cX9_hour 99 = .ok (.iload_n 3, 1) := dk_29 (dk_at dksX9_hour_4 5 rfl rfl)
theorem dX9_hour_100 : decode cX9_hour 100 = .ok (.aload_n 0, 1) := dk_42 (dk_at dksX9_hour_4 6 rfl rfl)
theorem dX9_hour_101 : decode cX9_hour 101 = .ok (.iconst 0, 1) := dk_3 (dk_at dksX9_hour_4 7 rfl rfl)
theorem dX9_hour_102 : decode cX9_hour 102 = .ok (.iaload, 1) := dk_46 (dk_at dksX9_hour_4 8 rfl rfl)
theorem dX9_hour_103 : decode cX9_hour 103 = .ok (.if_icmp .ge 14, 3) := dk_162 0 14 (dk_at dksX9_hour_4 9 rfl rfl)
theorem dX9_hour_106 : decode cX9_hour 106 = .ok (.aload_n 0, 1) := dk_42 (dk_at dksX9_hour_4 12 rfl rfl)
theorem dX9_hour_107 : decode cX9_hour 107 = .ok (.iload_n 3, 1) := dk_29 (dk_at dksX9_hour_4 13 rfl rfl)
theorem dX9_hour_108 : decode cX9_hour 108 = .ok (.invokestatic 66, 3) := dk_184 0 66 (dk_at dksX9_hour_4 14 rfl rfl)
theorem dX9_hour_111 : decode cX9_hour 111 = .ok (.iinc 3 1, 3) := dk_132 3 1 (dk_at dksX9_hour_4 17 rfl rfl)
theorem dX9_hour_114 : decode cX9_hour 114 = .ok (.goto (-15), 3) := dk_167 255 241 (dk_at dksX9_hour_4 20 rfl rfl)
theorem dX9_hour_117 : decode cX9_hour 117 = .ok (.iconst 0, 1) := dk_3 (dk_at dksX9_hour_4 23 rfl rfl)
theorem dX9_hour_118 : decode cX9_hour 118 = .ok (.istore_n 3, 1) := dk_62 (dk_at dksX9_hour_5 0 rfl rfl)
theorem dX9_hour_119 : decode cX9_hour 119 = .ok (.iload_n 3, 1) := dk_29 (dk_at dksX9_hour_5 1 rfl rfl)
theorem dX9_hour_120 : decode cX9_hour 120 = .ok (.aload_n 0, 1) := dk_42 (dk_at dksX9_hour_5 2 rfl rfl)
theorem dX9_hour_121 : decode cX9_hour 121 = .ok (.iconst 0, 1) := dk_3 (dk_at dksX9_hour_5 3 rfl rfl)
theorem dX9_hour_122 : decode cX9_hour 122 = .ok (.iaload, 1) := dk_46 (dk_at dksX9_hour_5 4 rfl rfl)
theorem dX9_hour_123 : decode cX9_hour 123 = .ok (.if_icmp .ge 53, 3) := dk_162 0 53 (dk_at dksX9_hour_5 5 rfl rfl)
theorem dX9_hour_126 : decode cX9_hour 126 = .ok (.iload_n 2, 1) := dk_28 (dk_at dksX9_hour_5 8 rfl rfl)
theorem dX9_hour_127 : decode cX9_hour 127 = .ok (.bipush 11, 2) := dk_16 11 (dk_at dksX9_hour_5 9 rfl rfl)
theorem dX9_hour_129 : decode cX9_hour 129 = .ok (.if_icmp .ne 47, 3) := dk_160 0 47 (dk_at dksX9_hour_5 11 rfl rfl)
theorem dX9_hour_132 : decode cX9_hour 132 = .ok (.aload_n 0, 1) := dk_42 (dk_at dksX9_hour_5 14 rfl rfl)
theorem dX9_hour_133 : decode cX9_hour 133 = .ok (.iload_n 3, 1) := dk_29 (dk_at dksX9_hour_5 15 rfl rfl)
theorem dX9_hour_134 : decode cX9_hour 134 = .ok (.iconst 3, 1) := dk_6 (dk_at dksX9_hour_5 16 rfl rfl)
theorem dX9_hour_135 : decode cX9_hour 135 = .ok (.invokestatic 52, 3) := dk_184 0 52 (dk_at dksX9_hour_5 17 rfl rfl)
theorem dX9_hour_138 : decode cX9_hour 138 = .ok (.iaload, 1) := dk_46 (dk_at dksX9_hour_5 20 rfl rfl)
theorem dX9_hour_139 : decode cX9_hour 139 = .ok (.aload_n 0, 1) := dk_42 (dk_at dksX9_hour_5 21 rfl rfl)
theorem dX9_hour_140 : decode cX9_hour 140 = .ok (.iload_n 3, 1) := dk_29 (dk_at dksX9_hour_5 22 rfl rfl)
theorem dX9_hour_141 : decode cX9_hour 141 = .ok (.iconst 0, 1) := dk_3 (dk_at dksX9_hour_5 23 rfl rfl)
theorem dX9_hour_142 : decode cX9_hour 142 = .ok (.invokestatic 52, 3) := dk_184 0 52 (dk_at dksX9_hour_6 0 rfl rfl)
theorem dX9_hour_145 : decode cX9_hour 145 = .ok (.iaload, 1) := dk_46 (dk_at dksX9_hour_6 3 rfl rfl)
theorem dX9_hour_146 : decode cX9_hour 146 = .ok (.invokestatic 70, 3) := dk_184 0 70 (dk_at dksX9_hour_6 4 rfl rfl)
theorem dX9_hour_149 : decode cX9_hour 149 = .ok (.isub, 1) := dk_100 (dk_at dksX9_hour_6 7 rfl rfl)
theorem dX9_hour_150 : decode cX9_hour 150 = .ok (.istore 4, 2) := dk_54 4 (dk_at dksX9_hour_6 8 rfl rfl)
theorem dX9_hour_152 : decode cX9_hour 152 = .ok (.aload_n 0, 1) := dk_42 (dk_at dksX9_hour_6 10 rfl rfl)
theorem dX9_hour_153 : decode cX9_hour 153 = .ok (.iload_n 3, 1) := dk_29 (dk_at dksX9_hour_6 11 rfl rfl)
theorem dX9_hour_154 : decode cX9_hour 154 = .ok (.iconst 3, 1) := dk_6 (dk_at dksX9_hour_6 12 rfl rfl)
theorem dX9_hour_155 : decode cX9_hour 155 = .ok (.invokestatic 52, 3) := dk_184 0 52 (dk_at dksX9_hour_6 13 rfl rfl)
theorem dX9_hour_158 : decode cX9_hour 158 = .ok (.iload 4, 2) := dk_21 4 (dk_at dksX9_hour_6 16 rfl rfl)
theorem dX9_hour_160 : decode cX9_hour 160 = .ok (.ifCond .ge 7, 3) := dk_156 0 7 (dk_at dksX9_hour_6 18 rfl rfl)
theorem dX9_hour_163 : decode cX9_hour 163 = .ok (.iconst 0, 1) := dk_3 (dk_at dksX9_hour_6 21 rfl rfl)
theorem dX9_hour_164 : decode cX9_hour 164 = .ok (.goto 5, 3) := dk_167 0 5 (dk_at dksX9_hour_7 0 rfl rfl)
theorem dX9_hour_167 : decode cX9_hour 167 = .ok (.iload 4, 2) := dk_21 4 (dk_at dksX9_hour_7 3 rfl rfl)
theorem dX9_hour_169 : decode cX9_hour 169 = .ok (.iastore, 1) := dk_79 (dk_at dksX9_hour_7 5 rfl rfl)
theorem dX9_hour_170 : decode cX9_hour 170 = .ok (.iinc 3 1, 3) := dk_132 3 1 (dk_at dksX9_hour_7 6 rfl rfl)
theorem dX9_hour_173 : decode cX9_hour 173 = .ok (.goto (-54), 3) := dk_167 255 202 (dk_at dksX9_hour_7 9 rfl rfl)
theorem dX9_hour_176 : decode cX9_hour 176 = .ok (.aload_n 0, 1) := dk_42 (dk_at dksX9_hour_7 12 rfl rfl)
theorem dX9_hour_177 : decode cX9_hour 177 = .ok (.iconst 1, 1) := dk_4 (dk_at dksX9_hour_7 13 rfl rfl)
theorem dX9_hour_178 : decode cX9_hour 178 = .ok (.dup2, 1) := dk_92 (dk_at dksX9_hour_7 14 rfl rfl)
theorem dX9_hour_179 : decode cX9_hour 179 = .ok (.iaload, 1) := dk_46 (dk_at dksX9_hour_7 15 rfl rfl)
theorem dX9_hour_180 : decode cX9_hour 180 = .ok (.iconst 1, 1) := dk_4 (dk_at dksX9_hour_7 16 rfl rfl)
theorem dX9_hour_181 : decode cX9_hour 181 = .ok (.iadd, 1) := dk_96 (dk_at dksX9_hour_7 17 rfl rfl)
theorem dX9_hour_182 : decode cX9_hour 182 = .ok (.iastore, 1) := dk_79 (dk_at dksX9_hour_7 18 rfl rfl)
theorem dX9_hour_183 : decode cX9_hour 183 = .ok (.return_, 1) := dk_177 (dk_at dksX9_hour_7 19 rfl rfl)
abbrev cX9_least : ByteArray := prog_24_method_3_code
def yX9_least : MethodName := ⟨RX9, "least", "(II)I"⟩
def dkwX9_least_0 : List UInt8 := [26, 27, 162, 0, 7, 26, 167, 0, 4, 27, 172]
abbrev dktX9_least_0 : List UInt8 := dkwX9_least_0 ++ []
theorem dksX9_least_0 : cX9_least.data.toList.drop 0 = dktX9_least_0 := by decide +kernel
theorem dX9_least_0 : decode cX9_least 0 = .ok (.iload_n 0, 1) := dk_26 (dk_at dksX9_least_0 0 rfl rfl)
theorem dX9_least_1 : decode cX9_least 1 = .ok (.iload_n 1, 1) := dk_27 (dk_at dksX9_least_0 1 rfl rfl)
theorem dX9_least_2 : decode cX9_least 2 = .ok (.if_icmp .ge 7, 3) := dk_162 0 7 (dk_at dksX9_least_0 2 rfl rfl)
theorem dX9_least_5 : decode cX9_least 5 = .ok (.iload_n 0, 1) := dk_26 (dk_at dksX9_least_0 5 rfl rfl)
theorem dX9_least_6 : decode cX9_least 6 = .ok (.goto 4, 3) := dk_167 0 4 (dk_at dksX9_least_0 6 rfl rfl)
theorem dX9_least_9 : decode cX9_least 9 = .ok (.iload_n 1, 1) := dk_27 (dk_at dksX9_least_0 9 rfl rfl)
theorem dX9_least_10 : decode cX9_least 10 = .ok (.ireturn, 1) := dk_172 (dk_at dksX9_least_0 10 rfl rfl)
abbrev cX9_speaksIn : ByteArray := prog_24_method_13_code
def yX9_speaksIn : MethodName := ⟨RX9, "speaksIn", "([II)I"⟩
def dkwX9_speaksIn_1 : List UInt8 := [4, 184, 0, 52, 46, 184, 0, 55, 172]
abbrev dktX9_speaksIn_1 : List UInt8 := dkwX9_speaksIn_1 ++ []
def dkwX9_speaksIn_0 : List UInt8 := [42, 7, 46, 27, 184, 0, 48, 153, 0, 8, 16, 12, 167, 0, 20, 42, 27, 3, 184, 0, 52, 46, 42, 27]
abbrev dktX9_speaksIn_0 : List UInt8 := dkwX9_speaksIn_0 ++ dktX9_speaksIn_1
theorem dksX9_speaksIn_0 : cX9_speaksIn.data.toList.drop 0 = dktX9_speaksIn_0 := by decide +kernel
theorem dksX9_speaksIn_1 : cX9_speaksIn.data.toList.drop 24 = dktX9_speaksIn_1 := dk_seg dksX9_speaksIn_0 24 rfl rfl
theorem dX9_speaksIn_0 : decode cX9_speaksIn 0 = .ok (.aload_n 0, 1) := dk_42 (dk_at dksX9_speaksIn_0 0 rfl rfl)
theorem dX9_speaksIn_1 : decode cX9_speaksIn 1 = .ok (.iconst 4, 1) := dk_7 (dk_at dksX9_speaksIn_0 1 rfl rfl)
theorem dX9_speaksIn_2 : decode cX9_speaksIn 2 = .ok (.iaload, 1) := dk_46 (dk_at dksX9_speaksIn_0 2 rfl rfl)
theorem dX9_speaksIn_3 : decode cX9_speaksIn 3 = .ok (.iload_n 1, 1) := dk_27 (dk_at dksX9_speaksIn_0 3 rfl rfl)
theorem dX9_speaksIn_4 : decode cX9_speaksIn 4 = .ok (.invokestatic 48, 3) := dk_184 0 48 (dk_at dksX9_speaksIn_0 4 rfl rfl)
theorem dX9_speaksIn_7 : decode cX9_speaksIn 7 = .ok (.ifCond .eq 8, 3) := dk_153 0 8 (dk_at dksX9_speaksIn_0 7 rfl rfl)
theorem dX9_speaksIn_10 : decode cX9_speaksIn 10 = .ok (.bipush 12, 2) := dk_16 12 (dk_at dksX9_speaksIn_0 10 rfl rfl)
theorem dX9_speaksIn_12 : decode cX9_speaksIn 12 = .ok (.goto 20, 3) := dk_167 0 20 (dk_at dksX9_speaksIn_0 12 rfl rfl)
theorem dX9_speaksIn_15 : decode cX9_speaksIn 15 = .ok (.aload_n 0, 1) := dk_42 (dk_at dksX9_speaksIn_0 15 rfl rfl)
theorem dX9_speaksIn_16 : decode cX9_speaksIn 16 = .ok (.iload_n 1, 1) := dk_27 (dk_at dksX9_speaksIn_0 16 rfl rfl)
theorem dX9_speaksIn_17 : decode cX9_speaksIn 17 = .ok (.iconst 0, 1) := dk_3 (dk_at dksX9_speaksIn_0 17 rfl rfl)
theorem dX9_speaksIn_18 : decode cX9_speaksIn 18 = .ok (.invokestatic 52, 3) := dk_184 0 52 (dk_at dksX9_speaksIn_0 18 rfl rfl)
theorem dX9_speaksIn_21 : decode cX9_speaksIn 21 = .ok (.iaload, 1) := dk_46 (dk_at dksX9_speaksIn_0 21 rfl rfl)
theorem dX9_speaksIn_22 : decode cX9_speaksIn 22 = .ok (.aload_n 0, 1) := dk_42 (dk_at dksX9_speaksIn_0 22 rfl rfl)
theorem dX9_speaksIn_23 : decode cX9_speaksIn 23 = .ok (.iload_n 1, 1) := dk_27 (dk_at dksX9_speaksIn_0 23 rfl rfl)
theorem dX9_speaksIn_24 : decode cX9_speaksIn 24 = .ok (.iconst 1, 1) := dk_4 (dk_at dksX9_speaksIn_1 0 rfl rfl)
theorem dX9_speaksIn_25 : decode cX9_speaksIn 25 = .ok (.invokestatic 52, 3) := dk_184 0 52 (dk_at dksX9_speaksIn_1 1 rfl rfl)
theorem dX9_speaksIn_28 : decode cX9_speaksIn 28 = .ok (.iaload, 1) := dk_46 (dk_at dksX9_speaksIn_1 4 rfl rfl)
theorem dX9_speaksIn_29 : decode cX9_speaksIn 29 = .ok (.invokestatic 55, 3) := dk_184 0 55 (dk_at dksX9_speaksIn_1 5 rfl rfl)
theorem dX9_speaksIn_32 : decode cX9_speaksIn 32 = .ok (.ireturn, 1) := dk_172 (dk_at dksX9_speaksIn_1 8 rfl rfl)
abbrev cX9_has : ByteArray := prog_24_method_9_code
def yX9_has : MethodName := ⟨RX9, "has", "(II)Z"⟩
def dkwX9_has_0 : List UInt8 := [26, 27, 122, 4, 126, 4, 160, 0, 7, 4, 167, 0, 4, 3, 172]
abbrev dktX9_has_0 : List UInt8 := dkwX9_has_0 ++ []
theorem dksX9_has_0 : cX9_has.data.toList.drop 0 = dktX9_has_0 := by decide +kernel
theorem dX9_has_0 : decode cX9_has 0 = .ok (.iload_n 0, 1) := dk_26 (dk_at dksX9_has_0 0 rfl rfl)
theorem dX9_has_1 : decode cX9_has 1 = .ok (.iload_n 1, 1) := dk_27 (dk_at dksX9_has_0 1 rfl rfl)
theorem dX9_has_2 : decode cX9_has 2 = .ok (.ishr, 1) := dk_122 (dk_at dksX9_has_0 2 rfl rfl)
theorem dX9_has_3 : decode cX9_has 3 = .ok (.iconst 1, 1) := dk_4 (dk_at dksX9_has_0 3 rfl rfl)
theorem dX9_has_4 : decode cX9_has 4 = .ok (.iand, 1) := dk_126 (dk_at dksX9_has_0 4 rfl rfl)
theorem dX9_has_5 : decode cX9_has 5 = .ok (.iconst 1, 1) := dk_4 (dk_at dksX9_has_0 5 rfl rfl)
theorem dX9_has_6 : decode cX9_has 6 = .ok (.if_icmp .ne 7, 3) := dk_160 0 7 (dk_at dksX9_has_0 6 rfl rfl)
theorem dX9_has_9 : decode cX9_has 9 = .ok (.iconst 1, 1) := dk_4 (dk_at dksX9_has_0 9 rfl rfl)
theorem dX9_has_10 : decode cX9_has 10 = .ok (.goto 4, 3) := dk_167 0 4 (dk_at dksX9_has_0 10 rfl rfl)
theorem dX9_has_13 : decode cX9_has 13 = .ok (.iconst 0, 1) := dk_3 (dk_at dksX9_has_0 13 rfl rfl)
theorem dX9_has_14 : decode cX9_has 14 = .ok (.ireturn, 1) := dk_172 (dk_at dksX9_has_0 14 rfl rfl)
abbrev cX9_speaksBy : ByteArray := prog_24_method_11_code
def yX9_speaksBy : MethodName := ⟨RX9, "speaksBy", "(II)I"⟩
def dkwX9_speaksBy_3 : List UInt8 := [184, 0, 44, 104, 184, 0, 44, 172, 28, 172]
abbrev dktX9_speaksBy_3 : List UInt8 := dkwX9_speaksBy_3 ++ []
def dkwX9_speaksBy_2 : List UInt8 := [16, 12, 28, 6, 96, 184, 0, 44, 172, 3, 172, 16, 12, 172, 16, 12, 5, 16, 12, 28, 6, 96]
abbrev dktX9_speaksBy_2 : List UInt8 := dkwX9_speaksBy_2 ++ dktX9_speaksBy_3
def dkwX9_speaksBy_1 : List UInt8 := [170, 0, 0, 0, 63, 0, 0, 0, 1, 0, 0, 0, 5, 0, 0, 0, 33, 0, 0, 0, 42, 0, 0, 0, 44, 0, 0, 0, 47, 0, 0, 0, 42]
abbrev dktX9_speaksBy_1 : List UInt8 := dkwX9_speaksBy_1 ++ dktX9_speaksBy_2
def dkwX9_speaksBy_0 : List UInt8 := [27, 5, 108, 4, 96, 61, 26]
abbrev dktX9_speaksBy_0 : List UInt8 := dkwX9_speaksBy_0 ++ dktX9_speaksBy_1
theorem dksX9_speaksBy_0 : cX9_speaksBy.data.toList.drop 0 = dktX9_speaksBy_0 := by decide +kernel
theorem dksX9_speaksBy_1 : cX9_speaksBy.data.toList.drop 7 = dktX9_speaksBy_1 := dk_seg dksX9_speaksBy_0 7 rfl rfl
theorem dksX9_speaksBy_2 : cX9_speaksBy.data.toList.drop 40 = dktX9_speaksBy_2 := dk_seg dksX9_speaksBy_1 33 rfl rfl
theorem dksX9_speaksBy_3 : cX9_speaksBy.data.toList.drop 62 = dktX9_speaksBy_3 := dk_seg dksX9_speaksBy_2 22 rfl rfl
theorem dX9_speaksBy_0 : decode cX9_speaksBy 0 = .ok (.iload_n 1, 1) := dk_27 (dk_at dksX9_speaksBy_0 0 rfl rfl)
theorem dX9_speaksBy_1 : decode cX9_speaksBy 1 = .ok (.iconst 2, 1) := dk_5 (dk_at dksX9_speaksBy_0 1 rfl rfl)
theorem dX9_speaksBy_2 : decode cX9_speaksBy 2 = .ok (.idiv, 1) := dk_108 (dk_at dksX9_speaksBy_0 2 rfl rfl)
theorem dX9_speaksBy_3 : decode cX9_speaksBy 3 = .ok (.iconst 1, 1) := dk_4 (dk_at dksX9_speaksBy_0 3 rfl rfl)
theorem dX9_speaksBy_4 : decode cX9_speaksBy 4 = .ok (.iadd, 1) := dk_96 (dk_at dksX9_speaksBy_0 4 rfl rfl)
theorem dX9_speaksBy_5 : decode cX9_speaksBy 5 = .ok (.istore_n 2, 1) := dk_61 (dk_at dksX9_speaksBy_0 5 rfl rfl)
theorem dX9_speaksBy_6 : decode cX9_speaksBy 6 = .ok (.iload_n 0, 1) := dk_26 (dk_at dksX9_speaksBy_0 6 rfl rfl)
theorem dX9_speaksBy_7 : decode cX9_speaksBy 7 = .ok (.tableswitch 63 1 5 #[33, 42, 44, 47, 42], 33) := by decide +kernel
theorem dX9_speaksBy_40 : decode cX9_speaksBy 40 = .ok (.bipush 12, 2) := dk_16 12 (dk_at dksX9_speaksBy_2 0 rfl rfl)
theorem dX9_speaksBy_42 : decode cX9_speaksBy 42 = .ok (.iload_n 2, 1) := dk_28 (dk_at dksX9_speaksBy_2 2 rfl rfl)
theorem dX9_speaksBy_43 : decode cX9_speaksBy 43 = .ok (.iconst 3, 1) := dk_6 (dk_at dksX9_speaksBy_2 3 rfl rfl)
theorem dX9_speaksBy_44 : decode cX9_speaksBy 44 = .ok (.iadd, 1) := dk_96 (dk_at dksX9_speaksBy_2 4 rfl rfl)
theorem dX9_speaksBy_45 : decode cX9_speaksBy 45 = .ok (.invokestatic 44, 3) := dk_184 0 44 (dk_at dksX9_speaksBy_2 5 rfl rfl)
theorem dX9_speaksBy_48 : decode cX9_speaksBy 48 = .ok (.ireturn, 1) := dk_172 (dk_at dksX9_speaksBy_2 8 rfl rfl)
theorem dX9_speaksBy_49 : decode cX9_speaksBy 49 = .ok (.iconst 0, 1) := dk_3 (dk_at dksX9_speaksBy_2 9 rfl rfl)
theorem dX9_speaksBy_50 : decode cX9_speaksBy 50 = .ok (.ireturn, 1) := dk_172 (dk_at dksX9_speaksBy_2 10 rfl rfl)
theorem dX9_speaksBy_51 : decode cX9_speaksBy 51 = .ok (.bipush 12, 2) := dk_16 12 (dk_at dksX9_speaksBy_2 11 rfl rfl)
theorem dX9_speaksBy_53 : decode cX9_speaksBy 53 = .ok (.ireturn, 1) := dk_172 (dk_at dksX9_speaksBy_2 13 rfl rfl)
theorem dX9_speaksBy_54 : decode cX9_speaksBy 54 = .ok (.bipush 12, 2) := dk_16 12 (dk_at dksX9_speaksBy_2 14 rfl rfl)
theorem dX9_speaksBy_56 : decode cX9_speaksBy 56 = .ok (.iconst 2, 1) := dk_5 (dk_at dksX9_speaksBy_2 16 rfl rfl)
theorem dX9_speaksBy_57 : decode cX9_speaksBy 57 = .ok (.bipush 12, 2) := dk_16 12 (dk_at dksX9_speaksBy_2 17 rfl rfl)
theorem dX9_speaksBy_59 : decode cX9_speaksBy 59 = .ok (.iload_n 2, 1) := dk_28 (dk_at dksX9_speaksBy_2 19 rfl rfl)
theorem dX9_speaksBy_60 : decode cX9_speaksBy 60 = .ok (.iconst 3, 1) := dk_6 (dk_at dksX9_speaksBy_2 20 rfl rfl)
theorem dX9_speaksBy_61 : decode cX9_speaksBy 61 = .ok (.iadd, 1) := dk_96 (dk_at dksX9_speaksBy_2 21 rfl rfl)
theorem dX9_speaksBy_62 : decode cX9_speaksBy 62 = .ok (.invokestatic 44, 3) := dk_184 0 44 (dk_at dksX9_speaksBy_3 0 rfl rfl)
theorem dX9_speaksBy_65 : decode cX9_speaksBy 65 = .ok (.imul, 1) := dk_104 (dk_at dksX9_speaksBy_3 3 rfl rfl)
theorem dX9_speaksBy_66 : decode cX9_speaksBy 66 = .ok (.invokestatic 44, 3) := dk_184 0 44 (dk_at dksX9_speaksBy_3 4 rfl rfl)
theorem dX9_speaksBy_69 : decode cX9_speaksBy 69 = .ok (.ireturn, 1) := dk_172 (dk_at dksX9_speaksBy_3 7 rfl rfl)
theorem dX9_speaksBy_70 : decode cX9_speaksBy 70 = .ok (.iload_n 2, 1) := dk_28 (dk_at dksX9_speaksBy_3 8 rfl rfl)
theorem dX9_speaksBy_71 : decode cX9_speaksBy 71 = .ok (.ireturn, 1) := dk_172 (dk_at dksX9_speaksBy_3 9 rfl rfl)
abbrev cX9_draws : ByteArray := prog_24_method_15_code
def yX9_draws : MethodName := ⟨RX9, "draws", "([II)V"⟩
def dkwX9_draws_5 : List UInt8 := [184, 0, 52, 16, 99, 42, 29, 6, 184, 0, 52, 46, 28, 5, 108, 96, 184, 0, 44, 79, 177]
abbrev dktX9_draws_5 : List UInt8 := dkwX9_draws_5 ++ []
def dkwX9_draws_4 : List UInt8 := [184, 0, 52, 46, 161, 0, 4, 177, 42, 27, 6, 184, 0, 52, 92, 46, 28, 5, 108, 100, 79, 42, 29, 6]
abbrev dktX9_draws_4 : List UInt8 := dkwX9_draws_4 ++ dktX9_draws_5
def dkwX9_draws_3 : List UInt8 := [162, 0, 30, 42, 29, 7, 184, 0, 52, 46, 153, 0, 20, 42, 29, 6, 184, 0, 52, 46, 42, 27, 6]
abbrev dktX9_draws_3 : List UInt8 := dkwX9_draws_3 ++ dktX9_draws_4
def dkwX9_draws_2 : List UInt8 := [184, 0, 52, 4, 79, 42, 27, 16, 6, 184, 0, 52, 46, 62, 29, 27, 159, 0, 37, 29, 42, 3, 46]
abbrev dktX9_draws_2 : List UInt8 := dkwX9_draws_2 ++ dktX9_draws_3
def dkwX9_draws_1 : List UInt8 := [5, 92, 46, 28, 100, 79, 42, 27, 6, 184, 0, 52, 92, 46, 28, 96, 79, 28, 158, 0, 11, 42, 27, 8]
abbrev dktX9_draws_1 : List UInt8 := dkwX9_draws_1 ++ dktX9_draws_2
def dkwX9_draws_0 : List UInt8 := [42, 27, 184, 0, 58, 154, 0, 4, 177, 42, 27, 5, 184, 0, 52, 46, 42, 5, 46, 184, 0, 44, 61, 42]
abbrev dktX9_draws_0 : List UInt8 := dkwX9_draws_0 ++ dktX9_draws_1
theorem dksX9_draws_0 : cX9_draws.data.toList.drop 0 = dktX9_draws_0 := by decide +kernel
theorem dksX9_draws_1 : cX9_draws.data.toList.drop 24 = dktX9_draws_1 := dk_seg dksX9_draws_0 24 rfl rfl
theorem dksX9_draws_2 : cX9_draws.data.toList.drop 48 = dktX9_draws_2 := dk_seg dksX9_draws_1 24 rfl rfl
theorem dksX9_draws_3 : cX9_draws.data.toList.drop 71 = dktX9_draws_3 := dk_seg dksX9_draws_2 23 rfl rfl
theorem dksX9_draws_4 : cX9_draws.data.toList.drop 94 = dktX9_draws_4 := dk_seg dksX9_draws_3 23 rfl rfl
theorem dksX9_draws_5 : cX9_draws.data.toList.drop 118 = dktX9_draws_5 := dk_seg dksX9_draws_4 24 rfl rfl
theorem dX9_draws_0 : decode cX9_draws 0 = .ok (.aload_n 0, 1) := dk_42 (dk_at dksX9_draws_0 0 rfl rfl)
theorem dX9_draws_1 : decode cX9_draws 1 = .ok (.iload_n 1, 1) := dk_27 (dk_at dksX9_draws_0 1 rfl rfl)
theorem dX9_draws_2 : decode cX9_draws 2 = .ok (.invokestatic 58, 3) := dk_184 0 58 (dk_at dksX9_draws_0 2 rfl rfl)
theorem dX9_draws_5 : decode cX9_draws 5 = .ok (.ifCond .ne 4, 3) := dk_154 0 4 (dk_at dksX9_draws_0 5 rfl rfl)
theorem dX9_draws_8 : decode cX9_draws 8 = .ok (.return_, 1) := dk_177 (dk_at dksX9_draws_0 8 rfl rfl)
theorem dX9_draws_9 : decode cX9_draws 9 = .ok (.aload_n 0, 1) := dk_42 (dk_at dksX9_draws_0 9 rfl rfl)
theorem dX9_draws_10 : decode cX9_draws 10 = .ok (.iload_n 1, 1) := dk_27 (dk_at dksX9_draws_0 10 rfl rfl)
theorem dX9_draws_11 : decode cX9_draws 11 = .ok (.iconst 2, 1) := dk_5 (dk_at dksX9_draws_0 11 rfl rfl)
theorem dX9_draws_12 : decode cX9_draws 12 = .ok (.invokestatic 52, 3) := dk_184 0 52 (dk_at dksX9_draws_0 12 rfl rfl)
theorem dX9_draws_15 : decode cX9_draws 15 = .ok (.iaload, 1) := dk_46 (dk_at dksX9_draws_0 15 rfl rfl)
theorem dX9_draws_16 : decode cX9_draws 16 = .ok (.aload_n 0, 1) := dk_42 (dk_at dksX9_draws_0 16 rfl rfl)
theorem dX9_draws_17 : decode cX9_draws 17 = .ok (.iconst 2, 1) := dk_5 (dk_at dksX9_draws_0 17 rfl rfl)
theorem dX9_draws_18 : decode cX9_draws 18 = .ok (.iaload, 1) := dk_46 (dk_at dksX9_draws_0 18 rfl rfl)
theorem dX9_draws_19 : decode cX9_draws 19 = .ok (.invokestatic 44, 3) := dk_184 0 44 (dk_at dksX9_draws_0 19 rfl rfl)
theorem dX9_draws_22 : decode cX9_draws 22 = .ok (.istore_n 2, 1) := dk_61 (dk_at dksX9_draws_0 22 rfl rfl)
theorem dX9_draws_23 : decode cX9_draws 23 = .ok (.aload_n 0, 1) := dk_42 (dk_at dksX9_draws_0 23 rfl rfl)
theorem dX9_draws_24 : decode cX9_draws 24 = .ok (.iconst 2, 1) := dk_5 (dk_at dksX9_draws_1 0 rfl rfl)
theorem dX9_draws_25 : decode cX9_draws 25 = .ok (.dup2, 1) := dk_92 (dk_at dksX9_draws_1 1 rfl rfl)
theorem dX9_draws_26 : decode cX9_draws 26 = .ok (.iaload, 1) := dk_46 (dk_at dksX9_draws_1 2 rfl rfl)
theorem dX9_draws_27 : decode cX9_draws 27 = .ok (.iload_n 2, 1) := dk_28 (dk_at dksX9_draws_1 3 rfl rfl)
theorem dX9_draws_28 : decode cX9_draws 28 = .ok (.isub, 1) := dk_100 (dk_at dksX9_draws_1 4 rfl rfl)
theorem dX9_draws_29 : decode cX9_draws 29 = .ok (.iastore, 1) := dk_79 (dk_at dksX9_draws_1 5 rfl rfl)
theorem dX9_draws_30 : decode cX9_draws 30 = .ok (.aload_n 0, 1) := dk_42 (dk_at dksX9_draws_1 6 rfl rfl)
theorem dX9_draws_31 : decode cX9_draws 31 = .ok (.iload_n 1, 1) := dk_27 (dk_at dksX9_draws_1 7 rfl rfl)
theorem dX9_draws_32 : decode cX9_draws 32 = .ok (.iconst 3, 1) := dk_6 (dk_at dksX9_draws_1 8 rfl rfl)
theorem dX9_draws_33 : decode cX9_draws 33 = .ok (.invokestatic 52, 3) := dk_184 0 52 (dk_at dksX9_draws_1 9 rfl rfl)
theorem dX9_draws_36 : decode cX9_draws 36 = .ok (.dup2, 1) := dk_92 (dk_at dksX9_draws_1 12 rfl rfl)
theorem dX9_draws_37 : decode cX9_draws 37 = .ok (.iaload, 1) := dk_46 (dk_at dksX9_draws_1 13 rfl rfl)
theorem dX9_draws_38 : decode cX9_draws 38 = .ok (.iload_n 2, 1) := dk_28 (dk_at dksX9_draws_1 14 rfl rfl)
theorem dX9_draws_39 : decode cX9_draws 39 = .ok (.iadd, 1) := dk_96 (dk_at dksX9_draws_1 15 rfl rfl)
theorem dX9_draws_40 : decode cX9_draws 40 = .ok (.iastore, 1) := dk_79 (dk_at dksX9_draws_1 16 rfl rfl)
theorem dX9_draws_41 : decode cX9_draws 41 = .ok (.iload_n 2, 1) := dk_28 (dk_at dksX9_draws_1 17 rfl rfl)
theorem dX9_draws_42 : decode cX9_draws 42 = .ok (.ifCond .le 11, 3) := dk_158 0 11 (dk_at dksX9_draws_1 18 rfl rfl)
theorem dX9_draws_45 : decode cX9_draws 45 = .ok (.aload_n 0, 1) := dk_42 (dk_at dksX9_draws_1 21 rfl rfl)
theorem dX9_draws_46 : decode cX9_draws 46 = .ok (.iload_n 1, 1) := dk_27 (dk_at dksX9_draws_1 22 rfl rfl)
theorem dX9_draws_47 : decode cX9_draws 47 = .ok (.iconst 5, 1) := dk_8 (dk_at dksX9_draws_1 23 rfl rfl)
theorem dX9_draws_48 : decode cX9_draws 48 = .ok (.invokestatic 52, 3) := dk_184 0 52 (dk_at dksX9_draws_2 0 rfl rfl)
theorem dX9_draws_51 : decode cX9_draws 51 = .ok (.iconst 1, 1) := dk_4 (dk_at dksX9_draws_2 3 rfl rfl)
theorem dX9_draws_52 : decode cX9_draws 52 = .ok (.iastore, 1) := dk_79 (dk_at dksX9_draws_2 4 rfl rfl)
theorem dX9_draws_53 : decode cX9_draws 53 = .ok (.aload_n 0, 1) := dk_42 (dk_at dksX9_draws_2 5 rfl rfl)
theorem dX9_draws_54 : decode cX9_draws 54 = .ok (.iload_n 1, 1) := dk_27 (dk_at dksX9_draws_2 6 rfl rfl)
theorem dX9_draws_55 : decode cX9_draws 55 = .ok (.bipush 6, 2) := dk_16 6 (dk_at dksX9_draws_2 7 rfl rfl)
theorem dX9_draws_57 : decode cX9_draws 57 = .ok (.invokestatic 52, 3) := dk_184 0 52 (dk_at dksX9_draws_2 9 rfl rfl)
theorem dX9_draws_60 : decode cX9_draws 60 = .ok (.iaload, 1) := dk_46 (dk_at dksX9_draws_2 12 rfl rfl)
theorem dX9_draws_61 : decode cX9_draws 61 = .ok (.istore_n 3, 1) := dk_62 (dk_at dksX9_draws_2 13 rfl rfl)
theorem dX9_draws_62 : decode cX9_draws 62 = .ok (.iload_n 3, 1) := dk_29 (dk_at dksX9_draws_2 14 rfl rfl)
theorem dX9_draws_63 : decode cX9_draws 63 = .ok (.iload_n 1, 1) := dk_27 (dk_at dksX9_draws_2 15 rfl rfl)
theorem dX9_draws_64 : decode cX9_draws 64 = .ok (.if_icmp .eq 37, 3) := dk_159 0 37 (dk_at dksX9_draws_2 16 rfl rfl)
theorem dX9_draws_67 : decode cX9_draws 67 = .ok (.iload_n 3, 1) := dk_29 (dk_at dksX9_draws_2 19 rfl rfl)
theorem dX9_draws_68 : decode cX9_draws 68 = .ok (.aload_n 0, 1) := dk_42 (dk_at dksX9_draws_2 20 rfl rfl)
theorem dX9_draws_69 : decode cX9_draws 69 = .ok (.iconst 0, 1) := dk_3 (dk_at dksX9_draws_2 21 rfl rfl)
theorem dX9_draws_70 : decode cX9_draws 70 = .ok (.iaload, 1) := dk_46 (dk_at dksX9_draws_2 22 rfl rfl)
theorem dX9_draws_71 : decode cX9_draws 71 = .ok (.if_icmp .ge 30, 3) := dk_162 0 30 (dk_at dksX9_draws_3 0 rfl rfl)
theorem dX9_draws_74 : decode cX9_draws 74 = .ok (.aload_n 0, 1) := dk_42 (dk_at dksX9_draws_3 3 rfl rfl)
theorem dX9_draws_75 : decode cX9_draws 75 = .ok (.iload_n 3, 1) := dk_29 (dk_at dksX9_draws_3 4 rfl rfl)
theorem dX9_draws_76 : decode cX9_draws 76 = .ok (.iconst 4, 1) := dk_7 (dk_at dksX9_draws_3 5 rfl rfl)
theorem dX9_draws_77 : decode cX9_draws 77 = .ok (.invokestatic 52, 3) := dk_184 0 52 (dk_at dksX9_draws_3 6 rfl rfl)
theorem dX9_draws_80 : decode cX9_draws 80 = .ok (.iaload, 1) := dk_46 (dk_at dksX9_draws_3 9 rfl rfl)
theorem dX9_draws_81 : decode cX9_draws 81 = .ok (.ifCond .eq 20, 3) := dk_153 0 20 (dk_at dksX9_draws_3 10 rfl rfl)
theorem dX9_draws_84 : decode cX9_draws 84 = .ok (.aload_n 0, 1) := dk_42 (dk_at dksX9_draws_3 13 rfl rfl)
theorem dX9_draws_85 : decode cX9_draws 85 = .ok (.iload_n 3, 1) := dk_29 (dk_at dksX9_draws_3 14 rfl rfl)
theorem dX9_draws_86 : decode cX9_draws 86 = .ok (.iconst 3, 1) := dk_6 (dk_at dksX9_draws_3 15 rfl rfl)
theorem dX9_draws_87 : decode cX9_draws 87 = .ok (.invokestatic 52, 3) := dk_184 0 52 (dk_at dksX9_draws_3 16 rfl rfl)
theorem dX9_draws_90 : decode cX9_draws 90 = .ok (.iaload, 1) := dk_46 (dk_at dksX9_draws_3 19 rfl rfl)
theorem dX9_draws_91 : decode cX9_draws 91 = .ok (.aload_n 0, 1) := dk_42 (dk_at dksX9_draws_3 20 rfl rfl)
theorem dX9_draws_92 : decode cX9_draws 92 = .ok (.iload_n 1, 1) := dk_27 (dk_at dksX9_draws_3 21 rfl rfl)
theorem dX9_draws_93 : decode cX9_draws 93 = .ok (.iconst 3, 1) := dk_6 (dk_at dksX9_draws_3 22 rfl rfl)
theorem dX9_draws_94 : decode cX9_draws 94 = .ok (.invokestatic 52, 3) := dk_184 0 52 (dk_at dksX9_draws_4 0 rfl rfl)
theorem dX9_draws_97 : decode cX9_draws 97 = .ok (.iaload, 1) := dk_46 (dk_at dksX9_draws_4 3 rfl rfl)
theorem dX9_draws_98 : decode cX9_draws 98 = .ok (.if_icmp .lt 4, 3) := dk_161 0 4 (dk_at dksX9_draws_4 4 rfl rfl)
theorem dX9_draws_101 : decode cX9_draws 101 = .ok (.return_, 1) := dk_177 (dk_at dksX9_draws_4 7 rfl rfl)
theorem dX9_draws_102 : decode cX9_draws 102 = .ok (.aload_n 0, 1) := dk_42 (dk_at dksX9_draws_4 8 rfl rfl)
theorem dX9_draws_103 : decode cX9_draws 103 = .ok (.iload_n 1, 1) := dk_27 (dk_at dksX9_draws_4 9 rfl rfl)
theorem dX9_draws_104 : decode cX9_draws 104 = .ok (.iconst 3, 1) := dk_6 (dk_at dksX9_draws_4 10 rfl rfl)
theorem dX9_draws_105 : decode cX9_draws 105 = .ok (.invokestatic 52, 3) := dk_184 0 52 (dk_at dksX9_draws_4 11 rfl rfl)
theorem dX9_draws_108 : decode cX9_draws 108 = .ok (.dup2, 1) := dk_92 (dk_at dksX9_draws_4 14 rfl rfl)
theorem dX9_draws_109 : decode cX9_draws 109 = .ok (.iaload, 1) := dk_46 (dk_at dksX9_draws_4 15 rfl rfl)
theorem dX9_draws_110 : decode cX9_draws 110 = .ok (.iload_n 2, 1) := dk_28 (dk_at dksX9_draws_4 16 rfl rfl)
theorem dX9_draws_111 : decode cX9_draws 111 = .ok (.iconst 2, 1) := dk_5 (dk_at dksX9_draws_4 17 rfl rfl)
theorem dX9_draws_112 : decode cX9_draws 112 = .ok (.idiv, 1) := dk_108 (dk_at dksX9_draws_4 18 rfl rfl)
theorem dX9_draws_113 : decode cX9_draws 113 = .ok (.isub, 1) := dk_100 (dk_at dksX9_draws_4 19 rfl rfl)
theorem dX9_draws_114 : decode cX9_draws 114 = .ok (.iastore, 1) := dk_79 (dk_at dksX9_draws_4 20 rfl rfl)
theorem dX9_draws_115 : decode cX9_draws 115 = .ok (.aload_n 0, 1) := dk_42 (dk_at dksX9_draws_4 21 rfl rfl)
theorem dX9_draws_116 : decode cX9_draws 116 = .ok (.iload_n 3, 1) := dk_29 (dk_at dksX9_draws_4 22 rfl rfl)
theorem dX9_draws_117 : decode cX9_draws 117 = .ok (.iconst 3, 1) := dk_6 (dk_at dksX9_draws_4 23 rfl rfl)
theorem dX9_draws_118 : decode cX9_draws 118 = .ok (.invokestatic 52, 3) := dk_184 0 52 (dk_at dksX9_draws_5 0 rfl rfl)
theorem dX9_draws_121 : decode cX9_draws 121 = .ok (.bipush 99, 2) := dk_16 99 (dk_at dksX9_draws_5 3 rfl rfl)
theorem dX9_draws_123 : decode cX9_draws 123 = .ok (.aload_n 0, 1) := dk_42 (dk_at dksX9_draws_5 5 rfl rfl)
theorem dX9_draws_124 : decode cX9_draws 124 = .ok (.iload_n 3, 1) := dk_29 (dk_at dksX9_draws_5 6 rfl rfl)
theorem dX9_draws_125 : decode cX9_draws 125 = .ok (.iconst 3, 1) := dk_6 (dk_at dksX9_draws_5 7 rfl rfl)
theorem dX9_draws_126 : decode cX9_draws 126 = .ok (.invokestatic 52, 3) := dk_184 0 52 (dk_at dksX9_draws_5 8 rfl rfl)
theorem dX9_draws_129 : decode cX9_draws 129 = .ok (.iaload, 1) := dk_46 (dk_at dksX9_draws_5 11 rfl rfl)
theorem dX9_draws_130 : decode cX9_draws 130 = .ok (.iload_n 2, 1) := dk_28 (dk_at dksX9_draws_5 12 rfl rfl)
theorem dX9_draws_131 : decode cX9_draws 131 = .ok (.iconst 2, 1) := dk_5 (dk_at dksX9_draws_5 13 rfl rfl)
theorem dX9_draws_132 : decode cX9_draws 132 = .ok (.idiv, 1) := dk_108 (dk_at dksX9_draws_5 14 rfl rfl)
theorem dX9_draws_133 : decode cX9_draws 133 = .ok (.iadd, 1) := dk_96 (dk_at dksX9_draws_5 15 rfl rfl)
theorem dX9_draws_134 : decode cX9_draws 134 = .ok (.invokestatic 44, 3) := dk_184 0 44 (dk_at dksX9_draws_5 16 rfl rfl)
theorem dX9_draws_137 : decode cX9_draws 137 = .ok (.iastore, 1) := dk_79 (dk_at dksX9_draws_5 19 rfl rfl)
theorem dX9_draws_138 : decode cX9_draws 138 = .ok (.return_, 1) := dk_177 (dk_at dksX9_draws_5 20 rfl rfl)
abbrev cX9_mayDraw : ByteArray := prog_24_method_14_code
def yX9_mayDraw : MethodName := ⟨RX9, "mayDraw", "([II)Z"⟩
def dkwX9_mayDraw_2 : List UInt8 := [184, 0, 48, 154, 0, 7, 4, 167, 0, 4, 3, 172]
abbrev dktX9_mayDraw_2 : List UInt8 := dkwX9_mayDraw_2 ++ []
def dkwX9_mayDraw_1 : List UInt8 := [7, 184, 0, 52, 46, 153, 0, 24, 42, 27, 3, 184, 0, 52, 46, 8, 160, 0, 17, 42, 7, 46, 27]
abbrev dktX9_mayDraw_1 : List UInt8 := dkwX9_mayDraw_1 ++ dktX9_mayDraw_2
def dkwX9_mayDraw_0 : List UInt8 := [42, 27, 8, 184, 0, 52, 46, 154, 0, 50, 42, 27, 6, 184, 0, 52, 46, 16, 20, 162, 0, 38, 42, 27]
abbrev dktX9_mayDraw_0 : List UInt8 := dkwX9_mayDraw_0 ++ dktX9_mayDraw_1
theorem dksX9_mayDraw_0 : cX9_mayDraw.data.toList.drop 0 = dktX9_mayDraw_0 := by decide +kernel
theorem dksX9_mayDraw_1 : cX9_mayDraw.data.toList.drop 24 = dktX9_mayDraw_1 := dk_seg dksX9_mayDraw_0 24 rfl rfl
theorem dksX9_mayDraw_2 : cX9_mayDraw.data.toList.drop 47 = dktX9_mayDraw_2 := dk_seg dksX9_mayDraw_1 23 rfl rfl
theorem dX9_mayDraw_0 : decode cX9_mayDraw 0 = .ok (.aload_n 0, 1) := dk_42 (dk_at dksX9_mayDraw_0 0 rfl rfl)
theorem dX9_mayDraw_1 : decode cX9_mayDraw 1 = .ok (.iload_n 1, 1) := dk_27 (dk_at dksX9_mayDraw_0 1 rfl rfl)
theorem dX9_mayDraw_2 : decode cX9_mayDraw 2 = .ok (.iconst 5, 1) := dk_8 (dk_at dksX9_mayDraw_0 2 rfl rfl)
theorem dX9_mayDraw_3 : decode cX9_mayDraw 3 = .ok (.invokestatic 52, 3) := dk_184 0 52 (dk_at dksX9_mayDraw_0 3 rfl rfl)
theorem dX9_mayDraw_6 : decode cX9_mayDraw 6 = .ok (.iaload, 1) := dk_46 (dk_at dksX9_mayDraw_0 6 rfl rfl)
theorem dX9_mayDraw_7 : decode cX9_mayDraw 7 = .ok (.ifCond .ne 50, 3) := dk_154 0 50 (dk_at dksX9_mayDraw_0 7 rfl rfl)
theorem dX9_mayDraw_10 : decode cX9_mayDraw 10 = .ok (.aload_n 0, 1) := dk_42 (dk_at dksX9_mayDraw_0 10 rfl rfl)
theorem dX9_mayDraw_11 : decode cX9_mayDraw 11 = .ok (.iload_n 1, 1) := dk_27 (dk_at dksX9_mayDraw_0 11 rfl rfl)
theorem dX9_mayDraw_12 : decode cX9_mayDraw 12 = .ok (.iconst 3, 1) := dk_6 (dk_at dksX9_mayDraw_0 12 rfl rfl)
theorem dX9_mayDraw_13 : decode cX9_mayDraw 13 = .ok (.invokestatic 52, 3) := dk_184 0 52 (dk_at dksX9_mayDraw_0 13 rfl rfl)
theorem dX9_mayDraw_16 : decode cX9_mayDraw 16 = .ok (.iaload, 1) := dk_46 (dk_at dksX9_mayDraw_0 16 rfl rfl)
theorem dX9_mayDraw_17 : decode cX9_mayDraw 17 = .ok (.bipush 20, 2) := dk_16 20 (dk_at dksX9_mayDraw_0 17 rfl rfl)
theorem dX9_mayDraw_19 : decode cX9_mayDraw 19 = .ok (.if_icmp .ge 38, 3) := dk_162 0 38 (dk_at dksX9_mayDraw_0 19 rfl rfl)
theorem dX9_mayDraw_22 : decode cX9_mayDraw 22 = .ok (.aload_n 0, 1) := dk_42 (dk_at dksX9_mayDraw_0 22 rfl rfl)
theorem dX9_mayDraw_23 : decode cX9_mayDraw 23 = .ok (.iload_n 1, 1) := dk_27 (dk_at dksX9_mayDraw_0 23 rfl rfl)
theorem dX9_mayDraw_24 : decode cX9_mayDraw 24 = .ok (.iconst 4, 1) := dk_7 (dk_at dksX9_mayDraw_1 0 rfl rfl)
theorem dX9_mayDraw_25 : decode cX9_mayDraw 25 = .ok (.invokestatic 52, 3) := dk_184 0 52 (dk_at dksX9_mayDraw_1 1 rfl rfl)
theorem dX9_mayDraw_28 : decode cX9_mayDraw 28 = .ok (.iaload, 1) := dk_46 (dk_at dksX9_mayDraw_1 4 rfl rfl)
theorem dX9_mayDraw_29 : decode cX9_mayDraw 29 = .ok (.ifCond .eq 24, 3) := dk_153 0 24 (dk_at dksX9_mayDraw_1 5 rfl rfl)
theorem dX9_mayDraw_32 : decode cX9_mayDraw 32 = .ok (.aload_n 0, 1) := dk_42 (dk_at dksX9_mayDraw_1 8 rfl rfl)
theorem dX9_mayDraw_33 : decode cX9_mayDraw 33 = .ok (.iload_n 1, 1) := dk_27 (dk_at dksX9_mayDraw_1 9 rfl rfl)
theorem dX9_mayDraw_34 : decode cX9_mayDraw 34 = .ok (.iconst 0, 1) := dk_3 (dk_at dksX9_mayDraw_1 10 rfl rfl)
theorem dX9_mayDraw_35 : decode cX9_mayDraw 35 = .ok (.invokestatic 52, 3) := dk_184 0 52 (dk_at dksX9_mayDraw_1 11 rfl rfl)
theorem dX9_mayDraw_38 : decode cX9_mayDraw 38 = .ok (.iaload, 1) := dk_46 (dk_at dksX9_mayDraw_1 14 rfl rfl)
theorem dX9_mayDraw_39 : decode cX9_mayDraw 39 = .ok (.iconst 5, 1) := dk_8 (dk_at dksX9_mayDraw_1 15 rfl rfl)
theorem dX9_mayDraw_40 : decode cX9_mayDraw 40 = .ok (.if_icmp .ne 17, 3) := dk_160 0 17 (dk_at dksX9_mayDraw_1 16 rfl rfl)
theorem dX9_mayDraw_43 : decode cX9_mayDraw 43 = .ok (.aload_n 0, 1) := dk_42 (dk_at dksX9_mayDraw_1 19 rfl rfl)
theorem dX9_mayDraw_44 : decode cX9_mayDraw 44 = .ok (.iconst 4, 1) := dk_7 (dk_at dksX9_mayDraw_1 20 rfl rfl)
theorem dX9_mayDraw_45 : decode cX9_mayDraw 45 = .ok (.iaload, 1) := dk_46 (dk_at dksX9_mayDraw_1 21 rfl rfl)
theorem dX9_mayDraw_46 : decode cX9_mayDraw 46 = .ok (.iload_n 1, 1) := dk_27 (dk_at dksX9_mayDraw_1 22 rfl rfl)
theorem dX9_mayDraw_47 : decode cX9_mayDraw 47 = .ok (.invokestatic 48, 3) := dk_184 0 48 (dk_at dksX9_mayDraw_2 0 rfl rfl)
theorem dX9_mayDraw_50 : decode cX9_mayDraw 50 = .ok (.ifCond .ne 7, 3) := dk_154 0 7 (dk_at dksX9_mayDraw_2 3 rfl rfl)
theorem dX9_mayDraw_53 : decode cX9_mayDraw 53 = .ok (.iconst 1, 1) := dk_4 (dk_at dksX9_mayDraw_2 6 rfl rfl)
theorem dX9_mayDraw_54 : decode cX9_mayDraw 54 = .ok (.goto 4, 3) := dk_167 0 4 (dk_at dksX9_mayDraw_2 7 rfl rfl)
theorem dX9_mayDraw_57 : decode cX9_mayDraw 57 = .ok (.iconst 0, 1) := dk_3 (dk_at dksX9_mayDraw_2 10 rfl rfl)
theorem dX9_mayDraw_58 : decode cX9_mayDraw 58 = .ok (.ireturn, 1) := dk_172 (dk_at dksX9_mayDraw_2 11 rfl rfl)
abbrev cX9_drinksBy : ByteArray := prog_24_method_12_code
def yX9_drinksBy : MethodName := ⟨RX9, "drinksBy", "(I)I"⟩
def dkwX9_drinksBy_2 : List UInt8 := [5, 172, 7, 172, 4, 172, 6, 172]
abbrev dktX9_drinksBy_2 : List UInt8 := dkwX9_drinksBy_2 ++ []
def dkwX9_drinksBy_1 : List UInt8 := [170, 0, 0, 0, 0, 0, 41, 0, 0, 0, 1, 0, 0, 0, 5, 0, 0, 0, 35, 0, 0, 0, 37, 0, 0, 0, 35, 0, 0, 0, 39, 0, 0, 0, 37]
abbrev dktX9_drinksBy_1 : List UInt8 := dkwX9_drinksBy_1 ++ dktX9_drinksBy_2
def dkwX9_drinksBy_0 : List UInt8 := [26]
abbrev dktX9_drinksBy_0 : List UInt8 := dkwX9_drinksBy_0 ++ dktX9_drinksBy_1
theorem dksX9_drinksBy_0 : cX9_drinksBy.data.toList.drop 0 = dktX9_drinksBy_0 := by decide +kernel
theorem dksX9_drinksBy_1 : cX9_drinksBy.data.toList.drop 1 = dktX9_drinksBy_1 := dk_seg dksX9_drinksBy_0 1 rfl rfl
theorem dksX9_drinksBy_2 : cX9_drinksBy.data.toList.drop 36 = dktX9_drinksBy_2 := dk_seg dksX9_drinksBy_1 35 rfl rfl
theorem dX9_drinksBy_0 : decode cX9_drinksBy 0 = .ok (.iload_n 0, 1) := dk_26 (dk_at dksX9_drinksBy_0 0 rfl rfl)
theorem dX9_drinksBy_1 : decode cX9_drinksBy 1 = .ok (.tableswitch 41 1 5 #[35, 37, 35, 39, 37], 35) := by decide +kernel
theorem dX9_drinksBy_36 : decode cX9_drinksBy 36 = .ok (.iconst 2, 1) := dk_5 (dk_at dksX9_drinksBy_2 0 rfl rfl)
theorem dX9_drinksBy_37 : decode cX9_drinksBy 37 = .ok (.ireturn, 1) := dk_172 (dk_at dksX9_drinksBy_2 1 rfl rfl)
theorem dX9_drinksBy_38 : decode cX9_drinksBy 38 = .ok (.iconst 4, 1) := dk_7 (dk_at dksX9_drinksBy_2 2 rfl rfl)
theorem dX9_drinksBy_39 : decode cX9_drinksBy 39 = .ok (.ireturn, 1) := dk_172 (dk_at dksX9_drinksBy_2 3 rfl rfl)
theorem dX9_drinksBy_40 : decode cX9_drinksBy 40 = .ok (.iconst 1, 1) := dk_4 (dk_at dksX9_drinksBy_2 4 rfl rfl)
theorem dX9_drinksBy_41 : decode cX9_drinksBy 41 = .ok (.ireturn, 1) := dk_172 (dk_at dksX9_drinksBy_2 5 rfl rfl)
theorem dX9_drinksBy_42 : decode cX9_drinksBy 42 = .ok (.iconst 3, 1) := dk_6 (dk_at dksX9_drinksBy_2 6 rfl rfl)
theorem dX9_drinksBy_43 : decode cX9_drinksBy 43 = .ok (.ireturn, 1) := dk_172 (dk_at dksX9_drinksBy_2 7 rfl rfl)
abbrev cX9_person : ByteArray := prog_24_method_30_code
def yX9_person : MethodName := ⟨RX9, "person", "(II)I"⟩
def dkwX9_person_3 : List UInt8 := [184, 0, 70, 167, 0, 9, 42, 16, 254, 182, 0, 36, 172]
abbrev dktX9_person_3 : List UInt8 := dkwX9_person_3 ++ []
def dkwX9_person_2 : List UInt8 := [184, 0, 62, 167, 0, 31, 28, 16, 8, 160, 0, 19, 42, 180, 0, 9, 27, 3, 184, 0, 52, 46]
abbrev dktX9_person_2 : List UInt8 := dkwX9_person_2 ++ dktX9_person_3
def dkwX9_person_1 : List UInt8 := [42, 180, 0, 9, 27, 28, 184, 0, 52, 46, 172, 28, 16, 7, 160, 0, 14, 42, 180, 0, 9, 27]
abbrev dktX9_person_1 : List UInt8 := dkwX9_person_1 ++ dktX9_person_2
def dkwX9_person_0 : List UInt8 := [42, 27, 182, 0, 100, 154, 0, 9, 42, 2, 182, 0, 36, 172, 28, 3, 16, 6, 184, 0, 40, 153, 0, 14]
abbrev dktX9_person_0 : List UInt8 := dkwX9_person_0 ++ dktX9_person_1
theorem dksX9_person_0 : cX9_person.data.toList.drop 0 = dktX9_person_0 := by decide +kernel
theorem dksX9_person_1 : cX9_person.data.toList.drop 24 = dktX9_person_1 := dk_seg dksX9_person_0 24 rfl rfl
theorem dksX9_person_2 : cX9_person.data.toList.drop 46 = dktX9_person_2 := dk_seg dksX9_person_1 22 rfl rfl
theorem dksX9_person_3 : cX9_person.data.toList.drop 68 = dktX9_person_3 := dk_seg dksX9_person_2 22 rfl rfl
theorem dX9_person_0 : decode cX9_person 0 = .ok (.aload_n 0, 1) := dk_42 (dk_at dksX9_person_0 0 rfl rfl)
theorem dX9_person_1 : decode cX9_person 1 = .ok (.iload_n 1, 1) := dk_27 (dk_at dksX9_person_0 1 rfl rfl)
theorem dX9_person_2 : decode cX9_person 2 = .ok (.invokevirtual 100, 3) := dk_182 0 100 (dk_at dksX9_person_0 2 rfl rfl)
theorem dX9_person_5 : decode cX9_person 5 = .ok (.ifCond .ne 9, 3) := dk_154 0 9 (dk_at dksX9_person_0 5 rfl rfl)
theorem dX9_person_8 : decode cX9_person 8 = .ok (.aload_n 0, 1) := dk_42 (dk_at dksX9_person_0 8 rfl rfl)
theorem dX9_person_9 : decode cX9_person 9 = .ok (.iconst (-1), 1) := dk_2 (dk_at dksX9_person_0 9 rfl rfl)
theorem dX9_person_10 : decode cX9_person 10 = .ok (.invokevirtual 36, 3) := dk_182 0 36 (dk_at dksX9_person_0 10 rfl rfl)
theorem dX9_person_13 : decode cX9_person 13 = .ok (.ireturn, 1) := dk_172 (dk_at dksX9_person_0 13 rfl rfl)
theorem dX9_person_14 : decode cX9_person 14 = .ok (.iload_n 2, 1) := dk_28 (dk_at dksX9_person_0 14 rfl rfl)
theorem dX9_person_15 : decode cX9_person 15 = .ok (.iconst 0, 1) := dk_3 (dk_at dksX9_person_0 15 rfl rfl)
theorem dX9_person_16 : decode cX9_person 16 = .ok (.bipush 6, 2) := dk_16 6 (dk_at dksX9_person_0 16 rfl rfl)
theorem dX9_person_18 : decode cX9_person 18 = .ok (.invokestatic 40, 3) := dk_184 0 40 (dk_at dksX9_person_0 18 rfl rfl)
theorem dX9_person_21 : decode cX9_person 21 = .ok (.ifCond .eq 14, 3) := dk_153 0 14 (dk_at dksX9_person_0 21 rfl rfl)
theorem dX9_person_24 : decode cX9_person 24 = .ok (.aload_n 0, 1) := dk_42 (dk_at dksX9_person_1 0 rfl rfl)
theorem dX9_person_25 : decode cX9_person 25 = .ok (.getfield 9, 3) := dk_180 0 9 (dk_at dksX9_person_1 1 rfl rfl)
theorem dX9_person_28 : decode cX9_person 28 = .ok (.iload_n 1, 1) := dk_27 (dk_at dksX9_person_1 4 rfl rfl)
theorem dX9_person_29 : decode cX9_person 29 = .ok (.iload_n 2, 1) := dk_28 (dk_at dksX9_person_1 5 rfl rfl)
theorem dX9_person_30 : decode cX9_person 30 = .ok (.invokestatic 52, 3) := dk_184 0 52 (dk_at dksX9_person_1 6 rfl rfl)
theorem dX9_person_33 : decode cX9_person 33 = .ok (.iaload, 1) := dk_46 (dk_at dksX9_person_1 9 rfl rfl)
theorem dX9_person_34 : decode cX9_person 34 = .ok (.ireturn, 1) := dk_172 (dk_at dksX9_person_1 10 rfl rfl)
theorem dX9_person_35 : decode cX9_person 35 = .ok (.iload_n 2, 1) := dk_28 (dk_at dksX9_person_1 11 rfl rfl)
theorem dX9_person_36 : decode cX9_person 36 = .ok (.bipush 7, 2) := dk_16 7 (dk_at dksX9_person_1 12 rfl rfl)
theorem dX9_person_38 : decode cX9_person 38 = .ok (.if_icmp .ne 14, 3) := dk_160 0 14 (dk_at dksX9_person_1 14 rfl rfl)
theorem dX9_person_41 : decode cX9_person 41 = .ok (.aload_n 0, 1) := dk_42 (dk_at dksX9_person_1 17 rfl rfl)
theorem dX9_person_42 : decode cX9_person 42 = .ok (.getfield 9, 3) := dk_180 0 9 (dk_at dksX9_person_1 18 rfl rfl)
theorem dX9_person_45 : decode cX9_person 45 = .ok (.iload_n 1, 1) := dk_27 (dk_at dksX9_person_1 21 rfl rfl)
theorem dX9_person_46 : decode cX9_person 46 = .ok (.invokestatic 62, 3) := dk_184 0 62 (dk_at dksX9_person_2 0 rfl rfl)
theorem dX9_person_49 : decode cX9_person 49 = .ok (.goto 31, 3) := dk_167 0 31 (dk_at dksX9_person_2 3 rfl rfl)
theorem dX9_person_52 : decode cX9_person 52 = .ok (.iload_n 2, 1) := dk_28 (dk_at dksX9_person_2 6 rfl rfl)
theorem dX9_person_53 : decode cX9_person 53 = .ok (.bipush 8, 2) := dk_16 8 (dk_at dksX9_person_2 7 rfl rfl)
theorem dX9_person_55 : decode cX9_person 55 = .ok (.if_icmp .ne 19, 3) := dk_160 0 19 (dk_at dksX9_person_2 9 rfl rfl)
theorem dX9_person_58 : decode cX9_person 58 = .ok (.aload_n 0, 1) := dk_42 (dk_at dksX9_person_2 12 rfl rfl)
theorem dX9_person_59 : decode cX9_person 59 = .ok (.getfield 9, 3) := dk_180 0 9 (dk_at dksX9_person_2 13 rfl rfl)
theorem dX9_person_62 : decode cX9_person 62 = .ok (.iload_n 1, 1) := dk_27 (dk_at dksX9_person_2 16 rfl rfl)
theorem dX9_person_63 : decode cX9_person 63 = .ok (.iconst 0, 1) := dk_3 (dk_at dksX9_person_2 17 rfl rfl)
theorem dX9_person_64 : decode cX9_person 64 = .ok (.invokestatic 52, 3) := dk_184 0 52 (dk_at dksX9_person_2 18 rfl rfl)
theorem dX9_person_67 : decode cX9_person 67 = .ok (.iaload, 1) := dk_46 (dk_at dksX9_person_2 21 rfl rfl)
theorem dX9_person_68 : decode cX9_person 68 = .ok (.invokestatic 70, 3) := dk_184 0 70 (dk_at dksX9_person_3 0 rfl rfl)
theorem dX9_person_71 : decode cX9_person 71 = .ok (.goto 9, 3) := dk_167 0 9 (dk_at dksX9_person_3 3 rfl rfl)
theorem dX9_person_74 : decode cX9_person 74 = .ok (.aload_n 0, 1) := dk_42 (dk_at dksX9_person_3 6 rfl rfl)
theorem dX9_person_75 : decode cX9_person 75 = .ok (.bipush (-2), 2) := dk_16 254 (dk_at dksX9_person_3 7 rfl rfl)
theorem dX9_person_77 : decode cX9_person 77 = .ok (.invokevirtual 36, 3) := dk_182 0 36 (dk_at dksX9_person_3 9 rfl rfl)
theorem dX9_person_80 : decode cX9_person 80 = .ok (.ireturn, 1) := dk_172 (dk_at dksX9_person_3 12 rfl rfl)
abbrev cX9_speaks : ByteArray := prog_24_method_31_code
def yX9_speaks : MethodName := ⟨RX9, "speaks", "(I)I"⟩
def dkwX9_speaks_2 : List UInt8 := [180, 0, 9, 7, 184, 0, 117, 184, 0, 120, 172]
abbrev dktX9_speaks_2 : List UInt8 := dkwX9_speaks_2 ++ []
def dkwX9_speaks_1 : List UInt8 := [4, 160, 0, 10, 42, 16, 253, 182, 0, 36, 172, 42, 180, 0, 9, 27, 7, 184, 0, 52, 4, 79, 42]
abbrev dktX9_speaks_1 : List UInt8 := dkwX9_speaks_1 ++ dktX9_speaks_2
def dkwX9_speaks_0 : List UInt8 := [42, 27, 182, 0, 100, 154, 0, 9, 42, 2, 182, 0, 36, 172, 42, 180, 0, 9, 27, 7, 184, 0, 52, 46]
abbrev dktX9_speaks_0 : List UInt8 := dkwX9_speaks_0 ++ dktX9_speaks_1
theorem dksX9_speaks_0 : cX9_speaks.data.toList.drop 0 = dktX9_speaks_0 := by decide +kernel
theorem dksX9_speaks_1 : cX9_speaks.data.toList.drop 24 = dktX9_speaks_1 := dk_seg dksX9_speaks_0 24 rfl rfl
theorem dksX9_speaks_2 : cX9_speaks.data.toList.drop 47 = dktX9_speaks_2 := dk_seg dksX9_speaks_1 23 rfl rfl
theorem dX9_speaks_0 : decode cX9_speaks 0 = .ok (.aload_n 0, 1) := dk_42 (dk_at dksX9_speaks_0 0 rfl rfl)
theorem dX9_speaks_1 : decode cX9_speaks 1 = .ok (.iload_n 1, 1) := dk_27 (dk_at dksX9_speaks_0 1 rfl rfl)
theorem dX9_speaks_2 : decode cX9_speaks 2 = .ok (.invokevirtual 100, 3) := dk_182 0 100 (dk_at dksX9_speaks_0 2 rfl rfl)
theorem dX9_speaks_5 : decode cX9_speaks 5 = .ok (.ifCond .ne 9, 3) := dk_154 0 9 (dk_at dksX9_speaks_0 5 rfl rfl)
theorem dX9_speaks_8 : decode cX9_speaks 8 = .ok (.aload_n 0, 1) := dk_42 (dk_at dksX9_speaks_0 8 rfl rfl)
theorem dX9_speaks_9 : decode cX9_speaks 9 = .ok (.iconst (-1), 1) := dk_2 (dk_at dksX9_speaks_0 9 rfl rfl)
theorem dX9_speaks_10 : decode cX9_speaks 10 = .ok (.invokevirtual 36, 3) := dk_182 0 36 (dk_at dksX9_speaks_0 10 rfl rfl)
theorem dX9_speaks_13 : decode cX9_speaks 13 = .ok (.ireturn, 1) := dk_172 (dk_at dksX9_speaks_0 13 rfl rfl)
theorem dX9_speaks_14 : decode cX9_speaks 14 = .ok (.aload_n 0, 1) := dk_42 (dk_at dksX9_speaks_0 14 rfl rfl)
theorem dX9_speaks_15 : decode cX9_speaks 15 = .ok (.getfield 9, 3) := dk_180 0 9 (dk_at dksX9_speaks_0 15 rfl rfl)
theorem dX9_speaks_18 : decode cX9_speaks 18 = .ok (.iload_n 1, 1) := dk_27 (dk_at dksX9_speaks_0 18 rfl rfl)
theorem dX9_speaks_19 : decode cX9_speaks 19 = .ok (.iconst 4, 1) := dk_7 (dk_at dksX9_speaks_0 19 rfl rfl)
theorem dX9_speaks_20 : decode cX9_speaks 20 = .ok (.invokestatic 52, 3) := dk_184 0 52 (dk_at dksX9_speaks_0 20 rfl rfl)
theorem dX9_speaks_23 : decode cX9_speaks 23 = .ok (.iaload, 1) := dk_46 (dk_at dksX9_speaks_0 23 rfl rfl)
theorem dX9_speaks_24 : decode cX9_speaks 24 = .ok (.iconst 1, 1) := dk_4 (dk_at dksX9_speaks_1 0 rfl rfl)
theorem dX9_speaks_25 : decode cX9_speaks 25 = .ok (.if_icmp .ne 10, 3) := dk_160 0 10 (dk_at dksX9_speaks_1 1 rfl rfl)
theorem dX9_speaks_28 : decode cX9_speaks 28 = .ok (.aload_n 0, 1) := dk_42 (dk_at dksX9_speaks_1 4 rfl rfl)
theorem dX9_speaks_29 : decode cX9_speaks 29 = .ok (.bipush (-3), 2) := dk_16 253 (dk_at dksX9_speaks_1 5 rfl rfl)
theorem dX9_speaks_31 : decode cX9_speaks 31 = .ok (.invokevirtual 36, 3) := dk_182 0 36 (dk_at dksX9_speaks_1 7 rfl rfl)
theorem dX9_speaks_34 : decode cX9_speaks 34 = .ok (.ireturn, 1) := dk_172 (dk_at dksX9_speaks_1 10 rfl rfl)
theorem dX9_speaks_35 : decode cX9_speaks 35 = .ok (.aload_n 0, 1) := dk_42 (dk_at dksX9_speaks_1 11 rfl rfl)
theorem dX9_speaks_36 : decode cX9_speaks 36 = .ok (.getfield 9, 3) := dk_180 0 9 (dk_at dksX9_speaks_1 12 rfl rfl)
theorem dX9_speaks_39 : decode cX9_speaks 39 = .ok (.iload_n 1, 1) := dk_27 (dk_at dksX9_speaks_1 15 rfl rfl)
theorem dX9_speaks_40 : decode cX9_speaks 40 = .ok (.iconst 4, 1) := dk_7 (dk_at dksX9_speaks_1 16 rfl rfl)
theorem dX9_speaks_41 : decode cX9_speaks 41 = .ok (.invokestatic 52, 3) := dk_184 0 52 (dk_at dksX9_speaks_1 17 rfl rfl)
theorem dX9_speaks_44 : decode cX9_speaks 44 = .ok (.iconst 1, 1) := dk_4 (dk_at dksX9_speaks_1 20 rfl rfl)
theorem dX9_speaks_45 : decode cX9_speaks 45 = .ok (.iastore, 1) := dk_79 (dk_at dksX9_speaks_1 21 rfl rfl)
theorem dX9_speaks_46 : decode cX9_speaks 46 = .ok (.aload_n 0, 1) := dk_42 (dk_at dksX9_speaks_1 22 rfl rfl)
theorem dX9_speaks_47 : decode cX9_speaks 47 = .ok (.getfield 9, 3) := dk_180 0 9 (dk_at dksX9_speaks_2 0 rfl rfl)
theorem dX9_speaks_50 : decode cX9_speaks 50 = .ok (.iconst 4, 1) := dk_7 (dk_at dksX9_speaks_2 3 rfl rfl)
theorem dX9_speaks_51 : decode cX9_speaks 51 = .ok (.invokestatic 117, 3) := dk_184 0 117 (dk_at dksX9_speaks_2 4 rfl rfl)
theorem dX9_speaks_54 : decode cX9_speaks 54 = .ok (.invokestatic 120, 3) := dk_184 0 120 (dk_at dksX9_speaks_2 7 rfl rfl)
theorem dX9_speaks_57 : decode cX9_speaks 57 = .ok (.ireturn, 1) := dk_172 (dk_at dksX9_speaks_2 10 rfl rfl)
abbrev cX9_flagged : ByteArray := prog_24_method_19_code
def yX9_flagged : MethodName := ⟨RX9, "flagged", "([II)I"⟩
def dkwX9_flagged_1 : List UInt8 := [132, 3, 1, 167, 255, 234, 28, 172]
abbrev dktX9_flagged_1 : List UInt8 := dkwX9_flagged_1 ++ []
def dkwX9_flagged_0 : List UInt8 := [3, 61, 3, 62, 29, 42, 3, 46, 162, 0, 21, 28, 42, 29, 27, 184, 0, 52, 46, 29, 120, 128, 61]
abbrev dktX9_flagged_0 : List UInt8 := dkwX9_flagged_0 ++ dktX9_flagged_1
theorem dksX9_flagged_0 : cX9_flagged.data.toList.drop 0 = dktX9_flagged_0 := by decide +kernel
theorem dksX9_flagged_1 : cX9_flagged.data.toList.drop 23 = dktX9_flagged_1 := dk_seg dksX9_flagged_0 23 rfl rfl
theorem dX9_flagged_0 : decode cX9_flagged 0 = .ok (.iconst 0, 1) := dk_3 (dk_at dksX9_flagged_0 0 rfl rfl)
theorem dX9_flagged_1 : decode cX9_flagged 1 = .ok (.istore_n 2, 1) := dk_61 (dk_at dksX9_flagged_0 1 rfl rfl)
theorem dX9_flagged_2 : decode cX9_flagged 2 = .ok (.iconst 0, 1) := dk_3 (dk_at dksX9_flagged_0 2 rfl rfl)
theorem dX9_flagged_3 : decode cX9_flagged 3 = .ok (.istore_n 3, 1) := dk_62 (dk_at dksX9_flagged_0 3 rfl rfl)
theorem dX9_flagged_4 : decode cX9_flagged 4 = .ok (.iload_n 3, 1) := dk_29 (dk_at dksX9_flagged_0 4 rfl rfl)
theorem dX9_flagged_5 : decode cX9_flagged 5 = .ok (.aload_n 0, 1) := dk_42 (dk_at dksX9_flagged_0 5 rfl rfl)
theorem dX9_flagged_6 : decode cX9_flagged 6 = .ok (.iconst 0, 1) := dk_3 (dk_at dksX9_flagged_0 6 rfl rfl)
theorem dX9_flagged_7 : decode cX9_flagged 7 = .ok (.iaload, 1) := dk_46 (dk_at dksX9_flagged_0 7 rfl rfl)
theorem dX9_flagged_8 : decode cX9_flagged 8 = .ok (.if_icmp .ge 21, 3) := dk_162 0 21 (dk_at dksX9_flagged_0 8 rfl rfl)
theorem dX9_flagged_11 : decode cX9_flagged 11 = .ok (.iload_n 2, 1) := dk_28 (dk_at dksX9_flagged_0 11 rfl rfl)
theorem dX9_flagged_12 : decode cX9_flagged 12 = .ok (.aload_n 0, 1) := dk_42 (dk_at dksX9_flagged_0 12 rfl rfl)
theorem dX9_flagged_13 : decode cX9_flagged 13 = .ok (.iload_n 3, 1) := dk_29 (dk_at dksX9_flagged_0 13 rfl rfl)
theorem dX9_flagged_14 : decode cX9_flagged 14 = .ok (.iload_n 1, 1) := dk_27 (dk_at dksX9_flagged_0 14 rfl rfl)
theorem dX9_flagged_15 : decode cX9_flagged 15 = .ok (.invokestatic 52, 3) := dk_184 0 52 (dk_at dksX9_flagged_0 15 rfl rfl)
theorem dX9_flagged_18 : decode cX9_flagged 18 = .ok (.iaload, 1) := dk_46 (dk_at dksX9_flagged_0 18 rfl rfl)
theorem dX9_flagged_19 : decode cX9_flagged 19 = .ok (.iload_n 3, 1) := dk_29 (dk_at dksX9_flagged_0 19 rfl rfl)
theorem dX9_flagged_20 : decode cX9_flagged 20 = .ok (.ishl, 1) := dk_120 (dk_at dksX9_flagged_0 20 rfl rfl)
theorem dX9_flagged_21 : decode cX9_flagged 21 = .ok (.ior, 1) := dk_128 (dk_at dksX9_flagged_0 21 rfl rfl)
theorem dX9_flagged_22 : decode cX9_flagged 22 = .ok (.istore_n 2, 1) := dk_61 (dk_at dksX9_flagged_0 22 rfl rfl)
theorem dX9_flagged_23 : decode cX9_flagged 23 = .ok (.iinc 3 1, 3) := dk_132 3 1 (dk_at dksX9_flagged_1 0 rfl rfl)
theorem dX9_flagged_26 : decode cX9_flagged 26 = .ok (.goto (-22), 3) := dk_167 255 234 (dk_at dksX9_flagged_1 3 rfl rfl)
theorem dX9_flagged_29 : decode cX9_flagged 29 = .ok (.iload_n 2, 1) := dk_28 (dk_at dksX9_flagged_1 6 rfl rfl)
theorem dX9_flagged_30 : decode cX9_flagged 30 = .ok (.ireturn, 1) := dk_172 (dk_at dksX9_flagged_1 7 rfl rfl)
abbrev cX9_bits : ByteArray := prog_24_method_10_code
def yX9_bits : MethodName := ⟨RX9, "bits", "(I)I"⟩
def dkwX9_bits_1 : List UInt8 := [27, 172]
abbrev dktX9_bits_1 : List UInt8 := dkwX9_bits_1 ++ []
def dkwX9_bits_0 : List UInt8 := [3, 60, 3, 61, 28, 16, 6, 162, 0, 17, 27, 26, 28, 122, 4, 126, 96, 60, 132, 2, 1, 167, 255, 239]
abbrev dktX9_bits_0 : List UInt8 := dkwX9_bits_0 ++ dktX9_bits_1
theorem dksX9_bits_0 : cX9_bits.data.toList.drop 0 = dktX9_bits_0 := by decide +kernel
theorem dksX9_bits_1 : cX9_bits.data.toList.drop 24 = dktX9_bits_1 := dk_seg dksX9_bits_0 24 rfl rfl
theorem dX9_bits_0 : decode cX9_bits 0 = .ok (.iconst 0, 1) := dk_3 (dk_at dksX9_bits_0 0 rfl rfl)
theorem dX9_bits_1 : decode cX9_bits 1 = .ok (.istore_n 1, 1) := dk_60 (dk_at dksX9_bits_0 1 rfl rfl)
theorem dX9_bits_2 : decode cX9_bits 2 = .ok (.iconst 0, 1) := dk_3 (dk_at dksX9_bits_0 2 rfl rfl)
theorem dX9_bits_3 : decode cX9_bits 3 = .ok (.istore_n 2, 1) := dk_61 (dk_at dksX9_bits_0 3 rfl rfl)
theorem dX9_bits_4 : decode cX9_bits 4 = .ok (.iload_n 2, 1) := dk_28 (dk_at dksX9_bits_0 4 rfl rfl)
theorem dX9_bits_5 : decode cX9_bits 5 = .ok (.bipush 6, 2) := dk_16 6 (dk_at dksX9_bits_0 5 rfl rfl)
theorem dX9_bits_7 : decode cX9_bits 7 = .ok (.if_icmp .ge 17, 3) := dk_162 0 17 (dk_at dksX9_bits_0 7 rfl rfl)
theorem dX9_bits_10 : decode cX9_bits 10 = .ok (.iload_n 1, 1) := dk_27 (dk_at dksX9_bits_0 10 rfl rfl)
theorem dX9_bits_11 : decode cX9_bits 11 = .ok (.iload_n 0, 1) := dk_26 (dk_at dksX9_bits_0 11 rfl rfl)
theorem dX9_bits_12 : decode cX9_bits 12 = .ok (.iload_n 2, 1) := dk_28 (dk_at dksX9_bits_0 12 rfl rfl)
theorem dX9_bits_13 : decode cX9_bits 13 = .ok (.ishr, 1) := dk_122 (dk_at dksX9_bits_0 13 rfl rfl)
theorem dX9_bits_14 : decode cX9_bits 14 = .ok (.iconst 1, 1) := dk_4 (dk_at dksX9_bits_0 14 rfl rfl)
theorem dX9_bits_15 : decode cX9_bits 15 = .ok (.iand, 1) := dk_126 (dk_at dksX9_bits_0 15 rfl rfl)
theorem dX9_bits_16 : decode cX9_bits 16 = .ok (.iadd, 1) := dk_96 (dk_at dksX9_bits_0 16 rfl rfl)
theorem dX9_bits_17 : decode cX9_bits 17 = .ok (.istore_n 1, 1) := dk_60 (dk_at dksX9_bits_0 17 rfl rfl)
theorem dX9_bits_18 : decode cX9_bits 18 = .ok (.iinc 2 1, 3) := dk_132 2 1 (dk_at dksX9_bits_0 18 rfl rfl)
theorem dX9_bits_21 : decode cX9_bits 21 = .ok (.goto (-17), 3) := dk_167 255 239 (dk_at dksX9_bits_0 21 rfl rfl)
theorem dX9_bits_24 : decode cX9_bits 24 = .ok (.iload_n 1, 1) := dk_27 (dk_at dksX9_bits_1 0 rfl rfl)
theorem dX9_bits_25 : decode cX9_bits 25 = .ok (.ireturn, 1) := dk_172 (dk_at dksX9_bits_1 1 rfl rfl)
abbrev cX9_befriends : ByteArray := prog_24_method_33_code
def yX9_befriends : MethodName := ⟨RX9, "befriends", "(II)I"⟩
def dkwX9_befriends_1 : List UInt8 := [28, 182, 0, 123, 167, 0, 8, 42, 2, 182, 0, 36, 172]
abbrev dktX9_befriends_1 : List UInt8 := dkwX9_befriends_1 ++ []
def dkwX9_befriends_0 : List UInt8 := [42, 27, 182, 0, 100, 153, 0, 26, 28, 3, 8, 184, 0, 40, 153, 0, 17, 42, 27, 16, 6, 184, 0, 52]
abbrev dktX9_befriends_0 : List UInt8 := dkwX9_befriends_0 ++ dktX9_befriends_1
theorem dksX9_befriends_0 : cX9_befriends.data.toList.drop 0 = dktX9_befriends_0 := by decide +kernel
theorem dksX9_befriends_1 : cX9_befriends.data.toList.drop 24 = dktX9_befriends_1 := dk_seg dksX9_befriends_0 24 rfl rfl
theorem dX9_befriends_0 : decode cX9_befriends 0 = .ok (.aload_n 0, 1) := dk_42 (dk_at dksX9_befriends_0 0 rfl rfl)
theorem dX9_befriends_1 : decode cX9_befriends 1 = .ok (.iload_n 1, 1) := dk_27 (dk_at dksX9_befriends_0 1 rfl rfl)
theorem dX9_befriends_2 : decode cX9_befriends 2 = .ok (.invokevirtual 100, 3) := dk_182 0 100 (dk_at dksX9_befriends_0 2 rfl rfl)
theorem dX9_befriends_5 : decode cX9_befriends 5 = .ok (.ifCond .eq 26, 3) := dk_153 0 26 (dk_at dksX9_befriends_0 5 rfl rfl)
theorem dX9_befriends_8 : decode cX9_befriends 8 = .ok (.iload_n 2, 1) := dk_28 (dk_at dksX9_befriends_0 8 rfl rfl)
theorem dX9_befriends_9 : decode cX9_befriends 9 = .ok (.iconst 0, 1) := dk_3 (dk_at dksX9_befriends_0 9 rfl rfl)
theorem dX9_befriends_10 : decode cX9_befriends 10 = .ok (.iconst 5, 1) := dk_8 (dk_at dksX9_befriends_0 10 rfl rfl)
theorem dX9_befriends_11 : decode cX9_befriends 11 = .ok (.invokestatic 40, 3) := dk_184 0 40 (dk_at dksX9_befriends_0 11 rfl rfl)
theorem dX9_befriends_14 : decode cX9_befriends 14 = .ok (.ifCond .eq 17, 3) := dk_153 0 17 (dk_at dksX9_befriends_0 14 rfl rfl)
theorem dX9_befriends_17 : decode cX9_befriends 17 = .ok (.aload_n 0, 1) := dk_42 (dk_at dksX9_befriends_0 17 rfl rfl)
theorem dX9_befriends_18 : decode cX9_befriends 18 = .ok (.iload_n 1, 1) := dk_27 (dk_at dksX9_befriends_0 18 rfl rfl)
theorem dX9_befriends_19 : decode cX9_befriends 19 = .ok (.bipush 6, 2) := dk_16 6 (dk_at dksX9_befriends_0 19 rfl rfl)
theorem dX9_befriends_21 : decode cX9_befriends 21 = .ok (.invokestatic 52, 3) := dk_184 0 52 (dk_at dksX9_befriends_0 21 rfl rfl)
theorem dX9_befriends_24 : decode cX9_befriends 24 = .ok (.iload_n 2, 1) := dk_28 (dk_at dksX9_befriends_1 0 rfl rfl)
theorem dX9_befriends_25 : decode cX9_befriends 25 = .ok (.invokevirtual 123, 3) := dk_182 0 123 (dk_at dksX9_befriends_1 1 rfl rfl)
theorem dX9_befriends_28 : decode cX9_befriends 28 = .ok (.goto 8, 3) := dk_167 0 8 (dk_at dksX9_befriends_1 4 rfl rfl)
theorem dX9_befriends_31 : decode cX9_befriends 31 = .ok (.aload_n 0, 1) := dk_42 (dk_at dksX9_befriends_1 7 rfl rfl)
theorem dX9_befriends_32 : decode cX9_befriends 32 = .ok (.iconst (-1), 1) := dk_2 (dk_at dksX9_befriends_1 8 rfl rfl)
theorem dX9_befriends_33 : decode cX9_befriends 33 = .ok (.invokevirtual 36, 3) := dk_182 0 36 (dk_at dksX9_befriends_1 9 rfl rfl)
theorem dX9_befriends_36 : decode cX9_befriends 36 = .ok (.ireturn, 1) := dk_172 (dk_at dksX9_befriends_1 12 rfl rfl)
abbrev cX9_sets : ByteArray := prog_24_method_32_code
def yX9_sets : MethodName := ⟨RX9, "sets", "(II)I"⟩
def dkwX9_sets_0 : List UInt8 := [42, 180, 0, 9, 27, 46, 62, 42, 180, 0, 9, 27, 28, 79, 29, 172]
abbrev dktX9_sets_0 : List UInt8 := dkwX9_sets_0 ++ []
theorem dksX9_sets_0 : cX9_sets.data.toList.drop 0 = dktX9_sets_0 := by decide +kernel
theorem dX9_sets_0 : decode cX9_sets 0 = .ok (.aload_n 0, 1) := dk_42 (dk_at dksX9_sets_0 0 rfl rfl)
theorem dX9_sets_1 : decode cX9_sets 1 = .ok (.getfield 9, 3) := dk_180 0 9 (dk_at dksX9_sets_0 1 rfl rfl)
theorem dX9_sets_4 : decode cX9_sets 4 = .ok (.iload_n 1, 1) := dk_27 (dk_at dksX9_sets_0 4 rfl rfl)
theorem dX9_sets_5 : decode cX9_sets 5 = .ok (.iaload, 1) := dk_46 (dk_at dksX9_sets_0 5 rfl rfl)
theorem dX9_sets_6 : decode cX9_sets 6 = .ok (.istore_n 3, 1) := dk_62 (dk_at dksX9_sets_0 6 rfl rfl)
theorem dX9_sets_7 : decode cX9_sets 7 = .ok (.aload_n 0, 1) := dk_42 (dk_at dksX9_sets_0 7 rfl rfl)
theorem dX9_sets_8 : decode cX9_sets 8 = .ok (.getfield 9, 3) := dk_180 0 9 (dk_at dksX9_sets_0 8 rfl rfl)
theorem dX9_sets_11 : decode cX9_sets 11 = .ok (.iload_n 1, 1) := dk_27 (dk_at dksX9_sets_0 11 rfl rfl)
theorem dX9_sets_12 : decode cX9_sets 12 = .ok (.iload_n 2, 1) := dk_28 (dk_at dksX9_sets_0 12 rfl rfl)
theorem dX9_sets_13 : decode cX9_sets 13 = .ok (.iastore, 1) := dk_79 (dk_at dksX9_sets_0 13 rfl rfl)
theorem dX9_sets_14 : decode cX9_sets 14 = .ok (.iload_n 3, 1) := dk_29 (dk_at dksX9_sets_0 14 rfl rfl)
theorem dX9_sets_15 : decode cX9_sets 15 = .ok (.ireturn, 1) := dk_172 (dk_at dksX9_sets_0 15 rfl rfl)
abbrev cX9_pours : ByteArray := prog_24_method_36_code
def yX9_pours : MethodName := ⟨RX9, "pours", "(II)I"⟩
def dkwX9_pours_0 : List UInt8 := [42, 27, 6, 28, 16, 99, 182, 0, 130, 172]
abbrev dktX9_pours_0 : List UInt8 := dkwX9_pours_0 ++ []
theorem dksX9_pours_0 : cX9_pours.data.toList.drop 0 = dktX9_pours_0 := by decide +kernel
theorem dX9_pours_0 : decode cX9_pours 0 = .ok (.aload_n 0, 1) := dk_42 (dk_at dksX9_pours_0 0 rfl rfl)
theorem dX9_pours_1 : decode cX9_pours 1 = .ok (.iload_n 1, 1) := dk_27 (dk_at dksX9_pours_0 1 rfl rfl)
theorem dX9_pours_2 : decode cX9_pours 2 = .ok (.iconst 3, 1) := dk_6 (dk_at dksX9_pours_0 2 rfl rfl)
theorem dX9_pours_3 : decode cX9_pours 3 = .ok (.iload_n 2, 1) := dk_28 (dk_at dksX9_pours_0 3 rfl rfl)
theorem dX9_pours_4 : decode cX9_pours 4 = .ok (.bipush 99, 2) := dk_16 99 (dk_at dksX9_pours_0 4 rfl rfl)
theorem dX9_pours_6 : decode cX9_pours 6 = .ok (.invokevirtual 130, 3) := dk_182 0 130 (dk_at dksX9_pours_0 6 rfl rfl)
theorem dX9_pours_9 : decode cX9_pours 9 = .ok (.ireturn, 1) := dk_172 (dk_at dksX9_pours_0 9 rfl rfl)
abbrev cX9_setsOf : ByteArray := prog_24_method_35_code
def yX9_setsOf : MethodName := ⟨RX9, "setsOf", "(IIII)I"⟩
def dkwX9_setsOf_1 : List UInt8 := [153, 0, 12, 42, 21, 5, 182, 0, 36, 167, 0, 13, 42, 27, 28, 184, 0, 52, 29, 182, 0, 123, 172]
abbrev dktX9_setsOf_1 : List UInt8 := dkwX9_setsOf_1 ++ []
def dkwX9_setsOf_0 : List UInt8 := [42, 27, 182, 0, 100, 153, 0, 13, 29, 3, 21, 4, 184, 0, 126, 167, 0, 4, 2, 54, 5, 21, 5]
abbrev dktX9_setsOf_0 : List UInt8 := dkwX9_setsOf_0 ++ dktX9_setsOf_1
theorem dksX9_setsOf_0 : cX9_setsOf.data.toList.drop 0 = dktX9_setsOf_0 := by decide +kernel
theorem dksX9_setsOf_1 : cX9_setsOf.data.toList.drop 23 = dktX9_setsOf_1 := dk_seg dksX9_setsOf_0 23 rfl rfl
theorem dX9_setsOf_0 : decode cX9_setsOf 0 = .ok (.aload_n 0, 1) := dk_42 (dk_at dksX9_setsOf_0 0 rfl rfl)
theorem dX9_setsOf_1 : decode cX9_setsOf 1 = .ok (.iload_n 1, 1) := dk_27 (dk_at dksX9_setsOf_0 1 rfl rfl)
theorem dX9_setsOf_2 : decode cX9_setsOf 2 = .ok (.invokevirtual 100, 3) := dk_182 0 100 (dk_at dksX9_setsOf_0 2 rfl rfl)
theorem dX9_setsOf_5 : decode cX9_setsOf 5 = .ok (.ifCond .eq 13, 3) := dk_153 0 13 (dk_at dksX9_setsOf_0 5 rfl rfl)
theorem dX9_setsOf_8 : decode cX9_setsOf 8 = .ok (.iload_n 3, 1) := dk_29 (dk_at dksX9_setsOf_0 8 rfl rfl)
theorem dX9_setsOf_9 : decode cX9_setsOf 9 = .ok (.iconst 0, 1) := dk_3 (dk_at dksX9_setsOf_0 9 rfl rfl)
theorem dX9_setsOf_10 : decode cX9_setsOf 10 = .ok (.iload 4, 2) := dk_21 4 (dk_at dksX9_setsOf_0 10 rfl rfl)
theorem dX9_setsOf_12 : decode cX9_setsOf 12 = .ok (.invokestatic 126, 3) := dk_184 0 126 (dk_at dksX9_setsOf_0 12 rfl rfl)
theorem dX9_setsOf_15 : decode cX9_setsOf 15 = .ok (.goto 4, 3) := dk_167 0 4 (dk_at dksX9_setsOf_0 15 rfl rfl)
theorem dX9_setsOf_18 : decode cX9_setsOf 18 = .ok (.iconst (-1), 1) := dk_2 (dk_at dksX9_setsOf_0 18 rfl rfl)
theorem dX9_setsOf_19 : decode cX9_setsOf 19 = .ok (.istore 5, 2) := dk_54 5 (dk_at dksX9_setsOf_0 19 rfl rfl)
theorem dX9_setsOf_21 : decode cX9_setsOf 21 = .ok (.iload 5, 2) := dk_21 5 (dk_at dksX9_setsOf_0 21 rfl rfl)
theorem dX9_setsOf_23 : decode cX9_setsOf 23 = .ok (.ifCond .eq 12, 3) := dk_153 0 12 (dk_at dksX9_setsOf_1 0 rfl rfl)
theorem dX9_setsOf_26 : decode cX9_setsOf 26 = .ok (.aload_n 0, 1) := dk_42 (dk_at dksX9_setsOf_1 3 rfl rfl)
theorem dX9_setsOf_27 : decode cX9_setsOf 27 = .ok (.iload 5, 2) := dk_21 5 (dk_at dksX9_setsOf_1 4 rfl rfl)
theorem dX9_setsOf_29 : decode cX9_setsOf 29 = .ok (.invokevirtual 36, 3) := dk_182 0 36 (dk_at dksX9_setsOf_1 6 rfl rfl)
theorem dX9_setsOf_32 : decode cX9_setsOf 32 = .ok (.goto 13, 3) := dk_167 0 13 (dk_at dksX9_setsOf_1 9 rfl rfl)
theorem dX9_setsOf_35 : decode cX9_setsOf 35 = .ok (.aload_n 0, 1) := dk_42 (dk_at dksX9_setsOf_1 12 rfl rfl)
theorem dX9_setsOf_36 : decode cX9_setsOf 36 = .ok (.iload_n 1, 1) := dk_27 (dk_at dksX9_setsOf_1 13 rfl rfl)
theorem dX9_setsOf_37 : decode cX9_setsOf 37 = .ok (.iload_n 2, 1) := dk_28 (dk_at dksX9_setsOf_1 14 rfl rfl)
theorem dX9_setsOf_38 : decode cX9_setsOf 38 = .ok (.invokestatic 52, 3) := dk_184 0 52 (dk_at dksX9_setsOf_1 15 rfl rfl)
theorem dX9_setsOf_41 : decode cX9_setsOf 41 = .ok (.iload_n 3, 1) := dk_29 (dk_at dksX9_setsOf_1 18 rfl rfl)
theorem dX9_setsOf_42 : decode cX9_setsOf 42 = .ok (.invokevirtual 123, 3) := dk_182 0 123 (dk_at dksX9_setsOf_1 19 rfl rfl)
theorem dX9_setsOf_45 : decode cX9_setsOf 45 = .ok (.ireturn, 1) := dk_172 (dk_at dksX9_setsOf_1 22 rfl rfl)
abbrev cX9_wrongBy : ByteArray := prog_24_method_34_code
def yX9_wrongBy : MethodName := ⟨RX9, "wrongBy", "(III)I"⟩
def dkwX9_wrongBy_0 : List UInt8 := [26, 27, 162, 0, 8, 16, 252, 167, 0, 14, 26, 28, 164, 0, 8, 16, 250, 167, 0, 4, 3, 172]
abbrev dktX9_wrongBy_0 : List UInt8 := dkwX9_wrongBy_0 ++ []
theorem dksX9_wrongBy_0 : cX9_wrongBy.data.toList.drop 0 = dktX9_wrongBy_0 := by decide +kernel
theorem dX9_wrongBy_0 : decode cX9_wrongBy 0 = .ok (.iload_n 0, 1) := dk_26 (dk_at dksX9_wrongBy_0 0 rfl rfl)
theorem dX9_wrongBy_1 : decode cX9_wrongBy 1 = .ok (.iload_n 1, 1) := dk_27 (dk_at dksX9_wrongBy_0 1 rfl rfl)
theorem dX9_wrongBy_2 : decode cX9_wrongBy 2 = .ok (.if_icmp .ge 8, 3) := dk_162 0 8 (dk_at dksX9_wrongBy_0 2 rfl rfl)
theorem dX9_wrongBy_5 : decode cX9_wrongBy 5 = .ok (.bipush (-4), 2) := dk_16 252 (dk_at dksX9_wrongBy_0 5 rfl rfl)
theorem dX9_wrongBy_7 : decode cX9_wrongBy 7 = .ok (.goto 14, 3) := dk_167 0 14 (dk_at dksX9_wrongBy_0 7 rfl rfl)
theorem dX9_wrongBy_10 : decode cX9_wrongBy 10 = .ok (.iload_n 0, 1) := dk_26 (dk_at dksX9_wrongBy_0 10 rfl rfl)
theorem dX9_wrongBy_11 : decode cX9_wrongBy 11 = .ok (.iload_n 2, 1) := dk_28 (dk_at dksX9_wrongBy_0 11 rfl rfl)
theorem dX9_wrongBy_12 : decode cX9_wrongBy 12 = .ok (.if_icmp .le 8, 3) := dk_164 0 8 (dk_at dksX9_wrongBy_0 12 rfl rfl)
theorem dX9_wrongBy_15 : decode cX9_wrongBy 15 = .ok (.bipush (-6), 2) := dk_16 250 (dk_at dksX9_wrongBy_0 15 rfl rfl)
theorem dX9_wrongBy_17 : decode cX9_wrongBy 17 = .ok (.goto 4, 3) := dk_167 0 4 (dk_at dksX9_wrongBy_0 17 rfl rfl)
theorem dX9_wrongBy_20 : decode cX9_wrongBy 20 = .ok (.iconst 0, 1) := dk_3 (dk_at dksX9_wrongBy_0 20 rfl rfl)
theorem dX9_wrongBy_21 : decode cX9_wrongBy 21 = .ok (.ireturn, 1) := dk_172 (dk_at dksX9_wrongBy_0 21 rfl rfl)
abbrev cX9_cans : ByteArray := prog_24_method_37_code
def yX9_cans : MethodName := ⟨RX9, "cans", "(II)I"⟩
def dkwX9_cans_0 : List UInt8 := [42, 27, 5, 28, 16, 9, 182, 0, 130, 172]
abbrev dktX9_cans_0 : List UInt8 := dkwX9_cans_0 ++ []
theorem dksX9_cans_0 : cX9_cans.data.toList.drop 0 = dktX9_cans_0 := by decide +kernel
theorem dX9_cans_0 : decode cX9_cans 0 = .ok (.aload_n 0, 1) := dk_42 (dk_at dksX9_cans_0 0 rfl rfl)
theorem dX9_cans_1 : decode cX9_cans 1 = .ok (.iload_n 1, 1) := dk_27 (dk_at dksX9_cans_0 1 rfl rfl)
theorem dX9_cans_2 : decode cX9_cans 2 = .ok (.iconst 2, 1) := dk_5 (dk_at dksX9_cans_0 2 rfl rfl)
theorem dX9_cans_3 : decode cX9_cans 3 = .ok (.iload_n 2, 1) := dk_28 (dk_at dksX9_cans_0 3 rfl rfl)
theorem dX9_cans_4 : decode cX9_cans 4 = .ok (.bipush 9, 2) := dk_16 9 (dk_at dksX9_cans_0 4 rfl rfl)
theorem dX9_cans_6 : decode cX9_cans 6 = .ok (.invokevirtual 130, 3) := dk_182 0 130 (dk_at dksX9_cans_0 6 rfl rfl)
theorem dX9_cans_9 : decode cX9_cans 9 = .ok (.ireturn, 1) := dk_172 (dk_at dksX9_cans_0 9 rfl rfl)
abbrev cX9_water : ByteArray := prog_24_method_39_code
def yX9_water : MethodName := ⟨RX9, "water", "(I)I"⟩
def dkwX9_water_0 : List UInt8 := [42, 5, 27, 16, 99, 182, 0, 134, 172]
abbrev dktX9_water_0 : List UInt8 := dkwX9_water_0 ++ []
theorem dksX9_water_0 : cX9_water.data.toList.drop 0 = dktX9_water_0 := by decide +kernel
theorem dX9_water_0 : decode cX9_water 0 = .ok (.aload_n 0, 1) := dk_42 (dk_at dksX9_water_0 0 rfl rfl)
theorem dX9_water_1 : decode cX9_water 1 = .ok (.iconst 2, 1) := dk_5 (dk_at dksX9_water_0 1 rfl rfl)
theorem dX9_water_2 : decode cX9_water 2 = .ok (.iload_n 1, 1) := dk_27 (dk_at dksX9_water_0 2 rfl rfl)
theorem dX9_water_3 : decode cX9_water 3 = .ok (.bipush 99, 2) := dk_16 99 (dk_at dksX9_water_0 3 rfl rfl)
theorem dX9_water_5 : decode cX9_water 5 = .ok (.invokevirtual 134, 3) := dk_182 0 134 (dk_at dksX9_water_0 5 rfl rfl)
theorem dX9_water_8 : decode cX9_water 8 = .ok (.ireturn, 1) := dk_172 (dk_at dksX9_water_0 8 rfl rfl)
abbrev cX9_setsIn : ByteArray := prog_24_method_38_code
def yX9_setsIn : MethodName := ⟨RX9, "setsIn", "(III)I"⟩
def dkwX9_setsIn_1 : List UInt8 := [28, 182, 0, 123, 172]
abbrev dktX9_setsIn_1 : List UInt8 := dkwX9_setsIn_1 ++ []
def dkwX9_setsIn_0 : List UInt8 := [28, 3, 29, 184, 0, 126, 54, 4, 21, 4, 153, 0, 12, 42, 21, 4, 182, 0, 36, 167, 0, 9, 42, 27]
abbrev dktX9_setsIn_0 : List UInt8 := dkwX9_setsIn_0 ++ dktX9_setsIn_1
theorem dksX9_setsIn_0 : cX9_setsIn.data.toList.drop 0 = dktX9_setsIn_0 := by decide +kernel
theorem dksX9_setsIn_1 : cX9_setsIn.data.toList.drop 24 = dktX9_setsIn_1 := dk_seg dksX9_setsIn_0 24 rfl rfl
theorem dX9_setsIn_0 : decode cX9_setsIn 0 = .ok (.iload_n 2, 1) := dk_28 (dk_at dksX9_setsIn_0 0 rfl rfl)
theorem dX9_setsIn_1 : decode cX9_setsIn 1 = .ok (.iconst 0, 1) := dk_3 (dk_at dksX9_setsIn_0 1 rfl rfl)
theorem dX9_setsIn_2 : decode cX9_setsIn 2 = .ok (.iload_n 3, 1) := dk_29 (dk_at dksX9_setsIn_0 2 rfl rfl)
theorem dX9_setsIn_3 : decode cX9_setsIn 3 = .ok (.invokestatic 126, 3) := dk_184 0 126 (dk_at dksX9_setsIn_0 3 rfl rfl)
theorem dX9_setsIn_6 : decode cX9_setsIn 6 = .ok (.istore 4, 2) := dk_54 4 (dk_at dksX9_setsIn_0 6 rfl rfl)
theorem dX9_setsIn_8 : decode cX9_setsIn 8 = .ok (.iload 4, 2) := dk_21 4 (dk_at dksX9_setsIn_0 8 rfl rfl)
theorem dX9_setsIn_10 : decode cX9_setsIn 10 = .ok (.ifCond .eq 12, 3) := dk_153 0 12 (dk_at dksX9_setsIn_0 10 rfl rfl)
theorem dX9_setsIn_13 : decode cX9_setsIn 13 = .ok (.aload_n 0, 1) := dk_42 (dk_at dksX9_setsIn_0 13 rfl rfl)
theorem dX9_setsIn_14 : decode cX9_setsIn 14 = .ok (.iload 4, 2) := dk_21 4 (dk_at dksX9_setsIn_0 14 rfl rfl)
theorem dX9_setsIn_16 : decode cX9_setsIn 16 = .ok (.invokevirtual 36, 3) := dk_182 0 36 (dk_at dksX9_setsIn_0 16 rfl rfl)
theorem dX9_setsIn_19 : decode cX9_setsIn 19 = .ok (.goto 9, 3) := dk_167 0 9 (dk_at dksX9_setsIn_0 19 rfl rfl)
theorem dX9_setsIn_22 : decode cX9_setsIn 22 = .ok (.aload_n 0, 1) := dk_42 (dk_at dksX9_setsIn_0 22 rfl rfl)
theorem dX9_setsIn_23 : decode cX9_setsIn 23 = .ok (.iload_n 1, 1) := dk_27 (dk_at dksX9_setsIn_0 23 rfl rfl)
theorem dX9_setsIn_24 : decode cX9_setsIn 24 = .ok (.iload_n 2, 1) := dk_28 (dk_at dksX9_setsIn_1 0 rfl rfl)
theorem dX9_setsIn_25 : decode cX9_setsIn 25 = .ok (.invokevirtual 123, 3) := dk_182 0 123 (dk_at dksX9_setsIn_1 1 rfl rfl)
theorem dX9_setsIn_28 : decode cX9_setsIn 28 = .ok (.ireturn, 1) := dk_172 (dk_at dksX9_setsIn_1 4 rfl rfl)
abbrev cX9_flow : ByteArray := prog_24_method_40_code
def yX9_flow : MethodName := ⟨RX9, "flow", "(I)I"⟩
def dkwX9_flow_0 : List UInt8 := [42, 6, 27, 16, 30, 182, 0, 134, 172]
abbrev dktX9_flow_0 : List UInt8 := dkwX9_flow_0 ++ []
theorem dksX9_flow_0 : cX9_flow.data.toList.drop 0 = dktX9_flow_0 := by decide +kernel
theorem dX9_flow_0 : decode cX9_flow 0 = .ok (.aload_n 0, 1) := dk_42 (dk_at dksX9_flow_0 0 rfl rfl)
theorem dX9_flow_1 : decode cX9_flow 1 = .ok (.iconst 3, 1) := dk_6 (dk_at dksX9_flow_0 1 rfl rfl)
theorem dX9_flow_2 : decode cX9_flow 2 = .ok (.iload_n 1, 1) := dk_27 (dk_at dksX9_flow_0 2 rfl rfl)
theorem dX9_flow_3 : decode cX9_flow 3 = .ok (.bipush 30, 2) := dk_16 30 (dk_at dksX9_flow_0 3 rfl rfl)
theorem dX9_flow_5 : decode cX9_flow 5 = .ok (.invokevirtual 134, 3) := dk_182 0 134 (dk_at dksX9_flow_0 5 rfl rfl)
theorem dX9_flow_8 : decode cX9_flow 8 = .ok (.ireturn, 1) := dk_172 (dk_at dksX9_flow_0 8 rfl rfl)
abbrev cX9_turn : ByteArray := prog_24_method_41_code
def yX9_turn : MethodName := ⟨RX9, "turn", "(III)I"⟩
def dkwX9_turn_4 : List UInt8 := [21, 5, 172]
abbrev dktX9_turn_4 : List UInt8 := dkwX9_turn_4 ++ []
def dkwX9_turn_3 : List UInt8 := [54, 5, 42, 180, 0, 9, 27, 3, 184, 0, 52, 28, 79, 42, 180, 0, 9, 27, 4, 184, 0, 52, 29, 79]
abbrev dktX9_turn_3 : List UInt8 := dkwX9_turn_3 ++ dktX9_turn_4
def dkwX9_turn_2 : List UInt8 := [16, 10, 42, 180, 0, 9, 27, 3, 184, 0, 52, 46, 104, 42, 180, 0, 9, 27, 4, 184, 0, 52, 46, 96]
abbrev dktX9_turn_2 : List UInt8 := dkwX9_turn_2 ++ dktX9_turn_3
def dkwX9_turn_1 : List UInt8 := [167, 0, 10, 29, 3, 16, 9, 184, 0, 126, 54, 4, 21, 4, 153, 0, 10, 42, 21, 4, 182, 0, 36, 172]
abbrev dktX9_turn_1 : List UInt8 := dkwX9_turn_1 ++ dktX9_turn_2
def dkwX9_turn_0 : List UInt8 := [42, 27, 182, 0, 100, 154, 0, 7, 2, 167, 0, 24, 28, 3, 8, 184, 0, 40, 154, 0, 8, 16, 254]
abbrev dktX9_turn_0 : List UInt8 := dkwX9_turn_0 ++ dktX9_turn_1
theorem dksX9_turn_0 : cX9_turn.data.toList.drop 0 = dktX9_turn_0 := by decide +kernel
theorem dksX9_turn_1 : cX9_turn.data.toList.drop 23 = dktX9_turn_1 := dk_seg dksX9_turn_0 23 rfl rfl
theorem dksX9_turn_2 : cX9_turn.data.toList.drop 47 = dktX9_turn_2 := dk_seg dksX9_turn_1 24 rfl rfl
theorem dksX9_turn_3 : cX9_turn.data.toList.drop 71 = dktX9_turn_3 := dk_seg dksX9_turn_2 24 rfl rfl
theorem dksX9_turn_4 : cX9_turn.data.toList.drop 95 = dktX9_turn_4 := dk_seg dksX9_turn_3 24 rfl rfl
theorem dX9_turn_0 : decode cX9_turn 0 = .ok (.aload_n 0, 1) := dk_42 (dk_at dksX9_turn_0 0 rfl rfl)
theorem dX9_turn_1 : decode cX9_turn 1 = .ok (.iload_n 1, 1) := dk_27 (dk_at dksX9_turn_0 1 rfl rfl)
theorem dX9_turn_2 : decode cX9_turn 2 = .ok (.invokevirtual 100, 3) := dk_182 0 100 (dk_at dksX9_turn_0 2 rfl rfl)
theorem dX9_turn_5 : decode cX9_turn 5 = .ok (.ifCond .ne 7, 3) := dk_154 0 7 (dk_at dksX9_turn_0 5 rfl rfl)
theorem dX9_turn_8 : decode cX9_turn 8 = .ok (.iconst (-1), 1) := dk_2 (dk_at dksX9_turn_0 8 rfl rfl)
theorem dX9_turn_9 : decode cX9_turn 9 = .ok (.goto 24, 3) := dk_167 0 24 (dk_at dksX9_turn_0 9 rfl rfl)
theorem dX9_turn_12 : decode cX9_turn 12 = .ok (.iload_n 2, 1) := dk_28 (dk_at dksX9_turn_0 12 rfl rfl)
theorem dX9_turn_13 : decode cX9_turn 13 = .ok (.iconst 0, 1) := dk_3 (dk_at dksX9_turn_0 13 rfl rfl)
theorem dX9_turn_14 : decode cX9_turn 14 = .ok (.iconst 5, 1) := dk_8 (dk_at dksX9_turn_0 14 rfl rfl)
theorem dX9_turn_15 : decode cX9_turn 15 = .ok (.invokestatic 40, 3) := dk_184 0 40 (dk_at dksX9_turn_0 15 rfl rfl)
theorem dX9_turn_18 : decode cX9_turn 18 = .ok (.ifCond .ne 8, 3) := dk_154 0 8 (dk_at dksX9_turn_0 18 rfl rfl)
theorem dX9_turn_21 : decode cX9_turn 21 = .ok (.bipush (-2), 2) := dk_16 254 (dk_at dksX9_turn_0 21 rfl rfl)
theorem dX9_turn_23 : decode cX9_turn 23 = .ok (.goto 10, 3) := dk_167 0 10 (dk_at dksX9_turn_1 0 rfl rfl)
theorem dX9_turn_26 : decode cX9_turn 26 = .ok (.iload_n 3, 1) := dk_29 (dk_at dksX9_turn_1 3 rfl rfl)
theorem dX9_turn_27 : decode cX9_turn 27 = .ok (.iconst 0, 1) := dk_3 (dk_at dksX9_turn_1 4 rfl rfl)
theorem dX9_turn_28 : decode cX9_turn 28 = .ok (.bipush 9, 2) := dk_16 9 (dk_at dksX9_turn_1 5 rfl rfl)
theorem dX9_turn_30 : decode cX9_turn 30 = .ok (.invokestatic 126, 3) := dk_184 0 126 (dk_at dksX9_turn_1 7 rfl rfl)
theorem dX9_turn_33 : decode cX9_turn 33 = .ok (.istore 4, 2) := dk_54 4 (dk_at dksX9_turn_1 10 rfl rfl)
theorem dX9_turn_35 : decode cX9_turn 35 = .ok (.iload 4, 2) := dk_21 4 (dk_at dksX9_turn_1 12 rfl rfl)
theorem dX9_turn_37 : decode cX9_turn 37 = .ok (.ifCond .eq 10, 3) := dk_153 0 10 (dk_at dksX9_turn_1 14 rfl rfl)
theorem dX9_turn_40 : decode cX9_turn 40 = .ok (.aload_n 0, 1) := dk_42 (dk_at dksX9_turn_1 17 rfl rfl)
theorem dX9_turn_41 : decode cX9_turn 41 = .ok (.iload 4, 2) := dk_21 4 (dk_at dksX9_turn_1 18 rfl rfl)
theorem dX9_turn_43 : decode cX9_turn 43 = .ok (.invokevirtual 36, 3) := dk_182 0 36 (dk_at dksX9_turn_1 20 rfl rfl)
theorem dX9_turn_46 : decode cX9_turn 46 = .ok (.ireturn, 1) := dk_172 (dk_at dksX9_turn_1 23 rfl rfl)
theorem dX9_turn_47 : decode cX9_turn 47 = .ok (.bipush 10, 2) := dk_16 10 (dk_at dksX9_turn_2 0 rfl rfl)
theorem dX9_turn_49 : decode cX9_turn 49 = .ok (.aload_n 0, 1) := dk_42 (dk_at dksX9_turn_2 2 rfl rfl)
theorem dX9_turn_50 : decode cX9_turn 50 = .ok (.getfield 9, 3) := dk_180 0 9 (dk_at dksX9_turn_2 3 rfl rfl)
theorem dX9_turn_53 : decode cX9_turn 53 = .ok (.iload_n 1, 1) := dk_27 (dk_at dksX9_turn_2 6 rfl rfl)
theorem dX9_turn_54 : decode cX9_turn 54 = .ok (.iconst 0, 1) := dk_3 (dk_at dksX9_turn_2 7 rfl rfl)
theorem dX9_turn_55 : decode cX9_turn 55 = .ok (.invokestatic 52, 3) := dk_184 0 52 (dk_at dksX9_turn_2 8 rfl rfl)
theorem dX9_turn_58 : decode cX9_turn 58 = .ok (.iaload, 1) := dk_46 (dk_at dksX9_turn_2 11 rfl rfl)
theorem dX9_turn_59 : decode cX9_turn 59 = .ok (.imul, 1) := dk_104 (dk_at dksX9_turn_2 12 rfl rfl)
theorem dX9_turn_60 : decode cX9_turn 60 = .ok (.aload_n 0, 1) := dk_42 (dk_at dksX9_turn_2 13 rfl rfl)
theorem dX9_turn_61 : decode cX9_turn 61 = .ok (.getfield 9, 3) := dk_180 0 9 (dk_at dksX9_turn_2 14 rfl rfl)
theorem dX9_turn_64 : decode cX9_turn 64 = .ok (.iload_n 1, 1) := dk_27 (dk_at dksX9_turn_2 17 rfl rfl)
theorem dX9_turn_65 : decode cX9_turn 65 = .ok (.iconst 1, 1) := dk_4 (dk_at dksX9_turn_2 18 rfl rfl)
theorem dX9_turn_66 : decode cX9_turn 66 = .ok (.invokestatic 52, 3) := dk_184 0 52 (dk_at dksX9_turn_2 19 rfl rfl)
theorem dX9_turn_69 : decode cX9_turn 69 = .ok (.iaload, 1) := dk_46 (dk_at dksX9_turn_2 22 rfl rfl)
theorem dX9_turn_70 : decode cX9_turn 70 = .ok (.iadd, 1) := dk_96 (dk_at dksX9_turn_2 23 rfl rfl)
theorem dX9_turn_71 : decode cX9_turn 71 = .ok (.istore 5, 2) := dk_54 5 (dk_at dksX9_turn_3 0 rfl rfl)
theorem dX9_turn_73 : decode cX9_turn 73 = .ok (.aload_n 0, 1) := dk_42 (dk_at dksX9_turn_3 2 rfl rfl)
theorem dX9_turn_74 : decode cX9_turn 74 = .ok (.getfield 9, 3) := dk_180 0 9 (dk_at dksX9_turn_3 3 rfl rfl)
theorem dX9_turn_77 : decode cX9_turn 77 = .ok (.iload_n 1, 1) := dk_27 (dk_at dksX9_turn_3 6 rfl rfl)
theorem dX9_turn_78 : decode cX9_turn 78 = .ok (.iconst 0, 1) := dk_3 (dk_at dksX9_turn_3 7 rfl rfl)
theorem dX9_turn_79 : decode cX9_turn 79 = .ok (.invokestatic 52, 3) := dk_184 0 52 (dk_at dksX9_turn_3 8 rfl rfl)
theorem dX9_turn_82 : decode cX9_turn 82 = .ok (.iload_n 2, 1) := dk_28 (dk_at dksX9_turn_3 11 rfl rfl)
theorem dX9_turn_83 : decode cX9_turn 83 = .ok (.iastore, 1) := dk_79 (dk_at dksX9_turn_3 12 rfl rfl)
theorem dX9_turn_84 : decode cX9_turn 84 = .ok (.aload_n 0, 1) := dk_42 (dk_at dksX9_turn_3 13 rfl rfl)
theorem dX9_turn_85 : decode cX9_turn 85 = .ok (.getfield 9, 3) := dk_180 0 9 (dk_at dksX9_turn_3 14 rfl rfl)
theorem dX9_turn_88 : decode cX9_turn 88 = .ok (.iload_n 1, 1) := dk_27 (dk_at dksX9_turn_3 17 rfl rfl)
theorem dX9_turn_89 : decode cX9_turn 89 = .ok (.iconst 1, 1) := dk_4 (dk_at dksX9_turn_3 18 rfl rfl)
theorem dX9_turn_90 : decode cX9_turn 90 = .ok (.invokestatic 52, 3) := dk_184 0 52 (dk_at dksX9_turn_3 19 rfl rfl)
theorem dX9_turn_93 : decode cX9_turn 93 = .ok (.iload_n 3, 1) := dk_29 (dk_at dksX9_turn_3 22 rfl rfl)
theorem dX9_turn_94 : decode cX9_turn 94 = .ok (.iastore, 1) := dk_79 (dk_at dksX9_turn_3 23 rfl rfl)
theorem dX9_turn_95 : decode cX9_turn 95 = .ok (.iload 5, 2) := dk_21 5 (dk_at dksX9_turn_4 0 rfl rfl)
theorem dX9_turn_97 : decode cX9_turn 97 = .ok (.ireturn, 1) := dk_172 (dk_at dksX9_turn_4 2 rfl rfl)
abbrev cX9_hours : ByteArray := prog_24_method_42_code
def yX9_hours : MethodName := ⟨RX9, "hours", "(I)I"⟩
def dkwX9_hours_2 : List UInt8 := [180, 0, 9, 5, 46, 172]
abbrev dktX9_hours_2 : List UInt8 := dkwX9_hours_2 ++ []
def dkwX9_hours_1 : List UInt8 := [27, 96, 17, 3, 231, 164, 0, 10, 42, 16, 250, 182, 0, 36, 172, 42, 180, 0, 9, 27, 184, 0, 104, 42]
abbrev dktX9_hours_1 : List UInt8 := dkwX9_hours_1 ++ dktX9_hours_2
def dkwX9_hours_0 : List UInt8 := [27, 4, 162, 0, 10, 42, 16, 252, 182, 0, 36, 172, 27, 16, 60, 163, 0, 17, 42, 180, 0, 9, 4, 46]
abbrev dktX9_hours_0 : List UInt8 := dkwX9_hours_0 ++ dktX9_hours_1
theorem dksX9_hours_0 : cX9_hours.data.toList.drop 0 = dktX9_hours_0 := by decide +kernel
theorem dksX9_hours_1 : cX9_hours.data.toList.drop 24 = dktX9_hours_1 := dk_seg dksX9_hours_0 24 rfl rfl
theorem dksX9_hours_2 : cX9_hours.data.toList.drop 48 = dktX9_hours_2 := dk_seg dksX9_hours_1 24 rfl rfl
theorem dX9_hours_0 : decode cX9_hours 0 = .ok (.iload_n 1, 1) := dk_27 (dk_at dksX9_hours_0 0 rfl rfl)
theorem dX9_hours_1 : decode cX9_hours 1 = .ok (.iconst 1, 1) := dk_4 (dk_at dksX9_hours_0 1 rfl rfl)
theorem dX9_hours_2 : decode cX9_hours 2 = .ok (.if_icmp .ge 10, 3) := dk_162 0 10 (dk_at dksX9_hours_0 2 rfl rfl)
theorem dX9_hours_5 : decode cX9_hours 5 = .ok (.aload_n 0, 1) := dk_42 (dk_at dksX9_hours_0 5 rfl rfl)
theorem dX9_hours_6 : decode cX9_hours 6 = .ok (.bipush (-4), 2) := dk_16 252 (dk_at dksX9_hours_0 6 rfl rfl)
theorem dX9_hours_8 : decode cX9_hours 8 = .ok (.invokevirtual 36, 3) := dk_182 0 36 (dk_at dksX9_hours_0 8 rfl rfl)
theorem dX9_hours_11 : decode cX9_hours 11 = .ok (.ireturn, 1) := dk_172 (dk_at dksX9_hours_0 11 rfl rfl)
theorem dX9_hours_12 : decode cX9_hours 12 = .ok (.iload_n 1, 1) := dk_27 (dk_at dksX9_hours_0 12 rfl rfl)
theorem dX9_hours_13 : decode cX9_hours 13 = .ok (.bipush 60, 2) := dk_16 60 (dk_at dksX9_hours_0 13 rfl rfl)
theorem dX9_hours_15 : decode cX9_hours 15 = .ok (.if_icmp .gt 17, 3) := dk_163 0 17 (dk_at dksX9_hours_0 15 rfl rfl)
theorem dX9_hours_18 : decode cX9_hours 18 = .ok (.aload_n 0, 1) := dk_42 (dk_at dksX9_hours_0 18 rfl rfl)
theorem dX9_hours_19 : decode cX9_hours 19 = .ok (.getfield 9, 3) := dk_180 0 9 (dk_at dksX9_hours_0 19 rfl rfl)
theorem dX9_hours_22 : decode cX9_hours 22 = .ok (.iconst 1, 1) := dk_4 (dk_at dksX9_hours_0 22 rfl rfl)
theorem dX9_hours_23 : decode cX9_hours 23 = .ok (.iaload, 1) := dk_46 (dk_at dksX9_hours_0 23 rfl rfl)
theorem dX9_hours_24 : decode cX9_hours 24 = .ok (.iload_n 1, 1) := dk_27 (dk_at dksX9_hours_1 0 rfl rfl)
theorem dX9_hours_25 : decode cX9_hours 25 = .ok (.iadd, 1) := dk_96 (dk_at dksX9_hours_1 1 rfl rfl)
theorem dX9_hours_26 : decode cX9_hours 26 = .ok (.sipush 999, 3) := dk_17 3 231 (dk_at dksX9_hours_1 2 rfl rfl)
theorem dX9_hours_29 : decode cX9_hours 29 = .ok (.if_icmp .le 10, 3) := dk_164 0 10 (dk_at dksX9_hours_1 5 rfl rfl)
theorem dX9_hours_32 : decode cX9_hours 32 = .ok (.aload_n 0, 1) := dk_42 (dk_at dksX9_hours_1 8 rfl rfl)
theorem dX9_hours_33 : decode cX9_hours 33 = .ok (.bipush (-6), 2) := dk_16 250 (dk_at dksX9_hours_1 9 rfl rfl)
theorem dX9_hours_35 : decode cX9_hours 35 = .ok (.invokevirtual 36, 3) := dk_182 0 36 (dk_at dksX9_hours_1 11 rfl rfl)
theorem dX9_hours_38 : decode cX9_hours 38 = .ok (.ireturn, 1) := dk_172 (dk_at dksX9_hours_1 14 rfl rfl)
theorem dX9_hours_39 : decode cX9_hours 39 = .ok (.aload_n 0, 1) := dk_42 (dk_at dksX9_hours_1 15 rfl rfl)
theorem dX9_hours_40 : decode cX9_hours 40 = .ok (.getfield 9, 3) := dk_180 0 9 (dk_at dksX9_hours_1 16 rfl rfl)
theorem dX9_hours_43 : decode cX9_hours 43 = .ok (.iload_n 1, 1) := dk_27 (dk_at dksX9_hours_1 19 rfl rfl)
theorem dX9_hours_44 : decode cX9_hours 44 = .ok (.invokestatic 104, 3) := dk_184 0 104 (dk_at dksX9_hours_1 20 rfl rfl)
theorem dX9_hours_47 : decode cX9_hours 47 = .ok (.aload_n 0, 1) := dk_42 (dk_at dksX9_hours_1 23 rfl rfl)
theorem dX9_hours_48 : decode cX9_hours 48 = .ok (.getfield 9, 3) := dk_180 0 9 (dk_at dksX9_hours_2 0 rfl rfl)
theorem dX9_hours_51 : decode cX9_hours 51 = .ok (.iconst 2, 1) := dk_5 (dk_at dksX9_hours_2 3 rfl rfl)
theorem dX9_hours_52 : decode cX9_hours 52 = .ok (.iaload, 1) := dk_46 (dk_at dksX9_hours_2 4 rfl rfl)
theorem dX9_hours_53 : decode cX9_hours 53 = .ok (.ireturn, 1) := dk_172 (dk_at dksX9_hours_2 5 rfl rfl)
abbrev cX9_hasThen : ByteArray := prog_24_method_44_code
def yX9_hasThen : MethodName := ⟨RX9, "hasThen", "(II)I"⟩
def dkwX9_hasThen_1 : List UInt8 := [42, 29, 182, 0, 36, 172, 42, 28, 182, 0, 137, 42, 180, 0, 13, 27, 6, 184, 0, 52, 46, 172]
abbrev dktX9_hasThen_1 : List UInt8 := dkwX9_hasThen_1 ++ []
def dkwX9_hasThen_0 : List UInt8 := [42, 27, 182, 0, 100, 153, 0, 13, 28, 3, 16, 60, 184, 0, 126, 167, 0, 4, 2, 62, 29, 153, 0, 9]
abbrev dktX9_hasThen_0 : List UInt8 := dkwX9_hasThen_0 ++ dktX9_hasThen_1
theorem dksX9_hasThen_0 : cX9_hasThen.data.toList.drop 0 = dktX9_hasThen_0 := by decide +kernel
theorem dksX9_hasThen_1 : cX9_hasThen.data.toList.drop 24 = dktX9_hasThen_1 := dk_seg dksX9_hasThen_0 24 rfl rfl
theorem dX9_hasThen_0 : decode cX9_hasThen 0 = .ok (.aload_n 0, 1) := dk_42 (dk_at dksX9_hasThen_0 0 rfl rfl)
theorem dX9_hasThen_1 : decode cX9_hasThen 1 = .ok (.iload_n 1, 1) := dk_27 (dk_at dksX9_hasThen_0 1 rfl rfl)
theorem dX9_hasThen_2 : decode cX9_hasThen 2 = .ok (.invokevirtual 100, 3) := dk_182 0 100 (dk_at dksX9_hasThen_0 2 rfl rfl)
theorem dX9_hasThen_5 : decode cX9_hasThen 5 = .ok (.ifCond .eq 13, 3) := dk_153 0 13 (dk_at dksX9_hasThen_0 5 rfl rfl)
theorem dX9_hasThen_8 : decode cX9_hasThen 8 = .ok (.iload_n 2, 1) := dk_28 (dk_at dksX9_hasThen_0 8 rfl rfl)
theorem dX9_hasThen_9 : decode cX9_hasThen 9 = .ok (.iconst 0, 1) := dk_3 (dk_at dksX9_hasThen_0 9 rfl rfl)
theorem dX9_hasThen_10 : decode cX9_hasThen 10 = .ok (.bipush 60, 2) := dk_16 60 (dk_at dksX9_hasThen_0 10 rfl rfl)
theorem dX9_hasThen_12 : decode cX9_hasThen 12 = .ok (.invokestatic 126, 3) := dk_184 0 126 (dk_at dksX9_hasThen_0 12 rfl rfl)
theorem dX9_hasThen_15 : decode cX9_hasThen 15 = .ok (.goto 4, 3) := dk_167 0 4 (dk_at dksX9_hasThen_0 15 rfl rfl)
theorem dX9_hasThen_18 : decode cX9_hasThen 18 = .ok (.iconst (-1), 1) := dk_2 (dk_at dksX9_hasThen_0 18 rfl rfl)
theorem dX9_hasThen_19 : decode cX9_hasThen 19 = .ok (.istore_n 3, 1) := dk_62 (dk_at dksX9_hasThen_0 19 rfl rfl)
theorem dX9_hasThen_20 : decode cX9_hasThen 20 = .ok (.iload_n 3, 1) := dk_29 (dk_at dksX9_hasThen_0 20 rfl rfl)
theorem dX9_hasThen_21 : decode cX9_hasThen 21 = .ok (.ifCond .eq 9, 3) := dk_153 0 9 (dk_at dksX9_hasThen_0 21 rfl rfl)
theorem dX9_hasThen_24 : decode cX9_hasThen 24 = .ok (.aload_n 0, 1) := dk_42 (dk_at dksX9_hasThen_1 0 rfl rfl)
theorem dX9_hasThen_25 : decode cX9_hasThen 25 = .ok (.iload_n 3, 1) := dk_29 (dk_at dksX9_hasThen_1 1 rfl rfl)
theorem dX9_hasThen_26 : decode cX9_hasThen 26 = .ok (.invokevirtual 36, 3) := dk_182 0 36 (dk_at dksX9_hasThen_1 2 rfl rfl)
theorem dX9_hasThen_29 : decode cX9_hasThen 29 = .ok (.ireturn, 1) := dk_172 (dk_at dksX9_hasThen_1 5 rfl rfl)
theorem dX9_hasThen_30 : decode cX9_hasThen 30 = .ok (.aload_n 0, 1) := dk_42 (dk_at dksX9_hasThen_1 6 rfl rfl)
theorem dX9_hasThen_31 : decode cX9_hasThen 31 = .ok (.iload_n 2, 1) := dk_28 (dk_at dksX9_hasThen_1 7 rfl rfl)
theorem dX9_hasThen_32 : decode cX9_hasThen 32 = .ok (.invokevirtual 137, 3) := dk_182 0 137 (dk_at dksX9_hasThen_1 8 rfl rfl)
theorem dX9_hasThen_35 : decode cX9_hasThen 35 = .ok (.aload_n 0, 1) := dk_42 (dk_at dksX9_hasThen_1 11 rfl rfl)
theorem dX9_hasThen_36 : decode cX9_hasThen 36 = .ok (.getfield 13, 3) := dk_180 0 13 (dk_at dksX9_hasThen_1 12 rfl rfl)
theorem dX9_hasThen_39 : decode cX9_hasThen 39 = .ok (.iload_n 1, 1) := dk_27 (dk_at dksX9_hasThen_1 15 rfl rfl)
theorem dX9_hasThen_40 : decode cX9_hasThen 40 = .ok (.iconst 3, 1) := dk_6 (dk_at dksX9_hasThen_1 16 rfl rfl)
theorem dX9_hasThen_41 : decode cX9_hasThen 41 = .ok (.invokestatic 52, 3) := dk_184 0 52 (dk_at dksX9_hasThen_1 17 rfl rfl)
theorem dX9_hasThen_44 : decode cX9_hasThen 44 = .ok (.iaload, 1) := dk_46 (dk_at dksX9_hasThen_1 20 rfl rfl)
theorem dX9_hasThen_45 : decode cX9_hasThen 45 = .ok (.ireturn, 1) := dk_172 (dk_at dksX9_hasThen_1 21 rfl rfl)
abbrev cX9_takes : ByteArray := prog_24_method_43_code
def yX9_takes : MethodName := ⟨RX9, "takes", "(I)V"⟩
def dkwX9_takes_0 : List UInt8 := [42, 180, 0, 9, 42, 180, 0, 13, 184, 0, 110, 42, 180, 0, 13, 27, 184, 0, 104, 177]
abbrev dktX9_takes_0 : List UInt8 := dkwX9_takes_0 ++ []
theorem dksX9_takes_0 : cX9_takes.data.toList.drop 0 = dktX9_takes_0 := by decide +kernel
theorem dX9_takes_0 : decode cX9_takes 0 = .ok (.aload_n 0, 1) := dk_42 (dk_at dksX9_takes_0 0 rfl rfl)
theorem dX9_takes_1 : decode cX9_takes 1 = .ok (.getfield 9, 3) := dk_180 0 9 (dk_at dksX9_takes_0 1 rfl rfl)
theorem dX9_takes_4 : decode cX9_takes 4 = .ok (.aload_n 0, 1) := dk_42 (dk_at dksX9_takes_0 4 rfl rfl)
theorem dX9_takes_5 : decode cX9_takes 5 = .ok (.getfield 13, 3) := dk_180 0 13 (dk_at dksX9_takes_0 5 rfl rfl)
theorem dX9_takes_8 : decode cX9_takes 8 = .ok (.invokestatic 110, 3) := dk_184 0 110 (dk_at dksX9_takes_0 8 rfl rfl)
theorem dX9_takes_11 : decode cX9_takes 11 = .ok (.aload_n 0, 1) := dk_42 (dk_at dksX9_takes_0 11 rfl rfl)
theorem dX9_takes_12 : decode cX9_takes 12 = .ok (.getfield 13, 3) := dk_180 0 13 (dk_at dksX9_takes_0 12 rfl rfl)
theorem dX9_takes_15 : decode cX9_takes 15 = .ok (.iload_n 1, 1) := dk_27 (dk_at dksX9_takes_0 15 rfl rfl)
theorem dX9_takes_16 : decode cX9_takes 16 = .ok (.invokestatic 104, 3) := dk_184 0 104 (dk_at dksX9_takes_0 16 rfl rfl)
theorem dX9_takes_19 : decode cX9_takes 19 = .ok (.return_, 1) := dk_177 (dk_at dksX9_takes_0 19 rfl rfl)
abbrev cX9_then : ByteArray := prog_24_method_45_code
def yX9_then : MethodName := ⟨RX9, "then", "(II)I"⟩
def dkwX9_then_3 : List UInt8 := [160, 0, 14, 42, 180, 0, 13, 8, 184, 0, 117, 167, 0, 10, 42, 180, 0, 13, 184, 0, 141, 172]
abbrev dktX9_then_3 : List UInt8 := dkwX9_then_3 ++ []
def dkwX9_then_2 : List UInt8 := [46, 167, 0, 42, 28, 4, 160, 0, 14, 42, 180, 0, 13, 7, 184, 0, 117, 167, 0, 26, 28, 5]
abbrev dktX9_then_2 : List UInt8 := dkwX9_then_2 ++ dktX9_then_3
def dkwX9_then_1 : List UInt8 := [29, 153, 0, 9, 42, 29, 182, 0, 36, 172, 42, 27, 182, 0, 137, 28, 154, 0, 12, 42, 180, 0, 13, 5]
abbrev dktX9_then_1 : List UInt8 := dkwX9_then_1 ++ dktX9_then_2
def dkwX9_then_0 : List UInt8 := [27, 3, 16, 60, 184, 0, 126, 62, 29, 154, 0, 15, 28, 3, 6, 184, 0, 40, 154, 0, 6, 16, 254, 62]
abbrev dktX9_then_0 : List UInt8 := dkwX9_then_0 ++ dktX9_then_1
theorem dksX9_then_0 : cX9_then.data.toList.drop 0 = dktX9_then_0 := by decide +kernel
theorem dksX9_then_1 : cX9_then.data.toList.drop 24 = dktX9_then_1 := dk_seg dksX9_then_0 24 rfl rfl
theorem dksX9_then_2 : cX9_then.data.toList.drop 48 = dktX9_then_2 := dk_seg dksX9_then_1 24 rfl rfl
theorem dksX9_then_3 : cX9_then.data.toList.drop 70 = dktX9_then_3 := dk_seg dksX9_then_2 22 rfl rfl
theorem dX9_then_0 : decode cX9_then 0 = .ok (.iload_n 1, 1) := dk_27 (dk_at dksX9_then_0 0 rfl rfl)
theorem dX9_then_1 : decode cX9_then 1 = .ok (.iconst 0, 1) := dk_3 (dk_at dksX9_then_0 1 rfl rfl)
theorem dX9_then_2 : decode cX9_then 2 = .ok (.bipush 60, 2) := dk_16 60 (dk_at dksX9_then_0 2 rfl rfl)
theorem dX9_then_4 : decode cX9_then 4 = .ok (.invokestatic 126, 3) := dk_184 0 126 (dk_at dksX9_then_0 4 rfl rfl)
theorem dX9_then_7 : decode cX9_then 7 = .ok (.istore_n 3, 1) := dk_62 (dk_at dksX9_then_0 7 rfl rfl)
theorem dX9_then_8 : decode cX9_then 8 = .ok (.iload_n 3, 1) := dk_29 (dk_at dksX9_then_0 8 rfl rfl)
theorem dX9_then_9 : decode cX9_then 9 = .ok (.ifCond .ne 15, 3) := dk_154 0 15 (dk_at dksX9_then_0 9 rfl rfl)
theorem dX9_then_12 : decode cX9_then 12 = .ok (.iload_n 2, 1) := dk_28 (dk_at dksX9_then_0 12 rfl rfl)
theorem dX9_then_13 : decode cX9_then 13 = .ok (.iconst 0, 1) := dk_3 (dk_at dksX9_then_0 13 rfl rfl)
theorem dX9_then_14 : decode cX9_then 14 = .ok (.iconst 3, 1) := dk_6 (dk_at dksX9_then_0 14 rfl rfl)
theorem dX9_then_15 : decode cX9_then 15 = .ok (.invokestatic 40, 3) := dk_184 0 40 (dk_at dksX9_then_0 15 rfl rfl)
theorem dX9_then_18 : decode cX9_then 18 = .ok (.ifCond .ne 6, 3) := dk_154 0 6 (dk_at dksX9_then_0 18 rfl rfl)
theorem dX9_then_21 : decode cX9_then 21 = .ok (.bipush (-2), 2) := dk_16 254 (dk_at dksX9_then_0 21 rfl rfl)
theorem dX9_then_23 : decode cX9_then 23 = .ok (.istore_n 3, 1) := dk_62 (dk_at dksX9_then_0 23 rfl rfl)
theorem dX9_then_24 : decode cX9_then 24 = .ok (.iload_n 3, 1) := dk_29 (dk_at dksX9_then_1 0 rfl rfl)
theorem dX9_then_25 : decode cX9_then 25 = .ok (.ifCond .eq 9, 3) := dk_153 0 9 (dk_at dksX9_then_1 1 rfl rfl)
theorem dX9_then_28 : decode cX9_then 28 = .ok (.aload_n 0, 1) := dk_42 (dk_at dksX9_then_1 4 rfl rfl)
theorem dX9_then_29 : decode cX9_then 29 = .ok (.iload_n 3, 1) := dk_29 (dk_at dksX9_then_1 5 rfl rfl)
theorem dX9_then_30 : decode cX9_then 30 = .ok (.invokevirtual 36, 3) := dk_182 0 36 (dk_at dksX9_then_1 6 rfl rfl)
theorem dX9_then_33 : decode cX9_then 33 = .ok (.ireturn, 1) := dk_172 (dk_at dksX9_then_1 9 rfl rfl)
theorem dX9_then_34 : decode cX9_then 34 = .ok (.aload_n 0, 1) := dk_42 (dk_at dksX9_then_1 10 rfl rfl)
theorem dX9_then_35 : decode cX9_then 35 = .ok (.iload_n 1, 1) := dk_27 (dk_at dksX9_then_1 11 rfl rfl)
theorem dX9_then_36 : decode cX9_then 36 = .ok (.invokevirtual 137, 3) := dk_182 0 137 (dk_at dksX9_then_1 12 rfl rfl)
theorem dX9_then_39 : decode cX9_then 39 = .ok (.iload_n 2, 1) := dk_28 (dk_at dksX9_then_1 15 rfl rfl)
theorem dX9_then_40 : decode cX9_then 40 = .ok (.ifCond .ne 12, 3) := dk_154 0 12 (dk_at dksX9_then_1 16 rfl rfl)
theorem dX9_then_43 : decode cX9_then 43 = .ok (.aload_n 0, 1) := dk_42 (dk_at dksX9_then_1 19 rfl rfl)
theorem dX9_then_44 : decode cX9_then 44 = .ok (.getfield 13, 3) := dk_180 0 13 (dk_at dksX9_then_1 20 rfl rfl)
theorem dX9_then_47 : decode cX9_then 47 = .ok (.iconst 2, 1) := dk_5 (dk_at dksX9_then_1 23 rfl rfl)
theorem dX9_then_48 : decode cX9_then 48 = .ok (.iaload, 1) := dk_46 (dk_at dksX9_then_2 0 rfl rfl)
theorem dX9_then_49 : decode cX9_then 49 = .ok (.goto 42, 3) := dk_167 0 42 (dk_at dksX9_then_2 1 rfl rfl)
theorem dX9_then_52 : decode cX9_then 52 = .ok (.iload_n 2, 1) := dk_28 (dk_at dksX9_then_2 4 rfl rfl)
theorem dX9_then_53 : decode cX9_then 53 = .ok (.iconst 1, 1) := dk_4 (dk_at dksX9_then_2 5 rfl rfl)
theorem dX9_then_54 : decode cX9_then 54 = .ok (.if_icmp .ne 14, 3) := dk_160 0 14 (dk_at dksX9_then_2 6 rfl rfl)
theorem dX9_then_57 : decode cX9_then 57 = .ok (.aload_n 0, 1) := dk_42 (dk_at dksX9_then_2 9 rfl rfl)
theorem dX9_then_58 : decode cX9_then 58 = .ok (.getfield 13, 3) := dk_180 0 13 (dk_at dksX9_then_2 10 rfl rfl)
theorem dX9_then_61 : decode cX9_then 61 = .ok (.iconst 4, 1) := dk_7 (dk_at dksX9_then_2 13 rfl rfl)
theorem dX9_then_62 : decode cX9_then 62 = .ok (.invokestatic 117, 3) := dk_184 0 117 (dk_at dksX9_then_2 14 rfl rfl)
theorem dX9_then_65 : decode cX9_then 65 = .ok (.goto 26, 3) := dk_167 0 26 (dk_at dksX9_then_2 17 rfl rfl)
theorem dX9_then_68 : decode cX9_then 68 = .ok (.iload_n 2, 1) := dk_28 (dk_at dksX9_then_2 20 rfl rfl)
theorem dX9_then_69 : decode cX9_then 69 = .ok (.iconst 2, 1) := dk_5 (dk_at dksX9_then_2 21 rfl rfl)
theorem dX9_then_70 : decode cX9_then 70 = .ok (.if_icmp .ne 14, 3) := dk_160 0 14 (dk_at dksX9_then_3 0 rfl rfl)
theorem dX9_then_73 : decode cX9_then 73 = .ok (.aload_n 0, 1) := dk_42 (dk_at dksX9_then_3 3 rfl rfl)
theorem dX9_then_74 : decode cX9_then 74 = .ok (.getfield 13, 3) := dk_180 0 13 (dk_at dksX9_then_3 4 rfl rfl)
theorem dX9_then_77 : decode cX9_then 77 = .ok (.iconst 5, 1) := dk_8 (dk_at dksX9_then_3 7 rfl rfl)
theorem dX9_then_78 : decode cX9_then 78 = .ok (.invokestatic 117, 3) := dk_184 0 117 (dk_at dksX9_then_3 8 rfl rfl)
theorem dX9_then_81 : decode cX9_then 81 = .ok (.goto 10, 3) := dk_167 0 10 (dk_at dksX9_then_3 11 rfl rfl)
theorem dX9_then_84 : decode cX9_then 84 = .ok (.aload_n 0, 1) := dk_42 (dk_at dksX9_then_3 14 rfl rfl)
theorem dX9_then_85 : decode cX9_then 85 = .ok (.getfield 13, 3) := dk_180 0 13 (dk_at dksX9_then_3 15 rfl rfl)
theorem dX9_then_88 : decode cX9_then 88 = .ok (.invokestatic 141, 3) := dk_184 0 141 (dk_at dksX9_then_3 18 rfl rfl)
theorem dX9_then_91 : decode cX9_then 91 = .ok (.ireturn, 1) := dk_172 (dk_at dksX9_then_3 21 rfl rfl)
abbrev cX9_allHave : ByteArray := prog_24_method_18_code
def yX9_allHave : MethodName := ⟨RX9, "allHave", "([I)I"⟩
def dkwX9_allHave_1 : List UInt8 := [167, 255, 236, 27, 172]
abbrev dktX9_allHave_1 : List UInt8 := dkwX9_allHave_1 ++ []
def dkwX9_allHave_0 : List UInt8 := [3, 60, 3, 61, 28, 42, 3, 46, 162, 0, 19, 27, 42, 28, 6, 184, 0, 52, 46, 96, 60, 132, 2, 1]
abbrev dktX9_allHave_0 : List UInt8 := dkwX9_allHave_0 ++ dktX9_allHave_1
theorem dksX9_allHave_0 : cX9_allHave.data.toList.drop 0 = dktX9_allHave_0 := by decide +kernel
theorem dksX9_allHave_1 : cX9_allHave.data.toList.drop 24 = dktX9_allHave_1 := dk_seg dksX9_allHave_0 24 rfl rfl
theorem dX9_allHave_0 : decode cX9_allHave 0 = .ok (.iconst 0, 1) := dk_3 (dk_at dksX9_allHave_0 0 rfl rfl)
theorem dX9_allHave_1 : decode cX9_allHave 1 = .ok (.istore_n 1, 1) := dk_60 (dk_at dksX9_allHave_0 1 rfl rfl)
theorem dX9_allHave_2 : decode cX9_allHave 2 = .ok (.iconst 0, 1) := dk_3 (dk_at dksX9_allHave_0 2 rfl rfl)
theorem dX9_allHave_3 : decode cX9_allHave 3 = .ok (.istore_n 2, 1) := dk_61 (dk_at dksX9_allHave_0 3 rfl rfl)
theorem dX9_allHave_4 : decode cX9_allHave 4 = .ok (.iload_n 2, 1) := dk_28 (dk_at dksX9_allHave_0 4 rfl rfl)
theorem dX9_allHave_5 : decode cX9_allHave 5 = .ok (.aload_n 0, 1) := dk_42 (dk_at dksX9_allHave_0 5 rfl rfl)
theorem dX9_allHave_6 : decode cX9_allHave 6 = .ok (.iconst 0, 1) := dk_3 (dk_at dksX9_allHave_0 6 rfl rfl)
theorem dX9_allHave_7 : decode cX9_allHave 7 = .ok (.iaload, 1) := dk_46 (dk_at dksX9_allHave_0 7 rfl rfl)
theorem dX9_allHave_8 : decode cX9_allHave 8 = .ok (.if_icmp .ge 19, 3) := dk_162 0 19 (dk_at dksX9_allHave_0 8 rfl rfl)
theorem dX9_allHave_11 : decode cX9_allHave 11 = .ok (.iload_n 1, 1) := dk_27 (dk_at dksX9_allHave_0 11 rfl rfl)
theorem dX9_allHave_12 : decode cX9_allHave 12 = .ok (.aload_n 0, 1) := dk_42 (dk_at dksX9_allHave_0 12 rfl rfl)
theorem dX9_allHave_13 : decode cX9_allHave 13 = .ok (.iload_n 2, 1) := dk_28 (dk_at dksX9_allHave_0 13 rfl rfl)
theorem dX9_allHave_14 : decode cX9_allHave 14 = .ok (.iconst 3, 1) := dk_6 (dk_at dksX9_allHave_0 14 rfl rfl)
theorem dX9_allHave_15 : decode cX9_allHave 15 = .ok (.invokestatic 52, 3) := dk_184 0 52 (dk_at dksX9_allHave_0 15 rfl rfl)
theorem dX9_allHave_18 : decode cX9_allHave 18 = .ok (.iaload, 1) := dk_46 (dk_at dksX9_allHave_0 18 rfl rfl)
theorem dX9_allHave_19 : decode cX9_allHave 19 = .ok (.iadd, 1) := dk_96 (dk_at dksX9_allHave_0 19 rfl rfl)
theorem dX9_allHave_20 : decode cX9_allHave 20 = .ok (.istore_n 1, 1) := dk_60 (dk_at dksX9_allHave_0 20 rfl rfl)
theorem dX9_allHave_21 : decode cX9_allHave 21 = .ok (.iinc 2 1, 3) := dk_132 2 1 (dk_at dksX9_allHave_0 21 rfl rfl)
theorem dX9_allHave_24 : decode cX9_allHave 24 = .ok (.goto (-20), 3) := dk_167 255 236 (dk_at dksX9_allHave_1 0 rfl rfl)
theorem dX9_allHave_27 : decode cX9_allHave 27 = .ok (.iload_n 1, 1) := dk_27 (dk_at dksX9_allHave_1 3 rfl rfl)
theorem dX9_allHave_28 : decode cX9_allHave 28 = .ok (.ireturn, 1) := dk_172 (dk_at dksX9_allHave_1 4 rfl rfl)
abbrev cX9_dry : ByteArray := prog_24_method_48_code
def yX9_dry : MethodName := ⟨RX9, "dry", "(I)I"⟩
def dkwX9_dry_1 : List UInt8 := [184, 0, 52, 182, 0, 146, 167, 0, 8, 42, 2, 182, 0, 36, 172]
abbrev dktX9_dry_1 : List UInt8 := dkwX9_dry_1 ++ []
def dkwX9_dry_0 : List UInt8 := [27, 2, 160, 0, 10, 42, 182, 0, 149, 167, 0, 28, 42, 27, 182, 0, 100, 153, 0, 15, 42, 27, 6]
abbrev dktX9_dry_0 : List UInt8 := dkwX9_dry_0 ++ dktX9_dry_1
theorem dksX9_dry_0 : cX9_dry.data.toList.drop 0 = dktX9_dry_0 := by decide +kernel
theorem dksX9_dry_1 : cX9_dry.data.toList.drop 23 = dktX9_dry_1 := dk_seg dksX9_dry_0 23 rfl rfl
theorem dX9_dry_0 : decode cX9_dry 0 = .ok (.iload_n 1, 1) := dk_27 (dk_at dksX9_dry_0 0 rfl rfl)
theorem dX9_dry_1 : decode cX9_dry 1 = .ok (.iconst (-1), 1) := dk_2 (dk_at dksX9_dry_0 1 rfl rfl)
theorem dX9_dry_2 : decode cX9_dry 2 = .ok (.if_icmp .ne 10, 3) := dk_160 0 10 (dk_at dksX9_dry_0 2 rfl rfl)
theorem dX9_dry_5 : decode cX9_dry 5 = .ok (.aload_n 0, 1) := dk_42 (dk_at dksX9_dry_0 5 rfl rfl)
theorem dX9_dry_6 : decode cX9_dry 6 = .ok (.invokevirtual 149, 3) := dk_182 0 149 (dk_at dksX9_dry_0 6 rfl rfl)
theorem dX9_dry_9 : decode cX9_dry 9 = .ok (.goto 28, 3) := dk_167 0 28 (dk_at dksX9_dry_0 9 rfl rfl)
theorem dX9_dry_12 : decode cX9_dry 12 = .ok (.aload_n 0, 1) := dk_42 (dk_at dksX9_dry_0 12 rfl rfl)
theorem dX9_dry_13 : decode cX9_dry 13 = .ok (.iload_n 1, 1) := dk_27 (dk_at dksX9_dry_0 13 rfl rfl)
theorem dX9_dry_14 : decode cX9_dry 14 = .ok (.invokevirtual 100, 3) := dk_182 0 100 (dk_at dksX9_dry_0 14 rfl rfl)
theorem dX9_dry_17 : decode cX9_dry 17 = .ok (.ifCond .eq 15, 3) := dk_153 0 15 (dk_at dksX9_dry_0 17 rfl rfl)
theorem dX9_dry_20 : decode cX9_dry 20 = .ok (.aload_n 0, 1) := dk_42 (dk_at dksX9_dry_0 20 rfl rfl)
theorem dX9_dry_21 : decode cX9_dry 21 = .ok (.iload_n 1, 1) := dk_27 (dk_at dksX9_dry_0 21 rfl rfl)
theorem dX9_dry_22 : decode cX9_dry 22 = .ok (.iconst 3, 1) := dk_6 (dk_at dksX9_dry_0 22 rfl rfl)
theorem dX9_dry_23 : decode cX9_dry 23 = .ok (.invokestatic 52, 3) := dk_184 0 52 (dk_at dksX9_dry_1 0 rfl rfl)
theorem dX9_dry_26 : decode cX9_dry 26 = .ok (.invokevirtual 146, 3) := dk_182 0 146 (dk_at dksX9_dry_1 3 rfl rfl)
theorem dX9_dry_29 : decode cX9_dry 29 = .ok (.goto 8, 3) := dk_167 0 8 (dk_at dksX9_dry_1 6 rfl rfl)
theorem dX9_dry_32 : decode cX9_dry 32 = .ok (.aload_n 0, 1) := dk_42 (dk_at dksX9_dry_1 9 rfl rfl)
theorem dX9_dry_33 : decode cX9_dry 33 = .ok (.iconst (-1), 1) := dk_2 (dk_at dksX9_dry_1 10 rfl rfl)
theorem dX9_dry_34 : decode cX9_dry 34 = .ok (.invokevirtual 36, 3) := dk_182 0 36 (dk_at dksX9_dry_1 11 rfl rfl)
theorem dX9_dry_37 : decode cX9_dry 37 = .ok (.ireturn, 1) := dk_172 (dk_at dksX9_dry_1 14 rfl rfl)
abbrev cX9_firstDry : ByteArray := prog_24_method_47_code
def yX9_firstDry : MethodName := ⟨RX9, "firstDry", "()I"⟩
def dkwX9_firstDry_2 : List UInt8 := [132, 3, 1, 167, 255, 213, 27, 172]
abbrev dktX9_firstDry_2 : List UInt8 := dkwX9_firstDry_2 ++ []
def dkwX9_firstDry_1 : List UInt8 := [182, 0, 146, 54, 4, 21, 4, 155, 0, 17, 21, 4, 28, 161, 0, 6, 167, 0, 8, 29, 60, 21, 4, 61]
abbrev dktX9_firstDry_1 : List UInt8 := dkwX9_firstDry_1 ++ dktX9_firstDry_2
def dkwX9_firstDry_0 : List UInt8 := [16, 247, 60, 18, 145, 61, 3, 62, 29, 42, 180, 0, 9, 3, 46, 162, 0, 39, 42, 29, 6, 184, 0, 52]
abbrev dktX9_firstDry_0 : List UInt8 := dkwX9_firstDry_0 ++ dktX9_firstDry_1
theorem dksX9_firstDry_0 : cX9_firstDry.data.toList.drop 0 = dktX9_firstDry_0 := by decide +kernel
theorem dksX9_firstDry_1 : cX9_firstDry.data.toList.drop 24 = dktX9_firstDry_1 := dk_seg dksX9_firstDry_0 24 rfl rfl
theorem dksX9_firstDry_2 : cX9_firstDry.data.toList.drop 48 = dktX9_firstDry_2 := dk_seg dksX9_firstDry_1 24 rfl rfl
theorem dX9_firstDry_0 : decode cX9_firstDry 0 = .ok (.bipush (-9), 2) := dk_16 247 (dk_at dksX9_firstDry_0 0 rfl rfl)
theorem dX9_firstDry_2 : decode cX9_firstDry 2 = .ok (.istore_n 1, 1) := dk_60 (dk_at dksX9_firstDry_0 2 rfl rfl)
theorem dX9_firstDry_3 : decode cX9_firstDry 3 = .ok (.ldc 145, 2) := dk_18 145 (dk_at dksX9_firstDry_0 3 rfl rfl)
theorem dX9_firstDry_5 : decode cX9_firstDry 5 = .ok (.istore_n 2, 1) := dk_61 (dk_at dksX9_firstDry_0 5 rfl rfl)
theorem dX9_firstDry_6 : decode cX9_firstDry 6 = .ok (.iconst 0, 1) := dk_3 (dk_at dksX9_firstDry_0 6 rfl rfl)
theorem dX9_firstDry_7 : decode cX9_firstDry 7 = .ok (.istore_n 3, 1) := dk_62 (dk_at dksX9_firstDry_0 7 rfl rfl)
theorem dX9_firstDry_8 : decode cX9_firstDry 8 = .ok (.iload_n 3, 1) := dk_29 (dk_at dksX9_firstDry_0 8 rfl rfl)
theorem dX9_firstDry_9 : decode cX9_firstDry 9 = .ok (.aload_n 0, 1) := dk_42 (dk_at dksX9_firstDry_0 9 rfl rfl)
theorem dX9_firstDry_10 : decode cX9_firstDry 10 = .ok (.getfield 9, 3) := dk_180 0 9 (dk_at dksX9_firstDry_0 10 rfl rfl)
theorem dX9_firstDry_13 : decode cX9_firstDry 13 = .ok (.iconst 0, 1) := dk_3 (dk_at dksX9_firstDry_0 13 rfl rfl)
theorem dX9_firstDry_14 : decode cX9_firstDry 14 = .ok (.iaload, 1) := dk_46 (dk_at dksX9_firstDry_0 14 rfl rfl)
theorem dX9_firstDry_15 : decode cX9_firstDry 15 = .ok (.if_icmp .ge 39, 3) := dk_162 0 39 (dk_at dksX9_firstDry_0 15 rfl rfl)
theorem dX9_firstDry_18 : decode cX9_firstDry 18 = .ok (.aload_n 0, 1) := dk_42 (dk_at dksX9_firstDry_0 18 rfl rfl)
theorem dX9_firstDry_19 : decode cX9_firstDry 19 = .ok (.iload_n 3, 1) := dk_29 (dk_at dksX9_firstDry_0 19 rfl rfl)
theorem dX9_firstDry_20 : decode cX9_firstDry 20 = .ok (.iconst 3, 1) := dk_6 (dk_at dksX9_firstDry_0 20 rfl rfl)
theorem dX9_firstDry_21 : decode cX9_firstDry 21 = .ok (.invokestatic 52, 3) := dk_184 0 52 (dk_at dksX9_firstDry_0 21 rfl rfl)
theorem dX9_firstDry_24 : decode cX9_firstDry 24 = .ok (.invokevirtual 146, 3) := dk_182 0 146 (dk_at dksX9_firstDry_1 0 rfl rfl)
theorem dX9_firstDry_27 : decode cX9_firstDry 27 = .ok (.istore 4, 2) := dk_54 4 (dk_at dksX9_firstDry_1 3 rfl rfl)
theorem dX9_firstDry_29 : decode cX9_firstDry 29 = .ok (.iload 4, 2) := dk_21 4 (dk_at dksX9_firstDry_1 5 rfl rfl)
theorem dX9_firstDry_31 : decode cX9_firstDry 31 = .ok (.ifCond .lt 17, 3) := dk_155 0 17 (dk_at dksX9_firstDry_1 7 rfl rfl)
theorem dX9_firstDry_34 : decode cX9_firstDry 34 = .ok (.iload 4, 2) := dk_21 4 (dk_at dksX9_firstDry_1 10 rfl rfl)
theorem dX9_firstDry_36 : decode cX9_firstDry 36 = .ok (.iload_n 2, 1) := dk_28 (dk_at dksX9_firstDry_1 12 rfl rfl)
theorem dX9_firstDry_37 : decode cX9_firstDry 37 = .ok (.if_icmp .lt 6, 3) := dk_161 0 6 (dk_at dksX9_firstDry_1 13 rfl rfl)
theorem dX9_firstDry_40 : decode cX9_firstDry 40 = .ok (.goto 8, 3) := dk_167 0 8 (dk_at dksX9_firstDry_1 16 rfl rfl)
theorem dX9_firstDry_43 : decode cX9_firstDry 43 = .ok (.iload_n 3, 1) := dk_29 (dk_at dksX9_firstDry_1 19 rfl rfl)
theorem dX9_firstDry_44 : decode cX9_firstDry 44 = .ok (.istore_n 1, 1) := dk_60 (dk_at dksX9_firstDry_1 20 rfl rfl)
theorem dX9_firstDry_45 : decode cX9_firstDry 45 = .ok (.iload 4, 2) := dk_21 4 (dk_at dksX9_firstDry_1 21 rfl rfl)
theorem dX9_firstDry_47 : decode cX9_firstDry 47 = .ok (.istore_n 2, 1) := dk_61 (dk_at dksX9_firstDry_1 23 rfl rfl)
theorem dX9_firstDry_48 : decode cX9_firstDry 48 = .ok (.iinc 3 1, 3) := dk_132 3 1 (dk_at dksX9_firstDry_2 0 rfl rfl)
theorem dX9_firstDry_51 : decode cX9_firstDry 51 = .ok (.goto (-43), 3) := dk_167 255 213 (dk_at dksX9_firstDry_2 3 rfl rfl)
theorem dX9_firstDry_54 : decode cX9_firstDry 54 = .ok (.iload_n 1, 1) := dk_27 (dk_at dksX9_firstDry_2 6 rfl rfl)
theorem dX9_firstDry_55 : decode cX9_firstDry 55 = .ok (.ireturn, 1) := dk_172 (dk_at dksX9_firstDry_2 7 rfl rfl)
abbrev cX9_whenNothing : ByteArray := prog_24_method_46_code
def yX9_whenNothing : MethodName := ⟨RX9, "whenNothing", "(I)I"⟩
def dkwX9_whenNothing_1 : List UInt8 := [46, 154, 0, 5, 28, 172, 42, 180, 0, 13, 3, 184, 0, 73, 132, 2, 1, 167, 255, 228, 16, 247, 172]
abbrev dktX9_whenNothing_1 : List UInt8 := dkwX9_whenNothing_1 ++ []
def dkwX9_whenNothing_0 : List UInt8 := [42, 180, 0, 9, 42, 180, 0, 13, 184, 0, 110, 3, 61, 28, 16, 60, 163, 0, 28, 42, 180, 0, 13, 27]
abbrev dktX9_whenNothing_0 : List UInt8 := dkwX9_whenNothing_0 ++ dktX9_whenNothing_1
theorem dksX9_whenNothing_0 : cX9_whenNothing.data.toList.drop 0 = dktX9_whenNothing_0 := by decide +kernel
theorem dksX9_whenNothing_1 : cX9_whenNothing.data.toList.drop 24 = dktX9_whenNothing_1 := dk_seg dksX9_whenNothing_0 24 rfl rfl
theorem dX9_whenNothing_0 : decode cX9_whenNothing 0 = .ok (.aload_n 0, 1) := dk_42 (dk_at dksX9_whenNothing_0 0 rfl rfl)
theorem dX9_whenNothing_1 : decode cX9_whenNothing 1 = .ok (.getfield 9, 3) := dk_180 0 9 (dk_at dksX9_whenNothing_0 1 rfl rfl)
theorem dX9_whenNothing_4 : decode cX9_whenNothing 4 = .ok (.aload_n 0, 1) := dk_42 (dk_at dksX9_whenNothing_0 4 rfl rfl)
theorem dX9_whenNothing_5 : decode cX9_whenNothing 5 = .ok (.getfield 13, 3) := dk_180 0 13 (dk_at dksX9_whenNothing_0 5 rfl rfl)
theorem dX9_whenNothing_8 : decode cX9_whenNothing 8 = .ok (.invokestatic 110, 3) := dk_184 0 110 (dk_at dksX9_whenNothing_0 8 rfl rfl)
theorem dX9_whenNothing_11 : decode cX9_whenNothing 11 = .ok (.iconst 0, 1) := dk_3 (dk_at dksX9_whenNothing_0 11 rfl rfl)
theorem dX9_whenNothing_12 : decode cX9_whenNothing 12 = .ok (.istore_n 2, 1) := dk_61 (dk_at dksX9_whenNothing_0 12 rfl rfl)
theorem dX9_whenNothing_13 : decode cX9_whenNothing 13 = .ok (.iload_n 2, 1) := dk_28 (dk_at dksX9_whenNothing_0 13 rfl rfl)
theorem dX9_whenNothing_14 : decode cX9_whenNothing 14 = .ok (.bipush 60, 2) := dk_16 60 (dk_at dksX9_whenNothing_0 14 rfl rfl)
theorem dX9_whenNothing_16 : decode cX9_whenNothing 16 = .ok (.if_icmp .gt 28, 3) := dk_163 0 28 (dk_at dksX9_whenNothing_0 16 rfl rfl)
theorem dX9_whenNothing_19 : decode cX9_whenNothing 19 = .ok (.aload_n 0, 1) := dk_42 (dk_at dksX9_whenNothing_0 19 rfl rfl)
theorem dX9_whenNothing_20 : decode cX9_whenNothing 20 = .ok (.getfield 13, 3) := dk_180 0 13 (dk_at dksX9_whenNothing_0 20 rfl rfl)
theorem dX9_whenNothing_23 : decode cX9_whenNothing 23 = .ok (.iload_n 1, 1) := dk_27 (dk_at dksX9_whenNothing_0 23 rfl rfl)
theorem dX9_whenNothing_24 : decode cX9_whenNothing 24 = .ok (.iaload, 1) := dk_46 (dk_at dksX9_whenNothing_1 0 rfl rfl)
theorem dX9_whenNothing_25 : decode cX9_whenNothing 25 = .ok (.ifCond .ne 5, 3) := dk_154 0 5 (dk_at dksX9_whenNothing_1 1 rfl rfl)
theorem dX9_whenNothing_28 : decode cX9_whenNothing 28 = .ok (.iload_n 2, 1) := dk_28 (dk_at dksX9_whenNothing_1 4 rfl rfl)
theorem dX9_whenNothing_29 : decode cX9_whenNothing 29 = .ok (.ireturn, 1) := dk_172 (dk_at dksX9_whenNothing_1 5 rfl rfl)
theorem dX9_whenNothing_30 : decode cX9_whenNothing 30 = .ok (.aload_n 0, 1) := dk_42 (dk_at dksX9_whenNothing_1 6 rfl rfl)
theorem dX9_whenNothing_31 : decode cX9_whenNothing 31 = .ok (.getfield 13, 3) := dk_180 0 13 (dk_at dksX9_whenNothing_1 7 rfl rfl)
theorem dX9_whenNothing_34 : decode cX9_whenNothing 34 = .ok (.iconst 0, 1) := dk_3 (dk_at dksX9_whenNothing_1 10 rfl rfl)
theorem dX9_whenNothing_35 : decode cX9_whenNothing 35 = .ok (.invokestatic 73, 3) := dk_184 0 73 (dk_at dksX9_whenNothing_1 11 rfl rfl)
theorem dX9_whenNothing_38 : decode cX9_whenNothing 38 = .ok (.iinc 2 1, 3) := dk_132 2 1 (dk_at dksX9_whenNothing_1 14 rfl rfl)
theorem dX9_whenNothing_41 : decode cX9_whenNothing 41 = .ok (.goto (-28), 3) := dk_167 255 228 (dk_at dksX9_whenNothing_1 17 rfl rfl)
theorem dX9_whenNothing_44 : decode cX9_whenNothing 44 = .ok (.bipush (-9), 2) := dk_16 247 (dk_at dksX9_whenNothing_1 20 rfl rfl)
theorem dX9_whenNothing_46 : decode cX9_whenNothing 46 = .ok (.ireturn, 1) := dk_172 (dk_at dksX9_whenNothing_1 22 rfl rfl)
abbrev cX9_empty : ByteArray := prog_24_method_49_code
def yX9_empty : MethodName := ⟨RX9, "empty", "()I"⟩
def dkwX9_empty_0 : List UInt8 := [42, 5, 182, 0, 146, 172]
abbrev dktX9_empty_0 : List UInt8 := dkwX9_empty_0 ++ []
theorem dksX9_empty_0 : cX9_empty.data.toList.drop 0 = dktX9_empty_0 := by decide +kernel
theorem dX9_empty_0 : decode cX9_empty 0 = .ok (.aload_n 0, 1) := dk_42 (dk_at dksX9_empty_0 0 rfl rfl)
theorem dX9_empty_1 : decode cX9_empty 1 = .ok (.iconst 2, 1) := dk_5 (dk_at dksX9_empty_0 1 rfl rfl)
theorem dX9_empty_2 : decode cX9_empty 2 = .ok (.invokevirtual 146, 3) := dk_182 0 146 (dk_at dksX9_empty_0 2 rfl rfl)
theorem dX9_empty_5 : decode cX9_empty 5 = .ok (.ireturn, 1) := dk_172 (dk_at dksX9_empty_0 5 rfl rfl)
abbrev cX9_flowBest : ByteArray := prog_24_method_51_code
def yX9_flowBest : MethodName := ⟨RX9, "flowBest", "(I)I"⟩
def dkwX9_flowBest_2 : List UInt8 := [182, 0, 155, 153, 0, 5, 29, 172, 132, 3, 1, 167, 255, 218, 16, 247, 172]
abbrev dktX9_flowBest_2 : List UInt8 := dkwX9_flowBest_2 ++ []
def dkwX9_flowBest_1 : List UInt8 := [163, 0, 38, 42, 180, 0, 9, 42, 180, 0, 13, 184, 0, 110, 42, 180, 0, 13, 6, 29, 79, 42, 2, 27]
abbrev dktX9_flowBest_1 : List UInt8 := dkwX9_flowBest_1 ++ dktX9_flowBest_2
def dkwX9_flowBest_0 : List UInt8 := [27, 3, 16, 48, 184, 0, 126, 61, 28, 153, 0, 9, 42, 28, 182, 0, 36, 172, 3, 62, 29, 16, 30]
abbrev dktX9_flowBest_0 : List UInt8 := dkwX9_flowBest_0 ++ dktX9_flowBest_1
theorem dksX9_flowBest_0 : cX9_flowBest.data.toList.drop 0 = dktX9_flowBest_0 := by decide +kernel
theorem dksX9_flowBest_1 : cX9_flowBest.data.toList.drop 23 = dktX9_flowBest_1 := dk_seg dksX9_flowBest_0 23 rfl rfl
theorem dksX9_flowBest_2 : cX9_flowBest.data.toList.drop 47 = dktX9_flowBest_2 := dk_seg dksX9_flowBest_1 24 rfl rfl
theorem dX9_flowBest_0 : decode cX9_flowBest 0 = .ok (.iload_n 1, 1) := dk_27 (dk_at dksX9_flowBest_0 0 rfl rfl)
theorem dX9_flowBest_1 : decode cX9_flowBest 1 = .ok (.iconst 0, 1) := dk_3 (dk_at dksX9_flowBest_0 1 rfl rfl)
theorem dX9_flowBest_2 : decode cX9_flowBest 2 = .ok (.bipush 48, 2) := dk_16 48 (dk_at dksX9_flowBest_0 2 rfl rfl)
theorem dX9_flowBest_4 : decode cX9_flowBest 4 = .ok (.invokestatic 126, 3) := dk_184 0 126 (dk_at dksX9_flowBest_0 4 rfl rfl)
theorem dX9_flowBest_7 : decode cX9_flowBest 7 = .ok (.istore_n 2, 1) := dk_61 (dk_at dksX9_flowBest_0 7 rfl rfl)
theorem dX9_flowBest_8 : decode cX9_flowBest 8 = .ok (.iload_n 2, 1) := dk_28 (dk_at dksX9_flowBest_0 8 rfl rfl)
theorem dX9_flowBest_9 : decode cX9_flowBest 9 = .ok (.ifCond .eq 9, 3) := dk_153 0 9 (dk_at dksX9_flowBest_0 9 rfl rfl)
theorem dX9_flowBest_12 : decode cX9_flowBest 12 = .ok (.aload_n 0, 1) := dk_42 (dk_at dksX9_flowBest_0 12 rfl rfl)
theorem dX9_flowBest_13 : decode cX9_flowBest 13 = .ok (.iload_n 2, 1) := dk_28 (dk_at dksX9_flowBest_0 13 rfl rfl)
theorem dX9_flowBest_14 : decode cX9_flowBest 14 = .ok (.invokevirtual 36, 3) := dk_182 0 36 (dk_at dksX9_flowBest_0 14 rfl rfl)
theorem dX9_flowBest_17 : decode cX9_flowBest 17 = .ok (.ireturn, 1) := dk_172 (dk_at dksX9_flowBest_0 17 rfl rfl)
theorem dX9_flowBest_18 : decode cX9_flowBest 18 = .ok (.iconst 0, 1) := dk_3 (dk_at dksX9_flowBest_0 18 rfl rfl)
theorem dX9_flowBest_19 : decode cX9_flowBest 19 = .ok (.istore_n 3, 1) := dk_62 (dk_at dksX9_flowBest_0 19 rfl rfl)
theorem dX9_flowBest_20 : decode cX9_flowBest 20 = .ok (.iload_n 3, 1) := dk_29 (dk_at dksX9_flowBest_0 20 rfl rfl)
theorem dX9_flowBest_21 : decode cX9_flowBest 21 = .ok (.bipush 30, 2) := dk_16 30 (dk_at dksX9_flowBest_0 21 rfl rfl)
theorem dX9_flowBest_23 : decode cX9_flowBest 23 = .ok (.if_icmp .gt 38, 3) := dk_163 0 38 (dk_at dksX9_flowBest_1 0 rfl rfl)
theorem dX9_flowBest_26 : decode cX9_flowBest 26 = .ok (.aload_n 0, 1) := dk_42 (dk_at dksX9_flowBest_1 3 rfl rfl)
theorem dX9_flowBest_27 : decode cX9_flowBest 27 = .ok (.getfield 9, 3) := dk_180 0 9 (dk_at dksX9_flowBest_1 4 rfl rfl)
theorem dX9_flowBest_30 : decode cX9_flowBest 30 = .ok (.aload_n 0, 1) := dk_42 (dk_at dksX9_flowBest_1 7 rfl rfl)
theorem dX9_flowBest_31 : decode cX9_flowBest 31 = .ok (.getfield 13, 3) := dk_180 0 13 (dk_at dksX9_flowBest_1 8 rfl rfl)
theorem dX9_flowBest_34 : decode cX9_flowBest 34 = .ok (.invokestatic 110, 3) := dk_184 0 110 (dk_at dksX9_flowBest_1 11 rfl rfl)
theorem dX9_flowBest_37 : decode cX9_flowBest 37 = .ok (.aload_n 0, 1) := dk_42 (dk_at dksX9_flowBest_1 14 rfl rfl)
theorem dX9_flowBest_38 : decode cX9_flowBest 38 = .ok (.getfield 13, 3) := dk_180 0 13 (dk_at dksX9_flowBest_1 15 rfl rfl)
theorem dX9_flowBest_41 : decode cX9_flowBest 41 = .ok (.iconst 3, 1) := dk_6 (dk_at dksX9_flowBest_1 18 rfl rfl)
theorem dX9_flowBest_42 : decode cX9_flowBest 42 = .ok (.iload_n 3, 1) := dk_29 (dk_at dksX9_flowBest_1 19 rfl rfl)
theorem dX9_flowBest_43 : decode cX9_flowBest 43 = .ok (.iastore, 1) := dk_79 (dk_at dksX9_flowBest_1 20 rfl rfl)
theorem dX9_flowBest_44 : decode cX9_flowBest 44 = .ok (.aload_n 0, 1) := dk_42 (dk_at dksX9_flowBest_1 21 rfl rfl)
theorem dX9_flowBest_45 : decode cX9_flowBest 45 = .ok (.iconst (-1), 1) := dk_2 (dk_at dksX9_flowBest_1 22 rfl rfl)
theorem dX9_flowBest_46 : decode cX9_flowBest 46 = .ok (.iload_n 1, 1) := dk_27 (dk_at dksX9_flowBest_1 23 rfl rfl)
theorem dX9_flowBest_47 : decode cX9_flowBest 47 = .ok (.invokevirtual 155, 3) := dk_182 0 155 (dk_at dksX9_flowBest_2 0 rfl rfl)
theorem dX9_flowBest_50 : decode cX9_flowBest 50 = .ok (.ifCond .eq 5, 3) := dk_153 0 5 (dk_at dksX9_flowBest_2 3 rfl rfl)
theorem dX9_flowBest_53 : decode cX9_flowBest 53 = .ok (.iload_n 3, 1) := dk_29 (dk_at dksX9_flowBest_2 6 rfl rfl)
theorem dX9_flowBest_54 : decode cX9_flowBest 54 = .ok (.ireturn, 1) := dk_172 (dk_at dksX9_flowBest_2 7 rfl rfl)
theorem dX9_flowBest_55 : decode cX9_flowBest 55 = .ok (.iinc 3 1, 3) := dk_132 3 1 (dk_at dksX9_flowBest_2 8 rfl rfl)
theorem dX9_flowBest_58 : decode cX9_flowBest 58 = .ok (.goto (-38), 3) := dk_167 255 218 (dk_at dksX9_flowBest_2 11 rfl rfl)
theorem dX9_flowBest_61 : decode cX9_flowBest 61 = .ok (.bipush (-9), 2) := dk_16 247 (dk_at dksX9_flowBest_2 14 rfl rfl)
theorem dX9_flowBest_63 : decode cX9_flowBest 63 = .ok (.ireturn, 1) := dk_172 (dk_at dksX9_flowBest_2 16 rfl rfl)
abbrev cX9_isNoneDry : ByteArray := prog_24_method_50_code
def yX9_isNoneDry : MethodName := ⟨RX9, "isNoneDry", "(II)Z"⟩
def dkwX9_isNoneDry_1 : List UInt8 := [180, 0, 13, 3, 184, 0, 73, 132, 3, 1, 167, 255, 226, 4, 172]
abbrev dktX9_isNoneDry_1 : List UInt8 := dkwX9_isNoneDry_1 ++ []
def dkwX9_isNoneDry_0 : List UInt8 := [3, 62, 29, 28, 163, 0, 31, 42, 180, 0, 13, 184, 0, 152, 27, 126, 153, 0, 5, 3, 172, 42]
abbrev dktX9_isNoneDry_0 : List UInt8 := dkwX9_isNoneDry_0 ++ dktX9_isNoneDry_1
theorem dksX9_isNoneDry_0 : cX9_isNoneDry.data.toList.drop 0 = dktX9_isNoneDry_0 := by decide +kernel
theorem dksX9_isNoneDry_1 : cX9_isNoneDry.data.toList.drop 22 = dktX9_isNoneDry_1 := dk_seg dksX9_isNoneDry_0 22 rfl rfl
theorem dX9_isNoneDry_0 : decode cX9_isNoneDry 0 = .ok (.iconst 0, 1) := dk_3 (dk_at dksX9_isNoneDry_0 0 rfl rfl)
theorem dX9_isNoneDry_1 : decode cX9_isNoneDry 1 = .ok (.istore_n 3, 1) := dk_62 (dk_at dksX9_isNoneDry_0 1 rfl rfl)
theorem dX9_isNoneDry_2 : decode cX9_isNoneDry 2 = .ok (.iload_n 3, 1) := dk_29 (dk_at dksX9_isNoneDry_0 2 rfl rfl)
theorem dX9_isNoneDry_3 : decode cX9_isNoneDry 3 = .ok (.iload_n 2, 1) := dk_28 (dk_at dksX9_isNoneDry_0 3 rfl rfl)
theorem dX9_isNoneDry_4 : decode cX9_isNoneDry 4 = .ok (.if_icmp .gt 31, 3) := dk_163 0 31 (dk_at dksX9_isNoneDry_0 4 rfl rfl)
theorem dX9_isNoneDry_7 : decode cX9_isNoneDry 7 = .ok (.aload_n 0, 1) := dk_42 (dk_at dksX9_isNoneDry_0 7 rfl rfl)
theorem dX9_isNoneDry_8 : decode cX9_isNoneDry 8 = .ok (.getfield 13, 3) := dk_180 0 13 (dk_at dksX9_isNoneDry_0 8 rfl rfl)
theorem dX9_isNoneDry_11 : decode cX9_isNoneDry 11 = .ok (.invokestatic 152, 3) := dk_184 0 152 (dk_at dksX9_isNoneDry_0 11 rfl rfl)
theorem dX9_isNoneDry_14 : decode cX9_isNoneDry 14 = .ok (.iload_n 1, 1) := dk_27 (dk_at dksX9_isNoneDry_0 14 rfl rfl)
theorem dX9_isNoneDry_15 : decode cX9_isNoneDry 15 = .ok (.iand, 1) := dk_126 (dk_at dksX9_isNoneDry_0 15 rfl rfl)
theorem dX9_isNoneDry_16 : decode cX9_isNoneDry 16 = .ok (.ifCond .eq 5, 3) := dk_153 0 5 (dk_at dksX9_isNoneDry_0 16 rfl rfl)
theorem dX9_isNoneDry_19 : decode cX9_isNoneDry 19 = .ok (.iconst 0, 1) := dk_3 (dk_at dksX9_isNoneDry_0 19 rfl rfl)
theorem dX9_isNoneDry_20 : decode cX9_isNoneDry 20 = .ok (.ireturn, 1) := dk_172 (dk_at dksX9_isNoneDry_0 20 rfl rfl)
theorem dX9_isNoneDry_21 : decode cX9_isNoneDry 21 = .ok (.aload_n 0, 1) := dk_42 (dk_at dksX9_isNoneDry_0 21 rfl rfl)
theorem dX9_isNoneDry_22 : decode cX9_isNoneDry 22 = .ok (.getfield 13, 3) := dk_180 0 13 (dk_at dksX9_isNoneDry_1 0 rfl rfl)
theorem dX9_isNoneDry_25 : decode cX9_isNoneDry 25 = .ok (.iconst 0, 1) := dk_3 (dk_at dksX9_isNoneDry_1 3 rfl rfl)
theorem dX9_isNoneDry_26 : decode cX9_isNoneDry 26 = .ok (.invokestatic 73, 3) := dk_184 0 73 (dk_at dksX9_isNoneDry_1 4 rfl rfl)
theorem dX9_isNoneDry_29 : decode cX9_isNoneDry 29 = .ok (.iinc 3 1, 3) := dk_132 3 1 (dk_at dksX9_isNoneDry_1 7 rfl rfl)
theorem dX9_isNoneDry_32 : decode cX9_isNoneDry 32 = .ok (.goto (-30), 3) := dk_167 255 226 (dk_at dksX9_isNoneDry_1 10 rfl rfl)
theorem dX9_isNoneDry_35 : decode cX9_isNoneDry 35 = .ok (.iconst 1, 1) := dk_4 (dk_at dksX9_isNoneDry_1 13 rfl rfl)
theorem dX9_isNoneDry_36 : decode cX9_isNoneDry 36 = .ok (.ireturn, 1) := dk_172 (dk_at dksX9_isNoneDry_1 14 rfl rfl)
abbrev cX9_dryOnes : ByteArray := prog_24_method_20_code
def yX9_dryOnes : MethodName := ⟨RX9, "dryOnes", "([I)I"⟩
def dkwX9_dryOnes_1 : List UInt8 := [120, 167, 0, 4, 3, 128, 60, 132, 2, 1, 167, 255, 226, 27, 172]
abbrev dktX9_dryOnes_1 : List UInt8 := dkwX9_dryOnes_1 ++ []
def dkwX9_dryOnes_0 : List UInt8 := [3, 60, 3, 61, 28, 42, 3, 46, 162, 0, 29, 27, 42, 28, 6, 184, 0, 52, 46, 154, 0, 9, 4, 28]
abbrev dktX9_dryOnes_0 : List UInt8 := dkwX9_dryOnes_0 ++ dktX9_dryOnes_1
theorem dksX9_dryOnes_0 : cX9_dryOnes.data.toList.drop 0 = dktX9_dryOnes_0 := by decide +kernel
theorem dksX9_dryOnes_1 : cX9_dryOnes.data.toList.drop 24 = dktX9_dryOnes_1 := dk_seg dksX9_dryOnes_0 24 rfl rfl
theorem dX9_dryOnes_0 : decode cX9_dryOnes 0 = .ok (.iconst 0, 1) := dk_3 (dk_at dksX9_dryOnes_0 0 rfl rfl)
theorem dX9_dryOnes_1 : decode cX9_dryOnes 1 = .ok (.istore_n 1, 1) := dk_60 (dk_at dksX9_dryOnes_0 1 rfl rfl)
theorem dX9_dryOnes_2 : decode cX9_dryOnes 2 = .ok (.iconst 0, 1) := dk_3 (dk_at dksX9_dryOnes_0 2 rfl rfl)
theorem dX9_dryOnes_3 : decode cX9_dryOnes 3 = .ok (.istore_n 2, 1) := dk_61 (dk_at dksX9_dryOnes_0 3 rfl rfl)
theorem dX9_dryOnes_4 : decode cX9_dryOnes 4 = .ok (.iload_n 2, 1) := dk_28 (dk_at dksX9_dryOnes_0 4 rfl rfl)
theorem dX9_dryOnes_5 : decode cX9_dryOnes 5 = .ok (.aload_n 0, 1) := dk_42 (dk_at dksX9_dryOnes_0 5 rfl rfl)
theorem dX9_dryOnes_6 : decode cX9_dryOnes 6 = .ok (.iconst 0, 1) := dk_3 (dk_at dksX9_dryOnes_0 6 rfl rfl)
theorem dX9_dryOnes_7 : decode cX9_dryOnes 7 = .ok (.iaload, 1) := dk_46 (dk_at dksX9_dryOnes_0 7 rfl rfl)
theorem dX9_dryOnes_8 : decode cX9_dryOnes 8 = .ok (.if_icmp .ge 29, 3) := dk_162 0 29 (dk_at dksX9_dryOnes_0 8 rfl rfl)
theorem dX9_dryOnes_11 : decode cX9_dryOnes 11 = .ok (.iload_n 1, 1) := dk_27 (dk_at dksX9_dryOnes_0 11 rfl rfl)
theorem dX9_dryOnes_12 : decode cX9_dryOnes 12 = .ok (.aload_n 0, 1) := dk_42 (dk_at dksX9_dryOnes_0 12 rfl rfl)
theorem dX9_dryOnes_13 : decode cX9_dryOnes 13 = .ok (.iload_n 2, 1) := dk_28 (dk_at dksX9_dryOnes_0 13 rfl rfl)
theorem dX9_dryOnes_14 : decode cX9_dryOnes 14 = .ok (.iconst 3, 1) := dk_6 (dk_at dksX9_dryOnes_0 14 rfl rfl)
theorem dX9_dryOnes_15 : decode cX9_dryOnes 15 = .ok (.invokestatic 52, 3) := dk_184 0 52 (dk_at dksX9_dryOnes_0 15 rfl rfl)
theorem dX9_dryOnes_18 : decode cX9_dryOnes 18 = .ok (.iaload, 1) := dk_46 (dk_at dksX9_dryOnes_0 18 rfl rfl)
theorem dX9_dryOnes_19 : decode cX9_dryOnes 19 = .ok (.ifCond .ne 9, 3) := dk_154 0 9 (dk_at dksX9_dryOnes_0 19 rfl rfl)
theorem dX9_dryOnes_22 : decode cX9_dryOnes 22 = .ok (.iconst 1, 1) := dk_4 (dk_at dksX9_dryOnes_0 22 rfl rfl)
theorem dX9_dryOnes_23 : decode cX9_dryOnes 23 = .ok (.iload_n 2, 1) := dk_28 (dk_at dksX9_dryOnes_0 23 rfl rfl)
theorem dX9_dryOnes_24 : decode cX9_dryOnes 24 = .ok (.ishl, 1) := dk_120 (dk_at dksX9_dryOnes_1 0 rfl rfl)
theorem dX9_dryOnes_25 : decode cX9_dryOnes 25 = .ok (.goto 4, 3) := dk_167 0 4 (dk_at dksX9_dryOnes_1 1 rfl rfl)
theorem dX9_dryOnes_28 : decode cX9_dryOnes 28 = .ok (.iconst 0, 1) := dk_3 (dk_at dksX9_dryOnes_1 4 rfl rfl)
theorem dX9_dryOnes_29 : decode cX9_dryOnes 29 = .ok (.ior, 1) := dk_128 (dk_at dksX9_dryOnes_1 5 rfl rfl)
theorem dX9_dryOnes_30 : decode cX9_dryOnes 30 = .ok (.istore_n 1, 1) := dk_60 (dk_at dksX9_dryOnes_1 6 rfl rfl)
theorem dX9_dryOnes_31 : decode cX9_dryOnes 31 = .ok (.iinc 2 1, 3) := dk_132 2 1 (dk_at dksX9_dryOnes_1 7 rfl rfl)
theorem dX9_dryOnes_34 : decode cX9_dryOnes 34 = .ok (.goto (-30), 3) := dk_167 255 226 (dk_at dksX9_dryOnes_1 10 rfl rfl)
theorem dX9_dryOnes_37 : decode cX9_dryOnes 37 = .ok (.iload_n 1, 1) := dk_27 (dk_at dksX9_dryOnes_1 13 rfl rfl)
theorem dX9_dryOnes_38 : decode cX9_dryOnes 38 = .ok (.ireturn, 1) := dk_172 (dk_at dksX9_dryOnes_1 14 rfl rfl)
abbrev cX9_canBest : ByteArray := prog_24_method_52_code
def yX9_canBest : MethodName := ⟨RX9, "canBest", "(II)I"⟩
def dkwX9_canBest_3 : List UInt8 := [153, 0, 6, 21, 4, 172, 132, 4, 1, 167, 255, 209, 16, 247, 172]
abbrev dktX9_canBest_3 : List UInt8 := dkwX9_canBest_3 ++ []
def dkwX9_canBest_2 : List UInt8 := [184, 0, 110, 42, 180, 0, 13, 27, 5, 184, 0, 52, 21, 4, 79, 42, 4, 27, 120, 28, 182, 0, 155]
abbrev dktX9_canBest_2 : List UInt8 := dkwX9_canBest_2 ++ dktX9_canBest_3
def dkwX9_canBest_1 : List UInt8 := [42, 29, 182, 0, 36, 172, 3, 54, 4, 21, 4, 16, 9, 163, 0, 46, 42, 180, 0, 9, 42, 180, 0, 13]
abbrev dktX9_canBest_1 : List UInt8 := dkwX9_canBest_1 ++ dktX9_canBest_2
def dkwX9_canBest_0 : List UInt8 := [42, 27, 182, 0, 100, 153, 0, 13, 28, 3, 16, 48, 184, 0, 126, 167, 0, 4, 2, 62, 29, 153, 0, 9]
abbrev dktX9_canBest_0 : List UInt8 := dkwX9_canBest_0 ++ dktX9_canBest_1
theorem dksX9_canBest_0 : cX9_canBest.data.toList.drop 0 = dktX9_canBest_0 := by decide +kernel
theorem dksX9_canBest_1 : cX9_canBest.data.toList.drop 24 = dktX9_canBest_1 := dk_seg dksX9_canBest_0 24 rfl rfl
theorem dksX9_canBest_2 : cX9_canBest.data.toList.drop 48 = dktX9_canBest_2 := dk_seg dksX9_canBest_1 24 rfl rfl
theorem dksX9_canBest_3 : cX9_canBest.data.toList.drop 71 = dktX9_canBest_3 := dk_seg dksX9_canBest_2 23 rfl rfl
theorem dX9_canBest_0 : decode cX9_canBest 0 = .ok (.aload_n 0, 1) := dk_42 (dk_at dksX9_canBest_0 0 rfl rfl)
theorem dX9_canBest_1 : decode cX9_canBest 1 = .ok (.iload_n 1, 1) := dk_27 (dk_at dksX9_canBest_0 1 rfl rfl)
theorem dX9_canBest_2 : decode cX9_canBest 2 = .ok (.invokevirtual 100, 3) := dk_182 0 100 (dk_at dksX9_canBest_0 2 rfl rfl)
theorem dX9_canBest_5 : decode cX9_canBest 5 = .ok (.ifCond .eq 13, 3) := dk_153 0 13 (dk_at dksX9_canBest_0 5 rfl rfl)
theorem dX9_canBest_8 : decode cX9_canBest 8 = .ok (.iload_n 2, 1) := dk_28 (dk_at dksX9_canBest_0 8 rfl rfl)
theorem dX9_canBest_9 : decode cX9_canBest 9 = .ok (.iconst 0, 1) := dk_3 (dk_at dksX9_canBest_0 9 rfl rfl)
theorem dX9_canBest_10 : decode cX9_canBest 10 = .ok (.bipush 48, 2) := dk_16 48 (dk_at dksX9_canBest_0 10 rfl rfl)
theorem dX9_canBest_12 : decode cX9_canBest 12 = .ok (.invokestatic 126, 3) := dk_184 0 126 (dk_at dksX9_canBest_0 12 rfl rfl)
theorem dX9_canBest_15 : decode cX9_canBest 15 = .ok (.goto 4, 3) := dk_167 0 4 (dk_at dksX9_canBest_0 15 rfl rfl)
theorem dX9_canBest_18 : decode cX9_canBest 18 = .ok (.iconst (-1), 1) := dk_2 (dk_at dksX9_canBest_0 18 rfl rfl)
theorem dX9_canBest_19 : decode cX9_canBest 19 = .ok (.istore_n 3, 1) := dk_62 (dk_at dksX9_canBest_0 19 rfl rfl)
theorem dX9_canBest_20 : decode cX9_canBest 20 = .ok (.iload_n 3, 1) := dk_29 (dk_at dksX9_canBest_0 20 rfl rfl)
theorem dX9_canBest_21 : decode cX9_canBest 21 = .ok (.ifCond .eq 9, 3) := dk_153 0 9 (dk_at dksX9_canBest_0 21 rfl rfl)
theorem dX9_canBest_24 : decode cX9_canBest 24 = .ok (.aload_n 0, 1) := dk_42 (dk_at dksX9_canBest_1 0 rfl rfl)
theorem dX9_canBest_25 : decode cX9_canBest 25 = .ok (.iload_n 3, 1) := dk_29 (dk_at dksX9_canBest_1 1 rfl rfl)
theorem dX9_canBest_26 : decode cX9_canBest 26 = .ok (.invokevirtual 36, 3) := dk_182 0 36 (dk_at dksX9_canBest_1 2 rfl rfl)
theorem dX9_canBest_29 : decode cX9_canBest 29 = .ok (.ireturn, 1) := dk_172 (dk_at dksX9_canBest_1 5 rfl rfl)
theorem dX9_canBest_30 : decode cX9_canBest 30 = .ok (.iconst 0, 1) := dk_3 (dk_at dksX9_canBest_1 6 rfl rfl)
theorem dX9_canBest_31 : decode cX9_canBest 31 = .ok (.istore 4, 2) := dk_54 4 (dk_at dksX9_canBest_1 7 rfl rfl)
theorem dX9_canBest_33 : decode cX9_canBest 33 = .ok (.iload 4, 2) := dk_21 4 (dk_at dksX9_canBest_1 9 rfl rfl)
theorem dX9_canBest_35 : decode cX9_canBest 35 = .ok (.bipush 9, 2) := dk_16 9 (dk_at dksX9_canBest_1 11 rfl rfl)
theorem dX9_canBest_37 : decode cX9_canBest 37 = .ok (.if_icmp .gt 46, 3) := dk_163 0 46 (dk_at dksX9_canBest_1 13 rfl rfl)
theorem dX9_canBest_40 : decode cX9_canBest 40 = .ok (.aload_n 0, 1) := dk_42 (dk_at dksX9_canBest_1 16 rfl rfl)
theorem dX9_canBest_41 : decode cX9_canBest 41 = .ok (.getfield 9, 3) := dk_180 0 9 (dk_at dksX9_canBest_1 17 rfl rfl)
theorem dX9_canBest_44 : decode cX9_canBest 44 = .ok (.aload_n 0, 1) := dk_42 (dk_at dksX9_canBest_1 20 rfl rfl)
theorem dX9_canBest_45 : decode cX9_canBest 45 = .ok (.getfield 13, 3) := dk_180 0 13 (dk_at dksX9_canBest_1 21 rfl rfl)
theorem dX9_canBest_48 : decode cX9_canBest 48 = .ok (.invokestatic 110, 3) := dk_184 0 110 (dk_at dksX9_canBest_2 0 rfl rfl)
theorem dX9_canBest_51 : decode cX9_canBest 51 = .ok (.aload_n 0, 1) := dk_42 (dk_at dksX9_canBest_2 3 rfl rfl)
theorem dX9_canBest_52 : decode cX9_canBest 52 = .ok (.getfield 13, 3) := dk_180 0 13 (dk_at dksX9_canBest_2 4 rfl rfl)
theorem dX9_canBest_55 : decode cX9_canBest 55 = .ok (.iload_n 1, 1) := dk_27 (dk_at dksX9_canBest_2 7 rfl rfl)
theorem dX9_canBest_56 : decode cX9_canBest 56 = .ok (.iconst 2, 1) := dk_5 (dk_at dksX9_canBest_2 8 rfl rfl)
theorem dX9_canBest_57 : decode cX9_canBest 57 = .ok (.invokestatic 52, 3) := dk_184 0 52 (dk_at dksX9_canBest_2 9 rfl rfl)
theorem dX9_canBest_60 : decode cX9_canBest 60 = .ok (.iload 4, 2) := dk_21 4 (dk_at dksX9_canBest_2 12 rfl rfl)
theorem dX9_canBest_62 : decode cX9_canBest 62 = .ok (.iastore, 1) := dk_79 (dk_at dksX9_canBest_2 14 rfl rfl)
theorem dX9_canBest_63 : decode cX9_canBest 63 = .ok (.aload_n 0, 1) := dk_42 (dk_at dksX9_canBest_2 15 rfl rfl)
theorem dX9_canBest_64 : decode cX9_canBest 64 = .ok (.iconst 1, 1) := dk_4 (dk_at dksX9_canBest_2 16 rfl rfl)
theorem dX9_canBest_65 : decode cX9_canBest 65 = .ok (.iload_n 1, 1) := dk_27 (dk_at dksX9_canBest_2 17 rfl rfl)
theorem dX9_canBest_66 : decode cX9_canBest 66 = .ok (.ishl, 1) := dk_120 (dk_at dksX9_canBest_2 18 rfl rfl)
theorem dX9_canBest_67 : decode cX9_canBest 67 = .ok (.iload_n 2, 1) := dk_28 (dk_at dksX9_canBest_2 19 rfl rfl)
theorem dX9_canBest_68 : decode cX9_canBest 68 = .ok (.invokevirtual 155, 3) := dk_182 0 155 (dk_at dksX9_canBest_2 20 rfl rfl)
theorem dX9_canBest_71 : decode cX9_canBest 71 = .ok (.ifCond .eq 6, 3) := dk_153 0 6 (dk_at dksX9_canBest_3 0 rfl rfl)
theorem dX9_canBest_74 : decode cX9_canBest 74 = .ok (.iload 4, 2) := dk_21 4 (dk_at dksX9_canBest_3 3 rfl rfl)
theorem dX9_canBest_76 : decode cX9_canBest 76 = .ok (.ireturn, 1) := dk_172 (dk_at dksX9_canBest_3 5 rfl rfl)
theorem dX9_canBest_77 : decode cX9_canBest 77 = .ok (.iinc 4 1, 3) := dk_132 4 1 (dk_at dksX9_canBest_3 6 rfl rfl)
theorem dX9_canBest_80 : decode cX9_canBest 80 = .ok (.goto (-47), 3) := dk_167 255 209 (dk_at dksX9_canBest_3 9 rfl rfl)
theorem dX9_canBest_83 : decode cX9_canBest 83 = .ok (.bipush (-9), 2) := dk_16 247 (dk_at dksX9_canBest_3 12 rfl rfl)
theorem dX9_canBest_85 : decode cX9_canBest 85 = .ok (.ireturn, 1) := dk_172 (dk_at dksX9_canBest_3 14 rfl rfl)
abbrev cX9_friendBest : ByteArray := prog_24_method_54_code
def yX9_friendBest : MethodName := ⟨RX9, "friendBest", "(II)I"⟩
def dkwX9_friendBest_5 : List UInt8 := [54, 5, 42, 180, 0, 13, 184, 0, 158, 54, 4, 132, 6, 1, 167, 255, 173, 21, 5, 172]
abbrev dktX9_friendBest_5 : List UInt8 := dkwX9_friendBest_5 ++ []
def dkwX9_friendBest_4 : List UInt8 := [180, 0, 13, 28, 184, 0, 104, 42, 180, 0, 13, 184, 0, 158, 21, 4, 163, 0, 6, 167, 0, 16, 21, 6]
abbrev dktX9_friendBest_4 : List UInt8 := dkwX9_friendBest_4 ++ dktX9_friendBest_5
def dkwX9_friendBest_3 : List UInt8 := [180, 0, 9, 42, 180, 0, 13, 184, 0, 110, 42, 180, 0, 13, 27, 16, 6, 184, 0, 52, 21, 6, 79, 42]
abbrev dktX9_friendBest_3 : List UInt8 := dkwX9_friendBest_3 ++ dktX9_friendBest_4
def dkwX9_friendBest_2 : List UInt8 := [3, 54, 6, 21, 6, 42, 180, 0, 9, 3, 46, 162, 0, 78, 21, 6, 27, 160, 0, 6, 167, 0, 63, 42]
abbrev dktX9_friendBest_2 : List UInt8 := dkwX9_friendBest_2 ++ dktX9_friendBest_3
def dkwX9_friendBest_1 : List UInt8 := [42, 29, 182, 0, 36, 172, 42, 28, 182, 0, 137, 42, 180, 0, 13, 184, 0, 158, 54, 4, 16, 247, 54, 5]
abbrev dktX9_friendBest_1 : List UInt8 := dkwX9_friendBest_1 ++ dktX9_friendBest_2
def dkwX9_friendBest_0 : List UInt8 := [42, 27, 182, 0, 100, 153, 0, 13, 28, 3, 16, 48, 184, 0, 126, 167, 0, 4, 2, 62, 29, 153, 0, 9]
abbrev dktX9_friendBest_0 : List UInt8 := dkwX9_friendBest_0 ++ dktX9_friendBest_1
theorem dksX9_friendBest_0 : cX9_friendBest.data.toList.drop 0 = dktX9_friendBest_0 := by decide +kernel
theorem dksX9_friendBest_1 : cX9_friendBest.data.toList.drop 24 = dktX9_friendBest_1 := dk_seg dksX9_friendBest_0 24 rfl rfl
theorem dksX9_friendBest_2 : cX9_friendBest.data.toList.drop 48 = dktX9_friendBest_2 := dk_seg dksX9_friendBest_1 24 rfl rfl
theorem dksX9_friendBest_3 : cX9_friendBest.data.toList.drop 72 = dktX9_friendBest_3 := dk_seg dksX9_friendBest_2 24 rfl rfl
theorem dksX9_friendBest_4 : cX9_friendBest.data.toList.drop 96 = dktX9_friendBest_4 := dk_seg dksX9_friendBest_3 24 rfl rfl
theorem dksX9_friendBest_5 : cX9_friendBest.data.toList.drop 120 = dktX9_friendBest_5 := dk_seg dksX9_friendBest_4 24 rfl rfl
theorem dX9_friendBest_0 : decode cX9_friendBest 0 = .ok (.aload_n 0, 1) := dk_42 (dk_at dksX9_friendBest_0 0 rfl rfl)
theorem dX9_friendBest_1 : decode cX9_friendBest 1 = .ok (.iload_n 1, 1) := dk_27 (dk_at dksX9_friendBest_0 1 rfl rfl)
theorem dX9_friendBest_2 : decode cX9_friendBest 2 = .ok (.invokevirtual 100, 3) := dk_182 0 100 (dk_at dksX9_friendBest_0 2 rfl rfl)
theorem dX9_friendBest_5 : decode cX9_friendBest 5 = .ok (.ifCond .eq 13, 3) := dk_153 0 13 (dk_at dksX9_friendBest_0 5 rfl rfl)
theorem dX9_friendBest_8 : decode cX9_friendBest 8 = .ok (.iload_n 2, 1) := dk_28 (dk_at dksX9_friendBest_0 8 rfl rfl)
theorem dX9_friendBest_9 : decode cX9_friendBest 9 = .ok (.iconst 0, 1) := dk_3 (dk_at dksX9_friendBest_0 9 rfl rfl)
theorem dX9_friendBest_10 : decode cX9_friendBest 10 = .ok (.bipush 48, 2) := dk_16 48 (dk_at dksX9_friendBest_0 10 rfl rfl)
theorem dX9_friendBest_12 : decode cX9_friendBest 12 = .ok (.invokestatic 126, 3) := dk_184 0 126 (dk_at dksX9_friendBest_0 12 rfl rfl)
theorem dX9_friendBest_15 : decode cX9_friendBest 15 = .ok (.goto 4, 3) := dk_167 0 4 (dk_at dksX9_friendBest_0 15 rfl rfl)
theorem dX9_friendBest_18 : decode cX9_friendBest 18 = .ok (.iconst (-1), 1) := dk_2 (dk_at dksX9_friendBest_0 18 rfl rfl)
theorem dX9_friendBest_19 : decode cX9_friendBest 19 = .ok (.istore_n 3, 1) := dk_62 (dk_at dksX9_friendBest_0 19 rfl rfl)
theorem dX9_friendBest_20 : decode cX9_friendBest 20 = .ok (.iload_n 3, 1) := dk_29 (dk_at dksX9_friendBest_0 20 rfl rfl)
theorem dX9_friendBest_21 : decode cX9_friendBest 21 = .ok (.ifCond .eq 9, 3) := dk_153 0 9 (dk_at dksX9_friendBest_0 21 rfl rfl)
theorem dX9_friendBest_24 : decode cX9_friendBest 24 = .ok (.aload_n 0, 1) := dk_42 (dk_at dksX9_friendBest_1 0 rfl rfl)
theorem dX9_friendBest_25 : decode cX9_friendBest 25 = .ok (.iload_n 3, 1) := dk_29 (dk_at dksX9_friendBest_1 1 rfl rfl)
theorem dX9_friendBest_26 : decode cX9_friendBest 26 = .ok (.invokevirtual 36, 3) := dk_182 0 36 (dk_at dksX9_friendBest_1 2 rfl rfl)
theorem dX9_friendBest_29 : decode cX9_friendBest 29 = .ok (.ireturn, 1) := dk_172 (dk_at dksX9_friendBest_1 5 rfl rfl)
theorem dX9_friendBest_30 : decode cX9_friendBest 30 = .ok (.aload_n 0, 1) := dk_42 (dk_at dksX9_friendBest_1 6 rfl rfl)
theorem dX9_friendBest_31 : decode cX9_friendBest 31 = .ok (.iload_n 2, 1) := dk_28 (dk_at dksX9_friendBest_1 7 rfl rfl)
theorem dX9_friendBest_32 : decode cX9_friendBest 32 = .ok (.invokevirtual 137, 3) := dk_182 0 137 (dk_at dksX9_friendBest_1 8 rfl rfl)
theorem dX9_friendBest_35 : decode cX9_friendBest 35 = .ok (.aload_n 0, 1) := dk_42 (dk_at dksX9_friendBest_1 11 rfl rfl)
theorem dX9_friendBest_36 : decode cX9_friendBest 36 = .ok (.getfield 13, 3) := dk_180 0 13 (dk_at dksX9_friendBest_1 12 rfl rfl)
theorem dX9_friendBest_39 : decode cX9_friendBest 39 = .ok (.invokestatic 158, 3) := dk_184 0 158 (dk_at dksX9_friendBest_1 15 rfl rfl)
theorem dX9_friendBest_42 : decode cX9_friendBest 42 = .ok (.istore 4, 2) := dk_54 4 (dk_at dksX9_friendBest_1 18 rfl rfl)
theorem dX9_friendBest_44 : decode cX9_friendBest 44 = .ok (.bipush (-9), 2) := dk_16 247 (dk_at dksX9_friendBest_1 20 rfl rfl)
theorem dX9_friendBest_46 : decode cX9_friendBest 46 = .ok (.istore 5, 2) := dk_54 5 (dk_at dksX9_friendBest_1 22 rfl rfl)
theorem dX9_friendBest_48 : decode cX9_friendBest 48 = .ok (.iconst 0, 1) := dk_3 (dk_at dksX9_friendBest_2 0 rfl rfl)
theorem dX9_friendBest_49 : decode cX9_friendBest 49 = .ok (.istore 6, 2) := dk_54 6 (dk_at dksX9_friendBest_2 1 rfl rfl)
theorem dX9_friendBest_51 : decode cX9_friendBest 51 = .ok (.iload 6, 2) := dk_21 6 (dk_at dksX9_friendBest_2 3 rfl rfl)
theorem dX9_friendBest_53 : decode cX9_friendBest 53 = .ok (.aload_n 0, 1) := dk_42 (dk_at dksX9_friendBest_2 5 rfl rfl)
theorem dX9_friendBest_54 : decode cX9_friendBest 54 = .ok (.getfield 9, 3) := dk_180 0 9 (dk_at dksX9_friendBest_2 6 rfl rfl)
theorem dX9_friendBest_57 : decode cX9_friendBest 57 = .ok (.iconst 0, 1) := dk_3 (dk_at dksX9_friendBest_2 9 rfl rfl)
theorem dX9_friendBest_58 : decode cX9_friendBest 58 = .ok (.iaload, 1) := dk_46 (dk_at dksX9_friendBest_2 10 rfl rfl)
theorem dX9_friendBest_59 : decode cX9_friendBest 59 = .ok (.if_icmp .ge 78, 3) := dk_162 0 78 (dk_at dksX9_friendBest_2 11 rfl rfl)
theorem dX9_friendBest_62 : decode cX9_friendBest 62 = .ok (.iload 6, 2) := dk_21 6 (dk_at dksX9_friendBest_2 14 rfl rfl)
theorem dX9_friendBest_64 : decode cX9_friendBest 64 = .ok (.iload_n 1, 1) := dk_27 (dk_at dksX9_friendBest_2 16 rfl rfl)
theorem dX9_friendBest_65 : decode cX9_friendBest 65 = .ok (.if_icmp .ne 6, 3) := dk_160 0 6 (dk_at dksX9_friendBest_2 17 rfl rfl)
theorem dX9_friendBest_68 : decode cX9_friendBest 68 = .ok (.goto 63, 3) := dk_167 0 63 (dk_at dksX9_friendBest_2 20 rfl rfl)
theorem dX9_friendBest_71 : decode cX9_friendBest 71 = .ok (.aload_n 0, 1) := dk_42 (dk_at dksX9_friendBest_2 23 rfl rfl)
theorem dX9_friendBest_72 : decode cX9_friendBest 72 = .ok (.getfield 9, 3) := dk_180 0 9 (dk_at dksX9_friendBest_3 0 rfl rfl)
theorem dX9_friendBest_75 : decode cX9_friendBest 75 = .ok (.aload_n 0, 1) := dk_42 (dk_at dksX9_friendBest_3 3 rfl rfl)
theorem dX9_friendBest_76 : decode cX9_friendBest 76 = .ok (.getfield 13, 3) := dk_180 0 13 (dk_at dksX9_friendBest_3 4 rfl rfl)
theorem dX9_friendBest_79 : decode cX9_friendBest 79 = .ok (.invokestatic 110, 3) := dk_184 0 110 (dk_at dksX9_friendBest_3 7 rfl rfl)
theorem dX9_friendBest_82 : decode cX9_friendBest 82 = .ok (.aload_n 0, 1) := dk_42 (dk_at dksX9_friendBest_3 10 rfl rfl)
theorem dX9_friendBest_83 : decode cX9_friendBest 83 = .ok (.getfield 13, 3) := dk_180 0 13 (dk_at dksX9_friendBest_3 11 rfl rfl)
theorem dX9_friendBest_86 : decode cX9_friendBest 86 = .ok (.iload_n 1, 1) := dk_27 (dk_at dksX9_friendBest_3 14 rfl rfl)
theorem dX9_friendBest_87 : decode cX9_friendBest 87 = .ok (.bipush 6, 2) := dk_16 6 (dk_at dksX9_friendBest_3 15 rfl rfl)
theorem dX9_friendBest_89 : decode cX9_friendBest 89 = .ok (.invokestatic 52, 3) := dk_184 0 52 (dk_at dksX9_friendBest_3 17 rfl rfl)
theorem dX9_friendBest_92 : decode cX9_friendBest 92 = .ok (.iload 6, 2) := dk_21 6 (dk_at dksX9_friendBest_3 20 rfl rfl)
theorem dX9_friendBest_94 : decode cX9_friendBest 94 = .ok (.iastore, 1) := dk_79 (dk_at dksX9_friendBest_3 22 rfl rfl)
theorem dX9_friendBest_95 : decode cX9_friendBest 95 = .ok (.aload_n 0, 1) := dk_42 (dk_at dksX9_friendBest_3 23 rfl rfl)
theorem dX9_friendBest_96 : decode cX9_friendBest 96 = .ok (.getfield 13, 3) := dk_180 0 13 (dk_at dksX9_friendBest_4 0 rfl rfl)
theorem dX9_friendBest_99 : decode cX9_friendBest 99 = .ok (.iload_n 2, 1) := dk_28 (dk_at dksX9_friendBest_4 3 rfl rfl)
theorem dX9_friendBest_100 : decode cX9_friendBest 100 = .ok (.invokestatic 104, 3) := dk_184 0 104 (dk_at dksX9_friendBest_4 4 rfl rfl)
theorem dX9_friendBest_103 : decode cX9_friendBest 103 = .ok (.aload_n 0, 1) := dk_42 (dk_at dksX9_friendBest_4 7 rfl rfl)
theorem dX9_friendBest_104 : decode cX9_friendBest 104 = .ok (.getfield 13, 3) := dk_180 0 13 (dk_at dksX9_friendBest_4 8 rfl rfl)
theorem dX9_friendBest_107 : decode cX9_friendBest 107 = .ok (.invokestatic 158, 3) := dk_184 0 158 (dk_at dksX9_friendBest_4 11 rfl rfl)
theorem dX9_friendBest_110 : decode cX9_friendBest 110 = .ok (.iload 4, 2) := dk_21 4 (dk_at dksX9_friendBest_4 14 rfl rfl)
theorem dX9_friendBest_112 : decode cX9_friendBest 112 = .ok (.if_icmp .gt 6, 3) := dk_163 0 6 (dk_at dksX9_friendBest_4 16 rfl rfl)
theorem dX9_friendBest_115 : decode cX9_friendBest 115 = .ok (.goto 16, 3) := dk_167 0 16 (dk_at dksX9_friendBest_4 19 rfl rfl)
theorem dX9_friendBest_118 : decode cX9_friendBest 118 = .ok (.iload 6, 2) := dk_21 6 (dk_at dksX9_friendBest_4 22 rfl rfl)
theorem dX9_friendBest_120 : decode cX9_friendBest 120 = .ok (.istore 5, 2) := dk_54 5 (dk_at dksX9_friendBest_5 0 rfl rfl)
theorem dX9_friendBest_122 : decode cX9_friendBest 122 = .ok (.aload_n 0, 1) := dk_42 (dk_at dksX9_friendBest_5 2 rfl rfl)
theorem dX9_friendBest_123 : decode cX9_friendBest 123 = .ok (.getfield 13, 3) := dk_180 0 13 (dk_at dksX9_friendBest_5 3 rfl rfl)
theorem dX9_friendBest_126 : decode cX9_friendBest 126 = .ok (.invokestatic 158, 3) := dk_184 0 158 (dk_at dksX9_friendBest_5 6 rfl rfl)
theorem dX9_friendBest_129 : decode cX9_friendBest 129 = .ok (.istore 4, 2) := dk_54 4 (dk_at dksX9_friendBest_5 9 rfl rfl)
theorem dX9_friendBest_131 : decode cX9_friendBest 131 = .ok (.iinc 6 1, 3) := dk_132 6 1 (dk_at dksX9_friendBest_5 11 rfl rfl)
theorem dX9_friendBest_134 : decode cX9_friendBest 134 = .ok (.goto (-83), 3) := dk_167 255 173 (dk_at dksX9_friendBest_5 14 rfl rfl)
theorem dX9_friendBest_137 : decode cX9_friendBest 137 = .ok (.iload 5, 2) := dk_21 5 (dk_at dksX9_friendBest_5 17 rfl rfl)
theorem dX9_friendBest_139 : decode cX9_friendBest 139 = .ok (.ireturn, 1) := dk_172 (dk_at dksX9_friendBest_5 19 rfl rfl)
abbrev cX9_leastHas : ByteArray := prog_24_method_53_code
def yX9_leastHas : MethodName := ⟨RX9, "leastHas", "([I)I"⟩
def dkwX9_leastHas_1 : List UInt8 := [132, 2, 1, 167, 255, 234, 27, 172]
abbrev dktX9_leastHas_1 : List UInt8 := dkwX9_leastHas_1 ++ []
def dkwX9_leastHas_0 : List UInt8 := [18, 145, 60, 3, 61, 28, 42, 3, 46, 162, 0, 21, 27, 42, 28, 6, 184, 0, 52, 46, 184, 0, 44, 60]
abbrev dktX9_leastHas_0 : List UInt8 := dkwX9_leastHas_0 ++ dktX9_leastHas_1
theorem dksX9_leastHas_0 : cX9_leastHas.data.toList.drop 0 = dktX9_leastHas_0 := by decide +kernel
theorem dksX9_leastHas_1 : cX9_leastHas.data.toList.drop 24 = dktX9_leastHas_1 := dk_seg dksX9_leastHas_0 24 rfl rfl
theorem dX9_leastHas_0 : decode cX9_leastHas 0 = .ok (.ldc 145, 2) := dk_18 145 (dk_at dksX9_leastHas_0 0 rfl rfl)
theorem dX9_leastHas_2 : decode cX9_leastHas 2 = .ok (.istore_n 1, 1) := dk_60 (dk_at dksX9_leastHas_0 2 rfl rfl)
theorem dX9_leastHas_3 : decode cX9_leastHas 3 = .ok (.iconst 0, 1) := dk_3 (dk_at dksX9_leastHas_0 3 rfl rfl)
theorem dX9_leastHas_4 : decode cX9_leastHas 4 = .ok (.istore_n 2, 1) := dk_61 (dk_at dksX9_leastHas_0 4 rfl rfl)
theorem dX9_leastHas_5 : decode cX9_leastHas 5 = .ok (.iload_n 2, 1) := dk_28 (dk_at dksX9_leastHas_0 5 rfl rfl)
theorem dX9_leastHas_6 : decode cX9_leastHas 6 = .ok (.aload_n 0, 1) := dk_42 (dk_at dksX9_leastHas_0 6 rfl rfl)
theorem dX9_leastHas_7 : decode cX9_leastHas 7 = .ok (.iconst 0, 1) := dk_3 (dk_at dksX9_leastHas_0 7 rfl rfl)
theorem dX9_leastHas_8 : decode cX9_leastHas 8 = .ok (.iaload, 1) := dk_46 (dk_at dksX9_leastHas_0 8 rfl rfl)
theorem dX9_leastHas_9 : decode cX9_leastHas 9 = .ok (.if_icmp .ge 21, 3) := dk_162 0 21 (dk_at dksX9_leastHas_0 9 rfl rfl)
theorem dX9_leastHas_12 : decode cX9_leastHas 12 = .ok (.iload_n 1, 1) := dk_27 (dk_at dksX9_leastHas_0 12 rfl rfl)
theorem dX9_leastHas_13 : decode cX9_leastHas 13 = .ok (.aload_n 0, 1) := dk_42 (dk_at dksX9_leastHas_0 13 rfl rfl)
theorem dX9_leastHas_14 : decode cX9_leastHas 14 = .ok (.iload_n 2, 1) := dk_28 (dk_at dksX9_leastHas_0 14 rfl rfl)
theorem dX9_leastHas_15 : decode cX9_leastHas 15 = .ok (.iconst 3, 1) := dk_6 (dk_at dksX9_leastHas_0 15 rfl rfl)
theorem dX9_leastHas_16 : decode cX9_leastHas 16 = .ok (.invokestatic 52, 3) := dk_184 0 52 (dk_at dksX9_leastHas_0 16 rfl rfl)
theorem dX9_leastHas_19 : decode cX9_leastHas 19 = .ok (.iaload, 1) := dk_46 (dk_at dksX9_leastHas_0 19 rfl rfl)
theorem dX9_leastHas_20 : decode cX9_leastHas 20 = .ok (.invokestatic 44, 3) := dk_184 0 44 (dk_at dksX9_leastHas_0 20 rfl rfl)
theorem dX9_leastHas_23 : decode cX9_leastHas 23 = .ok (.istore_n 1, 1) := dk_60 (dk_at dksX9_leastHas_0 23 rfl rfl)
theorem dX9_leastHas_24 : decode cX9_leastHas 24 = .ok (.iinc 2 1, 3) := dk_132 2 1 (dk_at dksX9_leastHas_1 0 rfl rfl)
theorem dX9_leastHas_27 : decode cX9_leastHas 27 = .ok (.goto (-22), 3) := dk_167 255 234 (dk_at dksX9_leastHas_1 3 rfl rfl)
theorem dX9_leastHas_30 : decode cX9_leastHas 30 = .ok (.iload_n 1, 1) := dk_27 (dk_at dksX9_leastHas_1 6 rfl rfl)
theorem dX9_leastHas_31 : decode cX9_leastHas 31 = .ok (.ireturn, 1) := dk_172 (dk_at dksX9_leastHas_1 7 rfl rfl)
abbrev cX9_hush : ByteArray := prog_24_method_55_code
def yX9_hush : MethodName := ⟨RX9, "hush", "(I)I"⟩
def dkwX9_hush_4 : List UInt8 := [54, 4, 42, 180, 0, 13, 184, 0, 141, 62, 132, 5, 1, 167, 255, 187, 21, 4, 172]
abbrev dktX9_hush_4 : List UInt8 := dkwX9_hush_4 ++ []
def dkwX9_hush_3 : List UInt8 := [42, 180, 0, 13, 27, 184, 0, 104, 42, 180, 0, 13, 184, 0, 141, 29, 163, 0, 6, 167, 0, 15, 21, 5]
abbrev dktX9_hush_3 : List UInt8 := dkwX9_hush_3 ++ dktX9_hush_4
def dkwX9_hush_2 : List UInt8 := [162, 0, 64, 42, 180, 0, 9, 42, 180, 0, 13, 184, 0, 110, 42, 180, 0, 13, 7, 4, 21, 5, 120, 79]
abbrev dktX9_hush_2 : List UInt8 := dkwX9_hush_2 ++ dktX9_hush_3
def dkwX9_hush_1 : List UInt8 := [180, 0, 13, 184, 0, 141, 62, 16, 247, 54, 4, 3, 54, 5, 21, 5, 42, 180, 0, 9, 3, 46]
abbrev dktX9_hush_1 : List UInt8 := dkwX9_hush_1 ++ dktX9_hush_2
def dkwX9_hush_0 : List UInt8 := [27, 3, 16, 48, 184, 0, 126, 61, 28, 153, 0, 9, 42, 28, 182, 0, 36, 172, 42, 27, 182, 0, 137, 42]
abbrev dktX9_hush_0 : List UInt8 := dkwX9_hush_0 ++ dktX9_hush_1
theorem dksX9_hush_0 : cX9_hush.data.toList.drop 0 = dktX9_hush_0 := by decide +kernel
theorem dksX9_hush_1 : cX9_hush.data.toList.drop 24 = dktX9_hush_1 := dk_seg dksX9_hush_0 24 rfl rfl
theorem dksX9_hush_2 : cX9_hush.data.toList.drop 46 = dktX9_hush_2 := dk_seg dksX9_hush_1 22 rfl rfl
theorem dksX9_hush_3 : cX9_hush.data.toList.drop 70 = dktX9_hush_3 := dk_seg dksX9_hush_2 24 rfl rfl
theorem dksX9_hush_4 : cX9_hush.data.toList.drop 94 = dktX9_hush_4 := dk_seg dksX9_hush_3 24 rfl rfl
theorem dX9_hush_0 : decode cX9_hush 0 = .ok (.iload_n 1, 1) := dk_27 (dk_at dksX9_hush_0 0 rfl rfl)
theorem dX9_hush_1 : decode cX9_hush 1 = .ok (.iconst 0, 1) := dk_3 (dk_at dksX9_hush_0 1 rfl rfl)
theorem dX9_hush_2 : decode cX9_hush 2 = .ok (.bipush 48, 2) := dk_16 48 (dk_at dksX9_hush_0 2 rfl rfl)
theorem dX9_hush_4 : decode cX9_hush 4 = .ok (.invokestatic 126, 3) := dk_184 0 126 (dk_at dksX9_hush_0 4 rfl rfl)
theorem dX9_hush_7 : decode cX9_hush 7 = .ok (.istore_n 2, 1) := dk_61 (dk_at dksX9_hush_0 7 rfl rfl)
theorem dX9_hush_8 : decode cX9_hush 8 = .ok (.iload_n 2, 1) := dk_28 (dk_at dksX9_hush_0 8 rfl rfl)
theorem dX9_hush_9 : decode cX9_hush 9 = .ok (.ifCond .eq 9, 3) := dk_153 0 9 (dk_at dksX9_hush_0 9 rfl rfl)
theorem dX9_hush_12 : decode cX9_hush 12 = .ok (.aload_n 0, 1) := dk_42 (dk_at dksX9_hush_0 12 rfl rfl)
theorem dX9_hush_13 : decode cX9_hush 13 = .ok (.iload_n 2, 1) := dk_28 (dk_at dksX9_hush_0 13 rfl rfl)
theorem dX9_hush_14 : decode cX9_hush 14 = .ok (.invokevirtual 36, 3) := dk_182 0 36 (dk_at dksX9_hush_0 14 rfl rfl)
theorem dX9_hush_17 : decode cX9_hush 17 = .ok (.ireturn, 1) := dk_172 (dk_at dksX9_hush_0 17 rfl rfl)
theorem dX9_hush_18 : decode cX9_hush 18 = .ok (.aload_n 0, 1) := dk_42 (dk_at dksX9_hush_0 18 rfl rfl)
theorem dX9_hush_19 : decode cX9_hush 19 = .ok (.iload_n 1, 1) := dk_27 (dk_at dksX9_hush_0 19 rfl rfl)
theorem dX9_hush_20 : decode cX9_hush 20 = .ok (.invokevirtual 137, 3) := dk_182 0 137 (dk_at dksX9_hush_0 20 rfl rfl)
theorem dX9_hush_23 : decode cX9_hush 23 = .ok (.aload_n 0, 1) := dk_42 (dk_at dksX9_hush_0 23 rfl rfl)
theorem dX9_hush_24 : decode cX9_hush 24 = .ok (.getfield 13, 3) := dk_180 0 13 (dk_at dksX9_hush_1 0 rfl rfl)
theorem dX9_hush_27 : decode cX9_hush 27 = .ok (.invokestatic 141, 3) := dk_184 0 141 (dk_at dksX9_hush_1 3 rfl rfl)
theorem dX9_hush_30 : decode cX9_hush 30 = .ok (.istore_n 3, 1) := dk_62 (dk_at dksX9_hush_1 6 rfl rfl)
theorem dX9_hush_31 : decode cX9_hush 31 = .ok (.bipush (-9), 2) := dk_16 247 (dk_at dksX9_hush_1 7 rfl rfl)
theorem dX9_hush_33 : decode cX9_hush 33 = .ok (.istore 4, 2) := dk_54 4 (dk_at dksX9_hush_1 9 rfl rfl)
theorem dX9_hush_35 : decode cX9_hush 35 = .ok (.iconst 0, 1) := dk_3 (dk_at dksX9_hush_1 11 rfl rfl)
theorem dX9_hush_36 : decode cX9_hush 36 = .ok (.istore 5, 2) := dk_54 5 (dk_at dksX9_hush_1 12 rfl rfl)
theorem dX9_hush_38 : decode cX9_hush 38 = .ok (.iload 5, 2) := dk_21 5 (dk_at dksX9_hush_1 14 rfl rfl)
theorem dX9_hush_40 : decode cX9_hush 40 = .ok (.aload_n 0, 1) := dk_42 (dk_at dksX9_hush_1 16 rfl rfl)
theorem dX9_hush_41 : decode cX9_hush 41 = .ok (.getfield 9, 3) := dk_180 0 9 (dk_at dksX9_hush_1 17 rfl rfl)
theorem dX9_hush_44 : decode cX9_hush 44 = .ok (.iconst 0, 1) := dk_3 (dk_at dksX9_hush_1 20 rfl rfl)
theorem dX9_hush_45 : decode cX9_hush 45 = .ok (.iaload, 1) := dk_46 (dk_at dksX9_hush_1 21 rfl rfl)
theorem dX9_hush_46 : decode cX9_hush 46 = .ok (.if_icmp .ge 64, 3) := dk_162 0 64 (dk_at dksX9_hush_2 0 rfl rfl)
theorem dX9_hush_49 : decode cX9_hush 49 = .ok (.aload_n 0, 1) := dk_42 (dk_at dksX9_hush_2 3 rfl rfl)
theorem dX9_hush_50 : decode cX9_hush 50 = .ok (.getfield 9, 3) := dk_180 0 9 (dk_at dksX9_hush_2 4 rfl rfl)
theorem dX9_hush_53 : decode cX9_hush 53 = .ok (.aload_n 0, 1) := dk_42 (dk_at dksX9_hush_2 7 rfl rfl)
theorem dX9_hush_54 : decode cX9_hush 54 = .ok (.getfield 13, 3) := dk_180 0 13 (dk_at dksX9_hush_2 8 rfl rfl)
theorem dX9_hush_57 : decode cX9_hush 57 = .ok (.invokestatic 110, 3) := dk_184 0 110 (dk_at dksX9_hush_2 11 rfl rfl)
theorem dX9_hush_60 : decode cX9_hush 60 = .ok (.aload_n 0, 1) := dk_42 (dk_at dksX9_hush_2 14 rfl rfl)
theorem dX9_hush_61 : decode cX9_hush 61 = .ok (.getfield 13, 3) := dk_180 0 13 (dk_at dksX9_hush_2 15 rfl rfl)
theorem dX9_hush_64 : decode cX9_hush 64 = .ok (.iconst 4, 1) := dk_7 (dk_at dksX9_hush_2 18 rfl rfl)
theorem dX9_hush_65 : decode cX9_hush 65 = .ok (.iconst 1, 1) := dk_4 (dk_at dksX9_hush_2 19 rfl rfl)
theorem dX9_hush_66 : decode cX9_hush 66 = .ok (.iload 5, 2) := dk_21 5 (dk_at dksX9_hush_2 20 rfl rfl)
theorem dX9_hush_68 : decode cX9_hush 68 = .ok (.ishl, 1) := dk_120 (dk_at dksX9_hush_2 22 rfl rfl)
theorem dX9_hush_69 : decode cX9_hush 69 = .ok (.iastore, 1) := dk_79 (dk_at dksX9_hush_2 23 rfl rfl)
theorem dX9_hush_70 : decode cX9_hush 70 = .ok (.aload_n 0, 1) := dk_42 (dk_at dksX9_hush_3 0 rfl rfl)
theorem dX9_hush_71 : decode cX9_hush 71 = .ok (.getfield 13, 3) := dk_180 0 13 (dk_at dksX9_hush_3 1 rfl rfl)
theorem dX9_hush_74 : decode cX9_hush 74 = .ok (.iload_n 1, 1) := dk_27 (dk_at dksX9_hush_3 4 rfl rfl)
theorem dX9_hush_75 : decode cX9_hush 75 = .ok (.invokestatic 104, 3) := dk_184 0 104 (dk_at dksX9_hush_3 5 rfl rfl)
theorem dX9_hush_78 : decode cX9_hush 78 = .ok (.aload_n 0, 1) := dk_42 (dk_at dksX9_hush_3 8 rfl rfl)
theorem dX9_hush_79 : decode cX9_hush 79 = .ok (.getfield 13, 3) := dk_180 0 13 (dk_at dksX9_hush_3 9 rfl rfl)
theorem dX9_hush_82 : decode cX9_hush 82 = .ok (.invokestatic 141, 3) := dk_184 0 141 (dk_at dksX9_hush_3 12 rfl rfl)
theorem dX9_hush_85 : decode cX9_hush 85 = .ok (.iload_n 3, 1) := dk_29 (dk_at dksX9_hush_3 15 rfl rfl)
theorem dX9_hush_86 : decode cX9_hush 86 = .ok (.if_icmp .gt 6, 3) := dk_163 0 6 (dk_at dksX9_hush_3 16 rfl rfl)
theorem dX9_hush_89 : decode cX9_hush 89 = .ok (.goto 15, 3) := dk_167 0 15 (dk_at dksX9_hush_3 19 rfl rfl)
theorem dX9_hush_92 : decode cX9_hush 92 = .ok (.iload 5, 2) := dk_21 5 (dk_at dksX9_hush_3 22 rfl rfl)
theorem dX9_hush_94 : decode cX9_hush 94 = .ok (.istore 4, 2) := dk_54 4 (dk_at dksX9_hush_4 0 rfl rfl)
theorem dX9_hush_96 : decode cX9_hush 96 = .ok (.aload_n 0, 1) := dk_42 (dk_at dksX9_hush_4 2 rfl rfl)
theorem dX9_hush_97 : decode cX9_hush 97 = .ok (.getfield 13, 3) := dk_180 0 13 (dk_at dksX9_hush_4 3 rfl rfl)
theorem dX9_hush_100 : decode cX9_hush 100 = .ok (.invokestatic 141, 3) := dk_184 0 141 (dk_at dksX9_hush_4 6 rfl rfl)
theorem dX9_hush_103 : decode cX9_hush 103 = .ok (.istore_n 3, 1) := dk_62 (dk_at dksX9_hush_4 9 rfl rfl)
theorem dX9_hush_104 : decode cX9_hush 104 = .ok (.iinc 5 1, 3) := dk_132 5 1 (dk_at dksX9_hush_4 10 rfl rfl)
theorem dX9_hush_107 : decode cX9_hush 107 = .ok (.goto (-69), 3) := dk_167 255 187 (dk_at dksX9_hush_4 13 rfl rfl)
theorem dX9_hush_110 : decode cX9_hush 110 = .ok (.iload 4, 2) := dk_21 4 (dk_at dksX9_hush_4 16 rfl rfl)
theorem dX9_hush_112 : decode cX9_hush 112 = .ok (.ireturn, 1) := dk_172 (dk_at dksX9_hush_4 18 rfl rfl)
abbrev cX9_fewest : ByteArray := prog_24_method_56_code
def yX9_fewest : MethodName := ⟨RX9, "fewest", "(I)I"⟩
def dkwX9_fewest_3 : List UInt8 := [7, 21, 4, 79, 42, 2, 27, 182, 0, 155, 153, 0, 6, 21, 4, 62, 132, 4, 1, 167, 255, 190, 29, 172]
abbrev dktX9_fewest_3 : List UInt8 := dkwX9_fewest_3 ++ []
def dkwX9_fewest_2 : List UInt8 := [184, 0, 120, 161, 0, 6, 167, 0, 34, 42, 180, 0, 9, 42, 180, 0, 13, 184, 0, 110, 42, 180, 0, 13]
abbrev dktX9_fewest_2 : List UInt8 := dkwX9_fewest_2 ++ dktX9_fewest_3
def dkwX9_fewest_1 : List UInt8 := [21, 4, 4, 42, 180, 0, 9, 3, 46, 120, 162, 0, 59, 29, 155, 0, 18, 21, 4, 184, 0, 120, 29]
abbrev dktX9_fewest_1 : List UInt8 := dkwX9_fewest_1 ++ dktX9_fewest_2
def dkwX9_fewest_0 : List UInt8 := [27, 3, 16, 24, 184, 0, 126, 61, 28, 153, 0, 9, 42, 28, 182, 0, 36, 172, 16, 247, 62, 3, 54, 4]
abbrev dktX9_fewest_0 : List UInt8 := dkwX9_fewest_0 ++ dktX9_fewest_1
theorem dksX9_fewest_0 : cX9_fewest.data.toList.drop 0 = dktX9_fewest_0 := by decide +kernel
theorem dksX9_fewest_1 : cX9_fewest.data.toList.drop 24 = dktX9_fewest_1 := dk_seg dksX9_fewest_0 24 rfl rfl
theorem dksX9_fewest_2 : cX9_fewest.data.toList.drop 47 = dktX9_fewest_2 := dk_seg dksX9_fewest_1 23 rfl rfl
theorem dksX9_fewest_3 : cX9_fewest.data.toList.drop 71 = dktX9_fewest_3 := dk_seg dksX9_fewest_2 24 rfl rfl
theorem dX9_fewest_0 : decode cX9_fewest 0 = .ok (.iload_n 1, 1) := dk_27 (dk_at dksX9_fewest_0 0 rfl rfl)
theorem dX9_fewest_1 : decode cX9_fewest 1 = .ok (.iconst 0, 1) := dk_3 (dk_at dksX9_fewest_0 1 rfl rfl)
theorem dX9_fewest_2 : decode cX9_fewest 2 = .ok (.bipush 24, 2) := dk_16 24 (dk_at dksX9_fewest_0 2 rfl rfl)
theorem dX9_fewest_4 : decode cX9_fewest 4 = .ok (.invokestatic 126, 3) := dk_184 0 126 (dk_at dksX9_fewest_0 4 rfl rfl)
theorem dX9_fewest_7 : decode cX9_fewest 7 = .ok (.istore_n 2, 1) := dk_61 (dk_at dksX9_fewest_0 7 rfl rfl)
theorem dX9_fewest_8 : decode cX9_fewest 8 = .ok (.iload_n 2, 1) := dk_28 (dk_at dksX9_fewest_0 8 rfl rfl)
theorem dX9_fewest_9 : decode cX9_fewest 9 = .ok (.ifCond .eq 9, 3) := dk_153 0 9 (dk_at dksX9_fewest_0 9 rfl rfl)
theorem dX9_fewest_12 : decode cX9_fewest 12 = .ok (.aload_n 0, 1) := dk_42 (dk_at dksX9_fewest_0 12 rfl rfl)
theorem dX9_fewest_13 : decode cX9_fewest 13 = .ok (.iload_n 2, 1) := dk_28 (dk_at dksX9_fewest_0 13 rfl rfl)
theorem dX9_fewest_14 : decode cX9_fewest 14 = .ok (.invokevirtual 36, 3) := dk_182 0 36 (dk_at dksX9_fewest_0 14 rfl rfl)
theorem dX9_fewest_17 : decode cX9_fewest 17 = .ok (.ireturn, 1) := dk_172 (dk_at dksX9_fewest_0 17 rfl rfl)
theorem dX9_fewest_18 : decode cX9_fewest 18 = .ok (.bipush (-9), 2) := dk_16 247 (dk_at dksX9_fewest_0 18 rfl rfl)
theorem dX9_fewest_20 : decode cX9_fewest 20 = .ok (.istore_n 3, 1) := dk_62 (dk_at dksX9_fewest_0 20 rfl rfl)
theorem dX9_fewest_21 : decode cX9_fewest 21 = .ok (.iconst 0, 1) := dk_3 (dk_at dksX9_fewest_0 21 rfl rfl)
theorem dX9_fewest_22 : decode cX9_fewest 22 = .ok (.istore 4, 2) := dk_54 4 (dk_at dksX9_fewest_0 22 rfl rfl)
theorem dX9_fewest_24 : decode cX9_fewest 24 = .ok (.iload 4, 2) := dk_21 4 (dk_at dksX9_fewest_1 0 rfl rfl)
theorem dX9_fewest_26 : decode cX9_fewest 26 = .ok (.iconst 1, 1) := dk_4 (dk_at dksX9_fewest_1 2 rfl rfl)
theorem dX9_fewest_27 : decode cX9_fewest 27 = .ok (.aload_n 0, 1) := dk_42 (dk_at dksX9_fewest_1 3 rfl rfl)
theorem dX9_fewest_28 : decode cX9_fewest 28 = .ok (.getfield 9, 3) := dk_180 0 9 (dk_at dksX9_fewest_1 4 rfl rfl)
theorem dX9_fewest_31 : decode cX9_fewest 31 = .ok (.iconst 0, 1) := dk_3 (dk_at dksX9_fewest_1 7 rfl rfl)
theorem dX9_fewest_32 : decode cX9_fewest 32 = .ok (.iaload, 1) := dk_46 (dk_at dksX9_fewest_1 8 rfl rfl)
theorem dX9_fewest_33 : decode cX9_fewest 33 = .ok (.ishl, 1) := dk_120 (dk_at dksX9_fewest_1 9 rfl rfl)
theorem dX9_fewest_34 : decode cX9_fewest 34 = .ok (.if_icmp .ge 59, 3) := dk_162 0 59 (dk_at dksX9_fewest_1 10 rfl rfl)
theorem dX9_fewest_37 : decode cX9_fewest 37 = .ok (.iload_n 3, 1) := dk_29 (dk_at dksX9_fewest_1 13 rfl rfl)
theorem dX9_fewest_38 : decode cX9_fewest 38 = .ok (.ifCond .lt 18, 3) := dk_155 0 18 (dk_at dksX9_fewest_1 14 rfl rfl)
theorem dX9_fewest_41 : decode cX9_fewest 41 = .ok (.iload 4, 2) := dk_21 4 (dk_at dksX9_fewest_1 17 rfl rfl)
theorem dX9_fewest_43 : decode cX9_fewest 43 = .ok (.invokestatic 120, 3) := dk_184 0 120 (dk_at dksX9_fewest_1 19 rfl rfl)
theorem dX9_fewest_46 : decode cX9_fewest 46 = .ok (.iload_n 3, 1) := dk_29 (dk_at dksX9_fewest_1 22 rfl rfl)
theorem dX9_fewest_47 : decode cX9_fewest 47 = .ok (.invokestatic 120, 3) := dk_184 0 120 (dk_at dksX9_fewest_2 0 rfl rfl)
theorem dX9_fewest_50 : decode cX9_fewest 50 = .ok (.if_icmp .lt 6, 3) := dk_161 0 6 (dk_at dksX9_fewest_2 3 rfl rfl)
theorem dX9_fewest_53 : decode cX9_fewest 53 = .ok (.goto 34, 3) := dk_167 0 34 (dk_at dksX9_fewest_2 6 rfl rfl)
theorem dX9_fewest_56 : decode cX9_fewest 56 = .ok (.aload_n 0, 1) := dk_42 (dk_at dksX9_fewest_2 9 rfl rfl)
theorem dX9_fewest_57 : decode cX9_fewest 57 = .ok (.getfield 9, 3) := dk_180 0 9 (dk_at dksX9_fewest_2 10 rfl rfl)
theorem dX9_fewest_60 : decode cX9_fewest 60 = .ok (.aload_n 0, 1) := dk_42 (dk_at dksX9_fewest_2 13 rfl rfl)
theorem dX9_fewest_61 : decode cX9_fewest 61 = .ok (.getfield 13, 3) := dk_180 0 13 (dk_at dksX9_fewest_2 14 rfl rfl)
theorem dX9_fewest_64 : decode cX9_fewest 64 = .ok (.invokestatic 110, 3) := dk_184 0 110 (dk_at dksX9_fewest_2 17 rfl rfl)
theorem dX9_fewest_67 : decode cX9_fewest 67 = .ok (.aload_n 0, 1) := dk_42 (dk_at dksX9_fewest_2 20 rfl rfl)
theorem dX9_fewest_68 : decode cX9_fewest 68 = .ok (.getfield 13, 3) := dk_180 0 13 (dk_at dksX9_fewest_2 21 rfl rfl)
theorem dX9_fewest_71 : decode cX9_fewest 71 = .ok (.iconst 4, 1) := dk_7 (dk_at dksX9_fewest_3 0 rfl rfl)
theorem dX9_fewest_72 : decode cX9_fewest 72 = .ok (.iload 4, 2) := dk_21 4 (dk_at dksX9_fewest_3 1 rfl rfl)
theorem dX9_fewest_74 : decode cX9_fewest 74 = .ok (.iastore, 1) := dk_79 (dk_at dksX9_fewest_3 3 rfl rfl)
theorem dX9_fewest_75 : decode cX9_fewest 75 = .ok (.aload_n 0, 1) := dk_42 (dk_at dksX9_fewest_3 4 rfl rfl)
theorem dX9_fewest_76 : decode cX9_fewest 76 = .ok (.iconst (-1), 1) := dk_2 (dk_at dksX9_fewest_3 5 rfl rfl)
theorem dX9_fewest_77 : decode cX9_fewest 77 = .ok (.iload_n 1, 1) := dk_27 (dk_at dksX9_fewest_3 6 rfl rfl)
theorem dX9_fewest_78 : decode cX9_fewest 78 = .ok (.invokevirtual 155, 3) := dk_182 0 155 (dk_at dksX9_fewest_3 7 rfl rfl)
theorem dX9_fewest_81 : decode cX9_fewest 81 = .ok (.ifCond .eq 6, 3) := dk_153 0 6 (dk_at dksX9_fewest_3 10 rfl rfl)
theorem dX9_fewest_84 : decode cX9_fewest 84 = .ok (.iload 4, 2) := dk_21 4 (dk_at dksX9_fewest_3 13 rfl rfl)
theorem dX9_fewest_86 : decode cX9_fewest 86 = .ok (.istore_n 3, 1) := dk_62 (dk_at dksX9_fewest_3 15 rfl rfl)
theorem dX9_fewest_87 : decode cX9_fewest 87 = .ok (.iinc 4 1, 3) := dk_132 4 1 (dk_at dksX9_fewest_3 16 rfl rfl)
theorem dX9_fewest_90 : decode cX9_fewest 90 = .ok (.goto (-66), 3) := dk_167 255 190 (dk_at dksX9_fewest_3 19 rfl rfl)
theorem dX9_fewest_93 : decode cX9_fewest 93 = .ok (.iload_n 3, 1) := dk_29 (dk_at dksX9_fewest_3 22 rfl rfl)
theorem dX9_fewest_94 : decode cX9_fewest 94 = .ok (.ireturn, 1) := dk_172 (dk_at dksX9_fewest_3 23 rfl rfl)
abbrev cX9_word : ByteArray := prog_24_method_57_code
def yX9_word : MethodName := ⟨RX9, "word", "(I)I"⟩
def dkwX9_word_4 : List UInt8 := [21, 5, 54, 4, 42, 180, 0, 13, 184, 0, 141, 62, 132, 5, 1, 167, 255, 185, 21, 4, 172]
abbrev dktX9_word_4 : List UInt8 := dkwX9_word_4 ++ []
def dkwX9_word_3 : List UInt8 := [4, 79, 42, 180, 0, 13, 27, 184, 0, 104, 42, 180, 0, 13, 184, 0, 141, 29, 161, 0, 6, 167, 0, 15]
abbrev dktX9_word_3 : List UInt8 := dkwX9_word_3 ++ dktX9_word_4
def dkwX9_word_2 : List UInt8 := [162, 0, 66, 42, 180, 0, 9, 42, 180, 0, 13, 184, 0, 110, 42, 180, 0, 13, 21, 5, 7, 184, 0, 52]
abbrev dktX9_word_2 : List UInt8 := dkwX9_word_2 ++ dktX9_word_3
def dkwX9_word_1 : List UInt8 := [180, 0, 13, 184, 0, 141, 62, 16, 247, 54, 4, 3, 54, 5, 21, 5, 42, 180, 0, 9, 3, 46]
abbrev dktX9_word_1 : List UInt8 := dkwX9_word_1 ++ dktX9_word_2
def dkwX9_word_0 : List UInt8 := [27, 4, 16, 24, 184, 0, 126, 61, 28, 153, 0, 9, 42, 28, 182, 0, 36, 172, 42, 27, 182, 0, 137, 42]
abbrev dktX9_word_0 : List UInt8 := dkwX9_word_0 ++ dktX9_word_1
theorem dksX9_word_0 : cX9_word.data.toList.drop 0 = dktX9_word_0 := by decide +kernel
theorem dksX9_word_1 : cX9_word.data.toList.drop 24 = dktX9_word_1 := dk_seg dksX9_word_0 24 rfl rfl
theorem dksX9_word_2 : cX9_word.data.toList.drop 46 = dktX9_word_2 := dk_seg dksX9_word_1 22 rfl rfl
theorem dksX9_word_3 : cX9_word.data.toList.drop 70 = dktX9_word_3 := dk_seg dksX9_word_2 24 rfl rfl
theorem dksX9_word_4 : cX9_word.data.toList.drop 94 = dktX9_word_4 := dk_seg dksX9_word_3 24 rfl rfl
theorem dX9_word_0 : decode cX9_word 0 = .ok (.iload_n 1, 1) := dk_27 (dk_at dksX9_word_0 0 rfl rfl)
theorem dX9_word_1 : decode cX9_word 1 = .ok (.iconst 1, 1) := dk_4 (dk_at dksX9_word_0 1 rfl rfl)
theorem dX9_word_2 : decode cX9_word 2 = .ok (.bipush 24, 2) := dk_16 24 (dk_at dksX9_word_0 2 rfl rfl)
theorem dX9_word_4 : decode cX9_word 4 = .ok (.invokestatic 126, 3) := dk_184 0 126 (dk_at dksX9_word_0 4 rfl rfl)
theorem dX9_word_7 : decode cX9_word 7 = .ok (.istore_n 2, 1) := dk_61 (dk_at dksX9_word_0 7 rfl rfl)
theorem dX9_word_8 : decode cX9_word 8 = .ok (.iload_n 2, 1) := dk_28 (dk_at dksX9_word_0 8 rfl rfl)
theorem dX9_word_9 : decode cX9_word 9 = .ok (.ifCond .eq 9, 3) := dk_153 0 9 (dk_at dksX9_word_0 9 rfl rfl)
theorem dX9_word_12 : decode cX9_word 12 = .ok (.aload_n 0, 1) := dk_42 (dk_at dksX9_word_0 12 rfl rfl)
theorem dX9_word_13 : decode cX9_word 13 = .ok (.iload_n 2, 1) := dk_28 (dk_at dksX9_word_0 13 rfl rfl)
theorem dX9_word_14 : decode cX9_word 14 = .ok (.invokevirtual 36, 3) := dk_182 0 36 (dk_at dksX9_word_0 14 rfl rfl)
theorem dX9_word_17 : decode cX9_word 17 = .ok (.ireturn, 1) := dk_172 (dk_at dksX9_word_0 17 rfl rfl)
theorem dX9_word_18 : decode cX9_word 18 = .ok (.aload_n 0, 1) := dk_42 (dk_at dksX9_word_0 18 rfl rfl)
theorem dX9_word_19 : decode cX9_word 19 = .ok (.iload_n 1, 1) := dk_27 (dk_at dksX9_word_0 19 rfl rfl)
theorem dX9_word_20 : decode cX9_word 20 = .ok (.invokevirtual 137, 3) := dk_182 0 137 (dk_at dksX9_word_0 20 rfl rfl)
theorem dX9_word_23 : decode cX9_word 23 = .ok (.aload_n 0, 1) := dk_42 (dk_at dksX9_word_0 23 rfl rfl)
theorem dX9_word_24 : decode cX9_word 24 = .ok (.getfield 13, 3) := dk_180 0 13 (dk_at dksX9_word_1 0 rfl rfl)
theorem dX9_word_27 : decode cX9_word 27 = .ok (.invokestatic 141, 3) := dk_184 0 141 (dk_at dksX9_word_1 3 rfl rfl)
theorem dX9_word_30 : decode cX9_word 30 = .ok (.istore_n 3, 1) := dk_62 (dk_at dksX9_word_1 6 rfl rfl)
theorem dX9_word_31 : decode cX9_word 31 = .ok (.bipush (-9), 2) := dk_16 247 (dk_at dksX9_word_1 7 rfl rfl)
theorem dX9_word_33 : decode cX9_word 33 = .ok (.istore 4, 2) := dk_54 4 (dk_at dksX9_word_1 9 rfl rfl)
theorem dX9_word_35 : decode cX9_word 35 = .ok (.iconst 0, 1) := dk_3 (dk_at dksX9_word_1 11 rfl rfl)
theorem dX9_word_36 : decode cX9_word 36 = .ok (.istore 5, 2) := dk_54 5 (dk_at dksX9_word_1 12 rfl rfl)
theorem dX9_word_38 : decode cX9_word 38 = .ok (.iload 5, 2) := dk_21 5 (dk_at dksX9_word_1 14 rfl rfl)
theorem dX9_word_40 : decode cX9_word 40 = .ok (.aload_n 0, 1) := dk_42 (dk_at dksX9_word_1 16 rfl rfl)
theorem dX9_word_41 : decode cX9_word 41 = .ok (.getfield 9, 3) := dk_180 0 9 (dk_at dksX9_word_1 17 rfl rfl)
theorem dX9_word_44 : decode cX9_word 44 = .ok (.iconst 0, 1) := dk_3 (dk_at dksX9_word_1 20 rfl rfl)
theorem dX9_word_45 : decode cX9_word 45 = .ok (.iaload, 1) := dk_46 (dk_at dksX9_word_1 21 rfl rfl)
theorem dX9_word_46 : decode cX9_word 46 = .ok (.if_icmp .ge 66, 3) := dk_162 0 66 (dk_at dksX9_word_2 0 rfl rfl)
theorem dX9_word_49 : decode cX9_word 49 = .ok (.aload_n 0, 1) := dk_42 (dk_at dksX9_word_2 3 rfl rfl)
theorem dX9_word_50 : decode cX9_word 50 = .ok (.getfield 9, 3) := dk_180 0 9 (dk_at dksX9_word_2 4 rfl rfl)
theorem dX9_word_53 : decode cX9_word 53 = .ok (.aload_n 0, 1) := dk_42 (dk_at dksX9_word_2 7 rfl rfl)
theorem dX9_word_54 : decode cX9_word 54 = .ok (.getfield 13, 3) := dk_180 0 13 (dk_at dksX9_word_2 8 rfl rfl)
theorem dX9_word_57 : decode cX9_word 57 = .ok (.invokestatic 110, 3) := dk_184 0 110 (dk_at dksX9_word_2 11 rfl rfl)
theorem dX9_word_60 : decode cX9_word 60 = .ok (.aload_n 0, 1) := dk_42 (dk_at dksX9_word_2 14 rfl rfl)
theorem dX9_word_61 : decode cX9_word 61 = .ok (.getfield 13, 3) := dk_180 0 13 (dk_at dksX9_word_2 15 rfl rfl)
theorem dX9_word_64 : decode cX9_word 64 = .ok (.iload 5, 2) := dk_21 5 (dk_at dksX9_word_2 18 rfl rfl)
theorem dX9_word_66 : decode cX9_word 66 = .ok (.iconst 4, 1) := dk_7 (dk_at dksX9_word_2 20 rfl rfl)
theorem dX9_word_67 : decode cX9_word 67 = .ok (.invokestatic 52, 3) := dk_184 0 52 (dk_at dksX9_word_2 21 rfl rfl)
theorem dX9_word_70 : decode cX9_word 70 = .ok (.iconst 1, 1) := dk_4 (dk_at dksX9_word_3 0 rfl rfl)
theorem dX9_word_71 : decode cX9_word 71 = .ok (.iastore, 1) := dk_79 (dk_at dksX9_word_3 1 rfl rfl)
theorem dX9_word_72 : decode cX9_word 72 = .ok (.aload_n 0, 1) := dk_42 (dk_at dksX9_word_3 2 rfl rfl)
theorem dX9_word_73 : decode cX9_word 73 = .ok (.getfield 13, 3) := dk_180 0 13 (dk_at dksX9_word_3 3 rfl rfl)
theorem dX9_word_76 : decode cX9_word 76 = .ok (.iload_n 1, 1) := dk_27 (dk_at dksX9_word_3 6 rfl rfl)
theorem dX9_word_77 : decode cX9_word 77 = .ok (.invokestatic 104, 3) := dk_184 0 104 (dk_at dksX9_word_3 7 rfl rfl)
theorem dX9_word_80 : decode cX9_word 80 = .ok (.aload_n 0, 1) := dk_42 (dk_at dksX9_word_3 10 rfl rfl)
theorem dX9_word_81 : decode cX9_word 81 = .ok (.getfield 13, 3) := dk_180 0 13 (dk_at dksX9_word_3 11 rfl rfl)
theorem dX9_word_84 : decode cX9_word 84 = .ok (.invokestatic 141, 3) := dk_184 0 141 (dk_at dksX9_word_3 14 rfl rfl)
theorem dX9_word_87 : decode cX9_word 87 = .ok (.iload_n 3, 1) := dk_29 (dk_at dksX9_word_3 17 rfl rfl)
theorem dX9_word_88 : decode cX9_word 88 = .ok (.if_icmp .lt 6, 3) := dk_161 0 6 (dk_at dksX9_word_3 18 rfl rfl)
theorem dX9_word_91 : decode cX9_word 91 = .ok (.goto 15, 3) := dk_167 0 15 (dk_at dksX9_word_3 21 rfl rfl)
theorem dX9_word_94 : decode cX9_word 94 = .ok (.iload 5, 2) := dk_21 5 (dk_at dksX9_word_4 0 rfl rfl)
theorem dX9_word_96 : decode cX9_word 96 = .ok (.istore 4, 2) := dk_54 4 (dk_at dksX9_word_4 2 rfl rfl)
theorem dX9_word_98 : decode cX9_word 98 = .ok (.aload_n 0, 1) := dk_42 (dk_at dksX9_word_4 4 rfl rfl)
theorem dX9_word_99 : decode cX9_word 99 = .ok (.getfield 13, 3) := dk_180 0 13 (dk_at dksX9_word_4 5 rfl rfl)
theorem dX9_word_102 : decode cX9_word 102 = .ok (.invokestatic 141, 3) := dk_184 0 141 (dk_at dksX9_word_4 8 rfl rfl)
theorem dX9_word_105 : decode cX9_word 105 = .ok (.istore_n 3, 1) := dk_62 (dk_at dksX9_word_4 11 rfl rfl)
theorem dX9_word_106 : decode cX9_word 106 = .ok (.iinc 5 1, 3) := dk_132 5 1 (dk_at dksX9_word_4 12 rfl rfl)
theorem dX9_word_109 : decode cX9_word 109 = .ok (.goto (-71), 3) := dk_167 255 185 (dk_at dksX9_word_4 15 rfl rfl)
theorem dX9_word_112 : decode cX9_word 112 = .ok (.iload 4, 2) := dk_21 4 (dk_at dksX9_word_4 18 rfl rfl)
theorem dX9_word_114 : decode cX9_word 114 = .ok (.ireturn, 1) := dk_172 (dk_at dksX9_word_4 20 rfl rfl)
abbrev cX9_send : ByteArray := prog_24_method_58_code
def yX9_send : MethodName := ⟨RX9, "send", "(II)I"⟩
def dkwX9_send_7 : List UInt8 := [132, 6, 1, 167, 255, 132, 21, 4, 155, 0, 7, 28, 154, 0, 8, 21, 4, 167, 0, 5, 21, 5, 172]
abbrev dktX9_send_7 : List UInt8 := dkwX9_send_7 ++ []
def dkwX9_send_6 : List UInt8 := [126, 184, 0, 120, 54, 7, 21, 7, 21, 5, 163, 0, 6, 167, 0, 11, 21, 6, 54, 4, 21, 7, 54, 5]
abbrev dktX9_send_6 : List UInt8 := dkwX9_send_6 ++ dktX9_send_7
def dkwX9_send_5 : List UInt8 := [180, 0, 9, 3, 46, 120, 4, 100, 4, 21, 6, 120, 2, 130, 126, 42, 180, 0, 13, 184, 0, 152, 2, 130]
abbrev dktX9_send_5 : List UInt8 := dkwX9_send_5 ++ dktX9_send_6
def dkwX9_send_4 : List UInt8 := [42, 180, 0, 13, 21, 6, 6, 184, 0, 52, 3, 79, 42, 180, 0, 13, 27, 184, 0, 104, 4, 42]
abbrev dktX9_send_4 : List UInt8 := dkwX9_send_4 ++ dktX9_send_5
def dkwX9_send_3 : List UInt8 := [16, 99, 42, 180, 0, 13, 5, 46, 42, 180, 0, 13, 21, 6, 6, 184, 0, 52, 46, 96, 184, 0, 44, 79]
abbrev dktX9_send_3 : List UInt8 := dkwX9_send_3 ++ dktX9_send_4
def dkwX9_send_2 : List UInt8 := [180, 0, 9, 3, 46, 162, 0, 119, 42, 180, 0, 9, 42, 180, 0, 13, 184, 0, 110, 42, 180, 0, 13, 5]
abbrev dktX9_send_2 : List UInt8 := dkwX9_send_2 ++ dktX9_send_3
def dkwX9_send_1 : List UInt8 := [29, 153, 0, 9, 42, 29, 182, 0, 36, 172, 16, 247, 54, 4, 2, 54, 5, 3, 54, 6, 21, 6, 42]
abbrev dktX9_send_1 : List UInt8 := dkwX9_send_1 ++ dktX9_send_2
def dkwX9_send_0 : List UInt8 := [27, 3, 16, 24, 184, 0, 126, 62, 29, 154, 0, 15, 28, 3, 4, 184, 0, 40, 154, 0, 6, 16, 254, 62]
abbrev dktX9_send_0 : List UInt8 := dkwX9_send_0 ++ dktX9_send_1
theorem dksX9_send_0 : cX9_send.data.toList.drop 0 = dktX9_send_0 := by decide +kernel
theorem dksX9_send_1 : cX9_send.data.toList.drop 24 = dktX9_send_1 := dk_seg dksX9_send_0 24 rfl rfl
theorem dksX9_send_2 : cX9_send.data.toList.drop 47 = dktX9_send_2 := dk_seg dksX9_send_1 23 rfl rfl
theorem dksX9_send_3 : cX9_send.data.toList.drop 71 = dktX9_send_3 := dk_seg dksX9_send_2 24 rfl rfl
theorem dksX9_send_4 : cX9_send.data.toList.drop 95 = dktX9_send_4 := dk_seg dksX9_send_3 24 rfl rfl
theorem dksX9_send_5 : cX9_send.data.toList.drop 117 = dktX9_send_5 := dk_seg dksX9_send_4 22 rfl rfl
theorem dksX9_send_6 : cX9_send.data.toList.drop 141 = dktX9_send_6 := dk_seg dksX9_send_5 24 rfl rfl
theorem dksX9_send_7 : cX9_send.data.toList.drop 165 = dktX9_send_7 := dk_seg dksX9_send_6 24 rfl rfl
theorem dX9_send_0 : decode cX9_send 0 = .ok (.iload_n 1, 1) := dk_27 (dk_at dksX9_send_0 0 rfl rfl)
theorem dX9_send_1 : decode cX9_send 1 = .ok (.iconst 0, 1) := dk_3 (dk_at dksX9_send_0 1 rfl rfl)
theorem dX9_send_2 : decode cX9_send 2 = .ok (.bipush 24, 2) := dk_16 24 (dk_at dksX9_send_0 2 rfl rfl)
theorem dX9_send_4 : decode cX9_send 4 = .ok (.invokestatic 126, 3) := dk_184 0 126 (dk_at dksX9_send_0 4 rfl rfl)
theorem dX9_send_7 : decode cX9_send 7 = .ok (.istore_n 3, 1) := dk_62 (dk_at dksX9_send_0 7 rfl rfl)
theorem dX9_send_8 : decode cX9_send 8 = .ok (.iload_n 3, 1) := dk_29 (dk_at dksX9_send_0 8 rfl rfl)
theorem dX9_send_9 : decode cX9_send 9 = .ok (.ifCond .ne 15, 3) := dk_154 0 15 (dk_at dksX9_send_0 9 rfl rfl)
theorem dX9_send_12 : decode cX9_send 12 = .ok (.iload_n 2, 1) := dk_28 (dk_at dksX9_send_0 12 rfl rfl)
theorem dX9_send_13 : decode cX9_send 13 = .ok (.iconst 0, 1) := dk_3 (dk_at dksX9_send_0 13 rfl rfl)
theorem dX9_send_14 : decode cX9_send 14 = .ok (.iconst 1, 1) := dk_4 (dk_at dksX9_send_0 14 rfl rfl)
theorem dX9_send_15 : decode cX9_send 15 = .ok (.invokestatic 40, 3) := dk_184 0 40 (dk_at dksX9_send_0 15 rfl rfl)
theorem dX9_send_18 : decode cX9_send 18 = .ok (.ifCond .ne 6, 3) := dk_154 0 6 (dk_at dksX9_send_0 18 rfl rfl)
theorem dX9_send_21 : decode cX9_send 21 = .ok (.bipush (-2), 2) := dk_16 254 (dk_at dksX9_send_0 21 rfl rfl)
theorem dX9_send_23 : decode cX9_send 23 = .ok (.istore_n 3, 1) := dk_62 (dk_at dksX9_send_0 23 rfl rfl)
theorem dX9_send_24 : decode cX9_send 24 = .ok (.iload_n 3, 1) := dk_29 (dk_at dksX9_send_1 0 rfl rfl)
theorem dX9_send_25 : decode cX9_send 25 = .ok (.ifCond .eq 9, 3) := dk_153 0 9 (dk_at dksX9_send_1 1 rfl rfl)
theorem dX9_send_28 : decode cX9_send 28 = .ok (.aload_n 0, 1) := dk_42 (dk_at dksX9_send_1 4 rfl rfl)
theorem dX9_send_29 : decode cX9_send 29 = .ok (.iload_n 3, 1) := dk_29 (dk_at dksX9_send_1 5 rfl rfl)
theorem dX9_send_30 : decode cX9_send 30 = .ok (.invokevirtual 36, 3) := dk_182 0 36 (dk_at dksX9_send_1 6 rfl rfl)
theorem dX9_send_33 : decode cX9_send 33 = .ok (.ireturn, 1) := dk_172 (dk_at dksX9_send_1 9 rfl rfl)
theorem dX9_send_34 : decode cX9_send 34 = .ok (.bipush (-9), 2) := dk_16 247 (dk_at dksX9_send_1 10 rfl rfl)
theorem dX9_send_36 : decode cX9_send 36 = .ok (.istore 4, 2) := dk_54 4 (dk_at dksX9_send_1 12 rfl rfl)
theorem dX9_send_38 : decode cX9_send 38 = .ok (.iconst (-1), 1) := dk_2 (dk_at dksX9_send_1 14 rfl rfl)
theorem dX9_send_39 : decode cX9_send 39 = .ok (.istore 5, 2) := dk_54 5 (dk_at dksX9_send_1 15 rfl rfl)
theorem dX9_send_41 : decode cX9_send 41 = .ok (.iconst 0, 1) := dk_3 (dk_at dksX9_send_1 17 rfl rfl)
theorem dX9_send_42 : decode cX9_send 42 = .ok (.istore 6, 2) := dk_54 6 (dk_at dksX9_send_1 18 rfl rfl)
theorem dX9_send_44 : decode cX9_send 44 = .ok (.iload 6, 2) := dk_21 6 (dk_at dksX9_send_1 20 rfl rfl)
theorem dX9_send_46 : decode cX9_send 46 = .ok (.aload_n 0, 1) := dk_42 (dk_at dksX9_send_1 22 rfl rfl)
theorem dX9_send_47 : decode cX9_send 47 = .ok (.getfield 9, 3) := dk_180 0 9 (dk_at dksX9_send_2 0 rfl rfl)
theorem dX9_send_50 : decode cX9_send 50 = .ok (.iconst 0, 1) := dk_3 (dk_at dksX9_send_2 3 rfl rfl)
theorem dX9_send_51 : decode cX9_send 51 = .ok (.iaload, 1) := dk_46 (dk_at dksX9_send_2 4 rfl rfl)
theorem dX9_send_52 : decode cX9_send 52 = .ok (.if_icmp .ge 119, 3) := dk_162 0 119 (dk_at dksX9_send_2 5 rfl rfl)
theorem dX9_send_55 : decode cX9_send 55 = .ok (.aload_n 0, 1) := dk_42 (dk_at dksX9_send_2 8 rfl rfl)
theorem dX9_send_56 : decode cX9_send 56 = .ok (.getfield 9, 3) := dk_180 0 9 (dk_at dksX9_send_2 9 rfl rfl)
theorem dX9_send_59 : decode cX9_send 59 = .ok (.aload_n 0, 1) := dk_42 (dk_at dksX9_send_2 12 rfl rfl)
theorem dX9_send_60 : decode cX9_send 60 = .ok (.getfield 13, 3) := dk_180 0 13 (dk_at dksX9_send_2 13 rfl rfl)
theorem dX9_send_63 : decode cX9_send 63 = .ok (.invokestatic 110, 3) := dk_184 0 110 (dk_at dksX9_send_2 16 rfl rfl)
theorem dX9_send_66 : decode cX9_send 66 = .ok (.aload_n 0, 1) := dk_42 (dk_at dksX9_send_2 19 rfl rfl)
theorem dX9_send_67 : decode cX9_send 67 = .ok (.getfield 13, 3) := dk_180 0 13 (dk_at dksX9_send_2 20 rfl rfl)
theorem dX9_send_70 : decode cX9_send 70 = .ok (.iconst 2, 1) := dk_5 (dk_at dksX9_send_2 23 rfl rfl)
theorem dX9_send_71 : decode cX9_send 71 = .ok (.bipush 99, 2) := dk_16 99 (dk_at dksX9_send_3 0 rfl rfl)
theorem dX9_send_73 : decode cX9_send 73 = .ok (.aload_n 0, 1) := dk_42 (dk_at dksX9_send_3 2 rfl rfl)
theorem dX9_send_74 : decode cX9_send 74 = .ok (.getfield 13, 3) := dk_180 0 13 (dk_at dksX9_send_3 3 rfl rfl)
theorem dX9_send_77 : decode cX9_send 77 = .ok (.iconst 2, 1) := dk_5 (dk_at dksX9_send_3 6 rfl rfl)
theorem dX9_send_78 : decode cX9_send 78 = .ok (.iaload, 1) := dk_46 (dk_at dksX9_send_3 7 rfl rfl)
theorem dX9_send_79 : decode cX9_send 79 = .ok (.aload_n 0, 1) := dk_42 (dk_at dksX9_send_3 8 rfl rfl)
theorem dX9_send_80 : decode cX9_send 80 = .ok (.getfield 13, 3) := dk_180 0 13 (dk_at dksX9_send_3 9 rfl rfl)
theorem dX9_send_83 : decode cX9_send 83 = .ok (.iload 6, 2) := dk_21 6 (dk_at dksX9_send_3 12 rfl rfl)
theorem dX9_send_85 : decode cX9_send 85 = .ok (.iconst 3, 1) := dk_6 (dk_at dksX9_send_3 14 rfl rfl)
theorem dX9_send_86 : decode cX9_send 86 = .ok (.invokestatic 52, 3) := dk_184 0 52 (dk_at dksX9_send_3 15 rfl rfl)
theorem dX9_send_89 : decode cX9_send 89 = .ok (.iaload, 1) := dk_46 (dk_at dksX9_send_3 18 rfl rfl)
theorem dX9_send_90 : decode cX9_send 90 = .ok (.iadd, 1) := dk_96 (dk_at dksX9_send_3 19 rfl rfl)
theorem dX9_send_91 : decode cX9_send 91 = .ok (.invokestatic 44, 3) := dk_184 0 44 (dk_at dksX9_send_3 20 rfl rfl)
theorem dX9_send_94 : decode cX9_send 94 = .ok (.iastore, 1) := dk_79 (dk_at dksX9_send_3 23 rfl rfl)
theorem dX9_send_95 : decode cX9_send 95 = .ok (.aload_n 0, 1) := dk_42 (dk_at dksX9_send_4 0 rfl rfl)
theorem dX9_send_96 : decode cX9_send 96 = .ok (.getfield 13, 3) := dk_180 0 13 (dk_at dksX9_send_4 1 rfl rfl)
theorem dX9_send_99 : decode cX9_send 99 = .ok (.iload 6, 2) := dk_21 6 (dk_at dksX9_send_4 4 rfl rfl)
theorem dX9_send_101 : decode cX9_send 101 = .ok (.iconst 3, 1) := dk_6 (dk_at dksX9_send_4 6 rfl rfl)
theorem dX9_send_102 : decode cX9_send 102 = .ok (.invokestatic 52, 3) := dk_184 0 52 (dk_at dksX9_send_4 7 rfl rfl)
theorem dX9_send_105 : decode cX9_send 105 = .ok (.iconst 0, 1) := dk_3 (dk_at dksX9_send_4 10 rfl rfl)
theorem dX9_send_106 : decode cX9_send 106 = .ok (.iastore, 1) := dk_79 (dk_at dksX9_send_4 11 rfl rfl)
theorem dX9_send_107 : decode cX9_send 107 = .ok (.aload_n 0, 1) := dk_42 (dk_at dksX9_send_4 12 rfl rfl)
theorem dX9_send_108 : decode cX9_send 108 = .ok (.getfield 13, 3) := dk_180 0 13 (dk_at dksX9_send_4 13 rfl rfl)
theorem dX9_send_111 : decode cX9_send 111 = .ok (.iload_n 1, 1) := dk_27 (dk_at dksX9_send_4 16 rfl rfl)
theorem dX9_send_112 : decode cX9_send 112 = .ok (.invokestatic 104, 3) := dk_184 0 104 (dk_at dksX9_send_4 17 rfl rfl)
theorem dX9_send_115 : decode cX9_send 115 = .ok (.iconst 1, 1) := dk_4 (dk_at dksX9_send_4 20 rfl rfl)
theorem dX9_send_116 : decode cX9_send 116 = .ok (.aload_n 0, 1) := dk_42 (dk_at dksX9_send_4 21 rfl rfl)
theorem dX9_send_117 : decode cX9_send 117 = .ok (.getfield 9, 3) := dk_180 0 9 (dk_at dksX9_send_5 0 rfl rfl)
theorem dX9_send_120 : decode cX9_send 120 = .ok (.iconst 0, 1) := dk_3 (dk_at dksX9_send_5 3 rfl rfl)
theorem dX9_send_121 : decode cX9_send 121 = .ok (.iaload, 1) := dk_46 (dk_at dksX9_send_5 4 rfl rfl)
theorem dX9_send_122 : decode cX9_send 122 = .ok (.ishl, 1) := dk_120 (dk_at dksX9_send_5 5 rfl rfl)
theorem dX9_send_123 : decode cX9_send 123 = .ok (.iconst 1, 1) := dk_4 (dk_at dksX9_send_5 6 rfl rfl)
theorem dX9_send_124 : decode cX9_send 124 = .ok (.isub, 1) := dk_100 (dk_at dksX9_send_5 7 rfl rfl)
theorem dX9_send_125 : decode cX9_send 125 = .ok (.iconst 1, 1) := dk_4 (dk_at dksX9_send_5 8 rfl rfl)
theorem dX9_send_126 : decode cX9_send 126 = .ok (.iload 6, 2) := dk_21 6 (dk_at dksX9_send_5 9 rfl rfl)
theorem dX9_send_128 : decode cX9_send 128 = .ok (.ishl, 1) := dk_120 (dk_at dksX9_send_5 11 rfl rfl)
theorem dX9_send_129 : decode cX9_send 129 = .ok (.iconst (-1), 1) := dk_2 (dk_at dksX9_send_5 12 rfl rfl)
theorem dX9_send_130 : decode cX9_send 130 = .ok (.ixor, 1) := dk_130 (dk_at dksX9_send_5 13 rfl rfl)
theorem dX9_send_131 : decode cX9_send 131 = .ok (.iand, 1) := dk_126 (dk_at dksX9_send_5 14 rfl rfl)
theorem dX9_send_132 : decode cX9_send 132 = .ok (.aload_n 0, 1) := dk_42 (dk_at dksX9_send_5 15 rfl rfl)
theorem dX9_send_133 : decode cX9_send 133 = .ok (.getfield 13, 3) := dk_180 0 13 (dk_at dksX9_send_5 16 rfl rfl)
theorem dX9_send_136 : decode cX9_send 136 = .ok (.invokestatic 152, 3) := dk_184 0 152 (dk_at dksX9_send_5 19 rfl rfl)
theorem dX9_send_139 : decode cX9_send 139 = .ok (.iconst (-1), 1) := dk_2 (dk_at dksX9_send_5 22 rfl rfl)
theorem dX9_send_140 : decode cX9_send 140 = .ok (.ixor, 1) := dk_130 (dk_at dksX9_send_5 23 rfl rfl)
theorem dX9_send_141 : decode cX9_send 141 = .ok (.iand, 1) := dk_126 (dk_at dksX9_send_6 0 rfl rfl)
theorem dX9_send_142 : decode cX9_send 142 = .ok (.invokestatic 120, 3) := dk_184 0 120 (dk_at dksX9_send_6 1 rfl rfl)
theorem dX9_send_145 : decode cX9_send 145 = .ok (.istore 7, 2) := dk_54 7 (dk_at dksX9_send_6 4 rfl rfl)
theorem dX9_send_147 : decode cX9_send 147 = .ok (.iload 7, 2) := dk_21 7 (dk_at dksX9_send_6 6 rfl rfl)
theorem dX9_send_149 : decode cX9_send 149 = .ok (.iload 5, 2) := dk_21 5 (dk_at dksX9_send_6 8 rfl rfl)
theorem dX9_send_151 : decode cX9_send 151 = .ok (.if_icmp .gt 6, 3) := dk_163 0 6 (dk_at dksX9_send_6 10 rfl rfl)
theorem dX9_send_154 : decode cX9_send 154 = .ok (.goto 11, 3) := dk_167 0 11 (dk_at dksX9_send_6 13 rfl rfl)
theorem dX9_send_157 : decode cX9_send 157 = .ok (.iload 6, 2) := dk_21 6 (dk_at dksX9_send_6 16 rfl rfl)
theorem dX9_send_159 : decode cX9_send 159 = .ok (.istore 4, 2) := dk_54 4 (dk_at dksX9_send_6 18 rfl rfl)
theorem dX9_send_161 : decode cX9_send 161 = .ok (.iload 7, 2) := dk_21 7 (dk_at dksX9_send_6 20 rfl rfl)
theorem dX9_send_163 : decode cX9_send 163 = .ok (.istore 5, 2) := dk_54 5 (dk_at dksX9_send_6 22 rfl rfl)
theorem dX9_send_165 : decode cX9_send 165 = .ok (.iinc 6 1, 3) := dk_132 6 1 (dk_at dksX9_send_7 0 rfl rfl)
theorem dX9_send_168 : decode cX9_send 168 = .ok (.goto (-124), 3) := dk_167 255 132 (dk_at dksX9_send_7 3 rfl rfl)
theorem dX9_send_171 : decode cX9_send 171 = .ok (.iload 4, 2) := dk_21 4 (dk_at dksX9_send_7 6 rfl rfl)
theorem dX9_send_173 : decode cX9_send 173 = .ok (.ifCond .lt 7, 3) := dk_155 0 7 (dk_at dksX9_send_7 8 rfl rfl)
theorem dX9_send_176 : decode cX9_send 176 = .ok (.iload_n 2, 1) := dk_28 (dk_at dksX9_send_7 11 rfl rfl)
theorem dX9_send_177 : decode cX9_send 177 = .ok (.ifCond .ne 8, 3) := dk_154 0 8 (dk_at dksX9_send_7 12 rfl rfl)
theorem dX9_send_180 : decode cX9_send 180 = .ok (.iload 4, 2) := dk_21 4 (dk_at dksX9_send_7 15 rfl rfl)
theorem dX9_send_182 : decode cX9_send 182 = .ok (.goto 5, 3) := dk_167 0 5 (dk_at dksX9_send_7 17 rfl rfl)
theorem dX9_send_185 : decode cX9_send 185 = .ok (.iload 5, 2) := dk_21 5 (dk_at dksX9_send_7 20 rfl rfl)
theorem dX9_send_187 : decode cX9_send 187 = .ok (.ireturn, 1) := dk_172 (dk_at dksX9_send_7 22 rfl rfl)
abbrev cX9_next : ByteArray := prog_24_method_59_code
def yX9_next : MethodName := ⟨RX9, "next", "()I"⟩
def dkwX9_next_1 : List UInt8 := [60, 42, 4, 182, 0, 137, 42, 180, 0, 13, 8, 184, 0, 117, 27, 2, 130, 126, 172]
abbrev dktX9_next_1 : List UInt8 := dkwX9_next_1 ++ []
def dkwX9_next_0 : List UInt8 := [42, 180, 0, 9, 4, 46, 16, 12, 112, 154, 0, 7, 3, 167, 0, 11, 42, 180, 0, 9, 8, 184, 0, 117]
abbrev dktX9_next_0 : List UInt8 := dkwX9_next_0 ++ dktX9_next_1
theorem dksX9_next_0 : cX9_next.data.toList.drop 0 = dktX9_next_0 := by decide +kernel
theorem dksX9_next_1 : cX9_next.data.toList.drop 24 = dktX9_next_1 := dk_seg dksX9_next_0 24 rfl rfl
theorem dX9_next_0 : decode cX9_next 0 = .ok (.aload_n 0, 1) := dk_42 (dk_at dksX9_next_0 0 rfl rfl)
theorem dX9_next_1 : decode cX9_next 1 = .ok (.getfield 9, 3) := dk_180 0 9 (dk_at dksX9_next_0 1 rfl rfl)
theorem dX9_next_4 : decode cX9_next 4 = .ok (.iconst 1, 1) := dk_4 (dk_at dksX9_next_0 4 rfl rfl)
theorem dX9_next_5 : decode cX9_next 5 = .ok (.iaload, 1) := dk_46 (dk_at dksX9_next_0 5 rfl rfl)
theorem dX9_next_6 : decode cX9_next 6 = .ok (.bipush 12, 2) := dk_16 12 (dk_at dksX9_next_0 6 rfl rfl)
theorem dX9_next_8 : decode cX9_next 8 = .ok (.irem, 1) := dk_112 (dk_at dksX9_next_0 8 rfl rfl)
theorem dX9_next_9 : decode cX9_next 9 = .ok (.ifCond .ne 7, 3) := dk_154 0 7 (dk_at dksX9_next_0 9 rfl rfl)
theorem dX9_next_12 : decode cX9_next 12 = .ok (.iconst 0, 1) := dk_3 (dk_at dksX9_next_0 12 rfl rfl)
theorem dX9_next_13 : decode cX9_next 13 = .ok (.goto 11, 3) := dk_167 0 11 (dk_at dksX9_next_0 13 rfl rfl)
theorem dX9_next_16 : decode cX9_next 16 = .ok (.aload_n 0, 1) := dk_42 (dk_at dksX9_next_0 16 rfl rfl)
theorem dX9_next_17 : decode cX9_next 17 = .ok (.getfield 9, 3) := dk_180 0 9 (dk_at dksX9_next_0 17 rfl rfl)
theorem dX9_next_20 : decode cX9_next 20 = .ok (.iconst 5, 1) := dk_8 (dk_at dksX9_next_0 20 rfl rfl)
theorem dX9_next_21 : decode cX9_next 21 = .ok (.invokestatic 117, 3) := dk_184 0 117 (dk_at dksX9_next_0 21 rfl rfl)
theorem dX9_next_24 : decode cX9_next 24 = .ok (.istore_n 1, 1) := dk_60 (dk_at dksX9_next_1 0 rfl rfl)
theorem dX9_next_25 : decode cX9_next 25 = .ok (.aload_n 0, 1) := dk_42 (dk_at dksX9_next_1 1 rfl rfl)
theorem dX9_next_26 : decode cX9_next 26 = .ok (.iconst 1, 1) := dk_4 (dk_at dksX9_next_1 2 rfl rfl)
theorem dX9_next_27 : decode cX9_next 27 = .ok (.invokevirtual 137, 3) := dk_182 0 137 (dk_at dksX9_next_1 3 rfl rfl)
theorem dX9_next_30 : decode cX9_next 30 = .ok (.aload_n 0, 1) := dk_42 (dk_at dksX9_next_1 6 rfl rfl)
theorem dX9_next_31 : decode cX9_next 31 = .ok (.getfield 13, 3) := dk_180 0 13 (dk_at dksX9_next_1 7 rfl rfl)
theorem dX9_next_34 : decode cX9_next 34 = .ok (.iconst 5, 1) := dk_8 (dk_at dksX9_next_1 10 rfl rfl)
theorem dX9_next_35 : decode cX9_next 35 = .ok (.invokestatic 117, 3) := dk_184 0 117 (dk_at dksX9_next_1 11 rfl rfl)
theorem dX9_next_38 : decode cX9_next 38 = .ok (.iload_n 1, 1) := dk_27 (dk_at dksX9_next_1 14 rfl rfl)
theorem dX9_next_39 : decode cX9_next 39 = .ok (.iconst (-1), 1) := dk_2 (dk_at dksX9_next_1 15 rfl rfl)
theorem dX9_next_40 : decode cX9_next 40 = .ok (.ixor, 1) := dk_130 (dk_at dksX9_next_1 16 rfl rfl)
theorem dX9_next_41 : decode cX9_next 41 = .ok (.iand, 1) := dk_126 (dk_at dksX9_next_1 17 rfl rfl)
theorem dX9_next_42 : decode cX9_next 42 = .ok (.ireturn, 1) := dk_172 (dk_at dksX9_next_1 18 rfl rfl)
abbrev cX9_richest : ByteArray := prog_24_method_61_code
def yX9_richest : MethodName := ⟨RX9, "richest", "(I)I"⟩
def dkwX9_richest_1 : List UInt8 := [167, 0, 23, 27, 5, 160, 0, 12, 42, 4, 4, 182, 0, 161, 167, 0, 9, 42, 16, 254, 182, 0, 36, 172]
abbrev dktX9_richest_1 : List UInt8 := dkwX9_richest_1 ++ []
def dkwX9_richest_0 : List UInt8 := [27, 154, 0, 12, 42, 4, 3, 182, 0, 161, 167, 0, 37, 27, 4, 160, 0, 12, 42, 2, 3, 182, 0, 161]
abbrev dktX9_richest_0 : List UInt8 := dkwX9_richest_0 ++ dktX9_richest_1
theorem dksX9_richest_0 : cX9_richest.data.toList.drop 0 = dktX9_richest_0 := by decide +kernel
theorem dksX9_richest_1 : cX9_richest.data.toList.drop 24 = dktX9_richest_1 := dk_seg dksX9_richest_0 24 rfl rfl
theorem dX9_richest_0 : decode cX9_richest 0 = .ok (.iload_n 1, 1) := dk_27 (dk_at dksX9_richest_0 0 rfl rfl)
theorem dX9_richest_1 : decode cX9_richest 1 = .ok (.ifCond .ne 12, 3) := dk_154 0 12 (dk_at dksX9_richest_0 1 rfl rfl)
theorem dX9_richest_4 : decode cX9_richest 4 = .ok (.aload_n 0, 1) := dk_42 (dk_at dksX9_richest_0 4 rfl rfl)
theorem dX9_richest_5 : decode cX9_richest 5 = .ok (.iconst 1, 1) := dk_4 (dk_at dksX9_richest_0 5 rfl rfl)
theorem dX9_richest_6 : decode cX9_richest 6 = .ok (.iconst 0, 1) := dk_3 (dk_at dksX9_richest_0 6 rfl rfl)
theorem dX9_richest_7 : decode cX9_richest 7 = .ok (.invokevirtual 161, 3) := dk_182 0 161 (dk_at dksX9_richest_0 7 rfl rfl)
theorem dX9_richest_10 : decode cX9_richest 10 = .ok (.goto 37, 3) := dk_167 0 37 (dk_at dksX9_richest_0 10 rfl rfl)
theorem dX9_richest_13 : decode cX9_richest 13 = .ok (.iload_n 1, 1) := dk_27 (dk_at dksX9_richest_0 13 rfl rfl)
theorem dX9_richest_14 : decode cX9_richest 14 = .ok (.iconst 1, 1) := dk_4 (dk_at dksX9_richest_0 14 rfl rfl)
theorem dX9_richest_15 : decode cX9_richest 15 = .ok (.if_icmp .ne 12, 3) := dk_160 0 12 (dk_at dksX9_richest_0 15 rfl rfl)
theorem dX9_richest_18 : decode cX9_richest 18 = .ok (.aload_n 0, 1) := dk_42 (dk_at dksX9_richest_0 18 rfl rfl)
theorem dX9_richest_19 : decode cX9_richest 19 = .ok (.iconst (-1), 1) := dk_2 (dk_at dksX9_richest_0 19 rfl rfl)
theorem dX9_richest_20 : decode cX9_richest 20 = .ok (.iconst 0, 1) := dk_3 (dk_at dksX9_richest_0 20 rfl rfl)
theorem dX9_richest_21 : decode cX9_richest 21 = .ok (.invokevirtual 161, 3) := dk_182 0 161 (dk_at dksX9_richest_0 21 rfl rfl)
theorem dX9_richest_24 : decode cX9_richest 24 = .ok (.goto 23, 3) := dk_167 0 23 (dk_at dksX9_richest_1 0 rfl rfl)
theorem dX9_richest_27 : decode cX9_richest 27 = .ok (.iload_n 1, 1) := dk_27 (dk_at dksX9_richest_1 3 rfl rfl)
theorem dX9_richest_28 : decode cX9_richest 28 = .ok (.iconst 2, 1) := dk_5 (dk_at dksX9_richest_1 4 rfl rfl)
theorem dX9_richest_29 : decode cX9_richest 29 = .ok (.if_icmp .ne 12, 3) := dk_160 0 12 (dk_at dksX9_richest_1 5 rfl rfl)
theorem dX9_richest_32 : decode cX9_richest 32 = .ok (.aload_n 0, 1) := dk_42 (dk_at dksX9_richest_1 8 rfl rfl)
theorem dX9_richest_33 : decode cX9_richest 33 = .ok (.iconst 1, 1) := dk_4 (dk_at dksX9_richest_1 9 rfl rfl)
theorem dX9_richest_34 : decode cX9_richest 34 = .ok (.iconst 1, 1) := dk_4 (dk_at dksX9_richest_1 10 rfl rfl)
theorem dX9_richest_35 : decode cX9_richest 35 = .ok (.invokevirtual 161, 3) := dk_182 0 161 (dk_at dksX9_richest_1 11 rfl rfl)
theorem dX9_richest_38 : decode cX9_richest 38 = .ok (.goto 9, 3) := dk_167 0 9 (dk_at dksX9_richest_1 14 rfl rfl)
theorem dX9_richest_41 : decode cX9_richest 41 = .ok (.aload_n 0, 1) := dk_42 (dk_at dksX9_richest_1 17 rfl rfl)
theorem dX9_richest_42 : decode cX9_richest 42 = .ok (.bipush (-2), 2) := dk_16 254 (dk_at dksX9_richest_1 18 rfl rfl)
theorem dX9_richest_44 : decode cX9_richest 44 = .ok (.invokevirtual 36, 3) := dk_182 0 36 (dk_at dksX9_richest_1 20 rfl rfl)
theorem dX9_richest_47 : decode cX9_richest 47 = .ok (.ireturn, 1) := dk_172 (dk_at dksX9_richest_1 23 rfl rfl)
abbrev cX9_extreme : ByteArray := prog_24_method_60_code
def yX9_extreme : MethodName := ⟨RX9, "extreme", "(IZ)I"⟩
def dkwX9_extreme_3 : List UInt8 := [132, 5, 1, 167, 255, 190, 29, 172]
abbrev dktX9_extreme_3 : List UInt8 := dkwX9_extreme_3 ++ []
def dkwX9_extreme_2 : List UInt8 := [104, 54, 6, 29, 155, 0, 13, 21, 6, 21, 4, 163, 0, 6, 167, 0, 10, 21, 5, 62, 21, 6, 54, 4]
abbrev dktX9_extreme_2 : List UInt8 := dkwX9_extreme_2 ++ dktX9_extreme_3
def dkwX9_extreme_1 : List UInt8 := [42, 180, 0, 9, 21, 5, 184, 0, 62, 167, 0, 16, 27, 42, 180, 0, 9, 21, 5, 6, 184, 0, 52, 46]
abbrev dktX9_extreme_1 : List UInt8 := dkwX9_extreme_1 ++ dktX9_extreme_2
def dkwX9_extreme_0 : List UInt8 := [16, 247, 62, 3, 54, 4, 3, 54, 5, 21, 5, 42, 180, 0, 9, 3, 46, 162, 0, 61, 28, 153, 0, 15]
abbrev dktX9_extreme_0 : List UInt8 := dkwX9_extreme_0 ++ dktX9_extreme_1
theorem dksX9_extreme_0 : cX9_extreme.data.toList.drop 0 = dktX9_extreme_0 := by decide +kernel
theorem dksX9_extreme_1 : cX9_extreme.data.toList.drop 24 = dktX9_extreme_1 := dk_seg dksX9_extreme_0 24 rfl rfl
theorem dksX9_extreme_2 : cX9_extreme.data.toList.drop 48 = dktX9_extreme_2 := dk_seg dksX9_extreme_1 24 rfl rfl
theorem dksX9_extreme_3 : cX9_extreme.data.toList.drop 72 = dktX9_extreme_3 := dk_seg dksX9_extreme_2 24 rfl rfl
theorem dX9_extreme_0 : decode cX9_extreme 0 = .ok (.bipush (-9), 2) := dk_16 247 (dk_at dksX9_extreme_0 0 rfl rfl)
theorem dX9_extreme_2 : decode cX9_extreme 2 = .ok (.istore_n 3, 1) := dk_62 (dk_at dksX9_extreme_0 2 rfl rfl)
theorem dX9_extreme_3 : decode cX9_extreme 3 = .ok (.iconst 0, 1) := dk_3 (dk_at dksX9_extreme_0 3 rfl rfl)
theorem dX9_extreme_4 : decode cX9_extreme 4 = .ok (.istore 4, 2) := dk_54 4 (dk_at dksX9_extreme_0 4 rfl rfl)
theorem dX9_extreme_6 : decode cX9_extreme 6 = .ok (.iconst 0, 1) := dk_3 (dk_at dksX9_extreme_0 6 rfl rfl)
theorem dX9_extreme_7 : decode cX9_extreme 7 = .ok (.istore 5, 2) := dk_54 5 (dk_at dksX9_extreme_0 7 rfl rfl)
theorem dX9_extreme_9 : decode cX9_extreme 9 = .ok (.iload 5, 2) := dk_21 5 (dk_at dksX9_extreme_0 9 rfl rfl)
theorem dX9_extreme_11 : decode cX9_extreme 11 = .ok (.aload_n 0, 1) := dk_42 (dk_at dksX9_extreme_0 11 rfl rfl)
theorem dX9_extreme_12 : decode cX9_extreme 12 = .ok (.getfield 9, 3) := dk_180 0 9 (dk_at dksX9_extreme_0 12 rfl rfl)
theorem dX9_extreme_15 : decode cX9_extreme 15 = .ok (.iconst 0, 1) := dk_3 (dk_at dksX9_extreme_0 15 rfl rfl)
theorem dX9_extreme_16 : decode cX9_extreme 16 = .ok (.iaload, 1) := dk_46 (dk_at dksX9_extreme_0 16 rfl rfl)
theorem dX9_extreme_17 : decode cX9_extreme 17 = .ok (.if_icmp .ge 61, 3) := dk_162 0 61 (dk_at dksX9_extreme_0 17 rfl rfl)
theorem dX9_extreme_20 : decode cX9_extreme 20 = .ok (.iload_n 2, 1) := dk_28 (dk_at dksX9_extreme_0 20 rfl rfl)
theorem dX9_extreme_21 : decode cX9_extreme 21 = .ok (.ifCond .eq 15, 3) := dk_153 0 15 (dk_at dksX9_extreme_0 21 rfl rfl)
theorem dX9_extreme_24 : decode cX9_extreme 24 = .ok (.aload_n 0, 1) := dk_42 (dk_at dksX9_extreme_1 0 rfl rfl)
theorem dX9_extreme_25 : decode cX9_extreme 25 = .ok (.getfield 9, 3) := dk_180 0 9 (dk_at dksX9_extreme_1 1 rfl rfl)
theorem dX9_extreme_28 : decode cX9_extreme 28 = .ok (.iload 5, 2) := dk_21 5 (dk_at dksX9_extreme_1 4 rfl rfl)
theorem dX9_extreme_30 : decode cX9_extreme 30 = .ok (.invokestatic 62, 3) := dk_184 0 62 (dk_at dksX9_extreme_1 6 rfl rfl)
theorem dX9_extreme_33 : decode cX9_extreme 33 = .ok (.goto 16, 3) := dk_167 0 16 (dk_at dksX9_extreme_1 9 rfl rfl)
theorem dX9_extreme_36 : decode cX9_extreme 36 = .ok (.iload_n 1, 1) := dk_27 (dk_at dksX9_extreme_1 12 rfl rfl)
theorem dX9_extreme_37 : decode cX9_extreme 37 = .ok (.aload_n 0, 1) := dk_42 (dk_at dksX9_extreme_1 13 rfl rfl)
theorem dX9_extreme_38 : decode cX9_extreme 38 = .ok (.getfield 9, 3) := dk_180 0 9 (dk_at dksX9_extreme_1 14 rfl rfl)
theorem dX9_extreme_41 : decode cX9_extreme 41 = .ok (.iload 5, 2) := dk_21 5 (dk_at dksX9_extreme_1 17 rfl rfl)
theorem dX9_extreme_43 : decode cX9_extreme 43 = .ok (.iconst 3, 1) := dk_6 (dk_at dksX9_extreme_1 19 rfl rfl)
theorem dX9_extreme_44 : decode cX9_extreme 44 = .ok (.invokestatic 52, 3) := dk_184 0 52 (dk_at dksX9_extreme_1 20 rfl rfl)
theorem dX9_extreme_47 : decode cX9_extreme 47 = .ok (.iaload, 1) := dk_46 (dk_at dksX9_extreme_1 23 rfl rfl)
theorem dX9_extreme_48 : decode cX9_extreme 48 = .ok (.imul, 1) := dk_104 (dk_at dksX9_extreme_2 0 rfl rfl)
theorem dX9_extreme_49 : decode cX9_extreme 49 = .ok (.istore 6, 2) := dk_54 6 (dk_at dksX9_extreme_2 1 rfl rfl)
theorem dX9_extreme_51 : decode cX9_extreme 51 = .ok (.iload_n 3, 1) := dk_29 (dk_at dksX9_extreme_2 3 rfl rfl)
theorem dX9_extreme_52 : decode cX9_extreme 52 = .ok (.ifCond .lt 13, 3) := dk_155 0 13 (dk_at dksX9_extreme_2 4 rfl rfl)
theorem dX9_extreme_55 : decode cX9_extreme 55 = .ok (.iload 6, 2) := dk_21 6 (dk_at dksX9_extreme_2 7 rfl rfl)
theorem dX9_extreme_57 : decode cX9_extreme 57 = .ok (.iload 4, 2) := dk_21 4 (dk_at dksX9_extreme_2 9 rfl rfl)
theorem dX9_extreme_59 : decode cX9_extreme 59 = .ok (.if_icmp .gt 6, 3) := dk_163 0 6 (dk_at dksX9_extreme_2 11 rfl rfl)
theorem dX9_extreme_62 : decode cX9_extreme 62 = .ok (.goto 10, 3) := dk_167 0 10 (dk_at dksX9_extreme_2 14 rfl rfl)
theorem dX9_extreme_65 : decode cX9_extreme 65 = .ok (.iload 5, 2) := dk_21 5 (dk_at dksX9_extreme_2 17 rfl rfl)
theorem dX9_extreme_67 : decode cX9_extreme 67 = .ok (.istore_n 3, 1) := dk_62 (dk_at dksX9_extreme_2 19 rfl rfl)
theorem dX9_extreme_68 : decode cX9_extreme 68 = .ok (.iload 6, 2) := dk_21 6 (dk_at dksX9_extreme_2 20 rfl rfl)
theorem dX9_extreme_70 : decode cX9_extreme 70 = .ok (.istore 4, 2) := dk_54 4 (dk_at dksX9_extreme_2 22 rfl rfl)
theorem dX9_extreme_72 : decode cX9_extreme 72 = .ok (.iinc 5 1, 3) := dk_132 5 1 (dk_at dksX9_extreme_3 0 rfl rfl)
theorem dX9_extreme_75 : decode cX9_extreme 75 = .ok (.goto (-66), 3) := dk_167 255 190 (dk_at dksX9_extreme_3 3 rfl rfl)
theorem dX9_extreme_78 : decode cX9_extreme 78 = .ok (.iload_n 3, 1) := dk_29 (dk_at dksX9_extreme_3 6 rfl rfl)
theorem dX9_extreme_79 : decode cX9_extreme 79 = .ok (.ireturn, 1) := dk_172 (dk_at dksX9_extreme_3 7 rfl rfl)
abbrev cX9_quiet : ByteArray := prog_24_method_62_code
def yX9_quiet : MethodName := ⟨RX9, "quiet", "(I)I"⟩
def dkwX9_quiet_2 : List UInt8 := [164, 0, 7, 4, 167, 0, 4, 3, 96, 62, 132, 4, 1, 167, 255, 221, 29, 172]
abbrev dktX9_quiet_2 : List UInt8 := dkwX9_quiet_2 ++ []
def dkwX9_quiet_1 : List UInt8 := [21, 4, 42, 180, 0, 9, 3, 46, 162, 0, 30, 29, 42, 180, 0, 9, 21, 4, 184, 0, 62, 27]
abbrev dktX9_quiet_1 : List UInt8 := dkwX9_quiet_1 ++ dktX9_quiet_2
def dkwX9_quiet_0 : List UInt8 := [27, 3, 16, 11, 184, 0, 126, 61, 28, 153, 0, 9, 42, 28, 182, 0, 36, 172, 3, 62, 3, 54, 4]
abbrev dktX9_quiet_0 : List UInt8 := dkwX9_quiet_0 ++ dktX9_quiet_1
theorem dksX9_quiet_0 : cX9_quiet.data.toList.drop 0 = dktX9_quiet_0 := by decide +kernel
theorem dksX9_quiet_1 : cX9_quiet.data.toList.drop 23 = dktX9_quiet_1 := dk_seg dksX9_quiet_0 23 rfl rfl
theorem dksX9_quiet_2 : cX9_quiet.data.toList.drop 45 = dktX9_quiet_2 := dk_seg dksX9_quiet_1 22 rfl rfl
theorem dX9_quiet_0 : decode cX9_quiet 0 = .ok (.iload_n 1, 1) := dk_27 (dk_at dksX9_quiet_0 0 rfl rfl)
theorem dX9_quiet_1 : decode cX9_quiet 1 = .ok (.iconst 0, 1) := dk_3 (dk_at dksX9_quiet_0 1 rfl rfl)
theorem dX9_quiet_2 : decode cX9_quiet 2 = .ok (.bipush 11, 2) := dk_16 11 (dk_at dksX9_quiet_0 2 rfl rfl)
theorem dX9_quiet_4 : decode cX9_quiet 4 = .ok (.invokestatic 126, 3) := dk_184 0 126 (dk_at dksX9_quiet_0 4 rfl rfl)
theorem dX9_quiet_7 : decode cX9_quiet 7 = .ok (.istore_n 2, 1) := dk_61 (dk_at dksX9_quiet_0 7 rfl rfl)
theorem dX9_quiet_8 : decode cX9_quiet 8 = .ok (.iload_n 2, 1) := dk_28 (dk_at dksX9_quiet_0 8 rfl rfl)
theorem dX9_quiet_9 : decode cX9_quiet 9 = .ok (.ifCond .eq 9, 3) := dk_153 0 9 (dk_at dksX9_quiet_0 9 rfl rfl)
theorem dX9_quiet_12 : decode cX9_quiet 12 = .ok (.aload_n 0, 1) := dk_42 (dk_at dksX9_quiet_0 12 rfl rfl)
theorem dX9_quiet_13 : decode cX9_quiet 13 = .ok (.iload_n 2, 1) := dk_28 (dk_at dksX9_quiet_0 13 rfl rfl)
theorem dX9_quiet_14 : decode cX9_quiet 14 = .ok (.invokevirtual 36, 3) := dk_182 0 36 (dk_at dksX9_quiet_0 14 rfl rfl)
theorem dX9_quiet_17 : decode cX9_quiet 17 = .ok (.ireturn, 1) := dk_172 (dk_at dksX9_quiet_0 17 rfl rfl)
theorem dX9_quiet_18 : decode cX9_quiet 18 = .ok (.iconst 0, 1) := dk_3 (dk_at dksX9_quiet_0 18 rfl rfl)
theorem dX9_quiet_19 : decode cX9_quiet 19 = .ok (.istore_n 3, 1) := dk_62 (dk_at dksX9_quiet_0 19 rfl rfl)
theorem dX9_quiet_20 : decode cX9_quiet 20 = .ok (.iconst 0, 1) := dk_3 (dk_at dksX9_quiet_0 20 rfl rfl)
theorem dX9_quiet_21 : decode cX9_quiet 21 = .ok (.istore 4, 2) := dk_54 4 (dk_at dksX9_quiet_0 21 rfl rfl)
theorem dX9_quiet_23 : decode cX9_quiet 23 = .ok (.iload 4, 2) := dk_21 4 (dk_at dksX9_quiet_1 0 rfl rfl)
theorem dX9_quiet_25 : decode cX9_quiet 25 = .ok (.aload_n 0, 1) := dk_42 (dk_at dksX9_quiet_1 2 rfl rfl)
theorem dX9_quiet_26 : decode cX9_quiet 26 = .ok (.getfield 9, 3) := dk_180 0 9 (dk_at dksX9_quiet_1 3 rfl rfl)
theorem dX9_quiet_29 : decode cX9_quiet 29 = .ok (.iconst 0, 1) := dk_3 (dk_at dksX9_quiet_1 6 rfl rfl)
theorem dX9_quiet_30 : decode cX9_quiet 30 = .ok (.iaload, 1) := dk_46 (dk_at dksX9_quiet_1 7 rfl rfl)
theorem dX9_quiet_31 : decode cX9_quiet 31 = .ok (.if_icmp .ge 30, 3) := dk_162 0 30 (dk_at dksX9_quiet_1 8 rfl rfl)
theorem dX9_quiet_34 : decode cX9_quiet 34 = .ok (.iload_n 3, 1) := dk_29 (dk_at dksX9_quiet_1 11 rfl rfl)
theorem dX9_quiet_35 : decode cX9_quiet 35 = .ok (.aload_n 0, 1) := dk_42 (dk_at dksX9_quiet_1 12 rfl rfl)
theorem dX9_quiet_36 : decode cX9_quiet 36 = .ok (.getfield 9, 3) := dk_180 0 9 (dk_at dksX9_quiet_1 13 rfl rfl)
theorem dX9_quiet_39 : decode cX9_quiet 39 = .ok (.iload 4, 2) := dk_21 4 (dk_at dksX9_quiet_1 16 rfl rfl)
theorem dX9_quiet_41 : decode cX9_quiet 41 = .ok (.invokestatic 62, 3) := dk_184 0 62 (dk_at dksX9_quiet_1 18 rfl rfl)
theorem dX9_quiet_44 : decode cX9_quiet 44 = .ok (.iload_n 1, 1) := dk_27 (dk_at dksX9_quiet_1 21 rfl rfl)
theorem dX9_quiet_45 : decode cX9_quiet 45 = .ok (.if_icmp .le 7, 3) := dk_164 0 7 (dk_at dksX9_quiet_2 0 rfl rfl)
theorem dX9_quiet_48 : decode cX9_quiet 48 = .ok (.iconst 1, 1) := dk_4 (dk_at dksX9_quiet_2 3 rfl rfl)
theorem dX9_quiet_49 : decode cX9_quiet 49 = .ok (.goto 4, 3) := dk_167 0 4 (dk_at dksX9_quiet_2 4 rfl rfl)
theorem dX9_quiet_52 : decode cX9_quiet 52 = .ok (.iconst 0, 1) := dk_3 (dk_at dksX9_quiet_2 7 rfl rfl)
theorem dX9_quiet_53 : decode cX9_quiet 53 = .ok (.iadd, 1) := dk_96 (dk_at dksX9_quiet_2 8 rfl rfl)
theorem dX9_quiet_54 : decode cX9_quiet 54 = .ok (.istore_n 3, 1) := dk_62 (dk_at dksX9_quiet_2 9 rfl rfl)
theorem dX9_quiet_55 : decode cX9_quiet 55 = .ok (.iinc 4 1, 3) := dk_132 4 1 (dk_at dksX9_quiet_2 10 rfl rfl)
theorem dX9_quiet_58 : decode cX9_quiet 58 = .ok (.goto (-35), 3) := dk_167 255 221 (dk_at dksX9_quiet_2 13 rfl rfl)
theorem dX9_quiet_61 : decode cX9_quiet 61 = .ok (.iload_n 3, 1) := dk_29 (dk_at dksX9_quiet_2 16 rfl rfl)
theorem dX9_quiet_62 : decode cX9_quiet 62 = .ok (.ireturn, 1) := dk_172 (dk_at dksX9_quiet_2 17 rfl rfl)
abbrev cX9_thirst : ByteArray := prog_24_method_63_code
def yX9_thirst : MethodName := ⟨RX9, "thirst", "()I"⟩
def dkwX9_thirst_1 : List UInt8 := [46, 184, 0, 70, 96, 60, 132, 2, 1, 167, 255, 227, 27, 172]
abbrev dktX9_thirst_1 : List UInt8 := dkwX9_thirst_1 ++ []
def dkwX9_thirst_0 : List UInt8 := [3, 60, 3, 61, 28, 42, 180, 0, 9, 3, 46, 162, 0, 25, 27, 42, 180, 0, 9, 28, 3, 184, 0, 52]
abbrev dktX9_thirst_0 : List UInt8 := dkwX9_thirst_0 ++ dktX9_thirst_1
theorem dksX9_thirst_0 : cX9_thirst.data.toList.drop 0 = dktX9_thirst_0 := by decide +kernel
theorem dksX9_thirst_1 : cX9_thirst.data.toList.drop 24 = dktX9_thirst_1 := dk_seg dksX9_thirst_0 24 rfl rfl
theorem dX9_thirst_0 : decode cX9_thirst 0 = .ok (.iconst 0, 1) := dk_3 (dk_at dksX9_thirst_0 0 rfl rfl)
theorem dX9_thirst_1 : decode cX9_thirst 1 = .ok (.istore_n 1, 1) := dk_60 (dk_at dksX9_thirst_0 1 rfl rfl)
theorem dX9_thirst_2 : decode cX9_thirst 2 = .ok (.iconst 0, 1) := dk_3 (dk_at dksX9_thirst_0 2 rfl rfl)
theorem dX9_thirst_3 : decode cX9_thirst 3 = .ok (.istore_n 2, 1) := dk_61 (dk_at dksX9_thirst_0 3 rfl rfl)
theorem dX9_thirst_4 : decode cX9_thirst 4 = .ok (.iload_n 2, 1) := dk_28 (dk_at dksX9_thirst_0 4 rfl rfl)
theorem dX9_thirst_5 : decode cX9_thirst 5 = .ok (.aload_n 0, 1) := dk_42 (dk_at dksX9_thirst_0 5 rfl rfl)
theorem dX9_thirst_6 : decode cX9_thirst 6 = .ok (.getfield 9, 3) := dk_180 0 9 (dk_at dksX9_thirst_0 6 rfl rfl)
theorem dX9_thirst_9 : decode cX9_thirst 9 = .ok (.iconst 0, 1) := dk_3 (dk_at dksX9_thirst_0 9 rfl rfl)
theorem dX9_thirst_10 : decode cX9_thirst 10 = .ok (.iaload, 1) := dk_46 (dk_at dksX9_thirst_0 10 rfl rfl)
theorem dX9_thirst_11 : decode cX9_thirst 11 = .ok (.if_icmp .ge 25, 3) := dk_162 0 25 (dk_at dksX9_thirst_0 11 rfl rfl)
theorem dX9_thirst_14 : decode cX9_thirst 14 = .ok (.iload_n 1, 1) := dk_27 (dk_at dksX9_thirst_0 14 rfl rfl)
theorem dX9_thirst_15 : decode cX9_thirst 15 = .ok (.aload_n 0, 1) := dk_42 (dk_at dksX9_thirst_0 15 rfl rfl)
theorem dX9_thirst_16 : decode cX9_thirst 16 = .ok (.getfield 9, 3) := dk_180 0 9 (dk_at dksX9_thirst_0 16 rfl rfl)
theorem dX9_thirst_19 : decode cX9_thirst 19 = .ok (.iload_n 2, 1) := dk_28 (dk_at dksX9_thirst_0 19 rfl rfl)
theorem dX9_thirst_20 : decode cX9_thirst 20 = .ok (.iconst 0, 1) := dk_3 (dk_at dksX9_thirst_0 20 rfl rfl)
theorem dX9_thirst_21 : decode cX9_thirst 21 = .ok (.invokestatic 52, 3) := dk_184 0 52 (dk_at dksX9_thirst_0 21 rfl rfl)
theorem dX9_thirst_24 : decode cX9_thirst 24 = .ok (.iaload, 1) := dk_46 (dk_at dksX9_thirst_1 0 rfl rfl)
theorem dX9_thirst_25 : decode cX9_thirst 25 = .ok (.invokestatic 70, 3) := dk_184 0 70 (dk_at dksX9_thirst_1 1 rfl rfl)
theorem dX9_thirst_28 : decode cX9_thirst 28 = .ok (.iadd, 1) := dk_96 (dk_at dksX9_thirst_1 4 rfl rfl)
theorem dX9_thirst_29 : decode cX9_thirst 29 = .ok (.istore_n 1, 1) := dk_60 (dk_at dksX9_thirst_1 5 rfl rfl)
theorem dX9_thirst_30 : decode cX9_thirst 30 = .ok (.iinc 2 1, 3) := dk_132 2 1 (dk_at dksX9_thirst_1 6 rfl rfl)
theorem dX9_thirst_33 : decode cX9_thirst 33 = .ok (.goto (-29), 3) := dk_167 255 227 (dk_at dksX9_thirst_1 9 rfl rfl)
theorem dX9_thirst_36 : decode cX9_thirst 36 = .ok (.iload_n 1, 1) := dk_27 (dk_at dksX9_thirst_1 12 rfl rfl)
theorem dX9_thirst_37 : decode cX9_thirst 37 = .ok (.ireturn, 1) := dk_172 (dk_at dksX9_thirst_1 13 rfl rfl)
abbrev cX9_lasts : ByteArray := prog_24_method_64_code
def yX9_lasts : MethodName := ⟨RX9, "lasts", "(I)I"⟩
def dkwX9_lasts_1 : List UInt8 := [184, 0, 52, 46, 184, 0, 70, 108, 167, 0, 8, 42, 2, 182, 0, 36, 172]
abbrev dktX9_lasts_1 : List UInt8 := dkwX9_lasts_1 ++ []
def dkwX9_lasts_0 : List UInt8 := [42, 27, 182, 0, 100, 153, 0, 30, 42, 180, 0, 9, 27, 6, 184, 0, 52, 46, 42, 180, 0, 9, 27, 3]
abbrev dktX9_lasts_0 : List UInt8 := dkwX9_lasts_0 ++ dktX9_lasts_1
theorem dksX9_lasts_0 : cX9_lasts.data.toList.drop 0 = dktX9_lasts_0 := by decide +kernel
theorem dksX9_lasts_1 : cX9_lasts.data.toList.drop 24 = dktX9_lasts_1 := dk_seg dksX9_lasts_0 24 rfl rfl
theorem dX9_lasts_0 : decode cX9_lasts 0 = .ok (.aload_n 0, 1) := dk_42 (dk_at dksX9_lasts_0 0 rfl rfl)
theorem dX9_lasts_1 : decode cX9_lasts 1 = .ok (.iload_n 1, 1) := dk_27 (dk_at dksX9_lasts_0 1 rfl rfl)
theorem dX9_lasts_2 : decode cX9_lasts 2 = .ok (.invokevirtual 100, 3) := dk_182 0 100 (dk_at dksX9_lasts_0 2 rfl rfl)
theorem dX9_lasts_5 : decode cX9_lasts 5 = .ok (.ifCond .eq 30, 3) := dk_153 0 30 (dk_at dksX9_lasts_0 5 rfl rfl)
theorem dX9_lasts_8 : decode cX9_lasts 8 = .ok (.aload_n 0, 1) := dk_42 (dk_at dksX9_lasts_0 8 rfl rfl)
theorem dX9_lasts_9 : decode cX9_lasts 9 = .ok (.getfield 9, 3) := dk_180 0 9 (dk_at dksX9_lasts_0 9 rfl rfl)
theorem dX9_lasts_12 : decode cX9_lasts 12 = .ok (.iload_n 1, 1) := dk_27 (dk_at dksX9_lasts_0 12 rfl rfl)
theorem dX9_lasts_13 : decode cX9_lasts 13 = .ok (.iconst 3, 1) := dk_6 (dk_at dksX9_lasts_0 13 rfl rfl)
theorem dX9_lasts_14 : decode cX9_lasts 14 = .ok (.invokestatic 52, 3) := dk_184 0 52 (dk_at dksX9_lasts_0 14 rfl rfl)
theorem dX9_lasts_17 : decode cX9_lasts 17 = .ok (.iaload, 1) := dk_46 (dk_at dksX9_lasts_0 17 rfl rfl)
theorem dX9_lasts_18 : decode cX9_lasts 18 = .ok (.aload_n 0, 1) := dk_42 (dk_at dksX9_lasts_0 18 rfl rfl)
theorem dX9_lasts_19 : decode cX9_lasts 19 = .ok (.getfield 9, 3) := dk_180 0 9 (dk_at dksX9_lasts_0 19 rfl rfl)
theorem dX9_lasts_22 : decode cX9_lasts 22 = .ok (.iload_n 1, 1) := dk_27 (dk_at dksX9_lasts_0 22 rfl rfl)
theorem dX9_lasts_23 : decode cX9_lasts 23 = .ok (.iconst 0, 1) := dk_3 (dk_at dksX9_lasts_0 23 rfl rfl)
theorem dX9_lasts_24 : decode cX9_lasts 24 = .ok (.invokestatic 52, 3) := dk_184 0 52 (dk_at dksX9_lasts_1 0 rfl rfl)
theorem dX9_lasts_27 : decode cX9_lasts 27 = .ok (.iaload, 1) := dk_46 (dk_at dksX9_lasts_1 3 rfl rfl)
theorem dX9_lasts_28 : decode cX9_lasts 28 = .ok (.invokestatic 70, 3) := dk_184 0 70 (dk_at dksX9_lasts_1 4 rfl rfl)
theorem dX9_lasts_31 : decode cX9_lasts 31 = .ok (.idiv, 1) := dk_108 (dk_at dksX9_lasts_1 7 rfl rfl)
theorem dX9_lasts_32 : decode cX9_lasts 32 = .ok (.goto 8, 3) := dk_167 0 8 (dk_at dksX9_lasts_1 8 rfl rfl)
theorem dX9_lasts_35 : decode cX9_lasts 35 = .ok (.aload_n 0, 1) := dk_42 (dk_at dksX9_lasts_1 11 rfl rfl)
theorem dX9_lasts_36 : decode cX9_lasts 36 = .ok (.iconst (-1), 1) := dk_2 (dk_at dksX9_lasts_1 12 rfl rfl)
theorem dX9_lasts_37 : decode cX9_lasts 37 = .ok (.invokevirtual 36, 3) := dk_182 0 36 (dk_at dksX9_lasts_1 13 rfl rfl)
theorem dX9_lasts_40 : decode cX9_lasts 40 = .ok (.ireturn, 1) := dk_172 (dk_at dksX9_lasts_1 16 rfl rfl)
abbrev cX9_carries : ByteArray := prog_24_method_65_code
def yX9_carries : MethodName := ⟨RX9, "carries", "(I)I"⟩
def dkwX9_carries_5 : List UInt8 := [154, 0, 7, 28, 167, 0, 4, 29, 172]
abbrev dktX9_carries_5 : List UInt8 := dkwX9_carries_5 ++ []
def dkwX9_carries_4 : List UInt8 := [184, 0, 52, 46, 21, 4, 160, 0, 7, 4, 167, 0, 4, 3, 96, 62, 132, 4, 1, 167, 255, 168, 27]
abbrev dktX9_carries_4 : List UInt8 := dkwX9_carries_4 ++ dktX9_carries_5
def dkwX9_carries_3 : List UInt8 := [4, 21, 5, 120, 128, 61, 29, 21, 5, 21, 4, 164, 0, 24, 42, 180, 0, 9, 21, 5, 16, 6]
abbrev dktX9_carries_3 : List UInt8 := dkwX9_carries_3 ++ dktX9_carries_4
def dkwX9_carries_2 : List UInt8 := [54, 5, 21, 5, 21, 4, 159, 0, 56, 21, 5, 42, 180, 0, 9, 3, 46, 161, 0, 6, 167, 0, 42, 28]
abbrev dktX9_carries_2 : List UInt8 := dkwX9_carries_2 ++ dktX9_carries_3
def dkwX9_carries_1 : List UInt8 := [21, 4, 42, 180, 0, 9, 3, 46, 162, 0, 83, 42, 180, 0, 9, 21, 4, 16, 6, 184, 0, 52, 46]
abbrev dktX9_carries_1 : List UInt8 := dkwX9_carries_1 ++ dktX9_carries_2
def dkwX9_carries_0 : List UInt8 := [27, 3, 4, 184, 0, 40, 154, 0, 10, 42, 16, 254, 182, 0, 36, 172, 3, 61, 3, 62, 3, 54, 4]
abbrev dktX9_carries_0 : List UInt8 := dkwX9_carries_0 ++ dktX9_carries_1
theorem dksX9_carries_0 : cX9_carries.data.toList.drop 0 = dktX9_carries_0 := by decide +kernel
theorem dksX9_carries_1 : cX9_carries.data.toList.drop 23 = dktX9_carries_1 := dk_seg dksX9_carries_0 23 rfl rfl
theorem dksX9_carries_2 : cX9_carries.data.toList.drop 46 = dktX9_carries_2 := dk_seg dksX9_carries_1 23 rfl rfl
theorem dksX9_carries_3 : cX9_carries.data.toList.drop 70 = dktX9_carries_3 := dk_seg dksX9_carries_2 24 rfl rfl
theorem dksX9_carries_4 : cX9_carries.data.toList.drop 92 = dktX9_carries_4 := dk_seg dksX9_carries_3 22 rfl rfl
theorem dksX9_carries_5 : cX9_carries.data.toList.drop 115 = dktX9_carries_5 := dk_seg dksX9_carries_4 23 rfl rfl
theorem dX9_carries_0 : decode cX9_carries 0 = .ok (.iload_n 1, 1) := dk_27 (dk_at dksX9_carries_0 0 rfl rfl)
theorem dX9_carries_1 : decode cX9_carries 1 = .ok (.iconst 0, 1) := dk_3 (dk_at dksX9_carries_0 1 rfl rfl)
theorem dX9_carries_2 : decode cX9_carries 2 = .ok (.iconst 1, 1) := dk_4 (dk_at dksX9_carries_0 2 rfl rfl)
theorem dX9_carries_3 : decode cX9_carries 3 = .ok (.invokestatic 40, 3) := dk_184 0 40 (dk_at dksX9_carries_0 3 rfl rfl)
theorem dX9_carries_6 : decode cX9_carries 6 = .ok (.ifCond .ne 10, 3) := dk_154 0 10 (dk_at dksX9_carries_0 6 rfl rfl)
theorem dX9_carries_9 : decode cX9_carries 9 = .ok (.aload_n 0, 1) := dk_42 (dk_at dksX9_carries_0 9 rfl rfl)
theorem dX9_carries_10 : decode cX9_carries 10 = .ok (.bipush (-2), 2) := dk_16 254 (dk_at dksX9_carries_0 10 rfl rfl)
theorem dX9_carries_12 : decode cX9_carries 12 = .ok (.invokevirtual 36, 3) := dk_182 0 36 (dk_at dksX9_carries_0 12 rfl rfl)
theorem dX9_carries_15 : decode cX9_carries 15 = .ok (.ireturn, 1) := dk_172 (dk_at dksX9_carries_0 15 rfl rfl)
theorem dX9_carries_16 : decode cX9_carries 16 = .ok (.iconst 0, 1) := dk_3 (dk_at dksX9_carries_0 16 rfl rfl)
theorem dX9_carries_17 : decode cX9_carries 17 = .ok (.istore_n 2, 1) := dk_61 (dk_at dksX9_carries_0 17 rfl rfl)
theorem dX9_carries_18 : decode cX9_carries 18 = .ok (.iconst 0, 1) := dk_3 (dk_at dksX9_carries_0 18 rfl rfl)
theorem dX9_carries_19 : decode cX9_carries 19 = .ok (.istore_n 3, 1) := dk_62 (dk_at dksX9_carries_0 19 rfl rfl)
theorem dX9_carries_20 : decode cX9_carries 20 = .ok (.iconst 0, 1) := dk_3 (dk_at dksX9_carries_0 20 rfl rfl)
theorem dX9_carries_21 : decode cX9_carries 21 = .ok (.istore 4, 2) := dk_54 4 (dk_at dksX9_carries_0 21 rfl rfl)
theorem dX9_carries_23 : decode cX9_carries 23 = .ok (.iload 4, 2) := dk_21 4 (dk_at dksX9_carries_1 0 rfl rfl)
theorem dX9_carries_25 : decode cX9_carries 25 = .ok (.aload_n 0, 1) := dk_42 (dk_at dksX9_carries_1 2 rfl rfl)
theorem dX9_carries_26 : decode cX9_carries 26 = .ok (.getfield 9, 3) := dk_180 0 9 (dk_at dksX9_carries_1 3 rfl rfl)
theorem dX9_carries_29 : decode cX9_carries 29 = .ok (.iconst 0, 1) := dk_3 (dk_at dksX9_carries_1 6 rfl rfl)
theorem dX9_carries_30 : decode cX9_carries 30 = .ok (.iaload, 1) := dk_46 (dk_at dksX9_carries_1 7 rfl rfl)
theorem dX9_carries_31 : decode cX9_carries 31 = .ok (.if_icmp .ge 83, 3) := dk_162 0 83 (dk_at dksX9_carries_1 8 rfl rfl)
theorem dX9_carries_34 : decode cX9_carries 34 = .ok (.aload_n 0, 1) := dk_42 (dk_at dksX9_carries_1 11 rfl rfl)
theorem dX9_carries_35 : decode cX9_carries 35 = .ok (.getfield 9, 3) := dk_180 0 9 (dk_at dksX9_carries_1 12 rfl rfl)
theorem dX9_carries_38 : decode cX9_carries 38 = .ok (.iload 4, 2) := dk_21 4 (dk_at dksX9_carries_1 15 rfl rfl)
theorem dX9_carries_40 : decode cX9_carries 40 = .ok (.bipush 6, 2) := dk_16 6 (dk_at dksX9_carries_1 17 rfl rfl)
theorem dX9_carries_42 : decode cX9_carries 42 = .ok (.invokestatic 52, 3) := dk_184 0 52 (dk_at dksX9_carries_1 19 rfl rfl)
theorem dX9_carries_45 : decode cX9_carries 45 = .ok (.iaload, 1) := dk_46 (dk_at dksX9_carries_1 22 rfl rfl)
theorem dX9_carries_46 : decode cX9_carries 46 = .ok (.istore 5, 2) := dk_54 5 (dk_at dksX9_carries_2 0 rfl rfl)
theorem dX9_carries_48 : decode cX9_carries 48 = .ok (.iload 5, 2) := dk_21 5 (dk_at dksX9_carries_2 2 rfl rfl)
theorem dX9_carries_50 : decode cX9_carries 50 = .ok (.iload 4, 2) := dk_21 4 (dk_at dksX9_carries_2 4 rfl rfl)
theorem dX9_carries_52 : decode cX9_carries 52 = .ok (.if_icmp .eq 56, 3) := dk_159 0 56 (dk_at dksX9_carries_2 6 rfl rfl)
theorem dX9_carries_55 : decode cX9_carries 55 = .ok (.iload 5, 2) := dk_21 5 (dk_at dksX9_carries_2 9 rfl rfl)
theorem dX9_carries_57 : decode cX9_carries 57 = .ok (.aload_n 0, 1) := dk_42 (dk_at dksX9_carries_2 11 rfl rfl)
theorem dX9_carries_58 : decode cX9_carries 58 = .ok (.getfield 9, 3) := dk_180 0 9 (dk_at dksX9_carries_2 12 rfl rfl)
theorem dX9_carries_61 : decode cX9_carries 61 = .ok (.iconst 0, 1) := dk_3 (dk_at dksX9_carries_2 15 rfl rfl)
theorem dX9_carries_62 : decode cX9_carries 62 = .ok (.iaload, 1) := dk_46 (dk_at dksX9_carries_2 16 rfl rfl)
theorem dX9_carries_63 : decode cX9_carries 63 = .ok (.if_icmp .lt 6, 3) := dk_161 0 6 (dk_at dksX9_carries_2 17 rfl rfl)
theorem dX9_carries_66 : decode cX9_carries 66 = .ok (.goto 42, 3) := dk_167 0 42 (dk_at dksX9_carries_2 20 rfl rfl)
theorem dX9_carries_69 : decode cX9_carries 69 = .ok (.iload_n 2, 1) := dk_28 (dk_at dksX9_carries_2 23 rfl rfl)
theorem dX9_carries_70 : decode cX9_carries 70 = .ok (.iconst 1, 1) := dk_4 (dk_at dksX9_carries_3 0 rfl rfl)
theorem dX9_carries_71 : decode cX9_carries 71 = .ok (.iload 5, 2) := dk_21 5 (dk_at dksX9_carries_3 1 rfl rfl)
theorem dX9_carries_73 : decode cX9_carries 73 = .ok (.ishl, 1) := dk_120 (dk_at dksX9_carries_3 3 rfl rfl)
theorem dX9_carries_74 : decode cX9_carries 74 = .ok (.ior, 1) := dk_128 (dk_at dksX9_carries_3 4 rfl rfl)
theorem dX9_carries_75 : decode cX9_carries 75 = .ok (.istore_n 2, 1) := dk_61 (dk_at dksX9_carries_3 5 rfl rfl)
theorem dX9_carries_76 : decode cX9_carries 76 = .ok (.iload_n 3, 1) := dk_29 (dk_at dksX9_carries_3 6 rfl rfl)
theorem dX9_carries_77 : decode cX9_carries 77 = .ok (.iload 5, 2) := dk_21 5 (dk_at dksX9_carries_3 7 rfl rfl)
theorem dX9_carries_79 : decode cX9_carries 79 = .ok (.iload 4, 2) := dk_21 4 (dk_at dksX9_carries_3 9 rfl rfl)
theorem dX9_carries_81 : decode cX9_carries 81 = .ok (.if_icmp .le 24, 3) := dk_164 0 24 (dk_at dksX9_carries_3 11 rfl rfl)
theorem dX9_carries_84 : decode cX9_carries 84 = .ok (.aload_n 0, 1) := dk_42 (dk_at dksX9_carries_3 14 rfl rfl)
theorem dX9_carries_85 : decode cX9_carries 85 = .ok (.getfield 9, 3) := dk_180 0 9 (dk_at dksX9_carries_3 15 rfl rfl)
theorem dX9_carries_88 : decode cX9_carries 88 = .ok (.iload 5, 2) := dk_21 5 (dk_at dksX9_carries_3 18 rfl rfl)
theorem dX9_carries_90 : decode cX9_carries 90 = .ok (.bipush 6, 2) := dk_16 6 (dk_at dksX9_carries_3 20 rfl rfl)
theorem dX9_carries_92 : decode cX9_carries 92 = .ok (.invokestatic 52, 3) := dk_184 0 52 (dk_at dksX9_carries_4 0 rfl rfl)
theorem dX9_carries_95 : decode cX9_carries 95 = .ok (.iaload, 1) := dk_46 (dk_at dksX9_carries_4 3 rfl rfl)
theorem dX9_carries_96 : decode cX9_carries 96 = .ok (.iload 4, 2) := dk_21 4 (dk_at dksX9_carries_4 4 rfl rfl)
theorem dX9_carries_98 : decode cX9_carries 98 = .ok (.if_icmp .ne 7, 3) := dk_160 0 7 (dk_at dksX9_carries_4 6 rfl rfl)
theorem dX9_carries_101 : decode cX9_carries 101 = .ok (.iconst 1, 1) := dk_4 (dk_at dksX9_carries_4 9 rfl rfl)
theorem dX9_carries_102 : decode cX9_carries 102 = .ok (.goto 4, 3) := dk_167 0 4 (dk_at dksX9_carries_4 10 rfl rfl)
theorem dX9_carries_105 : decode cX9_carries 105 = .ok (.iconst 0, 1) := dk_3 (dk_at dksX9_carries_4 13 rfl rfl)
theorem dX9_carries_106 : decode cX9_carries 106 = .ok (.iadd, 1) := dk_96 (dk_at dksX9_carries_4 14 rfl rfl)
theorem dX9_carries_107 : decode cX9_carries 107 = .ok (.istore_n 3, 1) := dk_62 (dk_at dksX9_carries_4 15 rfl rfl)
theorem dX9_carries_108 : decode cX9_carries 108 = .ok (.iinc 4 1, 3) := dk_132 4 1 (dk_at dksX9_carries_4 16 rfl rfl)
theorem dX9_carries_111 : decode cX9_carries 111 = .ok (.goto (-88), 3) := dk_167 255 168 (dk_at dksX9_carries_4 19 rfl rfl)
theorem dX9_carries_114 : decode cX9_carries 114 = .ok (.iload_n 1, 1) := dk_27 (dk_at dksX9_carries_4 22 rfl rfl)
theorem dX9_carries_115 : decode cX9_carries 115 = .ok (.ifCond .ne 7, 3) := dk_154 0 7 (dk_at dksX9_carries_5 0 rfl rfl)
theorem dX9_carries_118 : decode cX9_carries 118 = .ok (.iload_n 2, 1) := dk_28 (dk_at dksX9_carries_5 3 rfl rfl)
theorem dX9_carries_119 : decode cX9_carries 119 = .ok (.goto 4, 3) := dk_167 0 4 (dk_at dksX9_carries_5 4 rfl rfl)
theorem dX9_carries_122 : decode cX9_carries 122 = .ok (.iload_n 3, 1) := dk_29 (dk_at dksX9_carries_5 7 rfl rfl)
theorem dX9_carries_123 : decode cX9_carries 123 = .ok (.ireturn, 1) := dk_172 (dk_at dksX9_carries_5 8 rfl rfl)
abbrev cX9_two : ByteArray := prog_24_method_67_code
def yX9_two : MethodName := ⟨RX9, "two", "(III)I"⟩
def dkwX9_two_6 : List UInt8 := [16, 247, 172]
abbrev dktX9_two_6 : List UInt8 := dkwX9_two_6 ++ []
def dkwX9_two_5 : List UInt8 := [21, 7, 29, 182, 0, 165, 163, 0, 12, 16, 10, 21, 6, 104, 21, 7, 96, 172, 132, 5, 1, 167, 255, 168]
abbrev dktX9_two_5 : List UInt8 := dkwX9_two_5 ++ dktX9_two_6
def dkwX9_two_4 : List UInt8 := [163, 0, 41, 42, 28, 27, 21, 6, 28, 4, 21, 7, 100, 29, 182, 0, 165, 42, 28, 27, 21, 6, 28]
abbrev dktX9_two_4 : List UInt8 := dkwX9_two_4 ++ dktX9_two_5
def dkwX9_two_3 : List UInt8 := [21, 6, 100, 28, 21, 7, 29, 182, 0, 165, 42, 27, 27, 21, 6, 28, 21, 7, 29, 182, 0, 165]
abbrev dktX9_two_3 : List UInt8 := dkwX9_two_3 ++ dktX9_two_4
def dkwX9_two_2 : List UInt8 := [54, 5, 21, 5, 7, 162, 0, 88, 21, 5, 5, 108, 54, 6, 21, 5, 5, 112, 54, 7, 42, 27, 27, 4]
abbrev dktX9_two_2 : List UInt8 := dkwX9_two_2 ++ dktX9_two_3
def dkwX9_two_1 : List UInt8 := [16, 24, 184, 0, 126, 167, 0, 4, 2, 54, 4, 21, 4, 153, 0, 10, 42, 21, 4, 182, 0, 36, 172, 3]
abbrev dktX9_two_1 : List UInt8 := dkwX9_two_1 ++ dktX9_two_2
def dkwX9_two_0 : List UInt8 := [42, 27, 182, 0, 100, 153, 0, 26, 42, 28, 182, 0, 100, 153, 0, 18, 27, 28, 159, 0, 13, 29, 3]
abbrev dktX9_two_0 : List UInt8 := dkwX9_two_0 ++ dktX9_two_1
theorem dksX9_two_0 : cX9_two.data.toList.drop 0 = dktX9_two_0 := by decide +kernel
theorem dksX9_two_1 : cX9_two.data.toList.drop 23 = dktX9_two_1 := dk_seg dksX9_two_0 23 rfl rfl
theorem dksX9_two_2 : cX9_two.data.toList.drop 47 = dktX9_two_2 := dk_seg dksX9_two_1 24 rfl rfl
theorem dksX9_two_3 : cX9_two.data.toList.drop 71 = dktX9_two_3 := dk_seg dksX9_two_2 24 rfl rfl
theorem dksX9_two_4 : cX9_two.data.toList.drop 93 = dktX9_two_4 := dk_seg dksX9_two_3 22 rfl rfl
theorem dksX9_two_5 : cX9_two.data.toList.drop 116 = dktX9_two_5 := dk_seg dksX9_two_4 23 rfl rfl
theorem dksX9_two_6 : cX9_two.data.toList.drop 140 = dktX9_two_6 := dk_seg dksX9_two_5 24 rfl rfl
theorem dX9_two_0 : decode cX9_two 0 = .ok (.aload_n 0, 1) := dk_42 (dk_at dksX9_two_0 0 rfl rfl)
theorem dX9_two_1 : decode cX9_two 1 = .ok (.iload_n 1, 1) := dk_27 (dk_at dksX9_two_0 1 rfl rfl)
theorem dX9_two_2 : decode cX9_two 2 = .ok (.invokevirtual 100, 3) := dk_182 0 100 (dk_at dksX9_two_0 2 rfl rfl)
theorem dX9_two_5 : decode cX9_two 5 = .ok (.ifCond .eq 26, 3) := dk_153 0 26 (dk_at dksX9_two_0 5 rfl rfl)
theorem dX9_two_8 : decode cX9_two 8 = .ok (.aload_n 0, 1) := dk_42 (dk_at dksX9_two_0 8 rfl rfl)
theorem dX9_two_9 : decode cX9_two 9 = .ok (.iload_n 2, 1) := dk_28 (dk_at dksX9_two_0 9 rfl rfl)
theorem dX9_two_10 : decode cX9_two 10 = .ok (.invokevirtual 100, 3) := dk_182 0 100 (dk_at dksX9_two_0 10 rfl rfl)
theorem dX9_two_13 : decode cX9_two 13 = .ok (.ifCond .eq 18, 3) := dk_153 0 18 (dk_at dksX9_two_0 13 rfl rfl)
theorem dX9_two_16 : decode cX9_two 16 = .ok (.iload_n 1, 1) := dk_27 (dk_at dksX9_two_0 16 rfl rfl)
theorem dX9_two_17 : decode cX9_two 17 = .ok (.iload_n 2, 1) := dk_28 (dk_at dksX9_two_0 17 rfl rfl)
theorem dX9_two_18 : decode cX9_two 18 = .ok (.if_icmp .eq 13, 3) := dk_159 0 13 (dk_at dksX9_two_0 18 rfl rfl)
theorem dX9_two_21 : decode cX9_two 21 = .ok (.iload_n 3, 1) := dk_29 (dk_at dksX9_two_0 21 rfl rfl)
theorem dX9_two_22 : decode cX9_two 22 = .ok (.iconst 0, 1) := dk_3 (dk_at dksX9_two_0 22 rfl rfl)
theorem dX9_two_23 : decode cX9_two 23 = .ok (.bipush 24, 2) := dk_16 24 (dk_at dksX9_two_1 0 rfl rfl)
theorem dX9_two_25 : decode cX9_two 25 = .ok (.invokestatic 126, 3) := dk_184 0 126 (dk_at dksX9_two_1 2 rfl rfl)
theorem dX9_two_28 : decode cX9_two 28 = .ok (.goto 4, 3) := dk_167 0 4 (dk_at dksX9_two_1 5 rfl rfl)
theorem dX9_two_31 : decode cX9_two 31 = .ok (.iconst (-1), 1) := dk_2 (dk_at dksX9_two_1 8 rfl rfl)
theorem dX9_two_32 : decode cX9_two 32 = .ok (.istore 4, 2) := dk_54 4 (dk_at dksX9_two_1 9 rfl rfl)
theorem dX9_two_34 : decode cX9_two 34 = .ok (.iload 4, 2) := dk_21 4 (dk_at dksX9_two_1 11 rfl rfl)
theorem dX9_two_36 : decode cX9_two 36 = .ok (.ifCond .eq 10, 3) := dk_153 0 10 (dk_at dksX9_two_1 13 rfl rfl)
theorem dX9_two_39 : decode cX9_two 39 = .ok (.aload_n 0, 1) := dk_42 (dk_at dksX9_two_1 16 rfl rfl)
theorem dX9_two_40 : decode cX9_two 40 = .ok (.iload 4, 2) := dk_21 4 (dk_at dksX9_two_1 17 rfl rfl)
theorem dX9_two_42 : decode cX9_two 42 = .ok (.invokevirtual 36, 3) := dk_182 0 36 (dk_at dksX9_two_1 19 rfl rfl)
theorem dX9_two_45 : decode cX9_two 45 = .ok (.ireturn, 1) := dk_172 (dk_at dksX9_two_1 22 rfl rfl)
theorem dX9_two_46 : decode cX9_two 46 = .ok (.iconst 0, 1) := dk_3 (dk_at dksX9_two_1 23 rfl rfl)
theorem dX9_two_47 : decode cX9_two 47 = .ok (.istore 5, 2) := dk_54 5 (dk_at dksX9_two_2 0 rfl rfl)
theorem dX9_two_49 : decode cX9_two 49 = .ok (.iload 5, 2) := dk_21 5 (dk_at dksX9_two_2 2 rfl rfl)
theorem dX9_two_51 : decode cX9_two 51 = .ok (.iconst 4, 1) := dk_7 (dk_at dksX9_two_2 4 rfl rfl)
theorem dX9_two_52 : decode cX9_two 52 = .ok (.if_icmp .ge 88, 3) := dk_162 0 88 (dk_at dksX9_two_2 5 rfl rfl)
theorem dX9_two_55 : decode cX9_two 55 = .ok (.iload 5, 2) := dk_21 5 (dk_at dksX9_two_2 8 rfl rfl)
theorem dX9_two_57 : decode cX9_two 57 = .ok (.iconst 2, 1) := dk_5 (dk_at dksX9_two_2 10 rfl rfl)
theorem dX9_two_58 : decode cX9_two 58 = .ok (.idiv, 1) := dk_108 (dk_at dksX9_two_2 11 rfl rfl)
theorem dX9_two_59 : decode cX9_two 59 = .ok (.istore 6, 2) := dk_54 6 (dk_at dksX9_two_2 12 rfl rfl)
theorem dX9_two_61 : decode cX9_two 61 = .ok (.iload 5, 2) := dk_21 5 (dk_at dksX9_two_2 14 rfl rfl)
theorem dX9_two_63 : decode cX9_two 63 = .ok (.iconst 2, 1) := dk_5 (dk_at dksX9_two_2 16 rfl rfl)
theorem dX9_two_64 : decode cX9_two 64 = .ok (.irem, 1) := dk_112 (dk_at dksX9_two_2 17 rfl rfl)
theorem dX9_two_65 : decode cX9_two 65 = .ok (.istore 7, 2) := dk_54 7 (dk_at dksX9_two_2 18 rfl rfl)
theorem dX9_two_67 : decode cX9_two 67 = .ok (.aload_n 0, 1) := dk_42 (dk_at dksX9_two_2 20 rfl rfl)
theorem dX9_two_68 : decode cX9_two 68 = .ok (.iload_n 1, 1) := dk_27 (dk_at dksX9_two_2 21 rfl rfl)
theorem dX9_two_69 : decode cX9_two 69 = .ok (.iload_n 1, 1) := dk_27 (dk_at dksX9_two_2 22 rfl rfl)
theorem dX9_two_70 : decode cX9_two 70 = .ok (.iconst 1, 1) := dk_4 (dk_at dksX9_two_2 23 rfl rfl)
theorem dX9_two_71 : decode cX9_two 71 = .ok (.iload 6, 2) := dk_21 6 (dk_at dksX9_two_3 0 rfl rfl)
theorem dX9_two_73 : decode cX9_two 73 = .ok (.isub, 1) := dk_100 (dk_at dksX9_two_3 2 rfl rfl)
theorem dX9_two_74 : decode cX9_two 74 = .ok (.iload_n 2, 1) := dk_28 (dk_at dksX9_two_3 3 rfl rfl)
theorem dX9_two_75 : decode cX9_two 75 = .ok (.iload 7, 2) := dk_21 7 (dk_at dksX9_two_3 4 rfl rfl)
theorem dX9_two_77 : decode cX9_two 77 = .ok (.iload_n 3, 1) := dk_29 (dk_at dksX9_two_3 6 rfl rfl)
theorem dX9_two_78 : decode cX9_two 78 = .ok (.invokevirtual 165, 3) := dk_182 0 165 (dk_at dksX9_two_3 7 rfl rfl)
theorem dX9_two_81 : decode cX9_two 81 = .ok (.aload_n 0, 1) := dk_42 (dk_at dksX9_two_3 10 rfl rfl)
theorem dX9_two_82 : decode cX9_two 82 = .ok (.iload_n 1, 1) := dk_27 (dk_at dksX9_two_3 11 rfl rfl)
theorem dX9_two_83 : decode cX9_two 83 = .ok (.iload_n 1, 1) := dk_27 (dk_at dksX9_two_3 12 rfl rfl)
theorem dX9_two_84 : decode cX9_two 84 = .ok (.iload 6, 2) := dk_21 6 (dk_at dksX9_two_3 13 rfl rfl)
theorem dX9_two_86 : decode cX9_two 86 = .ok (.iload_n 2, 1) := dk_28 (dk_at dksX9_two_3 15 rfl rfl)
theorem dX9_two_87 : decode cX9_two 87 = .ok (.iload 7, 2) := dk_21 7 (dk_at dksX9_two_3 16 rfl rfl)
theorem dX9_two_89 : decode cX9_two 89 = .ok (.iload_n 3, 1) := dk_29 (dk_at dksX9_two_3 18 rfl rfl)
theorem dX9_two_90 : decode cX9_two 90 = .ok (.invokevirtual 165, 3) := dk_182 0 165 (dk_at dksX9_two_3 19 rfl rfl)
theorem dX9_two_93 : decode cX9_two 93 = .ok (.if_icmp .gt 41, 3) := dk_163 0 41 (dk_at dksX9_two_4 0 rfl rfl)
theorem dX9_two_96 : decode cX9_two 96 = .ok (.aload_n 0, 1) := dk_42 (dk_at dksX9_two_4 3 rfl rfl)
theorem dX9_two_97 : decode cX9_two 97 = .ok (.iload_n 2, 1) := dk_28 (dk_at dksX9_two_4 4 rfl rfl)
theorem dX9_two_98 : decode cX9_two 98 = .ok (.iload_n 1, 1) := dk_27 (dk_at dksX9_two_4 5 rfl rfl)
theorem dX9_two_99 : decode cX9_two 99 = .ok (.iload 6, 2) := dk_21 6 (dk_at dksX9_two_4 6 rfl rfl)
theorem dX9_two_101 : decode cX9_two 101 = .ok (.iload_n 2, 1) := dk_28 (dk_at dksX9_two_4 8 rfl rfl)
theorem dX9_two_102 : decode cX9_two 102 = .ok (.iconst 1, 1) := dk_4 (dk_at dksX9_two_4 9 rfl rfl)
theorem dX9_two_103 : decode cX9_two 103 = .ok (.iload 7, 2) := dk_21 7 (dk_at dksX9_two_4 10 rfl rfl)
theorem dX9_two_105 : decode cX9_two 105 = .ok (.isub, 1) := dk_100 (dk_at dksX9_two_4 12 rfl rfl)
theorem dX9_two_106 : decode cX9_two 106 = .ok (.iload_n 3, 1) := dk_29 (dk_at dksX9_two_4 13 rfl rfl)
theorem dX9_two_107 : decode cX9_two 107 = .ok (.invokevirtual 165, 3) := dk_182 0 165 (dk_at dksX9_two_4 14 rfl rfl)
theorem dX9_two_110 : decode cX9_two 110 = .ok (.aload_n 0, 1) := dk_42 (dk_at dksX9_two_4 17 rfl rfl)
theorem dX9_two_111 : decode cX9_two 111 = .ok (.iload_n 2, 1) := dk_28 (dk_at dksX9_two_4 18 rfl rfl)
theorem dX9_two_112 : decode cX9_two 112 = .ok (.iload_n 1, 1) := dk_27 (dk_at dksX9_two_4 19 rfl rfl)
theorem dX9_two_113 : decode cX9_two 113 = .ok (.iload 6, 2) := dk_21 6 (dk_at dksX9_two_4 20 rfl rfl)
theorem dX9_two_115 : decode cX9_two 115 = .ok (.iload_n 2, 1) := dk_28 (dk_at dksX9_two_4 22 rfl rfl)
theorem dX9_two_116 : decode cX9_two 116 = .ok (.iload 7, 2) := dk_21 7 (dk_at dksX9_two_5 0 rfl rfl)
theorem dX9_two_118 : decode cX9_two 118 = .ok (.iload_n 3, 1) := dk_29 (dk_at dksX9_two_5 2 rfl rfl)
theorem dX9_two_119 : decode cX9_two 119 = .ok (.invokevirtual 165, 3) := dk_182 0 165 (dk_at dksX9_two_5 3 rfl rfl)
theorem dX9_two_122 : decode cX9_two 122 = .ok (.if_icmp .gt 12, 3) := dk_163 0 12 (dk_at dksX9_two_5 6 rfl rfl)
theorem dX9_two_125 : decode cX9_two 125 = .ok (.bipush 10, 2) := dk_16 10 (dk_at dksX9_two_5 9 rfl rfl)
theorem dX9_two_127 : decode cX9_two 127 = .ok (.iload 6, 2) := dk_21 6 (dk_at dksX9_two_5 11 rfl rfl)
theorem dX9_two_129 : decode cX9_two 129 = .ok (.imul, 1) := dk_104 (dk_at dksX9_two_5 13 rfl rfl)
theorem dX9_two_130 : decode cX9_two 130 = .ok (.iload 7, 2) := dk_21 7 (dk_at dksX9_two_5 14 rfl rfl)
theorem dX9_two_132 : decode cX9_two 132 = .ok (.iadd, 1) := dk_96 (dk_at dksX9_two_5 16 rfl rfl)
theorem dX9_two_133 : decode cX9_two 133 = .ok (.ireturn, 1) := dk_172 (dk_at dksX9_two_5 17 rfl rfl)
theorem dX9_two_134 : decode cX9_two 134 = .ok (.iinc 5 1, 3) := dk_132 5 1 (dk_at dksX9_two_5 18 rfl rfl)
theorem dX9_two_137 : decode cX9_two 137 = .ok (.goto (-88), 3) := dk_167 255 168 (dk_at dksX9_two_5 21 rfl rfl)
theorem dX9_two_140 : decode cX9_two 140 = .ok (.bipush (-9), 2) := dk_16 247 (dk_at dksX9_two_6 0 rfl rfl)
theorem dX9_two_142 : decode cX9_two 142 = .ok (.ireturn, 1) := dk_172 (dk_at dksX9_two_6 2 rfl rfl)
abbrev cX9_hasBy : ByteArray := prog_24_method_66_code
def yX9_hasBy : MethodName := ⟨RX9, "hasBy", "(IIIIII)I"⟩
def dkwX9_hasBy_3 : List UInt8 := [29, 167, 0, 5, 21, 5, 104, 96, 172]
abbrev dktX9_hasBy_3 : List UInt8 := dkwX9_hasBy_3 ++ []
def dkwX9_hasBy_2 : List UInt8 := [180, 0, 13, 21, 6, 184, 0, 104, 42, 180, 0, 13, 27, 6, 184, 0, 52, 46, 5, 27, 28, 160, 0, 7]
abbrev dktX9_hasBy_2 : List UInt8 := dkwX9_hasBy_2 ++ dktX9_hasBy_3
def dkwX9_hasBy_1 : List UInt8 := [184, 0, 52, 4, 79, 21, 5, 4, 160, 0, 15, 42, 180, 0, 13, 21, 4, 7, 184, 0, 52, 4, 79, 42]
abbrev dktX9_hasBy_1 : List UInt8 := dkwX9_hasBy_1 ++ dktX9_hasBy_2
def dkwX9_hasBy_0 : List UInt8 := [42, 180, 0, 9, 42, 180, 0, 13, 184, 0, 110, 29, 4, 160, 0, 14, 42, 180, 0, 13, 28, 7]
abbrev dktX9_hasBy_0 : List UInt8 := dkwX9_hasBy_0 ++ dktX9_hasBy_1
theorem dksX9_hasBy_0 : cX9_hasBy.data.toList.drop 0 = dktX9_hasBy_0 := by decide +kernel
theorem dksX9_hasBy_1 : cX9_hasBy.data.toList.drop 22 = dktX9_hasBy_1 := dk_seg dksX9_hasBy_0 22 rfl rfl
theorem dksX9_hasBy_2 : cX9_hasBy.data.toList.drop 46 = dktX9_hasBy_2 := dk_seg dksX9_hasBy_1 24 rfl rfl
theorem dksX9_hasBy_3 : cX9_hasBy.data.toList.drop 70 = dktX9_hasBy_3 := dk_seg dksX9_hasBy_2 24 rfl rfl
theorem dX9_hasBy_0 : decode cX9_hasBy 0 = .ok (.aload_n 0, 1) := dk_42 (dk_at dksX9_hasBy_0 0 rfl rfl)
theorem dX9_hasBy_1 : decode cX9_hasBy 1 = .ok (.getfield 9, 3) := dk_180 0 9 (dk_at dksX9_hasBy_0 1 rfl rfl)
theorem dX9_hasBy_4 : decode cX9_hasBy 4 = .ok (.aload_n 0, 1) := dk_42 (dk_at dksX9_hasBy_0 4 rfl rfl)
theorem dX9_hasBy_5 : decode cX9_hasBy 5 = .ok (.getfield 13, 3) := dk_180 0 13 (dk_at dksX9_hasBy_0 5 rfl rfl)
theorem dX9_hasBy_8 : decode cX9_hasBy 8 = .ok (.invokestatic 110, 3) := dk_184 0 110 (dk_at dksX9_hasBy_0 8 rfl rfl)
theorem dX9_hasBy_11 : decode cX9_hasBy 11 = .ok (.iload_n 3, 1) := dk_29 (dk_at dksX9_hasBy_0 11 rfl rfl)
theorem dX9_hasBy_12 : decode cX9_hasBy 12 = .ok (.iconst 1, 1) := dk_4 (dk_at dksX9_hasBy_0 12 rfl rfl)
theorem dX9_hasBy_13 : decode cX9_hasBy 13 = .ok (.if_icmp .ne 14, 3) := dk_160 0 14 (dk_at dksX9_hasBy_0 13 rfl rfl)
theorem dX9_hasBy_16 : decode cX9_hasBy 16 = .ok (.aload_n 0, 1) := dk_42 (dk_at dksX9_hasBy_0 16 rfl rfl)
theorem dX9_hasBy_17 : decode cX9_hasBy 17 = .ok (.getfield 13, 3) := dk_180 0 13 (dk_at dksX9_hasBy_0 17 rfl rfl)
theorem dX9_hasBy_20 : decode cX9_hasBy 20 = .ok (.iload_n 2, 1) := dk_28 (dk_at dksX9_hasBy_0 20 rfl rfl)
theorem dX9_hasBy_21 : decode cX9_hasBy 21 = .ok (.iconst 4, 1) := dk_7 (dk_at dksX9_hasBy_0 21 rfl rfl)
theorem dX9_hasBy_22 : decode cX9_hasBy 22 = .ok (.invokestatic 52, 3) := dk_184 0 52 (dk_at dksX9_hasBy_1 0 rfl rfl)
theorem dX9_hasBy_25 : decode cX9_hasBy 25 = .ok (.iconst 1, 1) := dk_4 (dk_at dksX9_hasBy_1 3 rfl rfl)
theorem dX9_hasBy_26 : decode cX9_hasBy 26 = .ok (.iastore, 1) := dk_79 (dk_at dksX9_hasBy_1 4 rfl rfl)
theorem dX9_hasBy_27 : decode cX9_hasBy 27 = .ok (.iload 5, 2) := dk_21 5 (dk_at dksX9_hasBy_1 5 rfl rfl)
theorem dX9_hasBy_29 : decode cX9_hasBy 29 = .ok (.iconst 1, 1) := dk_4 (dk_at dksX9_hasBy_1 7 rfl rfl)
theorem dX9_hasBy_30 : decode cX9_hasBy 30 = .ok (.if_icmp .ne 15, 3) := dk_160 0 15 (dk_at dksX9_hasBy_1 8 rfl rfl)
theorem dX9_hasBy_33 : decode cX9_hasBy 33 = .ok (.aload_n 0, 1) := dk_42 (dk_at dksX9_hasBy_1 11 rfl rfl)
theorem dX9_hasBy_34 : decode cX9_hasBy 34 = .ok (.getfield 13, 3) := dk_180 0 13 (dk_at dksX9_hasBy_1 12 rfl rfl)
theorem dX9_hasBy_37 : decode cX9_hasBy 37 = .ok (.iload 4, 2) := dk_21 4 (dk_at dksX9_hasBy_1 15 rfl rfl)
theorem dX9_hasBy_39 : decode cX9_hasBy 39 = .ok (.iconst 4, 1) := dk_7 (dk_at dksX9_hasBy_1 17 rfl rfl)
theorem dX9_hasBy_40 : decode cX9_hasBy 40 = .ok (.invokestatic 52, 3) := dk_184 0 52 (dk_at dksX9_hasBy_1 18 rfl rfl)
theorem dX9_hasBy_43 : decode cX9_hasBy 43 = .ok (.iconst 1, 1) := dk_4 (dk_at dksX9_hasBy_1 21 rfl rfl)
theorem dX9_hasBy_44 : decode cX9_hasBy 44 = .ok (.iastore, 1) := dk_79 (dk_at dksX9_hasBy_1 22 rfl rfl)
theorem dX9_hasBy_45 : decode cX9_hasBy 45 = .ok (.aload_n 0, 1) := dk_42 (dk_at dksX9_hasBy_1 23 rfl rfl)
theorem dX9_hasBy_46 : decode cX9_hasBy 46 = .ok (.getfield 13, 3) := dk_180 0 13 (dk_at dksX9_hasBy_2 0 rfl rfl)
theorem dX9_hasBy_49 : decode cX9_hasBy 49 = .ok (.iload 6, 2) := dk_21 6 (dk_at dksX9_hasBy_2 3 rfl rfl)
theorem dX9_hasBy_51 : decode cX9_hasBy 51 = .ok (.invokestatic 104, 3) := dk_184 0 104 (dk_at dksX9_hasBy_2 5 rfl rfl)
theorem dX9_hasBy_54 : decode cX9_hasBy 54 = .ok (.aload_n 0, 1) := dk_42 (dk_at dksX9_hasBy_2 8 rfl rfl)
theorem dX9_hasBy_55 : decode cX9_hasBy 55 = .ok (.getfield 13, 3) := dk_180 0 13 (dk_at dksX9_hasBy_2 9 rfl rfl)
theorem dX9_hasBy_58 : decode cX9_hasBy 58 = .ok (.iload_n 1, 1) := dk_27 (dk_at dksX9_hasBy_2 12 rfl rfl)
theorem dX9_hasBy_59 : decode cX9_hasBy 59 = .ok (.iconst 3, 1) := dk_6 (dk_at dksX9_hasBy_2 13 rfl rfl)
theorem dX9_hasBy_60 : decode cX9_hasBy 60 = .ok (.invokestatic 52, 3) := dk_184 0 52 (dk_at dksX9_hasBy_2 14 rfl rfl)
theorem dX9_hasBy_63 : decode cX9_hasBy 63 = .ok (.iaload, 1) := dk_46 (dk_at dksX9_hasBy_2 17 rfl rfl)
theorem dX9_hasBy_64 : decode cX9_hasBy 64 = .ok (.iconst 2, 1) := dk_5 (dk_at dksX9_hasBy_2 18 rfl rfl)
theorem dX9_hasBy_65 : decode cX9_hasBy 65 = .ok (.iload_n 1, 1) := dk_27 (dk_at dksX9_hasBy_2 19 rfl rfl)
theorem dX9_hasBy_66 : decode cX9_hasBy 66 = .ok (.iload_n 2, 1) := dk_28 (dk_at dksX9_hasBy_2 20 rfl rfl)
theorem dX9_hasBy_67 : decode cX9_hasBy 67 = .ok (.if_icmp .ne 7, 3) := dk_160 0 7 (dk_at dksX9_hasBy_2 21 rfl rfl)
theorem dX9_hasBy_70 : decode cX9_hasBy 70 = .ok (.iload_n 3, 1) := dk_29 (dk_at dksX9_hasBy_3 0 rfl rfl)
theorem dX9_hasBy_71 : decode cX9_hasBy 71 = .ok (.goto 5, 3) := dk_167 0 5 (dk_at dksX9_hasBy_3 1 rfl rfl)
theorem dX9_hasBy_74 : decode cX9_hasBy 74 = .ok (.iload 5, 2) := dk_21 5 (dk_at dksX9_hasBy_3 4 rfl rfl)
theorem dX9_hasBy_76 : decode cX9_hasBy 76 = .ok (.imul, 1) := dk_104 (dk_at dksX9_hasBy_3 6 rfl rfl)
theorem dX9_hasBy_77 : decode cX9_hasBy 77 = .ok (.iadd, 1) := dk_96 (dk_at dksX9_hasBy_3 7 rfl rfl)
theorem dX9_hasBy_78 : decode cX9_hasBy 78 = .ok (.ireturn, 1) := dk_172 (dk_at dksX9_hasBy_3 8 rfl rfl)
abbrev cX9_sneeze : ByteArray := prog_24_method_70_code
def yX9_sneeze : MethodName := ⟨RX9, "sneeze", "(IIIII)J"⟩
def dkwX9_sneeze_10 : List UInt8 := [173]
abbrev dktX9_sneeze_10 : List UInt8 := dkwX9_sneeze_10 ++ []
def dkwX9_sneeze_9 : List UInt8 := [22, 11, 167, 0, 4, 9, 97, 55, 6, 132, 10, 1, 167, 255, 143, 22, 6, 22, 8, 21, 5, 184, 0, 177]
abbrev dktX9_sneeze_9 : List UInt8 := dkwX9_sneeze_9 ++ dktX9_sneeze_10
def dkwX9_sneeze_8 : List UInt8 := [132, 13, 1, 167, 255, 200, 22, 6, 42, 180, 0, 13, 27, 6, 184, 0, 52, 46, 21, 4, 161, 0, 8]
abbrev dktX9_sneeze_8 : List UInt8 := dkwX9_sneeze_8 ++ dktX9_sneeze_9
def dkwX9_sneeze_7 : List UInt8 := [180, 0, 13, 21, 10, 21, 13, 184, 0, 48, 153, 0, 9, 4, 27, 120, 167, 0, 4, 3, 184, 0, 73]
abbrev dktX9_sneeze_7 : List UInt8 := dkwX9_sneeze_7 ++ dktX9_sneeze_8
def dkwX9_sneeze_6 : List UInt8 := [21, 10, 21, 13, 184, 0, 48, 153, 0, 7, 10, 167, 0, 7, 29, 4, 100, 133, 105, 55, 11, 42]
abbrev dktX9_sneeze_6 : List UInt8 := dkwX9_sneeze_6 ++ dktX9_sneeze_7
def dkwX9_sneeze_5 : List UInt8 := [55, 11, 42, 180, 0, 9, 42, 180, 0, 13, 184, 0, 110, 3, 54, 13, 21, 13, 28, 162, 0, 56, 22, 11]
abbrev dktX9_sneeze_5 : List UInt8 := dkwX9_sneeze_5 ++ dktX9_sneeze_6
def dkwX9_sneeze_4 : List UInt8 := [29, 133, 105, 55, 8, 132, 10, 1, 167, 255, 240, 3, 54, 10, 21, 10, 4, 28, 120, 162, 0, 111, 10]
abbrev dktX9_sneeze_4 : List UInt8 := dkwX9_sneeze_4 ++ dktX9_sneeze_5
def dkwX9_sneeze_3 : List UInt8 := [42, 16, 254, 182, 0, 173, 173, 9, 55, 6, 10, 55, 8, 3, 54, 10, 21, 10, 28, 162, 0, 16, 22, 8]
abbrev dktX9_sneeze_3 : List UInt8 := dkwX9_sneeze_3 ++ dktX9_sneeze_4
def dkwX9_sneeze_2 : List UInt8 := [21, 4, 16, 99, 164, 0, 10, 42, 16, 250, 182, 0, 173, 173, 21, 5, 3, 4, 184, 0, 40, 154, 0, 10]
abbrev dktX9_sneeze_2 : List UInt8 := dkwX9_sneeze_2 ++ dktX9_sneeze_3
def dkwX9_sneeze_1 : List UInt8 := [5, 162, 0, 10, 42, 16, 252, 182, 0, 173, 173, 28, 16, 7, 163, 0, 16, 29, 16, 20, 163, 0, 10]
abbrev dktX9_sneeze_1 : List UInt8 := dkwX9_sneeze_1 ++ dktX9_sneeze_2
def dkwX9_sneeze_0 : List UInt8 := [42, 27, 182, 0, 100, 154, 0, 9, 42, 2, 182, 0, 173, 173, 28, 155, 0, 13, 21, 4, 155, 0, 8, 29]
abbrev dktX9_sneeze_0 : List UInt8 := dkwX9_sneeze_0 ++ dktX9_sneeze_1
theorem dksX9_sneeze_0 : cX9_sneeze.data.toList.drop 0 = dktX9_sneeze_0 := by decide +kernel
theorem dksX9_sneeze_1 : cX9_sneeze.data.toList.drop 24 = dktX9_sneeze_1 := dk_seg dksX9_sneeze_0 24 rfl rfl
theorem dksX9_sneeze_2 : cX9_sneeze.data.toList.drop 47 = dktX9_sneeze_2 := dk_seg dksX9_sneeze_1 23 rfl rfl
theorem dksX9_sneeze_3 : cX9_sneeze.data.toList.drop 71 = dktX9_sneeze_3 := dk_seg dksX9_sneeze_2 24 rfl rfl
theorem dksX9_sneeze_4 : cX9_sneeze.data.toList.drop 95 = dktX9_sneeze_4 := dk_seg dksX9_sneeze_3 24 rfl rfl
theorem dksX9_sneeze_5 : cX9_sneeze.data.toList.drop 118 = dktX9_sneeze_5 := dk_seg dksX9_sneeze_4 23 rfl rfl
theorem dksX9_sneeze_6 : cX9_sneeze.data.toList.drop 142 = dktX9_sneeze_6 := dk_seg dksX9_sneeze_5 24 rfl rfl
theorem dksX9_sneeze_7 : cX9_sneeze.data.toList.drop 164 = dktX9_sneeze_7 := dk_seg dksX9_sneeze_6 22 rfl rfl
theorem dksX9_sneeze_8 : cX9_sneeze.data.toList.drop 187 = dktX9_sneeze_8 := dk_seg dksX9_sneeze_7 23 rfl rfl
theorem dksX9_sneeze_9 : cX9_sneeze.data.toList.drop 210 = dktX9_sneeze_9 := dk_seg dksX9_sneeze_8 23 rfl rfl
theorem dksX9_sneeze_10 : cX9_sneeze.data.toList.drop 234 = dktX9_sneeze_10 := dk_seg dksX9_sneeze_9 24 rfl rfl
theorem dX9_sneeze_0 : decode cX9_sneeze 0 = .ok (.aload_n 0, 1) := dk_42 (dk_at dksX9_sneeze_0 0 rfl rfl)
theorem dX9_sneeze_1 : decode cX9_sneeze 1 = .ok (.iload_n 1, 1) := dk_27 (dk_at dksX9_sneeze_0 1 rfl rfl)
theorem dX9_sneeze_2 : decode cX9_sneeze 2 = .ok (.invokevirtual 100, 3) := dk_182 0 100 (dk_at dksX9_sneeze_0 2 rfl rfl)
theorem dX9_sneeze_5 : decode cX9_sneeze 5 = .ok (.ifCond .ne 9, 3) := dk_154 0 9 (dk_at dksX9_sneeze_0 5 rfl rfl)
theorem dX9_sneeze_8 : decode cX9_sneeze 8 = .ok (.aload_n 0, 1) := dk_42 (dk_at dksX9_sneeze_0 8 rfl rfl)
theorem dX9_sneeze_9 : decode cX9_sneeze 9 = .ok (.iconst (-1), 1) := dk_2 (dk_at dksX9_sneeze_0 9 rfl rfl)
theorem dX9_sneeze_10 : decode cX9_sneeze 10 = .ok (.invokevirtual 173, 3) := dk_182 0 173 (dk_at dksX9_sneeze_0 10 rfl rfl)
theorem dX9_sneeze_13 : decode cX9_sneeze 13 = .ok (.lreturn, 1) := dk_173 (dk_at dksX9_sneeze_0 13 rfl rfl)
theorem dX9_sneeze_14 : decode cX9_sneeze 14 = .ok (.iload_n 2, 1) := dk_28 (dk_at dksX9_sneeze_0 14 rfl rfl)
theorem dX9_sneeze_15 : decode cX9_sneeze 15 = .ok (.ifCond .lt 13, 3) := dk_155 0 13 (dk_at dksX9_sneeze_0 15 rfl rfl)
theorem dX9_sneeze_18 : decode cX9_sneeze 18 = .ok (.iload 4, 2) := dk_21 4 (dk_at dksX9_sneeze_0 18 rfl rfl)
theorem dX9_sneeze_20 : decode cX9_sneeze 20 = .ok (.ifCond .lt 8, 3) := dk_155 0 8 (dk_at dksX9_sneeze_0 20 rfl rfl)
theorem dX9_sneeze_23 : decode cX9_sneeze 23 = .ok (.iload_n 3, 1) := dk_29 (dk_at dksX9_sneeze_0 23 rfl rfl)
theorem dX9_sneeze_24 : decode cX9_sneeze 24 = .ok (.iconst 2, 1) := dk_5 (dk_at dksX9_sneeze_1 0 rfl rfl)
theorem dX9_sneeze_25 : decode cX9_sneeze 25 = .ok (.if_icmp .ge 10, 3) := dk_162 0 10 (dk_at dksX9_sneeze_1 1 rfl rfl)
theorem dX9_sneeze_28 : decode cX9_sneeze 28 = .ok (.aload_n 0, 1) := dk_42 (dk_at dksX9_sneeze_1 4 rfl rfl)
theorem dX9_sneeze_29 : decode cX9_sneeze 29 = .ok (.bipush (-4), 2) := dk_16 252 (dk_at dksX9_sneeze_1 5 rfl rfl)
theorem dX9_sneeze_31 : decode cX9_sneeze 31 = .ok (.invokevirtual 173, 3) := dk_182 0 173 (dk_at dksX9_sneeze_1 7 rfl rfl)
theorem dX9_sneeze_34 : decode cX9_sneeze 34 = .ok (.lreturn, 1) := dk_173 (dk_at dksX9_sneeze_1 10 rfl rfl)
theorem dX9_sneeze_35 : decode cX9_sneeze 35 = .ok (.iload_n 2, 1) := dk_28 (dk_at dksX9_sneeze_1 11 rfl rfl)
theorem dX9_sneeze_36 : decode cX9_sneeze 36 = .ok (.bipush 7, 2) := dk_16 7 (dk_at dksX9_sneeze_1 12 rfl rfl)
theorem dX9_sneeze_38 : decode cX9_sneeze 38 = .ok (.if_icmp .gt 16, 3) := dk_163 0 16 (dk_at dksX9_sneeze_1 14 rfl rfl)
theorem dX9_sneeze_41 : decode cX9_sneeze 41 = .ok (.iload_n 3, 1) := dk_29 (dk_at dksX9_sneeze_1 17 rfl rfl)
theorem dX9_sneeze_42 : decode cX9_sneeze 42 = .ok (.bipush 20, 2) := dk_16 20 (dk_at dksX9_sneeze_1 18 rfl rfl)
theorem dX9_sneeze_44 : decode cX9_sneeze 44 = .ok (.if_icmp .gt 10, 3) := dk_163 0 10 (dk_at dksX9_sneeze_1 20 rfl rfl)
theorem dX9_sneeze_47 : decode cX9_sneeze 47 = .ok (.iload 4, 2) := dk_21 4 (dk_at dksX9_sneeze_2 0 rfl rfl)
theorem dX9_sneeze_49 : decode cX9_sneeze 49 = .ok (.bipush 99, 2) := dk_16 99 (dk_at dksX9_sneeze_2 2 rfl rfl)
theorem dX9_sneeze_51 : decode cX9_sneeze 51 = .ok (.if_icmp .le 10, 3) := dk_164 0 10 (dk_at dksX9_sneeze_2 4 rfl rfl)
theorem dX9_sneeze_54 : decode cX9_sneeze 54 = .ok (.aload_n 0, 1) := dk_42 (dk_at dksX9_sneeze_2 7 rfl rfl)
theorem dX9_sneeze_55 : decode cX9_sneeze 55 = .ok (.bipush (-6), 2) := dk_16 250 (dk_at dksX9_sneeze_2 8 rfl rfl)
theorem dX9_sneeze_57 : decode cX9_sneeze 57 = .ok (.invokevirtual 173, 3) := dk_182 0 173 (dk_at dksX9_sneeze_2 10 rfl rfl)
theorem dX9_sneeze_60 : decode cX9_sneeze 60 = .ok (.lreturn, 1) := dk_173 (dk_at dksX9_sneeze_2 13 rfl rfl)
theorem dX9_sneeze_61 : decode cX9_sneeze 61 = .ok (.iload 5, 2) := dk_21 5 (dk_at dksX9_sneeze_2 14 rfl rfl)
theorem dX9_sneeze_63 : decode cX9_sneeze 63 = .ok (.iconst 0, 1) := dk_3 (dk_at dksX9_sneeze_2 16 rfl rfl)
theorem dX9_sneeze_64 : decode cX9_sneeze 64 = .ok (.iconst 1, 1) := dk_4 (dk_at dksX9_sneeze_2 17 rfl rfl)
theorem dX9_sneeze_65 : decode cX9_sneeze 65 = .ok (.invokestatic 40, 3) := dk_184 0 40 (dk_at dksX9_sneeze_2 18 rfl rfl)
theorem dX9_sneeze_68 : decode cX9_sneeze 68 = .ok (.ifCond .ne 10, 3) := dk_154 0 10 (dk_at dksX9_sneeze_2 21 rfl rfl)
theorem dX9_sneeze_71 : decode cX9_sneeze 71 = .ok (.aload_n 0, 1) := dk_42 (dk_at dksX9_sneeze_3 0 rfl rfl)
theorem dX9_sneeze_72 : decode cX9_sneeze 72 = .ok (.bipush (-2), 2) := dk_16 254 (dk_at dksX9_sneeze_3 1 rfl rfl)
theorem dX9_sneeze_74 : decode cX9_sneeze 74 = .ok (.invokevirtual 173, 3) := dk_182 0 173 (dk_at dksX9_sneeze_3 3 rfl rfl)
theorem dX9_sneeze_77 : decode cX9_sneeze 77 = .ok (.lreturn, 1) := dk_173 (dk_at dksX9_sneeze_3 6 rfl rfl)
theorem dX9_sneeze_78 : decode cX9_sneeze 78 = .ok (.lconst 0, 1) := dk_9 (dk_at dksX9_sneeze_3 7 rfl rfl)
theorem dX9_sneeze_79 : decode cX9_sneeze 79 = .ok (.lstore 6, 2) := dk_55 6 (dk_at dksX9_sneeze_3 8 rfl rfl)
theorem dX9_sneeze_81 : decode cX9_sneeze 81 = .ok (.lconst 1, 1) := dk_10 (dk_at dksX9_sneeze_3 10 rfl rfl)
theorem dX9_sneeze_82 : decode cX9_sneeze 82 = .ok (.lstore 8, 2) := dk_55 8 (dk_at dksX9_sneeze_3 11 rfl rfl)
theorem dX9_sneeze_84 : decode cX9_sneeze 84 = .ok (.iconst 0, 1) := dk_3 (dk_at dksX9_sneeze_3 13 rfl rfl)
theorem dX9_sneeze_85 : decode cX9_sneeze 85 = .ok (.istore 10, 2) := dk_54 10 (dk_at dksX9_sneeze_3 14 rfl rfl)
theorem dX9_sneeze_87 : decode cX9_sneeze 87 = .ok (.iload 10, 2) := dk_21 10 (dk_at dksX9_sneeze_3 16 rfl rfl)
theorem dX9_sneeze_89 : decode cX9_sneeze 89 = .ok (.iload_n 2, 1) := dk_28 (dk_at dksX9_sneeze_3 18 rfl rfl)
theorem dX9_sneeze_90 : decode cX9_sneeze 90 = .ok (.if_icmp .ge 16, 3) := dk_162 0 16 (dk_at dksX9_sneeze_3 19 rfl rfl)
theorem dX9_sneeze_93 : decode cX9_sneeze 93 = .ok (.lload 8, 2) := dk_22 8 (dk_at dksX9_sneeze_3 22 rfl rfl)
theorem dX9_sneeze_95 : decode cX9_sneeze 95 = .ok (.iload_n 3, 1) := dk_29 (dk_at dksX9_sneeze_4 0 rfl rfl)
theorem dX9_sneeze_96 : decode cX9_sneeze 96 = .ok (.i2l, 1) := dk_133 (dk_at dksX9_sneeze_4 1 rfl rfl)
theorem dX9_sneeze_97 : decode cX9_sneeze 97 = .ok (.lmul, 1) := dk_105 (dk_at dksX9_sneeze_4 2 rfl rfl)
theorem dX9_sneeze_98 : decode cX9_sneeze 98 = .ok (.lstore 8, 2) := dk_55 8 (dk_at dksX9_sneeze_4 3 rfl rfl)
theorem dX9_sneeze_100 : decode cX9_sneeze 100 = .ok (.iinc 10 1, 3) := dk_132 10 1 (dk_at dksX9_sneeze_4 5 rfl rfl)
theorem dX9_sneeze_103 : decode cX9_sneeze 103 = .ok (.goto (-16), 3) := dk_167 255 240 (dk_at dksX9_sneeze_4 8 rfl rfl)
theorem dX9_sneeze_106 : decode cX9_sneeze 106 = .ok (.iconst 0, 1) := dk_3 (dk_at dksX9_sneeze_4 11 rfl rfl)
theorem dX9_sneeze_107 : decode cX9_sneeze 107 = .ok (.istore 10, 2) := dk_54 10 (dk_at dksX9_sneeze_4 12 rfl rfl)
theorem dX9_sneeze_109 : decode cX9_sneeze 109 = .ok (.iload 10, 2) := dk_21 10 (dk_at dksX9_sneeze_4 14 rfl rfl)
theorem dX9_sneeze_111 : decode cX9_sneeze 111 = .ok (.iconst 1, 1) := dk_4 (dk_at dksX9_sneeze_4 16 rfl rfl)
theorem dX9_sneeze_112 : decode cX9_sneeze 112 = .ok (.iload_n 2, 1) := dk_28 (dk_at dksX9_sneeze_4 17 rfl rfl)
theorem dX9_sneeze_113 : decode cX9_sneeze 113 = .ok (.ishl, 1) := dk_120 (dk_at dksX9_sneeze_4 18 rfl rfl)
theorem dX9_sneeze_114 : decode cX9_sneeze 114 = .ok (.if_icmp .ge 111, 3) := dk_162 0 111 (dk_at dksX9_sneeze_4 19 rfl rfl)
theorem dX9_sneeze_117 : decode cX9_sneeze 117 = .ok (.lconst 1, 1) := dk_10 (dk_at dksX9_sneeze_4 22 rfl rfl)
theorem dX9_sneeze_118 : decode cX9_sneeze 118 = .ok (.lstore 11, 2) := dk_55 11 (dk_at dksX9_sneeze_5 0 rfl rfl)
theorem dX9_sneeze_120 : decode cX9_sneeze 120 = .ok (.aload_n 0, 1) := dk_42 (dk_at dksX9_sneeze_5 2 rfl rfl)
theorem dX9_sneeze_121 : decode cX9_sneeze 121 = .ok (.getfield 9, 3) := dk_180 0 9 (dk_at dksX9_sneeze_5 3 rfl rfl)
theorem dX9_sneeze_124 : decode cX9_sneeze 124 = .ok (.aload_n 0, 1) := dk_42 (dk_at dksX9_sneeze_5 6 rfl rfl)
theorem dX9_sneeze_125 : decode cX9_sneeze 125 = .ok (.getfield 13, 3) := dk_180 0 13 (dk_at dksX9_sneeze_5 7 rfl rfl)
theorem dX9_sneeze_128 : decode cX9_sneeze 128 = .ok (.invokestatic 110, 3) := dk_184 0 110 (dk_at dksX9_sneeze_5 10 rfl rfl)
theorem dX9_sneeze_131 : decode cX9_sneeze 131 = .ok (.iconst 0, 1) := dk_3 (dk_at dksX9_sneeze_5 13 rfl rfl)
theorem dX9_sneeze_132 : decode cX9_sneeze 132 = .ok (.istore 13, 2) := dk_54 13 (dk_at dksX9_sneeze_5 14 rfl rfl)
theorem dX9_sneeze_134 : decode cX9_sneeze 134 = .ok (.iload 13, 2) := dk_21 13 (dk_at dksX9_sneeze_5 16 rfl rfl)
theorem dX9_sneeze_136 : decode cX9_sneeze 136 = .ok (.iload_n 2, 1) := dk_28 (dk_at dksX9_sneeze_5 18 rfl rfl)
theorem dX9_sneeze_137 : decode cX9_sneeze 137 = .ok (.if_icmp .ge 56, 3) := dk_162 0 56 (dk_at dksX9_sneeze_5 19 rfl rfl)
theorem dX9_sneeze_140 : decode cX9_sneeze 140 = .ok (.lload 11, 2) := dk_22 11 (dk_at dksX9_sneeze_5 22 rfl rfl)
theorem dX9_sneeze_142 : decode cX9_sneeze 142 = .ok (.iload 10, 2) := dk_21 10 (dk_at dksX9_sneeze_6 0 rfl rfl)
theorem dX9_sneeze_144 : decode cX9_sneeze 144 = .ok (.iload 13, 2) := dk_21 13 (dk_at dksX9_sneeze_6 2 rfl rfl)
theorem dX9_sneeze_146 : decode cX9_sneeze 146 = .ok (.invokestatic 48, 3) := dk_184 0 48 (dk_at dksX9_sneeze_6 4 rfl rfl)
theorem dX9_sneeze_149 : decode cX9_sneeze 149 = .ok (.ifCond .eq 7, 3) := dk_153 0 7 (dk_at dksX9_sneeze_6 7 rfl rfl)
theorem dX9_sneeze_152 : decode cX9_sneeze 152 = .ok (.lconst 1, 1) := dk_10 (dk_at dksX9_sneeze_6 10 rfl rfl)
theorem dX9_sneeze_153 : decode cX9_sneeze 153 = .ok (.goto 7, 3) := dk_167 0 7 (dk_at dksX9_sneeze_6 11 rfl rfl)
theorem dX9_sneeze_156 : decode cX9_sneeze 156 = .ok (.iload_n 3, 1) := dk_29 (dk_at dksX9_sneeze_6 14 rfl rfl)
theorem dX9_sneeze_157 : decode cX9_sneeze 157 = .ok (.iconst 1, 1) := dk_4 (dk_at dksX9_sneeze_6 15 rfl rfl)
theorem dX9_sneeze_158 : decode cX9_sneeze 158 = .ok (.isub, 1) := dk_100 (dk_at dksX9_sneeze_6 16 rfl rfl)
theorem dX9_sneeze_159 : decode cX9_sneeze 159 = .ok (.i2l, 1) := dk_133 (dk_at dksX9_sneeze_6 17 rfl rfl)
theorem dX9_sneeze_160 : decode cX9_sneeze 160 = .ok (.lmul, 1) := dk_105 (dk_at dksX9_sneeze_6 18 rfl rfl)
theorem dX9_sneeze_161 : decode cX9_sneeze 161 = .ok (.lstore 11, 2) := dk_55 11 (dk_at dksX9_sneeze_6 19 rfl rfl)
theorem dX9_sneeze_163 : decode cX9_sneeze 163 = .ok (.aload_n 0, 1) := dk_42 (dk_at dksX9_sneeze_6 21 rfl rfl)
theorem dX9_sneeze_164 : decode cX9_sneeze 164 = .ok (.getfield 13, 3) := dk_180 0 13 (dk_at dksX9_sneeze_7 0 rfl rfl)
theorem dX9_sneeze_167 : decode cX9_sneeze 167 = .ok (.iload 10, 2) := dk_21 10 (dk_at dksX9_sneeze_7 3 rfl rfl)
theorem dX9_sneeze_169 : decode cX9_sneeze 169 = .ok (.iload 13, 2) := dk_21 13 (dk_at dksX9_sneeze_7 5 rfl rfl)
theorem dX9_sneeze_171 : decode cX9_sneeze 171 = .ok (.invokestatic 48, 3) := dk_184 0 48 (dk_at dksX9_sneeze_7 7 rfl rfl)
theorem dX9_sneeze_174 : decode cX9_sneeze 174 = .ok (.ifCond .eq 9, 3) := dk_153 0 9 (dk_at dksX9_sneeze_7 10 rfl rfl)
theorem dX9_sneeze_177 : decode cX9_sneeze 177 = .ok (.iconst 1, 1) := dk_4 (dk_at dksX9_sneeze_7 13 rfl rfl)
theorem dX9_sneeze_178 : decode cX9_sneeze 178 = .ok (.iload_n 1, 1) := dk_27 (dk_at dksX9_sneeze_7 14 rfl rfl)
theorem dX9_sneeze_179 : decode cX9_sneeze 179 = .ok (.ishl, 1) := dk_120 (dk_at dksX9_sneeze_7 15 rfl rfl)
theorem dX9_sneeze_180 : decode cX9_sneeze 180 = .ok (.goto 4, 3) := dk_167 0 4 (dk_at dksX9_sneeze_7 16 rfl rfl)
theorem dX9_sneeze_183 : decode cX9_sneeze 183 = .ok (.iconst 0, 1) := dk_3 (dk_at dksX9_sneeze_7 19 rfl rfl)
theorem dX9_sneeze_184 : decode cX9_sneeze 184 = .ok (.invokestatic 73, 3) := dk_184 0 73 (dk_at dksX9_sneeze_7 20 rfl rfl)
theorem dX9_sneeze_187 : decode cX9_sneeze 187 = .ok (.iinc 13 1, 3) := dk_132 13 1 (dk_at dksX9_sneeze_8 0 rfl rfl)
theorem dX9_sneeze_190 : decode cX9_sneeze 190 = .ok (.goto (-56), 3) := dk_167 255 200 (dk_at dksX9_sneeze_8 3 rfl rfl)
theorem dX9_sneeze_193 : decode cX9_sneeze 193 = .ok (.lload 6, 2) := dk_22 6 (dk_at dksX9_sneeze_8 6 rfl rfl)
theorem dX9_sneeze_195 : decode cX9_sneeze 195 = .ok (.aload_n 0, 1) := dk_42 (dk_at dksX9_sneeze_8 8 rfl rfl)
theorem dX9_sneeze_196 : decode cX9_sneeze 196 = .ok (.getfield 13, 3) := dk_180 0 13 (dk_at dksX9_sneeze_8 9 rfl rfl)
theorem dX9_sneeze_199 : decode cX9_sneeze 199 = .ok (.iload_n 1, 1) := dk_27 (dk_at dksX9_sneeze_8 12 rfl rfl)
theorem dX9_sneeze_200 : decode cX9_sneeze 200 = .ok (.iconst 3, 1) := dk_6 (dk_at dksX9_sneeze_8 13 rfl rfl)
theorem dX9_sneeze_201 : decode cX9_sneeze 201 = .ok (.invokestatic 52, 3) := dk_184 0 52 (dk_at dksX9_sneeze_8 14 rfl rfl)
theorem dX9_sneeze_204 : decode cX9_sneeze 204 = .ok (.iaload, 1) := dk_46 (dk_at dksX9_sneeze_8 17 rfl rfl)
theorem dX9_sneeze_205 : decode cX9_sneeze 205 = .ok (.iload 4, 2) := dk_21 4 (dk_at dksX9_sneeze_8 18 rfl rfl)
theorem dX9_sneeze_207 : decode cX9_sneeze 207 = .ok (.if_icmp .lt 8, 3) := dk_161 0 8 (dk_at dksX9_sneeze_8 20 rfl rfl)
theorem dX9_sneeze_210 : decode cX9_sneeze 210 = .ok (.lload 11, 2) := dk_22 11 (dk_at dksX9_sneeze_9 0 rfl rfl)
theorem dX9_sneeze_212 : decode cX9_sneeze 212 = .ok (.goto 4, 3) := dk_167 0 4 (dk_at dksX9_sneeze_9 2 rfl rfl)
theorem dX9_sneeze_215 : decode cX9_sneeze 215 = .ok (.lconst 0, 1) := dk_9 (dk_at dksX9_sneeze_9 5 rfl rfl)
theorem dX9_sneeze_216 : decode cX9_sneeze 216 = .ok (.ladd, 1) := dk_97 (dk_at dksX9_sneeze_9 6 rfl rfl)
theorem dX9_sneeze_217 : decode cX9_sneeze 217 = .ok (.lstore 6, 2) := dk_55 6 (dk_at dksX9_sneeze_9 7 rfl rfl)
theorem dX9_sneeze_219 : decode cX9_sneeze 219 = .ok (.iinc 10 1, 3) := dk_132 10 1 (dk_at dksX9_sneeze_9 9 rfl rfl)
theorem dX9_sneeze_222 : decode cX9_sneeze 222 = .ok (.goto (-113), 3) := dk_167 255 143 (dk_at dksX9_sneeze_9 12 rfl rfl)
theorem dX9_sneeze_225 : decode cX9_sneeze 225 = .ok (.lload 6, 2) := dk_22 6 (dk_at dksX9_sneeze_9 15 rfl rfl)
theorem dX9_sneeze_227 : decode cX9_sneeze 227 = .ok (.lload 8, 2) := dk_22 8 (dk_at dksX9_sneeze_9 17 rfl rfl)
theorem dX9_sneeze_229 : decode cX9_sneeze 229 = .ok (.iload 5, 2) := dk_21 5 (dk_at dksX9_sneeze_9 19 rfl rfl)
theorem dX9_sneeze_231 : decode cX9_sneeze 231 = .ok (.invokestatic 177, 3) := dk_184 0 177 (dk_at dksX9_sneeze_9 21 rfl rfl)
theorem dX9_sneeze_234 : decode cX9_sneeze 234 = .ok (.lreturn, 1) := dk_173 (dk_at dksX9_sneeze_10 0 rfl rfl)
abbrev cX9_noWide : ByteArray := prog_24_method_6_code
def yX9_noWide : MethodName := ⟨RX9, "noWide", "(I)J"⟩
def dkwX9_noWide_0 : List UInt8 := [20, 0, 34, 42, 27, 182, 0, 36, 133, 101, 173]
abbrev dktX9_noWide_0 : List UInt8 := dkwX9_noWide_0 ++ []
theorem dksX9_noWide_0 : cX9_noWide.data.toList.drop 0 = dktX9_noWide_0 := by decide +kernel
theorem dX9_noWide_0 : decode cX9_noWide 0 = .ok (.ldc2_w 34, 3) := dk_20 0 34 (dk_at dksX9_noWide_0 0 rfl rfl)
theorem dX9_noWide_3 : decode cX9_noWide 3 = .ok (.aload_n 0, 1) := dk_42 (dk_at dksX9_noWide_0 3 rfl rfl)
theorem dX9_noWide_4 : decode cX9_noWide 4 = .ok (.iload_n 1, 1) := dk_27 (dk_at dksX9_noWide_0 4 rfl rfl)
theorem dX9_noWide_5 : decode cX9_noWide 5 = .ok (.invokevirtual 36, 3) := dk_182 0 36 (dk_at dksX9_noWide_0 5 rfl rfl)
theorem dX9_noWide_8 : decode cX9_noWide 8 = .ok (.i2l, 1) := dk_133 (dk_at dksX9_noWide_0 8 rfl rfl)
theorem dX9_noWide_9 : decode cX9_noWide 9 = .ok (.lsub, 1) := dk_101 (dk_at dksX9_noWide_0 9 rfl rfl)
theorem dX9_noWide_10 : decode cX9_noWide 10 = .ok (.lreturn, 1) := dk_173 (dk_at dksX9_noWide_0 10 rfl rfl)
abbrev cX9_partOf : ByteArray := prog_24_method_69_code
def yX9_partOf : MethodName := ⟨RX9, "partOf", "(JJI)J"⟩
def dkwX9_partOf_1 : List UInt8 := [184, 0, 169, 109, 173]
abbrev dktX9_partOf_1 : List UInt8 := dkwX9_partOf_1 ++ []
def dkwX9_partOf_0 : List UInt8 := [30, 9, 148, 154, 0, 7, 21, 4, 133, 173, 21, 4, 154, 0, 7, 30, 167, 0, 4, 32, 30, 32]
abbrev dktX9_partOf_0 : List UInt8 := dkwX9_partOf_0 ++ dktX9_partOf_1
theorem dksX9_partOf_0 : cX9_partOf.data.toList.drop 0 = dktX9_partOf_0 := by decide +kernel
theorem dksX9_partOf_1 : cX9_partOf.data.toList.drop 22 = dktX9_partOf_1 := dk_seg dksX9_partOf_0 22 rfl rfl
theorem dX9_partOf_0 : decode cX9_partOf 0 = .ok (.lload_n 0, 1) := dk_30 (dk_at dksX9_partOf_0 0 rfl rfl)
theorem dX9_partOf_1 : decode cX9_partOf 1 = .ok (.lconst 0, 1) := dk_9 (dk_at dksX9_partOf_0 1 rfl rfl)
theorem dX9_partOf_2 : decode cX9_partOf 2 = .ok (.lcmp, 1) := dk_148 (dk_at dksX9_partOf_0 2 rfl rfl)
theorem dX9_partOf_3 : decode cX9_partOf 3 = .ok (.ifCond .ne 7, 3) := dk_154 0 7 (dk_at dksX9_partOf_0 3 rfl rfl)
theorem dX9_partOf_6 : decode cX9_partOf 6 = .ok (.iload 4, 2) := dk_21 4 (dk_at dksX9_partOf_0 6 rfl rfl)
theorem dX9_partOf_8 : decode cX9_partOf 8 = .ok (.i2l, 1) := dk_133 (dk_at dksX9_partOf_0 8 rfl rfl)
theorem dX9_partOf_9 : decode cX9_partOf 9 = .ok (.lreturn, 1) := dk_173 (dk_at dksX9_partOf_0 9 rfl rfl)
theorem dX9_partOf_10 : decode cX9_partOf 10 = .ok (.iload 4, 2) := dk_21 4 (dk_at dksX9_partOf_0 10 rfl rfl)
theorem dX9_partOf_12 : decode cX9_partOf 12 = .ok (.ifCond .ne 7, 3) := dk_154 0 7 (dk_at dksX9_partOf_0 12 rfl rfl)
theorem dX9_partOf_15 : decode cX9_partOf 15 = .ok (.lload_n 0, 1) := dk_30 (dk_at dksX9_partOf_0 15 rfl rfl)
theorem dX9_partOf_16 : decode cX9_partOf 16 = .ok (.goto 4, 3) := dk_167 0 4 (dk_at dksX9_partOf_0 16 rfl rfl)
theorem dX9_partOf_19 : decode cX9_partOf 19 = .ok (.lload_n 2, 1) := dk_32 (dk_at dksX9_partOf_0 19 rfl rfl)
theorem dX9_partOf_20 : decode cX9_partOf 20 = .ok (.lload_n 0, 1) := dk_30 (dk_at dksX9_partOf_0 20 rfl rfl)
theorem dX9_partOf_21 : decode cX9_partOf 21 = .ok (.lload_n 2, 1) := dk_32 (dk_at dksX9_partOf_0 21 rfl rfl)
theorem dX9_partOf_22 : decode cX9_partOf 22 = .ok (.invokestatic 169, 3) := dk_184 0 169 (dk_at dksX9_partOf_1 0 rfl rfl)
theorem dX9_partOf_25 : decode cX9_partOf 25 = .ok (.ldiv, 1) := dk_109 (dk_at dksX9_partOf_1 3 rfl rfl)
theorem dX9_partOf_26 : decode cX9_partOf 26 = .ok (.lreturn, 1) := dk_173 (dk_at dksX9_partOf_1 4 rfl rfl)
abbrev cX9_gcd : ByteArray := prog_24_method_68_code
def yX9_gcd : MethodName := ⟨RX9, "gcd", "(JJ)J"⟩
def dkwX9_gcd_1 : List UInt8 := [22, 8, 55, 6, 167, 255, 234, 22, 4, 173]
abbrev dktX9_gcd_1 : List UInt8 := dkwX9_gcd_1 ++ []
def dkwX9_gcd_0 : List UInt8 := [30, 55, 4, 32, 55, 6, 22, 6, 9, 148, 153, 0, 21, 22, 4, 22, 6, 113, 55, 8, 22, 6, 55, 4]
abbrev dktX9_gcd_0 : List UInt8 := dkwX9_gcd_0 ++ dktX9_gcd_1
theorem dksX9_gcd_0 : cX9_gcd.data.toList.drop 0 = dktX9_gcd_0 := by decide +kernel
theorem dksX9_gcd_1 : cX9_gcd.data.toList.drop 24 = dktX9_gcd_1 := dk_seg dksX9_gcd_0 24 rfl rfl
theorem dX9_gcd_0 : decode cX9_gcd 0 = .ok (.lload_n 0, 1) := dk_30 (dk_at dksX9_gcd_0 0 rfl rfl)
theorem dX9_gcd_1 : decode cX9_gcd 1 = .ok (.lstore 4, 2) := dk_55 4 (dk_at dksX9_gcd_0 1 rfl rfl)
theorem dX9_gcd_3 : decode cX9_gcd 3 = .ok (.lload_n 2, 1) := dk_32 (dk_at dksX9_gcd_0 3 rfl rfl)
theorem dX9_gcd_4 : decode cX9_gcd 4 = .ok (.lstore 6, 2) := dk_55 6 (dk_at dksX9_gcd_0 4 rfl rfl)
theorem dX9_gcd_6 : decode cX9_gcd 6 = .ok (.lload 6, 2) := dk_22 6 (dk_at dksX9_gcd_0 6 rfl rfl)
theorem dX9_gcd_8 : decode cX9_gcd 8 = .ok (.lconst 0, 1) := dk_9 (dk_at dksX9_gcd_0 8 rfl rfl)
theorem dX9_gcd_9 : decode cX9_gcd 9 = .ok (.lcmp, 1) := dk_148 (dk_at dksX9_gcd_0 9 rfl rfl)
theorem dX9_gcd_10 : decode cX9_gcd 10 = .ok (.ifCond .eq 21, 3) := dk_153 0 21 (dk_at dksX9_gcd_0 10 rfl rfl)
theorem dX9_gcd_13 : decode cX9_gcd 13 = .ok (.lload 4, 2) := dk_22 4 (dk_at dksX9_gcd_0 13 rfl rfl)
theorem dX9_gcd_15 : decode cX9_gcd 15 = .ok (.lload 6, 2) := dk_22 6 (dk_at dksX9_gcd_0 15 rfl rfl)
theorem dX9_gcd_17 : decode cX9_gcd 17 = .ok (.lrem, 1) := dk_113 (dk_at dksX9_gcd_0 17 rfl rfl)
theorem dX9_gcd_18 : decode cX9_gcd 18 = .ok (.lstore 8, 2) := dk_55 8 (dk_at dksX9_gcd_0 18 rfl rfl)
theorem dX9_gcd_20 : decode cX9_gcd 20 = .ok (.lload 6, 2) := dk_22 6 (dk_at dksX9_gcd_0 20 rfl rfl)
theorem dX9_gcd_22 : decode cX9_gcd 22 = .ok (.lstore 4, 2) := dk_55 4 (dk_at dksX9_gcd_0 22 rfl rfl)
theorem dX9_gcd_24 : decode cX9_gcd 24 = .ok (.lload 8, 2) := dk_22 8 (dk_at dksX9_gcd_1 0 rfl rfl)
theorem dX9_gcd_26 : decode cX9_gcd 26 = .ok (.lstore 6, 2) := dk_55 6 (dk_at dksX9_gcd_1 2 rfl rfl)
theorem dX9_gcd_28 : decode cX9_gcd 28 = .ok (.goto (-22), 3) := dk_167 255 234 (dk_at dksX9_gcd_1 4 rfl rfl)
theorem dX9_gcd_31 : decode cX9_gcd 31 = .ok (.lload 4, 2) := dk_22 4 (dk_at dksX9_gcd_1 7 rfl rfl)
theorem dX9_gcd_33 : decode cX9_gcd 33 = .ok (.lreturn, 1) := dk_173 (dk_at dksX9_gcd_1 9 rfl rfl)
abbrev cX9_mean : ByteArray := prog_24_method_71_code
def yX9_mean : MethodName := ⟨RX9, "mean", "(I)J"⟩
def dkwX9_mean_1 : List UInt8 := [27, 184, 0, 177, 167, 0, 9, 42, 16, 254, 182, 0, 173, 173]
abbrev dktX9_mean_1 : List UInt8 := dkwX9_mean_1 ++ []
def dkwX9_mean_0 : List UInt8 := [27, 3, 4, 184, 0, 40, 153, 0, 25, 42, 180, 0, 9, 184, 0, 141, 133, 42, 180, 0, 9, 3, 46, 133]
abbrev dktX9_mean_0 : List UInt8 := dkwX9_mean_0 ++ dktX9_mean_1
theorem dksX9_mean_0 : cX9_mean.data.toList.drop 0 = dktX9_mean_0 := by decide +kernel
theorem dksX9_mean_1 : cX9_mean.data.toList.drop 24 = dktX9_mean_1 := dk_seg dksX9_mean_0 24 rfl rfl
theorem dX9_mean_0 : decode cX9_mean 0 = .ok (.iload_n 1, 1) := dk_27 (dk_at dksX9_mean_0 0 rfl rfl)
theorem dX9_mean_1 : decode cX9_mean 1 = .ok (.iconst 0, 1) := dk_3 (dk_at dksX9_mean_0 1 rfl rfl)
theorem dX9_mean_2 : decode cX9_mean 2 = .ok (.iconst 1, 1) := dk_4 (dk_at dksX9_mean_0 2 rfl rfl)
theorem dX9_mean_3 : decode cX9_mean 3 = .ok (.invokestatic 40, 3) := dk_184 0 40 (dk_at dksX9_mean_0 3 rfl rfl)
theorem dX9_mean_6 : decode cX9_mean 6 = .ok (.ifCond .eq 25, 3) := dk_153 0 25 (dk_at dksX9_mean_0 6 rfl rfl)
theorem dX9_mean_9 : decode cX9_mean 9 = .ok (.aload_n 0, 1) := dk_42 (dk_at dksX9_mean_0 9 rfl rfl)
theorem dX9_mean_10 : decode cX9_mean 10 = .ok (.getfield 9, 3) := dk_180 0 9 (dk_at dksX9_mean_0 10 rfl rfl)
theorem dX9_mean_13 : decode cX9_mean 13 = .ok (.invokestatic 141, 3) := dk_184 0 141 (dk_at dksX9_mean_0 13 rfl rfl)
theorem dX9_mean_16 : decode cX9_mean 16 = .ok (.i2l, 1) := dk_133 (dk_at dksX9_mean_0 16 rfl rfl)
theorem dX9_mean_17 : decode cX9_mean 17 = .ok (.aload_n 0, 1) := dk_42 (dk_at dksX9_mean_0 17 rfl rfl)
theorem dX9_mean_18 : decode cX9_mean 18 = .ok (.getfield 9, 3) := dk_180 0 9 (dk_at dksX9_mean_0 18 rfl rfl)
theorem dX9_mean_21 : decode cX9_mean 21 = .ok (.iconst 0, 1) := dk_3 (dk_at dksX9_mean_0 21 rfl rfl)
theorem dX9_mean_22 : decode cX9_mean 22 = .ok (.iaload, 1) := dk_46 (dk_at dksX9_mean_0 22 rfl rfl)
theorem dX9_mean_23 : decode cX9_mean 23 = .ok (.i2l, 1) := dk_133 (dk_at dksX9_mean_0 23 rfl rfl)
theorem dX9_mean_24 : decode cX9_mean 24 = .ok (.iload_n 1, 1) := dk_27 (dk_at dksX9_mean_1 0 rfl rfl)
theorem dX9_mean_25 : decode cX9_mean 25 = .ok (.invokestatic 177, 3) := dk_184 0 177 (dk_at dksX9_mean_1 1 rfl rfl)
theorem dX9_mean_28 : decode cX9_mean 28 = .ok (.goto 9, 3) := dk_167 0 9 (dk_at dksX9_mean_1 4 rfl rfl)
theorem dX9_mean_31 : decode cX9_mean 31 = .ok (.aload_n 0, 1) := dk_42 (dk_at dksX9_mean_1 7 rfl rfl)
theorem dX9_mean_32 : decode cX9_mean 32 = .ok (.bipush (-2), 2) := dk_16 254 (dk_at dksX9_mean_1 8 rfl rfl)
theorem dX9_mean_34 : decode cX9_mean 34 = .ok (.invokevirtual 173, 3) := dk_182 0 173 (dk_at dksX9_mean_1 10 rfl rfl)
theorem dX9_mean_37 : decode cX9_mean 37 = .ok (.lreturn, 1) := dk_173 (dk_at dksX9_mean_1 13 rfl rfl)
abbrev cX9_whatIs : ByteArray := prog_24_method_72_code
def yX9_whatIs : MethodName := ⟨RX9, "whatIs", "(II)I"⟩
def dkwX9_whatIs_6 : List UInt8 := [167, 0, 4, 3, 128, 62, 132, 4, 1, 167, 255, 139, 29, 172]
abbrev dktX9_whatIs_6 : List UInt8 := dkwX9_whatIs_6 ++ []
def dkwX9_whatIs_5 : List UInt8 := [42, 180, 0, 13, 3, 184, 0, 73, 132, 6, 1, 167, 255, 206, 29, 21, 5, 153, 0, 10, 4, 21, 4, 120]
abbrev dktX9_whatIs_5 : List UInt8 := dkwX9_whatIs_5 ++ dktX9_whatIs_6
def dkwX9_whatIs_4 : List UInt8 := [27, 6, 184, 0, 52, 46, 42, 180, 0, 25, 21, 6, 46, 160, 0, 7, 4, 167, 0, 4, 3, 126, 54, 5]
abbrev dktX9_whatIs_4 : List UInt8 := dkwX9_whatIs_4 ++ dktX9_whatIs_5
def dkwX9_whatIs_3 : List UInt8 := [184, 0, 52, 21, 4, 79, 3, 54, 6, 21, 6, 42, 180, 0, 181, 162, 0, 47, 21, 5, 42, 180, 0, 13]
abbrev dktX9_whatIs_3 : List UInt8 := dkwX9_whatIs_3 ++ dktX9_whatIs_4
def dkwX9_whatIs_2 : List UInt8 := [162, 0, 107, 4, 54, 5, 42, 180, 0, 9, 42, 180, 0, 13, 184, 0, 110, 42, 180, 0, 13, 27, 28]
abbrev dktX9_whatIs_2 : List UInt8 := dkwX9_whatIs_2 ++ dktX9_whatIs_3
def dkwX9_whatIs_1 : List UInt8 := [16, 254, 182, 0, 36, 172, 3, 62, 3, 54, 4, 21, 4, 28, 154, 0, 8, 16, 6, 167, 0, 5, 16, 10]
abbrev dktX9_whatIs_1 : List UInt8 := dkwX9_whatIs_1 ++ dktX9_whatIs_2
def dkwX9_whatIs_0 : List UInt8 := [42, 27, 182, 0, 100, 154, 0, 9, 42, 2, 182, 0, 36, 172, 28, 3, 4, 184, 0, 40, 154, 0, 10, 42]
abbrev dktX9_whatIs_0 : List UInt8 := dkwX9_whatIs_0 ++ dktX9_whatIs_1
theorem dksX9_whatIs_0 : cX9_whatIs.data.toList.drop 0 = dktX9_whatIs_0 := by decide +kernel
theorem dksX9_whatIs_1 : cX9_whatIs.data.toList.drop 24 = dktX9_whatIs_1 := dk_seg dksX9_whatIs_0 24 rfl rfl
theorem dksX9_whatIs_2 : cX9_whatIs.data.toList.drop 48 = dktX9_whatIs_2 := dk_seg dksX9_whatIs_1 24 rfl rfl
theorem dksX9_whatIs_3 : cX9_whatIs.data.toList.drop 71 = dktX9_whatIs_3 := dk_seg dksX9_whatIs_2 23 rfl rfl
theorem dksX9_whatIs_4 : cX9_whatIs.data.toList.drop 95 = dktX9_whatIs_4 := dk_seg dksX9_whatIs_3 24 rfl rfl
theorem dksX9_whatIs_5 : cX9_whatIs.data.toList.drop 119 = dktX9_whatIs_5 := dk_seg dksX9_whatIs_4 24 rfl rfl
theorem dksX9_whatIs_6 : cX9_whatIs.data.toList.drop 143 = dktX9_whatIs_6 := dk_seg dksX9_whatIs_5 24 rfl rfl
theorem dX9_whatIs_0 : decode cX9_whatIs 0 = .ok (.aload_n 0, 1) := dk_42 (dk_at dksX9_whatIs_0 0 rfl rfl)
theorem dX9_whatIs_1 : decode cX9_whatIs 1 = .ok (.iload_n 1, 1) := dk_27 (dk_at dksX9_whatIs_0 1 rfl rfl)
theorem dX9_whatIs_2 : decode cX9_whatIs 2 = .ok (.invokevirtual 100, 3) := dk_182 0 100 (dk_at dksX9_whatIs_0 2 rfl rfl)
theorem dX9_whatIs_5 : decode cX9_whatIs 5 = .ok (.ifCond .ne 9, 3) := dk_154 0 9 (dk_at dksX9_whatIs_0 5 rfl rfl)
theorem dX9_whatIs_8 : decode cX9_whatIs 8 = .ok (.aload_n 0, 1) := dk_42 (dk_at dksX9_whatIs_0 8 rfl rfl)
theorem dX9_whatIs_9 : decode cX9_whatIs 9 = .ok (.iconst (-1), 1) := dk_2 (dk_at dksX9_whatIs_0 9 rfl rfl)
theorem dX9_whatIs_10 : decode cX9_whatIs 10 = .ok (.invokevirtual 36, 3) := dk_182 0 36 (dk_at dksX9_whatIs_0 10 rfl rfl)
theorem dX9_whatIs_13 : decode cX9_whatIs 13 = .ok (.ireturn, 1) := dk_172 (dk_at dksX9_whatIs_0 13 rfl rfl)
theorem dX9_whatIs_14 : decode cX9_whatIs 14 = .ok (.iload_n 2, 1) := dk_28 (dk_at dksX9_whatIs_0 14 rfl rfl)
theorem dX9_whatIs_15 : decode cX9_whatIs 15 = .ok (.iconst 0, 1) := dk_3 (dk_at dksX9_whatIs_0 15 rfl rfl)
theorem dX9_whatIs_16 : decode cX9_whatIs 16 = .ok (.iconst 1, 1) := dk_4 (dk_at dksX9_whatIs_0 16 rfl rfl)
theorem dX9_whatIs_17 : decode cX9_whatIs 17 = .ok (.invokestatic 40, 3) := dk_184 0 40 (dk_at dksX9_whatIs_0 17 rfl rfl)
theorem dX9_whatIs_20 : decode cX9_whatIs 20 = .ok (.ifCond .ne 10, 3) := dk_154 0 10 (dk_at dksX9_whatIs_0 20 rfl rfl)
theorem dX9_whatIs_23 : decode cX9_whatIs 23 = .ok (.aload_n 0, 1) := dk_42 (dk_at dksX9_whatIs_0 23 rfl rfl)
theorem dX9_whatIs_24 : decode cX9_whatIs 24 = .ok (.bipush (-2), 2) := dk_16 254 (dk_at dksX9_whatIs_1 0 rfl rfl)
theorem dX9_whatIs_26 : decode cX9_whatIs 26 = .ok (.invokevirtual 36, 3) := dk_182 0 36 (dk_at dksX9_whatIs_1 2 rfl rfl)
theorem dX9_whatIs_29 : decode cX9_whatIs 29 = .ok (.ireturn, 1) := dk_172 (dk_at dksX9_whatIs_1 5 rfl rfl)
theorem dX9_whatIs_30 : decode cX9_whatIs 30 = .ok (.iconst 0, 1) := dk_3 (dk_at dksX9_whatIs_1 6 rfl rfl)
theorem dX9_whatIs_31 : decode cX9_whatIs 31 = .ok (.istore_n 3, 1) := dk_62 (dk_at dksX9_whatIs_1 7 rfl rfl)
theorem dX9_whatIs_32 : decode cX9_whatIs 32 = .ok (.iconst 0, 1) := dk_3 (dk_at dksX9_whatIs_1 8 rfl rfl)
theorem dX9_whatIs_33 : decode cX9_whatIs 33 = .ok (.istore 4, 2) := dk_54 4 (dk_at dksX9_whatIs_1 9 rfl rfl)
theorem dX9_whatIs_35 : decode cX9_whatIs 35 = .ok (.iload 4, 2) := dk_21 4 (dk_at dksX9_whatIs_1 11 rfl rfl)
theorem dX9_whatIs_37 : decode cX9_whatIs 37 = .ok (.iload_n 2, 1) := dk_28 (dk_at dksX9_whatIs_1 13 rfl rfl)
theorem dX9_whatIs_38 : decode cX9_whatIs 38 = .ok (.ifCond .ne 8, 3) := dk_154 0 8 (dk_at dksX9_whatIs_1 14 rfl rfl)
theorem dX9_whatIs_41 : decode cX9_whatIs 41 = .ok (.bipush 6, 2) := dk_16 6 (dk_at dksX9_whatIs_1 17 rfl rfl)
theorem dX9_whatIs_43 : decode cX9_whatIs 43 = .ok (.goto 5, 3) := dk_167 0 5 (dk_at dksX9_whatIs_1 19 rfl rfl)
theorem dX9_whatIs_46 : decode cX9_whatIs 46 = .ok (.bipush 10, 2) := dk_16 10 (dk_at dksX9_whatIs_1 22 rfl rfl)
theorem dX9_whatIs_48 : decode cX9_whatIs 48 = .ok (.if_icmp .ge 107, 3) := dk_162 0 107 (dk_at dksX9_whatIs_2 0 rfl rfl)
theorem dX9_whatIs_51 : decode cX9_whatIs 51 = .ok (.iconst 1, 1) := dk_4 (dk_at dksX9_whatIs_2 3 rfl rfl)
theorem dX9_whatIs_52 : decode cX9_whatIs 52 = .ok (.istore 5, 2) := dk_54 5 (dk_at dksX9_whatIs_2 4 rfl rfl)
theorem dX9_whatIs_54 : decode cX9_whatIs 54 = .ok (.aload_n 0, 1) := dk_42 (dk_at dksX9_whatIs_2 6 rfl rfl)
theorem dX9_whatIs_55 : decode cX9_whatIs 55 = .ok (.getfield 9, 3) := dk_180 0 9 (dk_at dksX9_whatIs_2 7 rfl rfl)
theorem dX9_whatIs_58 : decode cX9_whatIs 58 = .ok (.aload_n 0, 1) := dk_42 (dk_at dksX9_whatIs_2 10 rfl rfl)
theorem dX9_whatIs_59 : decode cX9_whatIs 59 = .ok (.getfield 13, 3) := dk_180 0 13 (dk_at dksX9_whatIs_2 11 rfl rfl)
theorem dX9_whatIs_62 : decode cX9_whatIs 62 = .ok (.invokestatic 110, 3) := dk_184 0 110 (dk_at dksX9_whatIs_2 14 rfl rfl)
theorem dX9_whatIs_65 : decode cX9_whatIs 65 = .ok (.aload_n 0, 1) := dk_42 (dk_at dksX9_whatIs_2 17 rfl rfl)
theorem dX9_whatIs_66 : decode cX9_whatIs 66 = .ok (.getfield 13, 3) := dk_180 0 13 (dk_at dksX9_whatIs_2 18 rfl rfl)
theorem dX9_whatIs_69 : decode cX9_whatIs 69 = .ok (.iload_n 1, 1) := dk_27 (dk_at dksX9_whatIs_2 21 rfl rfl)
theorem dX9_whatIs_70 : decode cX9_whatIs 70 = .ok (.iload_n 2, 1) := dk_28 (dk_at dksX9_whatIs_2 22 rfl rfl)
theorem dX9_whatIs_71 : decode cX9_whatIs 71 = .ok (.invokestatic 52, 3) := dk_184 0 52 (dk_at dksX9_whatIs_3 0 rfl rfl)
theorem dX9_whatIs_74 : decode cX9_whatIs 74 = .ok (.iload 4, 2) := dk_21 4 (dk_at dksX9_whatIs_3 3 rfl rfl)
theorem dX9_whatIs_76 : decode cX9_whatIs 76 = .ok (.iastore, 1) := dk_79 (dk_at dksX9_whatIs_3 5 rfl rfl)
theorem dX9_whatIs_77 : decode cX9_whatIs 77 = .ok (.iconst 0, 1) := dk_3 (dk_at dksX9_whatIs_3 6 rfl rfl)
theorem dX9_whatIs_78 : decode cX9_whatIs 78 = .ok (.istore 6, 2) := dk_54 6 (dk_at dksX9_whatIs_3 7 rfl rfl)
theorem dX9_whatIs_80 : decode cX9_whatIs 80 = .ok (.iload 6, 2) := dk_21 6 (dk_at dksX9_whatIs_3 9 rfl rfl)
theorem dX9_whatIs_82 : decode cX9_whatIs 82 = .ok (.aload_n 0, 1) := dk_42 (dk_at dksX9_whatIs_3 11 rfl rfl)
theorem dX9_whatIs_83 : decode cX9_whatIs 83 = .ok (.getfield 181, 3) := dk_180 0 181 (dk_at dksX9_whatIs_3 12 rfl rfl)
theorem dX9_whatIs_86 : decode cX9_whatIs 86 = .ok (.if_icmp .ge 47, 3) := dk_162 0 47 (dk_at dksX9_whatIs_3 15 rfl rfl)
theorem dX9_whatIs_89 : decode cX9_whatIs 89 = .ok (.iload 5, 2) := dk_21 5 (dk_at dksX9_whatIs_3 18 rfl rfl)
theorem dX9_whatIs_91 : decode cX9_whatIs 91 = .ok (.aload_n 0, 1) := dk_42 (dk_at dksX9_whatIs_3 20 rfl rfl)
theorem dX9_whatIs_92 : decode cX9_whatIs 92 = .ok (.getfield 13, 3) := dk_180 0 13 (dk_at dksX9_whatIs_3 21 rfl rfl)
theorem dX9_whatIs_95 : decode cX9_whatIs 95 = .ok (.iload_n 1, 1) := dk_27 (dk_at dksX9_whatIs_4 0 rfl rfl)
theorem dX9_whatIs_96 : decode cX9_whatIs 96 = .ok (.iconst 3, 1) := dk_6 (dk_at dksX9_whatIs_4 1 rfl rfl)
theorem dX9_whatIs_97 : decode cX9_whatIs 97 = .ok (.invokestatic 52, 3) := dk_184 0 52 (dk_at dksX9_whatIs_4 2 rfl rfl)
theorem dX9_whatIs_100 : decode cX9_whatIs 100 = .ok (.iaload, 1) := dk_46 (dk_at dksX9_whatIs_4 5 rfl rfl)
theorem dX9_whatIs_101 : decode cX9_whatIs 101 = .ok (.aload_n 0, 1) := dk_42 (dk_at dksX9_whatIs_4 6 rfl rfl)
theorem dX9_whatIs_102 : decode cX9_whatIs 102 = .ok (.getfield 25, 3) := dk_180 0 25 (dk_at dksX9_whatIs_4 7 rfl rfl)
theorem dX9_whatIs_105 : decode cX9_whatIs 105 = .ok (.iload 6, 2) := dk_21 6 (dk_at dksX9_whatIs_4 10 rfl rfl)
theorem dX9_whatIs_107 : decode cX9_whatIs 107 = .ok (.iaload, 1) := dk_46 (dk_at dksX9_whatIs_4 12 rfl rfl)
theorem dX9_whatIs_108 : decode cX9_whatIs 108 = .ok (.if_icmp .ne 7, 3) := dk_160 0 7 (dk_at dksX9_whatIs_4 13 rfl rfl)
theorem dX9_whatIs_111 : decode cX9_whatIs 111 = .ok (.iconst 1, 1) := dk_4 (dk_at dksX9_whatIs_4 16 rfl rfl)
theorem dX9_whatIs_112 : decode cX9_whatIs 112 = .ok (.goto 4, 3) := dk_167 0 4 (dk_at dksX9_whatIs_4 17 rfl rfl)
theorem dX9_whatIs_115 : decode cX9_whatIs 115 = .ok (.iconst 0, 1) := dk_3 (dk_at dksX9_whatIs_4 20 rfl rfl)
theorem dX9_whatIs_116 : decode cX9_whatIs 116 = .ok (.iand, 1) := dk_126 (dk_at dksX9_whatIs_4 21 rfl rfl)
theorem dX9_whatIs_117 : decode cX9_whatIs 117 = .ok (.istore 5, 2) := dk_54 5 (dk_at dksX9_whatIs_4 22 rfl rfl)
theorem dX9_whatIs_119 : decode cX9_whatIs 119 = .ok (.aload_n 0, 1) := dk_42 (dk_at dksX9_whatIs_5 0 rfl rfl)
theorem dX9_whatIs_120 : decode cX9_whatIs 120 = .ok (.getfield 13, 3) := dk_180 0 13 (dk_at dksX9_whatIs_5 1 rfl rfl)
theorem dX9_whatIs_123 : decode cX9_whatIs 123 = .ok (.iconst 0, 1) := dk_3 (dk_at dksX9_whatIs_5 4 rfl rfl)
theorem dX9_whatIs_124 : decode cX9_whatIs 124 = .ok (.invokestatic 73, 3) := dk_184 0 73 (dk_at dksX9_whatIs_5 5 rfl rfl)
theorem dX9_whatIs_127 : decode cX9_whatIs 127 = .ok (.iinc 6 1, 3) := dk_132 6 1 (dk_at dksX9_whatIs_5 8 rfl rfl)
theorem dX9_whatIs_130 : decode cX9_whatIs 130 = .ok (.goto (-50), 3) := dk_167 255 206 (dk_at dksX9_whatIs_5 11 rfl rfl)
theorem dX9_whatIs_133 : decode cX9_whatIs 133 = .ok (.iload_n 3, 1) := dk_29 (dk_at dksX9_whatIs_5 14 rfl rfl)
theorem dX9_whatIs_134 : decode cX9_whatIs 134 = .ok (.iload 5, 2) := dk_21 5 (dk_at dksX9_whatIs_5 15 rfl rfl)
theorem dX9_whatIs_136 : decode cX9_whatIs 136 = .ok (.ifCond .eq 10, 3) := dk_153 0 10 (dk_at dksX9_whatIs_5 17 rfl rfl)
theorem dX9_whatIs_139 : decode cX9_whatIs 139 = .ok (.iconst 1, 1) := dk_4 (dk_at dksX9_whatIs_5 20 rfl rfl)
theorem dX9_whatIs_140 : decode cX9_whatIs 140 = .ok (.iload 4, 2) := dk_21 4 (dk_at dksX9_whatIs_5 21 rfl rfl)
theorem dX9_whatIs_142 : decode cX9_whatIs 142 = .ok (.ishl, 1) := dk_120 (dk_at dksX9_whatIs_5 23 rfl rfl)
theorem dX9_whatIs_143 : decode cX9_whatIs 143 = .ok (.goto 4, 3) := dk_167 0 4 (dk_at dksX9_whatIs_6 0 rfl rfl)
theorem dX9_whatIs_146 : decode cX9_whatIs 146 = .ok (.iconst 0, 1) := dk_3 (dk_at dksX9_whatIs_6 3 rfl rfl)
theorem dX9_whatIs_147 : decode cX9_whatIs 147 = .ok (.ior, 1) := dk_128 (dk_at dksX9_whatIs_6 4 rfl rfl)
theorem dX9_whatIs_148 : decode cX9_whatIs 148 = .ok (.istore_n 3, 1) := dk_62 (dk_at dksX9_whatIs_6 5 rfl rfl)
theorem dX9_whatIs_149 : decode cX9_whatIs 149 = .ok (.iinc 4 1, 3) := dk_132 4 1 (dk_at dksX9_whatIs_6 6 rfl rfl)
theorem dX9_whatIs_152 : decode cX9_whatIs 152 = .ok (.goto (-117), 3) := dk_167 255 139 (dk_at dksX9_whatIs_6 9 rfl rfl)
theorem dX9_whatIs_155 : decode cX9_whatIs 155 = .ok (.iload_n 3, 1) := dk_29 (dk_at dksX9_whatIs_6 12 rfl rfl)
theorem dX9_whatIs_156 : decode cX9_whatIs 156 = .ok (.ireturn, 1) := dk_172 (dk_at dksX9_whatIs_6 13 rfl rfl)
abbrev cX9_row : ByteArray := prog_24_method_73_code
def yX9_row : MethodName := ⟨RX9, "row", "(I)I"⟩
def dkwX9_row_2 : List UInt8 := [180, 0, 181, 4, 96, 181, 0, 181, 42, 180, 0, 181, 172]
abbrev dktX9_row_2 : List UInt8 := dkwX9_row_2 ++ []
def dkwX9_row_1 : List UInt8 := [28, 153, 0, 9, 42, 28, 182, 0, 36, 172, 42, 180, 0, 25, 42, 180, 0, 181, 27, 79, 42, 89]
abbrev dktX9_row_1 : List UInt8 := dkwX9_row_1 ++ dktX9_row_2
def dkwX9_row_0 : List UInt8 := [27, 3, 16, 99, 184, 0, 126, 61, 28, 154, 0, 15, 42, 180, 0, 181, 16, 16, 160, 0, 6, 16, 250, 61]
abbrev dktX9_row_0 : List UInt8 := dkwX9_row_0 ++ dktX9_row_1
theorem dksX9_row_0 : cX9_row.data.toList.drop 0 = dktX9_row_0 := by decide +kernel
theorem dksX9_row_1 : cX9_row.data.toList.drop 24 = dktX9_row_1 := dk_seg dksX9_row_0 24 rfl rfl
theorem dksX9_row_2 : cX9_row.data.toList.drop 46 = dktX9_row_2 := dk_seg dksX9_row_1 22 rfl rfl
theorem dX9_row_0 : decode cX9_row 0 = .ok (.iload_n 1, 1) := dk_27 (dk_at dksX9_row_0 0 rfl rfl)
theorem dX9_row_1 : decode cX9_row 1 = .ok (.iconst 0, 1) := dk_3 (dk_at dksX9_row_0 1 rfl rfl)
theorem dX9_row_2 : decode cX9_row 2 = .ok (.bipush 99, 2) := dk_16 99 (dk_at dksX9_row_0 2 rfl rfl)
theorem dX9_row_4 : decode cX9_row 4 = .ok (.invokestatic 126, 3) := dk_184 0 126 (dk_at dksX9_row_0 4 rfl rfl)
theorem dX9_row_7 : decode cX9_row 7 = .ok (.istore_n 2, 1) := dk_61 (dk_at dksX9_row_0 7 rfl rfl)
theorem dX9_row_8 : decode cX9_row 8 = .ok (.iload_n 2, 1) := dk_28 (dk_at dksX9_row_0 8 rfl rfl)
theorem dX9_row_9 : decode cX9_row 9 = .ok (.ifCond .ne 15, 3) := dk_154 0 15 (dk_at dksX9_row_0 9 rfl rfl)
theorem dX9_row_12 : decode cX9_row 12 = .ok (.aload_n 0, 1) := dk_42 (dk_at dksX9_row_0 12 rfl rfl)
theorem dX9_row_13 : decode cX9_row 13 = .ok (.getfield 181, 3) := dk_180 0 181 (dk_at dksX9_row_0 13 rfl rfl)
theorem dX9_row_16 : decode cX9_row 16 = .ok (.bipush 16, 2) := dk_16 16 (dk_at dksX9_row_0 16 rfl rfl)
theorem dX9_row_18 : decode cX9_row 18 = .ok (.if_icmp .ne 6, 3) := dk_160 0 6 (dk_at dksX9_row_0 18 rfl rfl)
theorem dX9_row_21 : decode cX9_row 21 = .ok (.bipush (-6), 2) := dk_16 250 (dk_at dksX9_row_0 21 rfl rfl)
theorem dX9_row_23 : decode cX9_row 23 = .ok (.istore_n 2, 1) := dk_61 (dk_at dksX9_row_0 23 rfl rfl)
theorem dX9_row_24 : decode cX9_row 24 = .ok (.iload_n 2, 1) := dk_28 (dk_at dksX9_row_1 0 rfl rfl)
theorem dX9_row_25 : decode cX9_row 25 = .ok (.ifCond .eq 9, 3) := dk_153 0 9 (dk_at dksX9_row_1 1 rfl rfl)
theorem dX9_row_28 : decode cX9_row 28 = .ok (.aload_n 0, 1) := dk_42 (dk_at dksX9_row_1 4 rfl rfl)
theorem dX9_row_29 : decode cX9_row 29 = .ok (.iload_n 2, 1) := dk_28 (dk_at dksX9_row_1 5 rfl rfl)
theorem dX9_row_30 : decode cX9_row 30 = .ok (.invokevirtual 36, 3) := dk_182 0 36 (dk_at dksX9_row_1 6 rfl rfl)
theorem dX9_row_33 : decode cX9_row 33 = .ok (.ireturn, 1) := dk_172 (dk_at dksX9_row_1 9 rfl rfl)
theorem dX9_row_34 : decode cX9_row 34 = .ok (.aload_n 0, 1) := dk_42 (dk_at dksX9_row_1 10 rfl rfl)
theorem dX9_row_35 : decode cX9_row 35 = .ok (.getfield 25, 3) := dk_180 0 25 (dk_at dksX9_row_1 11 rfl rfl)
theorem dX9_row_38 : decode cX9_row 38 = .ok (.aload_n 0, 1) := dk_42 (dk_at dksX9_row_1 14 rfl rfl)
theorem dX9_row_39 : decode cX9_row 39 = .ok (.getfield 181, 3) := dk_180 0 181 (dk_at dksX9_row_1 15 rfl rfl)
theorem dX9_row_42 : decode cX9_row 42 = .ok (.iload_n 1, 1) := dk_27 (dk_at dksX9_row_1 18 rfl rfl)
theorem dX9_row_43 : decode cX9_row 43 = .ok (.iastore, 1) := dk_79 (dk_at dksX9_row_1 19 rfl rfl)
theorem dX9_row_44 : decode cX9_row 44 = .ok (.aload_n 0, 1) := dk_42 (dk_at dksX9_row_1 20 rfl rfl)
theorem dX9_row_45 : decode cX9_row 45 = .ok (.dup, 1) := dk_89 (dk_at dksX9_row_1 21 rfl rfl)
theorem dX9_row_46 : decode cX9_row 46 = .ok (.getfield 181, 3) := dk_180 0 181 (dk_at dksX9_row_2 0 rfl rfl)
theorem dX9_row_49 : decode cX9_row 49 = .ok (.iconst 1, 1) := dk_4 (dk_at dksX9_row_2 3 rfl rfl)
theorem dX9_row_50 : decode cX9_row 50 = .ok (.iadd, 1) := dk_96 (dk_at dksX9_row_2 4 rfl rfl)
theorem dX9_row_51 : decode cX9_row 51 = .ok (.putfield 181, 3) := dk_181 0 181 (dk_at dksX9_row_2 5 rfl rfl)
theorem dX9_row_54 : decode cX9_row 54 = .ok (.aload_n 0, 1) := dk_42 (dk_at dksX9_row_2 8 rfl rfl)
theorem dX9_row_55 : decode cX9_row 55 = .ok (.getfield 181, 3) := dk_180 0 181 (dk_at dksX9_row_2 9 rfl rfl)
theorem dX9_row_58 : decode cX9_row 58 = .ok (.ireturn, 1) := dk_172 (dk_at dksX9_row_2 12 rfl rfl)
abbrev cX9_judge : ByteArray := prog_24_method_74_code
def yX9_judge : MethodName := ⟨RX9, "judge", "()I"⟩
def dkwX9_judge_2 : List UInt8 := [132, 2, 1, 167, 255, 219, 16, 247, 172]
abbrev dktX9_judge_2 : List UInt8 := dkwX9_judge_2 ++ []
def dkwX9_judge_1 : List UInt8 := [153, 0, 22, 42, 180, 0, 9, 28, 5, 184, 0, 52, 46, 42, 180, 0, 25, 28, 46, 159, 0, 5, 28, 172]
abbrev dktX9_judge_1 : List UInt8 := dkwX9_judge_1 ++ dktX9_judge_2
def dkwX9_judge_0 : List UInt8 := [42, 180, 0, 181, 60, 42, 3, 181, 0, 181, 3, 61, 28, 27, 162, 0, 38, 42, 28, 182, 0, 100]
abbrev dktX9_judge_0 : List UInt8 := dkwX9_judge_0 ++ dktX9_judge_1
theorem dksX9_judge_0 : cX9_judge.data.toList.drop 0 = dktX9_judge_0 := by decide +kernel
theorem dksX9_judge_1 : cX9_judge.data.toList.drop 22 = dktX9_judge_1 := dk_seg dksX9_judge_0 22 rfl rfl
theorem dksX9_judge_2 : cX9_judge.data.toList.drop 46 = dktX9_judge_2 := dk_seg dksX9_judge_1 24 rfl rfl
theorem dX9_judge_0 : decode cX9_judge 0 = .ok (.aload_n 0, 1) := dk_42 (dk_at dksX9_judge_0 0 rfl rfl)
theorem dX9_judge_1 : decode cX9_judge 1 = .ok (.getfield 181, 3) := dk_180 0 181 (dk_at dksX9_judge_0 1 rfl rfl)
theorem dX9_judge_4 : decode cX9_judge 4 = .ok (.istore_n 1, 1) := dk_60 (dk_at dksX9_judge_0 4 rfl rfl)
theorem dX9_judge_5 : decode cX9_judge 5 = .ok (.aload_n 0, 1) := dk_42 (dk_at dksX9_judge_0 5 rfl rfl)
theorem dX9_judge_6 : decode cX9_judge 6 = .ok (.iconst 0, 1) := dk_3 (dk_at dksX9_judge_0 6 rfl rfl)
theorem dX9_judge_7 : decode cX9_judge 7 = .ok (.putfield 181, 3) := dk_181 0 181 (dk_at dksX9_judge_0 7 rfl rfl)
theorem dX9_judge_10 : decode cX9_judge 10 = .ok (.iconst 0, 1) := dk_3 (dk_at dksX9_judge_0 10 rfl rfl)
theorem dX9_judge_11 : decode cX9_judge 11 = .ok (.istore_n 2, 1) := dk_61 (dk_at dksX9_judge_0 11 rfl rfl)
theorem dX9_judge_12 : decode cX9_judge 12 = .ok (.iload_n 2, 1) := dk_28 (dk_at dksX9_judge_0 12 rfl rfl)
theorem dX9_judge_13 : decode cX9_judge 13 = .ok (.iload_n 1, 1) := dk_27 (dk_at dksX9_judge_0 13 rfl rfl)
theorem dX9_judge_14 : decode cX9_judge 14 = .ok (.if_icmp .ge 38, 3) := dk_162 0 38 (dk_at dksX9_judge_0 14 rfl rfl)
theorem dX9_judge_17 : decode cX9_judge 17 = .ok (.aload_n 0, 1) := dk_42 (dk_at dksX9_judge_0 17 rfl rfl)
theorem dX9_judge_18 : decode cX9_judge 18 = .ok (.iload_n 2, 1) := dk_28 (dk_at dksX9_judge_0 18 rfl rfl)
theorem dX9_judge_19 : decode cX9_judge 19 = .ok (.invokevirtual 100, 3) := dk_182 0 100 (dk_at dksX9_judge_0 19 rfl rfl)
theorem dX9_judge_22 : decode cX9_judge 22 = .ok (.ifCond .eq 22, 3) := dk_153 0 22 (dk_at dksX9_judge_1 0 rfl rfl)
theorem dX9_judge_25 : decode cX9_judge 25 = .ok (.aload_n 0, 1) := dk_42 (dk_at dksX9_judge_1 3 rfl rfl)
theorem dX9_judge_26 : decode cX9_judge 26 = .ok (.getfield 9, 3) := dk_180 0 9 (dk_at dksX9_judge_1 4 rfl rfl)
theorem dX9_judge_29 : decode cX9_judge 29 = .ok (.iload_n 2, 1) := dk_28 (dk_at dksX9_judge_1 7 rfl rfl)
theorem dX9_judge_30 : decode cX9_judge 30 = .ok (.iconst 2, 1) := dk_5 (dk_at dksX9_judge_1 8 rfl rfl)
theorem dX9_judge_31 : decode cX9_judge 31 = .ok (.invokestatic 52, 3) := dk_184 0 52 (dk_at dksX9_judge_1 9 rfl rfl)
theorem dX9_judge_34 : decode cX9_judge 34 = .ok (.iaload, 1) := dk_46 (dk_at dksX9_judge_1 12 rfl rfl)
theorem dX9_judge_35 : decode cX9_judge 35 = .ok (.aload_n 0, 1) := dk_42 (dk_at dksX9_judge_1 13 rfl rfl)
theorem dX9_judge_36 : decode cX9_judge 36 = .ok (.getfield 25, 3) := dk_180 0 25 (dk_at dksX9_judge_1 14 rfl rfl)
theorem dX9_judge_39 : decode cX9_judge 39 = .ok (.iload_n 2, 1) := dk_28 (dk_at dksX9_judge_1 17 rfl rfl)
theorem dX9_judge_40 : decode cX9_judge 40 = .ok (.iaload, 1) := dk_46 (dk_at dksX9_judge_1 18 rfl rfl)
theorem dX9_judge_41 : decode cX9_judge 41 = .ok (.if_icmp .eq 5, 3) := dk_159 0 5 (dk_at dksX9_judge_1 19 rfl rfl)
theorem dX9_judge_44 : decode cX9_judge 44 = .ok (.iload_n 2, 1) := dk_28 (dk_at dksX9_judge_1 22 rfl rfl)
theorem dX9_judge_45 : decode cX9_judge 45 = .ok (.ireturn, 1) := dk_172 (dk_at dksX9_judge_1 23 rfl rfl)
theorem dX9_judge_46 : decode cX9_judge 46 = .ok (.iinc 2 1, 3) := dk_132 2 1 (dk_at dksX9_judge_2 0 rfl rfl)
theorem dX9_judge_49 : decode cX9_judge 49 = .ok (.goto (-37), 3) := dk_167 255 219 (dk_at dksX9_judge_2 3 rfl rfl)
theorem dX9_judge_52 : decode cX9_judge 52 = .ok (.bipush (-9), 2) := dk_16 247 (dk_at dksX9_judge_2 6 rfl rfl)
theorem dX9_judge_54 : decode cX9_judge 54 = .ok (.ireturn, 1) := dk_172 (dk_at dksX9_judge_2 8 rfl rfl)
abbrev cX9_clear : ByteArray := prog_24_method_75_code
def yX9_clear : MethodName := ⟨RX9, "clear", "()I"⟩
def dkwX9_clear_0 : List UInt8 := [42, 180, 0, 181, 60, 42, 3, 181, 0, 181, 27, 172]
abbrev dktX9_clear_0 : List UInt8 := dkwX9_clear_0 ++ []
theorem dksX9_clear_0 : cX9_clear.data.toList.drop 0 = dktX9_clear_0 := by decide +kernel
theorem dX9_clear_0 : decode cX9_clear 0 = .ok (.aload_n 0, 1) := dk_42 (dk_at dksX9_clear_0 0 rfl rfl)
theorem dX9_clear_1 : decode cX9_clear 1 = .ok (.getfield 181, 3) := dk_180 0 181 (dk_at dksX9_clear_0 1 rfl rfl)
theorem dX9_clear_4 : decode cX9_clear 4 = .ok (.istore_n 1, 1) := dk_60 (dk_at dksX9_clear_0 4 rfl rfl)
theorem dX9_clear_5 : decode cX9_clear 5 = .ok (.aload_n 0, 1) := dk_42 (dk_at dksX9_clear_0 5 rfl rfl)
theorem dX9_clear_6 : decode cX9_clear 6 = .ok (.iconst 0, 1) := dk_3 (dk_at dksX9_clear_0 6 rfl rfl)
theorem dX9_clear_7 : decode cX9_clear 7 = .ok (.putfield 181, 3) := dk_181 0 181 (dk_at dksX9_clear_0 7 rfl rfl)
theorem dX9_clear_10 : decode cX9_clear 10 = .ok (.iload_n 1, 1) := dk_27 (dk_at dksX9_clear_0 10 rfl rfl)
theorem dX9_clear_11 : decode cX9_clear 11 = .ok (.ireturn, 1) := dk_172 (dk_at dksX9_clear_0 11 rfl rfl)
abbrev cX9_lots : ByteArray := prog_24_method_77_code
def yX9_lots : MethodName := ⟨RX9, "lots", "(III)I"⟩
def dkwX9_lots_6 : List UInt8 := [172]
abbrev dktX9_lots_6 : List UInt8 := dkwX9_lots_6 ++ []
def dkwX9_lots_5 : List UInt8 := [167, 0, 13, 42, 180, 0, 13, 184, 0, 152, 184, 0, 120, 96, 54, 4, 132, 5, 1, 167, 255, 171, 21, 4]
abbrev dktX9_lots_5 : List UInt8 := dkwX9_lots_5 ++ dktX9_lots_6
def dkwX9_lots_4 : List UInt8 := [16, 12, 184, 0, 104, 132, 6, 1, 167, 255, 226, 21, 4, 29, 154, 0, 13, 42, 180, 0, 13, 184, 0, 141]
abbrev dktX9_lots_4 : List UInt8 := dkwX9_lots_4 ++ dktX9_lots_5
def dkwX9_lots_3 : List UInt8 := [54, 6, 21, 6, 7, 162, 0, 30, 42, 180, 0, 13, 6, 42, 16, 31, 182, 0, 190, 79, 42, 180, 0, 13]
abbrev dktX9_lots_3 : List UInt8 := dkwX9_lots_3 ++ dktX9_lots_4
def dkwX9_lots_2 : List UInt8 := [54, 4, 3, 54, 5, 21, 5, 27, 162, 0, 85, 42, 180, 0, 9, 42, 180, 0, 13, 184, 0, 110, 3]
abbrev dktX9_lots_2 : List UInt8 := dkwX9_lots_2 ++ dktX9_lots_3
def dkwX9_lots_1 : List UInt8 := [172, 29, 3, 4, 184, 0, 40, 154, 0, 10, 42, 16, 254, 182, 0, 36, 172, 42, 28, 181, 0, 184, 3]
abbrev dktX9_lots_1 : List UInt8 := dkwX9_lots_1 ++ dktX9_lots_2
def dkwX9_lots_0 : List UInt8 := [27, 4, 162, 0, 10, 42, 16, 252, 182, 0, 36, 172, 27, 16, 20, 164, 0, 10, 42, 16, 250, 182, 0, 36]
abbrev dktX9_lots_0 : List UInt8 := dkwX9_lots_0 ++ dktX9_lots_1
theorem dksX9_lots_0 : cX9_lots.data.toList.drop 0 = dktX9_lots_0 := by decide +kernel
theorem dksX9_lots_1 : cX9_lots.data.toList.drop 24 = dktX9_lots_1 := dk_seg dksX9_lots_0 24 rfl rfl
theorem dksX9_lots_2 : cX9_lots.data.toList.drop 47 = dktX9_lots_2 := dk_seg dksX9_lots_1 23 rfl rfl
theorem dksX9_lots_3 : cX9_lots.data.toList.drop 70 = dktX9_lots_3 := dk_seg dksX9_lots_2 23 rfl rfl
theorem dksX9_lots_4 : cX9_lots.data.toList.drop 94 = dktX9_lots_4 := dk_seg dksX9_lots_3 24 rfl rfl
theorem dksX9_lots_5 : cX9_lots.data.toList.drop 118 = dktX9_lots_5 := dk_seg dksX9_lots_4 24 rfl rfl
theorem dksX9_lots_6 : cX9_lots.data.toList.drop 142 = dktX9_lots_6 := dk_seg dksX9_lots_5 24 rfl rfl
theorem dX9_lots_0 : decode cX9_lots 0 = .ok (.iload_n 1, 1) := dk_27 (dk_at dksX9_lots_0 0 rfl rfl)
theorem dX9_lots_1 : decode cX9_lots 1 = .ok (.iconst 1, 1) := dk_4 (dk_at dksX9_lots_0 1 rfl rfl)
theorem dX9_lots_2 : decode cX9_lots 2 = .ok (.if_icmp .ge 10, 3) := dk_162 0 10 (dk_at dksX9_lots_0 2 rfl rfl)
theorem dX9_lots_5 : decode cX9_lots 5 = .ok (.aload_n 0, 1) := dk_42 (dk_at dksX9_lots_0 5 rfl rfl)
theorem dX9_lots_6 : decode cX9_lots 6 = .ok (.bipush (-4), 2) := dk_16 252 (dk_at dksX9_lots_0 6 rfl rfl)
theorem dX9_lots_8 : decode cX9_lots 8 = .ok (.invokevirtual 36, 3) := dk_182 0 36 (dk_at dksX9_lots_0 8 rfl rfl)
theorem dX9_lots_11 : decode cX9_lots 11 = .ok (.ireturn, 1) := dk_172 (dk_at dksX9_lots_0 11 rfl rfl)
theorem dX9_lots_12 : decode cX9_lots 12 = .ok (.iload_n 1, 1) := dk_27 (dk_at dksX9_lots_0 12 rfl rfl)
theorem dX9_lots_13 : decode cX9_lots 13 = .ok (.bipush 20, 2) := dk_16 20 (dk_at dksX9_lots_0 13 rfl rfl)
theorem dX9_lots_15 : decode cX9_lots 15 = .ok (.if_icmp .le 10, 3) := dk_164 0 10 (dk_at dksX9_lots_0 15 rfl rfl)
theorem dX9_lots_18 : decode cX9_lots 18 = .ok (.aload_n 0, 1) := dk_42 (dk_at dksX9_lots_0 18 rfl rfl)
theorem dX9_lots_19 : decode cX9_lots 19 = .ok (.bipush (-6), 2) := dk_16 250 (dk_at dksX9_lots_0 19 rfl rfl)
theorem dX9_lots_21 : decode cX9_lots 21 = .ok (.invokevirtual 36, 3) := dk_182 0 36 (dk_at dksX9_lots_0 21 rfl rfl)
theorem dX9_lots_24 : decode cX9_lots 24 = .ok (.ireturn, 1) := dk_172 (dk_at dksX9_lots_1 0 rfl rfl)
theorem dX9_lots_25 : decode cX9_lots 25 = .ok (.iload_n 3, 1) := dk_29 (dk_at dksX9_lots_1 1 rfl rfl)
theorem dX9_lots_26 : decode cX9_lots 26 = .ok (.iconst 0, 1) := dk_3 (dk_at dksX9_lots_1 2 rfl rfl)
theorem dX9_lots_27 : decode cX9_lots 27 = .ok (.iconst 1, 1) := dk_4 (dk_at dksX9_lots_1 3 rfl rfl)
theorem dX9_lots_28 : decode cX9_lots 28 = .ok (.invokestatic 40, 3) := dk_184 0 40 (dk_at dksX9_lots_1 4 rfl rfl)
theorem dX9_lots_31 : decode cX9_lots 31 = .ok (.ifCond .ne 10, 3) := dk_154 0 10 (dk_at dksX9_lots_1 7 rfl rfl)
theorem dX9_lots_34 : decode cX9_lots 34 = .ok (.aload_n 0, 1) := dk_42 (dk_at dksX9_lots_1 10 rfl rfl)
theorem dX9_lots_35 : decode cX9_lots 35 = .ok (.bipush (-2), 2) := dk_16 254 (dk_at dksX9_lots_1 11 rfl rfl)
theorem dX9_lots_37 : decode cX9_lots 37 = .ok (.invokevirtual 36, 3) := dk_182 0 36 (dk_at dksX9_lots_1 13 rfl rfl)
theorem dX9_lots_40 : decode cX9_lots 40 = .ok (.ireturn, 1) := dk_172 (dk_at dksX9_lots_1 16 rfl rfl)
theorem dX9_lots_41 : decode cX9_lots 41 = .ok (.aload_n 0, 1) := dk_42 (dk_at dksX9_lots_1 17 rfl rfl)
theorem dX9_lots_42 : decode cX9_lots 42 = .ok (.iload_n 2, 1) := dk_28 (dk_at dksX9_lots_1 18 rfl rfl)
theorem dX9_lots_43 : decode cX9_lots 43 = .ok (.putfield 184, 3) := dk_181 0 184 (dk_at dksX9_lots_1 19 rfl rfl)
theorem dX9_lots_46 : decode cX9_lots 46 = .ok (.iconst 0, 1) := dk_3 (dk_at dksX9_lots_1 22 rfl rfl)
theorem dX9_lots_47 : decode cX9_lots 47 = .ok (.istore 4, 2) := dk_54 4 (dk_at dksX9_lots_2 0 rfl rfl)
theorem dX9_lots_49 : decode cX9_lots 49 = .ok (.iconst 0, 1) := dk_3 (dk_at dksX9_lots_2 2 rfl rfl)
theorem dX9_lots_50 : decode cX9_lots 50 = .ok (.istore 5, 2) := dk_54 5 (dk_at dksX9_lots_2 3 rfl rfl)
theorem dX9_lots_52 : decode cX9_lots 52 = .ok (.iload 5, 2) := dk_21 5 (dk_at dksX9_lots_2 5 rfl rfl)
theorem dX9_lots_54 : decode cX9_lots 54 = .ok (.iload_n 1, 1) := dk_27 (dk_at dksX9_lots_2 7 rfl rfl)
theorem dX9_lots_55 : decode cX9_lots 55 = .ok (.if_icmp .ge 85, 3) := dk_162 0 85 (dk_at dksX9_lots_2 8 rfl rfl)
theorem dX9_lots_58 : decode cX9_lots 58 = .ok (.aload_n 0, 1) := dk_42 (dk_at dksX9_lots_2 11 rfl rfl)
theorem dX9_lots_59 : decode cX9_lots 59 = .ok (.getfield 9, 3) := dk_180 0 9 (dk_at dksX9_lots_2 12 rfl rfl)
theorem dX9_lots_62 : decode cX9_lots 62 = .ok (.aload_n 0, 1) := dk_42 (dk_at dksX9_lots_2 15 rfl rfl)
theorem dX9_lots_63 : decode cX9_lots 63 = .ok (.getfield 13, 3) := dk_180 0 13 (dk_at dksX9_lots_2 16 rfl rfl)
theorem dX9_lots_66 : decode cX9_lots 66 = .ok (.invokestatic 110, 3) := dk_184 0 110 (dk_at dksX9_lots_2 19 rfl rfl)
theorem dX9_lots_69 : decode cX9_lots 69 = .ok (.iconst 0, 1) := dk_3 (dk_at dksX9_lots_2 22 rfl rfl)
theorem dX9_lots_70 : decode cX9_lots 70 = .ok (.istore 6, 2) := dk_54 6 (dk_at dksX9_lots_3 0 rfl rfl)
theorem dX9_lots_72 : decode cX9_lots 72 = .ok (.iload 6, 2) := dk_21 6 (dk_at dksX9_lots_3 2 rfl rfl)
theorem dX9_lots_74 : decode cX9_lots 74 = .ok (.iconst 4, 1) := dk_7 (dk_at dksX9_lots_3 4 rfl rfl)
theorem dX9_lots_75 : decode cX9_lots 75 = .ok (.if_icmp .ge 30, 3) := dk_162 0 30 (dk_at dksX9_lots_3 5 rfl rfl)
theorem dX9_lots_78 : decode cX9_lots 78 = .ok (.aload_n 0, 1) := dk_42 (dk_at dksX9_lots_3 8 rfl rfl)
theorem dX9_lots_79 : decode cX9_lots 79 = .ok (.getfield 13, 3) := dk_180 0 13 (dk_at dksX9_lots_3 9 rfl rfl)
theorem dX9_lots_82 : decode cX9_lots 82 = .ok (.iconst 3, 1) := dk_6 (dk_at dksX9_lots_3 12 rfl rfl)
theorem dX9_lots_83 : decode cX9_lots 83 = .ok (.aload_n 0, 1) := dk_42 (dk_at dksX9_lots_3 13 rfl rfl)
theorem dX9_lots_84 : decode cX9_lots 84 = .ok (.bipush 31, 2) := dk_16 31 (dk_at dksX9_lots_3 14 rfl rfl)
theorem dX9_lots_86 : decode cX9_lots 86 = .ok (.invokevirtual 190, 3) := dk_182 0 190 (dk_at dksX9_lots_3 16 rfl rfl)
theorem dX9_lots_89 : decode cX9_lots 89 = .ok (.iastore, 1) := dk_79 (dk_at dksX9_lots_3 19 rfl rfl)
theorem dX9_lots_90 : decode cX9_lots 90 = .ok (.aload_n 0, 1) := dk_42 (dk_at dksX9_lots_3 20 rfl rfl)
theorem dX9_lots_91 : decode cX9_lots 91 = .ok (.getfield 13, 3) := dk_180 0 13 (dk_at dksX9_lots_3 21 rfl rfl)
theorem dX9_lots_94 : decode cX9_lots 94 = .ok (.bipush 12, 2) := dk_16 12 (dk_at dksX9_lots_4 0 rfl rfl)
theorem dX9_lots_96 : decode cX9_lots 96 = .ok (.invokestatic 104, 3) := dk_184 0 104 (dk_at dksX9_lots_4 2 rfl rfl)
theorem dX9_lots_99 : decode cX9_lots 99 = .ok (.iinc 6 1, 3) := dk_132 6 1 (dk_at dksX9_lots_4 5 rfl rfl)
theorem dX9_lots_102 : decode cX9_lots 102 = .ok (.goto (-30), 3) := dk_167 255 226 (dk_at dksX9_lots_4 8 rfl rfl)
theorem dX9_lots_105 : decode cX9_lots 105 = .ok (.iload 4, 2) := dk_21 4 (dk_at dksX9_lots_4 11 rfl rfl)
theorem dX9_lots_107 : decode cX9_lots 107 = .ok (.iload_n 3, 1) := dk_29 (dk_at dksX9_lots_4 13 rfl rfl)
theorem dX9_lots_108 : decode cX9_lots 108 = .ok (.ifCond .ne 13, 3) := dk_154 0 13 (dk_at dksX9_lots_4 14 rfl rfl)
theorem dX9_lots_111 : decode cX9_lots 111 = .ok (.aload_n 0, 1) := dk_42 (dk_at dksX9_lots_4 17 rfl rfl)
theorem dX9_lots_112 : decode cX9_lots 112 = .ok (.getfield 13, 3) := dk_180 0 13 (dk_at dksX9_lots_4 18 rfl rfl)
theorem dX9_lots_115 : decode cX9_lots 115 = .ok (.invokestatic 141, 3) := dk_184 0 141 (dk_at dksX9_lots_4 21 rfl rfl)
theorem dX9_lots_118 : decode cX9_lots 118 = .ok (.goto 13, 3) := dk_167 0 13 (dk_at dksX9_lots_5 0 rfl rfl)
theorem dX9_lots_121 : decode cX9_lots 121 = .ok (.aload_n 0, 1) := dk_42 (dk_at dksX9_lots_5 3 rfl rfl)
theorem dX9_lots_122 : decode cX9_lots 122 = .ok (.getfield 13, 3) := dk_180 0 13 (dk_at dksX9_lots_5 4 rfl rfl)
theorem dX9_lots_125 : decode cX9_lots 125 = .ok (.invokestatic 152, 3) := dk_184 0 152 (dk_at dksX9_lots_5 7 rfl rfl)
theorem dX9_lots_128 : decode cX9_lots 128 = .ok (.invokestatic 120, 3) := dk_184 0 120 (dk_at dksX9_lots_5 10 rfl rfl)
theorem dX9_lots_131 : decode cX9_lots 131 = .ok (.iadd, 1) := dk_96 (dk_at dksX9_lots_5 13 rfl rfl)
theorem dX9_lots_132 : decode cX9_lots 132 = .ok (.istore 4, 2) := dk_54 4 (dk_at dksX9_lots_5 14 rfl rfl)
theorem dX9_lots_134 : decode cX9_lots 134 = .ok (.iinc 5 1, 3) := dk_132 5 1 (dk_at dksX9_lots_5 16 rfl rfl)
theorem dX9_lots_137 : decode cX9_lots 137 = .ok (.goto (-85), 3) := dk_167 255 171 (dk_at dksX9_lots_5 19 rfl rfl)
theorem dX9_lots_140 : decode cX9_lots 140 = .ok (.iload 4, 2) := dk_21 4 (dk_at dksX9_lots_5 22 rfl rfl)
theorem dX9_lots_142 : decode cX9_lots 142 = .ok (.ireturn, 1) := dk_172 (dk_at dksX9_lots_6 0 rfl rfl)
abbrev cX9_drawn : ByteArray := prog_24_method_76_code
def yX9_drawn : MethodName := ⟨RX9, "drawn", "(I)I"⟩
def dkwX9_drawn_1 : List UInt8 := [108, 27, 112, 172]
abbrev dktX9_drawn_1 : List UInt8 := dkwX9_drawn_1 ++ []
def dkwX9_drawn_0 : List UInt8 := [42, 42, 180, 0, 184, 18, 187, 104, 18, 188, 96, 181, 0, 184, 42, 180, 0, 184, 18, 189, 126, 17, 1, 0]
abbrev dktX9_drawn_0 : List UInt8 := dkwX9_drawn_0 ++ dktX9_drawn_1
theorem dksX9_drawn_0 : cX9_drawn.data.toList.drop 0 = dktX9_drawn_0 := by decide +kernel
theorem dksX9_drawn_1 : cX9_drawn.data.toList.drop 24 = dktX9_drawn_1 := dk_seg dksX9_drawn_0 24 rfl rfl
theorem dX9_drawn_0 : decode cX9_drawn 0 = .ok (.aload_n 0, 1) := dk_42 (dk_at dksX9_drawn_0 0 rfl rfl)
theorem dX9_drawn_1 : decode cX9_drawn 1 = .ok (.aload_n 0, 1) := dk_42 (dk_at dksX9_drawn_0 1 rfl rfl)
theorem dX9_drawn_2 : decode cX9_drawn 2 = .ok (.getfield 184, 3) := dk_180 0 184 (dk_at dksX9_drawn_0 2 rfl rfl)
theorem dX9_drawn_5 : decode cX9_drawn 5 = .ok (.ldc 187, 2) := dk_18 187 (dk_at dksX9_drawn_0 5 rfl rfl)
theorem dX9_drawn_7 : decode cX9_drawn 7 = .ok (.imul, 1) := dk_104 (dk_at dksX9_drawn_0 7 rfl rfl)
theorem dX9_drawn_8 : decode cX9_drawn 8 = .ok (.ldc 188, 2) := dk_18 188 (dk_at dksX9_drawn_0 8 rfl rfl)
theorem dX9_drawn_10 : decode cX9_drawn 10 = .ok (.iadd, 1) := dk_96 (dk_at dksX9_drawn_0 10 rfl rfl)
theorem dX9_drawn_11 : decode cX9_drawn 11 = .ok (.putfield 184, 3) := dk_181 0 184 (dk_at dksX9_drawn_0 11 rfl rfl)
theorem dX9_drawn_14 : decode cX9_drawn 14 = .ok (.aload_n 0, 1) := dk_42 (dk_at dksX9_drawn_0 14 rfl rfl)
theorem dX9_drawn_15 : decode cX9_drawn 15 = .ok (.getfield 184, 3) := dk_180 0 184 (dk_at dksX9_drawn_0 15 rfl rfl)
theorem dX9_drawn_18 : decode cX9_drawn 18 = .ok (.ldc 189, 2) := dk_18 189 (dk_at dksX9_drawn_0 18 rfl rfl)
theorem dX9_drawn_20 : decode cX9_drawn 20 = .ok (.iand, 1) := dk_126 (dk_at dksX9_drawn_0 20 rfl rfl)
theorem dX9_drawn_21 : decode cX9_drawn 21 = .ok (.sipush 256, 3) := dk_17 1 0 (dk_at dksX9_drawn_0 21 rfl rfl)
theorem dX9_drawn_24 : decode cX9_drawn 24 = .ok (.idiv, 1) := dk_108 (dk_at dksX9_drawn_1 0 rfl rfl)
theorem dX9_drawn_25 : decode cX9_drawn 25 = .ok (.iload_n 1, 1) := dk_27 (dk_at dksX9_drawn_1 1 rfl rfl)
theorem dX9_drawn_26 : decode cX9_drawn 26 = .ok (.irem, 1) := dk_112 (dk_at dksX9_drawn_1 2 rfl rfl)
theorem dX9_drawn_27 : decode cX9_drawn 27 = .ok (.ireturn, 1) := dk_172 (dk_at dksX9_drawn_1 3 rfl rfl)
abbrev cX9_image : ByteArray := prog_24_method_78_code
def yX9_image : MethodName := ⟨RX9, "image", "()I"⟩
def dkwX9_image_0 : List UInt8 := [42, 180, 0, 9, 42, 180, 0, 16, 184, 0, 110, 42, 4, 181, 0, 193, 42, 180, 0, 9, 4, 46, 172]
abbrev dktX9_image_0 : List UInt8 := dkwX9_image_0 ++ []
theorem dksX9_image_0 : cX9_image.data.toList.drop 0 = dktX9_image_0 := by decide +kernel
theorem dX9_image_0 : decode cX9_image 0 = .ok (.aload_n 0, 1) := dk_42 (dk_at dksX9_image_0 0 rfl rfl)
theorem dX9_image_1 : decode cX9_image 1 = .ok (.getfield 9, 3) := dk_180 0 9 (dk_at dksX9_image_0 1 rfl rfl)
theorem dX9_image_4 : decode cX9_image 4 = .ok (.aload_n 0, 1) := dk_42 (dk_at dksX9_image_0 4 rfl rfl)
theorem dX9_image_5 : decode cX9_image 5 = .ok (.getfield 16, 3) := dk_180 0 16 (dk_at dksX9_image_0 5 rfl rfl)
theorem dX9_image_8 : decode cX9_image 8 = .ok (.invokestatic 110, 3) := dk_184 0 110 (dk_at dksX9_image_0 8 rfl rfl)
theorem dX9_image_11 : decode cX9_image 11 = .ok (.aload_n 0, 1) := dk_42 (dk_at dksX9_image_0 11 rfl rfl)
theorem dX9_image_12 : decode cX9_image 12 = .ok (.iconst 1, 1) := dk_4 (dk_at dksX9_image_0 12 rfl rfl)
theorem dX9_image_13 : decode cX9_image 13 = .ok (.putfield 193, 3) := dk_181 0 193 (dk_at dksX9_image_0 13 rfl rfl)
theorem dX9_image_16 : decode cX9_image 16 = .ok (.aload_n 0, 1) := dk_42 (dk_at dksX9_image_0 16 rfl rfl)
theorem dX9_image_17 : decode cX9_image 17 = .ok (.getfield 9, 3) := dk_180 0 9 (dk_at dksX9_image_0 17 rfl rfl)
theorem dX9_image_20 : decode cX9_image 20 = .ok (.iconst 1, 1) := dk_4 (dk_at dksX9_image_0 20 rfl rfl)
theorem dX9_image_21 : decode cX9_image 21 = .ok (.iaload, 1) := dk_46 (dk_at dksX9_image_0 21 rfl rfl)
theorem dX9_image_22 : decode cX9_image 22 = .ok (.ireturn, 1) := dk_172 (dk_at dksX9_image_0 22 rfl rfl)
abbrev cX9_on : ByteArray := prog_24_method_79_code
def yX9_on : MethodName := ⟨RX9, "on", "()I"⟩
def dkwX9_on_1 : List UInt8 := [184, 0, 110, 42, 180, 0, 9, 4, 46, 172]
abbrev dktX9_on_1 : List UInt8 := dkwX9_on_1 ++ []
def dkwX9_on_0 : List UInt8 := [42, 180, 0, 193, 154, 0, 10, 42, 16, 253, 182, 0, 36, 172, 42, 180, 0, 16, 42, 180, 0, 9]
abbrev dktX9_on_0 : List UInt8 := dkwX9_on_0 ++ dktX9_on_1
theorem dksX9_on_0 : cX9_on.data.toList.drop 0 = dktX9_on_0 := by decide +kernel
theorem dksX9_on_1 : cX9_on.data.toList.drop 22 = dktX9_on_1 := dk_seg dksX9_on_0 22 rfl rfl
theorem dX9_on_0 : decode cX9_on 0 = .ok (.aload_n 0, 1) := dk_42 (dk_at dksX9_on_0 0 rfl rfl)
theorem dX9_on_1 : decode cX9_on 1 = .ok (.getfield 193, 3) := dk_180 0 193 (dk_at dksX9_on_0 1 rfl rfl)
theorem dX9_on_4 : decode cX9_on 4 = .ok (.ifCond .ne 10, 3) := dk_154 0 10 (dk_at dksX9_on_0 4 rfl rfl)
theorem dX9_on_7 : decode cX9_on 7 = .ok (.aload_n 0, 1) := dk_42 (dk_at dksX9_on_0 7 rfl rfl)
theorem dX9_on_8 : decode cX9_on 8 = .ok (.bipush (-3), 2) := dk_16 253 (dk_at dksX9_on_0 8 rfl rfl)
theorem dX9_on_10 : decode cX9_on 10 = .ok (.invokevirtual 36, 3) := dk_182 0 36 (dk_at dksX9_on_0 10 rfl rfl)
theorem dX9_on_13 : decode cX9_on 13 = .ok (.ireturn, 1) := dk_172 (dk_at dksX9_on_0 13 rfl rfl)
theorem dX9_on_14 : decode cX9_on 14 = .ok (.aload_n 0, 1) := dk_42 (dk_at dksX9_on_0 14 rfl rfl)
theorem dX9_on_15 : decode cX9_on 15 = .ok (.getfield 16, 3) := dk_180 0 16 (dk_at dksX9_on_0 15 rfl rfl)
theorem dX9_on_18 : decode cX9_on 18 = .ok (.aload_n 0, 1) := dk_42 (dk_at dksX9_on_0 18 rfl rfl)
theorem dX9_on_19 : decode cX9_on 19 = .ok (.getfield 9, 3) := dk_180 0 9 (dk_at dksX9_on_0 19 rfl rfl)
theorem dX9_on_22 : decode cX9_on 22 = .ok (.invokestatic 110, 3) := dk_184 0 110 (dk_at dksX9_on_1 0 rfl rfl)
theorem dX9_on_25 : decode cX9_on 25 = .ok (.aload_n 0, 1) := dk_42 (dk_at dksX9_on_1 3 rfl rfl)
theorem dX9_on_26 : decode cX9_on 26 = .ok (.getfield 9, 3) := dk_180 0 9 (dk_at dksX9_on_1 4 rfl rfl)
theorem dX9_on_29 : decode cX9_on 29 = .ok (.iconst 1, 1) := dk_4 (dk_at dksX9_on_1 7 rfl rfl)
theorem dX9_on_30 : decode cX9_on 30 = .ok (.iaload, 1) := dk_46 (dk_at dksX9_on_1 8 rfl rfl)
theorem dX9_on_31 : decode cX9_on 31 = .ok (.ireturn, 1) := dk_172 (dk_at dksX9_on_1 9 rfl rfl)
abbrev cX9_count : ByteArray := prog_24_method_80_code
def yX9_count : MethodName := ⟨RX9, "count", "(I)I"⟩
def dkwX9_count_3 : List UInt8 := [42, 180, 0, 181, 172, 42, 180, 0, 76, 172, 16, 247, 172]
abbrev dktX9_count_3 : List UInt8 := dkwX9_count_3 ++ []
def dkwX9_count_2 : List UInt8 := [42, 180, 0, 9, 27, 46, 172, 42, 180, 0, 9, 7, 184, 0, 117, 172, 42, 180, 0, 9, 184, 0, 141, 172]
abbrev dktX9_count_2 : List UInt8 := dkwX9_count_2 ++ dktX9_count_3
def dkwX9_count_1 : List UInt8 := [170, 0, 0, 0, 0, 80, 0, 0, 0, 0, 0, 0, 0, 7, 0, 0, 0, 46, 0, 0, 0, 46, 0, 0, 0, 46, 0, 0, 0, 46, 0, 0, 0, 53, 0, 0, 0, 62, 0, 0, 0, 70, 0, 0, 0, 75]
abbrev dktX9_count_1 : List UInt8 := dkwX9_count_1 ++ dktX9_count_2
def dkwX9_count_0 : List UInt8 := [27, 16, 11, 16, 16, 184, 0, 40, 153, 0, 13, 42, 180, 0, 28, 27, 16, 10, 100, 46, 172, 27]
abbrev dktX9_count_0 : List UInt8 := dkwX9_count_0 ++ dktX9_count_1
theorem dksX9_count_0 : cX9_count.data.toList.drop 0 = dktX9_count_0 := by decide +kernel
theorem dksX9_count_1 : cX9_count.data.toList.drop 22 = dktX9_count_1 := dk_seg dksX9_count_0 22 rfl rfl
theorem dksX9_count_2 : cX9_count.data.toList.drop 68 = dktX9_count_2 := dk_seg dksX9_count_1 46 rfl rfl
theorem dksX9_count_3 : cX9_count.data.toList.drop 92 = dktX9_count_3 := dk_seg dksX9_count_2 24 rfl rfl
theorem dX9_count_0 : decode cX9_count 0 = .ok (.iload_n 1, 1) := dk_27 (dk_at dksX9_count_0 0 rfl rfl)
theorem dX9_count_1 : decode cX9_count 1 = .ok (.bipush 11, 2) := dk_16 11 (dk_at dksX9_count_0 1 rfl rfl)
theorem dX9_count_3 : decode cX9_count 3 = .ok (.bipush 16, 2) := dk_16 16 (dk_at dksX9_count_0 3 rfl rfl)
theorem dX9_count_5 : decode cX9_count 5 = .ok (.invokestatic 40, 3) := dk_184 0 40 (dk_at dksX9_count_0 5 rfl rfl)
theorem dX9_count_8 : decode cX9_count 8 = .ok (.ifCond .eq 13, 3) := dk_153 0 13 (dk_at dksX9_count_0 8 rfl rfl)
theorem dX9_count_11 : decode cX9_count 11 = .ok (.aload_n 0, 1) := dk_42 (dk_at dksX9_count_0 11 rfl rfl)
theorem dX9_count_12 : decode cX9_count 12 = .ok (.getfield 28, 3) := dk_180 0 28 (dk_at dksX9_count_0 12 rfl rfl)
theorem dX9_count_15 : decode cX9_count 15 = .ok (.iload_n 1, 1) := dk_27 (dk_at dksX9_count_0 15 rfl rfl)
theorem dX9_count_16 : decode cX9_count 16 = .ok (.bipush 10, 2) := dk_16 10 (dk_at dksX9_count_0 16 rfl rfl)
theorem dX9_count_18 : decode cX9_count 18 = .ok (.isub, 1) := dk_100 (dk_at dksX9_count_0 18 rfl rfl)
theorem dX9_count_19 : decode cX9_count 19 = .ok (.iaload, 1) := dk_46 (dk_at dksX9_count_0 19 rfl rfl)
theorem dX9_count_20 : decode cX9_count 20 = .ok (.ireturn, 1) := dk_172 (dk_at dksX9_count_0 20 rfl rfl)
theorem dX9_count_21 : decode cX9_count 21 = .ok (.iload_n 1, 1) := dk_27 (dk_at dksX9_count_0 21 rfl rfl)
theorem dX9_count_22 : decode cX9_count 22 = .ok (.tableswitch 80 0 7 #[46, 46, 46, 46, 53, 62, 70, 75], 46) := by decide +kernel
theorem dX9_count_68 : decode cX9_count 68 = .ok (.aload_n 0, 1) := dk_42 (dk_at dksX9_count_2 0 rfl rfl)
theorem dX9_count_69 : decode cX9_count 69 = .ok (.getfield 9, 3) := dk_180 0 9 (dk_at dksX9_count_2 1 rfl rfl)
theorem dX9_count_72 : decode cX9_count 72 = .ok (.iload_n 1, 1) := dk_27 (dk_at dksX9_count_2 4 rfl rfl)
theorem dX9_count_73 : decode cX9_count 73 = .ok (.iaload, 1) := dk_46 (dk_at dksX9_count_2 5 rfl rfl)
theorem dX9_count_74 : decode cX9_count 74 = .ok (.ireturn, 1) := dk_172 (dk_at dksX9_count_2 6 rfl rfl)
theorem dX9_count_75 : decode cX9_count 75 = .ok (.aload_n 0, 1) := dk_42 (dk_at dksX9_count_2 7 rfl rfl)
theorem dX9_count_76 : decode cX9_count 76 = .ok (.getfield 9, 3) := dk_180 0 9 (dk_at dksX9_count_2 8 rfl rfl)
theorem dX9_count_79 : decode cX9_count 79 = .ok (.iconst 4, 1) := dk_7 (dk_at dksX9_count_2 11 rfl rfl)
theorem dX9_count_80 : decode cX9_count 80 = .ok (.invokestatic 117, 3) := dk_184 0 117 (dk_at dksX9_count_2 12 rfl rfl)
theorem dX9_count_83 : decode cX9_count 83 = .ok (.ireturn, 1) := dk_172 (dk_at dksX9_count_2 15 rfl rfl)
theorem dX9_count_84 : decode cX9_count 84 = .ok (.aload_n 0, 1) := dk_42 (dk_at dksX9_count_2 16 rfl rfl)
theorem dX9_count_85 : decode cX9_count 85 = .ok (.getfield 9, 3) := dk_180 0 9 (dk_at dksX9_count_2 17 rfl rfl)
theorem dX9_count_88 : decode cX9_count 88 = .ok (.invokestatic 141, 3) := dk_184 0 141 (dk_at dksX9_count_2 20 rfl rfl)
theorem dX9_count_91 : decode cX9_count 91 = .ok (.ireturn, 1) := dk_172 (dk_at dksX9_count_2 23 rfl rfl)
theorem dX9_count_92 : decode cX9_count 92 = .ok (.aload_n 0, 1) := dk_42 (dk_at dksX9_count_3 0 rfl rfl)
theorem dX9_count_93 : decode cX9_count 93 = .ok (.getfield 181, 3) := dk_180 0 181 (dk_at dksX9_count_3 1 rfl rfl)
theorem dX9_count_96 : decode cX9_count 96 = .ok (.ireturn, 1) := dk_172 (dk_at dksX9_count_3 4 rfl rfl)
theorem dX9_count_97 : decode cX9_count 97 = .ok (.aload_n 0, 1) := dk_42 (dk_at dksX9_count_3 5 rfl rfl)
theorem dX9_count_98 : decode cX9_count 98 = .ok (.getfield 76, 3) := dk_180 0 76 (dk_at dksX9_count_3 6 rfl rfl)
theorem dX9_count_101 : decode cX9_count 101 = .ok (.ireturn, 1) := dk_172 (dk_at dksX9_count_3 9 rfl rfl)
theorem dX9_count_102 : decode cX9_count 102 = .ok (.bipush (-9), 2) := dk_16 247 (dk_at dksX9_count_3 10 rfl rfl)
theorem dX9_count_104 : decode cX9_count 104 = .ok (.ireturn, 1) := dk_172 (dk_at dksX9_count_3 12 rfl rfl)
theorem q94 : (Jvm.Cond.initialized "WellOfTheSilentModel") ∈ lw_all := lw_g (lw_at lw_m1 10 rfl) rfl
theorem q1164 : (Jvm.Cond.instantiable "WellOfTheSilentModel" (13 : Nat)) ∈ lw_all := lw_g (lw_at lw_m5 120 rfl) rfl
theorem q1166 : (Jvm.Cond.instanceMethod ({ cls := "WellOfTheSilentModel", name := "<init>", desc := "()V" } : Jvm.MethodName)) ∈ lw_all := lw_g (lw_at lw_m5 122 rfl) rfl
theorem q1167 : (Jvm.Cond.code ({ cls := "WellOfTheSilentModel", name := "<init>", desc := "()V" } : Jvm.MethodName) prog_24_method_1_code (1 : Nat) (Option.none : Option Jvm.ClassFile.FieldType)) ∈ lw_all := lw_g (lw_at lw_m5 123 rfl) rfl
theorem q1168 : (Jvm.Cond.methodLink "WellOfTheSilentModel" (1 : Nat) ({ cls := "java/lang/Object", name := "<init>", desc := "()V" } : Jvm.MethodName)) ∈ lw_all := lw_g (lw_at lw_m5 124 rfl) rfl
theorem q1169 : (Jvm.Cond.fieldLink "WellOfTheSilentModel" (9 : Nat) "WellOfTheSilentModel" "s" "[I") ∈ lw_all := lw_g (lw_at lw_m5 125 rfl) rfl
theorem q1170 : (Jvm.Cond.fieldLink "WellOfTheSilentModel" (13 : Nat) "WellOfTheSilentModel" "m" "[I") ∈ lw_all := lw_g (lw_at lw_m5 126 rfl) rfl
theorem q1171 : (Jvm.Cond.fieldLink "WellOfTheSilentModel" (16 : Nat) "WellOfTheSilentModel" "image" "[I") ∈ lw_all := lw_g (lw_at lw_m5 127 rfl) rfl
theorem q1172 : (Jvm.Cond.fieldLink "WellOfTheSilentModel" (19 : Nat) "WellOfTheSilentModel" "was" "[I") ∈ lw_all := lw_g (lw_at lw_m5 128 rfl) rfl
theorem q1173 : (Jvm.Cond.fieldLink "WellOfTheSilentModel" (193 : Nat) "WellOfTheSilentModel" "hasImage" "Z") ∈ lw_all := lw_g (lw_at lw_m5 129 rfl) rfl
theorem q1174 : (Jvm.Cond.fieldLink "WellOfTheSilentModel" (22 : Nat) "WellOfTheSilentModel" "letters" "[I") ∈ lw_all := lw_g (lw_at lw_m5 130 rfl) rfl
theorem q1175 : (Jvm.Cond.fieldLink "WellOfTheSilentModel" (25 : Nat) "WellOfTheSilentModel" "row" "[I") ∈ lw_all := lw_g (lw_at lw_m5 131 rfl) rfl
theorem q1176 : (Jvm.Cond.fieldLink "WellOfTheSilentModel" (28 : Nat) "WellOfTheSilentModel" "refused" "[I") ∈ lw_all := lw_g (lw_at lw_m5 132 rfl) rfl
theorem q1177 : (Jvm.Cond.fieldLink "WellOfTheSilentModel" (76 : Nat) "WellOfTheSilentModel" "letterMany" "I") ∈ lw_all := lw_g (lw_at lw_m5 133 rfl) rfl
theorem q1178 : (Jvm.Cond.fieldLink "WellOfTheSilentModel" (181 : Nat) "WellOfTheSilentModel" "rowMany" "I") ∈ lw_all := lw_g (lw_at lw_m5 134 rfl) rfl
theorem q1179 : (Jvm.Cond.fieldLink "WellOfTheSilentModel" (80 : Nat) "WellOfTheSilentModel" "place" "I") ∈ lw_all := lw_g (lw_at lw_m5 135 rfl) rfl
theorem q1180 : (Jvm.Cond.fieldLink "WellOfTheSilentModel" (31 : Nat) "WellOfTheSilentModel" "numbers" "[I") ∈ lw_all := lw_g (lw_at lw_m5 136 rfl) rfl
theorem q1181 : (Jvm.Cond.fieldLink "WellOfTheSilentModel" (184 : Nat) "WellOfTheSilentModel" "seed" "I") ∈ lw_all := lw_g (lw_at lw_m5 137 rfl) rfl
theorem q1182 : (Jvm.Cond.laysFinal "WellOfTheSilentModel" "WellOfTheSilentModel" "s" "[I") ∈ lw_all := lw_g (lw_at lw_m5 138 rfl) rfl
theorem q1183 : (Jvm.Cond.soleField "WellOfTheSilentModel" "s") ∈ lw_all := lw_g (lw_at lw_m5 139 rfl) rfl
theorem q1184 : (Jvm.Cond.laysFinal "WellOfTheSilentModel" "WellOfTheSilentModel" "m" "[I") ∈ lw_all := lw_g (lw_at lw_m5 140 rfl) rfl
theorem q1185 : (Jvm.Cond.soleField "WellOfTheSilentModel" "m") ∈ lw_all := lw_g (lw_at lw_m5 141 rfl) rfl
theorem q1186 : (Jvm.Cond.laysFinal "WellOfTheSilentModel" "WellOfTheSilentModel" "image" "[I") ∈ lw_all := lw_g (lw_at lw_m5 142 rfl) rfl
theorem q1187 : (Jvm.Cond.soleField "WellOfTheSilentModel" "image") ∈ lw_all := lw_g (lw_at lw_m5 143 rfl) rfl
theorem q1188 : (Jvm.Cond.laysFinal "WellOfTheSilentModel" "WellOfTheSilentModel" "was" "[I") ∈ lw_all := lw_g (lw_at lw_m5 144 rfl) rfl
theorem q1189 : (Jvm.Cond.soleField "WellOfTheSilentModel" "was") ∈ lw_all := lw_g (lw_at lw_m5 145 rfl) rfl
theorem q1190 : (Jvm.Cond.lays "WellOfTheSilentModel" "WellOfTheSilentModel" "hasImage" "Z") ∈ lw_all := lw_g (lw_at lw_m5 146 rfl) rfl
theorem q1191 : (Jvm.Cond.soleField "WellOfTheSilentModel" "hasImage") ∈ lw_all := lw_g (lw_at lw_m5 147 rfl) rfl
theorem q1192 : (Jvm.Cond.laysFinal "WellOfTheSilentModel" "WellOfTheSilentModel" "letters" "[I") ∈ lw_all := lw_g (lw_at lw_m5 148 rfl) rfl
theorem q1193 : (Jvm.Cond.soleField "WellOfTheSilentModel" "letters") ∈ lw_all := lw_g (lw_at lw_m5 149 rfl) rfl
theorem q1194 : (Jvm.Cond.laysFinal "WellOfTheSilentModel" "WellOfTheSilentModel" "row" "[I") ∈ lw_all := lw_g (lw_at lw_m5 150 rfl) rfl
theorem q1195 : (Jvm.Cond.soleField "WellOfTheSilentModel" "row") ∈ lw_all := lw_g (lw_at lw_m5 151 rfl) rfl
theorem q1196 : (Jvm.Cond.laysFinal "WellOfTheSilentModel" "WellOfTheSilentModel" "refused" "[I") ∈ lw_all := lw_g (lw_at lw_m5 152 rfl) rfl
theorem q1197 : (Jvm.Cond.soleField "WellOfTheSilentModel" "refused") ∈ lw_all := lw_g (lw_at lw_m5 153 rfl) rfl
theorem q1198 : (Jvm.Cond.lays "WellOfTheSilentModel" "WellOfTheSilentModel" "letterMany" "I") ∈ lw_all := lw_g (lw_at lw_m5 154 rfl) rfl
theorem q1199 : (Jvm.Cond.soleField "WellOfTheSilentModel" "letterMany") ∈ lw_all := lw_g (lw_at lw_m5 155 rfl) rfl
theorem q1200 : (Jvm.Cond.lays "WellOfTheSilentModel" "WellOfTheSilentModel" "rowMany" "I") ∈ lw_all := lw_g (lw_at lw_m5 156 rfl) rfl
theorem q1201 : (Jvm.Cond.soleField "WellOfTheSilentModel" "rowMany") ∈ lw_all := lw_g (lw_at lw_m5 157 rfl) rfl
theorem q1202 : (Jvm.Cond.lays "WellOfTheSilentModel" "WellOfTheSilentModel" "place" "I") ∈ lw_all := lw_g (lw_at lw_m5 158 rfl) rfl
theorem q1203 : (Jvm.Cond.soleField "WellOfTheSilentModel" "place") ∈ lw_all := lw_g (lw_at lw_m5 159 rfl) rfl
theorem q1204 : (Jvm.Cond.laysFinal "WellOfTheSilentModel" "WellOfTheSilentModel" "numbers" "[I") ∈ lw_all := lw_g (lw_at lw_m5 160 rfl) rfl
theorem q1205 : (Jvm.Cond.soleField "WellOfTheSilentModel" "numbers") ∈ lw_all := lw_g (lw_at lw_m5 161 rfl) rfl
theorem q1206 : (Jvm.Cond.lays "WellOfTheSilentModel" "WellOfTheSilentModel" "seed" "I") ∈ lw_all := lw_g (lw_at lw_m5 162 rfl) rfl
theorem q1207 : (Jvm.Cond.soleField "WellOfTheSilentModel" "seed") ∈ lw_all := lw_g (lw_at lw_m5 163 rfl) rfl
theorem q1208 : (Jvm.Cond.superclass "WellOfTheSilentModel" "java/lang/Object") ∈ lw_all := lw_g (lw_at lw_m5 164 rfl) rfl
theorem q1210 : (Jvm.Cond.instanceMethod ({ cls := "WellOfTheSilentModel", name := "letter", desc := "(I)I" } : Jvm.MethodName)) ∈ lw_all := lw_g (lw_at lw_m5 166 rfl) rfl
theorem q1211 : (Jvm.Cond.selects "WellOfTheSilentModel" ({ cls := "WellOfTheSilentModel", name := "letter", desc := "(I)I" } : Jvm.MethodName) ({ cls := "WellOfTheSilentModel", name := "letter", desc := "(I)I" } : Jvm.MethodName)) ∈ lw_all := lw_g (lw_at lw_m5 167 rfl) rfl
theorem q1212 : (Jvm.Cond.code ({ cls := "WellOfTheSilentModel", name := "letter", desc := "(I)I" } : Jvm.MethodName) prog_24_method_21_code (2 : Nat) (Option.some Jvm.ClassFile.FieldType.int)) ∈ lw_all := lw_g (lw_at lw_m5 168 rfl) rfl
theorem q1213 : (Jvm.Cond.methodLink "WellOfTheSilentModel" (36 : Nat) ({ cls := "WellOfTheSilentModel", name := "no", desc := "(I)I" } : Jvm.MethodName)) ∈ lw_all := lw_g (lw_at lw_m5 169 rfl) rfl
theorem q1214 : (Jvm.Cond.privateMethod ({ cls := "WellOfTheSilentModel", name := "no", desc := "(I)I" } : Jvm.MethodName)) ∈ lw_tbl := lw_at lw_m5 170 rfl
theorem q1215 : (Jvm.Cond.instanceMethod ({ cls := "WellOfTheSilentModel", name := "no", desc := "(I)I" } : Jvm.MethodName)) ∈ lw_all := lw_g (lw_at lw_m5 171 rfl) rfl
theorem q1216 : (Jvm.Cond.code ({ cls := "WellOfTheSilentModel", name := "no", desc := "(I)I" } : Jvm.MethodName) prog_24_method_5_code (2 : Nat) (Option.some Jvm.ClassFile.FieldType.int)) ∈ lw_all := lw_g (lw_at lw_m5 172 rfl) rfl
theorem q1218 : (Jvm.Cond.instanceMethod ({ cls := "WellOfTheSilentModel", name := "hill", desc := "()I" } : Jvm.MethodName)) ∈ lw_all := lw_g (lw_at lw_m5 174 rfl) rfl
theorem q1219 : (Jvm.Cond.selects "WellOfTheSilentModel" ({ cls := "WellOfTheSilentModel", name := "hill", desc := "()I" } : Jvm.MethodName) ({ cls := "WellOfTheSilentModel", name := "hill", desc := "()I" } : Jvm.MethodName)) ∈ lw_all := lw_g (lw_at lw_m5 175 rfl) rfl
theorem q1220 : (Jvm.Cond.code ({ cls := "WellOfTheSilentModel", name := "hill", desc := "()I" } : Jvm.MethodName) prog_24_method_29_code (6 : Nat) (Option.some Jvm.ClassFile.FieldType.int)) ∈ lw_all := lw_g (lw_at lw_m5 176 rfl) rfl
theorem q1221 : (Jvm.Cond.methodLink "WellOfTheSilentModel" (107 : Nat) ({ cls := "WellOfTheSilentModel", name := "readsStatement", desc := "()Z" } : Jvm.MethodName)) ∈ lw_all := lw_g (lw_at lw_m5 177 rfl) rfl
theorem q1222 : (Jvm.Cond.privateMethod ({ cls := "WellOfTheSilentModel", name := "readsStatement", desc := "()Z" } : Jvm.MethodName)) ∈ lw_tbl := lw_at lw_m5 178 rfl
theorem q1223 : (Jvm.Cond.instanceMethod ({ cls := "WellOfTheSilentModel", name := "readsStatement", desc := "()Z" } : Jvm.MethodName)) ∈ lw_all := lw_g (lw_at lw_m5 179 rfl) rfl
theorem q1224 : (Jvm.Cond.code ({ cls := "WellOfTheSilentModel", name := "readsStatement", desc := "()Z" } : Jvm.MethodName) prog_24_method_26_code (3 : Nat) (Option.some Jvm.ClassFile.FieldType.boolean)) ∈ lw_all := lw_g (lw_at lw_m5 180 rfl) rfl
theorem q1225 : (Jvm.Cond.methodLink "WellOfTheSilentModel" (83 : Nat) ({ cls := "WellOfTheSilentModel", name := "here", desc := "()I" } : Jvm.MethodName)) ∈ lw_all := lw_g (lw_at lw_m5 181 rfl) rfl
theorem q1226 : (Jvm.Cond.privateMethod ({ cls := "WellOfTheSilentModel", name := "here", desc := "()I" } : Jvm.MethodName)) ∈ lw_tbl := lw_at lw_m5 182 rfl
theorem q1227 : (Jvm.Cond.instanceMethod ({ cls := "WellOfTheSilentModel", name := "here", desc := "()I" } : Jvm.MethodName)) ∈ lw_all := lw_g (lw_at lw_m5 183 rfl) rfl
theorem q1228 : (Jvm.Cond.code ({ cls := "WellOfTheSilentModel", name := "here", desc := "()I" } : Jvm.MethodName) prog_24_method_22_code (1 : Nat) (Option.some Jvm.ClassFile.FieldType.int)) ∈ lw_all := lw_g (lw_at lw_m5 184 rfl) rfl
theorem q1229 : (Jvm.Cond.methodLink "WellOfTheSilentModel" (90 : Nat) ({ cls := "WellOfTheSilentModel", name := "readsKind", desc := "()Z" } : Jvm.MethodName)) ∈ lw_all := lw_g (lw_at lw_m5 185 rfl) rfl
theorem q1230 : (Jvm.Cond.privateMethod ({ cls := "WellOfTheSilentModel", name := "readsKind", desc := "()Z" } : Jvm.MethodName)) ∈ lw_tbl := lw_at lw_m5 186 rfl
theorem q1231 : (Jvm.Cond.instanceMethod ({ cls := "WellOfTheSilentModel", name := "readsKind", desc := "()Z" } : Jvm.MethodName)) ∈ lw_all := lw_g (lw_at lw_m5 187 rfl) rfl
theorem q1232 : (Jvm.Cond.code ({ cls := "WellOfTheSilentModel", name := "readsKind", desc := "()Z" } : Jvm.MethodName) prog_24_method_25_code (1 : Nat) (Option.some Jvm.ClassFile.FieldType.boolean)) ∈ lw_all := lw_g (lw_at lw_m5 188 rfl) rfl
theorem q1233 : (Jvm.Cond.methodLink "WellOfTheSilentModel" (87 : Nat) ({ cls := "WellOfTheSilentModel", name := "kindBy", desc := "(I)I" } : Jvm.MethodName)) ∈ lw_all := lw_g (lw_at lw_m5 189 rfl) rfl
theorem q1234 : (Jvm.Cond.static ({ cls := "WellOfTheSilentModel", name := "kindBy", desc := "(I)I" } : Jvm.MethodName)) ∈ lw_all := lw_g (lw_at lw_m5 190 rfl) rfl
theorem q1235 : (Jvm.Cond.code ({ cls := "WellOfTheSilentModel", name := "kindBy", desc := "(I)I" } : Jvm.MethodName) prog_24_method_24_code (1 : Nat) (Option.some Jvm.ClassFile.FieldType.int)) ∈ lw_all := lw_g (lw_at lw_m5 191 rfl) rfl
theorem q1236 : (Jvm.Cond.methodLink "WellOfTheSilentModel" (94 : Nat) ({ cls := "WellOfTheSilentModel", name := "readsNumber", desc := "(II)Z" } : Jvm.MethodName)) ∈ lw_all := lw_g (lw_at lw_m5 192 rfl) rfl
theorem q1237 : (Jvm.Cond.privateMethod ({ cls := "WellOfTheSilentModel", name := "readsNumber", desc := "(II)Z" } : Jvm.MethodName)) ∈ lw_tbl := lw_at lw_m5 193 rfl
theorem q1238 : (Jvm.Cond.instanceMethod ({ cls := "WellOfTheSilentModel", name := "readsNumber", desc := "(II)Z" } : Jvm.MethodName)) ∈ lw_all := lw_g (lw_at lw_m5 194 rfl) rfl
theorem q1239 : (Jvm.Cond.code ({ cls := "WellOfTheSilentModel", name := "readsNumber", desc := "(II)Z" } : Jvm.MethodName) prog_24_method_23_code (4 : Nat) (Option.some Jvm.ClassFile.FieldType.boolean)) ∈ lw_all := lw_g (lw_at lw_m5 195 rfl) rfl
theorem q1240 : (Jvm.Cond.methodLink "WellOfTheSilentModel" (40 : Nat) ({ cls := "WellOfTheSilentModel", name := "isIn", desc := "(III)Z" } : Jvm.MethodName)) ∈ lw_all := lw_g (lw_at lw_m5 196 rfl) rfl
theorem q1241 : (Jvm.Cond.static ({ cls := "WellOfTheSilentModel", name := "isIn", desc := "(III)Z" } : Jvm.MethodName)) ∈ lw_all := lw_g (lw_at lw_m5 197 rfl) rfl
theorem q1242 : (Jvm.Cond.code ({ cls := "WellOfTheSilentModel", name := "isIn", desc := "(III)Z" } : Jvm.MethodName) prog_24_method_2_code (3 : Nat) (Option.some Jvm.ClassFile.FieldType.boolean)) ∈ lw_all := lw_g (lw_at lw_m5 198 rfl) rfl
theorem q1243 : (Jvm.Cond.methodLink "WellOfTheSilentModel" (110 : Nat) ({ cls := "WellOfTheSilentModel", name := "copies", desc := "([I[I)V" } : Jvm.MethodName)) ∈ lw_all := lw_g (lw_at lw_m5 199 rfl) rfl
theorem q1244 : (Jvm.Cond.static ({ cls := "WellOfTheSilentModel", name := "copies", desc := "([I[I)V" } : Jvm.MethodName)) ∈ lw_all := lw_g (lw_at lw_m5 200 rfl) rfl
theorem q1245 : (Jvm.Cond.code ({ cls := "WellOfTheSilentModel", name := "copies", desc := "([I[I)V" } : Jvm.MethodName) prog_24_method_4_code (3 : Nat) (Option.none : Option Jvm.ClassFile.FieldType)) ∈ lw_all := lw_g (lw_at lw_m5 201 rfl) rfl
theorem q1246 : (Jvm.Cond.methodLink "WellOfTheSilentModel" (114 : Nat) ({ cls := "WellOfTheSilentModel", name := "isDone", desc := "(I)Z" } : Jvm.MethodName)) ∈ lw_all := lw_g (lw_at lw_m5 202 rfl) rfl
theorem q1247 : (Jvm.Cond.privateMethod ({ cls := "WellOfTheSilentModel", name := "isDone", desc := "(I)Z" } : Jvm.MethodName)) ∈ lw_tbl := lw_at lw_m5 203 rfl
theorem q1248 : (Jvm.Cond.instanceMethod ({ cls := "WellOfTheSilentModel", name := "isDone", desc := "(I)Z" } : Jvm.MethodName)) ∈ lw_all := lw_g (lw_at lw_m5 204 rfl) rfl
theorem q1249 : (Jvm.Cond.code ({ cls := "WellOfTheSilentModel", name := "isDone", desc := "(I)Z" } : Jvm.MethodName) prog_24_method_28_code (4 : Nat) (Option.some Jvm.ClassFile.FieldType.boolean)) ∈ lw_all := lw_g (lw_at lw_m5 205 rfl) rfl
theorem q1250 : (Jvm.Cond.methodLink "WellOfTheSilentModel" (97 : Nat) ({ cls := "WellOfTheSilentModel", name := "addsPerson", desc := "()Z" } : Jvm.MethodName)) ∈ lw_all := lw_g (lw_at lw_m5 206 rfl) rfl
theorem q1251 : (Jvm.Cond.privateMethod ({ cls := "WellOfTheSilentModel", name := "addsPerson", desc := "()Z" } : Jvm.MethodName)) ∈ lw_tbl := lw_at lw_m5 207 rfl
theorem q1252 : (Jvm.Cond.instanceMethod ({ cls := "WellOfTheSilentModel", name := "addsPerson", desc := "()Z" } : Jvm.MethodName)) ∈ lw_all := lw_g (lw_at lw_m5 208 rfl) rfl
theorem q1253 : (Jvm.Cond.code ({ cls := "WellOfTheSilentModel", name := "addsPerson", desc := "()Z" } : Jvm.MethodName) prog_24_method_27_code (3 : Nat) (Option.some Jvm.ClassFile.FieldType.boolean)) ∈ lw_all := lw_g (lw_at lw_m5 209 rfl) rfl
theorem q1254 : (Jvm.Cond.methodLink "WellOfTheSilentModel" (52 : Nat) ({ cls := "WellOfTheSilentModel", name := "of", desc := "(II)I" } : Jvm.MethodName)) ∈ lw_all := lw_g (lw_at lw_m5 210 rfl) rfl
theorem q1255 : (Jvm.Cond.static ({ cls := "WellOfTheSilentModel", name := "of", desc := "(II)I" } : Jvm.MethodName)) ∈ lw_all := lw_g (lw_at lw_m5 211 rfl) rfl
theorem q1256 : (Jvm.Cond.code ({ cls := "WellOfTheSilentModel", name := "of", desc := "(II)I" } : Jvm.MethodName) prog_24_method_7_code (2 : Nat) (Option.some Jvm.ClassFile.FieldType.int)) ∈ lw_all := lw_g (lw_at lw_m5 212 rfl) rfl
theorem q1257 : (Jvm.Cond.methodLink "WellOfTheSilentModel" (100 : Nat) ({ cls := "WellOfTheSilentModel", name := "isPerson", desc := "(I)Z" } : Jvm.MethodName)) ∈ lw_all := lw_g (lw_at lw_m5 213 rfl) rfl
theorem q1258 : (Jvm.Cond.privateMethod ({ cls := "WellOfTheSilentModel", name := "isPerson", desc := "(I)Z" } : Jvm.MethodName)) ∈ lw_tbl := lw_at lw_m5 214 rfl
theorem q1259 : (Jvm.Cond.instanceMethod ({ cls := "WellOfTheSilentModel", name := "isPerson", desc := "(I)Z" } : Jvm.MethodName)) ∈ lw_all := lw_g (lw_at lw_m5 215 rfl) rfl
theorem q1260 : (Jvm.Cond.code ({ cls := "WellOfTheSilentModel", name := "isPerson", desc := "(I)Z" } : Jvm.MethodName) prog_24_method_8_code (2 : Nat) (Option.some Jvm.ClassFile.FieldType.boolean)) ∈ lw_all := lw_g (lw_at lw_m5 216 rfl) rfl
theorem q1261 : (Jvm.Cond.methodLink "WellOfTheSilentModel" (104 : Nat) ({ cls := "WellOfTheSilentModel", name := "hoursOn", desc := "([II)V" } : Jvm.MethodName)) ∈ lw_all := lw_g (lw_at lw_m5 217 rfl) rfl
theorem q1262 : (Jvm.Cond.static ({ cls := "WellOfTheSilentModel", name := "hoursOn", desc := "([II)V" } : Jvm.MethodName)) ∈ lw_all := lw_g (lw_at lw_m5 218 rfl) rfl
theorem q1263 : (Jvm.Cond.code ({ cls := "WellOfTheSilentModel", name := "hoursOn", desc := "([II)V" } : Jvm.MethodName) prog_24_method_17_code (3 : Nat) (Option.none : Option Jvm.ClassFile.FieldType)) ∈ lw_all := lw_g (lw_at lw_m5 219 rfl) rfl
theorem q1264 : (Jvm.Cond.methodLink "WellOfTheSilentModel" (73 : Nat) ({ cls := "WellOfTheSilentModel", name := "hour", desc := "([II)V" } : Jvm.MethodName)) ∈ lw_all := lw_g (lw_at lw_m5 220 rfl) rfl
theorem q1265 : (Jvm.Cond.static ({ cls := "WellOfTheSilentModel", name := "hour", desc := "([II)V" } : Jvm.MethodName)) ∈ lw_all := lw_g (lw_at lw_m5 221 rfl) rfl
theorem q1266 : (Jvm.Cond.code ({ cls := "WellOfTheSilentModel", name := "hour", desc := "([II)V" } : Jvm.MethodName) prog_24_method_16_code (5 : Nat) (Option.none : Option Jvm.ClassFile.FieldType)) ∈ lw_all := lw_g (lw_at lw_m5 222 rfl) rfl
theorem q1267 : (Jvm.Cond.methodLink "WellOfTheSilentModel" (44 : Nat) ({ cls := "WellOfTheSilentModel", name := "least", desc := "(II)I" } : Jvm.MethodName)) ∈ lw_all := lw_g (lw_at lw_m5 223 rfl) rfl
theorem q1268 : (Jvm.Cond.static ({ cls := "WellOfTheSilentModel", name := "least", desc := "(II)I" } : Jvm.MethodName)) ∈ lw_all := lw_g (lw_at lw_m5 224 rfl) rfl
theorem q1269 : (Jvm.Cond.code ({ cls := "WellOfTheSilentModel", name := "least", desc := "(II)I" } : Jvm.MethodName) prog_24_method_3_code (2 : Nat) (Option.some Jvm.ClassFile.FieldType.int)) ∈ lw_all := lw_g (lw_at lw_m5 225 rfl) rfl
theorem q1270 : (Jvm.Cond.methodLink "WellOfTheSilentModel" (62 : Nat) ({ cls := "WellOfTheSilentModel", name := "speaksIn", desc := "([II)I" } : Jvm.MethodName)) ∈ lw_all := lw_g (lw_at lw_m5 226 rfl) rfl
theorem q1271 : (Jvm.Cond.static ({ cls := "WellOfTheSilentModel", name := "speaksIn", desc := "([II)I" } : Jvm.MethodName)) ∈ lw_all := lw_g (lw_at lw_m5 227 rfl) rfl
theorem q1272 : (Jvm.Cond.code ({ cls := "WellOfTheSilentModel", name := "speaksIn", desc := "([II)I" } : Jvm.MethodName) prog_24_method_13_code (2 : Nat) (Option.some Jvm.ClassFile.FieldType.int)) ∈ lw_all := lw_g (lw_at lw_m5 228 rfl) rfl
theorem q1273 : (Jvm.Cond.methodLink "WellOfTheSilentModel" (48 : Nat) ({ cls := "WellOfTheSilentModel", name := "has", desc := "(II)Z" } : Jvm.MethodName)) ∈ lw_all := lw_g (lw_at lw_m5 229 rfl) rfl
theorem q1274 : (Jvm.Cond.static ({ cls := "WellOfTheSilentModel", name := "has", desc := "(II)Z" } : Jvm.MethodName)) ∈ lw_all := lw_g (lw_at lw_m5 230 rfl) rfl
theorem q1275 : (Jvm.Cond.code ({ cls := "WellOfTheSilentModel", name := "has", desc := "(II)Z" } : Jvm.MethodName) prog_24_method_9_code (2 : Nat) (Option.some Jvm.ClassFile.FieldType.boolean)) ∈ lw_all := lw_g (lw_at lw_m5 231 rfl) rfl
theorem q1276 : (Jvm.Cond.methodLink "WellOfTheSilentModel" (55 : Nat) ({ cls := "WellOfTheSilentModel", name := "speaksBy", desc := "(II)I" } : Jvm.MethodName)) ∈ lw_all := lw_g (lw_at lw_m5 232 rfl) rfl
theorem q1277 : (Jvm.Cond.static ({ cls := "WellOfTheSilentModel", name := "speaksBy", desc := "(II)I" } : Jvm.MethodName)) ∈ lw_all := lw_g (lw_at lw_m5 233 rfl) rfl
theorem q1278 : (Jvm.Cond.code ({ cls := "WellOfTheSilentModel", name := "speaksBy", desc := "(II)I" } : Jvm.MethodName) prog_24_method_11_code (3 : Nat) (Option.some Jvm.ClassFile.FieldType.int)) ∈ lw_all := lw_g (lw_at lw_m5 234 rfl) rfl
theorem q1279 : (Jvm.Cond.methodLink "WellOfTheSilentModel" (66 : Nat) ({ cls := "WellOfTheSilentModel", name := "draws", desc := "([II)V" } : Jvm.MethodName)) ∈ lw_all := lw_g (lw_at lw_m5 235 rfl) rfl
theorem q1280 : (Jvm.Cond.static ({ cls := "WellOfTheSilentModel", name := "draws", desc := "([II)V" } : Jvm.MethodName)) ∈ lw_all := lw_g (lw_at lw_m5 236 rfl) rfl
theorem q1281 : (Jvm.Cond.code ({ cls := "WellOfTheSilentModel", name := "draws", desc := "([II)V" } : Jvm.MethodName) prog_24_method_15_code (4 : Nat) (Option.none : Option Jvm.ClassFile.FieldType)) ∈ lw_all := lw_g (lw_at lw_m5 237 rfl) rfl
theorem q1282 : (Jvm.Cond.methodLink "WellOfTheSilentModel" (58 : Nat) ({ cls := "WellOfTheSilentModel", name := "mayDraw", desc := "([II)Z" } : Jvm.MethodName)) ∈ lw_all := lw_g (lw_at lw_m5 238 rfl) rfl
theorem q1283 : (Jvm.Cond.static ({ cls := "WellOfTheSilentModel", name := "mayDraw", desc := "([II)Z" } : Jvm.MethodName)) ∈ lw_all := lw_g (lw_at lw_m5 239 rfl) rfl
theorem q1284 : (Jvm.Cond.code ({ cls := "WellOfTheSilentModel", name := "mayDraw", desc := "([II)Z" } : Jvm.MethodName) prog_24_method_14_code (2 : Nat) (Option.some Jvm.ClassFile.FieldType.boolean)) ∈ lw_all := lw_g (lw_at lw_m6 0 rfl) rfl
theorem q1285 : (Jvm.Cond.methodLink "WellOfTheSilentModel" (70 : Nat) ({ cls := "WellOfTheSilentModel", name := "drinksBy", desc := "(I)I" } : Jvm.MethodName)) ∈ lw_all := lw_g (lw_at lw_m6 1 rfl) rfl
theorem q1286 : (Jvm.Cond.static ({ cls := "WellOfTheSilentModel", name := "drinksBy", desc := "(I)I" } : Jvm.MethodName)) ∈ lw_all := lw_g (lw_at lw_m6 2 rfl) rfl
theorem q1287 : (Jvm.Cond.code ({ cls := "WellOfTheSilentModel", name := "drinksBy", desc := "(I)I" } : Jvm.MethodName) prog_24_method_12_code (1 : Nat) (Option.some Jvm.ClassFile.FieldType.int)) ∈ lw_all := lw_g (lw_at lw_m6 3 rfl) rfl
theorem q1289 : (Jvm.Cond.instanceMethod ({ cls := "WellOfTheSilentModel", name := "person", desc := "(II)I" } : Jvm.MethodName)) ∈ lw_all := lw_g (lw_at lw_m6 5 rfl) rfl
theorem q1290 : (Jvm.Cond.selects "WellOfTheSilentModel" ({ cls := "WellOfTheSilentModel", name := "person", desc := "(II)I" } : Jvm.MethodName) ({ cls := "WellOfTheSilentModel", name := "person", desc := "(II)I" } : Jvm.MethodName)) ∈ lw_all := lw_g (lw_at lw_m6 6 rfl) rfl
theorem q1291 : (Jvm.Cond.code ({ cls := "WellOfTheSilentModel", name := "person", desc := "(II)I" } : Jvm.MethodName) prog_24_method_30_code (3 : Nat) (Option.some Jvm.ClassFile.FieldType.int)) ∈ lw_all := lw_g (lw_at lw_m6 7 rfl) rfl
theorem q1293 : (Jvm.Cond.instanceMethod ({ cls := "WellOfTheSilentModel", name := "speaks", desc := "(I)I" } : Jvm.MethodName)) ∈ lw_all := lw_g (lw_at lw_m6 9 rfl) rfl
theorem q1294 : (Jvm.Cond.selects "WellOfTheSilentModel" ({ cls := "WellOfTheSilentModel", name := "speaks", desc := "(I)I" } : Jvm.MethodName) ({ cls := "WellOfTheSilentModel", name := "speaks", desc := "(I)I" } : Jvm.MethodName)) ∈ lw_all := lw_g (lw_at lw_m6 10 rfl) rfl
theorem q1295 : (Jvm.Cond.code ({ cls := "WellOfTheSilentModel", name := "speaks", desc := "(I)I" } : Jvm.MethodName) prog_24_method_31_code (2 : Nat) (Option.some Jvm.ClassFile.FieldType.int)) ∈ lw_all := lw_g (lw_at lw_m6 11 rfl) rfl
theorem q1296 : (Jvm.Cond.methodLink "WellOfTheSilentModel" (117 : Nat) ({ cls := "WellOfTheSilentModel", name := "flagged", desc := "([II)I" } : Jvm.MethodName)) ∈ lw_all := lw_g (lw_at lw_m6 12 rfl) rfl
theorem q1297 : (Jvm.Cond.static ({ cls := "WellOfTheSilentModel", name := "flagged", desc := "([II)I" } : Jvm.MethodName)) ∈ lw_all := lw_g (lw_at lw_m6 13 rfl) rfl
theorem q1298 : (Jvm.Cond.code ({ cls := "WellOfTheSilentModel", name := "flagged", desc := "([II)I" } : Jvm.MethodName) prog_24_method_19_code (4 : Nat) (Option.some Jvm.ClassFile.FieldType.int)) ∈ lw_all := lw_g (lw_at lw_m6 14 rfl) rfl
theorem q1299 : (Jvm.Cond.methodLink "WellOfTheSilentModel" (120 : Nat) ({ cls := "WellOfTheSilentModel", name := "bits", desc := "(I)I" } : Jvm.MethodName)) ∈ lw_all := lw_g (lw_at lw_m6 15 rfl) rfl
theorem q1300 : (Jvm.Cond.static ({ cls := "WellOfTheSilentModel", name := "bits", desc := "(I)I" } : Jvm.MethodName)) ∈ lw_all := lw_g (lw_at lw_m6 16 rfl) rfl
theorem q1301 : (Jvm.Cond.code ({ cls := "WellOfTheSilentModel", name := "bits", desc := "(I)I" } : Jvm.MethodName) prog_24_method_10_code (3 : Nat) (Option.some Jvm.ClassFile.FieldType.int)) ∈ lw_all := lw_g (lw_at lw_m6 17 rfl) rfl
theorem q1303 : (Jvm.Cond.instanceMethod ({ cls := "WellOfTheSilentModel", name := "befriends", desc := "(II)I" } : Jvm.MethodName)) ∈ lw_all := lw_g (lw_at lw_m6 19 rfl) rfl
theorem q1304 : (Jvm.Cond.selects "WellOfTheSilentModel" ({ cls := "WellOfTheSilentModel", name := "befriends", desc := "(II)I" } : Jvm.MethodName) ({ cls := "WellOfTheSilentModel", name := "befriends", desc := "(II)I" } : Jvm.MethodName)) ∈ lw_all := lw_g (lw_at lw_m6 20 rfl) rfl
theorem q1305 : (Jvm.Cond.code ({ cls := "WellOfTheSilentModel", name := "befriends", desc := "(II)I" } : Jvm.MethodName) prog_24_method_33_code (3 : Nat) (Option.some Jvm.ClassFile.FieldType.int)) ∈ lw_all := lw_g (lw_at lw_m6 21 rfl) rfl
theorem q1306 : (Jvm.Cond.methodLink "WellOfTheSilentModel" (123 : Nat) ({ cls := "WellOfTheSilentModel", name := "sets", desc := "(II)I" } : Jvm.MethodName)) ∈ lw_all := lw_g (lw_at lw_m6 22 rfl) rfl
theorem q1307 : (Jvm.Cond.privateMethod ({ cls := "WellOfTheSilentModel", name := "sets", desc := "(II)I" } : Jvm.MethodName)) ∈ lw_tbl := lw_at lw_m6 23 rfl
theorem q1308 : (Jvm.Cond.instanceMethod ({ cls := "WellOfTheSilentModel", name := "sets", desc := "(II)I" } : Jvm.MethodName)) ∈ lw_all := lw_g (lw_at lw_m6 24 rfl) rfl
theorem q1309 : (Jvm.Cond.code ({ cls := "WellOfTheSilentModel", name := "sets", desc := "(II)I" } : Jvm.MethodName) prog_24_method_32_code (4 : Nat) (Option.some Jvm.ClassFile.FieldType.int)) ∈ lw_all := lw_g (lw_at lw_m6 25 rfl) rfl
theorem q1311 : (Jvm.Cond.instanceMethod ({ cls := "WellOfTheSilentModel", name := "pours", desc := "(II)I" } : Jvm.MethodName)) ∈ lw_all := lw_g (lw_at lw_m6 27 rfl) rfl
theorem q1312 : (Jvm.Cond.selects "WellOfTheSilentModel" ({ cls := "WellOfTheSilentModel", name := "pours", desc := "(II)I" } : Jvm.MethodName) ({ cls := "WellOfTheSilentModel", name := "pours", desc := "(II)I" } : Jvm.MethodName)) ∈ lw_all := lw_g (lw_at lw_m6 28 rfl) rfl
theorem q1313 : (Jvm.Cond.code ({ cls := "WellOfTheSilentModel", name := "pours", desc := "(II)I" } : Jvm.MethodName) prog_24_method_36_code (3 : Nat) (Option.some Jvm.ClassFile.FieldType.int)) ∈ lw_all := lw_g (lw_at lw_m6 29 rfl) rfl
theorem q1314 : (Jvm.Cond.methodLink "WellOfTheSilentModel" (130 : Nat) ({ cls := "WellOfTheSilentModel", name := "setsOf", desc := "(IIII)I" } : Jvm.MethodName)) ∈ lw_all := lw_g (lw_at lw_m6 30 rfl) rfl
theorem q1315 : (Jvm.Cond.privateMethod ({ cls := "WellOfTheSilentModel", name := "setsOf", desc := "(IIII)I" } : Jvm.MethodName)) ∈ lw_tbl := lw_at lw_m6 31 rfl
theorem q1316 : (Jvm.Cond.instanceMethod ({ cls := "WellOfTheSilentModel", name := "setsOf", desc := "(IIII)I" } : Jvm.MethodName)) ∈ lw_all := lw_g (lw_at lw_m6 32 rfl) rfl
theorem q1317 : (Jvm.Cond.code ({ cls := "WellOfTheSilentModel", name := "setsOf", desc := "(IIII)I" } : Jvm.MethodName) prog_24_method_35_code (6 : Nat) (Option.some Jvm.ClassFile.FieldType.int)) ∈ lw_all := lw_g (lw_at lw_m6 33 rfl) rfl
theorem q1318 : (Jvm.Cond.methodLink "WellOfTheSilentModel" (126 : Nat) ({ cls := "WellOfTheSilentModel", name := "wrongBy", desc := "(III)I" } : Jvm.MethodName)) ∈ lw_all := lw_g (lw_at lw_m6 34 rfl) rfl
theorem q1319 : (Jvm.Cond.static ({ cls := "WellOfTheSilentModel", name := "wrongBy", desc := "(III)I" } : Jvm.MethodName)) ∈ lw_all := lw_g (lw_at lw_m6 35 rfl) rfl
theorem q1320 : (Jvm.Cond.code ({ cls := "WellOfTheSilentModel", name := "wrongBy", desc := "(III)I" } : Jvm.MethodName) prog_24_method_34_code (3 : Nat) (Option.some Jvm.ClassFile.FieldType.int)) ∈ lw_all := lw_g (lw_at lw_m6 36 rfl) rfl
theorem q1322 : (Jvm.Cond.instanceMethod ({ cls := "WellOfTheSilentModel", name := "cans", desc := "(II)I" } : Jvm.MethodName)) ∈ lw_all := lw_g (lw_at lw_m6 38 rfl) rfl
theorem q1323 : (Jvm.Cond.selects "WellOfTheSilentModel" ({ cls := "WellOfTheSilentModel", name := "cans", desc := "(II)I" } : Jvm.MethodName) ({ cls := "WellOfTheSilentModel", name := "cans", desc := "(II)I" } : Jvm.MethodName)) ∈ lw_all := lw_g (lw_at lw_m6 39 rfl) rfl
theorem q1324 : (Jvm.Cond.code ({ cls := "WellOfTheSilentModel", name := "cans", desc := "(II)I" } : Jvm.MethodName) prog_24_method_37_code (3 : Nat) (Option.some Jvm.ClassFile.FieldType.int)) ∈ lw_all := lw_g (lw_at lw_m6 40 rfl) rfl
theorem q1326 : (Jvm.Cond.instanceMethod ({ cls := "WellOfTheSilentModel", name := "water", desc := "(I)I" } : Jvm.MethodName)) ∈ lw_all := lw_g (lw_at lw_m6 42 rfl) rfl
theorem q1327 : (Jvm.Cond.selects "WellOfTheSilentModel" ({ cls := "WellOfTheSilentModel", name := "water", desc := "(I)I" } : Jvm.MethodName) ({ cls := "WellOfTheSilentModel", name := "water", desc := "(I)I" } : Jvm.MethodName)) ∈ lw_all := lw_g (lw_at lw_m6 43 rfl) rfl
theorem q1328 : (Jvm.Cond.code ({ cls := "WellOfTheSilentModel", name := "water", desc := "(I)I" } : Jvm.MethodName) prog_24_method_39_code (2 : Nat) (Option.some Jvm.ClassFile.FieldType.int)) ∈ lw_all := lw_g (lw_at lw_m6 44 rfl) rfl
theorem q1329 : (Jvm.Cond.methodLink "WellOfTheSilentModel" (134 : Nat) ({ cls := "WellOfTheSilentModel", name := "setsIn", desc := "(III)I" } : Jvm.MethodName)) ∈ lw_all := lw_g (lw_at lw_m6 45 rfl) rfl
theorem q1330 : (Jvm.Cond.privateMethod ({ cls := "WellOfTheSilentModel", name := "setsIn", desc := "(III)I" } : Jvm.MethodName)) ∈ lw_tbl := lw_at lw_m6 46 rfl
theorem q1331 : (Jvm.Cond.instanceMethod ({ cls := "WellOfTheSilentModel", name := "setsIn", desc := "(III)I" } : Jvm.MethodName)) ∈ lw_all := lw_g (lw_at lw_m6 47 rfl) rfl
theorem q1332 : (Jvm.Cond.code ({ cls := "WellOfTheSilentModel", name := "setsIn", desc := "(III)I" } : Jvm.MethodName) prog_24_method_38_code (5 : Nat) (Option.some Jvm.ClassFile.FieldType.int)) ∈ lw_all := lw_g (lw_at lw_m6 48 rfl) rfl
theorem q1334 : (Jvm.Cond.instanceMethod ({ cls := "WellOfTheSilentModel", name := "flow", desc := "(I)I" } : Jvm.MethodName)) ∈ lw_all := lw_g (lw_at lw_m6 50 rfl) rfl
theorem q1335 : (Jvm.Cond.selects "WellOfTheSilentModel" ({ cls := "WellOfTheSilentModel", name := "flow", desc := "(I)I" } : Jvm.MethodName) ({ cls := "WellOfTheSilentModel", name := "flow", desc := "(I)I" } : Jvm.MethodName)) ∈ lw_all := lw_g (lw_at lw_m6 51 rfl) rfl
theorem q1336 : (Jvm.Cond.code ({ cls := "WellOfTheSilentModel", name := "flow", desc := "(I)I" } : Jvm.MethodName) prog_24_method_40_code (2 : Nat) (Option.some Jvm.ClassFile.FieldType.int)) ∈ lw_all := lw_g (lw_at lw_m6 52 rfl) rfl
theorem q1338 : (Jvm.Cond.instanceMethod ({ cls := "WellOfTheSilentModel", name := "turn", desc := "(III)I" } : Jvm.MethodName)) ∈ lw_all := lw_g (lw_at lw_m6 54 rfl) rfl
theorem q1339 : (Jvm.Cond.selects "WellOfTheSilentModel" ({ cls := "WellOfTheSilentModel", name := "turn", desc := "(III)I" } : Jvm.MethodName) ({ cls := "WellOfTheSilentModel", name := "turn", desc := "(III)I" } : Jvm.MethodName)) ∈ lw_all := lw_g (lw_at lw_m6 55 rfl) rfl
theorem q1340 : (Jvm.Cond.code ({ cls := "WellOfTheSilentModel", name := "turn", desc := "(III)I" } : Jvm.MethodName) prog_24_method_41_code (6 : Nat) (Option.some Jvm.ClassFile.FieldType.int)) ∈ lw_all := lw_g (lw_at lw_m6 56 rfl) rfl
theorem q1342 : (Jvm.Cond.instanceMethod ({ cls := "WellOfTheSilentModel", name := "hours", desc := "(I)I" } : Jvm.MethodName)) ∈ lw_all := lw_g (lw_at lw_m6 58 rfl) rfl
theorem q1343 : (Jvm.Cond.selects "WellOfTheSilentModel" ({ cls := "WellOfTheSilentModel", name := "hours", desc := "(I)I" } : Jvm.MethodName) ({ cls := "WellOfTheSilentModel", name := "hours", desc := "(I)I" } : Jvm.MethodName)) ∈ lw_all := lw_g (lw_at lw_m6 59 rfl) rfl
theorem q1344 : (Jvm.Cond.code ({ cls := "WellOfTheSilentModel", name := "hours", desc := "(I)I" } : Jvm.MethodName) prog_24_method_42_code (2 : Nat) (Option.some Jvm.ClassFile.FieldType.int)) ∈ lw_all := lw_g (lw_at lw_m6 60 rfl) rfl
theorem q1346 : (Jvm.Cond.instanceMethod ({ cls := "WellOfTheSilentModel", name := "hasThen", desc := "(II)I" } : Jvm.MethodName)) ∈ lw_all := lw_g (lw_at lw_m6 62 rfl) rfl
theorem q1347 : (Jvm.Cond.selects "WellOfTheSilentModel" ({ cls := "WellOfTheSilentModel", name := "hasThen", desc := "(II)I" } : Jvm.MethodName) ({ cls := "WellOfTheSilentModel", name := "hasThen", desc := "(II)I" } : Jvm.MethodName)) ∈ lw_all := lw_g (lw_at lw_m6 63 rfl) rfl
theorem q1348 : (Jvm.Cond.code ({ cls := "WellOfTheSilentModel", name := "hasThen", desc := "(II)I" } : Jvm.MethodName) prog_24_method_44_code (4 : Nat) (Option.some Jvm.ClassFile.FieldType.int)) ∈ lw_all := lw_g (lw_at lw_m6 64 rfl) rfl
theorem q1349 : (Jvm.Cond.methodLink "WellOfTheSilentModel" (137 : Nat) ({ cls := "WellOfTheSilentModel", name := "takes", desc := "(I)V" } : Jvm.MethodName)) ∈ lw_all := lw_g (lw_at lw_m6 65 rfl) rfl
theorem q1350 : (Jvm.Cond.privateMethod ({ cls := "WellOfTheSilentModel", name := "takes", desc := "(I)V" } : Jvm.MethodName)) ∈ lw_tbl := lw_at lw_m6 66 rfl
theorem q1351 : (Jvm.Cond.instanceMethod ({ cls := "WellOfTheSilentModel", name := "takes", desc := "(I)V" } : Jvm.MethodName)) ∈ lw_all := lw_g (lw_at lw_m6 67 rfl) rfl
theorem q1352 : (Jvm.Cond.code ({ cls := "WellOfTheSilentModel", name := "takes", desc := "(I)V" } : Jvm.MethodName) prog_24_method_43_code (2 : Nat) (Option.none : Option Jvm.ClassFile.FieldType)) ∈ lw_all := lw_g (lw_at lw_m6 68 rfl) rfl
theorem q1354 : (Jvm.Cond.instanceMethod ({ cls := "WellOfTheSilentModel", name := "then", desc := "(II)I" } : Jvm.MethodName)) ∈ lw_all := lw_g (lw_at lw_m6 70 rfl) rfl
theorem q1355 : (Jvm.Cond.selects "WellOfTheSilentModel" ({ cls := "WellOfTheSilentModel", name := "then", desc := "(II)I" } : Jvm.MethodName) ({ cls := "WellOfTheSilentModel", name := "then", desc := "(II)I" } : Jvm.MethodName)) ∈ lw_all := lw_g (lw_at lw_m6 71 rfl) rfl
theorem q1356 : (Jvm.Cond.code ({ cls := "WellOfTheSilentModel", name := "then", desc := "(II)I" } : Jvm.MethodName) prog_24_method_45_code (4 : Nat) (Option.some Jvm.ClassFile.FieldType.int)) ∈ lw_all := lw_g (lw_at lw_m6 72 rfl) rfl
theorem q1357 : (Jvm.Cond.methodLink "WellOfTheSilentModel" (141 : Nat) ({ cls := "WellOfTheSilentModel", name := "allHave", desc := "([I)I" } : Jvm.MethodName)) ∈ lw_all := lw_g (lw_at lw_m6 73 rfl) rfl
theorem q1358 : (Jvm.Cond.static ({ cls := "WellOfTheSilentModel", name := "allHave", desc := "([I)I" } : Jvm.MethodName)) ∈ lw_all := lw_g (lw_at lw_m6 74 rfl) rfl
theorem q1359 : (Jvm.Cond.code ({ cls := "WellOfTheSilentModel", name := "allHave", desc := "([I)I" } : Jvm.MethodName) prog_24_method_18_code (3 : Nat) (Option.some Jvm.ClassFile.FieldType.int)) ∈ lw_all := lw_g (lw_at lw_m6 75 rfl) rfl
theorem q1361 : (Jvm.Cond.instanceMethod ({ cls := "WellOfTheSilentModel", name := "dry", desc := "(I)I" } : Jvm.MethodName)) ∈ lw_all := lw_g (lw_at lw_m6 77 rfl) rfl
theorem q1362 : (Jvm.Cond.selects "WellOfTheSilentModel" ({ cls := "WellOfTheSilentModel", name := "dry", desc := "(I)I" } : Jvm.MethodName) ({ cls := "WellOfTheSilentModel", name := "dry", desc := "(I)I" } : Jvm.MethodName)) ∈ lw_all := lw_g (lw_at lw_m6 78 rfl) rfl
theorem q1363 : (Jvm.Cond.code ({ cls := "WellOfTheSilentModel", name := "dry", desc := "(I)I" } : Jvm.MethodName) prog_24_method_48_code (2 : Nat) (Option.some Jvm.ClassFile.FieldType.int)) ∈ lw_all := lw_g (lw_at lw_m6 79 rfl) rfl
theorem q1364 : (Jvm.Cond.methodLink "WellOfTheSilentModel" (149 : Nat) ({ cls := "WellOfTheSilentModel", name := "firstDry", desc := "()I" } : Jvm.MethodName)) ∈ lw_all := lw_g (lw_at lw_m6 80 rfl) rfl
theorem q1365 : (Jvm.Cond.privateMethod ({ cls := "WellOfTheSilentModel", name := "firstDry", desc := "()I" } : Jvm.MethodName)) ∈ lw_tbl := lw_at lw_m6 81 rfl
theorem q1366 : (Jvm.Cond.instanceMethod ({ cls := "WellOfTheSilentModel", name := "firstDry", desc := "()I" } : Jvm.MethodName)) ∈ lw_all := lw_g (lw_at lw_m6 82 rfl) rfl
theorem q1367 : (Jvm.Cond.code ({ cls := "WellOfTheSilentModel", name := "firstDry", desc := "()I" } : Jvm.MethodName) prog_24_method_47_code (5 : Nat) (Option.some Jvm.ClassFile.FieldType.int)) ∈ lw_all := lw_g (lw_at lw_m6 83 rfl) rfl
theorem q1368 : (Jvm.Cond.constant "WellOfTheSilentModel" (145 : Nat) (1000000000 : Int32)) ∈ lw_all := lw_g (lw_at lw_m6 84 rfl) rfl
theorem q1369 : (Jvm.Cond.methodLink "WellOfTheSilentModel" (146 : Nat) ({ cls := "WellOfTheSilentModel", name := "whenNothing", desc := "(I)I" } : Jvm.MethodName)) ∈ lw_all := lw_g (lw_at lw_m6 85 rfl) rfl
theorem q1370 : (Jvm.Cond.privateMethod ({ cls := "WellOfTheSilentModel", name := "whenNothing", desc := "(I)I" } : Jvm.MethodName)) ∈ lw_tbl := lw_at lw_m6 86 rfl
theorem q1371 : (Jvm.Cond.instanceMethod ({ cls := "WellOfTheSilentModel", name := "whenNothing", desc := "(I)I" } : Jvm.MethodName)) ∈ lw_all := lw_g (lw_at lw_m6 87 rfl) rfl
theorem q1372 : (Jvm.Cond.code ({ cls := "WellOfTheSilentModel", name := "whenNothing", desc := "(I)I" } : Jvm.MethodName) prog_24_method_46_code (3 : Nat) (Option.some Jvm.ClassFile.FieldType.int)) ∈ lw_all := lw_g (lw_at lw_m6 88 rfl) rfl
theorem q1374 : (Jvm.Cond.instanceMethod ({ cls := "WellOfTheSilentModel", name := "empty", desc := "()I" } : Jvm.MethodName)) ∈ lw_all := lw_g (lw_at lw_m6 90 rfl) rfl
theorem q1375 : (Jvm.Cond.selects "WellOfTheSilentModel" ({ cls := "WellOfTheSilentModel", name := "empty", desc := "()I" } : Jvm.MethodName) ({ cls := "WellOfTheSilentModel", name := "empty", desc := "()I" } : Jvm.MethodName)) ∈ lw_all := lw_g (lw_at lw_m6 91 rfl) rfl
theorem q1376 : (Jvm.Cond.code ({ cls := "WellOfTheSilentModel", name := "empty", desc := "()I" } : Jvm.MethodName) prog_24_method_49_code (1 : Nat) (Option.some Jvm.ClassFile.FieldType.int)) ∈ lw_all := lw_g (lw_at lw_m6 92 rfl) rfl
theorem q1378 : (Jvm.Cond.instanceMethod ({ cls := "WellOfTheSilentModel", name := "flowBest", desc := "(I)I" } : Jvm.MethodName)) ∈ lw_all := lw_g (lw_at lw_m6 94 rfl) rfl
theorem q1379 : (Jvm.Cond.selects "WellOfTheSilentModel" ({ cls := "WellOfTheSilentModel", name := "flowBest", desc := "(I)I" } : Jvm.MethodName) ({ cls := "WellOfTheSilentModel", name := "flowBest", desc := "(I)I" } : Jvm.MethodName)) ∈ lw_all := lw_g (lw_at lw_m6 95 rfl) rfl
theorem q1380 : (Jvm.Cond.code ({ cls := "WellOfTheSilentModel", name := "flowBest", desc := "(I)I" } : Jvm.MethodName) prog_24_method_51_code (4 : Nat) (Option.some Jvm.ClassFile.FieldType.int)) ∈ lw_all := lw_g (lw_at lw_m6 96 rfl) rfl
theorem q1381 : (Jvm.Cond.methodLink "WellOfTheSilentModel" (155 : Nat) ({ cls := "WellOfTheSilentModel", name := "isNoneDry", desc := "(II)Z" } : Jvm.MethodName)) ∈ lw_all := lw_g (lw_at lw_m6 97 rfl) rfl
theorem q1382 : (Jvm.Cond.privateMethod ({ cls := "WellOfTheSilentModel", name := "isNoneDry", desc := "(II)Z" } : Jvm.MethodName)) ∈ lw_tbl := lw_at lw_m6 98 rfl
theorem q1383 : (Jvm.Cond.instanceMethod ({ cls := "WellOfTheSilentModel", name := "isNoneDry", desc := "(II)Z" } : Jvm.MethodName)) ∈ lw_all := lw_g (lw_at lw_m6 99 rfl) rfl
theorem q1384 : (Jvm.Cond.code ({ cls := "WellOfTheSilentModel", name := "isNoneDry", desc := "(II)Z" } : Jvm.MethodName) prog_24_method_50_code (4 : Nat) (Option.some Jvm.ClassFile.FieldType.boolean)) ∈ lw_all := lw_g (lw_at lw_m6 100 rfl) rfl
theorem q1385 : (Jvm.Cond.methodLink "WellOfTheSilentModel" (152 : Nat) ({ cls := "WellOfTheSilentModel", name := "dryOnes", desc := "([I)I" } : Jvm.MethodName)) ∈ lw_all := lw_g (lw_at lw_m6 101 rfl) rfl
theorem q1386 : (Jvm.Cond.static ({ cls := "WellOfTheSilentModel", name := "dryOnes", desc := "([I)I" } : Jvm.MethodName)) ∈ lw_all := lw_g (lw_at lw_m6 102 rfl) rfl
theorem q1387 : (Jvm.Cond.code ({ cls := "WellOfTheSilentModel", name := "dryOnes", desc := "([I)I" } : Jvm.MethodName) prog_24_method_20_code (3 : Nat) (Option.some Jvm.ClassFile.FieldType.int)) ∈ lw_all := lw_g (lw_at lw_m6 103 rfl) rfl
theorem q1389 : (Jvm.Cond.instanceMethod ({ cls := "WellOfTheSilentModel", name := "canBest", desc := "(II)I" } : Jvm.MethodName)) ∈ lw_all := lw_g (lw_at lw_m6 105 rfl) rfl
theorem q1390 : (Jvm.Cond.selects "WellOfTheSilentModel" ({ cls := "WellOfTheSilentModel", name := "canBest", desc := "(II)I" } : Jvm.MethodName) ({ cls := "WellOfTheSilentModel", name := "canBest", desc := "(II)I" } : Jvm.MethodName)) ∈ lw_all := lw_g (lw_at lw_m6 106 rfl) rfl
theorem q1391 : (Jvm.Cond.code ({ cls := "WellOfTheSilentModel", name := "canBest", desc := "(II)I" } : Jvm.MethodName) prog_24_method_52_code (5 : Nat) (Option.some Jvm.ClassFile.FieldType.int)) ∈ lw_all := lw_g (lw_at lw_m6 107 rfl) rfl
theorem q1393 : (Jvm.Cond.instanceMethod ({ cls := "WellOfTheSilentModel", name := "friendBest", desc := "(II)I" } : Jvm.MethodName)) ∈ lw_all := lw_g (lw_at lw_m6 109 rfl) rfl
theorem q1394 : (Jvm.Cond.selects "WellOfTheSilentModel" ({ cls := "WellOfTheSilentModel", name := "friendBest", desc := "(II)I" } : Jvm.MethodName) ({ cls := "WellOfTheSilentModel", name := "friendBest", desc := "(II)I" } : Jvm.MethodName)) ∈ lw_all := lw_g (lw_at lw_m6 110 rfl) rfl
theorem q1395 : (Jvm.Cond.code ({ cls := "WellOfTheSilentModel", name := "friendBest", desc := "(II)I" } : Jvm.MethodName) prog_24_method_54_code (7 : Nat) (Option.some Jvm.ClassFile.FieldType.int)) ∈ lw_all := lw_g (lw_at lw_m6 111 rfl) rfl
theorem q1396 : (Jvm.Cond.methodLink "WellOfTheSilentModel" (158 : Nat) ({ cls := "WellOfTheSilentModel", name := "leastHas", desc := "([I)I" } : Jvm.MethodName)) ∈ lw_all := lw_g (lw_at lw_m6 112 rfl) rfl
theorem q1397 : (Jvm.Cond.static ({ cls := "WellOfTheSilentModel", name := "leastHas", desc := "([I)I" } : Jvm.MethodName)) ∈ lw_all := lw_g (lw_at lw_m6 113 rfl) rfl
theorem q1398 : (Jvm.Cond.code ({ cls := "WellOfTheSilentModel", name := "leastHas", desc := "([I)I" } : Jvm.MethodName) prog_24_method_53_code (3 : Nat) (Option.some Jvm.ClassFile.FieldType.int)) ∈ lw_all := lw_g (lw_at lw_m6 114 rfl) rfl
theorem q1400 : (Jvm.Cond.instanceMethod ({ cls := "WellOfTheSilentModel", name := "hush", desc := "(I)I" } : Jvm.MethodName)) ∈ lw_all := lw_g (lw_at lw_m6 116 rfl) rfl
theorem q1401 : (Jvm.Cond.selects "WellOfTheSilentModel" ({ cls := "WellOfTheSilentModel", name := "hush", desc := "(I)I" } : Jvm.MethodName) ({ cls := "WellOfTheSilentModel", name := "hush", desc := "(I)I" } : Jvm.MethodName)) ∈ lw_all := lw_g (lw_at lw_m6 117 rfl) rfl
theorem q1402 : (Jvm.Cond.code ({ cls := "WellOfTheSilentModel", name := "hush", desc := "(I)I" } : Jvm.MethodName) prog_24_method_55_code (6 : Nat) (Option.some Jvm.ClassFile.FieldType.int)) ∈ lw_all := lw_g (lw_at lw_m6 118 rfl) rfl
theorem q1404 : (Jvm.Cond.instanceMethod ({ cls := "WellOfTheSilentModel", name := "fewest", desc := "(I)I" } : Jvm.MethodName)) ∈ lw_all := lw_g (lw_at lw_m6 120 rfl) rfl
theorem q1405 : (Jvm.Cond.selects "WellOfTheSilentModel" ({ cls := "WellOfTheSilentModel", name := "fewest", desc := "(I)I" } : Jvm.MethodName) ({ cls := "WellOfTheSilentModel", name := "fewest", desc := "(I)I" } : Jvm.MethodName)) ∈ lw_all := lw_g (lw_at lw_m6 121 rfl) rfl
theorem q1406 : (Jvm.Cond.code ({ cls := "WellOfTheSilentModel", name := "fewest", desc := "(I)I" } : Jvm.MethodName) prog_24_method_56_code (5 : Nat) (Option.some Jvm.ClassFile.FieldType.int)) ∈ lw_all := lw_g (lw_at lw_m6 122 rfl) rfl
theorem q1408 : (Jvm.Cond.instanceMethod ({ cls := "WellOfTheSilentModel", name := "word", desc := "(I)I" } : Jvm.MethodName)) ∈ lw_all := lw_g (lw_at lw_m6 124 rfl) rfl
theorem q1409 : (Jvm.Cond.selects "WellOfTheSilentModel" ({ cls := "WellOfTheSilentModel", name := "word", desc := "(I)I" } : Jvm.MethodName) ({ cls := "WellOfTheSilentModel", name := "word", desc := "(I)I" } : Jvm.MethodName)) ∈ lw_all := lw_g (lw_at lw_m6 125 rfl) rfl
theorem q1410 : (Jvm.Cond.code ({ cls := "WellOfTheSilentModel", name := "word", desc := "(I)I" } : Jvm.MethodName) prog_24_method_57_code (6 : Nat) (Option.some Jvm.ClassFile.FieldType.int)) ∈ lw_all := lw_g (lw_at lw_m6 126 rfl) rfl
theorem q1412 : (Jvm.Cond.instanceMethod ({ cls := "WellOfTheSilentModel", name := "send", desc := "(II)I" } : Jvm.MethodName)) ∈ lw_all := lw_g (lw_at lw_m6 128 rfl) rfl
theorem q1413 : (Jvm.Cond.selects "WellOfTheSilentModel" ({ cls := "WellOfTheSilentModel", name := "send", desc := "(II)I" } : Jvm.MethodName) ({ cls := "WellOfTheSilentModel", name := "send", desc := "(II)I" } : Jvm.MethodName)) ∈ lw_all := lw_g (lw_at lw_m6 129 rfl) rfl
theorem q1414 : (Jvm.Cond.code ({ cls := "WellOfTheSilentModel", name := "send", desc := "(II)I" } : Jvm.MethodName) prog_24_method_58_code (8 : Nat) (Option.some Jvm.ClassFile.FieldType.int)) ∈ lw_all := lw_g (lw_at lw_m6 130 rfl) rfl
theorem q1416 : (Jvm.Cond.instanceMethod ({ cls := "WellOfTheSilentModel", name := "next", desc := "()I" } : Jvm.MethodName)) ∈ lw_all := lw_g (lw_at lw_m6 132 rfl) rfl
theorem q1417 : (Jvm.Cond.selects "WellOfTheSilentModel" ({ cls := "WellOfTheSilentModel", name := "next", desc := "()I" } : Jvm.MethodName) ({ cls := "WellOfTheSilentModel", name := "next", desc := "()I" } : Jvm.MethodName)) ∈ lw_all := lw_g (lw_at lw_m6 133 rfl) rfl
theorem q1418 : (Jvm.Cond.code ({ cls := "WellOfTheSilentModel", name := "next", desc := "()I" } : Jvm.MethodName) prog_24_method_59_code (2 : Nat) (Option.some Jvm.ClassFile.FieldType.int)) ∈ lw_all := lw_g (lw_at lw_m6 134 rfl) rfl
theorem q1420 : (Jvm.Cond.instanceMethod ({ cls := "WellOfTheSilentModel", name := "richest", desc := "(I)I" } : Jvm.MethodName)) ∈ lw_all := lw_g (lw_at lw_m6 136 rfl) rfl
theorem q1421 : (Jvm.Cond.selects "WellOfTheSilentModel" ({ cls := "WellOfTheSilentModel", name := "richest", desc := "(I)I" } : Jvm.MethodName) ({ cls := "WellOfTheSilentModel", name := "richest", desc := "(I)I" } : Jvm.MethodName)) ∈ lw_all := lw_g (lw_at lw_m6 137 rfl) rfl
theorem q1422 : (Jvm.Cond.code ({ cls := "WellOfTheSilentModel", name := "richest", desc := "(I)I" } : Jvm.MethodName) prog_24_method_61_code (2 : Nat) (Option.some Jvm.ClassFile.FieldType.int)) ∈ lw_all := lw_g (lw_at lw_m6 138 rfl) rfl
theorem q1423 : (Jvm.Cond.methodLink "WellOfTheSilentModel" (161 : Nat) ({ cls := "WellOfTheSilentModel", name := "extreme", desc := "(IZ)I" } : Jvm.MethodName)) ∈ lw_all := lw_g (lw_at lw_m6 139 rfl) rfl
theorem q1424 : (Jvm.Cond.privateMethod ({ cls := "WellOfTheSilentModel", name := "extreme", desc := "(IZ)I" } : Jvm.MethodName)) ∈ lw_tbl := lw_at lw_m6 140 rfl
theorem q1425 : (Jvm.Cond.instanceMethod ({ cls := "WellOfTheSilentModel", name := "extreme", desc := "(IZ)I" } : Jvm.MethodName)) ∈ lw_all := lw_g (lw_at lw_m6 141 rfl) rfl
theorem q1426 : (Jvm.Cond.code ({ cls := "WellOfTheSilentModel", name := "extreme", desc := "(IZ)I" } : Jvm.MethodName) prog_24_method_60_code (7 : Nat) (Option.some Jvm.ClassFile.FieldType.int)) ∈ lw_all := lw_g (lw_at lw_m6 142 rfl) rfl
theorem q1428 : (Jvm.Cond.instanceMethod ({ cls := "WellOfTheSilentModel", name := "quiet", desc := "(I)I" } : Jvm.MethodName)) ∈ lw_all := lw_g (lw_at lw_m6 144 rfl) rfl
theorem q1429 : (Jvm.Cond.selects "WellOfTheSilentModel" ({ cls := "WellOfTheSilentModel", name := "quiet", desc := "(I)I" } : Jvm.MethodName) ({ cls := "WellOfTheSilentModel", name := "quiet", desc := "(I)I" } : Jvm.MethodName)) ∈ lw_all := lw_g (lw_at lw_m6 145 rfl) rfl
theorem q1430 : (Jvm.Cond.code ({ cls := "WellOfTheSilentModel", name := "quiet", desc := "(I)I" } : Jvm.MethodName) prog_24_method_62_code (5 : Nat) (Option.some Jvm.ClassFile.FieldType.int)) ∈ lw_all := lw_g (lw_at lw_m6 146 rfl) rfl
theorem q1432 : (Jvm.Cond.instanceMethod ({ cls := "WellOfTheSilentModel", name := "thirst", desc := "()I" } : Jvm.MethodName)) ∈ lw_all := lw_g (lw_at lw_m6 148 rfl) rfl
theorem q1433 : (Jvm.Cond.selects "WellOfTheSilentModel" ({ cls := "WellOfTheSilentModel", name := "thirst", desc := "()I" } : Jvm.MethodName) ({ cls := "WellOfTheSilentModel", name := "thirst", desc := "()I" } : Jvm.MethodName)) ∈ lw_all := lw_g (lw_at lw_m6 149 rfl) rfl
theorem q1434 : (Jvm.Cond.code ({ cls := "WellOfTheSilentModel", name := "thirst", desc := "()I" } : Jvm.MethodName) prog_24_method_63_code (3 : Nat) (Option.some Jvm.ClassFile.FieldType.int)) ∈ lw_all := lw_g (lw_at lw_m6 150 rfl) rfl
theorem q1436 : (Jvm.Cond.instanceMethod ({ cls := "WellOfTheSilentModel", name := "lasts", desc := "(I)I" } : Jvm.MethodName)) ∈ lw_all := lw_g (lw_at lw_m6 152 rfl) rfl
theorem q1437 : (Jvm.Cond.selects "WellOfTheSilentModel" ({ cls := "WellOfTheSilentModel", name := "lasts", desc := "(I)I" } : Jvm.MethodName) ({ cls := "WellOfTheSilentModel", name := "lasts", desc := "(I)I" } : Jvm.MethodName)) ∈ lw_all := lw_g (lw_at lw_m6 153 rfl) rfl
theorem q1438 : (Jvm.Cond.code ({ cls := "WellOfTheSilentModel", name := "lasts", desc := "(I)I" } : Jvm.MethodName) prog_24_method_64_code (2 : Nat) (Option.some Jvm.ClassFile.FieldType.int)) ∈ lw_all := lw_g (lw_at lw_m6 154 rfl) rfl
theorem q1440 : (Jvm.Cond.instanceMethod ({ cls := "WellOfTheSilentModel", name := "carries", desc := "(I)I" } : Jvm.MethodName)) ∈ lw_all := lw_g (lw_at lw_m6 156 rfl) rfl
theorem q1441 : (Jvm.Cond.selects "WellOfTheSilentModel" ({ cls := "WellOfTheSilentModel", name := "carries", desc := "(I)I" } : Jvm.MethodName) ({ cls := "WellOfTheSilentModel", name := "carries", desc := "(I)I" } : Jvm.MethodName)) ∈ lw_all := lw_g (lw_at lw_m6 157 rfl) rfl
theorem q1442 : (Jvm.Cond.code ({ cls := "WellOfTheSilentModel", name := "carries", desc := "(I)I" } : Jvm.MethodName) prog_24_method_65_code (6 : Nat) (Option.some Jvm.ClassFile.FieldType.int)) ∈ lw_all := lw_g (lw_at lw_m6 158 rfl) rfl
theorem q1444 : (Jvm.Cond.instanceMethod ({ cls := "WellOfTheSilentModel", name := "two", desc := "(III)I" } : Jvm.MethodName)) ∈ lw_all := lw_g (lw_at lw_m6 160 rfl) rfl
theorem q1445 : (Jvm.Cond.selects "WellOfTheSilentModel" ({ cls := "WellOfTheSilentModel", name := "two", desc := "(III)I" } : Jvm.MethodName) ({ cls := "WellOfTheSilentModel", name := "two", desc := "(III)I" } : Jvm.MethodName)) ∈ lw_all := lw_g (lw_at lw_m6 161 rfl) rfl
theorem q1446 : (Jvm.Cond.code ({ cls := "WellOfTheSilentModel", name := "two", desc := "(III)I" } : Jvm.MethodName) prog_24_method_67_code (8 : Nat) (Option.some Jvm.ClassFile.FieldType.int)) ∈ lw_all := lw_g (lw_at lw_m6 162 rfl) rfl
theorem q1447 : (Jvm.Cond.methodLink "WellOfTheSilentModel" (165 : Nat) ({ cls := "WellOfTheSilentModel", name := "hasBy", desc := "(IIIIII)I" } : Jvm.MethodName)) ∈ lw_all := lw_g (lw_at lw_m6 163 rfl) rfl
theorem q1448 : (Jvm.Cond.privateMethod ({ cls := "WellOfTheSilentModel", name := "hasBy", desc := "(IIIIII)I" } : Jvm.MethodName)) ∈ lw_tbl := lw_at lw_m6 164 rfl
theorem q1449 : (Jvm.Cond.instanceMethod ({ cls := "WellOfTheSilentModel", name := "hasBy", desc := "(IIIIII)I" } : Jvm.MethodName)) ∈ lw_all := lw_g (lw_at lw_m6 165 rfl) rfl
theorem q1450 : (Jvm.Cond.code ({ cls := "WellOfTheSilentModel", name := "hasBy", desc := "(IIIIII)I" } : Jvm.MethodName) prog_24_method_66_code (7 : Nat) (Option.some Jvm.ClassFile.FieldType.int)) ∈ lw_all := lw_g (lw_at lw_m6 166 rfl) rfl
theorem q1452 : (Jvm.Cond.instanceMethod ({ cls := "WellOfTheSilentModel", name := "sneeze", desc := "(IIIII)J" } : Jvm.MethodName)) ∈ lw_all := lw_g (lw_at lw_m6 168 rfl) rfl
theorem q1453 : (Jvm.Cond.selects "WellOfTheSilentModel" ({ cls := "WellOfTheSilentModel", name := "sneeze", desc := "(IIIII)J" } : Jvm.MethodName) ({ cls := "WellOfTheSilentModel", name := "sneeze", desc := "(IIIII)J" } : Jvm.MethodName)) ∈ lw_all := lw_g (lw_at lw_m6 169 rfl) rfl
theorem q1454 : (Jvm.Cond.code ({ cls := "WellOfTheSilentModel", name := "sneeze", desc := "(IIIII)J" } : Jvm.MethodName) prog_24_method_70_code (14 : Nat) (Option.some Jvm.ClassFile.FieldType.long)) ∈ lw_all := lw_g (lw_at lw_m6 170 rfl) rfl
theorem q1455 : (Jvm.Cond.methodLink "WellOfTheSilentModel" (173 : Nat) ({ cls := "WellOfTheSilentModel", name := "noWide", desc := "(I)J" } : Jvm.MethodName)) ∈ lw_all := lw_g (lw_at lw_m6 171 rfl) rfl
theorem q1456 : (Jvm.Cond.privateMethod ({ cls := "WellOfTheSilentModel", name := "noWide", desc := "(I)J" } : Jvm.MethodName)) ∈ lw_tbl := lw_at lw_m6 172 rfl
theorem q1457 : (Jvm.Cond.instanceMethod ({ cls := "WellOfTheSilentModel", name := "noWide", desc := "(I)J" } : Jvm.MethodName)) ∈ lw_all := lw_g (lw_at lw_m6 173 rfl) rfl
theorem q1458 : (Jvm.Cond.code ({ cls := "WellOfTheSilentModel", name := "noWide", desc := "(I)J" } : Jvm.MethodName) prog_24_method_6_code (2 : Nat) (Option.some Jvm.ClassFile.FieldType.long)) ∈ lw_all := lw_g (lw_at lw_m6 174 rfl) rfl
theorem q1459 : (Jvm.Cond.constantLong "WellOfTheSilentModel" (34 : Nat) (4000000000000000000 : Int64)) ∈ lw_all := lw_g (lw_at lw_m6 175 rfl) rfl
theorem q1460 : (Jvm.Cond.methodLink "WellOfTheSilentModel" (177 : Nat) ({ cls := "WellOfTheSilentModel", name := "partOf", desc := "(JJI)J" } : Jvm.MethodName)) ∈ lw_all := lw_g (lw_at lw_m6 176 rfl) rfl
theorem q1461 : (Jvm.Cond.static ({ cls := "WellOfTheSilentModel", name := "partOf", desc := "(JJI)J" } : Jvm.MethodName)) ∈ lw_all := lw_g (lw_at lw_m6 177 rfl) rfl
theorem q1462 : (Jvm.Cond.code ({ cls := "WellOfTheSilentModel", name := "partOf", desc := "(JJI)J" } : Jvm.MethodName) prog_24_method_69_code (5 : Nat) (Option.some Jvm.ClassFile.FieldType.long)) ∈ lw_all := lw_g (lw_at lw_m6 178 rfl) rfl
theorem q1463 : (Jvm.Cond.methodLink "WellOfTheSilentModel" (169 : Nat) ({ cls := "WellOfTheSilentModel", name := "gcd", desc := "(JJ)J" } : Jvm.MethodName)) ∈ lw_all := lw_g (lw_at lw_m6 179 rfl) rfl
theorem q1464 : (Jvm.Cond.static ({ cls := "WellOfTheSilentModel", name := "gcd", desc := "(JJ)J" } : Jvm.MethodName)) ∈ lw_all := lw_g (lw_at lw_m6 180 rfl) rfl
theorem q1465 : (Jvm.Cond.code ({ cls := "WellOfTheSilentModel", name := "gcd", desc := "(JJ)J" } : Jvm.MethodName) prog_24_method_68_code (10 : Nat) (Option.some Jvm.ClassFile.FieldType.long)) ∈ lw_all := lw_g (lw_at lw_m6 181 rfl) rfl
theorem q1467 : (Jvm.Cond.instanceMethod ({ cls := "WellOfTheSilentModel", name := "mean", desc := "(I)J" } : Jvm.MethodName)) ∈ lw_all := lw_g (lw_at lw_m6 183 rfl) rfl
theorem q1468 : (Jvm.Cond.selects "WellOfTheSilentModel" ({ cls := "WellOfTheSilentModel", name := "mean", desc := "(I)J" } : Jvm.MethodName) ({ cls := "WellOfTheSilentModel", name := "mean", desc := "(I)J" } : Jvm.MethodName)) ∈ lw_all := lw_g (lw_at lw_m6 184 rfl) rfl
theorem q1469 : (Jvm.Cond.code ({ cls := "WellOfTheSilentModel", name := "mean", desc := "(I)J" } : Jvm.MethodName) prog_24_method_71_code (2 : Nat) (Option.some Jvm.ClassFile.FieldType.long)) ∈ lw_all := lw_g (lw_at lw_m6 185 rfl) rfl
theorem q1471 : (Jvm.Cond.instanceMethod ({ cls := "WellOfTheSilentModel", name := "whatIs", desc := "(II)I" } : Jvm.MethodName)) ∈ lw_all := lw_g (lw_at lw_m6 187 rfl) rfl
theorem q1472 : (Jvm.Cond.selects "WellOfTheSilentModel" ({ cls := "WellOfTheSilentModel", name := "whatIs", desc := "(II)I" } : Jvm.MethodName) ({ cls := "WellOfTheSilentModel", name := "whatIs", desc := "(II)I" } : Jvm.MethodName)) ∈ lw_all := lw_g (lw_at lw_m6 188 rfl) rfl
theorem q1473 : (Jvm.Cond.code ({ cls := "WellOfTheSilentModel", name := "whatIs", desc := "(II)I" } : Jvm.MethodName) prog_24_method_72_code (7 : Nat) (Option.some Jvm.ClassFile.FieldType.int)) ∈ lw_all := lw_g (lw_at lw_m6 189 rfl) rfl
theorem q1475 : (Jvm.Cond.instanceMethod ({ cls := "WellOfTheSilentModel", name := "row", desc := "(I)I" } : Jvm.MethodName)) ∈ lw_all := lw_g (lw_at lw_m6 191 rfl) rfl
theorem q1476 : (Jvm.Cond.selects "WellOfTheSilentModel" ({ cls := "WellOfTheSilentModel", name := "row", desc := "(I)I" } : Jvm.MethodName) ({ cls := "WellOfTheSilentModel", name := "row", desc := "(I)I" } : Jvm.MethodName)) ∈ lw_all := lw_g (lw_at lw_m6 192 rfl) rfl
theorem q1477 : (Jvm.Cond.code ({ cls := "WellOfTheSilentModel", name := "row", desc := "(I)I" } : Jvm.MethodName) prog_24_method_73_code (3 : Nat) (Option.some Jvm.ClassFile.FieldType.int)) ∈ lw_all := lw_g (lw_at lw_m6 193 rfl) rfl
theorem q1479 : (Jvm.Cond.instanceMethod ({ cls := "WellOfTheSilentModel", name := "judge", desc := "()I" } : Jvm.MethodName)) ∈ lw_all := lw_g (lw_at lw_m6 195 rfl) rfl
theorem q1480 : (Jvm.Cond.selects "WellOfTheSilentModel" ({ cls := "WellOfTheSilentModel", name := "judge", desc := "()I" } : Jvm.MethodName) ({ cls := "WellOfTheSilentModel", name := "judge", desc := "()I" } : Jvm.MethodName)) ∈ lw_all := lw_g (lw_at lw_m6 196 rfl) rfl
theorem q1481 : (Jvm.Cond.code ({ cls := "WellOfTheSilentModel", name := "judge", desc := "()I" } : Jvm.MethodName) prog_24_method_74_code (3 : Nat) (Option.some Jvm.ClassFile.FieldType.int)) ∈ lw_all := lw_g (lw_at lw_m6 197 rfl) rfl
theorem q1483 : (Jvm.Cond.instanceMethod ({ cls := "WellOfTheSilentModel", name := "clear", desc := "()I" } : Jvm.MethodName)) ∈ lw_all := lw_g (lw_at lw_m6 199 rfl) rfl
theorem q1484 : (Jvm.Cond.selects "WellOfTheSilentModel" ({ cls := "WellOfTheSilentModel", name := "clear", desc := "()I" } : Jvm.MethodName) ({ cls := "WellOfTheSilentModel", name := "clear", desc := "()I" } : Jvm.MethodName)) ∈ lw_all := lw_g (lw_at lw_m6 200 rfl) rfl
theorem q1485 : (Jvm.Cond.code ({ cls := "WellOfTheSilentModel", name := "clear", desc := "()I" } : Jvm.MethodName) prog_24_method_75_code (2 : Nat) (Option.some Jvm.ClassFile.FieldType.int)) ∈ lw_all := lw_g (lw_at lw_m6 201 rfl) rfl
theorem q1487 : (Jvm.Cond.instanceMethod ({ cls := "WellOfTheSilentModel", name := "lots", desc := "(III)I" } : Jvm.MethodName)) ∈ lw_all := lw_g (lw_at lw_m6 203 rfl) rfl
theorem q1488 : (Jvm.Cond.selects "WellOfTheSilentModel" ({ cls := "WellOfTheSilentModel", name := "lots", desc := "(III)I" } : Jvm.MethodName) ({ cls := "WellOfTheSilentModel", name := "lots", desc := "(III)I" } : Jvm.MethodName)) ∈ lw_all := lw_g (lw_at lw_m6 204 rfl) rfl
theorem q1489 : (Jvm.Cond.code ({ cls := "WellOfTheSilentModel", name := "lots", desc := "(III)I" } : Jvm.MethodName) prog_24_method_77_code (7 : Nat) (Option.some Jvm.ClassFile.FieldType.int)) ∈ lw_all := lw_g (lw_at lw_m6 205 rfl) rfl
theorem q1490 : (Jvm.Cond.methodLink "WellOfTheSilentModel" (190 : Nat) ({ cls := "WellOfTheSilentModel", name := "drawn", desc := "(I)I" } : Jvm.MethodName)) ∈ lw_all := lw_g (lw_at lw_m6 206 rfl) rfl
theorem q1491 : (Jvm.Cond.privateMethod ({ cls := "WellOfTheSilentModel", name := "drawn", desc := "(I)I" } : Jvm.MethodName)) ∈ lw_tbl := lw_at lw_m6 207 rfl
theorem q1492 : (Jvm.Cond.instanceMethod ({ cls := "WellOfTheSilentModel", name := "drawn", desc := "(I)I" } : Jvm.MethodName)) ∈ lw_all := lw_g (lw_at lw_m6 208 rfl) rfl
theorem q1493 : (Jvm.Cond.code ({ cls := "WellOfTheSilentModel", name := "drawn", desc := "(I)I" } : Jvm.MethodName) prog_24_method_76_code (2 : Nat) (Option.some Jvm.ClassFile.FieldType.int)) ∈ lw_all := lw_g (lw_at lw_m6 209 rfl) rfl
theorem q1494 : (Jvm.Cond.constant "WellOfTheSilentModel" (187 : Nat) (1664525 : Int32)) ∈ lw_all := lw_g (lw_at lw_m6 210 rfl) rfl
theorem q1495 : (Jvm.Cond.constant "WellOfTheSilentModel" (188 : Nat) (1013904223 : Int32)) ∈ lw_all := lw_g (lw_at lw_m6 211 rfl) rfl
theorem q1496 : (Jvm.Cond.constant "WellOfTheSilentModel" (189 : Nat) (2147483647 : Int32)) ∈ lw_all := lw_g (lw_at lw_m6 212 rfl) rfl
theorem q1498 : (Jvm.Cond.instanceMethod ({ cls := "WellOfTheSilentModel", name := "image", desc := "()I" } : Jvm.MethodName)) ∈ lw_all := lw_g (lw_at lw_m6 214 rfl) rfl
theorem q1499 : (Jvm.Cond.selects "WellOfTheSilentModel" ({ cls := "WellOfTheSilentModel", name := "image", desc := "()I" } : Jvm.MethodName) ({ cls := "WellOfTheSilentModel", name := "image", desc := "()I" } : Jvm.MethodName)) ∈ lw_all := lw_g (lw_at lw_m6 215 rfl) rfl
theorem q1500 : (Jvm.Cond.code ({ cls := "WellOfTheSilentModel", name := "image", desc := "()I" } : Jvm.MethodName) prog_24_method_78_code (1 : Nat) (Option.some Jvm.ClassFile.FieldType.int)) ∈ lw_all := lw_g (lw_at lw_m6 216 rfl) rfl
theorem q1502 : (Jvm.Cond.instanceMethod ({ cls := "WellOfTheSilentModel", name := "on", desc := "()I" } : Jvm.MethodName)) ∈ lw_all := lw_g (lw_at lw_m6 218 rfl) rfl
theorem q1503 : (Jvm.Cond.selects "WellOfTheSilentModel" ({ cls := "WellOfTheSilentModel", name := "on", desc := "()I" } : Jvm.MethodName) ({ cls := "WellOfTheSilentModel", name := "on", desc := "()I" } : Jvm.MethodName)) ∈ lw_all := lw_g (lw_at lw_m6 219 rfl) rfl
theorem q1504 : (Jvm.Cond.code ({ cls := "WellOfTheSilentModel", name := "on", desc := "()I" } : Jvm.MethodName) prog_24_method_79_code (1 : Nat) (Option.some Jvm.ClassFile.FieldType.int)) ∈ lw_all := lw_g (lw_at lw_m6 220 rfl) rfl
theorem q1506 : (Jvm.Cond.instanceMethod ({ cls := "WellOfTheSilentModel", name := "count", desc := "(I)I" } : Jvm.MethodName)) ∈ lw_all := lw_g (lw_at lw_m6 222 rfl) rfl
theorem q1507 : (Jvm.Cond.selects "WellOfTheSilentModel" ({ cls := "WellOfTheSilentModel", name := "count", desc := "(I)I" } : Jvm.MethodName) ({ cls := "WellOfTheSilentModel", name := "count", desc := "(I)I" } : Jvm.MethodName)) ∈ lw_all := lw_g (lw_at lw_m6 223 rfl) rfl
theorem q1508 : (Jvm.Cond.code ({ cls := "WellOfTheSilentModel", name := "count", desc := "(I)I" } : Jvm.MethodName) prog_24_method_80_code (2 : Nat) (Option.some Jvm.ClassFile.FieldType.int)) ∈ lw_all := lw_g (lw_at lw_m6 224 rfl) rfl
theorem in_X9 : ∀ w ∈ wsX90, w ∈ lw_all := lw_in wsX90 [1182, 1184, 1186, 1188, 1190, 1192, 1194, 1196, 1198, 1200, 1202, 1204, 1206] (by decide +kernel) (by decide +kernel)
