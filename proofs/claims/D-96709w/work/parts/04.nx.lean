/-! PulledFromUnder -/
set_option maxRecDepth 100000
def RX0 : String := "PulledFromUnder"
def TX0 : u_T := fun k => match k with
  | 0 => ("PulledFromUnder", "kinds", "[LPulledFromUnder$Kind;", true)
  | 1 => ("PulledFromUnder", "room0", "LPulledFromUnder$Room;", true)
  | 2 => ("PulledFromUnder", "mind", "LPulledFromUnder$Room;", true)
  | 3 => ("PulledFromUnder", "imaged", "LPulledFromUnder$Room;", true)
  | 4 => ("PulledFromUnder", "hasImage", "Z", false)
  | 5 => ("PulledFromUnder", "row", "[B", true)
  | 6 => ("PulledFromUnder", "rowMany", "I", false)
  | 7 => ("PulledFromUnder", "letters", "[C", true)
  | 8 => ("PulledFromUnder", "letterMany", "I", false)
  | 9 => ("PulledFromUnder", "refused", "[I", true)
  | 10 => ("PulledFromUnder", "three", "[I", true)
  | 11 => ("PulledFromUnder", "standBy", "[I", true)
  | _ => ("PulledFromUnder", "drawn", "I", false)
def tyX0 : Nat → FieldType := fun k => match k with
  | 0 => .array (.object "PulledFromUnder$Kind")
  | 1 => .object "PulledFromUnder$Room"
  | 2 => .object "PulledFromUnder$Room"
  | 3 => .object "PulledFromUnder$Room"
  | 4 => .boolean
  | 5 => .array .byte
  | 6 => .int
  | 7 => .array .char
  | 8 => .int
  | 9 => .array .int
  | 10 => .array .int
  | 11 => .array .int
  | _ => .int
abbrev wsX00 : List Cond := u_ws RX0 TX0 13
set_option maxRecDepth 100000 in
theorem nmX0 : ∀ a, a < 13 → ∀ b, b < 13 → a ≠ b → (TX0 a).2.1 ≠ (TX0 b).2.1 := by decide +kernel
set_option maxRecDepth 100000 in
theorem tyX0_ok : ∀ k, k < 13 → parseFieldDescriptor (TX0 k).2.2.1 = some (tyX0 k) := by decide +kernel
abbrev cX0_init : ByteArray := prog_1_method_9_code
def yX0_init : MethodName := ⟨RX0, "<init>", "()V"⟩
def dkwX0_init_6 : List UInt8 := [188, 10, 181, 0, 78, 177]
abbrev dktX0_init_6 : List UInt8 := dkwX0_init_6 ++ []
def dkwX0_init_5 : List UInt8 := [16, 96, 188, 5, 181, 0, 67, 42, 16, 7, 188, 10, 181, 0, 71, 42, 6, 188, 10, 181, 0, 75, 42, 7]
abbrev dktX0_init_5 : List UInt8 := dkwX0_init_5 ++ dktX0_init_6
def dkwX0_init_4 : List UInt8 := [181, 0, 57, 42, 187, 0, 50, 89, 183, 0, 52, 181, 0, 60, 42, 16, 16, 188, 8, 181, 0, 63, 42]
abbrev dktX0_init_4 : List UInt8 := dkwX0_init_4 ++ dktX0_init_5
def dkwX0_init_3 : List UInt8 := [181, 0, 46, 42, 187, 0, 50, 89, 183, 0, 52, 181, 0, 53, 42, 187, 0, 50, 89, 183, 0, 52]
abbrev dktX0_init_3 : List UInt8 := dkwX0_init_3 ++ dktX0_init_4
def dkwX0_init_2 : List UInt8 := [183, 0, 39, 83, 89, 7, 187, 0, 40, 89, 183, 0, 42, 83, 89, 8, 187, 0, 43, 89, 183, 0, 45, 83]
abbrev dktX0_init_2 : List UInt8 := dkwX0_init_2 ++ dktX0_init_3
def dkwX0_init_1 : List UInt8 := [187, 0, 31, 89, 183, 0, 33, 83, 89, 5, 187, 0, 34, 89, 183, 0, 36, 83, 89, 6, 187, 0, 37, 89]
abbrev dktX0_init_1 : List UInt8 := dkwX0_init_1 ++ dktX0_init_2
def dkwX0_init_0 : List UInt8 := [42, 183, 0, 21, 42, 16, 6, 189, 0, 26, 89, 3, 187, 0, 28, 89, 183, 0, 30, 83, 89, 4]
abbrev dktX0_init_0 : List UInt8 := dkwX0_init_0 ++ dktX0_init_1
theorem dksX0_init_0 : cX0_init.data.toList.drop 0 = dktX0_init_0 := by decide +kernel
theorem dksX0_init_1 : cX0_init.data.toList.drop 22 = dktX0_init_1 := dk_seg dksX0_init_0 22 rfl rfl
theorem dksX0_init_2 : cX0_init.data.toList.drop 46 = dktX0_init_2 := dk_seg dksX0_init_1 24 rfl rfl
theorem dksX0_init_3 : cX0_init.data.toList.drop 70 = dktX0_init_3 := dk_seg dksX0_init_2 24 rfl rfl
theorem dksX0_init_4 : cX0_init.data.toList.drop 92 = dktX0_init_4 := dk_seg dksX0_init_3 22 rfl rfl
theorem dksX0_init_5 : cX0_init.data.toList.drop 115 = dktX0_init_5 := dk_seg dksX0_init_4 23 rfl rfl
theorem dksX0_init_6 : cX0_init.data.toList.drop 139 = dktX0_init_6 := dk_seg dksX0_init_5 24 rfl rfl
theorem dX0_init_0 : decode cX0_init 0 = .ok (.aload_n 0, 1) := dk_42 (dk_at dksX0_init_0 0 rfl rfl)
theorem dX0_init_1 : decode cX0_init 1 = .ok (.invokespecial 21, 3) := dk_183 0 21 (dk_at dksX0_init_0 1 rfl rfl)
theorem dX0_init_4 : decode cX0_init 4 = .ok (.aload_n 0, 1) := dk_42 (dk_at dksX0_init_0 4 rfl rfl)
theorem dX0_init_5 : decode cX0_init 5 = .ok (.bipush 6, 2) := dk_16 6 (dk_at dksX0_init_0 5 rfl rfl)
theorem dX0_init_7 : decode cX0_init 7 = .ok (.anewarray 26, 3) := dk_189 0 26 (dk_at dksX0_init_0 7 rfl rfl)
theorem dX0_init_10 : decode cX0_init 10 = .ok (.dup, 1) := dk_89 (dk_at dksX0_init_0 10 rfl rfl)
theorem dX0_init_11 : decode cX0_init 11 = .ok (.iconst 0, 1) := dk_3 (dk_at dksX0_init_0 11 rfl rfl)
theorem dX0_init_12 : decode cX0_init 12 = .ok (.new 28, 3) := dk_187 0 28 (dk_at dksX0_init_0 12 rfl rfl)
theorem dX0_init_15 : decode cX0_init 15 = .ok (.dup, 1) := dk_89 (dk_at dksX0_init_0 15 rfl rfl)
theorem dX0_init_16 : decode cX0_init 16 = .ok (.invokespecial 30, 3) := dk_183 0 30 (dk_at dksX0_init_0 16 rfl rfl)
theorem dX0_init_19 : decode cX0_init 19 = .ok (.aastore, 1) := dk_83 (dk_at dksX0_init_0 19 rfl rfl)
theorem dX0_init_20 : decode cX0_init 20 = .ok (.dup, 1) := dk_89 (dk_at dksX0_init_0 20 rfl rfl)
theorem dX0_init_21 : decode cX0_init 21 = .ok (.iconst 1, 1) := dk_4 (dk_at dksX0_init_0 21 rfl rfl)
theorem dX0_init_22 : decode cX0_init 22 = .ok (.new 31, 3) := dk_187 0 31 (dk_at dksX0_init_1 0 rfl rfl)
theorem dX0_init_25 : decode cX0_init 25 = .ok (.dup, 1) := dk_89 (dk_at dksX0_init_1 3 rfl rfl)
theorem dX0_init_26 : decode cX0_init 26 = .ok (.invokespecial 33, 3) := dk_183 0 33 (dk_at dksX0_init_1 4 rfl rfl)
theorem dX0_init_29 : decode cX0_init 29 = .ok (.aastore, 1) := dk_83 (dk_at dksX0_init_1 7 rfl rfl)
theorem dX0_init_30 : decode cX0_init 30 = .ok (.dup, 1) := dk_89 (dk_at dksX0_init_1 8 rfl rfl)
theorem dX0_init_31 : decode cX0_init 31 = .ok (.iconst 2, 1) := dk_5 (dk_at dksX0_init_1 9 rfl rfl)
theorem dX0_init_32 : decode cX0_init 32 = .ok (.new 34, 3) := dk_187 0 34 (dk_at dksX0_init_1 10 rfl rfl)
theorem dX0_init_35 : decode cX0_init 35 = .ok (.dup, 1) := dk_89 (dk_at dksX0_init_1 13 rfl rfl)
theorem dX0_init_36 : decode cX0_init 36 = .ok (.invokespecial 36, 3) := dk_183 0 36 (dk_at dksX0_init_1 14 rfl rfl)
theorem dX0_init_39 : decode cX0_init 39 = .ok (.aastore, 1) := dk_83 (dk_at dksX0_init_1 17 rfl rfl)
theorem dX0_init_40 : decode cX0_init 40 = .ok (.dup, 1) := dk_89 (dk_at dksX0_init_1 18 rfl rfl)
theorem dX0_init_41 : decode cX0_init 41 = .ok (.iconst 3, 1) := dk_6 (dk_at dksX0_init_1 19 rfl rfl)
theorem dX0_init_42 : decode cX0_init 42 = .ok (.new 37, 3) := dk_187 0 37 (dk_at dksX0_init_1 20 rfl rfl)
theorem dX0_init_45 : decode cX0_init 45 = .ok (.dup, 1) := dk_89 (dk_at dksX0_init_1 23 rfl rfl)
theorem dX0_init_46 : decode cX0_init 46 = .ok (.invokespecial 39, 3) := dk_183 0 39 (dk_at dksX0_init_2 0 rfl rfl)
theorem dX0_init_49 : decode cX0_init 49 = .ok (.aastore, 1) := dk_83 (dk_at dksX0_init_2 3 rfl rfl)
theorem dX0_init_50 : decode cX0_init 50 = .ok (.dup, 1) := dk_89 (dk_at dksX0_init_2 4 rfl rfl)
theorem dX0_init_51 : decode cX0_init 51 = .ok (.iconst 4, 1) := dk_7 (dk_at dksX0_init_2 5 rfl rfl)
theorem dX0_init_52 : decode cX0_init 52 = .ok (.new 40, 3) := dk_187 0 40 (dk_at dksX0_init_2 6 rfl rfl)
theorem dX0_init_55 : decode cX0_init 55 = .ok (.dup, 1) := dk_89 (dk_at dksX0_init_2 9 rfl rfl)
theorem dX0_init_56 : decode cX0_init 56 = .ok (.invokespecial 42, 3) := dk_183 0 42 (dk_at dksX0_init_2 10 rfl rfl)
theorem dX0_init_59 : decode cX0_init 59 = .ok (.aastore, 1) := dk_83 (dk_at dksX0_init_2 13 rfl rfl)
theorem dX0_init_60 : decode cX0_init 60 = .ok (.dup, 1) := dk_89 (dk_at dksX0_init_2 14 rfl rfl)
theorem dX0_init_61 : decode cX0_init 61 = .ok (.iconst 5, 1) := dk_8 (dk_at dksX0_init_2 15 rfl rfl)
theorem dX0_init_62 : decode cX0_init 62 = .ok (.new 43, 3) := dk_187 0 43 (dk_at dksX0_init_2 16 rfl rfl)
theorem dX0_init_65 : decode cX0_init 65 = .ok (.dup, 1) := dk_89 (dk_at dksX0_init_2 19 rfl rfl)
theorem dX0_init_66 : decode cX0_init 66 = .ok (.invokespecial 45, 3) := dk_183 0 45 (dk_at dksX0_init_2 20 rfl rfl)
theorem dX0_init_69 : decode cX0_init 69 = .ok (.aastore, 1) := dk_83 (dk_at dksX0_init_2 23 rfl rfl)
theorem dX0_init_70 : decode cX0_init 70 = .ok (.putfield 46, 3) := dk_181 0 46 (dk_at dksX0_init_3 0 rfl rfl)
theorem dX0_init_73 : decode cX0_init 73 = .ok (.aload_n 0, 1) := dk_42 (dk_at dksX0_init_3 3 rfl rfl)
theorem dX0_init_74 : decode cX0_init 74 = .ok (.new 50, 3) := dk_187 0 50 (dk_at dksX0_init_3 4 rfl rfl)
theorem dX0_init_77 : decode cX0_init 77 = .ok (.dup, 1) := dk_89 (dk_at dksX0_init_3 7 rfl rfl)
theorem dX0_init_78 : decode cX0_init 78 = .ok (.invokespecial 52, 3) := dk_183 0 52 (dk_at dksX0_init_3 8 rfl rfl)
theorem dX0_init_81 : decode cX0_init 81 = .ok (.putfield 53, 3) := dk_181 0 53 (dk_at dksX0_init_3 11 rfl rfl)
theorem dX0_init_84 : decode cX0_init 84 = .ok (.aload_n 0, 1) := dk_42 (dk_at dksX0_init_3 14 rfl rfl)
theorem dX0_init_85 : decode cX0_init 85 = .ok (.new 50, 3) := dk_187 0 50 (dk_at dksX0_init_3 15 rfl rfl)
theorem dX0_init_88 : decode cX0_init 88 = .ok (.dup, 1) := dk_89 (dk_at dksX0_init_3 18 rfl rfl)
theorem dX0_init_89 : decode cX0_init 89 = .ok (.invokespecial 52, 3) := dk_183 0 52 (dk_at dksX0_init_3 19 rfl rfl)
theorem dX0_init_92 : decode cX0_init 92 = .ok (.putfield 57, 3) := dk_181 0 57 (dk_at dksX0_init_4 0 rfl rfl)
theorem dX0_init_95 : decode cX0_init 95 = .ok (.aload_n 0, 1) := dk_42 (dk_at dksX0_init_4 3 rfl rfl)
theorem dX0_init_96 : decode cX0_init 96 = .ok (.new 50, 3) := dk_187 0 50 (dk_at dksX0_init_4 4 rfl rfl)
theorem dX0_init_99 : decode cX0_init 99 = .ok (.dup, 1) := dk_89 (dk_at dksX0_init_4 7 rfl rfl)
theorem dX0_init_100 : decode cX0_init 100 = .ok (.invokespecial 52, 3) := dk_183 0 52 (dk_at dksX0_init_4 8 rfl rfl)
theorem dX0_init_103 : decode cX0_init 103 = .ok (.putfield 60, 3) := dk_181 0 60 (dk_at dksX0_init_4 11 rfl rfl)
theorem dX0_init_106 : decode cX0_init 106 = .ok (.aload_n 0, 1) := dk_42 (dk_at dksX0_init_4 14 rfl rfl)
theorem dX0_init_107 : decode cX0_init 107 = .ok (.bipush 16, 2) := dk_16 16 (dk_at dksX0_init_4 15 rfl rfl)
theorem dX0_init_109 : decode cX0_init 109 = .ok (.newarray .byte, 2) := dk_188_8 (dk_at dksX0_init_4 17 rfl rfl)
theorem dX0_init_111 : decode cX0_init 111 = .ok (.putfield 63, 3) := dk_181 0 63 (dk_at dksX0_init_4 19 rfl rfl)
theorem dX0_init_114 : decode cX0_init 114 = .ok (.aload_n 0, 1) := dk_42 (dk_at dksX0_init_4 22 rfl rfl)
theorem dX0_init_115 : decode cX0_init 115 = .ok (.bipush 96, 2) := dk_16 96 (dk_at dksX0_init_5 0 rfl rfl)
theorem dX0_init_117 : decode cX0_init 117 = .ok (.newarray .char, 2) := dk_188_5 (dk_at dksX0_init_5 2 rfl rfl)
theorem dX0_init_119 : decode cX0_init 119 = .ok (.putfield 67, 3) := dk_181 0 67 (dk_at dksX0_init_5 4 rfl rfl)
theorem dX0_init_122 : decode cX0_init 122 = .ok (.aload_n 0, 1) := dk_42 (dk_at dksX0_init_5 7 rfl rfl)
theorem dX0_init_123 : decode cX0_init 123 = .ok (.bipush 7, 2) := dk_16 7 (dk_at dksX0_init_5 8 rfl rfl)
theorem dX0_init_125 : decode cX0_init 125 = .ok (.newarray .int, 2) := dk_188_10 (dk_at dksX0_init_5 10 rfl rfl)
theorem dX0_init_127 : decode cX0_init 127 = .ok (.putfield 71, 3) := dk_181 0 71 (dk_at dksX0_init_5 12 rfl rfl)
theorem dX0_init_130 : decode cX0_init 130 = .ok (.aload_n 0, 1) := dk_42 (dk_at dksX0_init_5 15 rfl rfl)
theorem dX0_init_131 : decode cX0_init 131 = .ok (.iconst 3, 1) := dk_6 (dk_at dksX0_init_5 16 rfl rfl)
theorem dX0_init_132 : decode cX0_init 132 = .ok (.newarray .int, 2) := dk_188_10 (dk_at dksX0_init_5 17 rfl rfl)
theorem dX0_init_134 : decode cX0_init 134 = .ok (.putfield 75, 3) := dk_181 0 75 (dk_at dksX0_init_5 19 rfl rfl)
theorem dX0_init_137 : decode cX0_init 137 = .ok (.aload_n 0, 1) := dk_42 (dk_at dksX0_init_5 22 rfl rfl)
theorem dX0_init_138 : decode cX0_init 138 = .ok (.iconst 4, 1) := dk_7 (dk_at dksX0_init_5 23 rfl rfl)
theorem dX0_init_139 : decode cX0_init 139 = .ok (.newarray .int, 2) := dk_188_10 (dk_at dksX0_init_6 0 rfl rfl)
theorem dX0_init_141 : decode cX0_init 141 = .ok (.putfield 78, 3) := dk_181 0 78 (dk_at dksX0_init_6 2 rfl rfl)
theorem dX0_init_144 : decode cX0_init 144 = .ok (.return_, 1) := dk_177 (dk_at dksX0_init_6 5 rfl rfl)
abbrev cX0_letter : ByteArray := prog_1_method_72_code
def yX0_letter : MethodName := ⟨RX0, "letter", "(I)I"⟩
def dkwX0_letter_0 : List UInt8 := [42, 3, 27, 3, 3, 3, 3, 182, 1, 195, 172]
abbrev dktX0_letter_0 : List UInt8 := dkwX0_letter_0 ++ []
theorem dksX0_letter_0 : cX0_letter.data.toList.drop 0 = dktX0_letter_0 := by decide +kernel
theorem dX0_letter_0 : decode cX0_letter 0 = .ok (.aload_n 0, 1) := dk_42 (dk_at dksX0_letter_0 0 rfl rfl)
theorem dX0_letter_1 : decode cX0_letter 1 = .ok (.iconst 0, 1) := dk_3 (dk_at dksX0_letter_0 1 rfl rfl)
theorem dX0_letter_2 : decode cX0_letter 2 = .ok (.iload_n 1, 1) := dk_27 (dk_at dksX0_letter_0 2 rfl rfl)
theorem dX0_letter_3 : decode cX0_letter 3 = .ok (.iconst 0, 1) := dk_3 (dk_at dksX0_letter_0 3 rfl rfl)
theorem dX0_letter_4 : decode cX0_letter 4 = .ok (.iconst 0, 1) := dk_3 (dk_at dksX0_letter_0 4 rfl rfl)
theorem dX0_letter_5 : decode cX0_letter 5 = .ok (.iconst 0, 1) := dk_3 (dk_at dksX0_letter_0 5 rfl rfl)
theorem dX0_letter_6 : decode cX0_letter 6 = .ok (.iconst 0, 1) := dk_3 (dk_at dksX0_letter_0 6 rfl rfl)
theorem dX0_letter_7 : decode cX0_letter 7 = .ok (.invokevirtual 451, 3) := dk_182 1 195 (dk_at dksX0_letter_0 7 rfl rfl)
theorem dX0_letter_10 : decode cX0_letter 10 = .ok (.ireturn, 1) := dk_172 (dk_at dksX0_letter_0 10 rfl rfl)
abbrev cX0_act : ByteArray := prog_1_method_39_code
def yX0_act : MethodName := ⟨RX0, "act", "(IIIIII)I"⟩
def dkwX0_act_2 : List UInt8 := [182, 0, 235, 172, 58, 7, 42, 25, 7, 182, 0, 241, 182, 0, 244, 172]
abbrev dktX0_act_2 : List UInt8 := dkwX0_act_2 ++ []
def dkwX0_act_1 : List UInt8 := [42, 27, 28, 29, 21, 4, 182, 0, 232, 167, 0, 16, 42, 27, 28, 29, 21, 4, 21, 5, 21, 6]
abbrev dktX0_act_1 : List UInt8 := dkwX0_act_1 ++ dktX0_act_2
def dkwX0_act_0 : List UInt8 := [27, 16, 9, 162, 0, 15, 42, 27, 28, 29, 21, 4, 182, 0, 228, 167, 0, 34, 27, 16, 18, 162, 0, 15]
abbrev dktX0_act_0 : List UInt8 := dkwX0_act_0 ++ dktX0_act_1
theorem dksX0_act_0 : cX0_act.data.toList.drop 0 = dktX0_act_0 := by decide +kernel
theorem dksX0_act_1 : cX0_act.data.toList.drop 24 = dktX0_act_1 := dk_seg dksX0_act_0 24 rfl rfl
theorem dksX0_act_2 : cX0_act.data.toList.drop 46 = dktX0_act_2 := dk_seg dksX0_act_1 22 rfl rfl
theorem dX0_act_0 : decode cX0_act 0 = .ok (.iload_n 1, 1) := dk_27 (dk_at dksX0_act_0 0 rfl rfl)
theorem dX0_act_1 : decode cX0_act 1 = .ok (.bipush 9, 2) := dk_16 9 (dk_at dksX0_act_0 1 rfl rfl)
theorem dX0_act_3 : decode cX0_act 3 = .ok (.if_icmp .ge 15, 3) := dk_162 0 15 (dk_at dksX0_act_0 3 rfl rfl)
theorem dX0_act_6 : decode cX0_act 6 = .ok (.aload_n 0, 1) := dk_42 (dk_at dksX0_act_0 6 rfl rfl)
theorem dX0_act_7 : decode cX0_act 7 = .ok (.iload_n 1, 1) := dk_27 (dk_at dksX0_act_0 7 rfl rfl)
theorem dX0_act_8 : decode cX0_act 8 = .ok (.iload_n 2, 1) := dk_28 (dk_at dksX0_act_0 8 rfl rfl)
theorem dX0_act_9 : decode cX0_act 9 = .ok (.iload_n 3, 1) := dk_29 (dk_at dksX0_act_0 9 rfl rfl)
theorem dX0_act_10 : decode cX0_act 10 = .ok (.iload 4, 2) := dk_21 4 (dk_at dksX0_act_0 10 rfl rfl)
theorem dX0_act_12 : decode cX0_act 12 = .ok (.invokevirtual 228, 3) := dk_182 0 228 (dk_at dksX0_act_0 12 rfl rfl)
theorem dX0_act_15 : decode cX0_act 15 = .ok (.goto 34, 3) := dk_167 0 34 (dk_at dksX0_act_0 15 rfl rfl)
theorem dX0_act_18 : decode cX0_act 18 = .ok (.iload_n 1, 1) := dk_27 (dk_at dksX0_act_0 18 rfl rfl)
theorem dX0_act_19 : decode cX0_act 19 = .ok (.bipush 18, 2) := dk_16 18 (dk_at dksX0_act_0 19 rfl rfl)
theorem dX0_act_21 : decode cX0_act 21 = .ok (.if_icmp .ge 15, 3) := dk_162 0 15 (dk_at dksX0_act_0 21 rfl rfl)
theorem dX0_act_24 : decode cX0_act 24 = .ok (.aload_n 0, 1) := dk_42 (dk_at dksX0_act_1 0 rfl rfl)
theorem dX0_act_25 : decode cX0_act 25 = .ok (.iload_n 1, 1) := dk_27 (dk_at dksX0_act_1 1 rfl rfl)
theorem dX0_act_26 : decode cX0_act 26 = .ok (.iload_n 2, 1) := dk_28 (dk_at dksX0_act_1 2 rfl rfl)
theorem dX0_act_27 : decode cX0_act 27 = .ok (.iload_n 3, 1) := dk_29 (dk_at dksX0_act_1 3 rfl rfl)
theorem dX0_act_28 : decode cX0_act 28 = .ok (.iload 4, 2) := dk_21 4 (dk_at dksX0_act_1 4 rfl rfl)
theorem dX0_act_30 : decode cX0_act 30 = .ok (.invokevirtual 232, 3) := dk_182 0 232 (dk_at dksX0_act_1 6 rfl rfl)
theorem dX0_act_33 : decode cX0_act 33 = .ok (.goto 16, 3) := dk_167 0 16 (dk_at dksX0_act_1 9 rfl rfl)
theorem dX0_act_36 : decode cX0_act 36 = .ok (.aload_n 0, 1) := dk_42 (dk_at dksX0_act_1 12 rfl rfl)
theorem dX0_act_37 : decode cX0_act 37 = .ok (.iload_n 1, 1) := dk_27 (dk_at dksX0_act_1 13 rfl rfl)
theorem dX0_act_38 : decode cX0_act 38 = .ok (.iload_n 2, 1) := dk_28 (dk_at dksX0_act_1 14 rfl rfl)
theorem dX0_act_39 : decode cX0_act 39 = .ok (.iload_n 3, 1) := dk_29 (dk_at dksX0_act_1 15 rfl rfl)
theorem dX0_act_40 : decode cX0_act 40 = .ok (.iload 4, 2) := dk_21 4 (dk_at dksX0_act_1 16 rfl rfl)
theorem dX0_act_42 : decode cX0_act 42 = .ok (.iload 5, 2) := dk_21 5 (dk_at dksX0_act_1 18 rfl rfl)
theorem dX0_act_44 : decode cX0_act 44 = .ok (.iload 6, 2) := dk_21 6 (dk_at dksX0_act_1 20 rfl rfl)
theorem dX0_act_46 : decode cX0_act 46 = .ok (.invokevirtual 235, 3) := dk_182 0 235 (dk_at dksX0_act_2 0 rfl rfl)
theorem dX0_act_49 : decode cX0_act 49 = .ok (.ireturn, 1) := dk_172 (dk_at dksX0_act_2 3 rfl rfl)
theorem dX0_act_50 : decode cX0_act 50 = .ok (.astore 7, 2) := dk_58 7 (dk_at dksX0_act_2 4 rfl rfl)
theorem dX0_act_52 : decode cX0_act 52 = .ok (.aload_n 0, 1) := dk_42 (dk_at dksX0_act_2 6 rfl rfl)
theorem dX0_act_53 : decode cX0_act 53 = .ok (.aload 7, 2) := dk_25 7 (dk_at dksX0_act_2 7 rfl rfl)
theorem dX0_act_55 : decode cX0_act 55 = .ok (.invokevirtual 241, 3) := dk_182 0 241 (dk_at dksX0_act_2 9 rfl rfl)
theorem dX0_act_58 : decode cX0_act 58 = .ok (.invokevirtual 244, 3) := dk_182 0 244 (dk_at dksX0_act_2 12 rfl rfl)
theorem dX0_act_61 : decode cX0_act 61 = .ok (.ireturn, 1) := dk_172 (dk_at dksX0_act_2 15 rfl rfl)
abbrev cX0_ofRoom : ByteArray := prog_1_method_54_code
def yX0_ofRoom : MethodName := ⟨RX0, "ofRoom", "(IIII)I"⟩
def dkwX0_ofRoom_4 : List UInt8 := [182, 1, 67, 172, 42, 28, 182, 1, 71, 172]
abbrev dktX0_ofRoom_4 : List UInt8 := dkwX0_ofRoom_4 ++ []
def dkwX0_ofRoom_3 : List UInt8 := [172, 42, 28, 182, 1, 58, 172, 42, 182, 1, 61, 172, 42, 28, 182, 1, 64, 172, 42, 28, 29, 21, 4]
abbrev dktX0_ofRoom_3 : List UInt8 := dkwX0_ofRoom_3 ++ dktX0_ofRoom_4
def dkwX0_ofRoom_2 : List UInt8 := [42, 28, 182, 1, 46, 172, 42, 182, 1, 49, 172, 42, 28, 29, 182, 1, 52, 172, 42, 28, 29, 182, 1, 55]
abbrev dktX0_ofRoom_2 : List UInt8 := dkwX0_ofRoom_2 ++ dktX0_ofRoom_3
def dkwX0_ofRoom_1 : List UInt8 := [170, 0, 0, 0, 0, 0, 98, 0, 0, 0, 0, 0, 0, 0, 7, 0, 0, 0, 47, 0, 0, 0, 53, 0, 0, 0, 58, 0, 0, 0, 65, 0, 0, 0, 72, 0, 0, 0, 78, 0, 0, 0, 83, 0, 0, 0, 89]
abbrev dktX0_ofRoom_1 : List UInt8 := dkwX0_ofRoom_1 ++ dktX0_ofRoom_2
def dkwX0_ofRoom_0 : List UInt8 := [27]
abbrev dktX0_ofRoom_0 : List UInt8 := dkwX0_ofRoom_0 ++ dktX0_ofRoom_1
theorem dksX0_ofRoom_0 : cX0_ofRoom.data.toList.drop 0 = dktX0_ofRoom_0 := by decide +kernel
theorem dksX0_ofRoom_1 : cX0_ofRoom.data.toList.drop 1 = dktX0_ofRoom_1 := dk_seg dksX0_ofRoom_0 1 rfl rfl
theorem dksX0_ofRoom_2 : cX0_ofRoom.data.toList.drop 48 = dktX0_ofRoom_2 := dk_seg dksX0_ofRoom_1 47 rfl rfl
theorem dksX0_ofRoom_3 : cX0_ofRoom.data.toList.drop 72 = dktX0_ofRoom_3 := dk_seg dksX0_ofRoom_2 24 rfl rfl
theorem dksX0_ofRoom_4 : cX0_ofRoom.data.toList.drop 95 = dktX0_ofRoom_4 := dk_seg dksX0_ofRoom_3 23 rfl rfl
theorem dX0_ofRoom_0 : decode cX0_ofRoom 0 = .ok (.iload_n 1, 1) := dk_27 (dk_at dksX0_ofRoom_0 0 rfl rfl)
theorem dX0_ofRoom_1 : decode cX0_ofRoom 1 = .ok (.tableswitch 98 0 7 #[47, 53, 58, 65, 72, 78, 83, 89], 47) := by decide +kernel
theorem dX0_ofRoom_48 : decode cX0_ofRoom 48 = .ok (.aload_n 0, 1) := dk_42 (dk_at dksX0_ofRoom_2 0 rfl rfl)
theorem dX0_ofRoom_49 : decode cX0_ofRoom 49 = .ok (.iload_n 2, 1) := dk_28 (dk_at dksX0_ofRoom_2 1 rfl rfl)
theorem dX0_ofRoom_50 : decode cX0_ofRoom 50 = .ok (.invokevirtual 302, 3) := dk_182 1 46 (dk_at dksX0_ofRoom_2 2 rfl rfl)
theorem dX0_ofRoom_53 : decode cX0_ofRoom 53 = .ok (.ireturn, 1) := dk_172 (dk_at dksX0_ofRoom_2 5 rfl rfl)
theorem dX0_ofRoom_54 : decode cX0_ofRoom 54 = .ok (.aload_n 0, 1) := dk_42 (dk_at dksX0_ofRoom_2 6 rfl rfl)
theorem dX0_ofRoom_55 : decode cX0_ofRoom 55 = .ok (.invokevirtual 305, 3) := dk_182 1 49 (dk_at dksX0_ofRoom_2 7 rfl rfl)
theorem dX0_ofRoom_58 : decode cX0_ofRoom 58 = .ok (.ireturn, 1) := dk_172 (dk_at dksX0_ofRoom_2 10 rfl rfl)
theorem dX0_ofRoom_59 : decode cX0_ofRoom 59 = .ok (.aload_n 0, 1) := dk_42 (dk_at dksX0_ofRoom_2 11 rfl rfl)
theorem dX0_ofRoom_60 : decode cX0_ofRoom 60 = .ok (.iload_n 2, 1) := dk_28 (dk_at dksX0_ofRoom_2 12 rfl rfl)
theorem dX0_ofRoom_61 : decode cX0_ofRoom 61 = .ok (.iload_n 3, 1) := dk_29 (dk_at dksX0_ofRoom_2 13 rfl rfl)
theorem dX0_ofRoom_62 : decode cX0_ofRoom 62 = .ok (.invokevirtual 308, 3) := dk_182 1 52 (dk_at dksX0_ofRoom_2 14 rfl rfl)
theorem dX0_ofRoom_65 : decode cX0_ofRoom 65 = .ok (.ireturn, 1) := dk_172 (dk_at dksX0_ofRoom_2 17 rfl rfl)
theorem dX0_ofRoom_66 : decode cX0_ofRoom 66 = .ok (.aload_n 0, 1) := dk_42 (dk_at dksX0_ofRoom_2 18 rfl rfl)
theorem dX0_ofRoom_67 : decode cX0_ofRoom 67 = .ok (.iload_n 2, 1) := dk_28 (dk_at dksX0_ofRoom_2 19 rfl rfl)
theorem dX0_ofRoom_68 : decode cX0_ofRoom 68 = .ok (.iload_n 3, 1) := dk_29 (dk_at dksX0_ofRoom_2 20 rfl rfl)
theorem dX0_ofRoom_69 : decode cX0_ofRoom 69 = .ok (.invokevirtual 311, 3) := dk_182 1 55 (dk_at dksX0_ofRoom_2 21 rfl rfl)
theorem dX0_ofRoom_72 : decode cX0_ofRoom 72 = .ok (.ireturn, 1) := dk_172 (dk_at dksX0_ofRoom_3 0 rfl rfl)
theorem dX0_ofRoom_73 : decode cX0_ofRoom 73 = .ok (.aload_n 0, 1) := dk_42 (dk_at dksX0_ofRoom_3 1 rfl rfl)
theorem dX0_ofRoom_74 : decode cX0_ofRoom 74 = .ok (.iload_n 2, 1) := dk_28 (dk_at dksX0_ofRoom_3 2 rfl rfl)
theorem dX0_ofRoom_75 : decode cX0_ofRoom 75 = .ok (.invokevirtual 314, 3) := dk_182 1 58 (dk_at dksX0_ofRoom_3 3 rfl rfl)
theorem dX0_ofRoom_78 : decode cX0_ofRoom 78 = .ok (.ireturn, 1) := dk_172 (dk_at dksX0_ofRoom_3 6 rfl rfl)
theorem dX0_ofRoom_79 : decode cX0_ofRoom 79 = .ok (.aload_n 0, 1) := dk_42 (dk_at dksX0_ofRoom_3 7 rfl rfl)
theorem dX0_ofRoom_80 : decode cX0_ofRoom 80 = .ok (.invokevirtual 317, 3) := dk_182 1 61 (dk_at dksX0_ofRoom_3 8 rfl rfl)
theorem dX0_ofRoom_83 : decode cX0_ofRoom 83 = .ok (.ireturn, 1) := dk_172 (dk_at dksX0_ofRoom_3 11 rfl rfl)
theorem dX0_ofRoom_84 : decode cX0_ofRoom 84 = .ok (.aload_n 0, 1) := dk_42 (dk_at dksX0_ofRoom_3 12 rfl rfl)
theorem dX0_ofRoom_85 : decode cX0_ofRoom 85 = .ok (.iload_n 2, 1) := dk_28 (dk_at dksX0_ofRoom_3 13 rfl rfl)
theorem dX0_ofRoom_86 : decode cX0_ofRoom 86 = .ok (.invokevirtual 320, 3) := dk_182 1 64 (dk_at dksX0_ofRoom_3 14 rfl rfl)
theorem dX0_ofRoom_89 : decode cX0_ofRoom 89 = .ok (.ireturn, 1) := dk_172 (dk_at dksX0_ofRoom_3 17 rfl rfl)
theorem dX0_ofRoom_90 : decode cX0_ofRoom 90 = .ok (.aload_n 0, 1) := dk_42 (dk_at dksX0_ofRoom_3 18 rfl rfl)
theorem dX0_ofRoom_91 : decode cX0_ofRoom 91 = .ok (.iload_n 2, 1) := dk_28 (dk_at dksX0_ofRoom_3 19 rfl rfl)
theorem dX0_ofRoom_92 : decode cX0_ofRoom 92 = .ok (.iload_n 3, 1) := dk_29 (dk_at dksX0_ofRoom_3 20 rfl rfl)
theorem dX0_ofRoom_93 : decode cX0_ofRoom 93 = .ok (.iload 4, 2) := dk_21 4 (dk_at dksX0_ofRoom_3 21 rfl rfl)
theorem dX0_ofRoom_95 : decode cX0_ofRoom 95 = .ok (.invokevirtual 323, 3) := dk_182 1 67 (dk_at dksX0_ofRoom_4 0 rfl rfl)
theorem dX0_ofRoom_98 : decode cX0_ofRoom 98 = .ok (.ireturn, 1) := dk_172 (dk_at dksX0_ofRoom_4 3 rfl rfl)
theorem dX0_ofRoom_99 : decode cX0_ofRoom 99 = .ok (.aload_n 0, 1) := dk_42 (dk_at dksX0_ofRoom_4 4 rfl rfl)
theorem dX0_ofRoom_100 : decode cX0_ofRoom 100 = .ok (.iload_n 2, 1) := dk_28 (dk_at dksX0_ofRoom_4 5 rfl rfl)
theorem dX0_ofRoom_101 : decode cX0_ofRoom 101 = .ok (.invokevirtual 327, 3) := dk_182 1 71 (dk_at dksX0_ofRoom_4 6 rfl rfl)
theorem dX0_ofRoom_104 : decode cX0_ofRoom 104 = .ok (.ireturn, 1) := dk_172 (dk_at dksX0_ofRoom_4 9 rfl rfl)
abbrev cX0_letterIt : ByteArray := prog_1_method_46_code
def yX0_letterIt : MethodName := ⟨RX0, "letterIt", "(I)I"⟩
def dkwX0_letterIt_2 : List UInt8 := [181, 0, 86, 42, 180, 0, 86, 172]
abbrev dktX0_letterIt_2 : List UInt8 := dkwX0_letterIt_2 ++ []
def dkwX0_letterIt_1 : List UInt8 := [16, 250, 184, 0, 9, 42, 180, 0, 67, 42, 180, 0, 86, 27, 146, 85, 42, 89, 180, 0, 86, 4, 96]
abbrev dktX0_letterIt_1 : List UInt8 := dkwX0_letterIt_1 ++ dktX0_letterIt_2
def dkwX0_letterIt_0 : List UInt8 := [27, 133, 9, 20, 1, 5, 184, 0, 255, 42, 180, 0, 86, 16, 96, 162, 0, 7, 4, 167, 0, 4, 3]
abbrev dktX0_letterIt_0 : List UInt8 := dkwX0_letterIt_0 ++ dktX0_letterIt_1
theorem dksX0_letterIt_0 : cX0_letterIt.data.toList.drop 0 = dktX0_letterIt_0 := by decide +kernel
theorem dksX0_letterIt_1 : cX0_letterIt.data.toList.drop 23 = dktX0_letterIt_1 := dk_seg dksX0_letterIt_0 23 rfl rfl
theorem dksX0_letterIt_2 : cX0_letterIt.data.toList.drop 46 = dktX0_letterIt_2 := dk_seg dksX0_letterIt_1 23 rfl rfl
theorem dX0_letterIt_0 : decode cX0_letterIt 0 = .ok (.iload_n 1, 1) := dk_27 (dk_at dksX0_letterIt_0 0 rfl rfl)
theorem dX0_letterIt_1 : decode cX0_letterIt 1 = .ok (.i2l, 1) := dk_133 (dk_at dksX0_letterIt_0 1 rfl rfl)
theorem dX0_letterIt_2 : decode cX0_letterIt 2 = .ok (.lconst 0, 1) := dk_9 (dk_at dksX0_letterIt_0 2 rfl rfl)
theorem dX0_letterIt_3 : decode cX0_letterIt 3 = .ok (.ldc2_w 261, 3) := dk_20 1 5 (dk_at dksX0_letterIt_0 3 rfl rfl)
theorem dX0_letterIt_6 : decode cX0_letterIt 6 = .ok (.invokestatic 255, 3) := dk_184 0 255 (dk_at dksX0_letterIt_0 6 rfl rfl)
theorem dX0_letterIt_9 : decode cX0_letterIt 9 = .ok (.aload_n 0, 1) := dk_42 (dk_at dksX0_letterIt_0 9 rfl rfl)
theorem dX0_letterIt_10 : decode cX0_letterIt 10 = .ok (.getfield 86, 3) := dk_180 0 86 (dk_at dksX0_letterIt_0 10 rfl rfl)
theorem dX0_letterIt_13 : decode cX0_letterIt 13 = .ok (.bipush 96, 2) := dk_16 96 (dk_at dksX0_letterIt_0 13 rfl rfl)
theorem dX0_letterIt_15 : decode cX0_letterIt 15 = .ok (.if_icmp .ge 7, 3) := dk_162 0 7 (dk_at dksX0_letterIt_0 15 rfl rfl)
theorem dX0_letterIt_18 : decode cX0_letterIt 18 = .ok (.iconst 1, 1) := dk_4 (dk_at dksX0_letterIt_0 18 rfl rfl)
theorem dX0_letterIt_19 : decode cX0_letterIt 19 = .ok (.goto 4, 3) := dk_167 0 4 (dk_at dksX0_letterIt_0 19 rfl rfl)
theorem dX0_letterIt_22 : decode cX0_letterIt 22 = .ok (.iconst 0, 1) := dk_3 (dk_at dksX0_letterIt_0 22 rfl rfl)
theorem dX0_letterIt_23 : decode cX0_letterIt 23 = .ok (.bipush (-6), 2) := dk_16 250 (dk_at dksX0_letterIt_1 0 rfl rfl)
theorem dX0_letterIt_25 : decode cX0_letterIt 25 = .ok (.invokestatic 9, 3) := dk_184 0 9 (dk_at dksX0_letterIt_1 2 rfl rfl)
theorem dX0_letterIt_28 : decode cX0_letterIt 28 = .ok (.aload_n 0, 1) := dk_42 (dk_at dksX0_letterIt_1 5 rfl rfl)
theorem dX0_letterIt_29 : decode cX0_letterIt 29 = .ok (.getfield 67, 3) := dk_180 0 67 (dk_at dksX0_letterIt_1 6 rfl rfl)
theorem dX0_letterIt_32 : decode cX0_letterIt 32 = .ok (.aload_n 0, 1) := dk_42 (dk_at dksX0_letterIt_1 9 rfl rfl)
theorem dX0_letterIt_33 : decode cX0_letterIt 33 = .ok (.getfield 86, 3) := dk_180 0 86 (dk_at dksX0_letterIt_1 10 rfl rfl)
theorem dX0_letterIt_36 : decode cX0_letterIt 36 = .ok (.iload_n 1, 1) := dk_27 (dk_at dksX0_letterIt_1 13 rfl rfl)
theorem dX0_letterIt_37 : decode cX0_letterIt 37 = .ok (.i2c, 1) := dk_146 (dk_at dksX0_letterIt_1 14 rfl rfl)
theorem dX0_letterIt_38 : decode cX0_letterIt 38 = .ok (.castore, 1) := dk_85 (dk_at dksX0_letterIt_1 15 rfl rfl)
theorem dX0_letterIt_39 : decode cX0_letterIt 39 = .ok (.aload_n 0, 1) := dk_42 (dk_at dksX0_letterIt_1 16 rfl rfl)
theorem dX0_letterIt_40 : decode cX0_letterIt 40 = .ok (.dup, 1) := dk_89 (dk_at dksX0_letterIt_1 17 rfl rfl)
theorem dX0_letterIt_41 : decode cX0_letterIt 41 = .ok (.getfield 86, 3) := dk_180 0 86 (dk_at dksX0_letterIt_1 18 rfl rfl)
theorem dX0_letterIt_44 : decode cX0_letterIt 44 = .ok (.iconst 1, 1) := dk_4 (dk_at dksX0_letterIt_1 21 rfl rfl)
theorem dX0_letterIt_45 : decode cX0_letterIt 45 = .ok (.iadd, 1) := dk_96 (dk_at dksX0_letterIt_1 22 rfl rfl)
theorem dX0_letterIt_46 : decode cX0_letterIt 46 = .ok (.putfield 86, 3) := dk_181 0 86 (dk_at dksX0_letterIt_2 0 rfl rfl)
theorem dX0_letterIt_49 : decode cX0_letterIt 49 = .ok (.aload_n 0, 1) := dk_42 (dk_at dksX0_letterIt_2 3 rfl rfl)
theorem dX0_letterIt_50 : decode cX0_letterIt 50 = .ok (.getfield 86, 3) := dk_180 0 86 (dk_at dksX0_letterIt_2 4 rfl rfl)
theorem dX0_letterIt_53 : decode cX0_letterIt 53 = .ok (.ireturn, 1) := dk_172 (dk_at dksX0_letterIt_2 7 rfl rfl)
abbrev cX0_within : ByteArray := prog_1_method_3_code
def yX0_within : MethodName := ⟨RX0, "within", "(JJJ)V"⟩
def dkwX0_within_1 : List UInt8 := [167, 0, 4, 3, 16, 250, 184, 0, 9, 177]
abbrev dktX0_within_1 : List UInt8 := dkwX0_within_1 ++ []
def dkwX0_within_0 : List UInt8 := [30, 32, 148, 155, 0, 7, 4, 167, 0, 4, 3, 16, 252, 184, 0, 9, 30, 22, 4, 148, 157, 0, 7, 4]
abbrev dktX0_within_0 : List UInt8 := dkwX0_within_0 ++ dktX0_within_1
theorem dksX0_within_0 : cX0_within.data.toList.drop 0 = dktX0_within_0 := by decide +kernel
theorem dksX0_within_1 : cX0_within.data.toList.drop 24 = dktX0_within_1 := dk_seg dksX0_within_0 24 rfl rfl
theorem dX0_within_0 : decode cX0_within 0 = .ok (.lload_n 0, 1) := dk_30 (dk_at dksX0_within_0 0 rfl rfl)
theorem dX0_within_1 : decode cX0_within 1 = .ok (.lload_n 2, 1) := dk_32 (dk_at dksX0_within_0 1 rfl rfl)
theorem dX0_within_2 : decode cX0_within 2 = .ok (.lcmp, 1) := dk_148 (dk_at dksX0_within_0 2 rfl rfl)
theorem dX0_within_3 : decode cX0_within 3 = .ok (.ifCond .lt 7, 3) := dk_155 0 7 (dk_at dksX0_within_0 3 rfl rfl)
theorem dX0_within_6 : decode cX0_within 6 = .ok (.iconst 1, 1) := dk_4 (dk_at dksX0_within_0 6 rfl rfl)
theorem dX0_within_7 : decode cX0_within 7 = .ok (.goto 4, 3) := dk_167 0 4 (dk_at dksX0_within_0 7 rfl rfl)
theorem dX0_within_10 : decode cX0_within 10 = .ok (.iconst 0, 1) := dk_3 (dk_at dksX0_within_0 10 rfl rfl)
theorem dX0_within_11 : decode cX0_within 11 = .ok (.bipush (-4), 2) := dk_16 252 (dk_at dksX0_within_0 11 rfl rfl)
theorem dX0_within_13 : decode cX0_within 13 = .ok (.invokestatic 9, 3) := dk_184 0 9 (dk_at dksX0_within_0 13 rfl rfl)
theorem dX0_within_16 : decode cX0_within 16 = .ok (.lload_n 0, 1) := dk_30 (dk_at dksX0_within_0 16 rfl rfl)
theorem dX0_within_17 : decode cX0_within 17 = .ok (.lload 4, 2) := dk_22 4 (dk_at dksX0_within_0 17 rfl rfl)
theorem dX0_within_19 : decode cX0_within 19 = .ok (.lcmp, 1) := dk_148 (dk_at dksX0_within_0 19 rfl rfl)
theorem dX0_within_20 : decode cX0_within 20 = .ok (.ifCond .gt 7, 3) := dk_157 0 7 (dk_at dksX0_within_0 20 rfl rfl)
theorem dX0_within_23 : decode cX0_within 23 = .ok (.iconst 1, 1) := dk_4 (dk_at dksX0_within_0 23 rfl rfl)
theorem dX0_within_24 : decode cX0_within 24 = .ok (.goto 4, 3) := dk_167 0 4 (dk_at dksX0_within_1 0 rfl rfl)
theorem dX0_within_27 : decode cX0_within 27 = .ok (.iconst 0, 1) := dk_3 (dk_at dksX0_within_1 3 rfl rfl)
theorem dX0_within_28 : decode cX0_within 28 = .ok (.bipush (-6), 2) := dk_16 250 (dk_at dksX0_within_1 4 rfl rfl)
theorem dX0_within_30 : decode cX0_within 30 = .ok (.invokestatic 9, 3) := dk_184 0 9 (dk_at dksX0_within_1 6 rfl rfl)
theorem dX0_within_33 : decode cX0_within 33 = .ok (.return_, 1) := dk_177 (dk_at dksX0_within_1 9 rfl rfl)
abbrev cX0_must : ByteArray := prog_1_method_2_code
def yX0_must : MethodName := ⟨RX0, "must", "(ZI)V"⟩
def dkwX0_must_0 : List UInt8 := [26, 154, 0, 12, 187, 0, 1, 89, 27, 183, 0, 3, 191, 177]
abbrev dktX0_must_0 : List UInt8 := dkwX0_must_0 ++ []
theorem dksX0_must_0 : cX0_must.data.toList.drop 0 = dktX0_must_0 := by decide +kernel
theorem dX0_must_0 : decode cX0_must 0 = .ok (.iload_n 0, 1) := dk_26 (dk_at dksX0_must_0 0 rfl rfl)
theorem dX0_must_1 : decode cX0_must 1 = .ok (.ifCond .ne 12, 3) := dk_154 0 12 (dk_at dksX0_must_0 1 rfl rfl)
theorem dX0_must_4 : decode cX0_must 4 = .ok (.new 1, 3) := dk_187 0 1 (dk_at dksX0_must_0 4 rfl rfl)
theorem dX0_must_7 : decode cX0_must 7 = .ok (.dup, 1) := dk_89 (dk_at dksX0_must_0 7 rfl rfl)
theorem dX0_must_8 : decode cX0_must 8 = .ok (.iload_n 1, 1) := dk_27 (dk_at dksX0_must_0 8 rfl rfl)
theorem dX0_must_9 : decode cX0_must 9 = .ok (.invokespecial 3, 3) := dk_183 0 3 (dk_at dksX0_must_0 9 rfl rfl)
theorem dX0_must_12 : decode cX0_must 12 = .ok (.athrow, 1) := dk_191 (dk_at dksX0_must_0 12 rfl rfl)
theorem dX0_must_13 : decode cX0_must 13 = .ok (.return_, 1) := dk_177 (dk_at dksX0_must_0 13 rfl rfl)
abbrev cX0_readRoom : ByteArray := prog_1_method_11_code
def yX0_readRoom : MethodName := ⟨RX0, "readRoom", "()I"⟩
def dkwX0_readRoom_4 : List UInt8 := [191, 132, 4, 1, 167, 255, 214, 42, 180, 0, 53, 42, 180, 0, 57, 182, 0, 102, 87, 29, 172]
abbrev dktX0_readRoom_4 : List UInt8 := dkwX0_readRoom_4 ++ []
def dkwX0_readRoom_3 : List UInt8 := [182, 0, 106, 154, 0, 22, 187, 0, 110, 89, 17, 248, 48, 44, 21, 4, 50, 180, 0, 112, 100, 183, 0, 115]
abbrev dktX0_readRoom_3 : List UInt8 := dkwX0_readRoom_3 ++ dktX0_readRoom_4
def dkwX0_readRoom_2 : List UInt8 := [180, 0, 53, 182, 0, 102, 87, 3, 54, 4, 21, 4, 29, 162, 0, 42, 44, 21, 4, 50, 42, 180, 0, 57]
abbrev dktX0_readRoom_2 : List UInt8 := dkwX0_readRoom_2 ++ dktX0_readRoom_3
def dkwX0_readRoom_1 : List UInt8 := [43, 182, 0, 92, 83, 132, 3, 1, 43, 180, 0, 96, 43, 180, 0, 99, 161, 255, 238, 42, 180, 0, 57, 42]
abbrev dktX0_readRoom_1 : List UInt8 := dkwX0_readRoom_1 ++ dktX0_readRoom_2
def dkwX0_readRoom_0 : List UInt8 := [187, 0, 81, 89, 42, 183, 0, 83, 76, 42, 3, 181, 0, 86, 16, 96, 189, 0, 90, 77, 3, 62, 44, 29]
abbrev dktX0_readRoom_0 : List UInt8 := dkwX0_readRoom_0 ++ dktX0_readRoom_1
theorem dksX0_readRoom_0 : cX0_readRoom.data.toList.drop 0 = dktX0_readRoom_0 := by decide +kernel
theorem dksX0_readRoom_1 : cX0_readRoom.data.toList.drop 24 = dktX0_readRoom_1 := dk_seg dksX0_readRoom_0 24 rfl rfl
theorem dksX0_readRoom_2 : cX0_readRoom.data.toList.drop 48 = dktX0_readRoom_2 := dk_seg dksX0_readRoom_1 24 rfl rfl
theorem dksX0_readRoom_3 : cX0_readRoom.data.toList.drop 72 = dktX0_readRoom_3 := dk_seg dksX0_readRoom_2 24 rfl rfl
theorem dksX0_readRoom_4 : cX0_readRoom.data.toList.drop 96 = dktX0_readRoom_4 := dk_seg dksX0_readRoom_3 24 rfl rfl
theorem dX0_readRoom_0 : decode cX0_readRoom 0 = .ok (.new 81, 3) := dk_187 0 81 (dk_at dksX0_readRoom_0 0 rfl rfl)
theorem dX0_readRoom_3 : decode cX0_readRoom 3 = .ok (.dup, 1) := dk_89 (dk_at dksX0_readRoom_0 3 rfl rfl)
theorem dX0_readRoom_4 : decode cX0_readRoom 4 = .ok (.aload_n 0, 1) := dk_42 (dk_at dksX0_readRoom_0 4 rfl rfl)
theorem dX0_readRoom_5 : decode cX0_readRoom 5 = .ok (.invokespecial 83, 3) := dk_183 0 83 (dk_at dksX0_readRoom_0 5 rfl rfl)
theorem dX0_readRoom_8 : decode cX0_readRoom 8 = .ok (.astore_n 1, 1) := dk_76 (dk_at dksX0_readRoom_0 8 rfl rfl)
theorem dX0_readRoom_9 : decode cX0_readRoom 9 = .ok (.aload_n 0, 1) := dk_42 (dk_at dksX0_readRoom_0 9 rfl rfl)
theorem dX0_readRoom_10 : decode cX0_readRoom 10 = .ok (.iconst 0, 1) := dk_3 (dk_at dksX0_readRoom_0 10 rfl rfl)
theorem dX0_readRoom_11 : decode cX0_readRoom 11 = .ok (.putfield 86, 3) := dk_181 0 86 (dk_at dksX0_readRoom_0 11 rfl rfl)
theorem dX0_readRoom_14 : decode cX0_readRoom 14 = .ok (.bipush 96, 2) := dk_16 96 (dk_at dksX0_readRoom_0 14 rfl rfl)
theorem dX0_readRoom_16 : decode cX0_readRoom 16 = .ok (.anewarray 90, 3) := dk_189 0 90 (dk_at dksX0_readRoom_0 16 rfl rfl)
theorem dX0_readRoom_19 : decode cX0_readRoom 19 = .ok (.astore_n 2, 1) := dk_77 (dk_at dksX0_readRoom_0 19 rfl rfl)
theorem dX0_readRoom_20 : decode cX0_readRoom 20 = .ok (.iconst 0, 1) := dk_3 (dk_at dksX0_readRoom_0 20 rfl rfl)
theorem dX0_readRoom_21 : decode cX0_readRoom 21 = .ok (.istore_n 3, 1) := dk_62 (dk_at dksX0_readRoom_0 21 rfl rfl)
theorem dX0_readRoom_22 : decode cX0_readRoom 22 = .ok (.aload_n 2, 1) := dk_44 (dk_at dksX0_readRoom_0 22 rfl rfl)
theorem dX0_readRoom_23 : decode cX0_readRoom 23 = .ok (.iload_n 3, 1) := dk_29 (dk_at dksX0_readRoom_0 23 rfl rfl)
theorem dX0_readRoom_24 : decode cX0_readRoom 24 = .ok (.aload_n 1, 1) := dk_43 (dk_at dksX0_readRoom_1 0 rfl rfl)
theorem dX0_readRoom_25 : decode cX0_readRoom 25 = .ok (.invokevirtual 92, 3) := dk_182 0 92 (dk_at dksX0_readRoom_1 1 rfl rfl)
theorem dX0_readRoom_28 : decode cX0_readRoom 28 = .ok (.aastore, 1) := dk_83 (dk_at dksX0_readRoom_1 4 rfl rfl)
theorem dX0_readRoom_29 : decode cX0_readRoom 29 = .ok (.iinc 3 1, 3) := dk_132 3 1 (dk_at dksX0_readRoom_1 5 rfl rfl)
theorem dX0_readRoom_32 : decode cX0_readRoom 32 = .ok (.aload_n 1, 1) := dk_43 (dk_at dksX0_readRoom_1 8 rfl rfl)
theorem dX0_readRoom_33 : decode cX0_readRoom 33 = .ok (.getfield 96, 3) := dk_180 0 96 (dk_at dksX0_readRoom_1 9 rfl rfl)
theorem dX0_readRoom_36 : decode cX0_readRoom 36 = .ok (.aload_n 1, 1) := dk_43 (dk_at dksX0_readRoom_1 12 rfl rfl)
theorem dX0_readRoom_37 : decode cX0_readRoom 37 = .ok (.getfield 99, 3) := dk_180 0 99 (dk_at dksX0_readRoom_1 13 rfl rfl)
theorem dX0_readRoom_40 : decode cX0_readRoom 40 = .ok (.if_icmp .lt (-18), 3) := dk_161 255 238 (dk_at dksX0_readRoom_1 16 rfl rfl)
theorem dX0_readRoom_43 : decode cX0_readRoom 43 = .ok (.aload_n 0, 1) := dk_42 (dk_at dksX0_readRoom_1 19 rfl rfl)
theorem dX0_readRoom_44 : decode cX0_readRoom 44 = .ok (.getfield 57, 3) := dk_180 0 57 (dk_at dksX0_readRoom_1 20 rfl rfl)
theorem dX0_readRoom_47 : decode cX0_readRoom 47 = .ok (.aload_n 0, 1) := dk_42 (dk_at dksX0_readRoom_1 23 rfl rfl)
theorem dX0_readRoom_48 : decode cX0_readRoom 48 = .ok (.getfield 53, 3) := dk_180 0 53 (dk_at dksX0_readRoom_2 0 rfl rfl)
theorem dX0_readRoom_51 : decode cX0_readRoom 51 = .ok (.invokevirtual 102, 3) := dk_182 0 102 (dk_at dksX0_readRoom_2 3 rfl rfl)
theorem dX0_readRoom_54 : decode cX0_readRoom 54 = .ok (.pop, 1) := dk_87 (dk_at dksX0_readRoom_2 6 rfl rfl)
theorem dX0_readRoom_55 : decode cX0_readRoom 55 = .ok (.iconst 0, 1) := dk_3 (dk_at dksX0_readRoom_2 7 rfl rfl)
theorem dX0_readRoom_56 : decode cX0_readRoom 56 = .ok (.istore 4, 2) := dk_54 4 (dk_at dksX0_readRoom_2 8 rfl rfl)
theorem dX0_readRoom_58 : decode cX0_readRoom 58 = .ok (.iload 4, 2) := dk_21 4 (dk_at dksX0_readRoom_2 10 rfl rfl)
theorem dX0_readRoom_60 : decode cX0_readRoom 60 = .ok (.iload_n 3, 1) := dk_29 (dk_at dksX0_readRoom_2 12 rfl rfl)
theorem dX0_readRoom_61 : decode cX0_readRoom 61 = .ok (.if_icmp .ge 42, 3) := dk_162 0 42 (dk_at dksX0_readRoom_2 13 rfl rfl)
theorem dX0_readRoom_64 : decode cX0_readRoom 64 = .ok (.aload_n 2, 1) := dk_44 (dk_at dksX0_readRoom_2 16 rfl rfl)
theorem dX0_readRoom_65 : decode cX0_readRoom 65 = .ok (.iload 4, 2) := dk_21 4 (dk_at dksX0_readRoom_2 17 rfl rfl)
theorem dX0_readRoom_67 : decode cX0_readRoom 67 = .ok (.aaload, 1) := dk_50 (dk_at dksX0_readRoom_2 19 rfl rfl)
theorem dX0_readRoom_68 : decode cX0_readRoom 68 = .ok (.aload_n 0, 1) := dk_42 (dk_at dksX0_readRoom_2 20 rfl rfl)
theorem dX0_readRoom_69 : decode cX0_readRoom 69 = .ok (.getfield 57, 3) := dk_180 0 57 (dk_at dksX0_readRoom_2 21 rfl rfl)
theorem dX0_readRoom_72 : decode cX0_readRoom 72 = .ok (.invokevirtual 106, 3) := dk_182 0 106 (dk_at dksX0_readRoom_3 0 rfl rfl)
theorem dX0_readRoom_75 : decode cX0_readRoom 75 = .ok (.ifCond .ne 22, 3) := dk_154 0 22 (dk_at dksX0_readRoom_3 3 rfl rfl)
theorem dX0_readRoom_78 : decode cX0_readRoom 78 = .ok (.new 110, 3) := dk_187 0 110 (dk_at dksX0_readRoom_3 6 rfl rfl)
theorem dX0_readRoom_81 : decode cX0_readRoom 81 = .ok (.dup, 1) := dk_89 (dk_at dksX0_readRoom_3 9 rfl rfl)
theorem dX0_readRoom_82 : decode cX0_readRoom 82 = .ok (.sipush (-2000), 3) := dk_17 248 48 (dk_at dksX0_readRoom_3 10 rfl rfl)
theorem dX0_readRoom_85 : decode cX0_readRoom 85 = .ok (.aload_n 2, 1) := dk_44 (dk_at dksX0_readRoom_3 13 rfl rfl)
theorem dX0_readRoom_86 : decode cX0_readRoom 86 = .ok (.iload 4, 2) := dk_21 4 (dk_at dksX0_readRoom_3 14 rfl rfl)
theorem dX0_readRoom_88 : decode cX0_readRoom 88 = .ok (.aaload, 1) := dk_50 (dk_at dksX0_readRoom_3 16 rfl rfl)
theorem dX0_readRoom_89 : decode cX0_readRoom 89 = .ok (.getfield 112, 3) := dk_180 0 112 (dk_at dksX0_readRoom_3 17 rfl rfl)
theorem dX0_readRoom_92 : decode cX0_readRoom 92 = .ok (.isub, 1) := dk_100 (dk_at dksX0_readRoom_3 20 rfl rfl)
theorem dX0_readRoom_93 : decode cX0_readRoom 93 = .ok (.invokespecial 115, 3) := dk_183 0 115 (dk_at dksX0_readRoom_3 21 rfl rfl)
theorem dX0_readRoom_96 : decode cX0_readRoom 96 = .ok (.athrow, 1) := dk_191 (dk_at dksX0_readRoom_4 0 rfl rfl)
theorem dX0_readRoom_97 : decode cX0_readRoom 97 = .ok (.iinc 4 1, 3) := dk_132 4 1 (dk_at dksX0_readRoom_4 1 rfl rfl)
theorem dX0_readRoom_100 : decode cX0_readRoom 100 = .ok (.goto (-42), 3) := dk_167 255 214 (dk_at dksX0_readRoom_4 4 rfl rfl)
theorem dX0_readRoom_103 : decode cX0_readRoom 103 = .ok (.aload_n 0, 1) := dk_42 (dk_at dksX0_readRoom_4 7 rfl rfl)
theorem dX0_readRoom_104 : decode cX0_readRoom 104 = .ok (.getfield 53, 3) := dk_180 0 53 (dk_at dksX0_readRoom_4 8 rfl rfl)
theorem dX0_readRoom_107 : decode cX0_readRoom 107 = .ok (.aload_n 0, 1) := dk_42 (dk_at dksX0_readRoom_4 11 rfl rfl)
theorem dX0_readRoom_108 : decode cX0_readRoom 108 = .ok (.getfield 57, 3) := dk_180 0 57 (dk_at dksX0_readRoom_4 12 rfl rfl)
theorem dX0_readRoom_111 : decode cX0_readRoom 111 = .ok (.invokevirtual 102, 3) := dk_182 0 102 (dk_at dksX0_readRoom_4 15 rfl rfl)
theorem dX0_readRoom_114 : decode cX0_readRoom 114 = .ok (.pop, 1) := dk_87 (dk_at dksX0_readRoom_4 18 rfl rfl)
theorem dX0_readRoom_115 : decode cX0_readRoom 115 = .ok (.iload_n 3, 1) := dk_29 (dk_at dksX0_readRoom_4 19 rfl rfl)
theorem dX0_readRoom_116 : decode cX0_readRoom 116 = .ok (.ireturn, 1) := dk_172 (dk_at dksX0_readRoom_4 20 rfl rfl)
abbrev cX0_kindOf : ByteArray := prog_1_method_10_code
def yX0_kindOf : MethodName := ⟨RX0, "kindOf", "(I)I"⟩
def dkwX0_kindOf_2 : List UInt8 := [3, 172, 4, 172, 5, 172, 6, 172, 7, 172, 8, 172, 2, 172]
abbrev dktX0_kindOf_2 : List UInt8 := dkwX0_kindOf_2 ++ []
def dkwX0_kindOf_1 : List UInt8 := [171, 0, 0, 0, 0, 0, 71, 0, 0, 0, 6, 0, 0, 0, 98, 0, 0, 0, 69, 0, 0, 0, 99, 0, 0, 0, 65, 0, 0, 0, 103, 0, 0, 0, 61, 0, 0, 0, 112, 0, 0, 0, 63, 0, 0, 0, 116, 0, 0, 0, 59, 0, 0, 0, 119, 0, 0, 0, 67]
abbrev dktX0_kindOf_1 : List UInt8 := dkwX0_kindOf_1 ++ dktX0_kindOf_2
def dkwX0_kindOf_0 : List UInt8 := [27]
abbrev dktX0_kindOf_0 : List UInt8 := dkwX0_kindOf_0 ++ dktX0_kindOf_1
theorem dksX0_kindOf_0 : cX0_kindOf.data.toList.drop 0 = dktX0_kindOf_0 := by decide +kernel
theorem dksX0_kindOf_1 : cX0_kindOf.data.toList.drop 1 = dktX0_kindOf_1 := dk_seg dksX0_kindOf_0 1 rfl rfl
theorem dksX0_kindOf_2 : cX0_kindOf.data.toList.drop 60 = dktX0_kindOf_2 := dk_seg dksX0_kindOf_1 59 rfl rfl
theorem dX0_kindOf_0 : decode cX0_kindOf 0 = .ok (.iload_n 1, 1) := dk_27 (dk_at dksX0_kindOf_0 0 rfl rfl)
theorem dX0_kindOf_1 : decode cX0_kindOf 1 = .ok (.lookupswitch 71 #[(98, 69), (99, 65), (103, 61), (112, 63), (116, 59), (119, 67)], 59) := by decide +kernel
theorem dX0_kindOf_60 : decode cX0_kindOf 60 = .ok (.iconst 0, 1) := dk_3 (dk_at dksX0_kindOf_2 0 rfl rfl)
theorem dX0_kindOf_61 : decode cX0_kindOf 61 = .ok (.ireturn, 1) := dk_172 (dk_at dksX0_kindOf_2 1 rfl rfl)
theorem dX0_kindOf_62 : decode cX0_kindOf 62 = .ok (.iconst 1, 1) := dk_4 (dk_at dksX0_kindOf_2 2 rfl rfl)
theorem dX0_kindOf_63 : decode cX0_kindOf 63 = .ok (.ireturn, 1) := dk_172 (dk_at dksX0_kindOf_2 3 rfl rfl)
theorem dX0_kindOf_64 : decode cX0_kindOf 64 = .ok (.iconst 2, 1) := dk_5 (dk_at dksX0_kindOf_2 4 rfl rfl)
theorem dX0_kindOf_65 : decode cX0_kindOf 65 = .ok (.ireturn, 1) := dk_172 (dk_at dksX0_kindOf_2 5 rfl rfl)
theorem dX0_kindOf_66 : decode cX0_kindOf 66 = .ok (.iconst 3, 1) := dk_6 (dk_at dksX0_kindOf_2 6 rfl rfl)
theorem dX0_kindOf_67 : decode cX0_kindOf 67 = .ok (.ireturn, 1) := dk_172 (dk_at dksX0_kindOf_2 7 rfl rfl)
theorem dX0_kindOf_68 : decode cX0_kindOf 68 = .ok (.iconst 4, 1) := dk_7 (dk_at dksX0_kindOf_2 8 rfl rfl)
theorem dX0_kindOf_69 : decode cX0_kindOf 69 = .ok (.ireturn, 1) := dk_172 (dk_at dksX0_kindOf_2 9 rfl rfl)
theorem dX0_kindOf_70 : decode cX0_kindOf 70 = .ok (.iconst 5, 1) := dk_8 (dk_at dksX0_kindOf_2 10 rfl rfl)
theorem dX0_kindOf_71 : decode cX0_kindOf 71 = .ok (.ireturn, 1) := dk_172 (dk_at dksX0_kindOf_2 11 rfl rfl)
theorem dX0_kindOf_72 : decode cX0_kindOf 72 = .ok (.iconst (-1), 1) := dk_2 (dk_at dksX0_kindOf_2 12 rfl rfl)
theorem dX0_kindOf_73 : decode cX0_kindOf 73 = .ok (.ireturn, 1) := dk_172 (dk_at dksX0_kindOf_2 13 rfl rfl)
abbrev cX0_in : ByteArray := prog_1_method_1_code
def yX0_in : MethodName := ⟨RX0, "in", "(JJJ)Z"⟩
def dkwX0_in_0 : List UInt8 := [30, 32, 148, 155, 0, 14, 30, 22, 4, 148, 157, 0, 7, 4, 167, 0, 4, 3, 172]
abbrev dktX0_in_0 : List UInt8 := dkwX0_in_0 ++ []
theorem dksX0_in_0 : cX0_in.data.toList.drop 0 = dktX0_in_0 := by decide +kernel
theorem dX0_in_0 : decode cX0_in 0 = .ok (.lload_n 0, 1) := dk_30 (dk_at dksX0_in_0 0 rfl rfl)
theorem dX0_in_1 : decode cX0_in 1 = .ok (.lload_n 2, 1) := dk_32 (dk_at dksX0_in_0 1 rfl rfl)
theorem dX0_in_2 : decode cX0_in 2 = .ok (.lcmp, 1) := dk_148 (dk_at dksX0_in_0 2 rfl rfl)
theorem dX0_in_3 : decode cX0_in 3 = .ok (.ifCond .lt 14, 3) := dk_155 0 14 (dk_at dksX0_in_0 3 rfl rfl)
theorem dX0_in_6 : decode cX0_in 6 = .ok (.lload_n 0, 1) := dk_30 (dk_at dksX0_in_0 6 rfl rfl)
theorem dX0_in_7 : decode cX0_in 7 = .ok (.lload 4, 2) := dk_22 4 (dk_at dksX0_in_0 7 rfl rfl)
theorem dX0_in_9 : decode cX0_in 9 = .ok (.lcmp, 1) := dk_148 (dk_at dksX0_in_0 9 rfl rfl)
theorem dX0_in_10 : decode cX0_in 10 = .ok (.ifCond .gt 7, 3) := dk_157 0 7 (dk_at dksX0_in_0 10 rfl rfl)
theorem dX0_in_13 : decode cX0_in 13 = .ok (.iconst 1, 1) := dk_4 (dk_at dksX0_in_0 13 rfl rfl)
theorem dX0_in_14 : decode cX0_in 14 = .ok (.goto 4, 3) := dk_167 0 4 (dk_at dksX0_in_0 14 rfl rfl)
theorem dX0_in_17 : decode cX0_in 17 = .ok (.iconst 0, 1) := dk_3 (dk_at dksX0_in_0 17 rfl rfl)
theorem dX0_in_18 : decode cX0_in 18 = .ok (.ireturn, 1) := dk_172 (dk_at dksX0_in_0 18 rfl rfl)
abbrev cX0_has : ByteArray := prog_1_method_5_code
def yX0_has : MethodName := ⟨RX0, "has", "(II)Z"⟩
def dkwX0_has_0 : List UInt8 := [26, 27, 122, 4, 126, 4, 160, 0, 7, 4, 167, 0, 4, 3, 172]
abbrev dktX0_has_0 : List UInt8 := dkwX0_has_0 ++ []
theorem dksX0_has_0 : cX0_has.data.toList.drop 0 = dktX0_has_0 := by decide +kernel
theorem dX0_has_0 : decode cX0_has 0 = .ok (.iload_n 0, 1) := dk_26 (dk_at dksX0_has_0 0 rfl rfl)
theorem dX0_has_1 : decode cX0_has 1 = .ok (.iload_n 1, 1) := dk_27 (dk_at dksX0_has_0 1 rfl rfl)
theorem dX0_has_2 : decode cX0_has 2 = .ok (.ishr, 1) := dk_122 (dk_at dksX0_has_0 2 rfl rfl)
theorem dX0_has_3 : decode cX0_has 3 = .ok (.iconst 1, 1) := dk_4 (dk_at dksX0_has_0 3 rfl rfl)
theorem dX0_has_4 : decode cX0_has 4 = .ok (.iand, 1) := dk_126 (dk_at dksX0_has_0 4 rfl rfl)
theorem dX0_has_5 : decode cX0_has 5 = .ok (.iconst 1, 1) := dk_4 (dk_at dksX0_has_0 5 rfl rfl)
theorem dX0_has_6 : decode cX0_has 6 = .ok (.if_icmp .ne 7, 3) := dk_160 0 7 (dk_at dksX0_has_0 6 rfl rfl)
theorem dX0_has_9 : decode cX0_has 9 = .ok (.iconst 1, 1) := dk_4 (dk_at dksX0_has_0 9 rfl rfl)
theorem dX0_has_10 : decode cX0_has 10 = .ok (.goto 4, 3) := dk_167 0 4 (dk_at dksX0_has_0 10 rfl rfl)
theorem dX0_has_13 : decode cX0_has 13 = .ok (.iconst 0, 1) := dk_3 (dk_at dksX0_has_0 13 rfl rfl)
theorem dX0_has_14 : decode cX0_has 14 = .ok (.ireturn, 1) := dk_172 (dk_at dksX0_has_0 14 rfl rfl)
abbrev cX0_thingTold : ByteArray := prog_1_method_47_code
def yX0_thingTold : MethodName := ⟨RX0, "thingTold", "(II)I"⟩
def dkwX0_thingTold_5 : List UInt8 := [42, 180, 0, 53, 27, 182, 0, 193, 153, 0, 7, 4, 167, 0, 4, 3, 172]
abbrev dktX0_thingTold_5 : List UInt8 := dkwX0_thingTold_5 ++ []
def dkwX0_thingTold_4 : List UInt8 := [180, 1, 17, 27, 46, 172, 42, 180, 0, 53, 27, 182, 1, 20, 172, 42, 180, 0, 53, 27, 182, 1, 23, 172]
abbrev dktX0_thingTold_4 : List UInt8 := dkwX0_thingTold_4 ++ dktX0_thingTold_5
def dkwX0_thingTold_3 : List UInt8 := [180, 0, 53, 180, 1, 14, 27, 46, 172, 42, 180, 0, 53, 180, 0, 124, 27, 46, 172, 42, 180, 0, 53]
abbrev dktX0_thingTold_3 : List UInt8 := dkwX0_thingTold_3 ++ dktX0_thingTold_4
def dkwX0_thingTold_2 : List UInt8 := [42, 180, 0, 53, 180, 0, 186, 27, 50, 182, 1, 12, 172, 42, 180, 0, 53, 180, 0, 210, 27, 46, 172, 42]
abbrev dktX0_thingTold_2 : List UInt8 := dkwX0_thingTold_2 ++ dktX0_thingTold_3
def dkwX0_thingTold_1 : List UInt8 := [170, 0, 0, 0, 0, 0, 0, 115, 0, 0, 0, 0, 0, 0, 0, 6, 0, 0, 0, 44, 0, 0, 0, 57, 0, 0, 0, 67, 0, 0, 0, 77, 0, 0, 0, 87, 0, 0, 0, 97, 0, 0, 0, 106]
abbrev dktX0_thingTold_1 : List UInt8 := dkwX0_thingTold_1 ++ dktX0_thingTold_2
def dkwX0_thingTold_0 : List UInt8 := [42, 27, 182, 1, 7, 28, 133, 9, 20, 1, 10, 184, 0, 13, 16, 254, 184, 0, 9, 28]
abbrev dktX0_thingTold_0 : List UInt8 := dkwX0_thingTold_0 ++ dktX0_thingTold_1
theorem dksX0_thingTold_0 : cX0_thingTold.data.toList.drop 0 = dktX0_thingTold_0 := by decide +kernel
theorem dksX0_thingTold_1 : cX0_thingTold.data.toList.drop 20 = dktX0_thingTold_1 := dk_seg dksX0_thingTold_0 20 rfl rfl
theorem dksX0_thingTold_2 : cX0_thingTold.data.toList.drop 64 = dktX0_thingTold_2 := dk_seg dksX0_thingTold_1 44 rfl rfl
theorem dksX0_thingTold_3 : cX0_thingTold.data.toList.drop 88 = dktX0_thingTold_3 := dk_seg dksX0_thingTold_2 24 rfl rfl
theorem dksX0_thingTold_4 : cX0_thingTold.data.toList.drop 111 = dktX0_thingTold_4 := dk_seg dksX0_thingTold_3 23 rfl rfl
theorem dksX0_thingTold_5 : cX0_thingTold.data.toList.drop 135 = dktX0_thingTold_5 := dk_seg dksX0_thingTold_4 24 rfl rfl
theorem dX0_thingTold_0 : decode cX0_thingTold 0 = .ok (.aload_n 0, 1) := dk_42 (dk_at dksX0_thingTold_0 0 rfl rfl)
theorem dX0_thingTold_1 : decode cX0_thingTold 1 = .ok (.iload_n 1, 1) := dk_27 (dk_at dksX0_thingTold_0 1 rfl rfl)
theorem dX0_thingTold_2 : decode cX0_thingTold 2 = .ok (.invokevirtual 263, 3) := dk_182 1 7 (dk_at dksX0_thingTold_0 2 rfl rfl)
theorem dX0_thingTold_5 : decode cX0_thingTold 5 = .ok (.iload_n 2, 1) := dk_28 (dk_at dksX0_thingTold_0 5 rfl rfl)
theorem dX0_thingTold_6 : decode cX0_thingTold 6 = .ok (.i2l, 1) := dk_133 (dk_at dksX0_thingTold_0 6 rfl rfl)
theorem dX0_thingTold_7 : decode cX0_thingTold 7 = .ok (.lconst 0, 1) := dk_9 (dk_at dksX0_thingTold_0 7 rfl rfl)
theorem dX0_thingTold_8 : decode cX0_thingTold 8 = .ok (.ldc2_w 266, 3) := dk_20 1 10 (dk_at dksX0_thingTold_0 8 rfl rfl)
theorem dX0_thingTold_11 : decode cX0_thingTold 11 = .ok (.invokestatic 13, 3) := dk_184 0 13 (dk_at dksX0_thingTold_0 11 rfl rfl)
theorem dX0_thingTold_14 : decode cX0_thingTold 14 = .ok (.bipush (-2), 2) := dk_16 254 (dk_at dksX0_thingTold_0 14 rfl rfl)
theorem dX0_thingTold_16 : decode cX0_thingTold 16 = .ok (.invokestatic 9, 3) := dk_184 0 9 (dk_at dksX0_thingTold_0 16 rfl rfl)
theorem dX0_thingTold_19 : decode cX0_thingTold 19 = .ok (.iload_n 2, 1) := dk_28 (dk_at dksX0_thingTold_0 19 rfl rfl)
theorem dX0_thingTold_20 : decode cX0_thingTold 20 = .ok (.tableswitch 115 0 6 #[44, 57, 67, 77, 87, 97, 106], 44) := by decide +kernel
theorem dX0_thingTold_64 : decode cX0_thingTold 64 = .ok (.aload_n 0, 1) := dk_42 (dk_at dksX0_thingTold_2 0 rfl rfl)
theorem dX0_thingTold_65 : decode cX0_thingTold 65 = .ok (.getfield 53, 3) := dk_180 0 53 (dk_at dksX0_thingTold_2 1 rfl rfl)
theorem dX0_thingTold_68 : decode cX0_thingTold 68 = .ok (.getfield 186, 3) := dk_180 0 186 (dk_at dksX0_thingTold_2 4 rfl rfl)
theorem dX0_thingTold_71 : decode cX0_thingTold 71 = .ok (.iload_n 1, 1) := dk_27 (dk_at dksX0_thingTold_2 7 rfl rfl)
theorem dX0_thingTold_72 : decode cX0_thingTold 72 = .ok (.aaload, 1) := dk_50 (dk_at dksX0_thingTold_2 8 rfl rfl)
theorem dX0_thingTold_73 : decode cX0_thingTold 73 = .ok (.invokevirtual 268, 3) := dk_182 1 12 (dk_at dksX0_thingTold_2 9 rfl rfl)
theorem dX0_thingTold_76 : decode cX0_thingTold 76 = .ok (.ireturn, 1) := dk_172 (dk_at dksX0_thingTold_2 12 rfl rfl)
theorem dX0_thingTold_77 : decode cX0_thingTold 77 = .ok (.aload_n 0, 1) := dk_42 (dk_at dksX0_thingTold_2 13 rfl rfl)
theorem dX0_thingTold_78 : decode cX0_thingTold 78 = .ok (.getfield 53, 3) := dk_180 0 53 (dk_at dksX0_thingTold_2 14 rfl rfl)
theorem dX0_thingTold_81 : decode cX0_thingTold 81 = .ok (.getfield 210, 3) := dk_180 0 210 (dk_at dksX0_thingTold_2 17 rfl rfl)
theorem dX0_thingTold_84 : decode cX0_thingTold 84 = .ok (.iload_n 1, 1) := dk_27 (dk_at dksX0_thingTold_2 20 rfl rfl)
theorem dX0_thingTold_85 : decode cX0_thingTold 85 = .ok (.iaload, 1) := dk_46 (dk_at dksX0_thingTold_2 21 rfl rfl)
theorem dX0_thingTold_86 : decode cX0_thingTold 86 = .ok (.ireturn, 1) := dk_172 (dk_at dksX0_thingTold_2 22 rfl rfl)
theorem dX0_thingTold_87 : decode cX0_thingTold 87 = .ok (.aload_n 0, 1) := dk_42 (dk_at dksX0_thingTold_2 23 rfl rfl)
theorem dX0_thingTold_88 : decode cX0_thingTold 88 = .ok (.getfield 53, 3) := dk_180 0 53 (dk_at dksX0_thingTold_3 0 rfl rfl)
theorem dX0_thingTold_91 : decode cX0_thingTold 91 = .ok (.getfield 270, 3) := dk_180 1 14 (dk_at dksX0_thingTold_3 3 rfl rfl)
theorem dX0_thingTold_94 : decode cX0_thingTold 94 = .ok (.iload_n 1, 1) := dk_27 (dk_at dksX0_thingTold_3 6 rfl rfl)
theorem dX0_thingTold_95 : decode cX0_thingTold 95 = .ok (.iaload, 1) := dk_46 (dk_at dksX0_thingTold_3 7 rfl rfl)
theorem dX0_thingTold_96 : decode cX0_thingTold 96 = .ok (.ireturn, 1) := dk_172 (dk_at dksX0_thingTold_3 8 rfl rfl)
theorem dX0_thingTold_97 : decode cX0_thingTold 97 = .ok (.aload_n 0, 1) := dk_42 (dk_at dksX0_thingTold_3 9 rfl rfl)
theorem dX0_thingTold_98 : decode cX0_thingTold 98 = .ok (.getfield 53, 3) := dk_180 0 53 (dk_at dksX0_thingTold_3 10 rfl rfl)
theorem dX0_thingTold_101 : decode cX0_thingTold 101 = .ok (.getfield 124, 3) := dk_180 0 124 (dk_at dksX0_thingTold_3 13 rfl rfl)
theorem dX0_thingTold_104 : decode cX0_thingTold 104 = .ok (.iload_n 1, 1) := dk_27 (dk_at dksX0_thingTold_3 16 rfl rfl)
theorem dX0_thingTold_105 : decode cX0_thingTold 105 = .ok (.iaload, 1) := dk_46 (dk_at dksX0_thingTold_3 17 rfl rfl)
theorem dX0_thingTold_106 : decode cX0_thingTold 106 = .ok (.ireturn, 1) := dk_172 (dk_at dksX0_thingTold_3 18 rfl rfl)
theorem dX0_thingTold_107 : decode cX0_thingTold 107 = .ok (.aload_n 0, 1) := dk_42 (dk_at dksX0_thingTold_3 19 rfl rfl)
theorem dX0_thingTold_108 : decode cX0_thingTold 108 = .ok (.getfield 53, 3) := dk_180 0 53 (dk_at dksX0_thingTold_3 20 rfl rfl)
theorem dX0_thingTold_111 : decode cX0_thingTold 111 = .ok (.getfield 273, 3) := dk_180 1 17 (dk_at dksX0_thingTold_4 0 rfl rfl)
theorem dX0_thingTold_114 : decode cX0_thingTold 114 = .ok (.iload_n 1, 1) := dk_27 (dk_at dksX0_thingTold_4 3 rfl rfl)
theorem dX0_thingTold_115 : decode cX0_thingTold 115 = .ok (.iaload, 1) := dk_46 (dk_at dksX0_thingTold_4 4 rfl rfl)
theorem dX0_thingTold_116 : decode cX0_thingTold 116 = .ok (.ireturn, 1) := dk_172 (dk_at dksX0_thingTold_4 5 rfl rfl)
theorem dX0_thingTold_117 : decode cX0_thingTold 117 = .ok (.aload_n 0, 1) := dk_42 (dk_at dksX0_thingTold_4 6 rfl rfl)
theorem dX0_thingTold_118 : decode cX0_thingTold 118 = .ok (.getfield 53, 3) := dk_180 0 53 (dk_at dksX0_thingTold_4 7 rfl rfl)
theorem dX0_thingTold_121 : decode cX0_thingTold 121 = .ok (.iload_n 1, 1) := dk_27 (dk_at dksX0_thingTold_4 10 rfl rfl)
theorem dX0_thingTold_122 : decode cX0_thingTold 122 = .ok (.invokevirtual 276, 3) := dk_182 1 20 (dk_at dksX0_thingTold_4 11 rfl rfl)
theorem dX0_thingTold_125 : decode cX0_thingTold 125 = .ok (.ireturn, 1) := dk_172 (dk_at dksX0_thingTold_4 14 rfl rfl)
theorem dX0_thingTold_126 : decode cX0_thingTold 126 = .ok (.aload_n 0, 1) := dk_42 (dk_at dksX0_thingTold_4 15 rfl rfl)
theorem dX0_thingTold_127 : decode cX0_thingTold 127 = .ok (.getfield 53, 3) := dk_180 0 53 (dk_at dksX0_thingTold_4 16 rfl rfl)
theorem dX0_thingTold_130 : decode cX0_thingTold 130 = .ok (.iload_n 1, 1) := dk_27 (dk_at dksX0_thingTold_4 19 rfl rfl)
theorem dX0_thingTold_131 : decode cX0_thingTold 131 = .ok (.invokevirtual 279, 3) := dk_182 1 23 (dk_at dksX0_thingTold_4 20 rfl rfl)
theorem dX0_thingTold_134 : decode cX0_thingTold 134 = .ok (.ireturn, 1) := dk_172 (dk_at dksX0_thingTold_4 23 rfl rfl)
theorem dX0_thingTold_135 : decode cX0_thingTold 135 = .ok (.aload_n 0, 1) := dk_42 (dk_at dksX0_thingTold_5 0 rfl rfl)
theorem dX0_thingTold_136 : decode cX0_thingTold 136 = .ok (.getfield 53, 3) := dk_180 0 53 (dk_at dksX0_thingTold_5 1 rfl rfl)
theorem dX0_thingTold_139 : decode cX0_thingTold 139 = .ok (.iload_n 1, 1) := dk_27 (dk_at dksX0_thingTold_5 4 rfl rfl)
theorem dX0_thingTold_140 : decode cX0_thingTold 140 = .ok (.invokevirtual 193, 3) := dk_182 0 193 (dk_at dksX0_thingTold_5 5 rfl rfl)
theorem dX0_thingTold_143 : decode cX0_thingTold 143 = .ok (.ifCond .eq 7, 3) := dk_153 0 7 (dk_at dksX0_thingTold_5 8 rfl rfl)
theorem dX0_thingTold_146 : decode cX0_thingTold 146 = .ok (.iconst 1, 1) := dk_4 (dk_at dksX0_thingTold_5 11 rfl rfl)
theorem dX0_thingTold_147 : decode cX0_thingTold 147 = .ok (.goto 4, 3) := dk_167 0 4 (dk_at dksX0_thingTold_5 12 rfl rfl)
theorem dX0_thingTold_150 : decode cX0_thingTold 150 = .ok (.iconst 0, 1) := dk_3 (dk_at dksX0_thingTold_5 15 rfl rfl)
theorem dX0_thingTold_151 : decode cX0_thingTold 151 = .ok (.ireturn, 1) := dk_172 (dk_at dksX0_thingTold_5 16 rfl rfl)
abbrev cX0_mustBeThing : ByteArray := prog_1_method_41_code
def yX0_mustBeThing : MethodName := ⟨RX0, "mustBeThing", "(I)V"⟩
def dkwX0_mustBeThing_0 : List UInt8 := [27, 42, 180, 0, 53, 180, 0, 134, 184, 0, 249, 177]
abbrev dktX0_mustBeThing_0 : List UInt8 := dkwX0_mustBeThing_0 ++ []
theorem dksX0_mustBeThing_0 : cX0_mustBeThing.data.toList.drop 0 = dktX0_mustBeThing_0 := by decide +kernel
theorem dX0_mustBeThing_0 : decode cX0_mustBeThing 0 = .ok (.iload_n 1, 1) := dk_27 (dk_at dksX0_mustBeThing_0 0 rfl rfl)
theorem dX0_mustBeThing_1 : decode cX0_mustBeThing 1 = .ok (.aload_n 0, 1) := dk_42 (dk_at dksX0_mustBeThing_0 1 rfl rfl)
theorem dX0_mustBeThing_2 : decode cX0_mustBeThing 2 = .ok (.getfield 53, 3) := dk_180 0 53 (dk_at dksX0_mustBeThing_0 2 rfl rfl)
theorem dX0_mustBeThing_5 : decode cX0_mustBeThing 5 = .ok (.getfield 134, 3) := dk_180 0 134 (dk_at dksX0_mustBeThing_0 5 rfl rfl)
theorem dX0_mustBeThing_8 : decode cX0_mustBeThing 8 = .ok (.invokestatic 249, 3) := dk_184 0 249 (dk_at dksX0_mustBeThing_0 8 rfl rfl)
theorem dX0_mustBeThing_11 : decode cX0_mustBeThing 11 = .ok (.return_, 1) := dk_177 (dk_at dksX0_mustBeThing_0 11 rfl rfl)
abbrev cX0_mustBe : ByteArray := prog_1_method_4_code
def yX0_mustBe : MethodName := ⟨RX0, "mustBe", "(II)V"⟩
def dkwX0_mustBe_0 : List UInt8 := [26, 133, 9, 27, 4, 100, 133, 184, 0, 13, 2, 184, 0, 9, 177]
abbrev dktX0_mustBe_0 : List UInt8 := dkwX0_mustBe_0 ++ []
theorem dksX0_mustBe_0 : cX0_mustBe.data.toList.drop 0 = dktX0_mustBe_0 := by decide +kernel
theorem dX0_mustBe_0 : decode cX0_mustBe 0 = .ok (.iload_n 0, 1) := dk_26 (dk_at dksX0_mustBe_0 0 rfl rfl)
theorem dX0_mustBe_1 : decode cX0_mustBe 1 = .ok (.i2l, 1) := dk_133 (dk_at dksX0_mustBe_0 1 rfl rfl)
theorem dX0_mustBe_2 : decode cX0_mustBe 2 = .ok (.lconst 0, 1) := dk_9 (dk_at dksX0_mustBe_0 2 rfl rfl)
theorem dX0_mustBe_3 : decode cX0_mustBe 3 = .ok (.iload_n 1, 1) := dk_27 (dk_at dksX0_mustBe_0 3 rfl rfl)
theorem dX0_mustBe_4 : decode cX0_mustBe 4 = .ok (.iconst 1, 1) := dk_4 (dk_at dksX0_mustBe_0 4 rfl rfl)
theorem dX0_mustBe_5 : decode cX0_mustBe 5 = .ok (.isub, 1) := dk_100 (dk_at dksX0_mustBe_0 5 rfl rfl)
theorem dX0_mustBe_6 : decode cX0_mustBe 6 = .ok (.i2l, 1) := dk_133 (dk_at dksX0_mustBe_0 6 rfl rfl)
theorem dX0_mustBe_7 : decode cX0_mustBe 7 = .ok (.invokestatic 13, 3) := dk_184 0 13 (dk_at dksX0_mustBe_0 7 rfl rfl)
theorem dX0_mustBe_10 : decode cX0_mustBe 10 = .ok (.iconst (-1), 1) := dk_2 (dk_at dksX0_mustBe_0 10 rfl rfl)
theorem dX0_mustBe_11 : decode cX0_mustBe 11 = .ok (.invokestatic 9, 3) := dk_184 0 9 (dk_at dksX0_mustBe_0 11 rfl rfl)
theorem dX0_mustBe_14 : decode cX0_mustBe 14 = .ok (.return_, 1) := dk_177 (dk_at dksX0_mustBe_0 14 rfl rfl)
abbrev cX0_pullIt : ByteArray := prog_1_method_48_code
def yX0_pullIt : MethodName := ⟨RX0, "pullIt", "(II)I"⟩
def dkwX0_pullIt_0 : List UInt8 := [42, 27, 182, 1, 7, 28, 184, 1, 26, 42, 27, 182, 1, 29, 42, 180, 0, 53, 27, 28, 182, 0, 144, 172]
abbrev dktX0_pullIt_0 : List UInt8 := dkwX0_pullIt_0 ++ []
theorem dksX0_pullIt_0 : cX0_pullIt.data.toList.drop 0 = dktX0_pullIt_0 := by decide +kernel
theorem dX0_pullIt_0 : decode cX0_pullIt 0 = .ok (.aload_n 0, 1) := dk_42 (dk_at dksX0_pullIt_0 0 rfl rfl)
theorem dX0_pullIt_1 : decode cX0_pullIt 1 = .ok (.iload_n 1, 1) := dk_27 (dk_at dksX0_pullIt_0 1 rfl rfl)
theorem dX0_pullIt_2 : decode cX0_pullIt 2 = .ok (.invokevirtual 263, 3) := dk_182 1 7 (dk_at dksX0_pullIt_0 2 rfl rfl)
theorem dX0_pullIt_5 : decode cX0_pullIt 5 = .ok (.iload_n 2, 1) := dk_28 (dk_at dksX0_pullIt_0 5 rfl rfl)
theorem dX0_pullIt_6 : decode cX0_pullIt 6 = .ok (.invokestatic 282, 3) := dk_184 1 26 (dk_at dksX0_pullIt_0 6 rfl rfl)
theorem dX0_pullIt_9 : decode cX0_pullIt 9 = .ok (.aload_n 0, 1) := dk_42 (dk_at dksX0_pullIt_0 9 rfl rfl)
theorem dX0_pullIt_10 : decode cX0_pullIt 10 = .ok (.iload_n 1, 1) := dk_27 (dk_at dksX0_pullIt_0 10 rfl rfl)
theorem dX0_pullIt_11 : decode cX0_pullIt 11 = .ok (.invokevirtual 285, 3) := dk_182 1 29 (dk_at dksX0_pullIt_0 11 rfl rfl)
theorem dX0_pullIt_14 : decode cX0_pullIt 14 = .ok (.aload_n 0, 1) := dk_42 (dk_at dksX0_pullIt_0 14 rfl rfl)
theorem dX0_pullIt_15 : decode cX0_pullIt 15 = .ok (.getfield 53, 3) := dk_180 0 53 (dk_at dksX0_pullIt_0 15 rfl rfl)
theorem dX0_pullIt_18 : decode cX0_pullIt 18 = .ok (.iload_n 1, 1) := dk_27 (dk_at dksX0_pullIt_0 18 rfl rfl)
theorem dX0_pullIt_19 : decode cX0_pullIt 19 = .ok (.iload_n 2, 1) := dk_28 (dk_at dksX0_pullIt_0 19 rfl rfl)
theorem dX0_pullIt_20 : decode cX0_pullIt 20 = .ok (.invokevirtual 144, 3) := dk_182 0 144 (dk_at dksX0_pullIt_0 20 rfl rfl)
theorem dX0_pullIt_23 : decode cX0_pullIt 23 = .ok (.ireturn, 1) := dk_172 (dk_at dksX0_pullIt_0 23 rfl rfl)
abbrev cX0_mustBeSpeed : ByteArray := prog_1_method_44_code
def yX0_mustBeSpeed : MethodName := ⟨RX0, "mustBeSpeed", "(I)V"⟩
def dkwX0_mustBeSpeed_0 : List UInt8 := [26, 133, 9, 20, 0, 253, 184, 0, 255, 177]
abbrev dktX0_mustBeSpeed_0 : List UInt8 := dkwX0_mustBeSpeed_0 ++ []
theorem dksX0_mustBeSpeed_0 : cX0_mustBeSpeed.data.toList.drop 0 = dktX0_mustBeSpeed_0 := by decide +kernel
theorem dX0_mustBeSpeed_0 : decode cX0_mustBeSpeed 0 = .ok (.iload_n 0, 1) := dk_26 (dk_at dksX0_mustBeSpeed_0 0 rfl rfl)
theorem dX0_mustBeSpeed_1 : decode cX0_mustBeSpeed 1 = .ok (.i2l, 1) := dk_133 (dk_at dksX0_mustBeSpeed_0 1 rfl rfl)
theorem dX0_mustBeSpeed_2 : decode cX0_mustBeSpeed 2 = .ok (.lconst 0, 1) := dk_9 (dk_at dksX0_mustBeSpeed_0 2 rfl rfl)
theorem dX0_mustBeSpeed_3 : decode cX0_mustBeSpeed 3 = .ok (.ldc2_w 253, 3) := dk_20 0 253 (dk_at dksX0_mustBeSpeed_0 3 rfl rfl)
theorem dX0_mustBeSpeed_6 : decode cX0_mustBeSpeed 6 = .ok (.invokestatic 255, 3) := dk_184 0 255 (dk_at dksX0_mustBeSpeed_0 6 rfl rfl)
theorem dX0_mustBeSpeed_9 : decode cX0_mustBeSpeed 9 = .ok (.return_, 1) := dk_177 (dk_at dksX0_mustBeSpeed_0 9 rfl rfl)
abbrev cX0_mustStandNow : ByteArray := prog_1_method_42_code
def yX0_mustStandNow : MethodName := ⟨RX0, "mustStandNow", "(I)V"⟩
def dkwX0_mustStandNow_0 : List UInt8 := [42, 180, 0, 53, 27, 182, 0, 154, 16, 253, 184, 0, 9, 177]
abbrev dktX0_mustStandNow_0 : List UInt8 := dkwX0_mustStandNow_0 ++ []
theorem dksX0_mustStandNow_0 : cX0_mustStandNow.data.toList.drop 0 = dktX0_mustStandNow_0 := by decide +kernel
theorem dX0_mustStandNow_0 : decode cX0_mustStandNow 0 = .ok (.aload_n 0, 1) := dk_42 (dk_at dksX0_mustStandNow_0 0 rfl rfl)
theorem dX0_mustStandNow_1 : decode cX0_mustStandNow 1 = .ok (.getfield 53, 3) := dk_180 0 53 (dk_at dksX0_mustStandNow_0 1 rfl rfl)
theorem dX0_mustStandNow_4 : decode cX0_mustStandNow 4 = .ok (.iload_n 1, 1) := dk_27 (dk_at dksX0_mustStandNow_0 4 rfl rfl)
theorem dX0_mustStandNow_5 : decode cX0_mustStandNow 5 = .ok (.invokevirtual 154, 3) := dk_182 0 154 (dk_at dksX0_mustStandNow_0 5 rfl rfl)
theorem dX0_mustStandNow_8 : decode cX0_mustStandNow 8 = .ok (.bipush (-3), 2) := dk_16 253 (dk_at dksX0_mustStandNow_0 8 rfl rfl)
theorem dX0_mustStandNow_10 : decode cX0_mustStandNow 10 = .ok (.invokestatic 9, 3) := dk_184 0 9 (dk_at dksX0_mustStandNow_0 10 rfl rfl)
theorem dX0_mustStandNow_13 : decode cX0_mustStandNow 13 = .ok (.return_, 1) := dk_177 (dk_at dksX0_mustStandNow_0 13 rfl rfl)
abbrev cX0_floorIt : ByteArray := prog_1_method_49_code
def yX0_floorIt : MethodName := ⟨RX0, "floorIt", "(I)I"⟩
def dkwX0_floorIt_1 : List UInt8 := [172]
abbrev dktX0_floorIt_1 : List UInt8 := dkwX0_floorIt_1 ++ []
def dkwX0_floorIt_0 : List UInt8 := [27, 184, 1, 26, 42, 180, 0, 53, 180, 1, 32, 16, 253, 184, 0, 9, 42, 180, 0, 53, 27, 182, 1, 36]
abbrev dktX0_floorIt_0 : List UInt8 := dkwX0_floorIt_0 ++ dktX0_floorIt_1
theorem dksX0_floorIt_0 : cX0_floorIt.data.toList.drop 0 = dktX0_floorIt_0 := by decide +kernel
theorem dksX0_floorIt_1 : cX0_floorIt.data.toList.drop 24 = dktX0_floorIt_1 := dk_seg dksX0_floorIt_0 24 rfl rfl
theorem dX0_floorIt_0 : decode cX0_floorIt 0 = .ok (.iload_n 1, 1) := dk_27 (dk_at dksX0_floorIt_0 0 rfl rfl)
theorem dX0_floorIt_1 : decode cX0_floorIt 1 = .ok (.invokestatic 282, 3) := dk_184 1 26 (dk_at dksX0_floorIt_0 1 rfl rfl)
theorem dX0_floorIt_4 : decode cX0_floorIt 4 = .ok (.aload_n 0, 1) := dk_42 (dk_at dksX0_floorIt_0 4 rfl rfl)
theorem dX0_floorIt_5 : decode cX0_floorIt 5 = .ok (.getfield 53, 3) := dk_180 0 53 (dk_at dksX0_floorIt_0 5 rfl rfl)
theorem dX0_floorIt_8 : decode cX0_floorIt 8 = .ok (.getfield 288, 3) := dk_180 1 32 (dk_at dksX0_floorIt_0 8 rfl rfl)
theorem dX0_floorIt_11 : decode cX0_floorIt 11 = .ok (.bipush (-3), 2) := dk_16 253 (dk_at dksX0_floorIt_0 11 rfl rfl)
theorem dX0_floorIt_13 : decode cX0_floorIt 13 = .ok (.invokestatic 9, 3) := dk_184 0 9 (dk_at dksX0_floorIt_0 13 rfl rfl)
theorem dX0_floorIt_16 : decode cX0_floorIt 16 = .ok (.aload_n 0, 1) := dk_42 (dk_at dksX0_floorIt_0 16 rfl rfl)
theorem dX0_floorIt_17 : decode cX0_floorIt 17 = .ok (.getfield 53, 3) := dk_180 0 53 (dk_at dksX0_floorIt_0 17 rfl rfl)
theorem dX0_floorIt_20 : decode cX0_floorIt 20 = .ok (.iload_n 1, 1) := dk_27 (dk_at dksX0_floorIt_0 20 rfl rfl)
theorem dX0_floorIt_21 : decode cX0_floorIt 21 = .ok (.invokevirtual 292, 3) := dk_182 1 36 (dk_at dksX0_floorIt_0 21 rfl rfl)
theorem dX0_floorIt_24 : decode cX0_floorIt 24 = .ok (.ireturn, 1) := dk_172 (dk_at dksX0_floorIt_1 0 rfl rfl)
abbrev cX0_layIt : ByteArray := prog_1_method_50_code
def yX0_layIt : MethodName := ⟨RX0, "layIt", "()I"⟩
def dkwX0_layIt_3 : List UInt8 := [167, 0, 4, 3, 96, 60, 132, 2, 1, 167, 255, 209, 27, 172]
abbrev dktX0_layIt_3 : List UInt8 := dkwX0_layIt_3 ++ []
def dkwX0_layIt_2 : List UInt8 := [28, 182, 0, 154, 153, 0, 21, 42, 180, 0, 53, 180, 1, 14, 28, 46, 16, 247, 160, 0, 7, 4]
abbrev dktX0_layIt_2 : List UInt8 := dkwX0_layIt_2 ++ dktX0_layIt_3
def dkwX0_layIt_1 : List UInt8 := [4, 181, 1, 32, 3, 60, 3, 61, 28, 42, 180, 0, 53, 180, 0, 134, 162, 0, 42, 27, 42, 180, 0, 53]
abbrev dktX0_layIt_1 : List UInt8 := dkwX0_layIt_1 ++ dktX0_layIt_2
def dkwX0_layIt_0 : List UInt8 := [42, 180, 0, 53, 180, 1, 32, 154, 0, 7, 4, 167, 0, 4, 3, 16, 253, 184, 0, 9, 42, 180, 0, 53]
abbrev dktX0_layIt_0 : List UInt8 := dkwX0_layIt_0 ++ dktX0_layIt_1
theorem dksX0_layIt_0 : cX0_layIt.data.toList.drop 0 = dktX0_layIt_0 := by decide +kernel
theorem dksX0_layIt_1 : cX0_layIt.data.toList.drop 24 = dktX0_layIt_1 := dk_seg dksX0_layIt_0 24 rfl rfl
theorem dksX0_layIt_2 : cX0_layIt.data.toList.drop 48 = dktX0_layIt_2 := dk_seg dksX0_layIt_1 24 rfl rfl
theorem dksX0_layIt_3 : cX0_layIt.data.toList.drop 70 = dktX0_layIt_3 := dk_seg dksX0_layIt_2 22 rfl rfl
theorem dX0_layIt_0 : decode cX0_layIt 0 = .ok (.aload_n 0, 1) := dk_42 (dk_at dksX0_layIt_0 0 rfl rfl)
theorem dX0_layIt_1 : decode cX0_layIt 1 = .ok (.getfield 53, 3) := dk_180 0 53 (dk_at dksX0_layIt_0 1 rfl rfl)
theorem dX0_layIt_4 : decode cX0_layIt 4 = .ok (.getfield 288, 3) := dk_180 1 32 (dk_at dksX0_layIt_0 4 rfl rfl)
theorem dX0_layIt_7 : decode cX0_layIt 7 = .ok (.ifCond .ne 7, 3) := dk_154 0 7 (dk_at dksX0_layIt_0 7 rfl rfl)
theorem dX0_layIt_10 : decode cX0_layIt 10 = .ok (.iconst 1, 1) := dk_4 (dk_at dksX0_layIt_0 10 rfl rfl)
theorem dX0_layIt_11 : decode cX0_layIt 11 = .ok (.goto 4, 3) := dk_167 0 4 (dk_at dksX0_layIt_0 11 rfl rfl)
theorem dX0_layIt_14 : decode cX0_layIt 14 = .ok (.iconst 0, 1) := dk_3 (dk_at dksX0_layIt_0 14 rfl rfl)
theorem dX0_layIt_15 : decode cX0_layIt 15 = .ok (.bipush (-3), 2) := dk_16 253 (dk_at dksX0_layIt_0 15 rfl rfl)
theorem dX0_layIt_17 : decode cX0_layIt 17 = .ok (.invokestatic 9, 3) := dk_184 0 9 (dk_at dksX0_layIt_0 17 rfl rfl)
theorem dX0_layIt_20 : decode cX0_layIt 20 = .ok (.aload_n 0, 1) := dk_42 (dk_at dksX0_layIt_0 20 rfl rfl)
theorem dX0_layIt_21 : decode cX0_layIt 21 = .ok (.getfield 53, 3) := dk_180 0 53 (dk_at dksX0_layIt_0 21 rfl rfl)
theorem dX0_layIt_24 : decode cX0_layIt 24 = .ok (.iconst 1, 1) := dk_4 (dk_at dksX0_layIt_1 0 rfl rfl)
theorem dX0_layIt_25 : decode cX0_layIt 25 = .ok (.putfield 288, 3) := dk_181 1 32 (dk_at dksX0_layIt_1 1 rfl rfl)
theorem dX0_layIt_28 : decode cX0_layIt 28 = .ok (.iconst 0, 1) := dk_3 (dk_at dksX0_layIt_1 4 rfl rfl)
theorem dX0_layIt_29 : decode cX0_layIt 29 = .ok (.istore_n 1, 1) := dk_60 (dk_at dksX0_layIt_1 5 rfl rfl)
theorem dX0_layIt_30 : decode cX0_layIt 30 = .ok (.iconst 0, 1) := dk_3 (dk_at dksX0_layIt_1 6 rfl rfl)
theorem dX0_layIt_31 : decode cX0_layIt 31 = .ok (.istore_n 2, 1) := dk_61 (dk_at dksX0_layIt_1 7 rfl rfl)
theorem dX0_layIt_32 : decode cX0_layIt 32 = .ok (.iload_n 2, 1) := dk_28 (dk_at dksX0_layIt_1 8 rfl rfl)
theorem dX0_layIt_33 : decode cX0_layIt 33 = .ok (.aload_n 0, 1) := dk_42 (dk_at dksX0_layIt_1 9 rfl rfl)
theorem dX0_layIt_34 : decode cX0_layIt 34 = .ok (.getfield 53, 3) := dk_180 0 53 (dk_at dksX0_layIt_1 10 rfl rfl)
theorem dX0_layIt_37 : decode cX0_layIt 37 = .ok (.getfield 134, 3) := dk_180 0 134 (dk_at dksX0_layIt_1 13 rfl rfl)
theorem dX0_layIt_40 : decode cX0_layIt 40 = .ok (.if_icmp .ge 42, 3) := dk_162 0 42 (dk_at dksX0_layIt_1 16 rfl rfl)
theorem dX0_layIt_43 : decode cX0_layIt 43 = .ok (.iload_n 1, 1) := dk_27 (dk_at dksX0_layIt_1 19 rfl rfl)
theorem dX0_layIt_44 : decode cX0_layIt 44 = .ok (.aload_n 0, 1) := dk_42 (dk_at dksX0_layIt_1 20 rfl rfl)
theorem dX0_layIt_45 : decode cX0_layIt 45 = .ok (.getfield 53, 3) := dk_180 0 53 (dk_at dksX0_layIt_1 21 rfl rfl)
theorem dX0_layIt_48 : decode cX0_layIt 48 = .ok (.iload_n 2, 1) := dk_28 (dk_at dksX0_layIt_2 0 rfl rfl)
theorem dX0_layIt_49 : decode cX0_layIt 49 = .ok (.invokevirtual 154, 3) := dk_182 0 154 (dk_at dksX0_layIt_2 1 rfl rfl)
theorem dX0_layIt_52 : decode cX0_layIt 52 = .ok (.ifCond .eq 21, 3) := dk_153 0 21 (dk_at dksX0_layIt_2 4 rfl rfl)
theorem dX0_layIt_55 : decode cX0_layIt 55 = .ok (.aload_n 0, 1) := dk_42 (dk_at dksX0_layIt_2 7 rfl rfl)
theorem dX0_layIt_56 : decode cX0_layIt 56 = .ok (.getfield 53, 3) := dk_180 0 53 (dk_at dksX0_layIt_2 8 rfl rfl)
theorem dX0_layIt_59 : decode cX0_layIt 59 = .ok (.getfield 270, 3) := dk_180 1 14 (dk_at dksX0_layIt_2 11 rfl rfl)
theorem dX0_layIt_62 : decode cX0_layIt 62 = .ok (.iload_n 2, 1) := dk_28 (dk_at dksX0_layIt_2 14 rfl rfl)
theorem dX0_layIt_63 : decode cX0_layIt 63 = .ok (.iaload, 1) := dk_46 (dk_at dksX0_layIt_2 15 rfl rfl)
theorem dX0_layIt_64 : decode cX0_layIt 64 = .ok (.bipush (-9), 2) := dk_16 247 (dk_at dksX0_layIt_2 16 rfl rfl)
theorem dX0_layIt_66 : decode cX0_layIt 66 = .ok (.if_icmp .ne 7, 3) := dk_160 0 7 (dk_at dksX0_layIt_2 18 rfl rfl)
theorem dX0_layIt_69 : decode cX0_layIt 69 = .ok (.iconst 1, 1) := dk_4 (dk_at dksX0_layIt_2 21 rfl rfl)
theorem dX0_layIt_70 : decode cX0_layIt 70 = .ok (.goto 4, 3) := dk_167 0 4 (dk_at dksX0_layIt_3 0 rfl rfl)
theorem dX0_layIt_73 : decode cX0_layIt 73 = .ok (.iconst 0, 1) := dk_3 (dk_at dksX0_layIt_3 3 rfl rfl)
theorem dX0_layIt_74 : decode cX0_layIt 74 = .ok (.iadd, 1) := dk_96 (dk_at dksX0_layIt_3 4 rfl rfl)
theorem dX0_layIt_75 : decode cX0_layIt 75 = .ok (.istore_n 1, 1) := dk_60 (dk_at dksX0_layIt_3 5 rfl rfl)
theorem dX0_layIt_76 : decode cX0_layIt 76 = .ok (.iinc 2 1, 3) := dk_132 2 1 (dk_at dksX0_layIt_3 6 rfl rfl)
theorem dX0_layIt_79 : decode cX0_layIt 79 = .ok (.goto (-47), 3) := dk_167 255 209 (dk_at dksX0_layIt_3 9 rfl rfl)
theorem dX0_layIt_82 : decode cX0_layIt 82 = .ok (.iload_n 1, 1) := dk_27 (dk_at dksX0_layIt_3 12 rfl rfl)
theorem dX0_layIt_83 : decode cX0_layIt 83 = .ok (.ireturn, 1) := dk_172 (dk_at dksX0_layIt_3 13 rfl rfl)
abbrev cX0_setIt : ByteArray := prog_1_method_51_code
def yX0_setIt : MethodName := ⟨RX0, "setIt", "(I)I"⟩
def dkwX0_setIt_2 : List UInt8 := [4, 167, 0, 4, 3, 172]
abbrev dktX0_setIt_2 : List UInt8 := dkwX0_setIt_2 ++ []
def dkwX0_setIt_1 : List UInt8 := [16, 253, 184, 0, 9, 42, 180, 0, 53, 27, 182, 0, 203, 42, 180, 0, 53, 27, 182, 0, 193, 153, 0, 7]
abbrev dktX0_setIt_1 : List UInt8 := dkwX0_setIt_1 ++ dktX0_setIt_2
def dkwX0_setIt_0 : List UInt8 := [42, 27, 182, 1, 7, 42, 180, 0, 53, 180, 0, 124, 27, 46, 4, 160, 0, 7, 4, 167, 0, 4, 3]
abbrev dktX0_setIt_0 : List UInt8 := dkwX0_setIt_0 ++ dktX0_setIt_1
theorem dksX0_setIt_0 : cX0_setIt.data.toList.drop 0 = dktX0_setIt_0 := by decide +kernel
theorem dksX0_setIt_1 : cX0_setIt.data.toList.drop 23 = dktX0_setIt_1 := dk_seg dksX0_setIt_0 23 rfl rfl
theorem dksX0_setIt_2 : cX0_setIt.data.toList.drop 47 = dktX0_setIt_2 := dk_seg dksX0_setIt_1 24 rfl rfl
theorem dX0_setIt_0 : decode cX0_setIt 0 = .ok (.aload_n 0, 1) := dk_42 (dk_at dksX0_setIt_0 0 rfl rfl)
theorem dX0_setIt_1 : decode cX0_setIt 1 = .ok (.iload_n 1, 1) := dk_27 (dk_at dksX0_setIt_0 1 rfl rfl)
theorem dX0_setIt_2 : decode cX0_setIt 2 = .ok (.invokevirtual 263, 3) := dk_182 1 7 (dk_at dksX0_setIt_0 2 rfl rfl)
theorem dX0_setIt_5 : decode cX0_setIt 5 = .ok (.aload_n 0, 1) := dk_42 (dk_at dksX0_setIt_0 5 rfl rfl)
theorem dX0_setIt_6 : decode cX0_setIt 6 = .ok (.getfield 53, 3) := dk_180 0 53 (dk_at dksX0_setIt_0 6 rfl rfl)
theorem dX0_setIt_9 : decode cX0_setIt 9 = .ok (.getfield 124, 3) := dk_180 0 124 (dk_at dksX0_setIt_0 9 rfl rfl)
theorem dX0_setIt_12 : decode cX0_setIt 12 = .ok (.iload_n 1, 1) := dk_27 (dk_at dksX0_setIt_0 12 rfl rfl)
theorem dX0_setIt_13 : decode cX0_setIt 13 = .ok (.iaload, 1) := dk_46 (dk_at dksX0_setIt_0 13 rfl rfl)
theorem dX0_setIt_14 : decode cX0_setIt 14 = .ok (.iconst 1, 1) := dk_4 (dk_at dksX0_setIt_0 14 rfl rfl)
theorem dX0_setIt_15 : decode cX0_setIt 15 = .ok (.if_icmp .ne 7, 3) := dk_160 0 7 (dk_at dksX0_setIt_0 15 rfl rfl)
theorem dX0_setIt_18 : decode cX0_setIt 18 = .ok (.iconst 1, 1) := dk_4 (dk_at dksX0_setIt_0 18 rfl rfl)
theorem dX0_setIt_19 : decode cX0_setIt 19 = .ok (.goto 4, 3) := dk_167 0 4 (dk_at dksX0_setIt_0 19 rfl rfl)
theorem dX0_setIt_22 : decode cX0_setIt 22 = .ok (.iconst 0, 1) := dk_3 (dk_at dksX0_setIt_0 22 rfl rfl)
theorem dX0_setIt_23 : decode cX0_setIt 23 = .ok (.bipush (-3), 2) := dk_16 253 (dk_at dksX0_setIt_1 0 rfl rfl)
theorem dX0_setIt_25 : decode cX0_setIt 25 = .ok (.invokestatic 9, 3) := dk_184 0 9 (dk_at dksX0_setIt_1 2 rfl rfl)
theorem dX0_setIt_28 : decode cX0_setIt 28 = .ok (.aload_n 0, 1) := dk_42 (dk_at dksX0_setIt_1 5 rfl rfl)
theorem dX0_setIt_29 : decode cX0_setIt 29 = .ok (.getfield 53, 3) := dk_180 0 53 (dk_at dksX0_setIt_1 6 rfl rfl)
theorem dX0_setIt_32 : decode cX0_setIt 32 = .ok (.iload_n 1, 1) := dk_27 (dk_at dksX0_setIt_1 9 rfl rfl)
theorem dX0_setIt_33 : decode cX0_setIt 33 = .ok (.invokevirtual 203, 3) := dk_182 0 203 (dk_at dksX0_setIt_1 10 rfl rfl)
theorem dX0_setIt_36 : decode cX0_setIt 36 = .ok (.aload_n 0, 1) := dk_42 (dk_at dksX0_setIt_1 13 rfl rfl)
theorem dX0_setIt_37 : decode cX0_setIt 37 = .ok (.getfield 53, 3) := dk_180 0 53 (dk_at dksX0_setIt_1 14 rfl rfl)
theorem dX0_setIt_40 : decode cX0_setIt 40 = .ok (.iload_n 1, 1) := dk_27 (dk_at dksX0_setIt_1 17 rfl rfl)
theorem dX0_setIt_41 : decode cX0_setIt 41 = .ok (.invokevirtual 193, 3) := dk_182 0 193 (dk_at dksX0_setIt_1 18 rfl rfl)
theorem dX0_setIt_44 : decode cX0_setIt 44 = .ok (.ifCond .eq 7, 3) := dk_153 0 7 (dk_at dksX0_setIt_1 21 rfl rfl)
theorem dX0_setIt_47 : decode cX0_setIt 47 = .ok (.iconst 1, 1) := dk_4 (dk_at dksX0_setIt_2 0 rfl rfl)
theorem dX0_setIt_48 : decode cX0_setIt 48 = .ok (.goto 4, 3) := dk_167 0 4 (dk_at dksX0_setIt_2 1 rfl rfl)
theorem dX0_setIt_51 : decode cX0_setIt 51 = .ok (.iconst 0, 1) := dk_3 (dk_at dksX0_setIt_2 4 rfl rfl)
theorem dX0_setIt_52 : decode cX0_setIt 52 = .ok (.ireturn, 1) := dk_172 (dk_at dksX0_setIt_2 5 rfl rfl)
abbrev cX0_turnIt : ByteArray := prog_1_method_52_code
def yX0_turnIt : MethodName := ⟨RX0, "turnIt", "(III)I"⟩
def dkwX0_turnIt_3 : List UInt8 := [50, 83, 42, 180, 0, 53, 180, 0, 210, 27, 29, 79, 21, 4, 172]
abbrev dktX0_turnIt_3 : List UInt8 := dkwX0_turnIt_3 ++ []
def dkwX0_turnIt_2 : List UInt8 := [180, 0, 53, 180, 0, 210, 27, 46, 96, 54, 4, 42, 180, 0, 53, 180, 0, 186, 27, 42, 180, 0, 46, 28]
abbrev dktX0_turnIt_2 : List UInt8 := dkwX0_turnIt_2 ++ dktX0_turnIt_3
def dkwX0_turnIt_1 : List UInt8 := [20, 0, 253, 184, 0, 255, 16, 10, 42, 180, 0, 53, 180, 0, 186, 27, 50, 182, 1, 12, 104, 42]
abbrev dktX0_turnIt_1 : List UInt8 := dkwX0_turnIt_1 ++ dktX0_turnIt_2
def dkwX0_turnIt_0 : List UInt8 := [42, 27, 182, 1, 7, 28, 133, 9, 20, 1, 39, 184, 0, 13, 16, 254, 184, 0, 9, 29, 133, 9]
abbrev dktX0_turnIt_0 : List UInt8 := dkwX0_turnIt_0 ++ dktX0_turnIt_1
theorem dksX0_turnIt_0 : cX0_turnIt.data.toList.drop 0 = dktX0_turnIt_0 := by decide +kernel
theorem dksX0_turnIt_1 : cX0_turnIt.data.toList.drop 22 = dktX0_turnIt_1 := dk_seg dksX0_turnIt_0 22 rfl rfl
theorem dksX0_turnIt_2 : cX0_turnIt.data.toList.drop 44 = dktX0_turnIt_2 := dk_seg dksX0_turnIt_1 22 rfl rfl
theorem dksX0_turnIt_3 : cX0_turnIt.data.toList.drop 68 = dktX0_turnIt_3 := dk_seg dksX0_turnIt_2 24 rfl rfl
theorem dX0_turnIt_0 : decode cX0_turnIt 0 = .ok (.aload_n 0, 1) := dk_42 (dk_at dksX0_turnIt_0 0 rfl rfl)
theorem dX0_turnIt_1 : decode cX0_turnIt 1 = .ok (.iload_n 1, 1) := dk_27 (dk_at dksX0_turnIt_0 1 rfl rfl)
theorem dX0_turnIt_2 : decode cX0_turnIt 2 = .ok (.invokevirtual 263, 3) := dk_182 1 7 (dk_at dksX0_turnIt_0 2 rfl rfl)
theorem dX0_turnIt_5 : decode cX0_turnIt 5 = .ok (.iload_n 2, 1) := dk_28 (dk_at dksX0_turnIt_0 5 rfl rfl)
theorem dX0_turnIt_6 : decode cX0_turnIt 6 = .ok (.i2l, 1) := dk_133 (dk_at dksX0_turnIt_0 6 rfl rfl)
theorem dX0_turnIt_7 : decode cX0_turnIt 7 = .ok (.lconst 0, 1) := dk_9 (dk_at dksX0_turnIt_0 7 rfl rfl)
theorem dX0_turnIt_8 : decode cX0_turnIt 8 = .ok (.ldc2_w 295, 3) := dk_20 1 39 (dk_at dksX0_turnIt_0 8 rfl rfl)
theorem dX0_turnIt_11 : decode cX0_turnIt 11 = .ok (.invokestatic 13, 3) := dk_184 0 13 (dk_at dksX0_turnIt_0 11 rfl rfl)
theorem dX0_turnIt_14 : decode cX0_turnIt 14 = .ok (.bipush (-2), 2) := dk_16 254 (dk_at dksX0_turnIt_0 14 rfl rfl)
theorem dX0_turnIt_16 : decode cX0_turnIt 16 = .ok (.invokestatic 9, 3) := dk_184 0 9 (dk_at dksX0_turnIt_0 16 rfl rfl)
theorem dX0_turnIt_19 : decode cX0_turnIt 19 = .ok (.iload_n 3, 1) := dk_29 (dk_at dksX0_turnIt_0 19 rfl rfl)
theorem dX0_turnIt_20 : decode cX0_turnIt 20 = .ok (.i2l, 1) := dk_133 (dk_at dksX0_turnIt_0 20 rfl rfl)
theorem dX0_turnIt_21 : decode cX0_turnIt 21 = .ok (.lconst 0, 1) := dk_9 (dk_at dksX0_turnIt_0 21 rfl rfl)
theorem dX0_turnIt_22 : decode cX0_turnIt 22 = .ok (.ldc2_w 253, 3) := dk_20 0 253 (dk_at dksX0_turnIt_1 0 rfl rfl)
theorem dX0_turnIt_25 : decode cX0_turnIt 25 = .ok (.invokestatic 255, 3) := dk_184 0 255 (dk_at dksX0_turnIt_1 3 rfl rfl)
theorem dX0_turnIt_28 : decode cX0_turnIt 28 = .ok (.bipush 10, 2) := dk_16 10 (dk_at dksX0_turnIt_1 6 rfl rfl)
theorem dX0_turnIt_30 : decode cX0_turnIt 30 = .ok (.aload_n 0, 1) := dk_42 (dk_at dksX0_turnIt_1 8 rfl rfl)
theorem dX0_turnIt_31 : decode cX0_turnIt 31 = .ok (.getfield 53, 3) := dk_180 0 53 (dk_at dksX0_turnIt_1 9 rfl rfl)
theorem dX0_turnIt_34 : decode cX0_turnIt 34 = .ok (.getfield 186, 3) := dk_180 0 186 (dk_at dksX0_turnIt_1 12 rfl rfl)
theorem dX0_turnIt_37 : decode cX0_turnIt 37 = .ok (.iload_n 1, 1) := dk_27 (dk_at dksX0_turnIt_1 15 rfl rfl)
theorem dX0_turnIt_38 : decode cX0_turnIt 38 = .ok (.aaload, 1) := dk_50 (dk_at dksX0_turnIt_1 16 rfl rfl)
theorem dX0_turnIt_39 : decode cX0_turnIt 39 = .ok (.invokevirtual 268, 3) := dk_182 1 12 (dk_at dksX0_turnIt_1 17 rfl rfl)
theorem dX0_turnIt_42 : decode cX0_turnIt 42 = .ok (.imul, 1) := dk_104 (dk_at dksX0_turnIt_1 20 rfl rfl)
theorem dX0_turnIt_43 : decode cX0_turnIt 43 = .ok (.aload_n 0, 1) := dk_42 (dk_at dksX0_turnIt_1 21 rfl rfl)
theorem dX0_turnIt_44 : decode cX0_turnIt 44 = .ok (.getfield 53, 3) := dk_180 0 53 (dk_at dksX0_turnIt_2 0 rfl rfl)
theorem dX0_turnIt_47 : decode cX0_turnIt 47 = .ok (.getfield 210, 3) := dk_180 0 210 (dk_at dksX0_turnIt_2 3 rfl rfl)
theorem dX0_turnIt_50 : decode cX0_turnIt 50 = .ok (.iload_n 1, 1) := dk_27 (dk_at dksX0_turnIt_2 6 rfl rfl)
theorem dX0_turnIt_51 : decode cX0_turnIt 51 = .ok (.iaload, 1) := dk_46 (dk_at dksX0_turnIt_2 7 rfl rfl)
theorem dX0_turnIt_52 : decode cX0_turnIt 52 = .ok (.iadd, 1) := dk_96 (dk_at dksX0_turnIt_2 8 rfl rfl)
theorem dX0_turnIt_53 : decode cX0_turnIt 53 = .ok (.istore 4, 2) := dk_54 4 (dk_at dksX0_turnIt_2 9 rfl rfl)
theorem dX0_turnIt_55 : decode cX0_turnIt 55 = .ok (.aload_n 0, 1) := dk_42 (dk_at dksX0_turnIt_2 11 rfl rfl)
theorem dX0_turnIt_56 : decode cX0_turnIt 56 = .ok (.getfield 53, 3) := dk_180 0 53 (dk_at dksX0_turnIt_2 12 rfl rfl)
theorem dX0_turnIt_59 : decode cX0_turnIt 59 = .ok (.getfield 186, 3) := dk_180 0 186 (dk_at dksX0_turnIt_2 15 rfl rfl)
theorem dX0_turnIt_62 : decode cX0_turnIt 62 = .ok (.iload_n 1, 1) := dk_27 (dk_at dksX0_turnIt_2 18 rfl rfl)
theorem dX0_turnIt_63 : decode cX0_turnIt 63 = .ok (.aload_n 0, 1) := dk_42 (dk_at dksX0_turnIt_2 19 rfl rfl)
theorem dX0_turnIt_64 : decode cX0_turnIt 64 = .ok (.getfield 46, 3) := dk_180 0 46 (dk_at dksX0_turnIt_2 20 rfl rfl)
theorem dX0_turnIt_67 : decode cX0_turnIt 67 = .ok (.iload_n 2, 1) := dk_28 (dk_at dksX0_turnIt_2 23 rfl rfl)
theorem dX0_turnIt_68 : decode cX0_turnIt 68 = .ok (.aaload, 1) := dk_50 (dk_at dksX0_turnIt_3 0 rfl rfl)
theorem dX0_turnIt_69 : decode cX0_turnIt 69 = .ok (.aastore, 1) := dk_83 (dk_at dksX0_turnIt_3 1 rfl rfl)
theorem dX0_turnIt_70 : decode cX0_turnIt 70 = .ok (.aload_n 0, 1) := dk_42 (dk_at dksX0_turnIt_3 2 rfl rfl)
theorem dX0_turnIt_71 : decode cX0_turnIt 71 = .ok (.getfield 53, 3) := dk_180 0 53 (dk_at dksX0_turnIt_3 3 rfl rfl)
theorem dX0_turnIt_74 : decode cX0_turnIt 74 = .ok (.getfield 210, 3) := dk_180 0 210 (dk_at dksX0_turnIt_3 6 rfl rfl)
theorem dX0_turnIt_77 : decode cX0_turnIt 77 = .ok (.iload_n 1, 1) := dk_27 (dk_at dksX0_turnIt_3 9 rfl rfl)
theorem dX0_turnIt_78 : decode cX0_turnIt 78 = .ok (.iload_n 3, 1) := dk_29 (dk_at dksX0_turnIt_3 10 rfl rfl)
theorem dX0_turnIt_79 : decode cX0_turnIt 79 = .ok (.iastore, 1) := dk_79 (dk_at dksX0_turnIt_3 11 rfl rfl)
theorem dX0_turnIt_80 : decode cX0_turnIt 80 = .ok (.iload 4, 2) := dk_21 4 (dk_at dksX0_turnIt_3 12 rfl rfl)
theorem dX0_turnIt_82 : decode cX0_turnIt 82 = .ok (.ireturn, 1) := dk_172 (dk_at dksX0_turnIt_3 14 rfl rfl)
abbrev cX0_minutesIt : ByteArray := prog_1_method_53_code
def yX0_minutesIt : MethodName := ⟨RX0, "minutesIt", "(I)I"⟩
def dkwX0_minutesIt_1 : List UInt8 := [4, 167, 0, 4, 3, 16, 250, 184, 0, 9, 42, 180, 0, 53, 27, 182, 0, 120, 182, 0, 165, 172]
abbrev dktX0_minutesIt_1 : List UInt8 := dkwX0_minutesIt_1 ++ []
def dkwX0_minutesIt_0 : List UInt8 := [27, 133, 10, 20, 1, 41, 184, 0, 255, 42, 180, 0, 53, 180, 1, 43, 27, 96, 17, 3, 231, 163, 0, 7]
abbrev dktX0_minutesIt_0 : List UInt8 := dkwX0_minutesIt_0 ++ dktX0_minutesIt_1
theorem dksX0_minutesIt_0 : cX0_minutesIt.data.toList.drop 0 = dktX0_minutesIt_0 := by decide +kernel
theorem dksX0_minutesIt_1 : cX0_minutesIt.data.toList.drop 24 = dktX0_minutesIt_1 := dk_seg dksX0_minutesIt_0 24 rfl rfl
theorem dX0_minutesIt_0 : decode cX0_minutesIt 0 = .ok (.iload_n 1, 1) := dk_27 (dk_at dksX0_minutesIt_0 0 rfl rfl)
theorem dX0_minutesIt_1 : decode cX0_minutesIt 1 = .ok (.i2l, 1) := dk_133 (dk_at dksX0_minutesIt_0 1 rfl rfl)
theorem dX0_minutesIt_2 : decode cX0_minutesIt 2 = .ok (.lconst 1, 1) := dk_10 (dk_at dksX0_minutesIt_0 2 rfl rfl)
theorem dX0_minutesIt_3 : decode cX0_minutesIt 3 = .ok (.ldc2_w 297, 3) := dk_20 1 41 (dk_at dksX0_minutesIt_0 3 rfl rfl)
theorem dX0_minutesIt_6 : decode cX0_minutesIt 6 = .ok (.invokestatic 255, 3) := dk_184 0 255 (dk_at dksX0_minutesIt_0 6 rfl rfl)
theorem dX0_minutesIt_9 : decode cX0_minutesIt 9 = .ok (.aload_n 0, 1) := dk_42 (dk_at dksX0_minutesIt_0 9 rfl rfl)
theorem dX0_minutesIt_10 : decode cX0_minutesIt 10 = .ok (.getfield 53, 3) := dk_180 0 53 (dk_at dksX0_minutesIt_0 10 rfl rfl)
theorem dX0_minutesIt_13 : decode cX0_minutesIt 13 = .ok (.getfield 299, 3) := dk_180 1 43 (dk_at dksX0_minutesIt_0 13 rfl rfl)
theorem dX0_minutesIt_16 : decode cX0_minutesIt 16 = .ok (.iload_n 1, 1) := dk_27 (dk_at dksX0_minutesIt_0 16 rfl rfl)
theorem dX0_minutesIt_17 : decode cX0_minutesIt 17 = .ok (.iadd, 1) := dk_96 (dk_at dksX0_minutesIt_0 17 rfl rfl)
theorem dX0_minutesIt_18 : decode cX0_minutesIt 18 = .ok (.sipush 999, 3) := dk_17 3 231 (dk_at dksX0_minutesIt_0 18 rfl rfl)
theorem dX0_minutesIt_21 : decode cX0_minutesIt 21 = .ok (.if_icmp .gt 7, 3) := dk_163 0 7 (dk_at dksX0_minutesIt_0 21 rfl rfl)
theorem dX0_minutesIt_24 : decode cX0_minutesIt 24 = .ok (.iconst 1, 1) := dk_4 (dk_at dksX0_minutesIt_1 0 rfl rfl)
theorem dX0_minutesIt_25 : decode cX0_minutesIt 25 = .ok (.goto 4, 3) := dk_167 0 4 (dk_at dksX0_minutesIt_1 1 rfl rfl)
theorem dX0_minutesIt_28 : decode cX0_minutesIt 28 = .ok (.iconst 0, 1) := dk_3 (dk_at dksX0_minutesIt_1 4 rfl rfl)
theorem dX0_minutesIt_29 : decode cX0_minutesIt 29 = .ok (.bipush (-6), 2) := dk_16 250 (dk_at dksX0_minutesIt_1 5 rfl rfl)
theorem dX0_minutesIt_31 : decode cX0_minutesIt 31 = .ok (.invokestatic 9, 3) := dk_184 0 9 (dk_at dksX0_minutesIt_1 7 rfl rfl)
theorem dX0_minutesIt_34 : decode cX0_minutesIt 34 = .ok (.aload_n 0, 1) := dk_42 (dk_at dksX0_minutesIt_1 10 rfl rfl)
theorem dX0_minutesIt_35 : decode cX0_minutesIt 35 = .ok (.getfield 53, 3) := dk_180 0 53 (dk_at dksX0_minutesIt_1 11 rfl rfl)
theorem dX0_minutesIt_38 : decode cX0_minutesIt 38 = .ok (.iload_n 1, 1) := dk_27 (dk_at dksX0_minutesIt_1 14 rfl rfl)
theorem dX0_minutesIt_39 : decode cX0_minutesIt 39 = .ok (.invokevirtual 120, 3) := dk_182 0 120 (dk_at dksX0_minutesIt_1 15 rfl rfl)
theorem dX0_minutesIt_42 : decode cX0_minutesIt 42 = .ok (.invokevirtual 165, 3) := dk_182 0 165 (dk_at dksX0_minutesIt_1 18 rfl rfl)
theorem dX0_minutesIt_45 : decode cX0_minutesIt 45 = .ok (.ireturn, 1) := dk_172 (dk_at dksX0_minutesIt_1 21 rfl rfl)
abbrev cX0_ones : ByteArray := prog_1_method_6_code
def yX0_ones : MethodName := ⟨RX0, "ones", "(I)I"⟩
def dkwX0_ones_0 : List UInt8 := [3, 60, 26, 61, 28, 153, 0, 15, 132, 1, 1, 28, 28, 4, 100, 126, 61, 167, 255, 243, 27, 172]
abbrev dktX0_ones_0 : List UInt8 := dkwX0_ones_0 ++ []
theorem dksX0_ones_0 : cX0_ones.data.toList.drop 0 = dktX0_ones_0 := by decide +kernel
theorem dX0_ones_0 : decode cX0_ones 0 = .ok (.iconst 0, 1) := dk_3 (dk_at dksX0_ones_0 0 rfl rfl)
theorem dX0_ones_1 : decode cX0_ones 1 = .ok (.istore_n 1, 1) := dk_60 (dk_at dksX0_ones_0 1 rfl rfl)
theorem dX0_ones_2 : decode cX0_ones 2 = .ok (.iload_n 0, 1) := dk_26 (dk_at dksX0_ones_0 2 rfl rfl)
theorem dX0_ones_3 : decode cX0_ones 3 = .ok (.istore_n 2, 1) := dk_61 (dk_at dksX0_ones_0 3 rfl rfl)
theorem dX0_ones_4 : decode cX0_ones 4 = .ok (.iload_n 2, 1) := dk_28 (dk_at dksX0_ones_0 4 rfl rfl)
theorem dX0_ones_5 : decode cX0_ones 5 = .ok (.ifCond .eq 15, 3) := dk_153 0 15 (dk_at dksX0_ones_0 5 rfl rfl)
theorem dX0_ones_8 : decode cX0_ones 8 = .ok (.iinc 1 1, 3) := dk_132 1 1 (dk_at dksX0_ones_0 8 rfl rfl)
theorem dX0_ones_11 : decode cX0_ones 11 = .ok (.iload_n 2, 1) := dk_28 (dk_at dksX0_ones_0 11 rfl rfl)
theorem dX0_ones_12 : decode cX0_ones 12 = .ok (.iload_n 2, 1) := dk_28 (dk_at dksX0_ones_0 12 rfl rfl)
theorem dX0_ones_13 : decode cX0_ones 13 = .ok (.iconst 1, 1) := dk_4 (dk_at dksX0_ones_0 13 rfl rfl)
theorem dX0_ones_14 : decode cX0_ones 14 = .ok (.isub, 1) := dk_100 (dk_at dksX0_ones_0 14 rfl rfl)
theorem dX0_ones_15 : decode cX0_ones 15 = .ok (.iand, 1) := dk_126 (dk_at dksX0_ones_0 15 rfl rfl)
theorem dX0_ones_16 : decode cX0_ones 16 = .ok (.istore_n 2, 1) := dk_61 (dk_at dksX0_ones_0 16 rfl rfl)
theorem dX0_ones_17 : decode cX0_ones 17 = .ok (.goto (-13), 3) := dk_167 255 243 (dk_at dksX0_ones_0 17 rfl rfl)
theorem dX0_ones_20 : decode cX0_ones 20 = .ok (.iload_n 1, 1) := dk_27 (dk_at dksX0_ones_0 20 rfl rfl)
theorem dX0_ones_21 : decode cX0_ones 21 = .ok (.ireturn, 1) := dk_172 (dk_at dksX0_ones_0 21 rfl rfl)
abbrev cX0_ofMinutes : ByteArray := prog_1_method_62_code
def yX0_ofMinutes : MethodName := ⟨RX0, "ofMinutes", "(IIII)I"⟩
def dkwX0_ofMinutes_4 : List UInt8 := [182, 1, 121, 172, 42, 28, 29, 21, 4, 182, 1, 124, 172, 42, 28, 29, 21, 4, 182, 1, 127, 172]
abbrev dktX0_ofMinutes_4 : List UInt8 := dkwX0_ofMinutes_4 ++ []
def dkwX0_ofMinutes_3 : List UInt8 := [172, 42, 182, 1, 112, 172, 42, 28, 29, 182, 1, 115, 172, 42, 28, 182, 1, 118, 172, 42, 28, 29]
abbrev dktX0_ofMinutes_3 : List UInt8 := dkwX0_ofMinutes_3 ++ dktX0_ofMinutes_4
def dkwX0_ofMinutes_2 : List UInt8 := [42, 28, 29, 21, 4, 182, 1, 106, 172, 42, 28, 182, 1, 109, 172, 28, 184, 1, 100, 42, 28, 182, 0, 141]
abbrev dktX0_ofMinutes_2 : List UInt8 := dkwX0_ofMinutes_2 ++ dktX0_ofMinutes_3
def dkwX0_ofMinutes_1 : List UInt8 := [170, 0, 0, 0, 0, 0, 106, 0, 0, 0, 9, 0, 0, 0, 16, 0, 0, 0, 47, 0, 0, 0, 56, 0, 0, 0, 62, 0, 0, 0, 72, 0, 0, 0, 77, 0, 0, 0, 84, 0, 0, 0, 90, 0, 0, 0, 97]
abbrev dktX0_ofMinutes_1 : List UInt8 := dkwX0_ofMinutes_1 ++ dktX0_ofMinutes_2
def dkwX0_ofMinutes_0 : List UInt8 := [27]
abbrev dktX0_ofMinutes_0 : List UInt8 := dkwX0_ofMinutes_0 ++ dktX0_ofMinutes_1
theorem dksX0_ofMinutes_0 : cX0_ofMinutes.data.toList.drop 0 = dktX0_ofMinutes_0 := by decide +kernel
theorem dksX0_ofMinutes_1 : cX0_ofMinutes.data.toList.drop 1 = dktX0_ofMinutes_1 := dk_seg dksX0_ofMinutes_0 1 rfl rfl
theorem dksX0_ofMinutes_2 : cX0_ofMinutes.data.toList.drop 48 = dktX0_ofMinutes_2 := dk_seg dksX0_ofMinutes_1 47 rfl rfl
theorem dksX0_ofMinutes_3 : cX0_ofMinutes.data.toList.drop 72 = dktX0_ofMinutes_3 := dk_seg dksX0_ofMinutes_2 24 rfl rfl
theorem dksX0_ofMinutes_4 : cX0_ofMinutes.data.toList.drop 94 = dktX0_ofMinutes_4 := dk_seg dksX0_ofMinutes_3 22 rfl rfl
theorem dX0_ofMinutes_0 : decode cX0_ofMinutes 0 = .ok (.iload_n 1, 1) := dk_27 (dk_at dksX0_ofMinutes_0 0 rfl rfl)
theorem dX0_ofMinutes_1 : decode cX0_ofMinutes 1 = .ok (.tableswitch 106 9 16 #[47, 56, 62, 72, 77, 84, 90, 97], 47) := by decide +kernel
theorem dX0_ofMinutes_48 : decode cX0_ofMinutes 48 = .ok (.aload_n 0, 1) := dk_42 (dk_at dksX0_ofMinutes_2 0 rfl rfl)
theorem dX0_ofMinutes_49 : decode cX0_ofMinutes 49 = .ok (.iload_n 2, 1) := dk_28 (dk_at dksX0_ofMinutes_2 1 rfl rfl)
theorem dX0_ofMinutes_50 : decode cX0_ofMinutes 50 = .ok (.iload_n 3, 1) := dk_29 (dk_at dksX0_ofMinutes_2 2 rfl rfl)
theorem dX0_ofMinutes_51 : decode cX0_ofMinutes 51 = .ok (.iload 4, 2) := dk_21 4 (dk_at dksX0_ofMinutes_2 3 rfl rfl)
theorem dX0_ofMinutes_53 : decode cX0_ofMinutes 53 = .ok (.invokevirtual 362, 3) := dk_182 1 106 (dk_at dksX0_ofMinutes_2 5 rfl rfl)
theorem dX0_ofMinutes_56 : decode cX0_ofMinutes 56 = .ok (.ireturn, 1) := dk_172 (dk_at dksX0_ofMinutes_2 8 rfl rfl)
theorem dX0_ofMinutes_57 : decode cX0_ofMinutes 57 = .ok (.aload_n 0, 1) := dk_42 (dk_at dksX0_ofMinutes_2 9 rfl rfl)
theorem dX0_ofMinutes_58 : decode cX0_ofMinutes 58 = .ok (.iload_n 2, 1) := dk_28 (dk_at dksX0_ofMinutes_2 10 rfl rfl)
theorem dX0_ofMinutes_59 : decode cX0_ofMinutes 59 = .ok (.invokevirtual 365, 3) := dk_182 1 109 (dk_at dksX0_ofMinutes_2 11 rfl rfl)
theorem dX0_ofMinutes_62 : decode cX0_ofMinutes 62 = .ok (.ireturn, 1) := dk_172 (dk_at dksX0_ofMinutes_2 14 rfl rfl)
theorem dX0_ofMinutes_63 : decode cX0_ofMinutes 63 = .ok (.iload_n 2, 1) := dk_28 (dk_at dksX0_ofMinutes_2 15 rfl rfl)
theorem dX0_ofMinutes_64 : decode cX0_ofMinutes 64 = .ok (.invokestatic 356, 3) := dk_184 1 100 (dk_at dksX0_ofMinutes_2 16 rfl rfl)
theorem dX0_ofMinutes_67 : decode cX0_ofMinutes 67 = .ok (.aload_n 0, 1) := dk_42 (dk_at dksX0_ofMinutes_2 19 rfl rfl)
theorem dX0_ofMinutes_68 : decode cX0_ofMinutes 68 = .ok (.iload_n 2, 1) := dk_28 (dk_at dksX0_ofMinutes_2 20 rfl rfl)
theorem dX0_ofMinutes_69 : decode cX0_ofMinutes 69 = .ok (.invokevirtual 141, 3) := dk_182 0 141 (dk_at dksX0_ofMinutes_2 21 rfl rfl)
theorem dX0_ofMinutes_72 : decode cX0_ofMinutes 72 = .ok (.ireturn, 1) := dk_172 (dk_at dksX0_ofMinutes_3 0 rfl rfl)
theorem dX0_ofMinutes_73 : decode cX0_ofMinutes 73 = .ok (.aload_n 0, 1) := dk_42 (dk_at dksX0_ofMinutes_3 1 rfl rfl)
theorem dX0_ofMinutes_74 : decode cX0_ofMinutes 74 = .ok (.invokevirtual 368, 3) := dk_182 1 112 (dk_at dksX0_ofMinutes_3 2 rfl rfl)
theorem dX0_ofMinutes_77 : decode cX0_ofMinutes 77 = .ok (.ireturn, 1) := dk_172 (dk_at dksX0_ofMinutes_3 5 rfl rfl)
theorem dX0_ofMinutes_78 : decode cX0_ofMinutes 78 = .ok (.aload_n 0, 1) := dk_42 (dk_at dksX0_ofMinutes_3 6 rfl rfl)
theorem dX0_ofMinutes_79 : decode cX0_ofMinutes 79 = .ok (.iload_n 2, 1) := dk_28 (dk_at dksX0_ofMinutes_3 7 rfl rfl)
theorem dX0_ofMinutes_80 : decode cX0_ofMinutes 80 = .ok (.iload_n 3, 1) := dk_29 (dk_at dksX0_ofMinutes_3 8 rfl rfl)
theorem dX0_ofMinutes_81 : decode cX0_ofMinutes 81 = .ok (.invokevirtual 371, 3) := dk_182 1 115 (dk_at dksX0_ofMinutes_3 9 rfl rfl)
theorem dX0_ofMinutes_84 : decode cX0_ofMinutes 84 = .ok (.ireturn, 1) := dk_172 (dk_at dksX0_ofMinutes_3 12 rfl rfl)
theorem dX0_ofMinutes_85 : decode cX0_ofMinutes 85 = .ok (.aload_n 0, 1) := dk_42 (dk_at dksX0_ofMinutes_3 13 rfl rfl)
theorem dX0_ofMinutes_86 : decode cX0_ofMinutes 86 = .ok (.iload_n 2, 1) := dk_28 (dk_at dksX0_ofMinutes_3 14 rfl rfl)
theorem dX0_ofMinutes_87 : decode cX0_ofMinutes 87 = .ok (.invokevirtual 374, 3) := dk_182 1 118 (dk_at dksX0_ofMinutes_3 15 rfl rfl)
theorem dX0_ofMinutes_90 : decode cX0_ofMinutes 90 = .ok (.ireturn, 1) := dk_172 (dk_at dksX0_ofMinutes_3 18 rfl rfl)
theorem dX0_ofMinutes_91 : decode cX0_ofMinutes 91 = .ok (.aload_n 0, 1) := dk_42 (dk_at dksX0_ofMinutes_3 19 rfl rfl)
theorem dX0_ofMinutes_92 : decode cX0_ofMinutes 92 = .ok (.iload_n 2, 1) := dk_28 (dk_at dksX0_ofMinutes_3 20 rfl rfl)
theorem dX0_ofMinutes_93 : decode cX0_ofMinutes 93 = .ok (.iload_n 3, 1) := dk_29 (dk_at dksX0_ofMinutes_3 21 rfl rfl)
theorem dX0_ofMinutes_94 : decode cX0_ofMinutes 94 = .ok (.invokevirtual 377, 3) := dk_182 1 121 (dk_at dksX0_ofMinutes_4 0 rfl rfl)
theorem dX0_ofMinutes_97 : decode cX0_ofMinutes 97 = .ok (.ireturn, 1) := dk_172 (dk_at dksX0_ofMinutes_4 3 rfl rfl)
theorem dX0_ofMinutes_98 : decode cX0_ofMinutes 98 = .ok (.aload_n 0, 1) := dk_42 (dk_at dksX0_ofMinutes_4 4 rfl rfl)
theorem dX0_ofMinutes_99 : decode cX0_ofMinutes 99 = .ok (.iload_n 2, 1) := dk_28 (dk_at dksX0_ofMinutes_4 5 rfl rfl)
theorem dX0_ofMinutes_100 : decode cX0_ofMinutes 100 = .ok (.iload_n 3, 1) := dk_29 (dk_at dksX0_ofMinutes_4 6 rfl rfl)
theorem dX0_ofMinutes_101 : decode cX0_ofMinutes 101 = .ok (.iload 4, 2) := dk_21 4 (dk_at dksX0_ofMinutes_4 7 rfl rfl)
theorem dX0_ofMinutes_103 : decode cX0_ofMinutes 103 = .ok (.invokevirtual 380, 3) := dk_182 1 124 (dk_at dksX0_ofMinutes_4 9 rfl rfl)
theorem dX0_ofMinutes_106 : decode cX0_ofMinutes 106 = .ok (.ireturn, 1) := dk_172 (dk_at dksX0_ofMinutes_4 12 rfl rfl)
theorem dX0_ofMinutes_107 : decode cX0_ofMinutes 107 = .ok (.aload_n 0, 1) := dk_42 (dk_at dksX0_ofMinutes_4 13 rfl rfl)
theorem dX0_ofMinutes_108 : decode cX0_ofMinutes 108 = .ok (.iload_n 2, 1) := dk_28 (dk_at dksX0_ofMinutes_4 14 rfl rfl)
theorem dX0_ofMinutes_109 : decode cX0_ofMinutes 109 = .ok (.iload_n 3, 1) := dk_29 (dk_at dksX0_ofMinutes_4 15 rfl rfl)
theorem dX0_ofMinutes_110 : decode cX0_ofMinutes 110 = .ok (.iload 4, 2) := dk_21 4 (dk_at dksX0_ofMinutes_4 16 rfl rfl)
theorem dX0_ofMinutes_112 : decode cX0_ofMinutes 112 = .ok (.invokevirtual 383, 3) := dk_182 1 127 (dk_at dksX0_ofMinutes_4 18 rfl rfl)
theorem dX0_ofMinutes_115 : decode cX0_ofMinutes 115 = .ok (.ireturn, 1) := dk_172 (dk_at dksX0_ofMinutes_4 21 rfl rfl)
abbrev cX0_behindTold : ByteArray := prog_1_method_55_code
def yX0_behindTold : MethodName := ⟨RX0, "behindTold", "(III)I"⟩
def dkwX0_behindTold_2 : List UInt8 := [160, 0, 13, 25, 4, 180, 1, 17, 27, 46, 167, 0, 8, 25, 4, 182, 0, 165, 172]
abbrev dktX0_behindTold_2 : List UInt8 := dkwX0_behindTold_2 ++ []
def dkwX0_behindTold_1 : List UInt8 := [28, 182, 0, 148, 58, 4, 29, 154, 0, 13, 25, 4, 180, 0, 124, 27, 46, 167, 0, 23, 29, 4]
abbrev dktX0_behindTold_1 : List UInt8 := dkwX0_behindTold_1 ++ dktX0_behindTold_2
def dkwX0_behindTold_0 : List UInt8 := [42, 27, 182, 1, 7, 28, 184, 1, 74, 29, 133, 9, 20, 1, 77, 184, 0, 13, 16, 254, 184, 0, 9, 42]
abbrev dktX0_behindTold_0 : List UInt8 := dkwX0_behindTold_0 ++ dktX0_behindTold_1
theorem dksX0_behindTold_0 : cX0_behindTold.data.toList.drop 0 = dktX0_behindTold_0 := by decide +kernel
theorem dksX0_behindTold_1 : cX0_behindTold.data.toList.drop 24 = dktX0_behindTold_1 := dk_seg dksX0_behindTold_0 24 rfl rfl
theorem dksX0_behindTold_2 : cX0_behindTold.data.toList.drop 46 = dktX0_behindTold_2 := dk_seg dksX0_behindTold_1 22 rfl rfl
theorem dX0_behindTold_0 : decode cX0_behindTold 0 = .ok (.aload_n 0, 1) := dk_42 (dk_at dksX0_behindTold_0 0 rfl rfl)
theorem dX0_behindTold_1 : decode cX0_behindTold 1 = .ok (.iload_n 1, 1) := dk_27 (dk_at dksX0_behindTold_0 1 rfl rfl)
theorem dX0_behindTold_2 : decode cX0_behindTold 2 = .ok (.invokevirtual 263, 3) := dk_182 1 7 (dk_at dksX0_behindTold_0 2 rfl rfl)
theorem dX0_behindTold_5 : decode cX0_behindTold 5 = .ok (.iload_n 2, 1) := dk_28 (dk_at dksX0_behindTold_0 5 rfl rfl)
theorem dX0_behindTold_6 : decode cX0_behindTold 6 = .ok (.invokestatic 330, 3) := dk_184 1 74 (dk_at dksX0_behindTold_0 6 rfl rfl)
theorem dX0_behindTold_9 : decode cX0_behindTold 9 = .ok (.iload_n 3, 1) := dk_29 (dk_at dksX0_behindTold_0 9 rfl rfl)
theorem dX0_behindTold_10 : decode cX0_behindTold 10 = .ok (.i2l, 1) := dk_133 (dk_at dksX0_behindTold_0 10 rfl rfl)
theorem dX0_behindTold_11 : decode cX0_behindTold 11 = .ok (.lconst 0, 1) := dk_9 (dk_at dksX0_behindTold_0 11 rfl rfl)
theorem dX0_behindTold_12 : decode cX0_behindTold 12 = .ok (.ldc2_w 333, 3) := dk_20 1 77 (dk_at dksX0_behindTold_0 12 rfl rfl)
theorem dX0_behindTold_15 : decode cX0_behindTold 15 = .ok (.invokestatic 13, 3) := dk_184 0 13 (dk_at dksX0_behindTold_0 15 rfl rfl)
theorem dX0_behindTold_18 : decode cX0_behindTold 18 = .ok (.bipush (-2), 2) := dk_16 254 (dk_at dksX0_behindTold_0 18 rfl rfl)
theorem dX0_behindTold_20 : decode cX0_behindTold 20 = .ok (.invokestatic 9, 3) := dk_184 0 9 (dk_at dksX0_behindTold_0 20 rfl rfl)
theorem dX0_behindTold_23 : decode cX0_behindTold 23 = .ok (.aload_n 0, 1) := dk_42 (dk_at dksX0_behindTold_0 23 rfl rfl)
theorem dX0_behindTold_24 : decode cX0_behindTold 24 = .ok (.iload_n 2, 1) := dk_28 (dk_at dksX0_behindTold_1 0 rfl rfl)
theorem dX0_behindTold_25 : decode cX0_behindTold 25 = .ok (.invokevirtual 148, 3) := dk_182 0 148 (dk_at dksX0_behindTold_1 1 rfl rfl)
theorem dX0_behindTold_28 : decode cX0_behindTold 28 = .ok (.astore 4, 2) := dk_58 4 (dk_at dksX0_behindTold_1 4 rfl rfl)
theorem dX0_behindTold_30 : decode cX0_behindTold 30 = .ok (.iload_n 3, 1) := dk_29 (dk_at dksX0_behindTold_1 6 rfl rfl)
theorem dX0_behindTold_31 : decode cX0_behindTold 31 = .ok (.ifCond .ne 13, 3) := dk_154 0 13 (dk_at dksX0_behindTold_1 7 rfl rfl)
theorem dX0_behindTold_34 : decode cX0_behindTold 34 = .ok (.aload 4, 2) := dk_25 4 (dk_at dksX0_behindTold_1 10 rfl rfl)
theorem dX0_behindTold_36 : decode cX0_behindTold 36 = .ok (.getfield 124, 3) := dk_180 0 124 (dk_at dksX0_behindTold_1 12 rfl rfl)
theorem dX0_behindTold_39 : decode cX0_behindTold 39 = .ok (.iload_n 1, 1) := dk_27 (dk_at dksX0_behindTold_1 15 rfl rfl)
theorem dX0_behindTold_40 : decode cX0_behindTold 40 = .ok (.iaload, 1) := dk_46 (dk_at dksX0_behindTold_1 16 rfl rfl)
theorem dX0_behindTold_41 : decode cX0_behindTold 41 = .ok (.goto 23, 3) := dk_167 0 23 (dk_at dksX0_behindTold_1 17 rfl rfl)
theorem dX0_behindTold_44 : decode cX0_behindTold 44 = .ok (.iload_n 3, 1) := dk_29 (dk_at dksX0_behindTold_1 20 rfl rfl)
theorem dX0_behindTold_45 : decode cX0_behindTold 45 = .ok (.iconst 1, 1) := dk_4 (dk_at dksX0_behindTold_1 21 rfl rfl)
theorem dX0_behindTold_46 : decode cX0_behindTold 46 = .ok (.if_icmp .ne 13, 3) := dk_160 0 13 (dk_at dksX0_behindTold_2 0 rfl rfl)
theorem dX0_behindTold_49 : decode cX0_behindTold 49 = .ok (.aload 4, 2) := dk_25 4 (dk_at dksX0_behindTold_2 3 rfl rfl)
theorem dX0_behindTold_51 : decode cX0_behindTold 51 = .ok (.getfield 273, 3) := dk_180 1 17 (dk_at dksX0_behindTold_2 5 rfl rfl)
theorem dX0_behindTold_54 : decode cX0_behindTold 54 = .ok (.iload_n 1, 1) := dk_27 (dk_at dksX0_behindTold_2 8 rfl rfl)
theorem dX0_behindTold_55 : decode cX0_behindTold 55 = .ok (.iaload, 1) := dk_46 (dk_at dksX0_behindTold_2 9 rfl rfl)
theorem dX0_behindTold_56 : decode cX0_behindTold 56 = .ok (.goto 8, 3) := dk_167 0 8 (dk_at dksX0_behindTold_2 10 rfl rfl)
theorem dX0_behindTold_59 : decode cX0_behindTold 59 = .ok (.aload 4, 2) := dk_25 4 (dk_at dksX0_behindTold_2 13 rfl rfl)
theorem dX0_behindTold_61 : decode cX0_behindTold 61 = .ok (.invokevirtual 165, 3) := dk_182 0 165 (dk_at dksX0_behindTold_2 15 rfl rfl)
theorem dX0_behindTold_64 : decode cX0_behindTold 64 = .ok (.ireturn, 1) := dk_172 (dk_at dksX0_behindTold_2 18 rfl rfl)
abbrev cX0_mustBeMinutes : ByteArray := prog_1_method_45_code
def yX0_mustBeMinutes : MethodName := ⟨RX0, "mustBeMinutes", "(I)V"⟩
def dkwX0_mustBeMinutes_0 : List UInt8 := [26, 133, 9, 20, 1, 3, 184, 0, 255, 177]
abbrev dktX0_mustBeMinutes_0 : List UInt8 := dkwX0_mustBeMinutes_0 ++ []
theorem dksX0_mustBeMinutes_0 : cX0_mustBeMinutes.data.toList.drop 0 = dktX0_mustBeMinutes_0 := by decide +kernel
theorem dX0_mustBeMinutes_0 : decode cX0_mustBeMinutes 0 = .ok (.iload_n 0, 1) := dk_26 (dk_at dksX0_mustBeMinutes_0 0 rfl rfl)
theorem dX0_mustBeMinutes_1 : decode cX0_mustBeMinutes 1 = .ok (.i2l, 1) := dk_133 (dk_at dksX0_mustBeMinutes_0 1 rfl rfl)
theorem dX0_mustBeMinutes_2 : decode cX0_mustBeMinutes 2 = .ok (.lconst 0, 1) := dk_9 (dk_at dksX0_mustBeMinutes_0 2 rfl rfl)
theorem dX0_mustBeMinutes_3 : decode cX0_mustBeMinutes 3 = .ok (.ldc2_w 259, 3) := dk_20 1 3 (dk_at dksX0_mustBeMinutes_0 3 rfl rfl)
theorem dX0_mustBeMinutes_6 : decode cX0_mustBeMinutes 6 = .ok (.invokestatic 255, 3) := dk_184 0 255 (dk_at dksX0_mustBeMinutes_0 6 rfl rfl)
theorem dX0_mustBeMinutes_9 : decode cX0_mustBeMinutes 9 = .ok (.return_, 1) := dk_177 (dk_at dksX0_mustBeMinutes_0 9 rfl rfl)
abbrev cX0_ahead : ByteArray := prog_1_method_13_code
def yX0_ahead : MethodName := ⟨RX0, "ahead", "(I)LPulledFromUnder$Room;"⟩
def dkwX0_ahead_0 : List UInt8 := [42, 182, 0, 116, 27, 182, 0, 120, 176]
abbrev dktX0_ahead_0 : List UInt8 := dkwX0_ahead_0 ++ []
theorem dksX0_ahead_0 : cX0_ahead.data.toList.drop 0 = dktX0_ahead_0 := by decide +kernel
theorem dX0_ahead_0 : decode cX0_ahead 0 = .ok (.aload_n 0, 1) := dk_42 (dk_at dksX0_ahead_0 0 rfl rfl)
theorem dX0_ahead_1 : decode cX0_ahead 1 = .ok (.invokevirtual 116, 3) := dk_182 0 116 (dk_at dksX0_ahead_0 1 rfl rfl)
theorem dX0_ahead_4 : decode cX0_ahead 4 = .ok (.iload_n 1, 1) := dk_27 (dk_at dksX0_ahead_0 4 rfl rfl)
theorem dX0_ahead_5 : decode cX0_ahead 5 = .ok (.invokevirtual 120, 3) := dk_182 0 120 (dk_at dksX0_ahead_0 5 rfl rfl)
theorem dX0_ahead_8 : decode cX0_ahead 8 = .ok (.areturn, 1) := dk_176 (dk_at dksX0_ahead_0 8 rfl rfl)
abbrev cX0_openMind : ByteArray := prog_1_method_12_code
def yX0_openMind : MethodName := ⟨RX0, "openMind", "()LPulledFromUnder$Room;"⟩
def dkwX0_openMind_0 : List UInt8 := [42, 180, 0, 57, 42, 180, 0, 53, 182, 0, 102, 87, 42, 180, 0, 57, 176]
abbrev dktX0_openMind_0 : List UInt8 := dkwX0_openMind_0 ++ []
theorem dksX0_openMind_0 : cX0_openMind.data.toList.drop 0 = dktX0_openMind_0 := by decide +kernel
theorem dX0_openMind_0 : decode cX0_openMind 0 = .ok (.aload_n 0, 1) := dk_42 (dk_at dksX0_openMind_0 0 rfl rfl)
theorem dX0_openMind_1 : decode cX0_openMind 1 = .ok (.getfield 57, 3) := dk_180 0 57 (dk_at dksX0_openMind_0 1 rfl rfl)
theorem dX0_openMind_4 : decode cX0_openMind 4 = .ok (.aload_n 0, 1) := dk_42 (dk_at dksX0_openMind_0 4 rfl rfl)
theorem dX0_openMind_5 : decode cX0_openMind 5 = .ok (.getfield 53, 3) := dk_180 0 53 (dk_at dksX0_openMind_0 5 rfl rfl)
theorem dX0_openMind_8 : decode cX0_openMind 8 = .ok (.invokevirtual 102, 3) := dk_182 0 102 (dk_at dksX0_openMind_0 8 rfl rfl)
theorem dX0_openMind_11 : decode cX0_openMind 11 = .ok (.pop, 1) := dk_87 (dk_at dksX0_openMind_0 11 rfl rfl)
theorem dX0_openMind_12 : decode cX0_openMind 12 = .ok (.aload_n 0, 1) := dk_42 (dk_at dksX0_openMind_0 12 rfl rfl)
theorem dX0_openMind_13 : decode cX0_openMind 13 = .ok (.getfield 57, 3) := dk_180 0 57 (dk_at dksX0_openMind_0 13 rfl rfl)
theorem dX0_openMind_16 : decode cX0_openMind 16 = .ok (.areturn, 1) := dk_176 (dk_at dksX0_openMind_0 16 rfl rfl)
abbrev cX0_fallsTold : ByteArray := prog_1_method_56_code
def yX0_fallsTold : MethodName := ⟨RX0, "fallsTold", "(I)I"⟩
def dkwX0_fallsTold_1 : List UInt8 := [167, 0, 4, 28, 172]
abbrev dktX0_fallsTold_1 : List UInt8 := dkwX0_fallsTold_1 ++ []
def dkwX0_fallsTold_0 : List UInt8 := [42, 27, 182, 1, 7, 42, 42, 182, 0, 116, 27, 182, 1, 79, 61, 28, 16, 100, 160, 0, 8, 16, 247]
abbrev dktX0_fallsTold_0 : List UInt8 := dkwX0_fallsTold_0 ++ dktX0_fallsTold_1
theorem dksX0_fallsTold_0 : cX0_fallsTold.data.toList.drop 0 = dktX0_fallsTold_0 := by decide +kernel
theorem dksX0_fallsTold_1 : cX0_fallsTold.data.toList.drop 23 = dktX0_fallsTold_1 := dk_seg dksX0_fallsTold_0 23 rfl rfl
theorem dX0_fallsTold_0 : decode cX0_fallsTold 0 = .ok (.aload_n 0, 1) := dk_42 (dk_at dksX0_fallsTold_0 0 rfl rfl)
theorem dX0_fallsTold_1 : decode cX0_fallsTold 1 = .ok (.iload_n 1, 1) := dk_27 (dk_at dksX0_fallsTold_0 1 rfl rfl)
theorem dX0_fallsTold_2 : decode cX0_fallsTold 2 = .ok (.invokevirtual 263, 3) := dk_182 1 7 (dk_at dksX0_fallsTold_0 2 rfl rfl)
theorem dX0_fallsTold_5 : decode cX0_fallsTold 5 = .ok (.aload_n 0, 1) := dk_42 (dk_at dksX0_fallsTold_0 5 rfl rfl)
theorem dX0_fallsTold_6 : decode cX0_fallsTold 6 = .ok (.aload_n 0, 1) := dk_42 (dk_at dksX0_fallsTold_0 6 rfl rfl)
theorem dX0_fallsTold_7 : decode cX0_fallsTold 7 = .ok (.invokevirtual 116, 3) := dk_182 0 116 (dk_at dksX0_fallsTold_0 7 rfl rfl)
theorem dX0_fallsTold_10 : decode cX0_fallsTold 10 = .ok (.iload_n 1, 1) := dk_27 (dk_at dksX0_fallsTold_0 10 rfl rfl)
theorem dX0_fallsTold_11 : decode cX0_fallsTold 11 = .ok (.invokevirtual 335, 3) := dk_182 1 79 (dk_at dksX0_fallsTold_0 11 rfl rfl)
theorem dX0_fallsTold_14 : decode cX0_fallsTold 14 = .ok (.istore_n 2, 1) := dk_61 (dk_at dksX0_fallsTold_0 14 rfl rfl)
theorem dX0_fallsTold_15 : decode cX0_fallsTold 15 = .ok (.iload_n 2, 1) := dk_28 (dk_at dksX0_fallsTold_0 15 rfl rfl)
theorem dX0_fallsTold_16 : decode cX0_fallsTold 16 = .ok (.bipush 100, 2) := dk_16 100 (dk_at dksX0_fallsTold_0 16 rfl rfl)
theorem dX0_fallsTold_18 : decode cX0_fallsTold 18 = .ok (.if_icmp .ne 8, 3) := dk_160 0 8 (dk_at dksX0_fallsTold_0 18 rfl rfl)
theorem dX0_fallsTold_21 : decode cX0_fallsTold 21 = .ok (.bipush (-9), 2) := dk_16 247 (dk_at dksX0_fallsTold_0 21 rfl rfl)
theorem dX0_fallsTold_23 : decode cX0_fallsTold 23 = .ok (.goto 4, 3) := dk_167 0 4 (dk_at dksX0_fallsTold_1 0 rfl rfl)
theorem dX0_fallsTold_26 : decode cX0_fallsTold 26 = .ok (.iload_n 2, 1) := dk_28 (dk_at dksX0_fallsTold_1 3 rfl rfl)
theorem dX0_fallsTold_27 : decode cX0_fallsTold 27 = .ok (.ireturn, 1) := dk_172 (dk_at dksX0_fallsTold_1 4 rfl rfl)
abbrev cX0_fallIn : ByteArray := prog_1_method_14_code
def yX0_fallIn : MethodName := ⟨RX0, "fallIn", "(LPulledFromUnder$Room;I)I"⟩
def dkwX0_fallIn_1 : List UInt8 := [132, 3, 1, 167, 255, 232, 29, 172]
abbrev dktX0_fallIn_1 : List UInt8 := dkwX0_fallIn_1 ++ []
def dkwX0_fallIn_0 : List UInt8 := [3, 62, 29, 16, 99, 163, 0, 24, 43, 180, 0, 124, 28, 46, 4, 159, 0, 14, 43, 3, 182, 0, 127]
abbrev dktX0_fallIn_0 : List UInt8 := dkwX0_fallIn_0 ++ dktX0_fallIn_1
theorem dksX0_fallIn_0 : cX0_fallIn.data.toList.drop 0 = dktX0_fallIn_0 := by decide +kernel
theorem dksX0_fallIn_1 : cX0_fallIn.data.toList.drop 23 = dktX0_fallIn_1 := dk_seg dksX0_fallIn_0 23 rfl rfl
theorem dX0_fallIn_0 : decode cX0_fallIn 0 = .ok (.iconst 0, 1) := dk_3 (dk_at dksX0_fallIn_0 0 rfl rfl)
theorem dX0_fallIn_1 : decode cX0_fallIn 1 = .ok (.istore_n 3, 1) := dk_62 (dk_at dksX0_fallIn_0 1 rfl rfl)
theorem dX0_fallIn_2 : decode cX0_fallIn 2 = .ok (.iload_n 3, 1) := dk_29 (dk_at dksX0_fallIn_0 2 rfl rfl)
theorem dX0_fallIn_3 : decode cX0_fallIn 3 = .ok (.bipush 99, 2) := dk_16 99 (dk_at dksX0_fallIn_0 3 rfl rfl)
theorem dX0_fallIn_5 : decode cX0_fallIn 5 = .ok (.if_icmp .gt 24, 3) := dk_163 0 24 (dk_at dksX0_fallIn_0 5 rfl rfl)
theorem dX0_fallIn_8 : decode cX0_fallIn 8 = .ok (.aload_n 1, 1) := dk_43 (dk_at dksX0_fallIn_0 8 rfl rfl)
theorem dX0_fallIn_9 : decode cX0_fallIn 9 = .ok (.getfield 124, 3) := dk_180 0 124 (dk_at dksX0_fallIn_0 9 rfl rfl)
theorem dX0_fallIn_12 : decode cX0_fallIn 12 = .ok (.iload_n 2, 1) := dk_28 (dk_at dksX0_fallIn_0 12 rfl rfl)
theorem dX0_fallIn_13 : decode cX0_fallIn 13 = .ok (.iaload, 1) := dk_46 (dk_at dksX0_fallIn_0 13 rfl rfl)
theorem dX0_fallIn_14 : decode cX0_fallIn 14 = .ok (.iconst 1, 1) := dk_4 (dk_at dksX0_fallIn_0 14 rfl rfl)
theorem dX0_fallIn_15 : decode cX0_fallIn 15 = .ok (.if_icmp .eq 14, 3) := dk_159 0 14 (dk_at dksX0_fallIn_0 15 rfl rfl)
theorem dX0_fallIn_18 : decode cX0_fallIn 18 = .ok (.aload_n 1, 1) := dk_43 (dk_at dksX0_fallIn_0 18 rfl rfl)
theorem dX0_fallIn_19 : decode cX0_fallIn 19 = .ok (.iconst 0, 1) := dk_3 (dk_at dksX0_fallIn_0 19 rfl rfl)
theorem dX0_fallIn_20 : decode cX0_fallIn 20 = .ok (.invokevirtual 127, 3) := dk_182 0 127 (dk_at dksX0_fallIn_0 20 rfl rfl)
theorem dX0_fallIn_23 : decode cX0_fallIn 23 = .ok (.iinc 3 1, 3) := dk_132 3 1 (dk_at dksX0_fallIn_1 0 rfl rfl)
theorem dX0_fallIn_26 : decode cX0_fallIn 26 = .ok (.goto (-24), 3) := dk_167 255 232 (dk_at dksX0_fallIn_1 3 rfl rfl)
theorem dX0_fallIn_29 : decode cX0_fallIn 29 = .ok (.iload_n 3, 1) := dk_29 (dk_at dksX0_fallIn_1 6 rfl rfl)
theorem dX0_fallIn_30 : decode cX0_fallIn 30 = .ok (.ireturn, 1) := dk_172 (dk_at dksX0_fallIn_1 7 rfl rfl)
abbrev cX0_mustBeBit : ByteArray := prog_1_method_43_code
def yX0_mustBeBit : MethodName := ⟨RX0, "mustBeBit", "(I)V"⟩
def dkwX0_mustBeBit_0 : List UInt8 := [26, 133, 9, 10, 184, 0, 13, 16, 254, 184, 0, 9, 177]
abbrev dktX0_mustBeBit_0 : List UInt8 := dkwX0_mustBeBit_0 ++ []
theorem dksX0_mustBeBit_0 : cX0_mustBeBit.data.toList.drop 0 = dktX0_mustBeBit_0 := by decide +kernel
theorem dX0_mustBeBit_0 : decode cX0_mustBeBit 0 = .ok (.iload_n 0, 1) := dk_26 (dk_at dksX0_mustBeBit_0 0 rfl rfl)
theorem dX0_mustBeBit_1 : decode cX0_mustBeBit 1 = .ok (.i2l, 1) := dk_133 (dk_at dksX0_mustBeBit_0 1 rfl rfl)
theorem dX0_mustBeBit_2 : decode cX0_mustBeBit 2 = .ok (.lconst 0, 1) := dk_9 (dk_at dksX0_mustBeBit_0 2 rfl rfl)
theorem dX0_mustBeBit_3 : decode cX0_mustBeBit 3 = .ok (.lconst 1, 1) := dk_10 (dk_at dksX0_mustBeBit_0 3 rfl rfl)
theorem dX0_mustBeBit_4 : decode cX0_mustBeBit 4 = .ok (.invokestatic 13, 3) := dk_184 0 13 (dk_at dksX0_mustBeBit_0 4 rfl rfl)
theorem dX0_mustBeBit_7 : decode cX0_mustBeBit 7 = .ok (.bipush (-2), 2) := dk_16 254 (dk_at dksX0_mustBeBit_0 7 rfl rfl)
theorem dX0_mustBeBit_9 : decode cX0_mustBeBit 9 = .ok (.invokestatic 9, 3) := dk_184 0 9 (dk_at dksX0_mustBeBit_0 9 rfl rfl)
theorem dX0_mustBeBit_12 : decode cX0_mustBeBit 12 = .ok (.return_, 1) := dk_177 (dk_at dksX0_mustBeBit_0 12 rfl rfl)
abbrev cX0_firstFall : ByteArray := prog_1_method_15_code
def yX0_firstFall : MethodName := ⟨RX0, "firstFall", "(I)I"⟩
def dkwX0_firstFall_3 : List UInt8 := [172, 132, 6, 1, 167, 255, 222, 132, 4, 1, 167, 255, 192, 16, 247, 172]
abbrev dktX0_firstFall_3 : List UInt8 := dkwX0_firstFall_3 ++ []
def dkwX0_firstFall_2 : List UInt8 := [162, 0, 31, 21, 5, 21, 6, 184, 0, 137, 153, 0, 15, 27, 154, 0, 8, 21, 6, 167, 0, 5, 21, 4]
abbrev dktX0_firstFall_2 : List UInt8 := dkwX0_firstFall_2 ++ dktX0_firstFall_3
def dkwX0_firstFall_1 : List UInt8 := [45, 3, 182, 0, 127, 45, 4, 182, 0, 130, 28, 126, 54, 5, 3, 54, 6, 21, 6, 45, 180, 0, 134]
abbrev dktX0_firstFall_1 : List UInt8 := dkwX0_firstFall_1 ++ dktX0_firstFall_2
def dkwX0_firstFall_0 : List UInt8 := [42, 180, 0, 53, 3, 182, 0, 130, 61, 42, 182, 0, 116, 78, 4, 54, 4, 21, 4, 16, 99, 163, 0, 63]
abbrev dktX0_firstFall_0 : List UInt8 := dkwX0_firstFall_0 ++ dktX0_firstFall_1
theorem dksX0_firstFall_0 : cX0_firstFall.data.toList.drop 0 = dktX0_firstFall_0 := by decide +kernel
theorem dksX0_firstFall_1 : cX0_firstFall.data.toList.drop 24 = dktX0_firstFall_1 := dk_seg dksX0_firstFall_0 24 rfl rfl
theorem dksX0_firstFall_2 : cX0_firstFall.data.toList.drop 47 = dktX0_firstFall_2 := dk_seg dksX0_firstFall_1 23 rfl rfl
theorem dksX0_firstFall_3 : cX0_firstFall.data.toList.drop 71 = dktX0_firstFall_3 := dk_seg dksX0_firstFall_2 24 rfl rfl
theorem dX0_firstFall_0 : decode cX0_firstFall 0 = .ok (.aload_n 0, 1) := dk_42 (dk_at dksX0_firstFall_0 0 rfl rfl)
theorem dX0_firstFall_1 : decode cX0_firstFall 1 = .ok (.getfield 53, 3) := dk_180 0 53 (dk_at dksX0_firstFall_0 1 rfl rfl)
theorem dX0_firstFall_4 : decode cX0_firstFall 4 = .ok (.iconst 0, 1) := dk_3 (dk_at dksX0_firstFall_0 4 rfl rfl)
theorem dX0_firstFall_5 : decode cX0_firstFall 5 = .ok (.invokevirtual 130, 3) := dk_182 0 130 (dk_at dksX0_firstFall_0 5 rfl rfl)
theorem dX0_firstFall_8 : decode cX0_firstFall 8 = .ok (.istore_n 2, 1) := dk_61 (dk_at dksX0_firstFall_0 8 rfl rfl)
theorem dX0_firstFall_9 : decode cX0_firstFall 9 = .ok (.aload_n 0, 1) := dk_42 (dk_at dksX0_firstFall_0 9 rfl rfl)
theorem dX0_firstFall_10 : decode cX0_firstFall 10 = .ok (.invokevirtual 116, 3) := dk_182 0 116 (dk_at dksX0_firstFall_0 10 rfl rfl)
theorem dX0_firstFall_13 : decode cX0_firstFall 13 = .ok (.astore_n 3, 1) := dk_78 (dk_at dksX0_firstFall_0 13 rfl rfl)
theorem dX0_firstFall_14 : decode cX0_firstFall 14 = .ok (.iconst 1, 1) := dk_4 (dk_at dksX0_firstFall_0 14 rfl rfl)
theorem dX0_firstFall_15 : decode cX0_firstFall 15 = .ok (.istore 4, 2) := dk_54 4 (dk_at dksX0_firstFall_0 15 rfl rfl)
theorem dX0_firstFall_17 : decode cX0_firstFall 17 = .ok (.iload 4, 2) := dk_21 4 (dk_at dksX0_firstFall_0 17 rfl rfl)
theorem dX0_firstFall_19 : decode cX0_firstFall 19 = .ok (.bipush 99, 2) := dk_16 99 (dk_at dksX0_firstFall_0 19 rfl rfl)
theorem dX0_firstFall_21 : decode cX0_firstFall 21 = .ok (.if_icmp .gt 63, 3) := dk_163 0 63 (dk_at dksX0_firstFall_0 21 rfl rfl)
theorem dX0_firstFall_24 : decode cX0_firstFall 24 = .ok (.aload_n 3, 1) := dk_45 (dk_at dksX0_firstFall_1 0 rfl rfl)
theorem dX0_firstFall_25 : decode cX0_firstFall 25 = .ok (.iconst 0, 1) := dk_3 (dk_at dksX0_firstFall_1 1 rfl rfl)
theorem dX0_firstFall_26 : decode cX0_firstFall 26 = .ok (.invokevirtual 127, 3) := dk_182 0 127 (dk_at dksX0_firstFall_1 2 rfl rfl)
theorem dX0_firstFall_29 : decode cX0_firstFall 29 = .ok (.aload_n 3, 1) := dk_45 (dk_at dksX0_firstFall_1 5 rfl rfl)
theorem dX0_firstFall_30 : decode cX0_firstFall 30 = .ok (.iconst 1, 1) := dk_4 (dk_at dksX0_firstFall_1 6 rfl rfl)
theorem dX0_firstFall_31 : decode cX0_firstFall 31 = .ok (.invokevirtual 130, 3) := dk_182 0 130 (dk_at dksX0_firstFall_1 7 rfl rfl)
theorem dX0_firstFall_34 : decode cX0_firstFall 34 = .ok (.iload_n 2, 1) := dk_28 (dk_at dksX0_firstFall_1 10 rfl rfl)
theorem dX0_firstFall_35 : decode cX0_firstFall 35 = .ok (.iand, 1) := dk_126 (dk_at dksX0_firstFall_1 11 rfl rfl)
theorem dX0_firstFall_36 : decode cX0_firstFall 36 = .ok (.istore 5, 2) := dk_54 5 (dk_at dksX0_firstFall_1 12 rfl rfl)
theorem dX0_firstFall_38 : decode cX0_firstFall 38 = .ok (.iconst 0, 1) := dk_3 (dk_at dksX0_firstFall_1 14 rfl rfl)
theorem dX0_firstFall_39 : decode cX0_firstFall 39 = .ok (.istore 6, 2) := dk_54 6 (dk_at dksX0_firstFall_1 15 rfl rfl)
theorem dX0_firstFall_41 : decode cX0_firstFall 41 = .ok (.iload 6, 2) := dk_21 6 (dk_at dksX0_firstFall_1 17 rfl rfl)
theorem dX0_firstFall_43 : decode cX0_firstFall 43 = .ok (.aload_n 3, 1) := dk_45 (dk_at dksX0_firstFall_1 19 rfl rfl)
theorem dX0_firstFall_44 : decode cX0_firstFall 44 = .ok (.getfield 134, 3) := dk_180 0 134 (dk_at dksX0_firstFall_1 20 rfl rfl)
theorem dX0_firstFall_47 : decode cX0_firstFall 47 = .ok (.if_icmp .ge 31, 3) := dk_162 0 31 (dk_at dksX0_firstFall_2 0 rfl rfl)
theorem dX0_firstFall_50 : decode cX0_firstFall 50 = .ok (.iload 5, 2) := dk_21 5 (dk_at dksX0_firstFall_2 3 rfl rfl)
theorem dX0_firstFall_52 : decode cX0_firstFall 52 = .ok (.iload 6, 2) := dk_21 6 (dk_at dksX0_firstFall_2 5 rfl rfl)
theorem dX0_firstFall_54 : decode cX0_firstFall 54 = .ok (.invokestatic 137, 3) := dk_184 0 137 (dk_at dksX0_firstFall_2 7 rfl rfl)
theorem dX0_firstFall_57 : decode cX0_firstFall 57 = .ok (.ifCond .eq 15, 3) := dk_153 0 15 (dk_at dksX0_firstFall_2 10 rfl rfl)
theorem dX0_firstFall_60 : decode cX0_firstFall 60 = .ok (.iload_n 1, 1) := dk_27 (dk_at dksX0_firstFall_2 13 rfl rfl)
theorem dX0_firstFall_61 : decode cX0_firstFall 61 = .ok (.ifCond .ne 8, 3) := dk_154 0 8 (dk_at dksX0_firstFall_2 14 rfl rfl)
theorem dX0_firstFall_64 : decode cX0_firstFall 64 = .ok (.iload 6, 2) := dk_21 6 (dk_at dksX0_firstFall_2 17 rfl rfl)
theorem dX0_firstFall_66 : decode cX0_firstFall 66 = .ok (.goto 5, 3) := dk_167 0 5 (dk_at dksX0_firstFall_2 19 rfl rfl)
theorem dX0_firstFall_69 : decode cX0_firstFall 69 = .ok (.iload 4, 2) := dk_21 4 (dk_at dksX0_firstFall_2 22 rfl rfl)
theorem dX0_firstFall_71 : decode cX0_firstFall 71 = .ok (.ireturn, 1) := dk_172 (dk_at dksX0_firstFall_3 0 rfl rfl)
theorem dX0_firstFall_72 : decode cX0_firstFall 72 = .ok (.iinc 6 1, 3) := dk_132 6 1 (dk_at dksX0_firstFall_3 1 rfl rfl)
theorem dX0_firstFall_75 : decode cX0_firstFall 75 = .ok (.goto (-34), 3) := dk_167 255 222 (dk_at dksX0_firstFall_3 4 rfl rfl)
theorem dX0_firstFall_78 : decode cX0_firstFall 78 = .ok (.iinc 4 1, 3) := dk_132 4 1 (dk_at dksX0_firstFall_3 7 rfl rfl)
theorem dX0_firstFall_81 : decode cX0_firstFall 81 = .ok (.goto (-64), 3) := dk_167 255 192 (dk_at dksX0_firstFall_3 10 rfl rfl)
theorem dX0_firstFall_84 : decode cX0_firstFall 84 = .ok (.bipush (-9), 2) := dk_16 247 (dk_at dksX0_firstFall_3 13 rfl rfl)
theorem dX0_firstFall_86 : decode cX0_firstFall 86 = .ok (.ireturn, 1) := dk_172 (dk_at dksX0_firstFall_3 15 rfl rfl)
abbrev cX0_standFor : ByteArray := prog_1_method_16_code
def yX0_standFor : MethodName := ⟨RX0, "standFor", "()I"⟩
def dkwX0_standFor_0 : List UInt8 := [42, 4, 182, 0, 141, 60, 27, 16, 247, 160, 0, 8, 16, 99, 167, 0, 6, 27, 4, 100, 172]
abbrev dktX0_standFor_0 : List UInt8 := dkwX0_standFor_0 ++ []
theorem dksX0_standFor_0 : cX0_standFor.data.toList.drop 0 = dktX0_standFor_0 := by decide +kernel
theorem dX0_standFor_0 : decode cX0_standFor 0 = .ok (.aload_n 0, 1) := dk_42 (dk_at dksX0_standFor_0 0 rfl rfl)
theorem dX0_standFor_1 : decode cX0_standFor 1 = .ok (.iconst 1, 1) := dk_4 (dk_at dksX0_standFor_0 1 rfl rfl)
theorem dX0_standFor_2 : decode cX0_standFor 2 = .ok (.invokevirtual 141, 3) := dk_182 0 141 (dk_at dksX0_standFor_0 2 rfl rfl)
theorem dX0_standFor_5 : decode cX0_standFor 5 = .ok (.istore_n 1, 1) := dk_60 (dk_at dksX0_standFor_0 5 rfl rfl)
theorem dX0_standFor_6 : decode cX0_standFor 6 = .ok (.iload_n 1, 1) := dk_27 (dk_at dksX0_standFor_0 6 rfl rfl)
theorem dX0_standFor_7 : decode cX0_standFor 7 = .ok (.bipush (-9), 2) := dk_16 247 (dk_at dksX0_standFor_0 7 rfl rfl)
theorem dX0_standFor_9 : decode cX0_standFor 9 = .ok (.if_icmp .ne 8, 3) := dk_160 0 8 (dk_at dksX0_standFor_0 9 rfl rfl)
theorem dX0_standFor_12 : decode cX0_standFor 12 = .ok (.bipush 99, 2) := dk_16 99 (dk_at dksX0_standFor_0 12 rfl rfl)
theorem dX0_standFor_14 : decode cX0_standFor 14 = .ok (.goto 6, 3) := dk_167 0 6 (dk_at dksX0_standFor_0 14 rfl rfl)
theorem dX0_standFor_17 : decode cX0_standFor 17 = .ok (.iload_n 1, 1) := dk_27 (dk_at dksX0_standFor_0 17 rfl rfl)
theorem dX0_standFor_18 : decode cX0_standFor 18 = .ok (.iconst 1, 1) := dk_4 (dk_at dksX0_standFor_0 18 rfl rfl)
theorem dX0_standFor_19 : decode cX0_standFor 19 = .ok (.isub, 1) := dk_100 (dk_at dksX0_standFor_0 19 rfl rfl)
theorem dX0_standFor_20 : decode cX0_standFor 20 = .ok (.ireturn, 1) := dk_172 (dk_at dksX0_standFor_0 20 rfl rfl)
abbrev cX0_towerTold : ByteArray := prog_1_method_57_code
def yX0_towerTold : MethodName := ⟨RX0, "towerTold", "(II)I"⟩
def dkwX0_towerTold_2 : List UInt8 := [167, 0, 11, 42, 180, 0, 53, 27, 182, 1, 89, 172]
abbrev dktX0_towerTold_2 : List UInt8 := dkwX0_towerTold_2 ++ []
def dkwX0_towerTold_1 : List UInt8 := [180, 0, 53, 27, 182, 1, 83, 167, 0, 27, 28, 4, 160, 0, 14, 42, 180, 0, 53, 27, 182, 1, 86]
abbrev dktX0_towerTold_1 : List UInt8 := dkwX0_towerTold_1 ++ dktX0_towerTold_2
def dkwX0_towerTold_0 : List UInt8 := [42, 27, 182, 1, 7, 28, 133, 9, 20, 1, 77, 184, 0, 13, 16, 254, 184, 0, 9, 28, 154, 0, 14, 42]
abbrev dktX0_towerTold_0 : List UInt8 := dkwX0_towerTold_0 ++ dktX0_towerTold_1
theorem dksX0_towerTold_0 : cX0_towerTold.data.toList.drop 0 = dktX0_towerTold_0 := by decide +kernel
theorem dksX0_towerTold_1 : cX0_towerTold.data.toList.drop 24 = dktX0_towerTold_1 := dk_seg dksX0_towerTold_0 24 rfl rfl
theorem dksX0_towerTold_2 : cX0_towerTold.data.toList.drop 47 = dktX0_towerTold_2 := dk_seg dksX0_towerTold_1 23 rfl rfl
theorem dX0_towerTold_0 : decode cX0_towerTold 0 = .ok (.aload_n 0, 1) := dk_42 (dk_at dksX0_towerTold_0 0 rfl rfl)
theorem dX0_towerTold_1 : decode cX0_towerTold 1 = .ok (.iload_n 1, 1) := dk_27 (dk_at dksX0_towerTold_0 1 rfl rfl)
theorem dX0_towerTold_2 : decode cX0_towerTold 2 = .ok (.invokevirtual 263, 3) := dk_182 1 7 (dk_at dksX0_towerTold_0 2 rfl rfl)
theorem dX0_towerTold_5 : decode cX0_towerTold 5 = .ok (.iload_n 2, 1) := dk_28 (dk_at dksX0_towerTold_0 5 rfl rfl)
theorem dX0_towerTold_6 : decode cX0_towerTold 6 = .ok (.i2l, 1) := dk_133 (dk_at dksX0_towerTold_0 6 rfl rfl)
theorem dX0_towerTold_7 : decode cX0_towerTold 7 = .ok (.lconst 0, 1) := dk_9 (dk_at dksX0_towerTold_0 7 rfl rfl)
theorem dX0_towerTold_8 : decode cX0_towerTold 8 = .ok (.ldc2_w 333, 3) := dk_20 1 77 (dk_at dksX0_towerTold_0 8 rfl rfl)
theorem dX0_towerTold_11 : decode cX0_towerTold 11 = .ok (.invokestatic 13, 3) := dk_184 0 13 (dk_at dksX0_towerTold_0 11 rfl rfl)
theorem dX0_towerTold_14 : decode cX0_towerTold 14 = .ok (.bipush (-2), 2) := dk_16 254 (dk_at dksX0_towerTold_0 14 rfl rfl)
theorem dX0_towerTold_16 : decode cX0_towerTold 16 = .ok (.invokestatic 9, 3) := dk_184 0 9 (dk_at dksX0_towerTold_0 16 rfl rfl)
theorem dX0_towerTold_19 : decode cX0_towerTold 19 = .ok (.iload_n 2, 1) := dk_28 (dk_at dksX0_towerTold_0 19 rfl rfl)
theorem dX0_towerTold_20 : decode cX0_towerTold 20 = .ok (.ifCond .ne 14, 3) := dk_154 0 14 (dk_at dksX0_towerTold_0 20 rfl rfl)
theorem dX0_towerTold_23 : decode cX0_towerTold 23 = .ok (.aload_n 0, 1) := dk_42 (dk_at dksX0_towerTold_0 23 rfl rfl)
theorem dX0_towerTold_24 : decode cX0_towerTold 24 = .ok (.getfield 53, 3) := dk_180 0 53 (dk_at dksX0_towerTold_1 0 rfl rfl)
theorem dX0_towerTold_27 : decode cX0_towerTold 27 = .ok (.iload_n 1, 1) := dk_27 (dk_at dksX0_towerTold_1 3 rfl rfl)
theorem dX0_towerTold_28 : decode cX0_towerTold 28 = .ok (.invokevirtual 339, 3) := dk_182 1 83 (dk_at dksX0_towerTold_1 4 rfl rfl)
theorem dX0_towerTold_31 : decode cX0_towerTold 31 = .ok (.goto 27, 3) := dk_167 0 27 (dk_at dksX0_towerTold_1 7 rfl rfl)
theorem dX0_towerTold_34 : decode cX0_towerTold 34 = .ok (.iload_n 2, 1) := dk_28 (dk_at dksX0_towerTold_1 10 rfl rfl)
theorem dX0_towerTold_35 : decode cX0_towerTold 35 = .ok (.iconst 1, 1) := dk_4 (dk_at dksX0_towerTold_1 11 rfl rfl)
theorem dX0_towerTold_36 : decode cX0_towerTold 36 = .ok (.if_icmp .ne 14, 3) := dk_160 0 14 (dk_at dksX0_towerTold_1 12 rfl rfl)
theorem dX0_towerTold_39 : decode cX0_towerTold 39 = .ok (.aload_n 0, 1) := dk_42 (dk_at dksX0_towerTold_1 15 rfl rfl)
theorem dX0_towerTold_40 : decode cX0_towerTold 40 = .ok (.getfield 53, 3) := dk_180 0 53 (dk_at dksX0_towerTold_1 16 rfl rfl)
theorem dX0_towerTold_43 : decode cX0_towerTold 43 = .ok (.iload_n 1, 1) := dk_27 (dk_at dksX0_towerTold_1 19 rfl rfl)
theorem dX0_towerTold_44 : decode cX0_towerTold 44 = .ok (.invokevirtual 342, 3) := dk_182 1 86 (dk_at dksX0_towerTold_1 20 rfl rfl)
theorem dX0_towerTold_47 : decode cX0_towerTold 47 = .ok (.goto 11, 3) := dk_167 0 11 (dk_at dksX0_towerTold_2 0 rfl rfl)
theorem dX0_towerTold_50 : decode cX0_towerTold 50 = .ok (.aload_n 0, 1) := dk_42 (dk_at dksX0_towerTold_2 3 rfl rfl)
theorem dX0_towerTold_51 : decode cX0_towerTold 51 = .ok (.getfield 53, 3) := dk_180 0 53 (dk_at dksX0_towerTold_2 4 rfl rfl)
theorem dX0_towerTold_54 : decode cX0_towerTold 54 = .ok (.iload_n 1, 1) := dk_27 (dk_at dksX0_towerTold_2 7 rfl rfl)
theorem dX0_towerTold_55 : decode cX0_towerTold 55 = .ok (.invokevirtual 345, 3) := dk_182 1 89 (dk_at dksX0_towerTold_2 8 rfl rfl)
theorem dX0_towerTold_58 : decode cX0_towerTold 58 = .ok (.ireturn, 1) := dk_172 (dk_at dksX0_towerTold_2 11 rfl rfl)
abbrev cX0_slowestTold : ByteArray := prog_1_method_58_code
def yX0_slowestTold : MethodName := ⟨RX0, "slowestTold", "(I)I"⟩
def dkwX0_slowestTold_0 : List UInt8 := [42, 27, 182, 1, 7, 42, 27, 182, 1, 29, 42, 27, 182, 1, 92, 172]
abbrev dktX0_slowestTold_0 : List UInt8 := dkwX0_slowestTold_0 ++ []
theorem dksX0_slowestTold_0 : cX0_slowestTold.data.toList.drop 0 = dktX0_slowestTold_0 := by decide +kernel
theorem dX0_slowestTold_0 : decode cX0_slowestTold 0 = .ok (.aload_n 0, 1) := dk_42 (dk_at dksX0_slowestTold_0 0 rfl rfl)
theorem dX0_slowestTold_1 : decode cX0_slowestTold 1 = .ok (.iload_n 1, 1) := dk_27 (dk_at dksX0_slowestTold_0 1 rfl rfl)
theorem dX0_slowestTold_2 : decode cX0_slowestTold 2 = .ok (.invokevirtual 263, 3) := dk_182 1 7 (dk_at dksX0_slowestTold_0 2 rfl rfl)
theorem dX0_slowestTold_5 : decode cX0_slowestTold 5 = .ok (.aload_n 0, 1) := dk_42 (dk_at dksX0_slowestTold_0 5 rfl rfl)
theorem dX0_slowestTold_6 : decode cX0_slowestTold 6 = .ok (.iload_n 1, 1) := dk_27 (dk_at dksX0_slowestTold_0 6 rfl rfl)
theorem dX0_slowestTold_7 : decode cX0_slowestTold 7 = .ok (.invokevirtual 285, 3) := dk_182 1 29 (dk_at dksX0_slowestTold_0 7 rfl rfl)
theorem dX0_slowestTold_10 : decode cX0_slowestTold 10 = .ok (.aload_n 0, 1) := dk_42 (dk_at dksX0_slowestTold_0 10 rfl rfl)
theorem dX0_slowestTold_11 : decode cX0_slowestTold 11 = .ok (.iload_n 1, 1) := dk_27 (dk_at dksX0_slowestTold_0 11 rfl rfl)
theorem dX0_slowestTold_12 : decode cX0_slowestTold 12 = .ok (.invokevirtual 348, 3) := dk_182 1 92 (dk_at dksX0_slowestTold_0 12 rfl rfl)
theorem dX0_slowestTold_15 : decode cX0_slowestTold 15 = .ok (.ireturn, 1) := dk_172 (dk_at dksX0_slowestTold_0 15 rfl rfl)
abbrev cX0_slowest : ByteArray := prog_1_method_17_code
def yX0_slowest : MethodName := ⟨RX0, "slowest", "(I)I"⟩
def dkwX0_slowest_1 : List UInt8 := [132, 2, 1, 167, 255, 233, 16, 247, 172]
abbrev dktX0_slowest_1 : List UInt8 := dkwX0_slowest_1 ++ []
def dkwX0_slowest_0 : List UInt8 := [3, 61, 28, 16, 9, 163, 0, 23, 42, 182, 0, 116, 27, 28, 182, 0, 144, 154, 0, 5, 28, 172]
abbrev dktX0_slowest_0 : List UInt8 := dkwX0_slowest_0 ++ dktX0_slowest_1
theorem dksX0_slowest_0 : cX0_slowest.data.toList.drop 0 = dktX0_slowest_0 := by decide +kernel
theorem dksX0_slowest_1 : cX0_slowest.data.toList.drop 22 = dktX0_slowest_1 := dk_seg dksX0_slowest_0 22 rfl rfl
theorem dX0_slowest_0 : decode cX0_slowest 0 = .ok (.iconst 0, 1) := dk_3 (dk_at dksX0_slowest_0 0 rfl rfl)
theorem dX0_slowest_1 : decode cX0_slowest 1 = .ok (.istore_n 2, 1) := dk_61 (dk_at dksX0_slowest_0 1 rfl rfl)
theorem dX0_slowest_2 : decode cX0_slowest 2 = .ok (.iload_n 2, 1) := dk_28 (dk_at dksX0_slowest_0 2 rfl rfl)
theorem dX0_slowest_3 : decode cX0_slowest 3 = .ok (.bipush 9, 2) := dk_16 9 (dk_at dksX0_slowest_0 3 rfl rfl)
theorem dX0_slowest_5 : decode cX0_slowest 5 = .ok (.if_icmp .gt 23, 3) := dk_163 0 23 (dk_at dksX0_slowest_0 5 rfl rfl)
theorem dX0_slowest_8 : decode cX0_slowest 8 = .ok (.aload_n 0, 1) := dk_42 (dk_at dksX0_slowest_0 8 rfl rfl)
theorem dX0_slowest_9 : decode cX0_slowest 9 = .ok (.invokevirtual 116, 3) := dk_182 0 116 (dk_at dksX0_slowest_0 9 rfl rfl)
theorem dX0_slowest_12 : decode cX0_slowest 12 = .ok (.iload_n 1, 1) := dk_27 (dk_at dksX0_slowest_0 12 rfl rfl)
theorem dX0_slowest_13 : decode cX0_slowest 13 = .ok (.iload_n 2, 1) := dk_28 (dk_at dksX0_slowest_0 13 rfl rfl)
theorem dX0_slowest_14 : decode cX0_slowest 14 = .ok (.invokevirtual 144, 3) := dk_182 0 144 (dk_at dksX0_slowest_0 14 rfl rfl)
theorem dX0_slowest_17 : decode cX0_slowest 17 = .ok (.ifCond .ne 5, 3) := dk_154 0 5 (dk_at dksX0_slowest_0 17 rfl rfl)
theorem dX0_slowest_20 : decode cX0_slowest 20 = .ok (.iload_n 2, 1) := dk_28 (dk_at dksX0_slowest_0 20 rfl rfl)
theorem dX0_slowest_21 : decode cX0_slowest 21 = .ok (.ireturn, 1) := dk_172 (dk_at dksX0_slowest_0 21 rfl rfl)
theorem dX0_slowest_22 : decode cX0_slowest 22 = .ok (.iinc 2 1, 3) := dk_132 2 1 (dk_at dksX0_slowest_1 0 rfl rfl)
theorem dX0_slowest_25 : decode cX0_slowest 25 = .ok (.goto (-23), 3) := dk_167 255 233 (dk_at dksX0_slowest_1 3 rfl rfl)
theorem dX0_slowest_28 : decode cX0_slowest 28 = .ok (.bipush (-9), 2) := dk_16 247 (dk_at dksX0_slowest_1 6 rfl rfl)
theorem dX0_slowest_30 : decode cX0_slowest 30 = .ok (.ireturn, 1) := dk_172 (dk_at dksX0_slowest_1 8 rfl rfl)
abbrev cX0_onceTold : ByteArray := prog_1_method_59_code
def yX0_onceTold : MethodName := ⟨RX0, "onceTold", "(II)I"⟩
def dkwX0_onceTold_0 : List UInt8 := [42, 27, 182, 1, 7, 28, 184, 1, 26, 42, 27, 182, 1, 29, 42, 27, 28, 182, 0, 151, 172]
abbrev dktX0_onceTold_0 : List UInt8 := dkwX0_onceTold_0 ++ []
theorem dksX0_onceTold_0 : cX0_onceTold.data.toList.drop 0 = dktX0_onceTold_0 := by decide +kernel
theorem dX0_onceTold_0 : decode cX0_onceTold 0 = .ok (.aload_n 0, 1) := dk_42 (dk_at dksX0_onceTold_0 0 rfl rfl)
theorem dX0_onceTold_1 : decode cX0_onceTold 1 = .ok (.iload_n 1, 1) := dk_27 (dk_at dksX0_onceTold_0 1 rfl rfl)
theorem dX0_onceTold_2 : decode cX0_onceTold 2 = .ok (.invokevirtual 263, 3) := dk_182 1 7 (dk_at dksX0_onceTold_0 2 rfl rfl)
theorem dX0_onceTold_5 : decode cX0_onceTold 5 = .ok (.iload_n 2, 1) := dk_28 (dk_at dksX0_onceTold_0 5 rfl rfl)
theorem dX0_onceTold_6 : decode cX0_onceTold 6 = .ok (.invokestatic 282, 3) := dk_184 1 26 (dk_at dksX0_onceTold_0 6 rfl rfl)
theorem dX0_onceTold_9 : decode cX0_onceTold 9 = .ok (.aload_n 0, 1) := dk_42 (dk_at dksX0_onceTold_0 9 rfl rfl)
theorem dX0_onceTold_10 : decode cX0_onceTold 10 = .ok (.iload_n 1, 1) := dk_27 (dk_at dksX0_onceTold_0 10 rfl rfl)
theorem dX0_onceTold_11 : decode cX0_onceTold 11 = .ok (.invokevirtual 285, 3) := dk_182 1 29 (dk_at dksX0_onceTold_0 11 rfl rfl)
theorem dX0_onceTold_14 : decode cX0_onceTold 14 = .ok (.aload_n 0, 1) := dk_42 (dk_at dksX0_onceTold_0 14 rfl rfl)
theorem dX0_onceTold_15 : decode cX0_onceTold 15 = .ok (.iload_n 1, 1) := dk_27 (dk_at dksX0_onceTold_0 15 rfl rfl)
theorem dX0_onceTold_16 : decode cX0_onceTold 16 = .ok (.iload_n 2, 1) := dk_28 (dk_at dksX0_onceTold_0 16 rfl rfl)
theorem dX0_onceTold_17 : decode cX0_onceTold 17 = .ok (.invokevirtual 151, 3) := dk_182 0 151 (dk_at dksX0_onceTold_0 17 rfl rfl)
theorem dX0_onceTold_20 : decode cX0_onceTold 20 = .ok (.ireturn, 1) := dk_172 (dk_at dksX0_onceTold_0 20 rfl rfl)
abbrev cX0_fallenBy : ByteArray := prog_1_method_18_code
def yX0_fallenBy : MethodName := ⟨RX0, "fallenBy", "(II)I"⟩
def dkwX0_fallenBy_1 : List UInt8 := [182, 0, 130, 2, 130, 126, 172]
abbrev dktX0_fallenBy_1 : List UInt8 := dkwX0_fallenBy_1 ++ []
def dkwX0_fallenBy_0 : List UInt8 := [42, 182, 0, 116, 78, 45, 27, 28, 182, 0, 144, 87, 45, 4, 182, 0, 130, 42, 180, 0, 53, 4]
abbrev dktX0_fallenBy_0 : List UInt8 := dkwX0_fallenBy_0 ++ dktX0_fallenBy_1
theorem dksX0_fallenBy_0 : cX0_fallenBy.data.toList.drop 0 = dktX0_fallenBy_0 := by decide +kernel
theorem dksX0_fallenBy_1 : cX0_fallenBy.data.toList.drop 22 = dktX0_fallenBy_1 := dk_seg dksX0_fallenBy_0 22 rfl rfl
theorem dX0_fallenBy_0 : decode cX0_fallenBy 0 = .ok (.aload_n 0, 1) := dk_42 (dk_at dksX0_fallenBy_0 0 rfl rfl)
theorem dX0_fallenBy_1 : decode cX0_fallenBy 1 = .ok (.invokevirtual 116, 3) := dk_182 0 116 (dk_at dksX0_fallenBy_0 1 rfl rfl)
theorem dX0_fallenBy_4 : decode cX0_fallenBy 4 = .ok (.astore_n 3, 1) := dk_78 (dk_at dksX0_fallenBy_0 4 rfl rfl)
theorem dX0_fallenBy_5 : decode cX0_fallenBy 5 = .ok (.aload_n 3, 1) := dk_45 (dk_at dksX0_fallenBy_0 5 rfl rfl)
theorem dX0_fallenBy_6 : decode cX0_fallenBy 6 = .ok (.iload_n 1, 1) := dk_27 (dk_at dksX0_fallenBy_0 6 rfl rfl)
theorem dX0_fallenBy_7 : decode cX0_fallenBy 7 = .ok (.iload_n 2, 1) := dk_28 (dk_at dksX0_fallenBy_0 7 rfl rfl)
theorem dX0_fallenBy_8 : decode cX0_fallenBy 8 = .ok (.invokevirtual 144, 3) := dk_182 0 144 (dk_at dksX0_fallenBy_0 8 rfl rfl)
theorem dX0_fallenBy_11 : decode cX0_fallenBy 11 = .ok (.pop, 1) := dk_87 (dk_at dksX0_fallenBy_0 11 rfl rfl)
theorem dX0_fallenBy_12 : decode cX0_fallenBy 12 = .ok (.aload_n 3, 1) := dk_45 (dk_at dksX0_fallenBy_0 12 rfl rfl)
theorem dX0_fallenBy_13 : decode cX0_fallenBy 13 = .ok (.iconst 1, 1) := dk_4 (dk_at dksX0_fallenBy_0 13 rfl rfl)
theorem dX0_fallenBy_14 : decode cX0_fallenBy 14 = .ok (.invokevirtual 130, 3) := dk_182 0 130 (dk_at dksX0_fallenBy_0 14 rfl rfl)
theorem dX0_fallenBy_17 : decode cX0_fallenBy 17 = .ok (.aload_n 0, 1) := dk_42 (dk_at dksX0_fallenBy_0 17 rfl rfl)
theorem dX0_fallenBy_18 : decode cX0_fallenBy 18 = .ok (.getfield 53, 3) := dk_180 0 53 (dk_at dksX0_fallenBy_0 18 rfl rfl)
theorem dX0_fallenBy_21 : decode cX0_fallenBy 21 = .ok (.iconst 1, 1) := dk_4 (dk_at dksX0_fallenBy_0 21 rfl rfl)
theorem dX0_fallenBy_22 : decode cX0_fallenBy 22 = .ok (.invokevirtual 130, 3) := dk_182 0 130 (dk_at dksX0_fallenBy_1 0 rfl rfl)
theorem dX0_fallenBy_25 : decode cX0_fallenBy 25 = .ok (.iconst (-1), 1) := dk_2 (dk_at dksX0_fallenBy_1 3 rfl rfl)
theorem dX0_fallenBy_26 : decode cX0_fallenBy 26 = .ok (.ixor, 1) := dk_130 (dk_at dksX0_fallenBy_1 4 rfl rfl)
theorem dX0_fallenBy_27 : decode cX0_fallenBy 27 = .ok (.iand, 1) := dk_126 (dk_at dksX0_fallenBy_1 5 rfl rfl)
theorem dX0_fallenBy_28 : decode cX0_fallenBy 28 = .ok (.ireturn, 1) := dk_172 (dk_at dksX0_fallenBy_1 6 rfl rfl)
abbrev cX0_laterTold : ByteArray := prog_1_method_60_code
def yX0_laterTold : MethodName := ⟨RX0, "laterTold", "(III)I"⟩
def dkwX0_laterTold_2 : List UInt8 := [182, 1, 29, 42, 27, 28, 29, 182, 1, 95, 172]
abbrev dktX0_laterTold_2 : List UInt8 := dkwX0_laterTold_2 ++ []
def dkwX0_laterTold_1 : List UInt8 := [16, 9, 163, 0, 13, 29, 16, 99, 163, 0, 7, 4, 167, 0, 4, 3, 16, 250, 184, 0, 9, 42, 27]
abbrev dktX0_laterTold_1 : List UInt8 := dkwX0_laterTold_1 ++ dktX0_laterTold_2
def dkwX0_laterTold_0 : List UInt8 := [42, 27, 182, 1, 7, 28, 155, 0, 11, 29, 155, 0, 7, 4, 167, 0, 4, 3, 16, 252, 184, 0, 9, 28]
abbrev dktX0_laterTold_0 : List UInt8 := dkwX0_laterTold_0 ++ dktX0_laterTold_1
theorem dksX0_laterTold_0 : cX0_laterTold.data.toList.drop 0 = dktX0_laterTold_0 := by decide +kernel
theorem dksX0_laterTold_1 : cX0_laterTold.data.toList.drop 24 = dktX0_laterTold_1 := dk_seg dksX0_laterTold_0 24 rfl rfl
theorem dksX0_laterTold_2 : cX0_laterTold.data.toList.drop 47 = dktX0_laterTold_2 := dk_seg dksX0_laterTold_1 23 rfl rfl
theorem dX0_laterTold_0 : decode cX0_laterTold 0 = .ok (.aload_n 0, 1) := dk_42 (dk_at dksX0_laterTold_0 0 rfl rfl)
theorem dX0_laterTold_1 : decode cX0_laterTold 1 = .ok (.iload_n 1, 1) := dk_27 (dk_at dksX0_laterTold_0 1 rfl rfl)
theorem dX0_laterTold_2 : decode cX0_laterTold 2 = .ok (.invokevirtual 263, 3) := dk_182 1 7 (dk_at dksX0_laterTold_0 2 rfl rfl)
theorem dX0_laterTold_5 : decode cX0_laterTold 5 = .ok (.iload_n 2, 1) := dk_28 (dk_at dksX0_laterTold_0 5 rfl rfl)
theorem dX0_laterTold_6 : decode cX0_laterTold 6 = .ok (.ifCond .lt 11, 3) := dk_155 0 11 (dk_at dksX0_laterTold_0 6 rfl rfl)
theorem dX0_laterTold_9 : decode cX0_laterTold 9 = .ok (.iload_n 3, 1) := dk_29 (dk_at dksX0_laterTold_0 9 rfl rfl)
theorem dX0_laterTold_10 : decode cX0_laterTold 10 = .ok (.ifCond .lt 7, 3) := dk_155 0 7 (dk_at dksX0_laterTold_0 10 rfl rfl)
theorem dX0_laterTold_13 : decode cX0_laterTold 13 = .ok (.iconst 1, 1) := dk_4 (dk_at dksX0_laterTold_0 13 rfl rfl)
theorem dX0_laterTold_14 : decode cX0_laterTold 14 = .ok (.goto 4, 3) := dk_167 0 4 (dk_at dksX0_laterTold_0 14 rfl rfl)
theorem dX0_laterTold_17 : decode cX0_laterTold 17 = .ok (.iconst 0, 1) := dk_3 (dk_at dksX0_laterTold_0 17 rfl rfl)
theorem dX0_laterTold_18 : decode cX0_laterTold 18 = .ok (.bipush (-4), 2) := dk_16 252 (dk_at dksX0_laterTold_0 18 rfl rfl)
theorem dX0_laterTold_20 : decode cX0_laterTold 20 = .ok (.invokestatic 9, 3) := dk_184 0 9 (dk_at dksX0_laterTold_0 20 rfl rfl)
theorem dX0_laterTold_23 : decode cX0_laterTold 23 = .ok (.iload_n 2, 1) := dk_28 (dk_at dksX0_laterTold_0 23 rfl rfl)
theorem dX0_laterTold_24 : decode cX0_laterTold 24 = .ok (.bipush 9, 2) := dk_16 9 (dk_at dksX0_laterTold_1 0 rfl rfl)
theorem dX0_laterTold_26 : decode cX0_laterTold 26 = .ok (.if_icmp .gt 13, 3) := dk_163 0 13 (dk_at dksX0_laterTold_1 2 rfl rfl)
theorem dX0_laterTold_29 : decode cX0_laterTold 29 = .ok (.iload_n 3, 1) := dk_29 (dk_at dksX0_laterTold_1 5 rfl rfl)
theorem dX0_laterTold_30 : decode cX0_laterTold 30 = .ok (.bipush 99, 2) := dk_16 99 (dk_at dksX0_laterTold_1 6 rfl rfl)
theorem dX0_laterTold_32 : decode cX0_laterTold 32 = .ok (.if_icmp .gt 7, 3) := dk_163 0 7 (dk_at dksX0_laterTold_1 8 rfl rfl)
theorem dX0_laterTold_35 : decode cX0_laterTold 35 = .ok (.iconst 1, 1) := dk_4 (dk_at dksX0_laterTold_1 11 rfl rfl)
theorem dX0_laterTold_36 : decode cX0_laterTold 36 = .ok (.goto 4, 3) := dk_167 0 4 (dk_at dksX0_laterTold_1 12 rfl rfl)
theorem dX0_laterTold_39 : decode cX0_laterTold 39 = .ok (.iconst 0, 1) := dk_3 (dk_at dksX0_laterTold_1 15 rfl rfl)
theorem dX0_laterTold_40 : decode cX0_laterTold 40 = .ok (.bipush (-6), 2) := dk_16 250 (dk_at dksX0_laterTold_1 16 rfl rfl)
theorem dX0_laterTold_42 : decode cX0_laterTold 42 = .ok (.invokestatic 9, 3) := dk_184 0 9 (dk_at dksX0_laterTold_1 18 rfl rfl)
theorem dX0_laterTold_45 : decode cX0_laterTold 45 = .ok (.aload_n 0, 1) := dk_42 (dk_at dksX0_laterTold_1 21 rfl rfl)
theorem dX0_laterTold_46 : decode cX0_laterTold 46 = .ok (.iload_n 1, 1) := dk_27 (dk_at dksX0_laterTold_1 22 rfl rfl)
theorem dX0_laterTold_47 : decode cX0_laterTold 47 = .ok (.invokevirtual 285, 3) := dk_182 1 29 (dk_at dksX0_laterTold_2 0 rfl rfl)
theorem dX0_laterTold_50 : decode cX0_laterTold 50 = .ok (.aload_n 0, 1) := dk_42 (dk_at dksX0_laterTold_2 3 rfl rfl)
theorem dX0_laterTold_51 : decode cX0_laterTold 51 = .ok (.iload_n 1, 1) := dk_27 (dk_at dksX0_laterTold_2 4 rfl rfl)
theorem dX0_laterTold_52 : decode cX0_laterTold 52 = .ok (.iload_n 2, 1) := dk_28 (dk_at dksX0_laterTold_2 5 rfl rfl)
theorem dX0_laterTold_53 : decode cX0_laterTold 53 = .ok (.iload_n 3, 1) := dk_29 (dk_at dksX0_laterTold_2 6 rfl rfl)
theorem dX0_laterTold_54 : decode cX0_laterTold 54 = .ok (.invokevirtual 351, 3) := dk_182 1 95 (dk_at dksX0_laterTold_2 7 rfl rfl)
theorem dX0_laterTold_57 : decode cX0_laterTold 57 = .ok (.ireturn, 1) := dk_172 (dk_at dksX0_laterTold_2 10 rfl rfl)
abbrev cX0_fallenLater : ByteArray := prog_1_method_19_code
def yX0_fallenLater : MethodName := ⟨RX0, "fallenLater", "(III)I"⟩
def dkwX0_fallenLater_2 : List UInt8 := [126, 21, 5, 2, 130, 126, 172]
abbrev dktX0_fallenLater_2 : List UInt8 := dkwX0_fallenLater_2 ++ []
def dkwX0_fallenLater_1 : List UInt8 := [58, 6, 25, 6, 27, 28, 182, 0, 144, 87, 25, 6, 29, 182, 0, 120, 4, 182, 0, 130, 21, 4, 2, 130]
abbrev dktX0_fallenLater_1 : List UInt8 := dkwX0_fallenLater_1 ++ dktX0_fallenLater_2
def dkwX0_fallenLater_0 : List UInt8 := [42, 29, 182, 0, 148, 4, 182, 0, 130, 54, 4, 42, 27, 28, 182, 0, 151, 54, 5, 42, 182, 0, 116]
abbrev dktX0_fallenLater_0 : List UInt8 := dkwX0_fallenLater_0 ++ dktX0_fallenLater_1
theorem dksX0_fallenLater_0 : cX0_fallenLater.data.toList.drop 0 = dktX0_fallenLater_0 := by decide +kernel
theorem dksX0_fallenLater_1 : cX0_fallenLater.data.toList.drop 23 = dktX0_fallenLater_1 := dk_seg dksX0_fallenLater_0 23 rfl rfl
theorem dksX0_fallenLater_2 : cX0_fallenLater.data.toList.drop 47 = dktX0_fallenLater_2 := dk_seg dksX0_fallenLater_1 24 rfl rfl
theorem dX0_fallenLater_0 : decode cX0_fallenLater 0 = .ok (.aload_n 0, 1) := dk_42 (dk_at dksX0_fallenLater_0 0 rfl rfl)
theorem dX0_fallenLater_1 : decode cX0_fallenLater 1 = .ok (.iload_n 3, 1) := dk_29 (dk_at dksX0_fallenLater_0 1 rfl rfl)
theorem dX0_fallenLater_2 : decode cX0_fallenLater 2 = .ok (.invokevirtual 148, 3) := dk_182 0 148 (dk_at dksX0_fallenLater_0 2 rfl rfl)
theorem dX0_fallenLater_5 : decode cX0_fallenLater 5 = .ok (.iconst 1, 1) := dk_4 (dk_at dksX0_fallenLater_0 5 rfl rfl)
theorem dX0_fallenLater_6 : decode cX0_fallenLater 6 = .ok (.invokevirtual 130, 3) := dk_182 0 130 (dk_at dksX0_fallenLater_0 6 rfl rfl)
theorem dX0_fallenLater_9 : decode cX0_fallenLater 9 = .ok (.istore 4, 2) := dk_54 4 (dk_at dksX0_fallenLater_0 9 rfl rfl)
theorem dX0_fallenLater_11 : decode cX0_fallenLater 11 = .ok (.aload_n 0, 1) := dk_42 (dk_at dksX0_fallenLater_0 11 rfl rfl)
theorem dX0_fallenLater_12 : decode cX0_fallenLater 12 = .ok (.iload_n 1, 1) := dk_27 (dk_at dksX0_fallenLater_0 12 rfl rfl)
theorem dX0_fallenLater_13 : decode cX0_fallenLater 13 = .ok (.iload_n 2, 1) := dk_28 (dk_at dksX0_fallenLater_0 13 rfl rfl)
theorem dX0_fallenLater_14 : decode cX0_fallenLater 14 = .ok (.invokevirtual 151, 3) := dk_182 0 151 (dk_at dksX0_fallenLater_0 14 rfl rfl)
theorem dX0_fallenLater_17 : decode cX0_fallenLater 17 = .ok (.istore 5, 2) := dk_54 5 (dk_at dksX0_fallenLater_0 17 rfl rfl)
theorem dX0_fallenLater_19 : decode cX0_fallenLater 19 = .ok (.aload_n 0, 1) := dk_42 (dk_at dksX0_fallenLater_0 19 rfl rfl)
theorem dX0_fallenLater_20 : decode cX0_fallenLater 20 = .ok (.invokevirtual 116, 3) := dk_182 0 116 (dk_at dksX0_fallenLater_0 20 rfl rfl)
theorem dX0_fallenLater_23 : decode cX0_fallenLater 23 = .ok (.astore 6, 2) := dk_58 6 (dk_at dksX0_fallenLater_1 0 rfl rfl)
theorem dX0_fallenLater_25 : decode cX0_fallenLater 25 = .ok (.aload 6, 2) := dk_25 6 (dk_at dksX0_fallenLater_1 2 rfl rfl)
theorem dX0_fallenLater_27 : decode cX0_fallenLater 27 = .ok (.iload_n 1, 1) := dk_27 (dk_at dksX0_fallenLater_1 4 rfl rfl)
theorem dX0_fallenLater_28 : decode cX0_fallenLater 28 = .ok (.iload_n 2, 1) := dk_28 (dk_at dksX0_fallenLater_1 5 rfl rfl)
theorem dX0_fallenLater_29 : decode cX0_fallenLater 29 = .ok (.invokevirtual 144, 3) := dk_182 0 144 (dk_at dksX0_fallenLater_1 6 rfl rfl)
theorem dX0_fallenLater_32 : decode cX0_fallenLater 32 = .ok (.pop, 1) := dk_87 (dk_at dksX0_fallenLater_1 9 rfl rfl)
theorem dX0_fallenLater_33 : decode cX0_fallenLater 33 = .ok (.aload 6, 2) := dk_25 6 (dk_at dksX0_fallenLater_1 10 rfl rfl)
theorem dX0_fallenLater_35 : decode cX0_fallenLater 35 = .ok (.iload_n 3, 1) := dk_29 (dk_at dksX0_fallenLater_1 12 rfl rfl)
theorem dX0_fallenLater_36 : decode cX0_fallenLater 36 = .ok (.invokevirtual 120, 3) := dk_182 0 120 (dk_at dksX0_fallenLater_1 13 rfl rfl)
theorem dX0_fallenLater_39 : decode cX0_fallenLater 39 = .ok (.iconst 1, 1) := dk_4 (dk_at dksX0_fallenLater_1 16 rfl rfl)
theorem dX0_fallenLater_40 : decode cX0_fallenLater 40 = .ok (.invokevirtual 130, 3) := dk_182 0 130 (dk_at dksX0_fallenLater_1 17 rfl rfl)
theorem dX0_fallenLater_43 : decode cX0_fallenLater 43 = .ok (.iload 4, 2) := dk_21 4 (dk_at dksX0_fallenLater_1 20 rfl rfl)
theorem dX0_fallenLater_45 : decode cX0_fallenLater 45 = .ok (.iconst (-1), 1) := dk_2 (dk_at dksX0_fallenLater_1 22 rfl rfl)
theorem dX0_fallenLater_46 : decode cX0_fallenLater 46 = .ok (.ixor, 1) := dk_130 (dk_at dksX0_fallenLater_1 23 rfl rfl)
theorem dX0_fallenLater_47 : decode cX0_fallenLater 47 = .ok (.iand, 1) := dk_126 (dk_at dksX0_fallenLater_2 0 rfl rfl)
theorem dX0_fallenLater_48 : decode cX0_fallenLater 48 = .ok (.iload 5, 2) := dk_21 5 (dk_at dksX0_fallenLater_2 1 rfl rfl)
theorem dX0_fallenLater_50 : decode cX0_fallenLater 50 = .ok (.iconst (-1), 1) := dk_2 (dk_at dksX0_fallenLater_2 3 rfl rfl)
theorem dX0_fallenLater_51 : decode cX0_fallenLater 51 = .ok (.ixor, 1) := dk_130 (dk_at dksX0_fallenLater_2 4 rfl rfl)
theorem dX0_fallenLater_52 : decode cX0_fallenLater 52 = .ok (.iand, 1) := dk_126 (dk_at dksX0_fallenLater_2 5 rfl rfl)
theorem dX0_fallenLater_53 : decode cX0_fallenLater 53 = .ok (.ireturn, 1) := dk_172 (dk_at dksX0_fallenLater_2 6 rfl rfl)
abbrev cX0_mostTold : ByteArray := prog_1_method_61_code
def yX0_mostTold : MethodName := ⟨RX0, "mostTold", "(III)I"⟩
def dkwX0_mostTold_1 : List UInt8 := [182, 1, 103, 172]
abbrev dktX0_mostTold_1 : List UInt8 := dkwX0_mostTold_1 ++ []
def dkwX0_mostTold_0 : List UInt8 := [42, 27, 182, 1, 7, 28, 133, 9, 20, 1, 98, 184, 0, 255, 29, 184, 1, 100, 42, 27, 28, 29]
abbrev dktX0_mostTold_0 : List UInt8 := dkwX0_mostTold_0 ++ dktX0_mostTold_1
theorem dksX0_mostTold_0 : cX0_mostTold.data.toList.drop 0 = dktX0_mostTold_0 := by decide +kernel
theorem dksX0_mostTold_1 : cX0_mostTold.data.toList.drop 22 = dktX0_mostTold_1 := dk_seg dksX0_mostTold_0 22 rfl rfl
theorem dX0_mostTold_0 : decode cX0_mostTold 0 = .ok (.aload_n 0, 1) := dk_42 (dk_at dksX0_mostTold_0 0 rfl rfl)
theorem dX0_mostTold_1 : decode cX0_mostTold 1 = .ok (.iload_n 1, 1) := dk_27 (dk_at dksX0_mostTold_0 1 rfl rfl)
theorem dX0_mostTold_2 : decode cX0_mostTold 2 = .ok (.invokevirtual 263, 3) := dk_182 1 7 (dk_at dksX0_mostTold_0 2 rfl rfl)
theorem dX0_mostTold_5 : decode cX0_mostTold 5 = .ok (.iload_n 2, 1) := dk_28 (dk_at dksX0_mostTold_0 5 rfl rfl)
theorem dX0_mostTold_6 : decode cX0_mostTold 6 = .ok (.i2l, 1) := dk_133 (dk_at dksX0_mostTold_0 6 rfl rfl)
theorem dX0_mostTold_7 : decode cX0_mostTold 7 = .ok (.lconst 0, 1) := dk_9 (dk_at dksX0_mostTold_0 7 rfl rfl)
theorem dX0_mostTold_8 : decode cX0_mostTold 8 = .ok (.ldc2_w 354, 3) := dk_20 1 98 (dk_at dksX0_mostTold_0 8 rfl rfl)
theorem dX0_mostTold_11 : decode cX0_mostTold 11 = .ok (.invokestatic 255, 3) := dk_184 0 255 (dk_at dksX0_mostTold_0 11 rfl rfl)
theorem dX0_mostTold_14 : decode cX0_mostTold 14 = .ok (.iload_n 3, 1) := dk_29 (dk_at dksX0_mostTold_0 14 rfl rfl)
theorem dX0_mostTold_15 : decode cX0_mostTold 15 = .ok (.invokestatic 356, 3) := dk_184 1 100 (dk_at dksX0_mostTold_0 15 rfl rfl)
theorem dX0_mostTold_18 : decode cX0_mostTold 18 = .ok (.aload_n 0, 1) := dk_42 (dk_at dksX0_mostTold_0 18 rfl rfl)
theorem dX0_mostTold_19 : decode cX0_mostTold 19 = .ok (.iload_n 1, 1) := dk_27 (dk_at dksX0_mostTold_0 19 rfl rfl)
theorem dX0_mostTold_20 : decode cX0_mostTold 20 = .ok (.iload_n 2, 1) := dk_28 (dk_at dksX0_mostTold_0 20 rfl rfl)
theorem dX0_mostTold_21 : decode cX0_mostTold 21 = .ok (.iload_n 3, 1) := dk_29 (dk_at dksX0_mostTold_0 21 rfl rfl)
theorem dX0_mostTold_22 : decode cX0_mostTold 22 = .ok (.invokevirtual 359, 3) := dk_182 1 103 (dk_at dksX0_mostTold_1 0 rfl rfl)
theorem dX0_mostTold_25 : decode cX0_mostTold 25 = .ok (.ireturn, 1) := dk_172 (dk_at dksX0_mostTold_1 3 rfl rfl)
abbrev cX0_mostPulled : ByteArray := prog_1_method_21_code
def yX0_mostPulled : MethodName := ⟨RX0, "mostPulled", "(III)I"⟩
def dkwX0_mostPulled_5 : List UInt8 := [184, 0, 158, 172]
abbrev dktX0_mostPulled_5 : List UInt8 := dkwX0_mostPulled_5 ++ []
def dkwX0_mostPulled_4 : List UInt8 := [167, 255, 186, 29, 4, 159, 0, 10, 21, 5, 16, 247, 160, 0, 8, 21, 5, 167, 0, 8, 21, 5]
abbrev dktX0_mostPulled_4 : List UInt8 := dkwX0_mostPulled_4 ++ dktX0_mostPulled_5
def dkwX0_mostPulled_3 : List UInt8 := [21, 6, 27, 28, 182, 0, 161, 153, 0, 8, 21, 6, 167, 0, 5, 21, 5, 54, 5, 132, 6, 255]
abbrev dktX0_mostPulled_3 : List UInt8 := dkwX0_mostPulled_3 ++ dktX0_mostPulled_4
def dkwX0_mostPulled_2 : List UInt8 := [184, 0, 158, 21, 5, 184, 0, 158, 161, 0, 7, 4, 167, 0, 4, 3, 54, 7, 21, 7, 153, 0, 19, 42]
abbrev dktX0_mostPulled_2 : List UInt8 := dkwX0_mostPulled_2 ++ dktX0_mostPulled_3
def dkwX0_mostPulled_1 : List UInt8 := [21, 6, 155, 0, 71, 21, 6, 21, 4, 2, 130, 126, 154, 0, 27, 21, 5, 16, 247, 159, 0, 16, 21, 6]
abbrev dktX0_mostPulled_1 : List UInt8 := dkwX0_mostPulled_1 ++ dktX0_mostPulled_2
def dkwX0_mostPulled_0 : List UInt8 := [42, 180, 0, 53, 3, 182, 0, 130, 4, 27, 120, 2, 130, 126, 54, 4, 16, 247, 54, 5, 21, 4, 54, 6]
abbrev dktX0_mostPulled_0 : List UInt8 := dkwX0_mostPulled_0 ++ dktX0_mostPulled_1
theorem dksX0_mostPulled_0 : cX0_mostPulled.data.toList.drop 0 = dktX0_mostPulled_0 := by decide +kernel
theorem dksX0_mostPulled_1 : cX0_mostPulled.data.toList.drop 24 = dktX0_mostPulled_1 := dk_seg dksX0_mostPulled_0 24 rfl rfl
theorem dksX0_mostPulled_2 : cX0_mostPulled.data.toList.drop 48 = dktX0_mostPulled_2 := dk_seg dksX0_mostPulled_1 24 rfl rfl
theorem dksX0_mostPulled_3 : cX0_mostPulled.data.toList.drop 72 = dktX0_mostPulled_3 := dk_seg dksX0_mostPulled_2 24 rfl rfl
theorem dksX0_mostPulled_4 : cX0_mostPulled.data.toList.drop 94 = dktX0_mostPulled_4 := dk_seg dksX0_mostPulled_3 22 rfl rfl
theorem dksX0_mostPulled_5 : cX0_mostPulled.data.toList.drop 116 = dktX0_mostPulled_5 := dk_seg dksX0_mostPulled_4 22 rfl rfl
theorem dX0_mostPulled_0 : decode cX0_mostPulled 0 = .ok (.aload_n 0, 1) := dk_42 (dk_at dksX0_mostPulled_0 0 rfl rfl)
theorem dX0_mostPulled_1 : decode cX0_mostPulled 1 = .ok (.getfield 53, 3) := dk_180 0 53 (dk_at dksX0_mostPulled_0 1 rfl rfl)
theorem dX0_mostPulled_4 : decode cX0_mostPulled 4 = .ok (.iconst 0, 1) := dk_3 (dk_at dksX0_mostPulled_0 4 rfl rfl)
theorem dX0_mostPulled_5 : decode cX0_mostPulled 5 = .ok (.invokevirtual 130, 3) := dk_182 0 130 (dk_at dksX0_mostPulled_0 5 rfl rfl)
theorem dX0_mostPulled_8 : decode cX0_mostPulled 8 = .ok (.iconst 1, 1) := dk_4 (dk_at dksX0_mostPulled_0 8 rfl rfl)
theorem dX0_mostPulled_9 : decode cX0_mostPulled 9 = .ok (.iload_n 1, 1) := dk_27 (dk_at dksX0_mostPulled_0 9 rfl rfl)
theorem dX0_mostPulled_10 : decode cX0_mostPulled 10 = .ok (.ishl, 1) := dk_120 (dk_at dksX0_mostPulled_0 10 rfl rfl)
theorem dX0_mostPulled_11 : decode cX0_mostPulled 11 = .ok (.iconst (-1), 1) := dk_2 (dk_at dksX0_mostPulled_0 11 rfl rfl)
theorem dX0_mostPulled_12 : decode cX0_mostPulled 12 = .ok (.ixor, 1) := dk_130 (dk_at dksX0_mostPulled_0 12 rfl rfl)
theorem dX0_mostPulled_13 : decode cX0_mostPulled 13 = .ok (.iand, 1) := dk_126 (dk_at dksX0_mostPulled_0 13 rfl rfl)
theorem dX0_mostPulled_14 : decode cX0_mostPulled 14 = .ok (.istore 4, 2) := dk_54 4 (dk_at dksX0_mostPulled_0 14 rfl rfl)
theorem dX0_mostPulled_16 : decode cX0_mostPulled 16 = .ok (.bipush (-9), 2) := dk_16 247 (dk_at dksX0_mostPulled_0 16 rfl rfl)
theorem dX0_mostPulled_18 : decode cX0_mostPulled 18 = .ok (.istore 5, 2) := dk_54 5 (dk_at dksX0_mostPulled_0 18 rfl rfl)
theorem dX0_mostPulled_20 : decode cX0_mostPulled 20 = .ok (.iload 4, 2) := dk_21 4 (dk_at dksX0_mostPulled_0 20 rfl rfl)
theorem dX0_mostPulled_22 : decode cX0_mostPulled 22 = .ok (.istore 6, 2) := dk_54 6 (dk_at dksX0_mostPulled_0 22 rfl rfl)
theorem dX0_mostPulled_24 : decode cX0_mostPulled 24 = .ok (.iload 6, 2) := dk_21 6 (dk_at dksX0_mostPulled_1 0 rfl rfl)
theorem dX0_mostPulled_26 : decode cX0_mostPulled 26 = .ok (.ifCond .lt 71, 3) := dk_155 0 71 (dk_at dksX0_mostPulled_1 2 rfl rfl)
theorem dX0_mostPulled_29 : decode cX0_mostPulled 29 = .ok (.iload 6, 2) := dk_21 6 (dk_at dksX0_mostPulled_1 5 rfl rfl)
theorem dX0_mostPulled_31 : decode cX0_mostPulled 31 = .ok (.iload 4, 2) := dk_21 4 (dk_at dksX0_mostPulled_1 7 rfl rfl)
theorem dX0_mostPulled_33 : decode cX0_mostPulled 33 = .ok (.iconst (-1), 1) := dk_2 (dk_at dksX0_mostPulled_1 9 rfl rfl)
theorem dX0_mostPulled_34 : decode cX0_mostPulled 34 = .ok (.ixor, 1) := dk_130 (dk_at dksX0_mostPulled_1 10 rfl rfl)
theorem dX0_mostPulled_35 : decode cX0_mostPulled 35 = .ok (.iand, 1) := dk_126 (dk_at dksX0_mostPulled_1 11 rfl rfl)
theorem dX0_mostPulled_36 : decode cX0_mostPulled 36 = .ok (.ifCond .ne 27, 3) := dk_154 0 27 (dk_at dksX0_mostPulled_1 12 rfl rfl)
theorem dX0_mostPulled_39 : decode cX0_mostPulled 39 = .ok (.iload 5, 2) := dk_21 5 (dk_at dksX0_mostPulled_1 15 rfl rfl)
theorem dX0_mostPulled_41 : decode cX0_mostPulled 41 = .ok (.bipush (-9), 2) := dk_16 247 (dk_at dksX0_mostPulled_1 17 rfl rfl)
theorem dX0_mostPulled_43 : decode cX0_mostPulled 43 = .ok (.if_icmp .eq 16, 3) := dk_159 0 16 (dk_at dksX0_mostPulled_1 19 rfl rfl)
theorem dX0_mostPulled_46 : decode cX0_mostPulled 46 = .ok (.iload 6, 2) := dk_21 6 (dk_at dksX0_mostPulled_1 22 rfl rfl)
theorem dX0_mostPulled_48 : decode cX0_mostPulled 48 = .ok (.invokestatic 158, 3) := dk_184 0 158 (dk_at dksX0_mostPulled_2 0 rfl rfl)
theorem dX0_mostPulled_51 : decode cX0_mostPulled 51 = .ok (.iload 5, 2) := dk_21 5 (dk_at dksX0_mostPulled_2 3 rfl rfl)
theorem dX0_mostPulled_53 : decode cX0_mostPulled 53 = .ok (.invokestatic 158, 3) := dk_184 0 158 (dk_at dksX0_mostPulled_2 5 rfl rfl)
theorem dX0_mostPulled_56 : decode cX0_mostPulled 56 = .ok (.if_icmp .lt 7, 3) := dk_161 0 7 (dk_at dksX0_mostPulled_2 8 rfl rfl)
theorem dX0_mostPulled_59 : decode cX0_mostPulled 59 = .ok (.iconst 1, 1) := dk_4 (dk_at dksX0_mostPulled_2 11 rfl rfl)
theorem dX0_mostPulled_60 : decode cX0_mostPulled 60 = .ok (.goto 4, 3) := dk_167 0 4 (dk_at dksX0_mostPulled_2 12 rfl rfl)
theorem dX0_mostPulled_63 : decode cX0_mostPulled 63 = .ok (.iconst 0, 1) := dk_3 (dk_at dksX0_mostPulled_2 15 rfl rfl)
theorem dX0_mostPulled_64 : decode cX0_mostPulled 64 = .ok (.istore 7, 2) := dk_54 7 (dk_at dksX0_mostPulled_2 16 rfl rfl)
theorem dX0_mostPulled_66 : decode cX0_mostPulled 66 = .ok (.iload 7, 2) := dk_21 7 (dk_at dksX0_mostPulled_2 18 rfl rfl)
theorem dX0_mostPulled_68 : decode cX0_mostPulled 68 = .ok (.ifCond .eq 19, 3) := dk_153 0 19 (dk_at dksX0_mostPulled_2 20 rfl rfl)
theorem dX0_mostPulled_71 : decode cX0_mostPulled 71 = .ok (.aload_n 0, 1) := dk_42 (dk_at dksX0_mostPulled_2 23 rfl rfl)
theorem dX0_mostPulled_72 : decode cX0_mostPulled 72 = .ok (.iload 6, 2) := dk_21 6 (dk_at dksX0_mostPulled_3 0 rfl rfl)
theorem dX0_mostPulled_74 : decode cX0_mostPulled 74 = .ok (.iload_n 1, 1) := dk_27 (dk_at dksX0_mostPulled_3 2 rfl rfl)
theorem dX0_mostPulled_75 : decode cX0_mostPulled 75 = .ok (.iload_n 2, 1) := dk_28 (dk_at dksX0_mostPulled_3 3 rfl rfl)
theorem dX0_mostPulled_76 : decode cX0_mostPulled 76 = .ok (.invokevirtual 161, 3) := dk_182 0 161 (dk_at dksX0_mostPulled_3 4 rfl rfl)
theorem dX0_mostPulled_79 : decode cX0_mostPulled 79 = .ok (.ifCond .eq 8, 3) := dk_153 0 8 (dk_at dksX0_mostPulled_3 7 rfl rfl)
theorem dX0_mostPulled_82 : decode cX0_mostPulled 82 = .ok (.iload 6, 2) := dk_21 6 (dk_at dksX0_mostPulled_3 10 rfl rfl)
theorem dX0_mostPulled_84 : decode cX0_mostPulled 84 = .ok (.goto 5, 3) := dk_167 0 5 (dk_at dksX0_mostPulled_3 12 rfl rfl)
theorem dX0_mostPulled_87 : decode cX0_mostPulled 87 = .ok (.iload 5, 2) := dk_21 5 (dk_at dksX0_mostPulled_3 15 rfl rfl)
theorem dX0_mostPulled_89 : decode cX0_mostPulled 89 = .ok (.istore 5, 2) := dk_54 5 (dk_at dksX0_mostPulled_3 17 rfl rfl)
theorem dX0_mostPulled_91 : decode cX0_mostPulled 91 = .ok (.iinc 6 (-1), 3) := dk_132 6 255 (dk_at dksX0_mostPulled_3 19 rfl rfl)
theorem dX0_mostPulled_94 : decode cX0_mostPulled 94 = .ok (.goto (-70), 3) := dk_167 255 186 (dk_at dksX0_mostPulled_4 0 rfl rfl)
theorem dX0_mostPulled_97 : decode cX0_mostPulled 97 = .ok (.iload_n 3, 1) := dk_29 (dk_at dksX0_mostPulled_4 3 rfl rfl)
theorem dX0_mostPulled_98 : decode cX0_mostPulled 98 = .ok (.iconst 1, 1) := dk_4 (dk_at dksX0_mostPulled_4 4 rfl rfl)
theorem dX0_mostPulled_99 : decode cX0_mostPulled 99 = .ok (.if_icmp .eq 10, 3) := dk_159 0 10 (dk_at dksX0_mostPulled_4 5 rfl rfl)
theorem dX0_mostPulled_102 : decode cX0_mostPulled 102 = .ok (.iload 5, 2) := dk_21 5 (dk_at dksX0_mostPulled_4 8 rfl rfl)
theorem dX0_mostPulled_104 : decode cX0_mostPulled 104 = .ok (.bipush (-9), 2) := dk_16 247 (dk_at dksX0_mostPulled_4 10 rfl rfl)
theorem dX0_mostPulled_106 : decode cX0_mostPulled 106 = .ok (.if_icmp .ne 8, 3) := dk_160 0 8 (dk_at dksX0_mostPulled_4 12 rfl rfl)
theorem dX0_mostPulled_109 : decode cX0_mostPulled 109 = .ok (.iload 5, 2) := dk_21 5 (dk_at dksX0_mostPulled_4 15 rfl rfl)
theorem dX0_mostPulled_111 : decode cX0_mostPulled 111 = .ok (.goto 8, 3) := dk_167 0 8 (dk_at dksX0_mostPulled_4 17 rfl rfl)
theorem dX0_mostPulled_114 : decode cX0_mostPulled 114 = .ok (.iload 5, 2) := dk_21 5 (dk_at dksX0_mostPulled_4 20 rfl rfl)
theorem dX0_mostPulled_116 : decode cX0_mostPulled 116 = .ok (.invokestatic 158, 3) := dk_184 0 158 (dk_at dksX0_mostPulled_5 0 rfl rfl)
theorem dX0_mostPulled_119 : decode cX0_mostPulled 119 = .ok (.ireturn, 1) := dk_172 (dk_at dksX0_mostPulled_5 3 rfl rfl)
abbrev cX0_areEnough : ByteArray := prog_1_method_20_code
def yX0_areEnough : MethodName := ⟨RX0, "areEnough", "(III)Z"⟩
def dkwX0_areEnough_2 : List UInt8 := [182, 0, 144, 87, 132, 5, 1, 167, 255, 212, 25, 4, 29, 182, 0, 120, 28, 182, 0, 154, 172]
abbrev dktX0_areEnough_2 : List UInt8 := dkwX0_areEnough_2 ++ []
def dkwX0_areEnough_1 : List UInt8 := [184, 0, 137, 153, 0, 25, 25, 4, 21, 5, 182, 0, 154, 154, 0, 5, 3, 172, 25, 4, 21, 5, 16, 9]
abbrev dktX0_areEnough_1 : List UInt8 := dkwX0_areEnough_1 ++ dktX0_areEnough_2
def dkwX0_areEnough_0 : List UInt8 := [42, 182, 0, 116, 58, 4, 3, 54, 5, 21, 5, 25, 4, 180, 0, 134, 162, 0, 40, 27, 21, 5]
abbrev dktX0_areEnough_0 : List UInt8 := dkwX0_areEnough_0 ++ dktX0_areEnough_1
theorem dksX0_areEnough_0 : cX0_areEnough.data.toList.drop 0 = dktX0_areEnough_0 := by decide +kernel
theorem dksX0_areEnough_1 : cX0_areEnough.data.toList.drop 22 = dktX0_areEnough_1 := dk_seg dksX0_areEnough_0 22 rfl rfl
theorem dksX0_areEnough_2 : cX0_areEnough.data.toList.drop 46 = dktX0_areEnough_2 := dk_seg dksX0_areEnough_1 24 rfl rfl
theorem dX0_areEnough_0 : decode cX0_areEnough 0 = .ok (.aload_n 0, 1) := dk_42 (dk_at dksX0_areEnough_0 0 rfl rfl)
theorem dX0_areEnough_1 : decode cX0_areEnough 1 = .ok (.invokevirtual 116, 3) := dk_182 0 116 (dk_at dksX0_areEnough_0 1 rfl rfl)
theorem dX0_areEnough_4 : decode cX0_areEnough 4 = .ok (.astore 4, 2) := dk_58 4 (dk_at dksX0_areEnough_0 4 rfl rfl)
theorem dX0_areEnough_6 : decode cX0_areEnough 6 = .ok (.iconst 0, 1) := dk_3 (dk_at dksX0_areEnough_0 6 rfl rfl)
theorem dX0_areEnough_7 : decode cX0_areEnough 7 = .ok (.istore 5, 2) := dk_54 5 (dk_at dksX0_areEnough_0 7 rfl rfl)
theorem dX0_areEnough_9 : decode cX0_areEnough 9 = .ok (.iload 5, 2) := dk_21 5 (dk_at dksX0_areEnough_0 9 rfl rfl)
theorem dX0_areEnough_11 : decode cX0_areEnough 11 = .ok (.aload 4, 2) := dk_25 4 (dk_at dksX0_areEnough_0 11 rfl rfl)
theorem dX0_areEnough_13 : decode cX0_areEnough 13 = .ok (.getfield 134, 3) := dk_180 0 134 (dk_at dksX0_areEnough_0 13 rfl rfl)
theorem dX0_areEnough_16 : decode cX0_areEnough 16 = .ok (.if_icmp .ge 40, 3) := dk_162 0 40 (dk_at dksX0_areEnough_0 16 rfl rfl)
theorem dX0_areEnough_19 : decode cX0_areEnough 19 = .ok (.iload_n 1, 1) := dk_27 (dk_at dksX0_areEnough_0 19 rfl rfl)
theorem dX0_areEnough_20 : decode cX0_areEnough 20 = .ok (.iload 5, 2) := dk_21 5 (dk_at dksX0_areEnough_0 20 rfl rfl)
theorem dX0_areEnough_22 : decode cX0_areEnough 22 = .ok (.invokestatic 137, 3) := dk_184 0 137 (dk_at dksX0_areEnough_1 0 rfl rfl)
theorem dX0_areEnough_25 : decode cX0_areEnough 25 = .ok (.ifCond .eq 25, 3) := dk_153 0 25 (dk_at dksX0_areEnough_1 3 rfl rfl)
theorem dX0_areEnough_28 : decode cX0_areEnough 28 = .ok (.aload 4, 2) := dk_25 4 (dk_at dksX0_areEnough_1 6 rfl rfl)
theorem dX0_areEnough_30 : decode cX0_areEnough 30 = .ok (.iload 5, 2) := dk_21 5 (dk_at dksX0_areEnough_1 8 rfl rfl)
theorem dX0_areEnough_32 : decode cX0_areEnough 32 = .ok (.invokevirtual 154, 3) := dk_182 0 154 (dk_at dksX0_areEnough_1 10 rfl rfl)
theorem dX0_areEnough_35 : decode cX0_areEnough 35 = .ok (.ifCond .ne 5, 3) := dk_154 0 5 (dk_at dksX0_areEnough_1 13 rfl rfl)
theorem dX0_areEnough_38 : decode cX0_areEnough 38 = .ok (.iconst 0, 1) := dk_3 (dk_at dksX0_areEnough_1 16 rfl rfl)
theorem dX0_areEnough_39 : decode cX0_areEnough 39 = .ok (.ireturn, 1) := dk_172 (dk_at dksX0_areEnough_1 17 rfl rfl)
theorem dX0_areEnough_40 : decode cX0_areEnough 40 = .ok (.aload 4, 2) := dk_25 4 (dk_at dksX0_areEnough_1 18 rfl rfl)
theorem dX0_areEnough_42 : decode cX0_areEnough 42 = .ok (.iload 5, 2) := dk_21 5 (dk_at dksX0_areEnough_1 20 rfl rfl)
theorem dX0_areEnough_44 : decode cX0_areEnough 44 = .ok (.bipush 9, 2) := dk_16 9 (dk_at dksX0_areEnough_1 22 rfl rfl)
theorem dX0_areEnough_46 : decode cX0_areEnough 46 = .ok (.invokevirtual 144, 3) := dk_182 0 144 (dk_at dksX0_areEnough_2 0 rfl rfl)
theorem dX0_areEnough_49 : decode cX0_areEnough 49 = .ok (.pop, 1) := dk_87 (dk_at dksX0_areEnough_2 3 rfl rfl)
theorem dX0_areEnough_50 : decode cX0_areEnough 50 = .ok (.iinc 5 1, 3) := dk_132 5 1 (dk_at dksX0_areEnough_2 4 rfl rfl)
theorem dX0_areEnough_53 : decode cX0_areEnough 53 = .ok (.goto (-44), 3) := dk_167 255 212 (dk_at dksX0_areEnough_2 7 rfl rfl)
theorem dX0_areEnough_56 : decode cX0_areEnough 56 = .ok (.aload 4, 2) := dk_25 4 (dk_at dksX0_areEnough_2 10 rfl rfl)
theorem dX0_areEnough_58 : decode cX0_areEnough 58 = .ok (.iload_n 3, 1) := dk_29 (dk_at dksX0_areEnough_2 12 rfl rfl)
theorem dX0_areEnough_59 : decode cX0_areEnough 59 = .ok (.invokevirtual 120, 3) := dk_182 0 120 (dk_at dksX0_areEnough_2 13 rfl rfl)
theorem dX0_areEnough_62 : decode cX0_areEnough 62 = .ok (.iload_n 2, 1) := dk_28 (dk_at dksX0_areEnough_2 16 rfl rfl)
theorem dX0_areEnough_63 : decode cX0_areEnough 63 = .ok (.invokevirtual 154, 3) := dk_182 0 154 (dk_at dksX0_areEnough_2 17 rfl rfl)
theorem dX0_areEnough_66 : decode cX0_areEnough 66 = .ok (.ireturn, 1) := dk_172 (dk_at dksX0_areEnough_2 20 rfl rfl)
abbrev cX0_ofRest : ByteArray := prog_1_method_67_code
def yX0_ofRest : MethodName := ⟨RX0, "ofRest", "(IIIIII)I"⟩
def dkwX0_ofRest_5 : List UInt8 := [182, 1, 164, 172]
abbrev dktX0_ofRest_5 : List UInt8 := dkwX0_ofRest_5 ++ []
def dkwX0_ofRest_4 : List UInt8 := [184, 1, 100, 42, 28, 182, 1, 158, 172, 42, 28, 29, 21, 4, 182, 1, 161, 172, 42, 27, 28, 29, 21, 4]
abbrev dktX0_ofRest_4 : List UInt8 := dkwX0_ofRest_4 ++ dktX0_ofRest_5
def dkwX0_ofRest_3 : List UInt8 := [21, 4, 21, 5, 21, 6, 182, 1, 148, 172, 42, 28, 182, 1, 152, 172, 42, 28, 182, 1, 155, 172, 28]
abbrev dktX0_ofRest_3 : List UInt8 := dkwX0_ofRest_3 ++ dktX0_ofRest_4
def dkwX0_ofRest_2 : List UInt8 := [28, 184, 1, 74, 42, 28, 182, 1, 142, 172, 28, 184, 1, 74, 42, 28, 182, 1, 145, 172, 42, 28, 29]
abbrev dktX0_ofRest_2 : List UInt8 := dkwX0_ofRest_2 ++ dktX0_ofRest_3
def dkwX0_ofRest_1 : List UInt8 := [170, 0, 0, 0, 0, 0, 107, 0, 0, 0, 18, 0, 0, 0, 24, 0, 0, 0, 43, 0, 0, 0, 53, 0, 0, 0, 63, 0, 0, 0, 76, 0, 0, 0, 82, 0, 0, 0, 88, 0, 0, 0, 98]
abbrev dktX0_ofRest_1 : List UInt8 := dkwX0_ofRest_1 ++ dktX0_ofRest_2
def dkwX0_ofRest_0 : List UInt8 := [27]
abbrev dktX0_ofRest_0 : List UInt8 := dkwX0_ofRest_0 ++ dktX0_ofRest_1
theorem dksX0_ofRest_0 : cX0_ofRest.data.toList.drop 0 = dktX0_ofRest_0 := by decide +kernel
theorem dksX0_ofRest_1 : cX0_ofRest.data.toList.drop 1 = dktX0_ofRest_1 := dk_seg dksX0_ofRest_0 1 rfl rfl
theorem dksX0_ofRest_2 : cX0_ofRest.data.toList.drop 44 = dktX0_ofRest_2 := dk_seg dksX0_ofRest_1 43 rfl rfl
theorem dksX0_ofRest_3 : cX0_ofRest.data.toList.drop 67 = dktX0_ofRest_3 := dk_seg dksX0_ofRest_2 23 rfl rfl
theorem dksX0_ofRest_4 : cX0_ofRest.data.toList.drop 90 = dktX0_ofRest_4 := dk_seg dksX0_ofRest_3 23 rfl rfl
theorem dksX0_ofRest_5 : cX0_ofRest.data.toList.drop 114 = dktX0_ofRest_5 := dk_seg dksX0_ofRest_4 24 rfl rfl
theorem dX0_ofRest_0 : decode cX0_ofRest 0 = .ok (.iload_n 1, 1) := dk_27 (dk_at dksX0_ofRest_0 0 rfl rfl)
theorem dX0_ofRest_1 : decode cX0_ofRest 1 = .ok (.tableswitch 107 18 24 #[43, 53, 63, 76, 82, 88, 98], 43) := by decide +kernel
theorem dX0_ofRest_44 : decode cX0_ofRest 44 = .ok (.iload_n 2, 1) := dk_28 (dk_at dksX0_ofRest_2 0 rfl rfl)
theorem dX0_ofRest_45 : decode cX0_ofRest 45 = .ok (.invokestatic 330, 3) := dk_184 1 74 (dk_at dksX0_ofRest_2 1 rfl rfl)
theorem dX0_ofRest_48 : decode cX0_ofRest 48 = .ok (.aload_n 0, 1) := dk_42 (dk_at dksX0_ofRest_2 4 rfl rfl)
theorem dX0_ofRest_49 : decode cX0_ofRest 49 = .ok (.iload_n 2, 1) := dk_28 (dk_at dksX0_ofRest_2 5 rfl rfl)
theorem dX0_ofRest_50 : decode cX0_ofRest 50 = .ok (.invokevirtual 398, 3) := dk_182 1 142 (dk_at dksX0_ofRest_2 6 rfl rfl)
theorem dX0_ofRest_53 : decode cX0_ofRest 53 = .ok (.ireturn, 1) := dk_172 (dk_at dksX0_ofRest_2 9 rfl rfl)
theorem dX0_ofRest_54 : decode cX0_ofRest 54 = .ok (.iload_n 2, 1) := dk_28 (dk_at dksX0_ofRest_2 10 rfl rfl)
theorem dX0_ofRest_55 : decode cX0_ofRest 55 = .ok (.invokestatic 330, 3) := dk_184 1 74 (dk_at dksX0_ofRest_2 11 rfl rfl)
theorem dX0_ofRest_58 : decode cX0_ofRest 58 = .ok (.aload_n 0, 1) := dk_42 (dk_at dksX0_ofRest_2 14 rfl rfl)
theorem dX0_ofRest_59 : decode cX0_ofRest 59 = .ok (.iload_n 2, 1) := dk_28 (dk_at dksX0_ofRest_2 15 rfl rfl)
theorem dX0_ofRest_60 : decode cX0_ofRest 60 = .ok (.invokevirtual 401, 3) := dk_182 1 145 (dk_at dksX0_ofRest_2 16 rfl rfl)
theorem dX0_ofRest_63 : decode cX0_ofRest 63 = .ok (.ireturn, 1) := dk_172 (dk_at dksX0_ofRest_2 19 rfl rfl)
theorem dX0_ofRest_64 : decode cX0_ofRest 64 = .ok (.aload_n 0, 1) := dk_42 (dk_at dksX0_ofRest_2 20 rfl rfl)
theorem dX0_ofRest_65 : decode cX0_ofRest 65 = .ok (.iload_n 2, 1) := dk_28 (dk_at dksX0_ofRest_2 21 rfl rfl)
theorem dX0_ofRest_66 : decode cX0_ofRest 66 = .ok (.iload_n 3, 1) := dk_29 (dk_at dksX0_ofRest_2 22 rfl rfl)
theorem dX0_ofRest_67 : decode cX0_ofRest 67 = .ok (.iload 4, 2) := dk_21 4 (dk_at dksX0_ofRest_3 0 rfl rfl)
theorem dX0_ofRest_69 : decode cX0_ofRest 69 = .ok (.iload 5, 2) := dk_21 5 (dk_at dksX0_ofRest_3 2 rfl rfl)
theorem dX0_ofRest_71 : decode cX0_ofRest 71 = .ok (.iload 6, 2) := dk_21 6 (dk_at dksX0_ofRest_3 4 rfl rfl)
theorem dX0_ofRest_73 : decode cX0_ofRest 73 = .ok (.invokevirtual 404, 3) := dk_182 1 148 (dk_at dksX0_ofRest_3 6 rfl rfl)
theorem dX0_ofRest_76 : decode cX0_ofRest 76 = .ok (.ireturn, 1) := dk_172 (dk_at dksX0_ofRest_3 9 rfl rfl)
theorem dX0_ofRest_77 : decode cX0_ofRest 77 = .ok (.aload_n 0, 1) := dk_42 (dk_at dksX0_ofRest_3 10 rfl rfl)
theorem dX0_ofRest_78 : decode cX0_ofRest 78 = .ok (.iload_n 2, 1) := dk_28 (dk_at dksX0_ofRest_3 11 rfl rfl)
theorem dX0_ofRest_79 : decode cX0_ofRest 79 = .ok (.invokevirtual 408, 3) := dk_182 1 152 (dk_at dksX0_ofRest_3 12 rfl rfl)
theorem dX0_ofRest_82 : decode cX0_ofRest 82 = .ok (.ireturn, 1) := dk_172 (dk_at dksX0_ofRest_3 15 rfl rfl)
theorem dX0_ofRest_83 : decode cX0_ofRest 83 = .ok (.aload_n 0, 1) := dk_42 (dk_at dksX0_ofRest_3 16 rfl rfl)
theorem dX0_ofRest_84 : decode cX0_ofRest 84 = .ok (.iload_n 2, 1) := dk_28 (dk_at dksX0_ofRest_3 17 rfl rfl)
theorem dX0_ofRest_85 : decode cX0_ofRest 85 = .ok (.invokevirtual 411, 3) := dk_182 1 155 (dk_at dksX0_ofRest_3 18 rfl rfl)
theorem dX0_ofRest_88 : decode cX0_ofRest 88 = .ok (.ireturn, 1) := dk_172 (dk_at dksX0_ofRest_3 21 rfl rfl)
theorem dX0_ofRest_89 : decode cX0_ofRest 89 = .ok (.iload_n 2, 1) := dk_28 (dk_at dksX0_ofRest_3 22 rfl rfl)
theorem dX0_ofRest_90 : decode cX0_ofRest 90 = .ok (.invokestatic 356, 3) := dk_184 1 100 (dk_at dksX0_ofRest_4 0 rfl rfl)
theorem dX0_ofRest_93 : decode cX0_ofRest 93 = .ok (.aload_n 0, 1) := dk_42 (dk_at dksX0_ofRest_4 3 rfl rfl)
theorem dX0_ofRest_94 : decode cX0_ofRest 94 = .ok (.iload_n 2, 1) := dk_28 (dk_at dksX0_ofRest_4 4 rfl rfl)
theorem dX0_ofRest_95 : decode cX0_ofRest 95 = .ok (.invokevirtual 414, 3) := dk_182 1 158 (dk_at dksX0_ofRest_4 5 rfl rfl)
theorem dX0_ofRest_98 : decode cX0_ofRest 98 = .ok (.ireturn, 1) := dk_172 (dk_at dksX0_ofRest_4 8 rfl rfl)
theorem dX0_ofRest_99 : decode cX0_ofRest 99 = .ok (.aload_n 0, 1) := dk_42 (dk_at dksX0_ofRest_4 9 rfl rfl)
theorem dX0_ofRest_100 : decode cX0_ofRest 100 = .ok (.iload_n 2, 1) := dk_28 (dk_at dksX0_ofRest_4 10 rfl rfl)
theorem dX0_ofRest_101 : decode cX0_ofRest 101 = .ok (.iload_n 3, 1) := dk_29 (dk_at dksX0_ofRest_4 11 rfl rfl)
theorem dX0_ofRest_102 : decode cX0_ofRest 102 = .ok (.iload 4, 2) := dk_21 4 (dk_at dksX0_ofRest_4 12 rfl rfl)
theorem dX0_ofRest_104 : decode cX0_ofRest 104 = .ok (.invokevirtual 417, 3) := dk_182 1 161 (dk_at dksX0_ofRest_4 14 rfl rfl)
theorem dX0_ofRest_107 : decode cX0_ofRest 107 = .ok (.ireturn, 1) := dk_172 (dk_at dksX0_ofRest_4 17 rfl rfl)
theorem dX0_ofRest_108 : decode cX0_ofRest 108 = .ok (.aload_n 0, 1) := dk_42 (dk_at dksX0_ofRest_4 18 rfl rfl)
theorem dX0_ofRest_109 : decode cX0_ofRest 109 = .ok (.iload_n 1, 1) := dk_27 (dk_at dksX0_ofRest_4 19 rfl rfl)
theorem dX0_ofRest_110 : decode cX0_ofRest 110 = .ok (.iload_n 2, 1) := dk_28 (dk_at dksX0_ofRest_4 20 rfl rfl)
theorem dX0_ofRest_111 : decode cX0_ofRest 111 = .ok (.iload_n 3, 1) := dk_29 (dk_at dksX0_ofRest_4 21 rfl rfl)
theorem dX0_ofRest_112 : decode cX0_ofRest 112 = .ok (.iload 4, 2) := dk_21 4 (dk_at dksX0_ofRest_4 22 rfl rfl)
theorem dX0_ofRest_114 : decode cX0_ofRest 114 = .ok (.invokevirtual 420, 3) := dk_182 1 164 (dk_at dksX0_ofRest_5 0 rfl rfl)
theorem dX0_ofRest_117 : decode cX0_ofRest 117 = .ok (.ireturn, 1) := dk_172 (dk_at dksX0_ofRest_5 3 rfl rfl)
abbrev cX0_keyOf : ByteArray := prog_1_method_22_code
def yX0_keyOf : MethodName := ⟨RX0, "keyOf", "(I)I"⟩
def dkwX0_keyOf_3 : List UInt8 := [167, 0, 4, 28, 61, 29, 21, 6, 184, 0, 169, 62, 132, 4, 1, 167, 255, 182, 28, 172]
abbrev dktX0_keyOf_3 : List UInt8 := dkwX0_keyOf_3 ++ []
def dkwX0_keyOf_2 : List UInt8 := [182, 0, 144, 87, 25, 5, 27, 182, 0, 120, 182, 0, 165, 54, 6, 21, 6, 29, 162, 0, 8, 21, 4]
abbrev dktX0_keyOf_2 : List UInt8 := dkwX0_keyOf_2 ++ dktX0_keyOf_3
def dkwX0_keyOf_1 : List UInt8 := [180, 0, 53, 21, 4, 182, 0, 154, 153, 0, 50, 42, 182, 0, 116, 58, 5, 25, 5, 21, 4, 16, 9]
abbrev dktX0_keyOf_1 : List UInt8 := dkwX0_keyOf_1 ++ dktX0_keyOf_2
def dkwX0_keyOf_0 : List UInt8 := [16, 247, 61, 16, 11, 62, 3, 54, 4, 21, 4, 42, 180, 0, 53, 180, 0, 134, 162, 0, 68, 42]
abbrev dktX0_keyOf_0 : List UInt8 := dkwX0_keyOf_0 ++ dktX0_keyOf_1
theorem dksX0_keyOf_0 : cX0_keyOf.data.toList.drop 0 = dktX0_keyOf_0 := by decide +kernel
theorem dksX0_keyOf_1 : cX0_keyOf.data.toList.drop 22 = dktX0_keyOf_1 := dk_seg dksX0_keyOf_0 22 rfl rfl
theorem dksX0_keyOf_2 : cX0_keyOf.data.toList.drop 45 = dktX0_keyOf_2 := dk_seg dksX0_keyOf_1 23 rfl rfl
theorem dksX0_keyOf_3 : cX0_keyOf.data.toList.drop 68 = dktX0_keyOf_3 := dk_seg dksX0_keyOf_2 23 rfl rfl
theorem dX0_keyOf_0 : decode cX0_keyOf 0 = .ok (.bipush (-9), 2) := dk_16 247 (dk_at dksX0_keyOf_0 0 rfl rfl)
theorem dX0_keyOf_2 : decode cX0_keyOf 2 = .ok (.istore_n 2, 1) := dk_61 (dk_at dksX0_keyOf_0 2 rfl rfl)
theorem dX0_keyOf_3 : decode cX0_keyOf 3 = .ok (.bipush 11, 2) := dk_16 11 (dk_at dksX0_keyOf_0 3 rfl rfl)
theorem dX0_keyOf_5 : decode cX0_keyOf 5 = .ok (.istore_n 3, 1) := dk_62 (dk_at dksX0_keyOf_0 5 rfl rfl)
theorem dX0_keyOf_6 : decode cX0_keyOf 6 = .ok (.iconst 0, 1) := dk_3 (dk_at dksX0_keyOf_0 6 rfl rfl)
theorem dX0_keyOf_7 : decode cX0_keyOf 7 = .ok (.istore 4, 2) := dk_54 4 (dk_at dksX0_keyOf_0 7 rfl rfl)
theorem dX0_keyOf_9 : decode cX0_keyOf 9 = .ok (.iload 4, 2) := dk_21 4 (dk_at dksX0_keyOf_0 9 rfl rfl)
theorem dX0_keyOf_11 : decode cX0_keyOf 11 = .ok (.aload_n 0, 1) := dk_42 (dk_at dksX0_keyOf_0 11 rfl rfl)
theorem dX0_keyOf_12 : decode cX0_keyOf 12 = .ok (.getfield 53, 3) := dk_180 0 53 (dk_at dksX0_keyOf_0 12 rfl rfl)
theorem dX0_keyOf_15 : decode cX0_keyOf 15 = .ok (.getfield 134, 3) := dk_180 0 134 (dk_at dksX0_keyOf_0 15 rfl rfl)
theorem dX0_keyOf_18 : decode cX0_keyOf 18 = .ok (.if_icmp .ge 68, 3) := dk_162 0 68 (dk_at dksX0_keyOf_0 18 rfl rfl)
theorem dX0_keyOf_21 : decode cX0_keyOf 21 = .ok (.aload_n 0, 1) := dk_42 (dk_at dksX0_keyOf_0 21 rfl rfl)
theorem dX0_keyOf_22 : decode cX0_keyOf 22 = .ok (.getfield 53, 3) := dk_180 0 53 (dk_at dksX0_keyOf_1 0 rfl rfl)
theorem dX0_keyOf_25 : decode cX0_keyOf 25 = .ok (.iload 4, 2) := dk_21 4 (dk_at dksX0_keyOf_1 3 rfl rfl)
theorem dX0_keyOf_27 : decode cX0_keyOf 27 = .ok (.invokevirtual 154, 3) := dk_182 0 154 (dk_at dksX0_keyOf_1 5 rfl rfl)
theorem dX0_keyOf_30 : decode cX0_keyOf 30 = .ok (.ifCond .eq 50, 3) := dk_153 0 50 (dk_at dksX0_keyOf_1 8 rfl rfl)
theorem dX0_keyOf_33 : decode cX0_keyOf 33 = .ok (.aload_n 0, 1) := dk_42 (dk_at dksX0_keyOf_1 11 rfl rfl)
theorem dX0_keyOf_34 : decode cX0_keyOf 34 = .ok (.invokevirtual 116, 3) := dk_182 0 116 (dk_at dksX0_keyOf_1 12 rfl rfl)
theorem dX0_keyOf_37 : decode cX0_keyOf 37 = .ok (.astore 5, 2) := dk_58 5 (dk_at dksX0_keyOf_1 15 rfl rfl)
theorem dX0_keyOf_39 : decode cX0_keyOf 39 = .ok (.aload 5, 2) := dk_25 5 (dk_at dksX0_keyOf_1 17 rfl rfl)
theorem dX0_keyOf_41 : decode cX0_keyOf 41 = .ok (.iload 4, 2) := dk_21 4 (dk_at dksX0_keyOf_1 19 rfl rfl)
theorem dX0_keyOf_43 : decode cX0_keyOf 43 = .ok (.bipush 9, 2) := dk_16 9 (dk_at dksX0_keyOf_1 21 rfl rfl)
theorem dX0_keyOf_45 : decode cX0_keyOf 45 = .ok (.invokevirtual 144, 3) := dk_182 0 144 (dk_at dksX0_keyOf_2 0 rfl rfl)
theorem dX0_keyOf_48 : decode cX0_keyOf 48 = .ok (.pop, 1) := dk_87 (dk_at dksX0_keyOf_2 3 rfl rfl)
theorem dX0_keyOf_49 : decode cX0_keyOf 49 = .ok (.aload 5, 2) := dk_25 5 (dk_at dksX0_keyOf_2 4 rfl rfl)
theorem dX0_keyOf_51 : decode cX0_keyOf 51 = .ok (.iload_n 1, 1) := dk_27 (dk_at dksX0_keyOf_2 6 rfl rfl)
theorem dX0_keyOf_52 : decode cX0_keyOf 52 = .ok (.invokevirtual 120, 3) := dk_182 0 120 (dk_at dksX0_keyOf_2 7 rfl rfl)
theorem dX0_keyOf_55 : decode cX0_keyOf 55 = .ok (.invokevirtual 165, 3) := dk_182 0 165 (dk_at dksX0_keyOf_2 10 rfl rfl)
theorem dX0_keyOf_58 : decode cX0_keyOf 58 = .ok (.istore 6, 2) := dk_54 6 (dk_at dksX0_keyOf_2 13 rfl rfl)
theorem dX0_keyOf_60 : decode cX0_keyOf 60 = .ok (.iload 6, 2) := dk_21 6 (dk_at dksX0_keyOf_2 15 rfl rfl)
theorem dX0_keyOf_62 : decode cX0_keyOf 62 = .ok (.iload_n 3, 1) := dk_29 (dk_at dksX0_keyOf_2 17 rfl rfl)
theorem dX0_keyOf_63 : decode cX0_keyOf 63 = .ok (.if_icmp .ge 8, 3) := dk_162 0 8 (dk_at dksX0_keyOf_2 18 rfl rfl)
theorem dX0_keyOf_66 : decode cX0_keyOf 66 = .ok (.iload 4, 2) := dk_21 4 (dk_at dksX0_keyOf_2 21 rfl rfl)
theorem dX0_keyOf_68 : decode cX0_keyOf 68 = .ok (.goto 4, 3) := dk_167 0 4 (dk_at dksX0_keyOf_3 0 rfl rfl)
theorem dX0_keyOf_71 : decode cX0_keyOf 71 = .ok (.iload_n 2, 1) := dk_28 (dk_at dksX0_keyOf_3 3 rfl rfl)
theorem dX0_keyOf_72 : decode cX0_keyOf 72 = .ok (.istore_n 2, 1) := dk_61 (dk_at dksX0_keyOf_3 4 rfl rfl)
theorem dX0_keyOf_73 : decode cX0_keyOf 73 = .ok (.iload_n 3, 1) := dk_29 (dk_at dksX0_keyOf_3 5 rfl rfl)
theorem dX0_keyOf_74 : decode cX0_keyOf 74 = .ok (.iload 6, 2) := dk_21 6 (dk_at dksX0_keyOf_3 6 rfl rfl)
theorem dX0_keyOf_76 : decode cX0_keyOf 76 = .ok (.invokestatic 169, 3) := dk_184 0 169 (dk_at dksX0_keyOf_3 8 rfl rfl)
theorem dX0_keyOf_79 : decode cX0_keyOf 79 = .ok (.istore_n 3, 1) := dk_62 (dk_at dksX0_keyOf_3 11 rfl rfl)
theorem dX0_keyOf_80 : decode cX0_keyOf 80 = .ok (.iinc 4 1, 3) := dk_132 4 1 (dk_at dksX0_keyOf_3 12 rfl rfl)
theorem dX0_keyOf_83 : decode cX0_keyOf 83 = .ok (.goto (-74), 3) := dk_167 255 182 (dk_at dksX0_keyOf_3 15 rfl rfl)
theorem dX0_keyOf_86 : decode cX0_keyOf 86 = .ok (.iload_n 2, 1) := dk_28 (dk_at dksX0_keyOf_3 18 rfl rfl)
theorem dX0_keyOf_87 : decode cX0_keyOf 87 = .ok (.ireturn, 1) := dk_172 (dk_at dksX0_keyOf_3 19 rfl rfl)
abbrev cX0_fewestProps : ByteArray := prog_1_method_23_code
def yX0_fewestProps : MethodName := ⟨RX0, "fewestProps", "(I)I"⟩
def dkwX0_fewestProps_3 : List UInt8 := [29, 62, 132, 4, 255, 167, 255, 193, 29, 172]
abbrev dktX0_fewestProps_3 : List UInt8 := dkwX0_fewestProps_3 ++ []
def dkwX0_fewestProps_2 : List UInt8 := [21, 4, 181, 0, 174, 25, 5, 27, 182, 0, 120, 3, 182, 0, 130, 28, 160, 0, 8, 21, 4, 167, 0, 4]
abbrev dktX0_fewestProps_2 : List UInt8 := dkwX0_fewestProps_2 ++ dktX0_fewestProps_3
def dkwX0_fewestProps_1 : List UInt8 := [126, 154, 0, 49, 21, 4, 184, 0, 158, 29, 184, 0, 158, 163, 0, 37, 42, 182, 0, 116, 58, 5, 25, 5]
abbrev dktX0_fewestProps_1 : List UInt8 := dkwX0_fewestProps_1 ++ dktX0_fewestProps_2
def dkwX0_fewestProps_0 : List UInt8 := [42, 180, 0, 53, 3, 182, 0, 130, 61, 28, 62, 28, 54, 4, 21, 4, 155, 0, 64, 21, 4, 28, 2, 130]
abbrev dktX0_fewestProps_0 : List UInt8 := dkwX0_fewestProps_0 ++ dktX0_fewestProps_1
theorem dksX0_fewestProps_0 : cX0_fewestProps.data.toList.drop 0 = dktX0_fewestProps_0 := by decide +kernel
theorem dksX0_fewestProps_1 : cX0_fewestProps.data.toList.drop 24 = dktX0_fewestProps_1 := dk_seg dksX0_fewestProps_0 24 rfl rfl
theorem dksX0_fewestProps_2 : cX0_fewestProps.data.toList.drop 48 = dktX0_fewestProps_2 := dk_seg dksX0_fewestProps_1 24 rfl rfl
theorem dksX0_fewestProps_3 : cX0_fewestProps.data.toList.drop 72 = dktX0_fewestProps_3 := dk_seg dksX0_fewestProps_2 24 rfl rfl
theorem dX0_fewestProps_0 : decode cX0_fewestProps 0 = .ok (.aload_n 0, 1) := dk_42 (dk_at dksX0_fewestProps_0 0 rfl rfl)
theorem dX0_fewestProps_1 : decode cX0_fewestProps 1 = .ok (.getfield 53, 3) := dk_180 0 53 (dk_at dksX0_fewestProps_0 1 rfl rfl)
theorem dX0_fewestProps_4 : decode cX0_fewestProps 4 = .ok (.iconst 0, 1) := dk_3 (dk_at dksX0_fewestProps_0 4 rfl rfl)
theorem dX0_fewestProps_5 : decode cX0_fewestProps 5 = .ok (.invokevirtual 130, 3) := dk_182 0 130 (dk_at dksX0_fewestProps_0 5 rfl rfl)
theorem dX0_fewestProps_8 : decode cX0_fewestProps 8 = .ok (.istore_n 2, 1) := dk_61 (dk_at dksX0_fewestProps_0 8 rfl rfl)
theorem dX0_fewestProps_9 : decode cX0_fewestProps 9 = .ok (.iload_n 2, 1) := dk_28 (dk_at dksX0_fewestProps_0 9 rfl rfl)
theorem dX0_fewestProps_10 : decode cX0_fewestProps 10 = .ok (.istore_n 3, 1) := dk_62 (dk_at dksX0_fewestProps_0 10 rfl rfl)
theorem dX0_fewestProps_11 : decode cX0_fewestProps 11 = .ok (.iload_n 2, 1) := dk_28 (dk_at dksX0_fewestProps_0 11 rfl rfl)
theorem dX0_fewestProps_12 : decode cX0_fewestProps 12 = .ok (.istore 4, 2) := dk_54 4 (dk_at dksX0_fewestProps_0 12 rfl rfl)
theorem dX0_fewestProps_14 : decode cX0_fewestProps 14 = .ok (.iload 4, 2) := dk_21 4 (dk_at dksX0_fewestProps_0 14 rfl rfl)
theorem dX0_fewestProps_16 : decode cX0_fewestProps 16 = .ok (.ifCond .lt 64, 3) := dk_155 0 64 (dk_at dksX0_fewestProps_0 16 rfl rfl)
theorem dX0_fewestProps_19 : decode cX0_fewestProps 19 = .ok (.iload 4, 2) := dk_21 4 (dk_at dksX0_fewestProps_0 19 rfl rfl)
theorem dX0_fewestProps_21 : decode cX0_fewestProps 21 = .ok (.iload_n 2, 1) := dk_28 (dk_at dksX0_fewestProps_0 21 rfl rfl)
theorem dX0_fewestProps_22 : decode cX0_fewestProps 22 = .ok (.iconst (-1), 1) := dk_2 (dk_at dksX0_fewestProps_0 22 rfl rfl)
theorem dX0_fewestProps_23 : decode cX0_fewestProps 23 = .ok (.ixor, 1) := dk_130 (dk_at dksX0_fewestProps_0 23 rfl rfl)
theorem dX0_fewestProps_24 : decode cX0_fewestProps 24 = .ok (.iand, 1) := dk_126 (dk_at dksX0_fewestProps_1 0 rfl rfl)
theorem dX0_fewestProps_25 : decode cX0_fewestProps 25 = .ok (.ifCond .ne 49, 3) := dk_154 0 49 (dk_at dksX0_fewestProps_1 1 rfl rfl)
theorem dX0_fewestProps_28 : decode cX0_fewestProps 28 = .ok (.iload 4, 2) := dk_21 4 (dk_at dksX0_fewestProps_1 4 rfl rfl)
theorem dX0_fewestProps_30 : decode cX0_fewestProps 30 = .ok (.invokestatic 158, 3) := dk_184 0 158 (dk_at dksX0_fewestProps_1 6 rfl rfl)
theorem dX0_fewestProps_33 : decode cX0_fewestProps 33 = .ok (.iload_n 3, 1) := dk_29 (dk_at dksX0_fewestProps_1 9 rfl rfl)
theorem dX0_fewestProps_34 : decode cX0_fewestProps 34 = .ok (.invokestatic 158, 3) := dk_184 0 158 (dk_at dksX0_fewestProps_1 10 rfl rfl)
theorem dX0_fewestProps_37 : decode cX0_fewestProps 37 = .ok (.if_icmp .gt 37, 3) := dk_163 0 37 (dk_at dksX0_fewestProps_1 13 rfl rfl)
theorem dX0_fewestProps_40 : decode cX0_fewestProps 40 = .ok (.aload_n 0, 1) := dk_42 (dk_at dksX0_fewestProps_1 16 rfl rfl)
theorem dX0_fewestProps_41 : decode cX0_fewestProps 41 = .ok (.invokevirtual 116, 3) := dk_182 0 116 (dk_at dksX0_fewestProps_1 17 rfl rfl)
theorem dX0_fewestProps_44 : decode cX0_fewestProps 44 = .ok (.astore 5, 2) := dk_58 5 (dk_at dksX0_fewestProps_1 20 rfl rfl)
theorem dX0_fewestProps_46 : decode cX0_fewestProps 46 = .ok (.aload 5, 2) := dk_25 5 (dk_at dksX0_fewestProps_1 22 rfl rfl)
theorem dX0_fewestProps_48 : decode cX0_fewestProps 48 = .ok (.iload 4, 2) := dk_21 4 (dk_at dksX0_fewestProps_2 0 rfl rfl)
theorem dX0_fewestProps_50 : decode cX0_fewestProps 50 = .ok (.putfield 174, 3) := dk_181 0 174 (dk_at dksX0_fewestProps_2 2 rfl rfl)
theorem dX0_fewestProps_53 : decode cX0_fewestProps 53 = .ok (.aload 5, 2) := dk_25 5 (dk_at dksX0_fewestProps_2 5 rfl rfl)
theorem dX0_fewestProps_55 : decode cX0_fewestProps 55 = .ok (.iload_n 1, 1) := dk_27 (dk_at dksX0_fewestProps_2 7 rfl rfl)
theorem dX0_fewestProps_56 : decode cX0_fewestProps 56 = .ok (.invokevirtual 120, 3) := dk_182 0 120 (dk_at dksX0_fewestProps_2 8 rfl rfl)
theorem dX0_fewestProps_59 : decode cX0_fewestProps 59 = .ok (.iconst 0, 1) := dk_3 (dk_at dksX0_fewestProps_2 11 rfl rfl)
theorem dX0_fewestProps_60 : decode cX0_fewestProps 60 = .ok (.invokevirtual 130, 3) := dk_182 0 130 (dk_at dksX0_fewestProps_2 12 rfl rfl)
theorem dX0_fewestProps_63 : decode cX0_fewestProps 63 = .ok (.iload_n 2, 1) := dk_28 (dk_at dksX0_fewestProps_2 15 rfl rfl)
theorem dX0_fewestProps_64 : decode cX0_fewestProps 64 = .ok (.if_icmp .ne 8, 3) := dk_160 0 8 (dk_at dksX0_fewestProps_2 16 rfl rfl)
theorem dX0_fewestProps_67 : decode cX0_fewestProps 67 = .ok (.iload 4, 2) := dk_21 4 (dk_at dksX0_fewestProps_2 19 rfl rfl)
theorem dX0_fewestProps_69 : decode cX0_fewestProps 69 = .ok (.goto 4, 3) := dk_167 0 4 (dk_at dksX0_fewestProps_2 21 rfl rfl)
theorem dX0_fewestProps_72 : decode cX0_fewestProps 72 = .ok (.iload_n 3, 1) := dk_29 (dk_at dksX0_fewestProps_3 0 rfl rfl)
theorem dX0_fewestProps_73 : decode cX0_fewestProps 73 = .ok (.istore_n 3, 1) := dk_62 (dk_at dksX0_fewestProps_3 1 rfl rfl)
theorem dX0_fewestProps_74 : decode cX0_fewestProps 74 = .ok (.iinc 4 (-1), 3) := dk_132 4 255 (dk_at dksX0_fewestProps_3 2 rfl rfl)
theorem dX0_fewestProps_77 : decode cX0_fewestProps 77 = .ok (.goto (-63), 3) := dk_167 255 193 (dk_at dksX0_fewestProps_3 5 rfl rfl)
theorem dX0_fewestProps_80 : decode cX0_fewestProps 80 = .ok (.iload_n 3, 1) := dk_29 (dk_at dksX0_fewestProps_3 8 rfl rfl)
theorem dX0_fewestProps_81 : decode cX0_fewestProps 81 = .ok (.ireturn, 1) := dk_172 (dk_at dksX0_fewestProps_3 9 rfl rfl)
abbrev cX0_orderTold : ByteArray := prog_1_method_63_code
def yX0_orderTold : MethodName := ⟨RX0, "orderTold", "(IIIII)I"⟩
def dkwX0_orderTold_3 : List UInt8 := [42, 21, 4, 21, 5, 182, 1, 130, 172]
abbrev dktX0_orderTold_3 : List UInt8 := dkwX0_orderTold_3 ++ []
def dkwX0_orderTold_2 : List UInt8 := [184, 1, 100, 42, 180, 0, 75, 3, 27, 79, 42, 180, 0, 75, 4, 28, 79, 42, 180, 0, 75, 5, 29, 79]
abbrev dktX0_orderTold_2 : List UInt8 := dkwX0_orderTold_2 ++ dktX0_orderTold_3
def dkwX0_orderTold_1 : List UInt8 := [159, 0, 12, 28, 29, 159, 0, 7, 4, 167, 0, 4, 3, 2, 184, 0, 9, 21, 4, 184, 1, 26, 21, 5]
abbrev dktX0_orderTold_1 : List UInt8 := dkwX0_orderTold_1 ++ dktX0_orderTold_2
def dkwX0_orderTold_0 : List UInt8 := [42, 27, 182, 1, 7, 42, 28, 182, 1, 7, 42, 29, 182, 1, 7, 27, 28, 159, 0, 17, 27, 29]
abbrev dktX0_orderTold_0 : List UInt8 := dkwX0_orderTold_0 ++ dktX0_orderTold_1
theorem dksX0_orderTold_0 : cX0_orderTold.data.toList.drop 0 = dktX0_orderTold_0 := by decide +kernel
theorem dksX0_orderTold_1 : cX0_orderTold.data.toList.drop 22 = dktX0_orderTold_1 := dk_seg dksX0_orderTold_0 22 rfl rfl
theorem dksX0_orderTold_2 : cX0_orderTold.data.toList.drop 46 = dktX0_orderTold_2 := dk_seg dksX0_orderTold_1 24 rfl rfl
theorem dksX0_orderTold_3 : cX0_orderTold.data.toList.drop 70 = dktX0_orderTold_3 := dk_seg dksX0_orderTold_2 24 rfl rfl
theorem dX0_orderTold_0 : decode cX0_orderTold 0 = .ok (.aload_n 0, 1) := dk_42 (dk_at dksX0_orderTold_0 0 rfl rfl)
theorem dX0_orderTold_1 : decode cX0_orderTold 1 = .ok (.iload_n 1, 1) := dk_27 (dk_at dksX0_orderTold_0 1 rfl rfl)
theorem dX0_orderTold_2 : decode cX0_orderTold 2 = .ok (.invokevirtual 263, 3) := dk_182 1 7 (dk_at dksX0_orderTold_0 2 rfl rfl)
theorem dX0_orderTold_5 : decode cX0_orderTold 5 = .ok (.aload_n 0, 1) := dk_42 (dk_at dksX0_orderTold_0 5 rfl rfl)
theorem dX0_orderTold_6 : decode cX0_orderTold 6 = .ok (.iload_n 2, 1) := dk_28 (dk_at dksX0_orderTold_0 6 rfl rfl)
theorem dX0_orderTold_7 : decode cX0_orderTold 7 = .ok (.invokevirtual 263, 3) := dk_182 1 7 (dk_at dksX0_orderTold_0 7 rfl rfl)
theorem dX0_orderTold_10 : decode cX0_orderTold 10 = .ok (.aload_n 0, 1) := dk_42 (dk_at dksX0_orderTold_0 10 rfl rfl)
theorem dX0_orderTold_11 : decode cX0_orderTold 11 = .ok (.iload_n 3, 1) := dk_29 (dk_at dksX0_orderTold_0 11 rfl rfl)
theorem dX0_orderTold_12 : decode cX0_orderTold 12 = .ok (.invokevirtual 263, 3) := dk_182 1 7 (dk_at dksX0_orderTold_0 12 rfl rfl)
theorem dX0_orderTold_15 : decode cX0_orderTold 15 = .ok (.iload_n 1, 1) := dk_27 (dk_at dksX0_orderTold_0 15 rfl rfl)
theorem dX0_orderTold_16 : decode cX0_orderTold 16 = .ok (.iload_n 2, 1) := dk_28 (dk_at dksX0_orderTold_0 16 rfl rfl)
theorem dX0_orderTold_17 : decode cX0_orderTold 17 = .ok (.if_icmp .eq 17, 3) := dk_159 0 17 (dk_at dksX0_orderTold_0 17 rfl rfl)
theorem dX0_orderTold_20 : decode cX0_orderTold 20 = .ok (.iload_n 1, 1) := dk_27 (dk_at dksX0_orderTold_0 20 rfl rfl)
theorem dX0_orderTold_21 : decode cX0_orderTold 21 = .ok (.iload_n 3, 1) := dk_29 (dk_at dksX0_orderTold_0 21 rfl rfl)
theorem dX0_orderTold_22 : decode cX0_orderTold 22 = .ok (.if_icmp .eq 12, 3) := dk_159 0 12 (dk_at dksX0_orderTold_1 0 rfl rfl)
theorem dX0_orderTold_25 : decode cX0_orderTold 25 = .ok (.iload_n 2, 1) := dk_28 (dk_at dksX0_orderTold_1 3 rfl rfl)
theorem dX0_orderTold_26 : decode cX0_orderTold 26 = .ok (.iload_n 3, 1) := dk_29 (dk_at dksX0_orderTold_1 4 rfl rfl)
theorem dX0_orderTold_27 : decode cX0_orderTold 27 = .ok (.if_icmp .eq 7, 3) := dk_159 0 7 (dk_at dksX0_orderTold_1 5 rfl rfl)
theorem dX0_orderTold_30 : decode cX0_orderTold 30 = .ok (.iconst 1, 1) := dk_4 (dk_at dksX0_orderTold_1 8 rfl rfl)
theorem dX0_orderTold_31 : decode cX0_orderTold 31 = .ok (.goto 4, 3) := dk_167 0 4 (dk_at dksX0_orderTold_1 9 rfl rfl)
theorem dX0_orderTold_34 : decode cX0_orderTold 34 = .ok (.iconst 0, 1) := dk_3 (dk_at dksX0_orderTold_1 12 rfl rfl)
theorem dX0_orderTold_35 : decode cX0_orderTold 35 = .ok (.iconst (-1), 1) := dk_2 (dk_at dksX0_orderTold_1 13 rfl rfl)
theorem dX0_orderTold_36 : decode cX0_orderTold 36 = .ok (.invokestatic 9, 3) := dk_184 0 9 (dk_at dksX0_orderTold_1 14 rfl rfl)
theorem dX0_orderTold_39 : decode cX0_orderTold 39 = .ok (.iload 4, 2) := dk_21 4 (dk_at dksX0_orderTold_1 17 rfl rfl)
theorem dX0_orderTold_41 : decode cX0_orderTold 41 = .ok (.invokestatic 282, 3) := dk_184 1 26 (dk_at dksX0_orderTold_1 19 rfl rfl)
theorem dX0_orderTold_44 : decode cX0_orderTold 44 = .ok (.iload 5, 2) := dk_21 5 (dk_at dksX0_orderTold_1 22 rfl rfl)
theorem dX0_orderTold_46 : decode cX0_orderTold 46 = .ok (.invokestatic 356, 3) := dk_184 1 100 (dk_at dksX0_orderTold_2 0 rfl rfl)
theorem dX0_orderTold_49 : decode cX0_orderTold 49 = .ok (.aload_n 0, 1) := dk_42 (dk_at dksX0_orderTold_2 3 rfl rfl)
theorem dX0_orderTold_50 : decode cX0_orderTold 50 = .ok (.getfield 75, 3) := dk_180 0 75 (dk_at dksX0_orderTold_2 4 rfl rfl)
theorem dX0_orderTold_53 : decode cX0_orderTold 53 = .ok (.iconst 0, 1) := dk_3 (dk_at dksX0_orderTold_2 7 rfl rfl)
theorem dX0_orderTold_54 : decode cX0_orderTold 54 = .ok (.iload_n 1, 1) := dk_27 (dk_at dksX0_orderTold_2 8 rfl rfl)
theorem dX0_orderTold_55 : decode cX0_orderTold 55 = .ok (.iastore, 1) := dk_79 (dk_at dksX0_orderTold_2 9 rfl rfl)
theorem dX0_orderTold_56 : decode cX0_orderTold 56 = .ok (.aload_n 0, 1) := dk_42 (dk_at dksX0_orderTold_2 10 rfl rfl)
theorem dX0_orderTold_57 : decode cX0_orderTold 57 = .ok (.getfield 75, 3) := dk_180 0 75 (dk_at dksX0_orderTold_2 11 rfl rfl)
theorem dX0_orderTold_60 : decode cX0_orderTold 60 = .ok (.iconst 1, 1) := dk_4 (dk_at dksX0_orderTold_2 14 rfl rfl)
theorem dX0_orderTold_61 : decode cX0_orderTold 61 = .ok (.iload_n 2, 1) := dk_28 (dk_at dksX0_orderTold_2 15 rfl rfl)
theorem dX0_orderTold_62 : decode cX0_orderTold 62 = .ok (.iastore, 1) := dk_79 (dk_at dksX0_orderTold_2 16 rfl rfl)
theorem dX0_orderTold_63 : decode cX0_orderTold 63 = .ok (.aload_n 0, 1) := dk_42 (dk_at dksX0_orderTold_2 17 rfl rfl)
theorem dX0_orderTold_64 : decode cX0_orderTold 64 = .ok (.getfield 75, 3) := dk_180 0 75 (dk_at dksX0_orderTold_2 18 rfl rfl)
theorem dX0_orderTold_67 : decode cX0_orderTold 67 = .ok (.iconst 2, 1) := dk_5 (dk_at dksX0_orderTold_2 21 rfl rfl)
theorem dX0_orderTold_68 : decode cX0_orderTold 68 = .ok (.iload_n 3, 1) := dk_29 (dk_at dksX0_orderTold_2 22 rfl rfl)
theorem dX0_orderTold_69 : decode cX0_orderTold 69 = .ok (.iastore, 1) := dk_79 (dk_at dksX0_orderTold_2 23 rfl rfl)
theorem dX0_orderTold_70 : decode cX0_orderTold 70 = .ok (.aload_n 0, 1) := dk_42 (dk_at dksX0_orderTold_3 0 rfl rfl)
theorem dX0_orderTold_71 : decode cX0_orderTold 71 = .ok (.iload 4, 2) := dk_21 4 (dk_at dksX0_orderTold_3 1 rfl rfl)
theorem dX0_orderTold_73 : decode cX0_orderTold 73 = .ok (.iload 5, 2) := dk_21 5 (dk_at dksX0_orderTold_3 3 rfl rfl)
theorem dX0_orderTold_75 : decode cX0_orderTold 75 = .ok (.invokevirtual 386, 3) := dk_182 1 130 (dk_at dksX0_orderTold_3 5 rfl rfl)
theorem dX0_orderTold_78 : decode cX0_orderTold 78 = .ok (.ireturn, 1) := dk_172 (dk_at dksX0_orderTold_3 8 rfl rfl)
abbrev cX0_bestOrder : ByteArray := prog_1_method_26_code
def yX0_bestOrder : MethodName := ⟨RX0, "bestOrder", "(II)I"⟩
def dkwX0_bestOrder_3 : List UInt8 := [167, 0, 5, 21, 4, 172]
abbrev dktX0_bestOrder_3 : List UInt8 := dkwX0_bestOrder_3 ++ []
def dkwX0_bestOrder_2 : List UInt8 := [29, 62, 21, 4, 21, 6, 184, 0, 183, 54, 4, 132, 5, 1, 167, 255, 205, 28, 154, 0, 7, 29]
abbrev dktX0_bestOrder_2 : List UInt8 := dkwX0_bestOrder_2 ++ dktX0_bestOrder_3
def dkwX0_bestOrder_1 : List UInt8 := [153, 0, 35, 42, 21, 5, 27, 182, 0, 180, 54, 6, 21, 6, 21, 4, 164, 0, 8, 21, 5, 167, 0, 4]
abbrev dktX0_bestOrder_1 : List UInt8 := dkwX0_bestOrder_1 ++ dktX0_bestOrder_2
def dkwX0_bestOrder_0 : List UInt8 := [16, 247, 62, 2, 54, 4, 3, 54, 5, 21, 5, 17, 1, 44, 162, 0, 49, 21, 5, 184, 0, 177]
abbrev dktX0_bestOrder_0 : List UInt8 := dkwX0_bestOrder_0 ++ dktX0_bestOrder_1
theorem dksX0_bestOrder_0 : cX0_bestOrder.data.toList.drop 0 = dktX0_bestOrder_0 := by decide +kernel
theorem dksX0_bestOrder_1 : cX0_bestOrder.data.toList.drop 22 = dktX0_bestOrder_1 := dk_seg dksX0_bestOrder_0 22 rfl rfl
theorem dksX0_bestOrder_2 : cX0_bestOrder.data.toList.drop 46 = dktX0_bestOrder_2 := dk_seg dksX0_bestOrder_1 24 rfl rfl
theorem dksX0_bestOrder_3 : cX0_bestOrder.data.toList.drop 68 = dktX0_bestOrder_3 := dk_seg dksX0_bestOrder_2 22 rfl rfl
theorem dX0_bestOrder_0 : decode cX0_bestOrder 0 = .ok (.bipush (-9), 2) := dk_16 247 (dk_at dksX0_bestOrder_0 0 rfl rfl)
theorem dX0_bestOrder_2 : decode cX0_bestOrder 2 = .ok (.istore_n 3, 1) := dk_62 (dk_at dksX0_bestOrder_0 2 rfl rfl)
theorem dX0_bestOrder_3 : decode cX0_bestOrder 3 = .ok (.iconst (-1), 1) := dk_2 (dk_at dksX0_bestOrder_0 3 rfl rfl)
theorem dX0_bestOrder_4 : decode cX0_bestOrder 4 = .ok (.istore 4, 2) := dk_54 4 (dk_at dksX0_bestOrder_0 4 rfl rfl)
theorem dX0_bestOrder_6 : decode cX0_bestOrder 6 = .ok (.iconst 0, 1) := dk_3 (dk_at dksX0_bestOrder_0 6 rfl rfl)
theorem dX0_bestOrder_7 : decode cX0_bestOrder 7 = .ok (.istore 5, 2) := dk_54 5 (dk_at dksX0_bestOrder_0 7 rfl rfl)
theorem dX0_bestOrder_9 : decode cX0_bestOrder 9 = .ok (.iload 5, 2) := dk_21 5 (dk_at dksX0_bestOrder_0 9 rfl rfl)
theorem dX0_bestOrder_11 : decode cX0_bestOrder 11 = .ok (.sipush 300, 3) := dk_17 1 44 (dk_at dksX0_bestOrder_0 11 rfl rfl)
theorem dX0_bestOrder_14 : decode cX0_bestOrder 14 = .ok (.if_icmp .ge 49, 3) := dk_162 0 49 (dk_at dksX0_bestOrder_0 14 rfl rfl)
theorem dX0_bestOrder_17 : decode cX0_bestOrder 17 = .ok (.iload 5, 2) := dk_21 5 (dk_at dksX0_bestOrder_0 17 rfl rfl)
theorem dX0_bestOrder_19 : decode cX0_bestOrder 19 = .ok (.invokestatic 177, 3) := dk_184 0 177 (dk_at dksX0_bestOrder_0 19 rfl rfl)
theorem dX0_bestOrder_22 : decode cX0_bestOrder 22 = .ok (.ifCond .eq 35, 3) := dk_153 0 35 (dk_at dksX0_bestOrder_1 0 rfl rfl)
theorem dX0_bestOrder_25 : decode cX0_bestOrder 25 = .ok (.aload_n 0, 1) := dk_42 (dk_at dksX0_bestOrder_1 3 rfl rfl)
theorem dX0_bestOrder_26 : decode cX0_bestOrder 26 = .ok (.iload 5, 2) := dk_21 5 (dk_at dksX0_bestOrder_1 4 rfl rfl)
theorem dX0_bestOrder_28 : decode cX0_bestOrder 28 = .ok (.iload_n 1, 1) := dk_27 (dk_at dksX0_bestOrder_1 6 rfl rfl)
theorem dX0_bestOrder_29 : decode cX0_bestOrder 29 = .ok (.invokevirtual 180, 3) := dk_182 0 180 (dk_at dksX0_bestOrder_1 7 rfl rfl)
theorem dX0_bestOrder_32 : decode cX0_bestOrder 32 = .ok (.istore 6, 2) := dk_54 6 (dk_at dksX0_bestOrder_1 10 rfl rfl)
theorem dX0_bestOrder_34 : decode cX0_bestOrder 34 = .ok (.iload 6, 2) := dk_21 6 (dk_at dksX0_bestOrder_1 12 rfl rfl)
theorem dX0_bestOrder_36 : decode cX0_bestOrder 36 = .ok (.iload 4, 2) := dk_21 4 (dk_at dksX0_bestOrder_1 14 rfl rfl)
theorem dX0_bestOrder_38 : decode cX0_bestOrder 38 = .ok (.if_icmp .le 8, 3) := dk_164 0 8 (dk_at dksX0_bestOrder_1 16 rfl rfl)
theorem dX0_bestOrder_41 : decode cX0_bestOrder 41 = .ok (.iload 5, 2) := dk_21 5 (dk_at dksX0_bestOrder_1 19 rfl rfl)
theorem dX0_bestOrder_43 : decode cX0_bestOrder 43 = .ok (.goto 4, 3) := dk_167 0 4 (dk_at dksX0_bestOrder_1 21 rfl rfl)
theorem dX0_bestOrder_46 : decode cX0_bestOrder 46 = .ok (.iload_n 3, 1) := dk_29 (dk_at dksX0_bestOrder_2 0 rfl rfl)
theorem dX0_bestOrder_47 : decode cX0_bestOrder 47 = .ok (.istore_n 3, 1) := dk_62 (dk_at dksX0_bestOrder_2 1 rfl rfl)
theorem dX0_bestOrder_48 : decode cX0_bestOrder 48 = .ok (.iload 4, 2) := dk_21 4 (dk_at dksX0_bestOrder_2 2 rfl rfl)
theorem dX0_bestOrder_50 : decode cX0_bestOrder 50 = .ok (.iload 6, 2) := dk_21 6 (dk_at dksX0_bestOrder_2 4 rfl rfl)
theorem dX0_bestOrder_52 : decode cX0_bestOrder 52 = .ok (.invokestatic 183, 3) := dk_184 0 183 (dk_at dksX0_bestOrder_2 6 rfl rfl)
theorem dX0_bestOrder_55 : decode cX0_bestOrder 55 = .ok (.istore 4, 2) := dk_54 4 (dk_at dksX0_bestOrder_2 9 rfl rfl)
theorem dX0_bestOrder_57 : decode cX0_bestOrder 57 = .ok (.iinc 5 1, 3) := dk_132 5 1 (dk_at dksX0_bestOrder_2 11 rfl rfl)
theorem dX0_bestOrder_60 : decode cX0_bestOrder 60 = .ok (.goto (-51), 3) := dk_167 255 205 (dk_at dksX0_bestOrder_2 14 rfl rfl)
theorem dX0_bestOrder_63 : decode cX0_bestOrder 63 = .ok (.iload_n 2, 1) := dk_28 (dk_at dksX0_bestOrder_2 17 rfl rfl)
theorem dX0_bestOrder_64 : decode cX0_bestOrder 64 = .ok (.ifCond .ne 7, 3) := dk_154 0 7 (dk_at dksX0_bestOrder_2 18 rfl rfl)
theorem dX0_bestOrder_67 : decode cX0_bestOrder 67 = .ok (.iload_n 3, 1) := dk_29 (dk_at dksX0_bestOrder_2 21 rfl rfl)
theorem dX0_bestOrder_68 : decode cX0_bestOrder 68 = .ok (.goto 5, 3) := dk_167 0 5 (dk_at dksX0_bestOrder_3 0 rfl rfl)
theorem dX0_bestOrder_71 : decode cX0_bestOrder 71 = .ok (.iload 4, 2) := dk_21 4 (dk_at dksX0_bestOrder_3 3 rfl rfl)
theorem dX0_bestOrder_73 : decode cX0_bestOrder 73 = .ok (.ireturn, 1) := dk_172 (dk_at dksX0_bestOrder_3 5 rfl rfl)
abbrev cX0_isOrder : ByteArray := prog_1_method_25_code
def yX0_isOrder : MethodName := ⟨RX0, "isOrder", "(I)Z"⟩
def dkwX0_isOrder_2 : List UInt8 := [4, 167, 0, 4, 3, 172]
abbrev dktX0_isOrder_2 : List UInt8 := dkwX0_isOrder_2 ++ []
def dkwX0_isOrder_1 : List UInt8 := [6, 162, 0, 27, 29, 6, 162, 0, 22, 27, 28, 159, 0, 17, 27, 29, 159, 0, 12, 28, 29, 159, 0, 7]
abbrev dktX0_isOrder_1 : List UInt8 := dkwX0_isOrder_1 ++ dktX0_isOrder_2
def dkwX0_isOrder_0 : List UInt8 := [26, 16, 100, 108, 60, 26, 16, 10, 108, 16, 10, 112, 61, 26, 16, 10, 112, 62, 27, 6, 162, 0, 32, 28]
abbrev dktX0_isOrder_0 : List UInt8 := dkwX0_isOrder_0 ++ dktX0_isOrder_1
theorem dksX0_isOrder_0 : cX0_isOrder.data.toList.drop 0 = dktX0_isOrder_0 := by decide +kernel
theorem dksX0_isOrder_1 : cX0_isOrder.data.toList.drop 24 = dktX0_isOrder_1 := dk_seg dksX0_isOrder_0 24 rfl rfl
theorem dksX0_isOrder_2 : cX0_isOrder.data.toList.drop 48 = dktX0_isOrder_2 := dk_seg dksX0_isOrder_1 24 rfl rfl
theorem dX0_isOrder_0 : decode cX0_isOrder 0 = .ok (.iload_n 0, 1) := dk_26 (dk_at dksX0_isOrder_0 0 rfl rfl)
theorem dX0_isOrder_1 : decode cX0_isOrder 1 = .ok (.bipush 100, 2) := dk_16 100 (dk_at dksX0_isOrder_0 1 rfl rfl)
theorem dX0_isOrder_3 : decode cX0_isOrder 3 = .ok (.idiv, 1) := dk_108 (dk_at dksX0_isOrder_0 3 rfl rfl)
theorem dX0_isOrder_4 : decode cX0_isOrder 4 = .ok (.istore_n 1, 1) := dk_60 (dk_at dksX0_isOrder_0 4 rfl rfl)
theorem dX0_isOrder_5 : decode cX0_isOrder 5 = .ok (.iload_n 0, 1) := dk_26 (dk_at dksX0_isOrder_0 5 rfl rfl)
theorem dX0_isOrder_6 : decode cX0_isOrder 6 = .ok (.bipush 10, 2) := dk_16 10 (dk_at dksX0_isOrder_0 6 rfl rfl)
theorem dX0_isOrder_8 : decode cX0_isOrder 8 = .ok (.idiv, 1) := dk_108 (dk_at dksX0_isOrder_0 8 rfl rfl)
theorem dX0_isOrder_9 : decode cX0_isOrder 9 = .ok (.bipush 10, 2) := dk_16 10 (dk_at dksX0_isOrder_0 9 rfl rfl)
theorem dX0_isOrder_11 : decode cX0_isOrder 11 = .ok (.irem, 1) := dk_112 (dk_at dksX0_isOrder_0 11 rfl rfl)
theorem dX0_isOrder_12 : decode cX0_isOrder 12 = .ok (.istore_n 2, 1) := dk_61 (dk_at dksX0_isOrder_0 12 rfl rfl)
theorem dX0_isOrder_13 : decode cX0_isOrder 13 = .ok (.iload_n 0, 1) := dk_26 (dk_at dksX0_isOrder_0 13 rfl rfl)
theorem dX0_isOrder_14 : decode cX0_isOrder 14 = .ok (.bipush 10, 2) := dk_16 10 (dk_at dksX0_isOrder_0 14 rfl rfl)
theorem dX0_isOrder_16 : decode cX0_isOrder 16 = .ok (.irem, 1) := dk_112 (dk_at dksX0_isOrder_0 16 rfl rfl)
theorem dX0_isOrder_17 : decode cX0_isOrder 17 = .ok (.istore_n 3, 1) := dk_62 (dk_at dksX0_isOrder_0 17 rfl rfl)
theorem dX0_isOrder_18 : decode cX0_isOrder 18 = .ok (.iload_n 1, 1) := dk_27 (dk_at dksX0_isOrder_0 18 rfl rfl)
theorem dX0_isOrder_19 : decode cX0_isOrder 19 = .ok (.iconst 3, 1) := dk_6 (dk_at dksX0_isOrder_0 19 rfl rfl)
theorem dX0_isOrder_20 : decode cX0_isOrder 20 = .ok (.if_icmp .ge 32, 3) := dk_162 0 32 (dk_at dksX0_isOrder_0 20 rfl rfl)
theorem dX0_isOrder_23 : decode cX0_isOrder 23 = .ok (.iload_n 2, 1) := dk_28 (dk_at dksX0_isOrder_0 23 rfl rfl)
theorem dX0_isOrder_24 : decode cX0_isOrder 24 = .ok (.iconst 3, 1) := dk_6 (dk_at dksX0_isOrder_1 0 rfl rfl)
theorem dX0_isOrder_25 : decode cX0_isOrder 25 = .ok (.if_icmp .ge 27, 3) := dk_162 0 27 (dk_at dksX0_isOrder_1 1 rfl rfl)
theorem dX0_isOrder_28 : decode cX0_isOrder 28 = .ok (.iload_n 3, 1) := dk_29 (dk_at dksX0_isOrder_1 4 rfl rfl)
theorem dX0_isOrder_29 : decode cX0_isOrder 29 = .ok (.iconst 3, 1) := dk_6 (dk_at dksX0_isOrder_1 5 rfl rfl)
theorem dX0_isOrder_30 : decode cX0_isOrder 30 = .ok (.if_icmp .ge 22, 3) := dk_162 0 22 (dk_at dksX0_isOrder_1 6 rfl rfl)
theorem dX0_isOrder_33 : decode cX0_isOrder 33 = .ok (.iload_n 1, 1) := dk_27 (dk_at dksX0_isOrder_1 9 rfl rfl)
theorem dX0_isOrder_34 : decode cX0_isOrder 34 = .ok (.iload_n 2, 1) := dk_28 (dk_at dksX0_isOrder_1 10 rfl rfl)
theorem dX0_isOrder_35 : decode cX0_isOrder 35 = .ok (.if_icmp .eq 17, 3) := dk_159 0 17 (dk_at dksX0_isOrder_1 11 rfl rfl)
theorem dX0_isOrder_38 : decode cX0_isOrder 38 = .ok (.iload_n 1, 1) := dk_27 (dk_at dksX0_isOrder_1 14 rfl rfl)
theorem dX0_isOrder_39 : decode cX0_isOrder 39 = .ok (.iload_n 3, 1) := dk_29 (dk_at dksX0_isOrder_1 15 rfl rfl)
theorem dX0_isOrder_40 : decode cX0_isOrder 40 = .ok (.if_icmp .eq 12, 3) := dk_159 0 12 (dk_at dksX0_isOrder_1 16 rfl rfl)
theorem dX0_isOrder_43 : decode cX0_isOrder 43 = .ok (.iload_n 2, 1) := dk_28 (dk_at dksX0_isOrder_1 19 rfl rfl)
theorem dX0_isOrder_44 : decode cX0_isOrder 44 = .ok (.iload_n 3, 1) := dk_29 (dk_at dksX0_isOrder_1 20 rfl rfl)
theorem dX0_isOrder_45 : decode cX0_isOrder 45 = .ok (.if_icmp .eq 7, 3) := dk_159 0 7 (dk_at dksX0_isOrder_1 21 rfl rfl)
theorem dX0_isOrder_48 : decode cX0_isOrder 48 = .ok (.iconst 1, 1) := dk_4 (dk_at dksX0_isOrder_2 0 rfl rfl)
theorem dX0_isOrder_49 : decode cX0_isOrder 49 = .ok (.goto 4, 3) := dk_167 0 4 (dk_at dksX0_isOrder_2 1 rfl rfl)
theorem dX0_isOrder_52 : decode cX0_isOrder 52 = .ok (.iconst 0, 1) := dk_3 (dk_at dksX0_isOrder_2 4 rfl rfl)
theorem dX0_isOrder_53 : decode cX0_isOrder 53 = .ok (.ireturn, 1) := dk_172 (dk_at dksX0_isOrder_2 5 rfl rfl)
abbrev cX0_standingBy : ByteArray := prog_1_method_24_code
def yX0_standingBy : MethodName := ⟨RX0, "standingBy", "(II)I"⟩
def dkwX0_standingBy_4 : List UInt8 := [21, 7, 28, 182, 0, 144, 87, 45, 3, 182, 0, 127, 132, 5, 1, 167, 255, 158, 45, 182, 0, 165, 172]
abbrev dktX0_standingBy_4 : List UInt8 := dkwX0_standingBy_4 ++ []
def dkwX0_standingBy_3 : List UInt8 := [16, 10, 112, 46, 54, 7, 21, 7, 16, 247, 159, 0, 20, 45, 21, 7, 182, 0, 154, 153, 0, 11, 45]
abbrev dktX0_standingBy_3 : List UInt8 := dkwX0_standingBy_3 ++ dktX0_standingBy_4
def dkwX0_standingBy_2 : List UInt8 := [108, 167, 0, 25, 21, 6, 4, 160, 0, 14, 21, 4, 16, 10, 108, 16, 10, 112, 167, 0, 8, 21, 4]
abbrev dktX0_standingBy_2 : List UInt8 := dkwX0_standingBy_2 ++ dktX0_standingBy_3
def dkwX0_standingBy_1 : List UInt8 := [21, 6, 156, 0, 8, 16, 247, 167, 0, 44, 42, 180, 0, 75, 21, 6, 5, 160, 0, 11, 21, 4, 16, 100]
abbrev dktX0_standingBy_1 : List UInt8 := dkwX0_standingBy_1 ++ dktX0_standingBy_2
def dkwX0_standingBy_0 : List UInt8 := [42, 182, 0, 116, 78, 27, 54, 4, 3, 54, 5, 21, 5, 16, 10, 162, 0, 97, 5, 21, 5, 100, 54, 6]
abbrev dktX0_standingBy_0 : List UInt8 := dkwX0_standingBy_0 ++ dktX0_standingBy_1
theorem dksX0_standingBy_0 : cX0_standingBy.data.toList.drop 0 = dktX0_standingBy_0 := by decide +kernel
theorem dksX0_standingBy_1 : cX0_standingBy.data.toList.drop 24 = dktX0_standingBy_1 := dk_seg dksX0_standingBy_0 24 rfl rfl
theorem dksX0_standingBy_2 : cX0_standingBy.data.toList.drop 48 = dktX0_standingBy_2 := dk_seg dksX0_standingBy_1 24 rfl rfl
theorem dksX0_standingBy_3 : cX0_standingBy.data.toList.drop 71 = dktX0_standingBy_3 := dk_seg dksX0_standingBy_2 23 rfl rfl
theorem dksX0_standingBy_4 : cX0_standingBy.data.toList.drop 94 = dktX0_standingBy_4 := dk_seg dksX0_standingBy_3 23 rfl rfl
theorem dX0_standingBy_0 : decode cX0_standingBy 0 = .ok (.aload_n 0, 1) := dk_42 (dk_at dksX0_standingBy_0 0 rfl rfl)
theorem dX0_standingBy_1 : decode cX0_standingBy 1 = .ok (.invokevirtual 116, 3) := dk_182 0 116 (dk_at dksX0_standingBy_0 1 rfl rfl)
theorem dX0_standingBy_4 : decode cX0_standingBy 4 = .ok (.astore_n 3, 1) := dk_78 (dk_at dksX0_standingBy_0 4 rfl rfl)
theorem dX0_standingBy_5 : decode cX0_standingBy 5 = .ok (.iload_n 1, 1) := dk_27 (dk_at dksX0_standingBy_0 5 rfl rfl)
theorem dX0_standingBy_6 : decode cX0_standingBy 6 = .ok (.istore 4, 2) := dk_54 4 (dk_at dksX0_standingBy_0 6 rfl rfl)
theorem dX0_standingBy_8 : decode cX0_standingBy 8 = .ok (.iconst 0, 1) := dk_3 (dk_at dksX0_standingBy_0 8 rfl rfl)
theorem dX0_standingBy_9 : decode cX0_standingBy 9 = .ok (.istore 5, 2) := dk_54 5 (dk_at dksX0_standingBy_0 9 rfl rfl)
theorem dX0_standingBy_11 : decode cX0_standingBy 11 = .ok (.iload 5, 2) := dk_21 5 (dk_at dksX0_standingBy_0 11 rfl rfl)
theorem dX0_standingBy_13 : decode cX0_standingBy 13 = .ok (.bipush 10, 2) := dk_16 10 (dk_at dksX0_standingBy_0 13 rfl rfl)
theorem dX0_standingBy_15 : decode cX0_standingBy 15 = .ok (.if_icmp .ge 97, 3) := dk_162 0 97 (dk_at dksX0_standingBy_0 15 rfl rfl)
theorem dX0_standingBy_18 : decode cX0_standingBy 18 = .ok (.iconst 2, 1) := dk_5 (dk_at dksX0_standingBy_0 18 rfl rfl)
theorem dX0_standingBy_19 : decode cX0_standingBy 19 = .ok (.iload 5, 2) := dk_21 5 (dk_at dksX0_standingBy_0 19 rfl rfl)
theorem dX0_standingBy_21 : decode cX0_standingBy 21 = .ok (.isub, 1) := dk_100 (dk_at dksX0_standingBy_0 21 rfl rfl)
theorem dX0_standingBy_22 : decode cX0_standingBy 22 = .ok (.istore 6, 2) := dk_54 6 (dk_at dksX0_standingBy_0 22 rfl rfl)
theorem dX0_standingBy_24 : decode cX0_standingBy 24 = .ok (.iload 6, 2) := dk_21 6 (dk_at dksX0_standingBy_1 0 rfl rfl)
theorem dX0_standingBy_26 : decode cX0_standingBy 26 = .ok (.ifCond .ge 8, 3) := dk_156 0 8 (dk_at dksX0_standingBy_1 2 rfl rfl)
theorem dX0_standingBy_29 : decode cX0_standingBy 29 = .ok (.bipush (-9), 2) := dk_16 247 (dk_at dksX0_standingBy_1 5 rfl rfl)
theorem dX0_standingBy_31 : decode cX0_standingBy 31 = .ok (.goto 44, 3) := dk_167 0 44 (dk_at dksX0_standingBy_1 7 rfl rfl)
theorem dX0_standingBy_34 : decode cX0_standingBy 34 = .ok (.aload_n 0, 1) := dk_42 (dk_at dksX0_standingBy_1 10 rfl rfl)
theorem dX0_standingBy_35 : decode cX0_standingBy 35 = .ok (.getfield 75, 3) := dk_180 0 75 (dk_at dksX0_standingBy_1 11 rfl rfl)
theorem dX0_standingBy_38 : decode cX0_standingBy 38 = .ok (.iload 6, 2) := dk_21 6 (dk_at dksX0_standingBy_1 14 rfl rfl)
theorem dX0_standingBy_40 : decode cX0_standingBy 40 = .ok (.iconst 2, 1) := dk_5 (dk_at dksX0_standingBy_1 16 rfl rfl)
theorem dX0_standingBy_41 : decode cX0_standingBy 41 = .ok (.if_icmp .ne 11, 3) := dk_160 0 11 (dk_at dksX0_standingBy_1 17 rfl rfl)
theorem dX0_standingBy_44 : decode cX0_standingBy 44 = .ok (.iload 4, 2) := dk_21 4 (dk_at dksX0_standingBy_1 20 rfl rfl)
theorem dX0_standingBy_46 : decode cX0_standingBy 46 = .ok (.bipush 100, 2) := dk_16 100 (dk_at dksX0_standingBy_1 22 rfl rfl)
theorem dX0_standingBy_48 : decode cX0_standingBy 48 = .ok (.idiv, 1) := dk_108 (dk_at dksX0_standingBy_2 0 rfl rfl)
theorem dX0_standingBy_49 : decode cX0_standingBy 49 = .ok (.goto 25, 3) := dk_167 0 25 (dk_at dksX0_standingBy_2 1 rfl rfl)
theorem dX0_standingBy_52 : decode cX0_standingBy 52 = .ok (.iload 6, 2) := dk_21 6 (dk_at dksX0_standingBy_2 4 rfl rfl)
theorem dX0_standingBy_54 : decode cX0_standingBy 54 = .ok (.iconst 1, 1) := dk_4 (dk_at dksX0_standingBy_2 6 rfl rfl)
theorem dX0_standingBy_55 : decode cX0_standingBy 55 = .ok (.if_icmp .ne 14, 3) := dk_160 0 14 (dk_at dksX0_standingBy_2 7 rfl rfl)
theorem dX0_standingBy_58 : decode cX0_standingBy 58 = .ok (.iload 4, 2) := dk_21 4 (dk_at dksX0_standingBy_2 10 rfl rfl)
theorem dX0_standingBy_60 : decode cX0_standingBy 60 = .ok (.bipush 10, 2) := dk_16 10 (dk_at dksX0_standingBy_2 12 rfl rfl)
theorem dX0_standingBy_62 : decode cX0_standingBy 62 = .ok (.idiv, 1) := dk_108 (dk_at dksX0_standingBy_2 14 rfl rfl)
theorem dX0_standingBy_63 : decode cX0_standingBy 63 = .ok (.bipush 10, 2) := dk_16 10 (dk_at dksX0_standingBy_2 15 rfl rfl)
theorem dX0_standingBy_65 : decode cX0_standingBy 65 = .ok (.irem, 1) := dk_112 (dk_at dksX0_standingBy_2 17 rfl rfl)
theorem dX0_standingBy_66 : decode cX0_standingBy 66 = .ok (.goto 8, 3) := dk_167 0 8 (dk_at dksX0_standingBy_2 18 rfl rfl)
theorem dX0_standingBy_69 : decode cX0_standingBy 69 = .ok (.iload 4, 2) := dk_21 4 (dk_at dksX0_standingBy_2 21 rfl rfl)
theorem dX0_standingBy_71 : decode cX0_standingBy 71 = .ok (.bipush 10, 2) := dk_16 10 (dk_at dksX0_standingBy_3 0 rfl rfl)
theorem dX0_standingBy_73 : decode cX0_standingBy 73 = .ok (.irem, 1) := dk_112 (dk_at dksX0_standingBy_3 2 rfl rfl)
theorem dX0_standingBy_74 : decode cX0_standingBy 74 = .ok (.iaload, 1) := dk_46 (dk_at dksX0_standingBy_3 3 rfl rfl)
theorem dX0_standingBy_75 : decode cX0_standingBy 75 = .ok (.istore 7, 2) := dk_54 7 (dk_at dksX0_standingBy_3 4 rfl rfl)
theorem dX0_standingBy_77 : decode cX0_standingBy 77 = .ok (.iload 7, 2) := dk_21 7 (dk_at dksX0_standingBy_3 6 rfl rfl)
theorem dX0_standingBy_79 : decode cX0_standingBy 79 = .ok (.bipush (-9), 2) := dk_16 247 (dk_at dksX0_standingBy_3 8 rfl rfl)
theorem dX0_standingBy_81 : decode cX0_standingBy 81 = .ok (.if_icmp .eq 20, 3) := dk_159 0 20 (dk_at dksX0_standingBy_3 10 rfl rfl)
theorem dX0_standingBy_84 : decode cX0_standingBy 84 = .ok (.aload_n 3, 1) := dk_45 (dk_at dksX0_standingBy_3 13 rfl rfl)
theorem dX0_standingBy_85 : decode cX0_standingBy 85 = .ok (.iload 7, 2) := dk_21 7 (dk_at dksX0_standingBy_3 14 rfl rfl)
theorem dX0_standingBy_87 : decode cX0_standingBy 87 = .ok (.invokevirtual 154, 3) := dk_182 0 154 (dk_at dksX0_standingBy_3 16 rfl rfl)
theorem dX0_standingBy_90 : decode cX0_standingBy 90 = .ok (.ifCond .eq 11, 3) := dk_153 0 11 (dk_at dksX0_standingBy_3 19 rfl rfl)
theorem dX0_standingBy_93 : decode cX0_standingBy 93 = .ok (.aload_n 3, 1) := dk_45 (dk_at dksX0_standingBy_3 22 rfl rfl)
theorem dX0_standingBy_94 : decode cX0_standingBy 94 = .ok (.iload 7, 2) := dk_21 7 (dk_at dksX0_standingBy_4 0 rfl rfl)
theorem dX0_standingBy_96 : decode cX0_standingBy 96 = .ok (.iload_n 2, 1) := dk_28 (dk_at dksX0_standingBy_4 2 rfl rfl)
theorem dX0_standingBy_97 : decode cX0_standingBy 97 = .ok (.invokevirtual 144, 3) := dk_182 0 144 (dk_at dksX0_standingBy_4 3 rfl rfl)
theorem dX0_standingBy_100 : decode cX0_standingBy 100 = .ok (.pop, 1) := dk_87 (dk_at dksX0_standingBy_4 6 rfl rfl)
theorem dX0_standingBy_101 : decode cX0_standingBy 101 = .ok (.aload_n 3, 1) := dk_45 (dk_at dksX0_standingBy_4 7 rfl rfl)
theorem dX0_standingBy_102 : decode cX0_standingBy 102 = .ok (.iconst 0, 1) := dk_3 (dk_at dksX0_standingBy_4 8 rfl rfl)
theorem dX0_standingBy_103 : decode cX0_standingBy 103 = .ok (.invokevirtual 127, 3) := dk_182 0 127 (dk_at dksX0_standingBy_4 9 rfl rfl)
theorem dX0_standingBy_106 : decode cX0_standingBy 106 = .ok (.iinc 5 1, 3) := dk_132 5 1 (dk_at dksX0_standingBy_4 12 rfl rfl)
theorem dX0_standingBy_109 : decode cX0_standingBy 109 = .ok (.goto (-98), 3) := dk_167 255 158 (dk_at dksX0_standingBy_4 15 rfl rfl)
theorem dX0_standingBy_112 : decode cX0_standingBy 112 = .ok (.aload_n 3, 1) := dk_45 (dk_at dksX0_standingBy_4 18 rfl rfl)
theorem dX0_standingBy_113 : decode cX0_standingBy 113 = .ok (.invokevirtual 165, 3) := dk_182 0 165 (dk_at dksX0_standingBy_4 19 rfl rfl)
theorem dX0_standingBy_116 : decode cX0_standingBy 116 = .ok (.ireturn, 1) := dk_172 (dk_at dksX0_standingBy_4 22 rfl rfl)
abbrev cX0_floorTold : ByteArray := prog_1_method_64_code
def yX0_floorTold : MethodName := ⟨RX0, "floorTold", "(I)I"⟩
def dkwX0_floorTold_1 : List UInt8 := [167, 0, 5, 16, 247, 172]
abbrev dktX0_floorTold_1 : List UInt8 := dkwX0_floorTold_1 ++ []
def dkwX0_floorTold_0 : List UInt8 := [27, 184, 1, 26, 42, 180, 0, 53, 180, 1, 32, 153, 0, 14, 42, 182, 0, 116, 27, 182, 1, 36]
abbrev dktX0_floorTold_0 : List UInt8 := dkwX0_floorTold_0 ++ dktX0_floorTold_1
theorem dksX0_floorTold_0 : cX0_floorTold.data.toList.drop 0 = dktX0_floorTold_0 := by decide +kernel
theorem dksX0_floorTold_1 : cX0_floorTold.data.toList.drop 22 = dktX0_floorTold_1 := dk_seg dksX0_floorTold_0 22 rfl rfl
theorem dX0_floorTold_0 : decode cX0_floorTold 0 = .ok (.iload_n 1, 1) := dk_27 (dk_at dksX0_floorTold_0 0 rfl rfl)
theorem dX0_floorTold_1 : decode cX0_floorTold 1 = .ok (.invokestatic 282, 3) := dk_184 1 26 (dk_at dksX0_floorTold_0 1 rfl rfl)
theorem dX0_floorTold_4 : decode cX0_floorTold 4 = .ok (.aload_n 0, 1) := dk_42 (dk_at dksX0_floorTold_0 4 rfl rfl)
theorem dX0_floorTold_5 : decode cX0_floorTold 5 = .ok (.getfield 53, 3) := dk_180 0 53 (dk_at dksX0_floorTold_0 5 rfl rfl)
theorem dX0_floorTold_8 : decode cX0_floorTold 8 = .ok (.getfield 288, 3) := dk_180 1 32 (dk_at dksX0_floorTold_0 8 rfl rfl)
theorem dX0_floorTold_11 : decode cX0_floorTold 11 = .ok (.ifCond .eq 14, 3) := dk_153 0 14 (dk_at dksX0_floorTold_0 11 rfl rfl)
theorem dX0_floorTold_14 : decode cX0_floorTold 14 = .ok (.aload_n 0, 1) := dk_42 (dk_at dksX0_floorTold_0 14 rfl rfl)
theorem dX0_floorTold_15 : decode cX0_floorTold 15 = .ok (.invokevirtual 116, 3) := dk_182 0 116 (dk_at dksX0_floorTold_0 15 rfl rfl)
theorem dX0_floorTold_18 : decode cX0_floorTold 18 = .ok (.iload_n 1, 1) := dk_27 (dk_at dksX0_floorTold_0 18 rfl rfl)
theorem dX0_floorTold_19 : decode cX0_floorTold 19 = .ok (.invokevirtual 292, 3) := dk_182 1 36 (dk_at dksX0_floorTold_0 19 rfl rfl)
theorem dX0_floorTold_22 : decode cX0_floorTold 22 = .ok (.goto 5, 3) := dk_167 0 5 (dk_at dksX0_floorTold_1 0 rfl rfl)
theorem dX0_floorTold_25 : decode cX0_floorTold 25 = .ok (.bipush (-9), 2) := dk_16 247 (dk_at dksX0_floorTold_1 3 rfl rfl)
theorem dX0_floorTold_27 : decode cX0_floorTold 27 = .ok (.ireturn, 1) := dk_172 (dk_at dksX0_floorTold_1 5 rfl rfl)
abbrev cX0_watchedTold : ByteArray := prog_1_method_65_code
def yX0_watchedTold : MethodName := ⟨RX0, "watchedTold", "(I)I"⟩
def dkwX0_watchedTold_1 : List UInt8 := [167, 0, 4, 3, 172]
abbrev dktX0_watchedTold_1 : List UInt8 := dkwX0_watchedTold_1 ++ []
def dkwX0_watchedTold_0 : List UInt8 := [27, 184, 1, 100, 27, 154, 0, 10, 42, 182, 1, 133, 167, 0, 15, 42, 182, 1, 136, 153, 0, 7, 4]
abbrev dktX0_watchedTold_0 : List UInt8 := dkwX0_watchedTold_0 ++ dktX0_watchedTold_1
theorem dksX0_watchedTold_0 : cX0_watchedTold.data.toList.drop 0 = dktX0_watchedTold_0 := by decide +kernel
theorem dksX0_watchedTold_1 : cX0_watchedTold.data.toList.drop 23 = dktX0_watchedTold_1 := dk_seg dksX0_watchedTold_0 23 rfl rfl
theorem dX0_watchedTold_0 : decode cX0_watchedTold 0 = .ok (.iload_n 1, 1) := dk_27 (dk_at dksX0_watchedTold_0 0 rfl rfl)
theorem dX0_watchedTold_1 : decode cX0_watchedTold 1 = .ok (.invokestatic 356, 3) := dk_184 1 100 (dk_at dksX0_watchedTold_0 1 rfl rfl)
theorem dX0_watchedTold_4 : decode cX0_watchedTold 4 = .ok (.iload_n 1, 1) := dk_27 (dk_at dksX0_watchedTold_0 4 rfl rfl)
theorem dX0_watchedTold_5 : decode cX0_watchedTold 5 = .ok (.ifCond .ne 10, 3) := dk_154 0 10 (dk_at dksX0_watchedTold_0 5 rfl rfl)
theorem dX0_watchedTold_8 : decode cX0_watchedTold 8 = .ok (.aload_n 0, 1) := dk_42 (dk_at dksX0_watchedTold_0 8 rfl rfl)
theorem dX0_watchedTold_9 : decode cX0_watchedTold 9 = .ok (.invokevirtual 389, 3) := dk_182 1 133 (dk_at dksX0_watchedTold_0 9 rfl rfl)
theorem dX0_watchedTold_12 : decode cX0_watchedTold 12 = .ok (.goto 15, 3) := dk_167 0 15 (dk_at dksX0_watchedTold_0 12 rfl rfl)
theorem dX0_watchedTold_15 : decode cX0_watchedTold 15 = .ok (.aload_n 0, 1) := dk_42 (dk_at dksX0_watchedTold_0 15 rfl rfl)
theorem dX0_watchedTold_16 : decode cX0_watchedTold 16 = .ok (.invokevirtual 392, 3) := dk_182 1 136 (dk_at dksX0_watchedTold_0 16 rfl rfl)
theorem dX0_watchedTold_19 : decode cX0_watchedTold 19 = .ok (.ifCond .eq 7, 3) := dk_153 0 7 (dk_at dksX0_watchedTold_0 19 rfl rfl)
theorem dX0_watchedTold_22 : decode cX0_watchedTold 22 = .ok (.iconst 1, 1) := dk_4 (dk_at dksX0_watchedTold_0 22 rfl rfl)
theorem dX0_watchedTold_23 : decode cX0_watchedTold 23 = .ok (.goto 4, 3) := dk_167 0 4 (dk_at dksX0_watchedTold_1 0 rfl rfl)
theorem dX0_watchedTold_26 : decode cX0_watchedTold 26 = .ok (.iconst 0, 1) := dk_3 (dk_at dksX0_watchedTold_1 3 rfl rfl)
theorem dX0_watchedTold_27 : decode cX0_watchedTold 27 = .ok (.ireturn, 1) := dk_172 (dk_at dksX0_watchedTold_1 4 rfl rfl)
abbrev cX0_watching : ByteArray := prog_1_method_27_code
def yX0_watching : MethodName := ⟨RX0, "watching", "()I"⟩
def dkwX0_watching_2 : List UInt8 := [182, 0, 189, 153, 0, 7, 4, 167, 0, 4, 3, 96, 60, 132, 2, 1, 167, 255, 197, 27, 172]
abbrev dktX0_watching_2 : List UInt8 := dkwX0_watching_2 ++ []
def dkwX0_watching_1 : List UInt8 := [153, 0, 33, 42, 180, 0, 53, 28, 182, 0, 154, 153, 0, 22, 42, 180, 0, 53, 180, 0, 186, 28, 50]
abbrev dktX0_watching_1 : List UInt8 := dkwX0_watching_1 ++ dktX0_watching_2
def dkwX0_watching_0 : List UInt8 := [3, 60, 3, 61, 28, 42, 180, 0, 53, 180, 0, 134, 162, 0, 54, 27, 42, 180, 0, 53, 4, 182, 0, 130]
abbrev dktX0_watching_0 : List UInt8 := dkwX0_watching_0 ++ dktX0_watching_1
theorem dksX0_watching_0 : cX0_watching.data.toList.drop 0 = dktX0_watching_0 := by decide +kernel
theorem dksX0_watching_1 : cX0_watching.data.toList.drop 24 = dktX0_watching_1 := dk_seg dksX0_watching_0 24 rfl rfl
theorem dksX0_watching_2 : cX0_watching.data.toList.drop 47 = dktX0_watching_2 := dk_seg dksX0_watching_1 23 rfl rfl
theorem dX0_watching_0 : decode cX0_watching 0 = .ok (.iconst 0, 1) := dk_3 (dk_at dksX0_watching_0 0 rfl rfl)
theorem dX0_watching_1 : decode cX0_watching 1 = .ok (.istore_n 1, 1) := dk_60 (dk_at dksX0_watching_0 1 rfl rfl)
theorem dX0_watching_2 : decode cX0_watching 2 = .ok (.iconst 0, 1) := dk_3 (dk_at dksX0_watching_0 2 rfl rfl)
theorem dX0_watching_3 : decode cX0_watching 3 = .ok (.istore_n 2, 1) := dk_61 (dk_at dksX0_watching_0 3 rfl rfl)
theorem dX0_watching_4 : decode cX0_watching 4 = .ok (.iload_n 2, 1) := dk_28 (dk_at dksX0_watching_0 4 rfl rfl)
theorem dX0_watching_5 : decode cX0_watching 5 = .ok (.aload_n 0, 1) := dk_42 (dk_at dksX0_watching_0 5 rfl rfl)
theorem dX0_watching_6 : decode cX0_watching 6 = .ok (.getfield 53, 3) := dk_180 0 53 (dk_at dksX0_watching_0 6 rfl rfl)
theorem dX0_watching_9 : decode cX0_watching 9 = .ok (.getfield 134, 3) := dk_180 0 134 (dk_at dksX0_watching_0 9 rfl rfl)
theorem dX0_watching_12 : decode cX0_watching 12 = .ok (.if_icmp .ge 54, 3) := dk_162 0 54 (dk_at dksX0_watching_0 12 rfl rfl)
theorem dX0_watching_15 : decode cX0_watching 15 = .ok (.iload_n 1, 1) := dk_27 (dk_at dksX0_watching_0 15 rfl rfl)
theorem dX0_watching_16 : decode cX0_watching 16 = .ok (.aload_n 0, 1) := dk_42 (dk_at dksX0_watching_0 16 rfl rfl)
theorem dX0_watching_17 : decode cX0_watching 17 = .ok (.getfield 53, 3) := dk_180 0 53 (dk_at dksX0_watching_0 17 rfl rfl)
theorem dX0_watching_20 : decode cX0_watching 20 = .ok (.iconst 1, 1) := dk_4 (dk_at dksX0_watching_0 20 rfl rfl)
theorem dX0_watching_21 : decode cX0_watching 21 = .ok (.invokevirtual 130, 3) := dk_182 0 130 (dk_at dksX0_watching_0 21 rfl rfl)
theorem dX0_watching_24 : decode cX0_watching 24 = .ok (.ifCond .eq 33, 3) := dk_153 0 33 (dk_at dksX0_watching_1 0 rfl rfl)
theorem dX0_watching_27 : decode cX0_watching 27 = .ok (.aload_n 0, 1) := dk_42 (dk_at dksX0_watching_1 3 rfl rfl)
theorem dX0_watching_28 : decode cX0_watching 28 = .ok (.getfield 53, 3) := dk_180 0 53 (dk_at dksX0_watching_1 4 rfl rfl)
theorem dX0_watching_31 : decode cX0_watching 31 = .ok (.iload_n 2, 1) := dk_28 (dk_at dksX0_watching_1 7 rfl rfl)
theorem dX0_watching_32 : decode cX0_watching 32 = .ok (.invokevirtual 154, 3) := dk_182 0 154 (dk_at dksX0_watching_1 8 rfl rfl)
theorem dX0_watching_35 : decode cX0_watching 35 = .ok (.ifCond .eq 22, 3) := dk_153 0 22 (dk_at dksX0_watching_1 11 rfl rfl)
theorem dX0_watching_38 : decode cX0_watching 38 = .ok (.aload_n 0, 1) := dk_42 (dk_at dksX0_watching_1 14 rfl rfl)
theorem dX0_watching_39 : decode cX0_watching 39 = .ok (.getfield 53, 3) := dk_180 0 53 (dk_at dksX0_watching_1 15 rfl rfl)
theorem dX0_watching_42 : decode cX0_watching 42 = .ok (.getfield 186, 3) := dk_180 0 186 (dk_at dksX0_watching_1 18 rfl rfl)
theorem dX0_watching_45 : decode cX0_watching 45 = .ok (.iload_n 2, 1) := dk_28 (dk_at dksX0_watching_1 21 rfl rfl)
theorem dX0_watching_46 : decode cX0_watching 46 = .ok (.aaload, 1) := dk_50 (dk_at dksX0_watching_1 22 rfl rfl)
theorem dX0_watching_47 : decode cX0_watching 47 = .ok (.invokevirtual 189, 3) := dk_182 0 189 (dk_at dksX0_watching_2 0 rfl rfl)
theorem dX0_watching_50 : decode cX0_watching 50 = .ok (.ifCond .eq 7, 3) := dk_153 0 7 (dk_at dksX0_watching_2 3 rfl rfl)
theorem dX0_watching_53 : decode cX0_watching 53 = .ok (.iconst 1, 1) := dk_4 (dk_at dksX0_watching_2 6 rfl rfl)
theorem dX0_watching_54 : decode cX0_watching 54 = .ok (.goto 4, 3) := dk_167 0 4 (dk_at dksX0_watching_2 7 rfl rfl)
theorem dX0_watching_57 : decode cX0_watching 57 = .ok (.iconst 0, 1) := dk_3 (dk_at dksX0_watching_2 10 rfl rfl)
theorem dX0_watching_58 : decode cX0_watching 58 = .ok (.iadd, 1) := dk_96 (dk_at dksX0_watching_2 11 rfl rfl)
theorem dX0_watching_59 : decode cX0_watching 59 = .ok (.istore_n 1, 1) := dk_60 (dk_at dksX0_watching_2 12 rfl rfl)
theorem dX0_watching_60 : decode cX0_watching 60 = .ok (.iinc 2 1, 3) := dk_132 2 1 (dk_at dksX0_watching_2 13 rfl rfl)
theorem dX0_watching_63 : decode cX0_watching 63 = .ok (.goto (-59), 3) := dk_167 255 197 (dk_at dksX0_watching_2 16 rfl rfl)
theorem dX0_watching_66 : decode cX0_watching 66 = .ok (.iload_n 1, 1) := dk_27 (dk_at dksX0_watching_2 19 rfl rfl)
theorem dX0_watching_67 : decode cX0_watching 67 = .ok (.ireturn, 1) := dk_172 (dk_at dksX0_watching_2 20 rfl rfl)
abbrev cX0_isSure : ByteArray := prog_1_method_28_code
def yX0_isSure : MethodName := ⟨RX0, "isSure", "()Z"⟩
def dkwX0_isSure_2 : List UInt8 := [167, 255, 212, 27, 172]
abbrev dktX0_isSure_2 : List UInt8 := dkwX0_isSure_2 ++ []
def dkwX0_isSure_1 : List UInt8 := [153, 0, 14, 42, 180, 0, 53, 28, 182, 0, 193, 153, 0, 7, 4, 167, 0, 4, 3, 126, 60, 132, 2, 1]
abbrev dktX0_isSure_1 : List UInt8 := dkwX0_isSure_1 ++ dktX0_isSure_2
def dkwX0_isSure_0 : List UInt8 := [4, 60, 3, 61, 28, 42, 180, 0, 53, 180, 0, 134, 162, 0, 39, 27, 42, 180, 0, 53, 28, 182, 0, 154]
abbrev dktX0_isSure_0 : List UInt8 := dkwX0_isSure_0 ++ dktX0_isSure_1
theorem dksX0_isSure_0 : cX0_isSure.data.toList.drop 0 = dktX0_isSure_0 := by decide +kernel
theorem dksX0_isSure_1 : cX0_isSure.data.toList.drop 24 = dktX0_isSure_1 := dk_seg dksX0_isSure_0 24 rfl rfl
theorem dksX0_isSure_2 : cX0_isSure.data.toList.drop 48 = dktX0_isSure_2 := dk_seg dksX0_isSure_1 24 rfl rfl
theorem dX0_isSure_0 : decode cX0_isSure 0 = .ok (.iconst 1, 1) := dk_4 (dk_at dksX0_isSure_0 0 rfl rfl)
theorem dX0_isSure_1 : decode cX0_isSure 1 = .ok (.istore_n 1, 1) := dk_60 (dk_at dksX0_isSure_0 1 rfl rfl)
theorem dX0_isSure_2 : decode cX0_isSure 2 = .ok (.iconst 0, 1) := dk_3 (dk_at dksX0_isSure_0 2 rfl rfl)
theorem dX0_isSure_3 : decode cX0_isSure 3 = .ok (.istore_n 2, 1) := dk_61 (dk_at dksX0_isSure_0 3 rfl rfl)
theorem dX0_isSure_4 : decode cX0_isSure 4 = .ok (.iload_n 2, 1) := dk_28 (dk_at dksX0_isSure_0 4 rfl rfl)
theorem dX0_isSure_5 : decode cX0_isSure 5 = .ok (.aload_n 0, 1) := dk_42 (dk_at dksX0_isSure_0 5 rfl rfl)
theorem dX0_isSure_6 : decode cX0_isSure 6 = .ok (.getfield 53, 3) := dk_180 0 53 (dk_at dksX0_isSure_0 6 rfl rfl)
theorem dX0_isSure_9 : decode cX0_isSure 9 = .ok (.getfield 134, 3) := dk_180 0 134 (dk_at dksX0_isSure_0 9 rfl rfl)
theorem dX0_isSure_12 : decode cX0_isSure 12 = .ok (.if_icmp .ge 39, 3) := dk_162 0 39 (dk_at dksX0_isSure_0 12 rfl rfl)
theorem dX0_isSure_15 : decode cX0_isSure 15 = .ok (.iload_n 1, 1) := dk_27 (dk_at dksX0_isSure_0 15 rfl rfl)
theorem dX0_isSure_16 : decode cX0_isSure 16 = .ok (.aload_n 0, 1) := dk_42 (dk_at dksX0_isSure_0 16 rfl rfl)
theorem dX0_isSure_17 : decode cX0_isSure 17 = .ok (.getfield 53, 3) := dk_180 0 53 (dk_at dksX0_isSure_0 17 rfl rfl)
theorem dX0_isSure_20 : decode cX0_isSure 20 = .ok (.iload_n 2, 1) := dk_28 (dk_at dksX0_isSure_0 20 rfl rfl)
theorem dX0_isSure_21 : decode cX0_isSure 21 = .ok (.invokevirtual 154, 3) := dk_182 0 154 (dk_at dksX0_isSure_0 21 rfl rfl)
theorem dX0_isSure_24 : decode cX0_isSure 24 = .ok (.ifCond .eq 14, 3) := dk_153 0 14 (dk_at dksX0_isSure_1 0 rfl rfl)
theorem dX0_isSure_27 : decode cX0_isSure 27 = .ok (.aload_n 0, 1) := dk_42 (dk_at dksX0_isSure_1 3 rfl rfl)
theorem dX0_isSure_28 : decode cX0_isSure 28 = .ok (.getfield 53, 3) := dk_180 0 53 (dk_at dksX0_isSure_1 4 rfl rfl)
theorem dX0_isSure_31 : decode cX0_isSure 31 = .ok (.iload_n 2, 1) := dk_28 (dk_at dksX0_isSure_1 7 rfl rfl)
theorem dX0_isSure_32 : decode cX0_isSure 32 = .ok (.invokevirtual 193, 3) := dk_182 0 193 (dk_at dksX0_isSure_1 8 rfl rfl)
theorem dX0_isSure_35 : decode cX0_isSure 35 = .ok (.ifCond .eq 7, 3) := dk_153 0 7 (dk_at dksX0_isSure_1 11 rfl rfl)
theorem dX0_isSure_38 : decode cX0_isSure 38 = .ok (.iconst 1, 1) := dk_4 (dk_at dksX0_isSure_1 14 rfl rfl)
theorem dX0_isSure_39 : decode cX0_isSure 39 = .ok (.goto 4, 3) := dk_167 0 4 (dk_at dksX0_isSure_1 15 rfl rfl)
theorem dX0_isSure_42 : decode cX0_isSure 42 = .ok (.iconst 0, 1) := dk_3 (dk_at dksX0_isSure_1 18 rfl rfl)
theorem dX0_isSure_43 : decode cX0_isSure 43 = .ok (.iand, 1) := dk_126 (dk_at dksX0_isSure_1 19 rfl rfl)
theorem dX0_isSure_44 : decode cX0_isSure 44 = .ok (.istore_n 1, 1) := dk_60 (dk_at dksX0_isSure_1 20 rfl rfl)
theorem dX0_isSure_45 : decode cX0_isSure 45 = .ok (.iinc 2 1, 3) := dk_132 2 1 (dk_at dksX0_isSure_1 21 rfl rfl)
theorem dX0_isSure_48 : decode cX0_isSure 48 = .ok (.goto (-44), 3) := dk_167 255 212 (dk_at dksX0_isSure_2 0 rfl rfl)
theorem dX0_isSure_51 : decode cX0_isSure 51 = .ok (.iload_n 1, 1) := dk_27 (dk_at dksX0_isSure_2 3 rfl rfl)
theorem dX0_isSure_52 : decode cX0_isSure 52 = .ok (.ireturn, 1) := dk_172 (dk_at dksX0_isSure_2 4 rfl rfl)
abbrev cX0_rebuilt : ByteArray := prog_1_method_30_code
def yX0_rebuilt : MethodName := ⟨RX0, "rebuilt", "(I)I"⟩
def dkwX0_rebuilt_2 : List UInt8 := [167, 0, 5, 21, 4, 172]
abbrev dktX0_rebuilt_2 : List UInt8 := dkwX0_rebuilt_2 ++ []
def dkwX0_rebuilt_1 : List UInt8 := [44, 21, 5, 182, 0, 203, 132, 4, 1, 42, 44, 182, 0, 199, 54, 5, 167, 255, 233, 27, 154, 0, 7, 29]
abbrev dktX0_rebuilt_1 : List UInt8 := dkwX0_rebuilt_1 ++ dktX0_rebuilt_2
def dkwX0_rebuilt_0 : List UInt8 := [42, 182, 0, 116, 77, 42, 44, 182, 0, 199, 62, 3, 54, 4, 29, 54, 5, 21, 5, 16, 247, 159, 0, 22]
abbrev dktX0_rebuilt_0 : List UInt8 := dkwX0_rebuilt_0 ++ dktX0_rebuilt_1
theorem dksX0_rebuilt_0 : cX0_rebuilt.data.toList.drop 0 = dktX0_rebuilt_0 := by decide +kernel
theorem dksX0_rebuilt_1 : cX0_rebuilt.data.toList.drop 24 = dktX0_rebuilt_1 := dk_seg dksX0_rebuilt_0 24 rfl rfl
theorem dksX0_rebuilt_2 : cX0_rebuilt.data.toList.drop 48 = dktX0_rebuilt_2 := dk_seg dksX0_rebuilt_1 24 rfl rfl
theorem dX0_rebuilt_0 : decode cX0_rebuilt 0 = .ok (.aload_n 0, 1) := dk_42 (dk_at dksX0_rebuilt_0 0 rfl rfl)
theorem dX0_rebuilt_1 : decode cX0_rebuilt 1 = .ok (.invokevirtual 116, 3) := dk_182 0 116 (dk_at dksX0_rebuilt_0 1 rfl rfl)
theorem dX0_rebuilt_4 : decode cX0_rebuilt 4 = .ok (.astore_n 2, 1) := dk_77 (dk_at dksX0_rebuilt_0 4 rfl rfl)
theorem dX0_rebuilt_5 : decode cX0_rebuilt 5 = .ok (.aload_n 0, 1) := dk_42 (dk_at dksX0_rebuilt_0 5 rfl rfl)
theorem dX0_rebuilt_6 : decode cX0_rebuilt 6 = .ok (.aload_n 2, 1) := dk_44 (dk_at dksX0_rebuilt_0 6 rfl rfl)
theorem dX0_rebuilt_7 : decode cX0_rebuilt 7 = .ok (.invokevirtual 199, 3) := dk_182 0 199 (dk_at dksX0_rebuilt_0 7 rfl rfl)
theorem dX0_rebuilt_10 : decode cX0_rebuilt 10 = .ok (.istore_n 3, 1) := dk_62 (dk_at dksX0_rebuilt_0 10 rfl rfl)
theorem dX0_rebuilt_11 : decode cX0_rebuilt 11 = .ok (.iconst 0, 1) := dk_3 (dk_at dksX0_rebuilt_0 11 rfl rfl)
theorem dX0_rebuilt_12 : decode cX0_rebuilt 12 = .ok (.istore 4, 2) := dk_54 4 (dk_at dksX0_rebuilt_0 12 rfl rfl)
theorem dX0_rebuilt_14 : decode cX0_rebuilt 14 = .ok (.iload_n 3, 1) := dk_29 (dk_at dksX0_rebuilt_0 14 rfl rfl)
theorem dX0_rebuilt_15 : decode cX0_rebuilt 15 = .ok (.istore 5, 2) := dk_54 5 (dk_at dksX0_rebuilt_0 15 rfl rfl)
theorem dX0_rebuilt_17 : decode cX0_rebuilt 17 = .ok (.iload 5, 2) := dk_21 5 (dk_at dksX0_rebuilt_0 17 rfl rfl)
theorem dX0_rebuilt_19 : decode cX0_rebuilt 19 = .ok (.bipush (-9), 2) := dk_16 247 (dk_at dksX0_rebuilt_0 19 rfl rfl)
theorem dX0_rebuilt_21 : decode cX0_rebuilt 21 = .ok (.if_icmp .eq 22, 3) := dk_159 0 22 (dk_at dksX0_rebuilt_0 21 rfl rfl)
theorem dX0_rebuilt_24 : decode cX0_rebuilt 24 = .ok (.aload_n 2, 1) := dk_44 (dk_at dksX0_rebuilt_1 0 rfl rfl)
theorem dX0_rebuilt_25 : decode cX0_rebuilt 25 = .ok (.iload 5, 2) := dk_21 5 (dk_at dksX0_rebuilt_1 1 rfl rfl)
theorem dX0_rebuilt_27 : decode cX0_rebuilt 27 = .ok (.invokevirtual 203, 3) := dk_182 0 203 (dk_at dksX0_rebuilt_1 3 rfl rfl)
theorem dX0_rebuilt_30 : decode cX0_rebuilt 30 = .ok (.iinc 4 1, 3) := dk_132 4 1 (dk_at dksX0_rebuilt_1 6 rfl rfl)
theorem dX0_rebuilt_33 : decode cX0_rebuilt 33 = .ok (.aload_n 0, 1) := dk_42 (dk_at dksX0_rebuilt_1 9 rfl rfl)
theorem dX0_rebuilt_34 : decode cX0_rebuilt 34 = .ok (.aload_n 2, 1) := dk_44 (dk_at dksX0_rebuilt_1 10 rfl rfl)
theorem dX0_rebuilt_35 : decode cX0_rebuilt 35 = .ok (.invokevirtual 199, 3) := dk_182 0 199 (dk_at dksX0_rebuilt_1 11 rfl rfl)
theorem dX0_rebuilt_38 : decode cX0_rebuilt 38 = .ok (.istore 5, 2) := dk_54 5 (dk_at dksX0_rebuilt_1 14 rfl rfl)
theorem dX0_rebuilt_40 : decode cX0_rebuilt 40 = .ok (.goto (-23), 3) := dk_167 255 233 (dk_at dksX0_rebuilt_1 16 rfl rfl)
theorem dX0_rebuilt_43 : decode cX0_rebuilt 43 = .ok (.iload_n 1, 1) := dk_27 (dk_at dksX0_rebuilt_1 19 rfl rfl)
theorem dX0_rebuilt_44 : decode cX0_rebuilt 44 = .ok (.ifCond .ne 7, 3) := dk_154 0 7 (dk_at dksX0_rebuilt_1 20 rfl rfl)
theorem dX0_rebuilt_47 : decode cX0_rebuilt 47 = .ok (.iload_n 3, 1) := dk_29 (dk_at dksX0_rebuilt_1 23 rfl rfl)
theorem dX0_rebuilt_48 : decode cX0_rebuilt 48 = .ok (.goto 5, 3) := dk_167 0 5 (dk_at dksX0_rebuilt_2 0 rfl rfl)
theorem dX0_rebuilt_51 : decode cX0_rebuilt 51 = .ok (.iload 4, 2) := dk_21 4 (dk_at dksX0_rebuilt_2 3 rfl rfl)
theorem dX0_rebuilt_53 : decode cX0_rebuilt 53 = .ok (.ireturn, 1) := dk_172 (dk_at dksX0_rebuilt_2 5 rfl rfl)
abbrev cX0_leastToSet : ByteArray := prog_1_method_29_code
def yX0_leastToSet : MethodName := ⟨RX0, "leastToSet", "(LPulledFromUnder$Room;)I"⟩
def dkwX0_leastToSet_1 : List UInt8 := [182, 0, 196, 153, 0, 5, 28, 172, 132, 2, 1, 167, 255, 225, 16, 247, 172]
abbrev dktX0_leastToSet_1 : List UInt8 := dkwX0_leastToSet_1 ++ []
def dkwX0_leastToSet_0 : List UInt8 := [3, 61, 28, 43, 180, 0, 134, 162, 0, 29, 43, 180, 0, 124, 28, 46, 4, 160, 0, 13, 43, 28]
abbrev dktX0_leastToSet_0 : List UInt8 := dkwX0_leastToSet_0 ++ dktX0_leastToSet_1
theorem dksX0_leastToSet_0 : cX0_leastToSet.data.toList.drop 0 = dktX0_leastToSet_0 := by decide +kernel
theorem dksX0_leastToSet_1 : cX0_leastToSet.data.toList.drop 22 = dktX0_leastToSet_1 := dk_seg dksX0_leastToSet_0 22 rfl rfl
theorem dX0_leastToSet_0 : decode cX0_leastToSet 0 = .ok (.iconst 0, 1) := dk_3 (dk_at dksX0_leastToSet_0 0 rfl rfl)
theorem dX0_leastToSet_1 : decode cX0_leastToSet 1 = .ok (.istore_n 2, 1) := dk_61 (dk_at dksX0_leastToSet_0 1 rfl rfl)
theorem dX0_leastToSet_2 : decode cX0_leastToSet 2 = .ok (.iload_n 2, 1) := dk_28 (dk_at dksX0_leastToSet_0 2 rfl rfl)
theorem dX0_leastToSet_3 : decode cX0_leastToSet 3 = .ok (.aload_n 1, 1) := dk_43 (dk_at dksX0_leastToSet_0 3 rfl rfl)
theorem dX0_leastToSet_4 : decode cX0_leastToSet 4 = .ok (.getfield 134, 3) := dk_180 0 134 (dk_at dksX0_leastToSet_0 4 rfl rfl)
theorem dX0_leastToSet_7 : decode cX0_leastToSet 7 = .ok (.if_icmp .ge 29, 3) := dk_162 0 29 (dk_at dksX0_leastToSet_0 7 rfl rfl)
theorem dX0_leastToSet_10 : decode cX0_leastToSet 10 = .ok (.aload_n 1, 1) := dk_43 (dk_at dksX0_leastToSet_0 10 rfl rfl)
theorem dX0_leastToSet_11 : decode cX0_leastToSet 11 = .ok (.getfield 124, 3) := dk_180 0 124 (dk_at dksX0_leastToSet_0 11 rfl rfl)
theorem dX0_leastToSet_14 : decode cX0_leastToSet 14 = .ok (.iload_n 2, 1) := dk_28 (dk_at dksX0_leastToSet_0 14 rfl rfl)
theorem dX0_leastToSet_15 : decode cX0_leastToSet 15 = .ok (.iaload, 1) := dk_46 (dk_at dksX0_leastToSet_0 15 rfl rfl)
theorem dX0_leastToSet_16 : decode cX0_leastToSet 16 = .ok (.iconst 1, 1) := dk_4 (dk_at dksX0_leastToSet_0 16 rfl rfl)
theorem dX0_leastToSet_17 : decode cX0_leastToSet 17 = .ok (.if_icmp .ne 13, 3) := dk_160 0 13 (dk_at dksX0_leastToSet_0 17 rfl rfl)
theorem dX0_leastToSet_20 : decode cX0_leastToSet 20 = .ok (.aload_n 1, 1) := dk_43 (dk_at dksX0_leastToSet_0 20 rfl rfl)
theorem dX0_leastToSet_21 : decode cX0_leastToSet 21 = .ok (.iload_n 2, 1) := dk_28 (dk_at dksX0_leastToSet_0 21 rfl rfl)
theorem dX0_leastToSet_22 : decode cX0_leastToSet 22 = .ok (.invokevirtual 196, 3) := dk_182 0 196 (dk_at dksX0_leastToSet_1 0 rfl rfl)
theorem dX0_leastToSet_25 : decode cX0_leastToSet 25 = .ok (.ifCond .eq 5, 3) := dk_153 0 5 (dk_at dksX0_leastToSet_1 3 rfl rfl)
theorem dX0_leastToSet_28 : decode cX0_leastToSet 28 = .ok (.iload_n 2, 1) := dk_28 (dk_at dksX0_leastToSet_1 6 rfl rfl)
theorem dX0_leastToSet_29 : decode cX0_leastToSet 29 = .ok (.ireturn, 1) := dk_172 (dk_at dksX0_leastToSet_1 7 rfl rfl)
theorem dX0_leastToSet_30 : decode cX0_leastToSet 30 = .ok (.iinc 2 1, 3) := dk_132 2 1 (dk_at dksX0_leastToSet_1 8 rfl rfl)
theorem dX0_leastToSet_33 : decode cX0_leastToSet 33 = .ok (.goto (-31), 3) := dk_167 255 225 (dk_at dksX0_leastToSet_1 11 rfl rfl)
theorem dX0_leastToSet_36 : decode cX0_leastToSet 36 = .ok (.bipush (-9), 2) := dk_16 247 (dk_at dksX0_leastToSet_1 14 rfl rfl)
theorem dX0_leastToSet_38 : decode cX0_leastToSet 38 = .ok (.ireturn, 1) := dk_172 (dk_at dksX0_leastToSet_1 16 rfl rfl)
abbrev cX0_twoTold : ByteArray := prog_1_method_66_code
def yX0_twoTold : MethodName := ⟨RX0, "twoTold", "(III)I"⟩
def dkwX0_twoTold_1 : List UInt8 := [29, 184, 1, 74, 42, 27, 28, 29, 182, 1, 139, 172]
abbrev dktX0_twoTold_1 : List UInt8 := dkwX0_twoTold_1 ++ []
def dkwX0_twoTold_0 : List UInt8 := [42, 27, 182, 1, 7, 42, 28, 182, 1, 7, 27, 28, 159, 0, 7, 4, 167, 0, 4, 3, 2, 184, 0, 9]
abbrev dktX0_twoTold_0 : List UInt8 := dkwX0_twoTold_0 ++ dktX0_twoTold_1
theorem dksX0_twoTold_0 : cX0_twoTold.data.toList.drop 0 = dktX0_twoTold_0 := by decide +kernel
theorem dksX0_twoTold_1 : cX0_twoTold.data.toList.drop 24 = dktX0_twoTold_1 := dk_seg dksX0_twoTold_0 24 rfl rfl
theorem dX0_twoTold_0 : decode cX0_twoTold 0 = .ok (.aload_n 0, 1) := dk_42 (dk_at dksX0_twoTold_0 0 rfl rfl)
theorem dX0_twoTold_1 : decode cX0_twoTold 1 = .ok (.iload_n 1, 1) := dk_27 (dk_at dksX0_twoTold_0 1 rfl rfl)
theorem dX0_twoTold_2 : decode cX0_twoTold 2 = .ok (.invokevirtual 263, 3) := dk_182 1 7 (dk_at dksX0_twoTold_0 2 rfl rfl)
theorem dX0_twoTold_5 : decode cX0_twoTold 5 = .ok (.aload_n 0, 1) := dk_42 (dk_at dksX0_twoTold_0 5 rfl rfl)
theorem dX0_twoTold_6 : decode cX0_twoTold 6 = .ok (.iload_n 2, 1) := dk_28 (dk_at dksX0_twoTold_0 6 rfl rfl)
theorem dX0_twoTold_7 : decode cX0_twoTold 7 = .ok (.invokevirtual 263, 3) := dk_182 1 7 (dk_at dksX0_twoTold_0 7 rfl rfl)
theorem dX0_twoTold_10 : decode cX0_twoTold 10 = .ok (.iload_n 1, 1) := dk_27 (dk_at dksX0_twoTold_0 10 rfl rfl)
theorem dX0_twoTold_11 : decode cX0_twoTold 11 = .ok (.iload_n 2, 1) := dk_28 (dk_at dksX0_twoTold_0 11 rfl rfl)
theorem dX0_twoTold_12 : decode cX0_twoTold 12 = .ok (.if_icmp .eq 7, 3) := dk_159 0 7 (dk_at dksX0_twoTold_0 12 rfl rfl)
theorem dX0_twoTold_15 : decode cX0_twoTold 15 = .ok (.iconst 1, 1) := dk_4 (dk_at dksX0_twoTold_0 15 rfl rfl)
theorem dX0_twoTold_16 : decode cX0_twoTold 16 = .ok (.goto 4, 3) := dk_167 0 4 (dk_at dksX0_twoTold_0 16 rfl rfl)
theorem dX0_twoTold_19 : decode cX0_twoTold 19 = .ok (.iconst 0, 1) := dk_3 (dk_at dksX0_twoTold_0 19 rfl rfl)
theorem dX0_twoTold_20 : decode cX0_twoTold 20 = .ok (.iconst (-1), 1) := dk_2 (dk_at dksX0_twoTold_0 20 rfl rfl)
theorem dX0_twoTold_21 : decode cX0_twoTold 21 = .ok (.invokestatic 9, 3) := dk_184 0 9 (dk_at dksX0_twoTold_0 21 rfl rfl)
theorem dX0_twoTold_24 : decode cX0_twoTold 24 = .ok (.iload_n 3, 1) := dk_29 (dk_at dksX0_twoTold_1 0 rfl rfl)
theorem dX0_twoTold_25 : decode cX0_twoTold 25 = .ok (.invokestatic 330, 3) := dk_184 1 74 (dk_at dksX0_twoTold_1 1 rfl rfl)
theorem dX0_twoTold_28 : decode cX0_twoTold 28 = .ok (.aload_n 0, 1) := dk_42 (dk_at dksX0_twoTold_1 4 rfl rfl)
theorem dX0_twoTold_29 : decode cX0_twoTold 29 = .ok (.iload_n 1, 1) := dk_27 (dk_at dksX0_twoTold_1 5 rfl rfl)
theorem dX0_twoTold_30 : decode cX0_twoTold 30 = .ok (.iload_n 2, 1) := dk_28 (dk_at dksX0_twoTold_1 6 rfl rfl)
theorem dX0_twoTold_31 : decode cX0_twoTold 31 = .ok (.iload_n 3, 1) := dk_29 (dk_at dksX0_twoTold_1 7 rfl rfl)
theorem dX0_twoTold_32 : decode cX0_twoTold 32 = .ok (.invokevirtual 395, 3) := dk_182 1 139 (dk_at dksX0_twoTold_1 8 rfl rfl)
theorem dX0_twoTold_35 : decode cX0_twoTold 35 = .ok (.ireturn, 1) := dk_172 (dk_at dksX0_twoTold_1 11 rfl rfl)
abbrev cX0_restingPulls : ByteArray := prog_1_method_32_code
def yX0_restingPulls : MethodName := ⟨RX0, "restingPulls", "(III)I"⟩
def dkwX0_restingPulls_6 : List UInt8 := [21, 4, 5, 108, 104, 21, 4, 5, 112, 96, 172, 132, 4, 1, 167, 255, 196, 16, 247, 172]
abbrev dktX0_restingPulls_6 : List UInt8 := dkwX0_restingPulls_6 ++ []
def dkwX0_restingPulls_5 : List UInt8 := [161, 0, 35, 42, 180, 0, 78, 21, 4, 46, 42, 180, 0, 78, 21, 4, 4, 130, 46, 163, 0, 16, 16, 10]
abbrev dktX0_restingPulls_5 : List UInt8 := dkwX0_restingPulls_5 ++ dktX0_restingPulls_6
def dkwX0_restingPulls_4 : List UInt8 := [21, 4, 7, 162, 0, 60, 42, 180, 0, 78, 21, 4, 46, 42, 180, 0, 78, 21, 4, 5, 130, 46]
abbrev dktX0_restingPulls_4 : List UInt8 := dkwX0_restingPulls_4 ++ dktX0_restingPulls_5
def dkwX0_restingPulls_3 : List UInt8 := [180, 0, 78, 21, 4, 25, 5, 29, 182, 0, 120, 182, 0, 165, 79, 132, 4, 1, 167, 255, 173, 3, 54, 4]
abbrev dktX0_restingPulls_3 : List UInt8 := dkwX0_restingPulls_3 ++ dktX0_restingPulls_4
def dkwX0_restingPulls_2 : List UInt8 := [160, 0, 21, 25, 5, 28, 182, 0, 154, 153, 0, 12, 25, 5, 28, 16, 9, 182, 0, 144, 87, 42]
abbrev dktX0_restingPulls_2 : List UInt8 := dkwX0_restingPulls_2 ++ dktX0_restingPulls_3
def dkwX0_restingPulls_1 : List UInt8 := [25, 5, 27, 182, 0, 154, 153, 0, 12, 25, 5, 27, 16, 9, 182, 0, 144, 87, 21, 4, 5, 112, 4]
abbrev dktX0_restingPulls_1 : List UInt8 := dkwX0_restingPulls_1 ++ dktX0_restingPulls_2
def dkwX0_restingPulls_0 : List UInt8 := [3, 54, 4, 21, 4, 7, 162, 0, 83, 42, 182, 0, 116, 58, 5, 21, 4, 5, 108, 4, 160, 0, 21]
abbrev dktX0_restingPulls_0 : List UInt8 := dkwX0_restingPulls_0 ++ dktX0_restingPulls_1
theorem dksX0_restingPulls_0 : cX0_restingPulls.data.toList.drop 0 = dktX0_restingPulls_0 := by decide +kernel
theorem dksX0_restingPulls_1 : cX0_restingPulls.data.toList.drop 23 = dktX0_restingPulls_1 := dk_seg dksX0_restingPulls_0 23 rfl rfl
theorem dksX0_restingPulls_2 : cX0_restingPulls.data.toList.drop 46 = dktX0_restingPulls_2 := dk_seg dksX0_restingPulls_1 23 rfl rfl
theorem dksX0_restingPulls_3 : cX0_restingPulls.data.toList.drop 68 = dktX0_restingPulls_3 := dk_seg dksX0_restingPulls_2 22 rfl rfl
theorem dksX0_restingPulls_4 : cX0_restingPulls.data.toList.drop 92 = dktX0_restingPulls_4 := dk_seg dksX0_restingPulls_3 24 rfl rfl
theorem dksX0_restingPulls_5 : cX0_restingPulls.data.toList.drop 114 = dktX0_restingPulls_5 := dk_seg dksX0_restingPulls_4 22 rfl rfl
theorem dksX0_restingPulls_6 : cX0_restingPulls.data.toList.drop 138 = dktX0_restingPulls_6 := dk_seg dksX0_restingPulls_5 24 rfl rfl
theorem dX0_restingPulls_0 : decode cX0_restingPulls 0 = .ok (.iconst 0, 1) := dk_3 (dk_at dksX0_restingPulls_0 0 rfl rfl)
theorem dX0_restingPulls_1 : decode cX0_restingPulls 1 = .ok (.istore 4, 2) := dk_54 4 (dk_at dksX0_restingPulls_0 1 rfl rfl)
theorem dX0_restingPulls_3 : decode cX0_restingPulls 3 = .ok (.iload 4, 2) := dk_21 4 (dk_at dksX0_restingPulls_0 3 rfl rfl)
theorem dX0_restingPulls_5 : decode cX0_restingPulls 5 = .ok (.iconst 4, 1) := dk_7 (dk_at dksX0_restingPulls_0 5 rfl rfl)
theorem dX0_restingPulls_6 : decode cX0_restingPulls 6 = .ok (.if_icmp .ge 83, 3) := dk_162 0 83 (dk_at dksX0_restingPulls_0 6 rfl rfl)
theorem dX0_restingPulls_9 : decode cX0_restingPulls 9 = .ok (.aload_n 0, 1) := dk_42 (dk_at dksX0_restingPulls_0 9 rfl rfl)
theorem dX0_restingPulls_10 : decode cX0_restingPulls 10 = .ok (.invokevirtual 116, 3) := dk_182 0 116 (dk_at dksX0_restingPulls_0 10 rfl rfl)
theorem dX0_restingPulls_13 : decode cX0_restingPulls 13 = .ok (.astore 5, 2) := dk_58 5 (dk_at dksX0_restingPulls_0 13 rfl rfl)
theorem dX0_restingPulls_15 : decode cX0_restingPulls 15 = .ok (.iload 4, 2) := dk_21 4 (dk_at dksX0_restingPulls_0 15 rfl rfl)
theorem dX0_restingPulls_17 : decode cX0_restingPulls 17 = .ok (.iconst 2, 1) := dk_5 (dk_at dksX0_restingPulls_0 17 rfl rfl)
theorem dX0_restingPulls_18 : decode cX0_restingPulls 18 = .ok (.idiv, 1) := dk_108 (dk_at dksX0_restingPulls_0 18 rfl rfl)
theorem dX0_restingPulls_19 : decode cX0_restingPulls 19 = .ok (.iconst 1, 1) := dk_4 (dk_at dksX0_restingPulls_0 19 rfl rfl)
theorem dX0_restingPulls_20 : decode cX0_restingPulls 20 = .ok (.if_icmp .ne 21, 3) := dk_160 0 21 (dk_at dksX0_restingPulls_0 20 rfl rfl)
theorem dX0_restingPulls_23 : decode cX0_restingPulls 23 = .ok (.aload 5, 2) := dk_25 5 (dk_at dksX0_restingPulls_1 0 rfl rfl)
theorem dX0_restingPulls_25 : decode cX0_restingPulls 25 = .ok (.iload_n 1, 1) := dk_27 (dk_at dksX0_restingPulls_1 2 rfl rfl)
theorem dX0_restingPulls_26 : decode cX0_restingPulls 26 = .ok (.invokevirtual 154, 3) := dk_182 0 154 (dk_at dksX0_restingPulls_1 3 rfl rfl)
theorem dX0_restingPulls_29 : decode cX0_restingPulls 29 = .ok (.ifCond .eq 12, 3) := dk_153 0 12 (dk_at dksX0_restingPulls_1 6 rfl rfl)
theorem dX0_restingPulls_32 : decode cX0_restingPulls 32 = .ok (.aload 5, 2) := dk_25 5 (dk_at dksX0_restingPulls_1 9 rfl rfl)
theorem dX0_restingPulls_34 : decode cX0_restingPulls 34 = .ok (.iload_n 1, 1) := dk_27 (dk_at dksX0_restingPulls_1 11 rfl rfl)
theorem dX0_restingPulls_35 : decode cX0_restingPulls 35 = .ok (.bipush 9, 2) := dk_16 9 (dk_at dksX0_restingPulls_1 12 rfl rfl)
theorem dX0_restingPulls_37 : decode cX0_restingPulls 37 = .ok (.invokevirtual 144, 3) := dk_182 0 144 (dk_at dksX0_restingPulls_1 14 rfl rfl)
theorem dX0_restingPulls_40 : decode cX0_restingPulls 40 = .ok (.pop, 1) := dk_87 (dk_at dksX0_restingPulls_1 17 rfl rfl)
theorem dX0_restingPulls_41 : decode cX0_restingPulls 41 = .ok (.iload 4, 2) := dk_21 4 (dk_at dksX0_restingPulls_1 18 rfl rfl)
theorem dX0_restingPulls_43 : decode cX0_restingPulls 43 = .ok (.iconst 2, 1) := dk_5 (dk_at dksX0_restingPulls_1 20 rfl rfl)
theorem dX0_restingPulls_44 : decode cX0_restingPulls 44 = .ok (.irem, 1) := dk_112 (dk_at dksX0_restingPulls_1 21 rfl rfl)
theorem dX0_restingPulls_45 : decode cX0_restingPulls 45 = .ok (.iconst 1, 1) := dk_4 (dk_at dksX0_restingPulls_1 22 rfl rfl)
theorem dX0_restingPulls_46 : decode cX0_restingPulls 46 = .ok (.if_icmp .ne 21, 3) := dk_160 0 21 (dk_at dksX0_restingPulls_2 0 rfl rfl)
theorem dX0_restingPulls_49 : decode cX0_restingPulls 49 = .ok (.aload 5, 2) := dk_25 5 (dk_at dksX0_restingPulls_2 3 rfl rfl)
theorem dX0_restingPulls_51 : decode cX0_restingPulls 51 = .ok (.iload_n 2, 1) := dk_28 (dk_at dksX0_restingPulls_2 5 rfl rfl)
theorem dX0_restingPulls_52 : decode cX0_restingPulls 52 = .ok (.invokevirtual 154, 3) := dk_182 0 154 (dk_at dksX0_restingPulls_2 6 rfl rfl)
theorem dX0_restingPulls_55 : decode cX0_restingPulls 55 = .ok (.ifCond .eq 12, 3) := dk_153 0 12 (dk_at dksX0_restingPulls_2 9 rfl rfl)
theorem dX0_restingPulls_58 : decode cX0_restingPulls 58 = .ok (.aload 5, 2) := dk_25 5 (dk_at dksX0_restingPulls_2 12 rfl rfl)
theorem dX0_restingPulls_60 : decode cX0_restingPulls 60 = .ok (.iload_n 2, 1) := dk_28 (dk_at dksX0_restingPulls_2 14 rfl rfl)
theorem dX0_restingPulls_61 : decode cX0_restingPulls 61 = .ok (.bipush 9, 2) := dk_16 9 (dk_at dksX0_restingPulls_2 15 rfl rfl)
theorem dX0_restingPulls_63 : decode cX0_restingPulls 63 = .ok (.invokevirtual 144, 3) := dk_182 0 144 (dk_at dksX0_restingPulls_2 17 rfl rfl)
theorem dX0_restingPulls_66 : decode cX0_restingPulls 66 = .ok (.pop, 1) := dk_87 (dk_at dksX0_restingPulls_2 20 rfl rfl)
theorem dX0_restingPulls_67 : decode cX0_restingPulls 67 = .ok (.aload_n 0, 1) := dk_42 (dk_at dksX0_restingPulls_2 21 rfl rfl)
theorem dX0_restingPulls_68 : decode cX0_restingPulls 68 = .ok (.getfield 78, 3) := dk_180 0 78 (dk_at dksX0_restingPulls_3 0 rfl rfl)
theorem dX0_restingPulls_71 : decode cX0_restingPulls 71 = .ok (.iload 4, 2) := dk_21 4 (dk_at dksX0_restingPulls_3 3 rfl rfl)
theorem dX0_restingPulls_73 : decode cX0_restingPulls 73 = .ok (.aload 5, 2) := dk_25 5 (dk_at dksX0_restingPulls_3 5 rfl rfl)
theorem dX0_restingPulls_75 : decode cX0_restingPulls 75 = .ok (.iload_n 3, 1) := dk_29 (dk_at dksX0_restingPulls_3 7 rfl rfl)
theorem dX0_restingPulls_76 : decode cX0_restingPulls 76 = .ok (.invokevirtual 120, 3) := dk_182 0 120 (dk_at dksX0_restingPulls_3 8 rfl rfl)
theorem dX0_restingPulls_79 : decode cX0_restingPulls 79 = .ok (.invokevirtual 165, 3) := dk_182 0 165 (dk_at dksX0_restingPulls_3 11 rfl rfl)
theorem dX0_restingPulls_82 : decode cX0_restingPulls 82 = .ok (.iastore, 1) := dk_79 (dk_at dksX0_restingPulls_3 14 rfl rfl)
theorem dX0_restingPulls_83 : decode cX0_restingPulls 83 = .ok (.iinc 4 1, 3) := dk_132 4 1 (dk_at dksX0_restingPulls_3 15 rfl rfl)
theorem dX0_restingPulls_86 : decode cX0_restingPulls 86 = .ok (.goto (-83), 3) := dk_167 255 173 (dk_at dksX0_restingPulls_3 18 rfl rfl)
theorem dX0_restingPulls_89 : decode cX0_restingPulls 89 = .ok (.iconst 0, 1) := dk_3 (dk_at dksX0_restingPulls_3 21 rfl rfl)
theorem dX0_restingPulls_90 : decode cX0_restingPulls 90 = .ok (.istore 4, 2) := dk_54 4 (dk_at dksX0_restingPulls_3 22 rfl rfl)
theorem dX0_restingPulls_92 : decode cX0_restingPulls 92 = .ok (.iload 4, 2) := dk_21 4 (dk_at dksX0_restingPulls_4 0 rfl rfl)
theorem dX0_restingPulls_94 : decode cX0_restingPulls 94 = .ok (.iconst 4, 1) := dk_7 (dk_at dksX0_restingPulls_4 2 rfl rfl)
theorem dX0_restingPulls_95 : decode cX0_restingPulls 95 = .ok (.if_icmp .ge 60, 3) := dk_162 0 60 (dk_at dksX0_restingPulls_4 3 rfl rfl)
theorem dX0_restingPulls_98 : decode cX0_restingPulls 98 = .ok (.aload_n 0, 1) := dk_42 (dk_at dksX0_restingPulls_4 6 rfl rfl)
theorem dX0_restingPulls_99 : decode cX0_restingPulls 99 = .ok (.getfield 78, 3) := dk_180 0 78 (dk_at dksX0_restingPulls_4 7 rfl rfl)
theorem dX0_restingPulls_102 : decode cX0_restingPulls 102 = .ok (.iload 4, 2) := dk_21 4 (dk_at dksX0_restingPulls_4 10 rfl rfl)
theorem dX0_restingPulls_104 : decode cX0_restingPulls 104 = .ok (.iaload, 1) := dk_46 (dk_at dksX0_restingPulls_4 12 rfl rfl)
theorem dX0_restingPulls_105 : decode cX0_restingPulls 105 = .ok (.aload_n 0, 1) := dk_42 (dk_at dksX0_restingPulls_4 13 rfl rfl)
theorem dX0_restingPulls_106 : decode cX0_restingPulls 106 = .ok (.getfield 78, 3) := dk_180 0 78 (dk_at dksX0_restingPulls_4 14 rfl rfl)
theorem dX0_restingPulls_109 : decode cX0_restingPulls 109 = .ok (.iload 4, 2) := dk_21 4 (dk_at dksX0_restingPulls_4 17 rfl rfl)
theorem dX0_restingPulls_111 : decode cX0_restingPulls 111 = .ok (.iconst 2, 1) := dk_5 (dk_at dksX0_restingPulls_4 19 rfl rfl)
theorem dX0_restingPulls_112 : decode cX0_restingPulls 112 = .ok (.ixor, 1) := dk_130 (dk_at dksX0_restingPulls_4 20 rfl rfl)
theorem dX0_restingPulls_113 : decode cX0_restingPulls 113 = .ok (.iaload, 1) := dk_46 (dk_at dksX0_restingPulls_4 21 rfl rfl)
theorem dX0_restingPulls_114 : decode cX0_restingPulls 114 = .ok (.if_icmp .lt 35, 3) := dk_161 0 35 (dk_at dksX0_restingPulls_5 0 rfl rfl)
theorem dX0_restingPulls_117 : decode cX0_restingPulls 117 = .ok (.aload_n 0, 1) := dk_42 (dk_at dksX0_restingPulls_5 3 rfl rfl)
theorem dX0_restingPulls_118 : decode cX0_restingPulls 118 = .ok (.getfield 78, 3) := dk_180 0 78 (dk_at dksX0_restingPulls_5 4 rfl rfl)
theorem dX0_restingPulls_121 : decode cX0_restingPulls 121 = .ok (.iload 4, 2) := dk_21 4 (dk_at dksX0_restingPulls_5 7 rfl rfl)
theorem dX0_restingPulls_123 : decode cX0_restingPulls 123 = .ok (.iaload, 1) := dk_46 (dk_at dksX0_restingPulls_5 9 rfl rfl)
theorem dX0_restingPulls_124 : decode cX0_restingPulls 124 = .ok (.aload_n 0, 1) := dk_42 (dk_at dksX0_restingPulls_5 10 rfl rfl)
theorem dX0_restingPulls_125 : decode cX0_restingPulls 125 = .ok (.getfield 78, 3) := dk_180 0 78 (dk_at dksX0_restingPulls_5 11 rfl rfl)
theorem dX0_restingPulls_128 : decode cX0_restingPulls 128 = .ok (.iload 4, 2) := dk_21 4 (dk_at dksX0_restingPulls_5 14 rfl rfl)
theorem dX0_restingPulls_130 : decode cX0_restingPulls 130 = .ok (.iconst 1, 1) := dk_4 (dk_at dksX0_restingPulls_5 16 rfl rfl)
theorem dX0_restingPulls_131 : decode cX0_restingPulls 131 = .ok (.ixor, 1) := dk_130 (dk_at dksX0_restingPulls_5 17 rfl rfl)
theorem dX0_restingPulls_132 : decode cX0_restingPulls 132 = .ok (.iaload, 1) := dk_46 (dk_at dksX0_restingPulls_5 18 rfl rfl)
theorem dX0_restingPulls_133 : decode cX0_restingPulls 133 = .ok (.if_icmp .gt 16, 3) := dk_163 0 16 (dk_at dksX0_restingPulls_5 19 rfl rfl)
theorem dX0_restingPulls_136 : decode cX0_restingPulls 136 = .ok (.bipush 10, 2) := dk_16 10 (dk_at dksX0_restingPulls_5 22 rfl rfl)
theorem dX0_restingPulls_138 : decode cX0_restingPulls 138 = .ok (.iload 4, 2) := dk_21 4 (dk_at dksX0_restingPulls_6 0 rfl rfl)
theorem dX0_restingPulls_140 : decode cX0_restingPulls 140 = .ok (.iconst 2, 1) := dk_5 (dk_at dksX0_restingPulls_6 2 rfl rfl)
theorem dX0_restingPulls_141 : decode cX0_restingPulls 141 = .ok (.idiv, 1) := dk_108 (dk_at dksX0_restingPulls_6 3 rfl rfl)
theorem dX0_restingPulls_142 : decode cX0_restingPulls 142 = .ok (.imul, 1) := dk_104 (dk_at dksX0_restingPulls_6 4 rfl rfl)
theorem dX0_restingPulls_143 : decode cX0_restingPulls 143 = .ok (.iload 4, 2) := dk_21 4 (dk_at dksX0_restingPulls_6 5 rfl rfl)
theorem dX0_restingPulls_145 : decode cX0_restingPulls 145 = .ok (.iconst 2, 1) := dk_5 (dk_at dksX0_restingPulls_6 7 rfl rfl)
theorem dX0_restingPulls_146 : decode cX0_restingPulls 146 = .ok (.irem, 1) := dk_112 (dk_at dksX0_restingPulls_6 8 rfl rfl)
theorem dX0_restingPulls_147 : decode cX0_restingPulls 147 = .ok (.iadd, 1) := dk_96 (dk_at dksX0_restingPulls_6 9 rfl rfl)
theorem dX0_restingPulls_148 : decode cX0_restingPulls 148 = .ok (.ireturn, 1) := dk_172 (dk_at dksX0_restingPulls_6 10 rfl rfl)
theorem dX0_restingPulls_149 : decode cX0_restingPulls 149 = .ok (.iinc 4 1, 3) := dk_132 4 1 (dk_at dksX0_restingPulls_6 11 rfl rfl)
theorem dX0_restingPulls_152 : decode cX0_restingPulls 152 = .ok (.goto (-60), 3) := dk_167 255 196 (dk_at dksX0_restingPulls_6 14 rfl rfl)
theorem dX0_restingPulls_155 : decode cX0_restingPulls 155 = .ok (.bipush (-9), 2) := dk_16 247 (dk_at dksX0_restingPulls_6 17 rfl rfl)
theorem dX0_restingPulls_157 : decode cX0_restingPulls 157 = .ok (.ireturn, 1) := dk_172 (dk_at dksX0_restingPulls_6 19 rfl rfl)
abbrev cX0_ofLast : ByteArray := prog_1_method_70_code
def yX0_ofLast : MethodName := ⟨RX0, "ofLast", "(IIII)I"⟩
def dkwX0_ofLast_8 : List UInt8 := [172]
abbrev dktX0_ofLast_8 : List UInt8 := dkwX0_ofLast_8 ++ []
def dkwX0_ofLast_7 : List UInt8 := [16, 253, 184, 0, 9, 42, 180, 0, 53, 42, 180, 0, 60, 182, 0, 102, 87, 42, 180, 0, 53, 180, 1, 43]
abbrev dktX0_ofLast_7 : List UInt8 := dkwX0_ofLast_7 ++ dktX0_ofLast_8
def dkwX0_ofLast_6 : List UInt8 := [42, 180, 0, 60, 42, 180, 0, 53, 182, 0, 102, 87, 42, 180, 0, 53, 180, 1, 43, 172, 42, 180, 1, 184]
abbrev dktX0_ofLast_6 : List UInt8 := dkwX0_ofLast_6 ++ dktX0_ofLast_7
def dkwX0_ofLast_5 : List UInt8 := [54, 5, 42, 3, 181, 0, 216, 21, 5, 172, 42, 28, 29, 21, 4, 182, 1, 181, 172, 42, 4, 181, 1, 184]
abbrev dktX0_ofLast_5 : List UInt8 := dkwX0_ofLast_5 ++ dktX0_ofLast_6
def dkwX0_ofLast_4 : List UInt8 := [42, 89, 180, 0, 216, 4, 96, 181, 0, 216, 42, 180, 0, 216, 172, 42, 182, 1, 178, 172, 42, 180, 0, 216]
abbrev dktX0_ofLast_4 : List UInt8 := dkwX0_ofLast_4 ++ dktX0_ofLast_5
def dkwX0_ofLast_3 : List UInt8 := [162, 0, 7, 4, 167, 0, 4, 3, 16, 250, 184, 0, 9, 42, 180, 0, 63, 42, 180, 0, 216, 28, 145, 84]
abbrev dktX0_ofLast_3 : List UInt8 := dkwX0_ofLast_3 ++ dktX0_ofLast_4
def dkwX0_ofLast_2 : List UInt8 := [42, 28, 29, 182, 1, 175, 172, 28, 133, 9, 20, 1, 3, 184, 0, 255, 42, 180, 0, 216, 16, 16]
abbrev dktX0_ofLast_2 : List UInt8 := dkwX0_ofLast_2 ++ dktX0_ofLast_3
def dkwX0_ofLast_1 : List UInt8 := [170, 0, 0, 0, 0, 0, 153, 0, 0, 0, 25, 0, 0, 0, 30, 0, 0, 0, 39, 0, 0, 0, 46, 0, 0, 0, 100, 0, 0, 0, 105, 0, 0, 0, 119, 0, 0, 0, 128]
abbrev dktX0_ofLast_1 : List UInt8 := dkwX0_ofLast_1 ++ dktX0_ofLast_2
def dkwX0_ofLast_0 : List UInt8 := [27]
abbrev dktX0_ofLast_0 : List UInt8 := dkwX0_ofLast_0 ++ dktX0_ofLast_1
theorem dksX0_ofLast_0 : cX0_ofLast.data.toList.drop 0 = dktX0_ofLast_0 := by decide +kernel
theorem dksX0_ofLast_1 : cX0_ofLast.data.toList.drop 1 = dktX0_ofLast_1 := dk_seg dksX0_ofLast_0 1 rfl rfl
theorem dksX0_ofLast_2 : cX0_ofLast.data.toList.drop 40 = dktX0_ofLast_2 := dk_seg dksX0_ofLast_1 39 rfl rfl
theorem dksX0_ofLast_3 : cX0_ofLast.data.toList.drop 62 = dktX0_ofLast_3 := dk_seg dksX0_ofLast_2 22 rfl rfl
theorem dksX0_ofLast_4 : cX0_ofLast.data.toList.drop 86 = dktX0_ofLast_4 := dk_seg dksX0_ofLast_3 24 rfl rfl
theorem dksX0_ofLast_5 : cX0_ofLast.data.toList.drop 110 = dktX0_ofLast_5 := dk_seg dksX0_ofLast_4 24 rfl rfl
theorem dksX0_ofLast_6 : cX0_ofLast.data.toList.drop 134 = dktX0_ofLast_6 := dk_seg dksX0_ofLast_5 24 rfl rfl
theorem dksX0_ofLast_7 : cX0_ofLast.data.toList.drop 158 = dktX0_ofLast_7 := dk_seg dksX0_ofLast_6 24 rfl rfl
theorem dksX0_ofLast_8 : cX0_ofLast.data.toList.drop 182 = dktX0_ofLast_8 := dk_seg dksX0_ofLast_7 24 rfl rfl
theorem dX0_ofLast_0 : decode cX0_ofLast 0 = .ok (.iload_n 1, 1) := dk_27 (dk_at dksX0_ofLast_0 0 rfl rfl)
theorem dX0_ofLast_1 : decode cX0_ofLast 1 = .ok (.tableswitch 153 25 30 #[39, 46, 100, 105, 119, 128], 39) := by decide +kernel
theorem dX0_ofLast_40 : decode cX0_ofLast 40 = .ok (.aload_n 0, 1) := dk_42 (dk_at dksX0_ofLast_2 0 rfl rfl)
theorem dX0_ofLast_41 : decode cX0_ofLast 41 = .ok (.iload_n 2, 1) := dk_28 (dk_at dksX0_ofLast_2 1 rfl rfl)
theorem dX0_ofLast_42 : decode cX0_ofLast 42 = .ok (.iload_n 3, 1) := dk_29 (dk_at dksX0_ofLast_2 2 rfl rfl)
theorem dX0_ofLast_43 : decode cX0_ofLast 43 = .ok (.invokevirtual 431, 3) := dk_182 1 175 (dk_at dksX0_ofLast_2 3 rfl rfl)
theorem dX0_ofLast_46 : decode cX0_ofLast 46 = .ok (.ireturn, 1) := dk_172 (dk_at dksX0_ofLast_2 6 rfl rfl)
theorem dX0_ofLast_47 : decode cX0_ofLast 47 = .ok (.iload_n 2, 1) := dk_28 (dk_at dksX0_ofLast_2 7 rfl rfl)
theorem dX0_ofLast_48 : decode cX0_ofLast 48 = .ok (.i2l, 1) := dk_133 (dk_at dksX0_ofLast_2 8 rfl rfl)
theorem dX0_ofLast_49 : decode cX0_ofLast 49 = .ok (.lconst 0, 1) := dk_9 (dk_at dksX0_ofLast_2 9 rfl rfl)
theorem dX0_ofLast_50 : decode cX0_ofLast 50 = .ok (.ldc2_w 259, 3) := dk_20 1 3 (dk_at dksX0_ofLast_2 10 rfl rfl)
theorem dX0_ofLast_53 : decode cX0_ofLast 53 = .ok (.invokestatic 255, 3) := dk_184 0 255 (dk_at dksX0_ofLast_2 13 rfl rfl)
theorem dX0_ofLast_56 : decode cX0_ofLast 56 = .ok (.aload_n 0, 1) := dk_42 (dk_at dksX0_ofLast_2 16 rfl rfl)
theorem dX0_ofLast_57 : decode cX0_ofLast 57 = .ok (.getfield 216, 3) := dk_180 0 216 (dk_at dksX0_ofLast_2 17 rfl rfl)
theorem dX0_ofLast_60 : decode cX0_ofLast 60 = .ok (.bipush 16, 2) := dk_16 16 (dk_at dksX0_ofLast_2 20 rfl rfl)
theorem dX0_ofLast_62 : decode cX0_ofLast 62 = .ok (.if_icmp .ge 7, 3) := dk_162 0 7 (dk_at dksX0_ofLast_3 0 rfl rfl)
theorem dX0_ofLast_65 : decode cX0_ofLast 65 = .ok (.iconst 1, 1) := dk_4 (dk_at dksX0_ofLast_3 3 rfl rfl)
theorem dX0_ofLast_66 : decode cX0_ofLast 66 = .ok (.goto 4, 3) := dk_167 0 4 (dk_at dksX0_ofLast_3 4 rfl rfl)
theorem dX0_ofLast_69 : decode cX0_ofLast 69 = .ok (.iconst 0, 1) := dk_3 (dk_at dksX0_ofLast_3 7 rfl rfl)
theorem dX0_ofLast_70 : decode cX0_ofLast 70 = .ok (.bipush (-6), 2) := dk_16 250 (dk_at dksX0_ofLast_3 8 rfl rfl)
theorem dX0_ofLast_72 : decode cX0_ofLast 72 = .ok (.invokestatic 9, 3) := dk_184 0 9 (dk_at dksX0_ofLast_3 10 rfl rfl)
theorem dX0_ofLast_75 : decode cX0_ofLast 75 = .ok (.aload_n 0, 1) := dk_42 (dk_at dksX0_ofLast_3 13 rfl rfl)
theorem dX0_ofLast_76 : decode cX0_ofLast 76 = .ok (.getfield 63, 3) := dk_180 0 63 (dk_at dksX0_ofLast_3 14 rfl rfl)
theorem dX0_ofLast_79 : decode cX0_ofLast 79 = .ok (.aload_n 0, 1) := dk_42 (dk_at dksX0_ofLast_3 17 rfl rfl)
theorem dX0_ofLast_80 : decode cX0_ofLast 80 = .ok (.getfield 216, 3) := dk_180 0 216 (dk_at dksX0_ofLast_3 18 rfl rfl)
theorem dX0_ofLast_83 : decode cX0_ofLast 83 = .ok (.iload_n 2, 1) := dk_28 (dk_at dksX0_ofLast_3 21 rfl rfl)
theorem dX0_ofLast_84 : decode cX0_ofLast 84 = .ok (.i2b, 1) := dk_145 (dk_at dksX0_ofLast_3 22 rfl rfl)
theorem dX0_ofLast_85 : decode cX0_ofLast 85 = .ok (.bastore, 1) := dk_84 (dk_at dksX0_ofLast_3 23 rfl rfl)
theorem dX0_ofLast_86 : decode cX0_ofLast 86 = .ok (.aload_n 0, 1) := dk_42 (dk_at dksX0_ofLast_4 0 rfl rfl)
theorem dX0_ofLast_87 : decode cX0_ofLast 87 = .ok (.dup, 1) := dk_89 (dk_at dksX0_ofLast_4 1 rfl rfl)
theorem dX0_ofLast_88 : decode cX0_ofLast 88 = .ok (.getfield 216, 3) := dk_180 0 216 (dk_at dksX0_ofLast_4 2 rfl rfl)
theorem dX0_ofLast_91 : decode cX0_ofLast 91 = .ok (.iconst 1, 1) := dk_4 (dk_at dksX0_ofLast_4 5 rfl rfl)
theorem dX0_ofLast_92 : decode cX0_ofLast 92 = .ok (.iadd, 1) := dk_96 (dk_at dksX0_ofLast_4 6 rfl rfl)
theorem dX0_ofLast_93 : decode cX0_ofLast 93 = .ok (.putfield 216, 3) := dk_181 0 216 (dk_at dksX0_ofLast_4 7 rfl rfl)
theorem dX0_ofLast_96 : decode cX0_ofLast 96 = .ok (.aload_n 0, 1) := dk_42 (dk_at dksX0_ofLast_4 10 rfl rfl)
theorem dX0_ofLast_97 : decode cX0_ofLast 97 = .ok (.getfield 216, 3) := dk_180 0 216 (dk_at dksX0_ofLast_4 11 rfl rfl)
theorem dX0_ofLast_100 : decode cX0_ofLast 100 = .ok (.ireturn, 1) := dk_172 (dk_at dksX0_ofLast_4 14 rfl rfl)
theorem dX0_ofLast_101 : decode cX0_ofLast 101 = .ok (.aload_n 0, 1) := dk_42 (dk_at dksX0_ofLast_4 15 rfl rfl)
theorem dX0_ofLast_102 : decode cX0_ofLast 102 = .ok (.invokevirtual 434, 3) := dk_182 1 178 (dk_at dksX0_ofLast_4 16 rfl rfl)
theorem dX0_ofLast_105 : decode cX0_ofLast 105 = .ok (.ireturn, 1) := dk_172 (dk_at dksX0_ofLast_4 19 rfl rfl)
theorem dX0_ofLast_106 : decode cX0_ofLast 106 = .ok (.aload_n 0, 1) := dk_42 (dk_at dksX0_ofLast_4 20 rfl rfl)
theorem dX0_ofLast_107 : decode cX0_ofLast 107 = .ok (.getfield 216, 3) := dk_180 0 216 (dk_at dksX0_ofLast_4 21 rfl rfl)
theorem dX0_ofLast_110 : decode cX0_ofLast 110 = .ok (.istore 5, 2) := dk_54 5 (dk_at dksX0_ofLast_5 0 rfl rfl)
theorem dX0_ofLast_112 : decode cX0_ofLast 112 = .ok (.aload_n 0, 1) := dk_42 (dk_at dksX0_ofLast_5 2 rfl rfl)
theorem dX0_ofLast_113 : decode cX0_ofLast 113 = .ok (.iconst 0, 1) := dk_3 (dk_at dksX0_ofLast_5 3 rfl rfl)
theorem dX0_ofLast_114 : decode cX0_ofLast 114 = .ok (.putfield 216, 3) := dk_181 0 216 (dk_at dksX0_ofLast_5 4 rfl rfl)
theorem dX0_ofLast_117 : decode cX0_ofLast 117 = .ok (.iload 5, 2) := dk_21 5 (dk_at dksX0_ofLast_5 7 rfl rfl)
theorem dX0_ofLast_119 : decode cX0_ofLast 119 = .ok (.ireturn, 1) := dk_172 (dk_at dksX0_ofLast_5 9 rfl rfl)
theorem dX0_ofLast_120 : decode cX0_ofLast 120 = .ok (.aload_n 0, 1) := dk_42 (dk_at dksX0_ofLast_5 10 rfl rfl)
theorem dX0_ofLast_121 : decode cX0_ofLast 121 = .ok (.iload_n 2, 1) := dk_28 (dk_at dksX0_ofLast_5 11 rfl rfl)
theorem dX0_ofLast_122 : decode cX0_ofLast 122 = .ok (.iload_n 3, 1) := dk_29 (dk_at dksX0_ofLast_5 12 rfl rfl)
theorem dX0_ofLast_123 : decode cX0_ofLast 123 = .ok (.iload 4, 2) := dk_21 4 (dk_at dksX0_ofLast_5 13 rfl rfl)
theorem dX0_ofLast_125 : decode cX0_ofLast 125 = .ok (.invokevirtual 437, 3) := dk_182 1 181 (dk_at dksX0_ofLast_5 15 rfl rfl)
theorem dX0_ofLast_128 : decode cX0_ofLast 128 = .ok (.ireturn, 1) := dk_172 (dk_at dksX0_ofLast_5 18 rfl rfl)
theorem dX0_ofLast_129 : decode cX0_ofLast 129 = .ok (.aload_n 0, 1) := dk_42 (dk_at dksX0_ofLast_5 19 rfl rfl)
theorem dX0_ofLast_130 : decode cX0_ofLast 130 = .ok (.iconst 1, 1) := dk_4 (dk_at dksX0_ofLast_5 20 rfl rfl)
theorem dX0_ofLast_131 : decode cX0_ofLast 131 = .ok (.putfield 440, 3) := dk_181 1 184 (dk_at dksX0_ofLast_5 21 rfl rfl)
theorem dX0_ofLast_134 : decode cX0_ofLast 134 = .ok (.aload_n 0, 1) := dk_42 (dk_at dksX0_ofLast_6 0 rfl rfl)
theorem dX0_ofLast_135 : decode cX0_ofLast 135 = .ok (.getfield 60, 3) := dk_180 0 60 (dk_at dksX0_ofLast_6 1 rfl rfl)
theorem dX0_ofLast_138 : decode cX0_ofLast 138 = .ok (.aload_n 0, 1) := dk_42 (dk_at dksX0_ofLast_6 4 rfl rfl)
theorem dX0_ofLast_139 : decode cX0_ofLast 139 = .ok (.getfield 53, 3) := dk_180 0 53 (dk_at dksX0_ofLast_6 5 rfl rfl)
theorem dX0_ofLast_142 : decode cX0_ofLast 142 = .ok (.invokevirtual 102, 3) := dk_182 0 102 (dk_at dksX0_ofLast_6 8 rfl rfl)
theorem dX0_ofLast_145 : decode cX0_ofLast 145 = .ok (.pop, 1) := dk_87 (dk_at dksX0_ofLast_6 11 rfl rfl)
theorem dX0_ofLast_146 : decode cX0_ofLast 146 = .ok (.aload_n 0, 1) := dk_42 (dk_at dksX0_ofLast_6 12 rfl rfl)
theorem dX0_ofLast_147 : decode cX0_ofLast 147 = .ok (.getfield 53, 3) := dk_180 0 53 (dk_at dksX0_ofLast_6 13 rfl rfl)
theorem dX0_ofLast_150 : decode cX0_ofLast 150 = .ok (.getfield 299, 3) := dk_180 1 43 (dk_at dksX0_ofLast_6 16 rfl rfl)
theorem dX0_ofLast_153 : decode cX0_ofLast 153 = .ok (.ireturn, 1) := dk_172 (dk_at dksX0_ofLast_6 19 rfl rfl)
theorem dX0_ofLast_154 : decode cX0_ofLast 154 = .ok (.aload_n 0, 1) := dk_42 (dk_at dksX0_ofLast_6 20 rfl rfl)
theorem dX0_ofLast_155 : decode cX0_ofLast 155 = .ok (.getfield 440, 3) := dk_180 1 184 (dk_at dksX0_ofLast_6 21 rfl rfl)
theorem dX0_ofLast_158 : decode cX0_ofLast 158 = .ok (.bipush (-3), 2) := dk_16 253 (dk_at dksX0_ofLast_7 0 rfl rfl)
theorem dX0_ofLast_160 : decode cX0_ofLast 160 = .ok (.invokestatic 9, 3) := dk_184 0 9 (dk_at dksX0_ofLast_7 2 rfl rfl)
theorem dX0_ofLast_163 : decode cX0_ofLast 163 = .ok (.aload_n 0, 1) := dk_42 (dk_at dksX0_ofLast_7 5 rfl rfl)
theorem dX0_ofLast_164 : decode cX0_ofLast 164 = .ok (.getfield 53, 3) := dk_180 0 53 (dk_at dksX0_ofLast_7 6 rfl rfl)
theorem dX0_ofLast_167 : decode cX0_ofLast 167 = .ok (.aload_n 0, 1) := dk_42 (dk_at dksX0_ofLast_7 9 rfl rfl)
theorem dX0_ofLast_168 : decode cX0_ofLast 168 = .ok (.getfield 60, 3) := dk_180 0 60 (dk_at dksX0_ofLast_7 10 rfl rfl)
theorem dX0_ofLast_171 : decode cX0_ofLast 171 = .ok (.invokevirtual 102, 3) := dk_182 0 102 (dk_at dksX0_ofLast_7 13 rfl rfl)
theorem dX0_ofLast_174 : decode cX0_ofLast 174 = .ok (.pop, 1) := dk_87 (dk_at dksX0_ofLast_7 16 rfl rfl)
theorem dX0_ofLast_175 : decode cX0_ofLast 175 = .ok (.aload_n 0, 1) := dk_42 (dk_at dksX0_ofLast_7 17 rfl rfl)
theorem dX0_ofLast_176 : decode cX0_ofLast 176 = .ok (.getfield 53, 3) := dk_180 0 53 (dk_at dksX0_ofLast_7 18 rfl rfl)
theorem dX0_ofLast_179 : decode cX0_ofLast 179 = .ok (.getfield 299, 3) := dk_180 1 43 (dk_at dksX0_ofLast_7 21 rfl rfl)
theorem dX0_ofLast_182 : decode cX0_ofLast 182 = .ok (.ireturn, 1) := dk_172 (dk_at dksX0_ofLast_8 0 rfl rfl)
abbrev cX0_whatTold : ByteArray := prog_1_method_68_code
def yX0_whatTold : MethodName := ⟨RX0, "whatTold", "(II)I"⟩
def dkwX0_whatTold_1 : List UInt8 := [167, 0, 4, 3, 16, 253, 184, 0, 9, 42, 27, 28, 182, 1, 167, 172]
abbrev dktX0_whatTold_1 : List UInt8 := dkwX0_whatTold_1 ++ []
def dkwX0_whatTold_0 : List UInt8 := [42, 27, 182, 1, 7, 28, 184, 1, 100, 42, 180, 0, 216, 42, 180, 0, 53, 180, 0, 134, 160, 0, 7, 4]
abbrev dktX0_whatTold_0 : List UInt8 := dkwX0_whatTold_0 ++ dktX0_whatTold_1
theorem dksX0_whatTold_0 : cX0_whatTold.data.toList.drop 0 = dktX0_whatTold_0 := by decide +kernel
theorem dksX0_whatTold_1 : cX0_whatTold.data.toList.drop 24 = dktX0_whatTold_1 := dk_seg dksX0_whatTold_0 24 rfl rfl
theorem dX0_whatTold_0 : decode cX0_whatTold 0 = .ok (.aload_n 0, 1) := dk_42 (dk_at dksX0_whatTold_0 0 rfl rfl)
theorem dX0_whatTold_1 : decode cX0_whatTold 1 = .ok (.iload_n 1, 1) := dk_27 (dk_at dksX0_whatTold_0 1 rfl rfl)
theorem dX0_whatTold_2 : decode cX0_whatTold 2 = .ok (.invokevirtual 263, 3) := dk_182 1 7 (dk_at dksX0_whatTold_0 2 rfl rfl)
theorem dX0_whatTold_5 : decode cX0_whatTold 5 = .ok (.iload_n 2, 1) := dk_28 (dk_at dksX0_whatTold_0 5 rfl rfl)
theorem dX0_whatTold_6 : decode cX0_whatTold 6 = .ok (.invokestatic 356, 3) := dk_184 1 100 (dk_at dksX0_whatTold_0 6 rfl rfl)
theorem dX0_whatTold_9 : decode cX0_whatTold 9 = .ok (.aload_n 0, 1) := dk_42 (dk_at dksX0_whatTold_0 9 rfl rfl)
theorem dX0_whatTold_10 : decode cX0_whatTold 10 = .ok (.getfield 216, 3) := dk_180 0 216 (dk_at dksX0_whatTold_0 10 rfl rfl)
theorem dX0_whatTold_13 : decode cX0_whatTold 13 = .ok (.aload_n 0, 1) := dk_42 (dk_at dksX0_whatTold_0 13 rfl rfl)
theorem dX0_whatTold_14 : decode cX0_whatTold 14 = .ok (.getfield 53, 3) := dk_180 0 53 (dk_at dksX0_whatTold_0 14 rfl rfl)
theorem dX0_whatTold_17 : decode cX0_whatTold 17 = .ok (.getfield 134, 3) := dk_180 0 134 (dk_at dksX0_whatTold_0 17 rfl rfl)
theorem dX0_whatTold_20 : decode cX0_whatTold 20 = .ok (.if_icmp .ne 7, 3) := dk_160 0 7 (dk_at dksX0_whatTold_0 20 rfl rfl)
theorem dX0_whatTold_23 : decode cX0_whatTold 23 = .ok (.iconst 1, 1) := dk_4 (dk_at dksX0_whatTold_0 23 rfl rfl)
theorem dX0_whatTold_24 : decode cX0_whatTold 24 = .ok (.goto 4, 3) := dk_167 0 4 (dk_at dksX0_whatTold_1 0 rfl rfl)
theorem dX0_whatTold_27 : decode cX0_whatTold 27 = .ok (.iconst 0, 1) := dk_3 (dk_at dksX0_whatTold_1 3 rfl rfl)
theorem dX0_whatTold_28 : decode cX0_whatTold 28 = .ok (.bipush (-3), 2) := dk_16 253 (dk_at dksX0_whatTold_1 4 rfl rfl)
theorem dX0_whatTold_30 : decode cX0_whatTold 30 = .ok (.invokestatic 9, 3) := dk_184 0 9 (dk_at dksX0_whatTold_1 6 rfl rfl)
theorem dX0_whatTold_33 : decode cX0_whatTold 33 = .ok (.aload_n 0, 1) := dk_42 (dk_at dksX0_whatTold_1 9 rfl rfl)
theorem dX0_whatTold_34 : decode cX0_whatTold 34 = .ok (.iload_n 1, 1) := dk_27 (dk_at dksX0_whatTold_1 10 rfl rfl)
theorem dX0_whatTold_35 : decode cX0_whatTold 35 = .ok (.iload_n 2, 1) := dk_28 (dk_at dksX0_whatTold_1 11 rfl rfl)
theorem dX0_whatTold_36 : decode cX0_whatTold 36 = .ok (.invokevirtual 423, 3) := dk_182 1 167 (dk_at dksX0_whatTold_1 12 rfl rfl)
theorem dX0_whatTold_39 : decode cX0_whatTold 39 = .ok (.ireturn, 1) := dk_172 (dk_at dksX0_whatTold_1 15 rfl rfl)
abbrev cX0_fitting : ByteArray := prog_1_method_34_code
def yX0_fitting : MethodName := ⟨RX0, "fitting", "(II)I"⟩
def dkwX0_fitting_4 : List UInt8 := [120, 167, 0, 4, 3, 128, 62, 132, 4, 1, 167, 255, 159, 29, 172]
abbrev dktX0_fitting_4 : List UInt8 := dkwX0_fitting_4 ++ []
def dkwX0_fitting_3 : List UInt8 := [167, 0, 10, 25, 5, 180, 0, 210, 27, 46, 79, 29, 42, 25, 5, 182, 0, 213, 153, 0, 10, 4, 21, 4]
abbrev dktX0_fitting_3 : List UInt8 := dkwX0_fitting_3 ++ dktX0_fitting_4
def dkwX0_fitting_2 : List UInt8 := [167, 0, 10, 25, 5, 180, 0, 186, 27, 50, 83, 25, 5, 180, 0, 210, 27, 28, 4, 160, 0, 8, 21, 4]
abbrev dktX0_fitting_2 : List UInt8 := dkwX0_fitting_2 ++ dktX0_fitting_3
def dkwX0_fitting_1 : List UInt8 := [182, 0, 116, 58, 5, 25, 5, 180, 0, 186, 27, 28, 154, 0, 13, 42, 180, 0, 46, 21, 4, 50]
abbrev dktX0_fitting_1 : List UInt8 := dkwX0_fitting_1 ++ dktX0_fitting_2
def dkwX0_fitting_0 : List UInt8 := [3, 62, 3, 54, 4, 21, 4, 28, 154, 0, 8, 16, 6, 167, 0, 5, 16, 10, 162, 0, 87, 42]
abbrev dktX0_fitting_0 : List UInt8 := dkwX0_fitting_0 ++ dktX0_fitting_1
theorem dksX0_fitting_0 : cX0_fitting.data.toList.drop 0 = dktX0_fitting_0 := by decide +kernel
theorem dksX0_fitting_1 : cX0_fitting.data.toList.drop 22 = dktX0_fitting_1 := dk_seg dksX0_fitting_0 22 rfl rfl
theorem dksX0_fitting_2 : cX0_fitting.data.toList.drop 44 = dktX0_fitting_2 := dk_seg dksX0_fitting_1 22 rfl rfl
theorem dksX0_fitting_3 : cX0_fitting.data.toList.drop 68 = dktX0_fitting_3 := dk_seg dksX0_fitting_2 24 rfl rfl
theorem dksX0_fitting_4 : cX0_fitting.data.toList.drop 92 = dktX0_fitting_4 := dk_seg dksX0_fitting_3 24 rfl rfl
theorem dX0_fitting_0 : decode cX0_fitting 0 = .ok (.iconst 0, 1) := dk_3 (dk_at dksX0_fitting_0 0 rfl rfl)
theorem dX0_fitting_1 : decode cX0_fitting 1 = .ok (.istore_n 3, 1) := dk_62 (dk_at dksX0_fitting_0 1 rfl rfl)
theorem dX0_fitting_2 : decode cX0_fitting 2 = .ok (.iconst 0, 1) := dk_3 (dk_at dksX0_fitting_0 2 rfl rfl)
theorem dX0_fitting_3 : decode cX0_fitting 3 = .ok (.istore 4, 2) := dk_54 4 (dk_at dksX0_fitting_0 3 rfl rfl)
theorem dX0_fitting_5 : decode cX0_fitting 5 = .ok (.iload 4, 2) := dk_21 4 (dk_at dksX0_fitting_0 5 rfl rfl)
theorem dX0_fitting_7 : decode cX0_fitting 7 = .ok (.iload_n 2, 1) := dk_28 (dk_at dksX0_fitting_0 7 rfl rfl)
theorem dX0_fitting_8 : decode cX0_fitting 8 = .ok (.ifCond .ne 8, 3) := dk_154 0 8 (dk_at dksX0_fitting_0 8 rfl rfl)
theorem dX0_fitting_11 : decode cX0_fitting 11 = .ok (.bipush 6, 2) := dk_16 6 (dk_at dksX0_fitting_0 11 rfl rfl)
theorem dX0_fitting_13 : decode cX0_fitting 13 = .ok (.goto 5, 3) := dk_167 0 5 (dk_at dksX0_fitting_0 13 rfl rfl)
theorem dX0_fitting_16 : decode cX0_fitting 16 = .ok (.bipush 10, 2) := dk_16 10 (dk_at dksX0_fitting_0 16 rfl rfl)
theorem dX0_fitting_18 : decode cX0_fitting 18 = .ok (.if_icmp .ge 87, 3) := dk_162 0 87 (dk_at dksX0_fitting_0 18 rfl rfl)
theorem dX0_fitting_21 : decode cX0_fitting 21 = .ok (.aload_n 0, 1) := dk_42 (dk_at dksX0_fitting_0 21 rfl rfl)
theorem dX0_fitting_22 : decode cX0_fitting 22 = .ok (.invokevirtual 116, 3) := dk_182 0 116 (dk_at dksX0_fitting_1 0 rfl rfl)
theorem dX0_fitting_25 : decode cX0_fitting 25 = .ok (.astore 5, 2) := dk_58 5 (dk_at dksX0_fitting_1 3 rfl rfl)
theorem dX0_fitting_27 : decode cX0_fitting 27 = .ok (.aload 5, 2) := dk_25 5 (dk_at dksX0_fitting_1 5 rfl rfl)
theorem dX0_fitting_29 : decode cX0_fitting 29 = .ok (.getfield 186, 3) := dk_180 0 186 (dk_at dksX0_fitting_1 7 rfl rfl)
theorem dX0_fitting_32 : decode cX0_fitting 32 = .ok (.iload_n 1, 1) := dk_27 (dk_at dksX0_fitting_1 10 rfl rfl)
theorem dX0_fitting_33 : decode cX0_fitting 33 = .ok (.iload_n 2, 1) := dk_28 (dk_at dksX0_fitting_1 11 rfl rfl)
theorem dX0_fitting_34 : decode cX0_fitting 34 = .ok (.ifCond .ne 13, 3) := dk_154 0 13 (dk_at dksX0_fitting_1 12 rfl rfl)
theorem dX0_fitting_37 : decode cX0_fitting 37 = .ok (.aload_n 0, 1) := dk_42 (dk_at dksX0_fitting_1 15 rfl rfl)
theorem dX0_fitting_38 : decode cX0_fitting 38 = .ok (.getfield 46, 3) := dk_180 0 46 (dk_at dksX0_fitting_1 16 rfl rfl)
theorem dX0_fitting_41 : decode cX0_fitting 41 = .ok (.iload 4, 2) := dk_21 4 (dk_at dksX0_fitting_1 19 rfl rfl)
theorem dX0_fitting_43 : decode cX0_fitting 43 = .ok (.aaload, 1) := dk_50 (dk_at dksX0_fitting_1 21 rfl rfl)
theorem dX0_fitting_44 : decode cX0_fitting 44 = .ok (.goto 10, 3) := dk_167 0 10 (dk_at dksX0_fitting_2 0 rfl rfl)
theorem dX0_fitting_47 : decode cX0_fitting 47 = .ok (.aload 5, 2) := dk_25 5 (dk_at dksX0_fitting_2 3 rfl rfl)
theorem dX0_fitting_49 : decode cX0_fitting 49 = .ok (.getfield 186, 3) := dk_180 0 186 (dk_at dksX0_fitting_2 5 rfl rfl)
theorem dX0_fitting_52 : decode cX0_fitting 52 = .ok (.iload_n 1, 1) := dk_27 (dk_at dksX0_fitting_2 8 rfl rfl)
theorem dX0_fitting_53 : decode cX0_fitting 53 = .ok (.aaload, 1) := dk_50 (dk_at dksX0_fitting_2 9 rfl rfl)
theorem dX0_fitting_54 : decode cX0_fitting 54 = .ok (.aastore, 1) := dk_83 (dk_at dksX0_fitting_2 10 rfl rfl)
theorem dX0_fitting_55 : decode cX0_fitting 55 = .ok (.aload 5, 2) := dk_25 5 (dk_at dksX0_fitting_2 11 rfl rfl)
theorem dX0_fitting_57 : decode cX0_fitting 57 = .ok (.getfield 210, 3) := dk_180 0 210 (dk_at dksX0_fitting_2 13 rfl rfl)
theorem dX0_fitting_60 : decode cX0_fitting 60 = .ok (.iload_n 1, 1) := dk_27 (dk_at dksX0_fitting_2 16 rfl rfl)
theorem dX0_fitting_61 : decode cX0_fitting 61 = .ok (.iload_n 2, 1) := dk_28 (dk_at dksX0_fitting_2 17 rfl rfl)
theorem dX0_fitting_62 : decode cX0_fitting 62 = .ok (.iconst 1, 1) := dk_4 (dk_at dksX0_fitting_2 18 rfl rfl)
theorem dX0_fitting_63 : decode cX0_fitting 63 = .ok (.if_icmp .ne 8, 3) := dk_160 0 8 (dk_at dksX0_fitting_2 19 rfl rfl)
theorem dX0_fitting_66 : decode cX0_fitting 66 = .ok (.iload 4, 2) := dk_21 4 (dk_at dksX0_fitting_2 22 rfl rfl)
theorem dX0_fitting_68 : decode cX0_fitting 68 = .ok (.goto 10, 3) := dk_167 0 10 (dk_at dksX0_fitting_3 0 rfl rfl)
theorem dX0_fitting_71 : decode cX0_fitting 71 = .ok (.aload 5, 2) := dk_25 5 (dk_at dksX0_fitting_3 3 rfl rfl)
theorem dX0_fitting_73 : decode cX0_fitting 73 = .ok (.getfield 210, 3) := dk_180 0 210 (dk_at dksX0_fitting_3 5 rfl rfl)
theorem dX0_fitting_76 : decode cX0_fitting 76 = .ok (.iload_n 1, 1) := dk_27 (dk_at dksX0_fitting_3 8 rfl rfl)
theorem dX0_fitting_77 : decode cX0_fitting 77 = .ok (.iaload, 1) := dk_46 (dk_at dksX0_fitting_3 9 rfl rfl)
theorem dX0_fitting_78 : decode cX0_fitting 78 = .ok (.iastore, 1) := dk_79 (dk_at dksX0_fitting_3 10 rfl rfl)
theorem dX0_fitting_79 : decode cX0_fitting 79 = .ok (.iload_n 3, 1) := dk_29 (dk_at dksX0_fitting_3 11 rfl rfl)
theorem dX0_fitting_80 : decode cX0_fitting 80 = .ok (.aload_n 0, 1) := dk_42 (dk_at dksX0_fitting_3 12 rfl rfl)
theorem dX0_fitting_81 : decode cX0_fitting 81 = .ok (.aload 5, 2) := dk_25 5 (dk_at dksX0_fitting_3 13 rfl rfl)
theorem dX0_fitting_83 : decode cX0_fitting 83 = .ok (.invokevirtual 213, 3) := dk_182 0 213 (dk_at dksX0_fitting_3 15 rfl rfl)
theorem dX0_fitting_86 : decode cX0_fitting 86 = .ok (.ifCond .eq 10, 3) := dk_153 0 10 (dk_at dksX0_fitting_3 18 rfl rfl)
theorem dX0_fitting_89 : decode cX0_fitting 89 = .ok (.iconst 1, 1) := dk_4 (dk_at dksX0_fitting_3 21 rfl rfl)
theorem dX0_fitting_90 : decode cX0_fitting 90 = .ok (.iload 4, 2) := dk_21 4 (dk_at dksX0_fitting_3 22 rfl rfl)
theorem dX0_fitting_92 : decode cX0_fitting 92 = .ok (.ishl, 1) := dk_120 (dk_at dksX0_fitting_4 0 rfl rfl)
theorem dX0_fitting_93 : decode cX0_fitting 93 = .ok (.goto 4, 3) := dk_167 0 4 (dk_at dksX0_fitting_4 1 rfl rfl)
theorem dX0_fitting_96 : decode cX0_fitting 96 = .ok (.iconst 0, 1) := dk_3 (dk_at dksX0_fitting_4 4 rfl rfl)
theorem dX0_fitting_97 : decode cX0_fitting 97 = .ok (.ior, 1) := dk_128 (dk_at dksX0_fitting_4 5 rfl rfl)
theorem dX0_fitting_98 : decode cX0_fitting 98 = .ok (.istore_n 3, 1) := dk_62 (dk_at dksX0_fitting_4 6 rfl rfl)
theorem dX0_fitting_99 : decode cX0_fitting 99 = .ok (.iinc 4 1, 3) := dk_132 4 1 (dk_at dksX0_fitting_4 7 rfl rfl)
theorem dX0_fitting_102 : decode cX0_fitting 102 = .ok (.goto (-97), 3) := dk_167 255 159 (dk_at dksX0_fitting_4 10 rfl rfl)
theorem dX0_fitting_105 : decode cX0_fitting 105 = .ok (.iload_n 3, 1) := dk_29 (dk_at dksX0_fitting_4 13 rfl rfl)
theorem dX0_fitting_106 : decode cX0_fitting 106 = .ok (.ireturn, 1) := dk_172 (dk_at dksX0_fitting_4 14 rfl rfl)
abbrev cX0_isRow : ByteArray := prog_1_method_33_code
def yX0_isRow : MethodName := ⟨RX0, "isRow", "(LPulledFromUnder$Room;)Z"⟩
def dkwX0_isRow_5 : List UInt8 := [160, 0, 7, 4, 167, 0, 4, 3, 126, 62, 132, 4, 1, 167, 255, 222, 29, 172]
abbrev dktX0_isRow_5 : List UInt8 := dkwX0_isRow_5 ++ []
def dkwX0_isRow_4 : List UInt8 := [3, 54, 4, 21, 4, 43, 180, 0, 134, 162, 0, 31, 29, 42, 180, 0, 63, 21, 4, 51, 44, 21, 4, 46]
abbrev dktX0_isRow_4 : List UInt8 := dkwX0_isRow_4 ++ dktX0_isRow_5
def dkwX0_isRow_3 : List UInt8 := [44, 21, 4, 46, 79, 132, 4, 1, 167, 255, 214, 43, 3, 182, 0, 127, 132, 3, 1, 167, 255, 194, 4, 62]
abbrev dktX0_isRow_3 : List UInt8 := dkwX0_isRow_3 ++ dktX0_isRow_4
def dkwX0_isRow_2 : List UInt8 := [21, 4, 43, 180, 0, 124, 21, 4, 46, 4, 160, 0, 14, 44, 21, 4, 46, 29, 184, 0, 169, 167, 0, 7]
abbrev dktX0_isRow_2 : List UInt8 := dkwX0_isRow_2 ++ dktX0_isRow_3
def dkwX0_isRow_1 : List UInt8 := [167, 255, 240, 3, 62, 29, 16, 99, 162, 0, 62, 3, 54, 4, 21, 4, 43, 180, 0, 134, 162, 0, 39, 44]
abbrev dktX0_isRow_1 : List UInt8 := dkwX0_isRow_1 ++ dktX0_isRow_2
def dkwX0_isRow_0 : List UInt8 := [16, 10, 188, 10, 77, 3, 62, 29, 43, 180, 0, 134, 162, 0, 14, 44, 29, 16, 99, 79, 132, 3, 1]
abbrev dktX0_isRow_0 : List UInt8 := dkwX0_isRow_0 ++ dktX0_isRow_1
theorem dksX0_isRow_0 : cX0_isRow.data.toList.drop 0 = dktX0_isRow_0 := by decide +kernel
theorem dksX0_isRow_1 : cX0_isRow.data.toList.drop 23 = dktX0_isRow_1 := dk_seg dksX0_isRow_0 23 rfl rfl
theorem dksX0_isRow_2 : cX0_isRow.data.toList.drop 47 = dktX0_isRow_2 := dk_seg dksX0_isRow_1 24 rfl rfl
theorem dksX0_isRow_3 : cX0_isRow.data.toList.drop 71 = dktX0_isRow_3 := dk_seg dksX0_isRow_2 24 rfl rfl
theorem dksX0_isRow_4 : cX0_isRow.data.toList.drop 95 = dktX0_isRow_4 := dk_seg dksX0_isRow_3 24 rfl rfl
theorem dksX0_isRow_5 : cX0_isRow.data.toList.drop 119 = dktX0_isRow_5 := dk_seg dksX0_isRow_4 24 rfl rfl
theorem dX0_isRow_0 : decode cX0_isRow 0 = .ok (.bipush 10, 2) := dk_16 10 (dk_at dksX0_isRow_0 0 rfl rfl)
theorem dX0_isRow_2 : decode cX0_isRow 2 = .ok (.newarray .int, 2) := dk_188_10 (dk_at dksX0_isRow_0 2 rfl rfl)
theorem dX0_isRow_4 : decode cX0_isRow 4 = .ok (.astore_n 2, 1) := dk_77 (dk_at dksX0_isRow_0 4 rfl rfl)
theorem dX0_isRow_5 : decode cX0_isRow 5 = .ok (.iconst 0, 1) := dk_3 (dk_at dksX0_isRow_0 5 rfl rfl)
theorem dX0_isRow_6 : decode cX0_isRow 6 = .ok (.istore_n 3, 1) := dk_62 (dk_at dksX0_isRow_0 6 rfl rfl)
theorem dX0_isRow_7 : decode cX0_isRow 7 = .ok (.iload_n 3, 1) := dk_29 (dk_at dksX0_isRow_0 7 rfl rfl)
theorem dX0_isRow_8 : decode cX0_isRow 8 = .ok (.aload_n 1, 1) := dk_43 (dk_at dksX0_isRow_0 8 rfl rfl)
theorem dX0_isRow_9 : decode cX0_isRow 9 = .ok (.getfield 134, 3) := dk_180 0 134 (dk_at dksX0_isRow_0 9 rfl rfl)
theorem dX0_isRow_12 : decode cX0_isRow 12 = .ok (.if_icmp .ge 14, 3) := dk_162 0 14 (dk_at dksX0_isRow_0 12 rfl rfl)
theorem dX0_isRow_15 : decode cX0_isRow 15 = .ok (.aload_n 2, 1) := dk_44 (dk_at dksX0_isRow_0 15 rfl rfl)
theorem dX0_isRow_16 : decode cX0_isRow 16 = .ok (.iload_n 3, 1) := dk_29 (dk_at dksX0_isRow_0 16 rfl rfl)
theorem dX0_isRow_17 : decode cX0_isRow 17 = .ok (.bipush 99, 2) := dk_16 99 (dk_at dksX0_isRow_0 17 rfl rfl)
theorem dX0_isRow_19 : decode cX0_isRow 19 = .ok (.iastore, 1) := dk_79 (dk_at dksX0_isRow_0 19 rfl rfl)
theorem dX0_isRow_20 : decode cX0_isRow 20 = .ok (.iinc 3 1, 3) := dk_132 3 1 (dk_at dksX0_isRow_0 20 rfl rfl)
theorem dX0_isRow_23 : decode cX0_isRow 23 = .ok (.goto (-16), 3) := dk_167 255 240 (dk_at dksX0_isRow_1 0 rfl rfl)
theorem dX0_isRow_26 : decode cX0_isRow 26 = .ok (.iconst 0, 1) := dk_3 (dk_at dksX0_isRow_1 3 rfl rfl)
theorem dX0_isRow_27 : decode cX0_isRow 27 = .ok (.istore_n 3, 1) := dk_62 (dk_at dksX0_isRow_1 4 rfl rfl)
theorem dX0_isRow_28 : decode cX0_isRow 28 = .ok (.iload_n 3, 1) := dk_29 (dk_at dksX0_isRow_1 5 rfl rfl)
theorem dX0_isRow_29 : decode cX0_isRow 29 = .ok (.bipush 99, 2) := dk_16 99 (dk_at dksX0_isRow_1 6 rfl rfl)
theorem dX0_isRow_31 : decode cX0_isRow 31 = .ok (.if_icmp .ge 62, 3) := dk_162 0 62 (dk_at dksX0_isRow_1 8 rfl rfl)
theorem dX0_isRow_34 : decode cX0_isRow 34 = .ok (.iconst 0, 1) := dk_3 (dk_at dksX0_isRow_1 11 rfl rfl)
theorem dX0_isRow_35 : decode cX0_isRow 35 = .ok (.istore 4, 2) := dk_54 4 (dk_at dksX0_isRow_1 12 rfl rfl)
theorem dX0_isRow_37 : decode cX0_isRow 37 = .ok (.iload 4, 2) := dk_21 4 (dk_at dksX0_isRow_1 14 rfl rfl)
theorem dX0_isRow_39 : decode cX0_isRow 39 = .ok (.aload_n 1, 1) := dk_43 (dk_at dksX0_isRow_1 16 rfl rfl)
theorem dX0_isRow_40 : decode cX0_isRow 40 = .ok (.getfield 134, 3) := dk_180 0 134 (dk_at dksX0_isRow_1 17 rfl rfl)
theorem dX0_isRow_43 : decode cX0_isRow 43 = .ok (.if_icmp .ge 39, 3) := dk_162 0 39 (dk_at dksX0_isRow_1 20 rfl rfl)
theorem dX0_isRow_46 : decode cX0_isRow 46 = .ok (.aload_n 2, 1) := dk_44 (dk_at dksX0_isRow_1 23 rfl rfl)
theorem dX0_isRow_47 : decode cX0_isRow 47 = .ok (.iload 4, 2) := dk_21 4 (dk_at dksX0_isRow_2 0 rfl rfl)
theorem dX0_isRow_49 : decode cX0_isRow 49 = .ok (.aload_n 1, 1) := dk_43 (dk_at dksX0_isRow_2 2 rfl rfl)
theorem dX0_isRow_50 : decode cX0_isRow 50 = .ok (.getfield 124, 3) := dk_180 0 124 (dk_at dksX0_isRow_2 3 rfl rfl)
theorem dX0_isRow_53 : decode cX0_isRow 53 = .ok (.iload 4, 2) := dk_21 4 (dk_at dksX0_isRow_2 6 rfl rfl)
theorem dX0_isRow_55 : decode cX0_isRow 55 = .ok (.iaload, 1) := dk_46 (dk_at dksX0_isRow_2 8 rfl rfl)
theorem dX0_isRow_56 : decode cX0_isRow 56 = .ok (.iconst 1, 1) := dk_4 (dk_at dksX0_isRow_2 9 rfl rfl)
theorem dX0_isRow_57 : decode cX0_isRow 57 = .ok (.if_icmp .ne 14, 3) := dk_160 0 14 (dk_at dksX0_isRow_2 10 rfl rfl)
theorem dX0_isRow_60 : decode cX0_isRow 60 = .ok (.aload_n 2, 1) := dk_44 (dk_at dksX0_isRow_2 13 rfl rfl)
theorem dX0_isRow_61 : decode cX0_isRow 61 = .ok (.iload 4, 2) := dk_21 4 (dk_at dksX0_isRow_2 14 rfl rfl)
theorem dX0_isRow_63 : decode cX0_isRow 63 = .ok (.iaload, 1) := dk_46 (dk_at dksX0_isRow_2 16 rfl rfl)
theorem dX0_isRow_64 : decode cX0_isRow 64 = .ok (.iload_n 3, 1) := dk_29 (dk_at dksX0_isRow_2 17 rfl rfl)
theorem dX0_isRow_65 : decode cX0_isRow 65 = .ok (.invokestatic 169, 3) := dk_184 0 169 (dk_at dksX0_isRow_2 18 rfl rfl)
theorem dX0_isRow_68 : decode cX0_isRow 68 = .ok (.goto 7, 3) := dk_167 0 7 (dk_at dksX0_isRow_2 21 rfl rfl)
theorem dX0_isRow_71 : decode cX0_isRow 71 = .ok (.aload_n 2, 1) := dk_44 (dk_at dksX0_isRow_3 0 rfl rfl)
theorem dX0_isRow_72 : decode cX0_isRow 72 = .ok (.iload 4, 2) := dk_21 4 (dk_at dksX0_isRow_3 1 rfl rfl)
theorem dX0_isRow_74 : decode cX0_isRow 74 = .ok (.iaload, 1) := dk_46 (dk_at dksX0_isRow_3 3 rfl rfl)
theorem dX0_isRow_75 : decode cX0_isRow 75 = .ok (.iastore, 1) := dk_79 (dk_at dksX0_isRow_3 4 rfl rfl)
theorem dX0_isRow_76 : decode cX0_isRow 76 = .ok (.iinc 4 1, 3) := dk_132 4 1 (dk_at dksX0_isRow_3 5 rfl rfl)
theorem dX0_isRow_79 : decode cX0_isRow 79 = .ok (.goto (-42), 3) := dk_167 255 214 (dk_at dksX0_isRow_3 8 rfl rfl)
theorem dX0_isRow_82 : decode cX0_isRow 82 = .ok (.aload_n 1, 1) := dk_43 (dk_at dksX0_isRow_3 11 rfl rfl)
theorem dX0_isRow_83 : decode cX0_isRow 83 = .ok (.iconst 0, 1) := dk_3 (dk_at dksX0_isRow_3 12 rfl rfl)
theorem dX0_isRow_84 : decode cX0_isRow 84 = .ok (.invokevirtual 127, 3) := dk_182 0 127 (dk_at dksX0_isRow_3 13 rfl rfl)
theorem dX0_isRow_87 : decode cX0_isRow 87 = .ok (.iinc 3 1, 3) := dk_132 3 1 (dk_at dksX0_isRow_3 16 rfl rfl)
theorem dX0_isRow_90 : decode cX0_isRow 90 = .ok (.goto (-62), 3) := dk_167 255 194 (dk_at dksX0_isRow_3 19 rfl rfl)
theorem dX0_isRow_93 : decode cX0_isRow 93 = .ok (.iconst 1, 1) := dk_4 (dk_at dksX0_isRow_3 22 rfl rfl)
theorem dX0_isRow_94 : decode cX0_isRow 94 = .ok (.istore_n 3, 1) := dk_62 (dk_at dksX0_isRow_3 23 rfl rfl)
theorem dX0_isRow_95 : decode cX0_isRow 95 = .ok (.iconst 0, 1) := dk_3 (dk_at dksX0_isRow_4 0 rfl rfl)
theorem dX0_isRow_96 : decode cX0_isRow 96 = .ok (.istore 4, 2) := dk_54 4 (dk_at dksX0_isRow_4 1 rfl rfl)
theorem dX0_isRow_98 : decode cX0_isRow 98 = .ok (.iload 4, 2) := dk_21 4 (dk_at dksX0_isRow_4 3 rfl rfl)
theorem dX0_isRow_100 : decode cX0_isRow 100 = .ok (.aload_n 1, 1) := dk_43 (dk_at dksX0_isRow_4 5 rfl rfl)
theorem dX0_isRow_101 : decode cX0_isRow 101 = .ok (.getfield 134, 3) := dk_180 0 134 (dk_at dksX0_isRow_4 6 rfl rfl)
theorem dX0_isRow_104 : decode cX0_isRow 104 = .ok (.if_icmp .ge 31, 3) := dk_162 0 31 (dk_at dksX0_isRow_4 9 rfl rfl)
theorem dX0_isRow_107 : decode cX0_isRow 107 = .ok (.iload_n 3, 1) := dk_29 (dk_at dksX0_isRow_4 12 rfl rfl)
theorem dX0_isRow_108 : decode cX0_isRow 108 = .ok (.aload_n 0, 1) := dk_42 (dk_at dksX0_isRow_4 13 rfl rfl)
theorem dX0_isRow_109 : decode cX0_isRow 109 = .ok (.getfield 63, 3) := dk_180 0 63 (dk_at dksX0_isRow_4 14 rfl rfl)
theorem dX0_isRow_112 : decode cX0_isRow 112 = .ok (.iload 4, 2) := dk_21 4 (dk_at dksX0_isRow_4 17 rfl rfl)
theorem dX0_isRow_114 : decode cX0_isRow 114 = .ok (.baload, 1) := dk_51 (dk_at dksX0_isRow_4 19 rfl rfl)
theorem dX0_isRow_115 : decode cX0_isRow 115 = .ok (.aload_n 2, 1) := dk_44 (dk_at dksX0_isRow_4 20 rfl rfl)
theorem dX0_isRow_116 : decode cX0_isRow 116 = .ok (.iload 4, 2) := dk_21 4 (dk_at dksX0_isRow_4 21 rfl rfl)
theorem dX0_isRow_118 : decode cX0_isRow 118 = .ok (.iaload, 1) := dk_46 (dk_at dksX0_isRow_4 23 rfl rfl)
theorem dX0_isRow_119 : decode cX0_isRow 119 = .ok (.if_icmp .ne 7, 3) := dk_160 0 7 (dk_at dksX0_isRow_5 0 rfl rfl)
theorem dX0_isRow_122 : decode cX0_isRow 122 = .ok (.iconst 1, 1) := dk_4 (dk_at dksX0_isRow_5 3 rfl rfl)
theorem dX0_isRow_123 : decode cX0_isRow 123 = .ok (.goto 4, 3) := dk_167 0 4 (dk_at dksX0_isRow_5 4 rfl rfl)
theorem dX0_isRow_126 : decode cX0_isRow 126 = .ok (.iconst 0, 1) := dk_3 (dk_at dksX0_isRow_5 7 rfl rfl)
theorem dX0_isRow_127 : decode cX0_isRow 127 = .ok (.iand, 1) := dk_126 (dk_at dksX0_isRow_5 8 rfl rfl)
theorem dX0_isRow_128 : decode cX0_isRow 128 = .ok (.istore_n 3, 1) := dk_62 (dk_at dksX0_isRow_5 9 rfl rfl)
theorem dX0_isRow_129 : decode cX0_isRow 129 = .ok (.iinc 4 1, 3) := dk_132 4 1 (dk_at dksX0_isRow_5 10 rfl rfl)
theorem dX0_isRow_132 : decode cX0_isRow 132 = .ok (.goto (-34), 3) := dk_167 255 222 (dk_at dksX0_isRow_5 13 rfl rfl)
theorem dX0_isRow_135 : decode cX0_isRow 135 = .ok (.iload_n 3, 1) := dk_29 (dk_at dksX0_isRow_5 16 rfl rfl)
theorem dX0_isRow_136 : decode cX0_isRow 136 = .ok (.ireturn, 1) := dk_172 (dk_at dksX0_isRow_5 17 rfl rfl)
abbrev cX0_judgeRow : ByteArray := prog_1_method_35_code
def yX0_judgeRow : MethodName := ⟨RX0, "judgeRow", "()I"⟩
def dkwX0_judgeRow_2 : List UInt8 := [159, 0, 5, 29, 172, 132, 3, 1, 167, 255, 219, 16, 247, 172]
abbrev dktX0_judgeRow_2 : List UInt8 := dkwX0_judgeRow_2 ++ []
def dkwX0_judgeRow_1 : List UInt8 := [154, 0, 7, 3, 167, 0, 4, 4, 182, 0, 120, 87, 44, 182, 0, 165, 42, 180, 0, 63, 29, 51]
abbrev dktX0_judgeRow_1 : List UInt8 := dkwX0_judgeRow_1 ++ dktX0_judgeRow_2
def dkwX0_judgeRow_0 : List UInt8 := [42, 180, 0, 216, 60, 42, 3, 181, 0, 216, 42, 182, 0, 116, 77, 3, 62, 29, 27, 162, 0, 38, 44, 29]
abbrev dktX0_judgeRow_0 : List UInt8 := dkwX0_judgeRow_0 ++ dktX0_judgeRow_1
theorem dksX0_judgeRow_0 : cX0_judgeRow.data.toList.drop 0 = dktX0_judgeRow_0 := by decide +kernel
theorem dksX0_judgeRow_1 : cX0_judgeRow.data.toList.drop 24 = dktX0_judgeRow_1 := dk_seg dksX0_judgeRow_0 24 rfl rfl
theorem dksX0_judgeRow_2 : cX0_judgeRow.data.toList.drop 46 = dktX0_judgeRow_2 := dk_seg dksX0_judgeRow_1 22 rfl rfl
theorem dX0_judgeRow_0 : decode cX0_judgeRow 0 = .ok (.aload_n 0, 1) := dk_42 (dk_at dksX0_judgeRow_0 0 rfl rfl)
theorem dX0_judgeRow_1 : decode cX0_judgeRow 1 = .ok (.getfield 216, 3) := dk_180 0 216 (dk_at dksX0_judgeRow_0 1 rfl rfl)
theorem dX0_judgeRow_4 : decode cX0_judgeRow 4 = .ok (.istore_n 1, 1) := dk_60 (dk_at dksX0_judgeRow_0 4 rfl rfl)
theorem dX0_judgeRow_5 : decode cX0_judgeRow 5 = .ok (.aload_n 0, 1) := dk_42 (dk_at dksX0_judgeRow_0 5 rfl rfl)
theorem dX0_judgeRow_6 : decode cX0_judgeRow 6 = .ok (.iconst 0, 1) := dk_3 (dk_at dksX0_judgeRow_0 6 rfl rfl)
theorem dX0_judgeRow_7 : decode cX0_judgeRow 7 = .ok (.putfield 216, 3) := dk_181 0 216 (dk_at dksX0_judgeRow_0 7 rfl rfl)
theorem dX0_judgeRow_10 : decode cX0_judgeRow 10 = .ok (.aload_n 0, 1) := dk_42 (dk_at dksX0_judgeRow_0 10 rfl rfl)
theorem dX0_judgeRow_11 : decode cX0_judgeRow 11 = .ok (.invokevirtual 116, 3) := dk_182 0 116 (dk_at dksX0_judgeRow_0 11 rfl rfl)
theorem dX0_judgeRow_14 : decode cX0_judgeRow 14 = .ok (.astore_n 2, 1) := dk_77 (dk_at dksX0_judgeRow_0 14 rfl rfl)
theorem dX0_judgeRow_15 : decode cX0_judgeRow 15 = .ok (.iconst 0, 1) := dk_3 (dk_at dksX0_judgeRow_0 15 rfl rfl)
theorem dX0_judgeRow_16 : decode cX0_judgeRow 16 = .ok (.istore_n 3, 1) := dk_62 (dk_at dksX0_judgeRow_0 16 rfl rfl)
theorem dX0_judgeRow_17 : decode cX0_judgeRow 17 = .ok (.iload_n 3, 1) := dk_29 (dk_at dksX0_judgeRow_0 17 rfl rfl)
theorem dX0_judgeRow_18 : decode cX0_judgeRow 18 = .ok (.iload_n 1, 1) := dk_27 (dk_at dksX0_judgeRow_0 18 rfl rfl)
theorem dX0_judgeRow_19 : decode cX0_judgeRow 19 = .ok (.if_icmp .ge 38, 3) := dk_162 0 38 (dk_at dksX0_judgeRow_0 19 rfl rfl)
theorem dX0_judgeRow_22 : decode cX0_judgeRow 22 = .ok (.aload_n 2, 1) := dk_44 (dk_at dksX0_judgeRow_0 22 rfl rfl)
theorem dX0_judgeRow_23 : decode cX0_judgeRow 23 = .ok (.iload_n 3, 1) := dk_29 (dk_at dksX0_judgeRow_0 23 rfl rfl)
theorem dX0_judgeRow_24 : decode cX0_judgeRow 24 = .ok (.ifCond .ne 7, 3) := dk_154 0 7 (dk_at dksX0_judgeRow_1 0 rfl rfl)
theorem dX0_judgeRow_27 : decode cX0_judgeRow 27 = .ok (.iconst 0, 1) := dk_3 (dk_at dksX0_judgeRow_1 3 rfl rfl)
theorem dX0_judgeRow_28 : decode cX0_judgeRow 28 = .ok (.goto 4, 3) := dk_167 0 4 (dk_at dksX0_judgeRow_1 4 rfl rfl)
theorem dX0_judgeRow_31 : decode cX0_judgeRow 31 = .ok (.iconst 1, 1) := dk_4 (dk_at dksX0_judgeRow_1 7 rfl rfl)
theorem dX0_judgeRow_32 : decode cX0_judgeRow 32 = .ok (.invokevirtual 120, 3) := dk_182 0 120 (dk_at dksX0_judgeRow_1 8 rfl rfl)
theorem dX0_judgeRow_35 : decode cX0_judgeRow 35 = .ok (.pop, 1) := dk_87 (dk_at dksX0_judgeRow_1 11 rfl rfl)
theorem dX0_judgeRow_36 : decode cX0_judgeRow 36 = .ok (.aload_n 2, 1) := dk_44 (dk_at dksX0_judgeRow_1 12 rfl rfl)
theorem dX0_judgeRow_37 : decode cX0_judgeRow 37 = .ok (.invokevirtual 165, 3) := dk_182 0 165 (dk_at dksX0_judgeRow_1 13 rfl rfl)
theorem dX0_judgeRow_40 : decode cX0_judgeRow 40 = .ok (.aload_n 0, 1) := dk_42 (dk_at dksX0_judgeRow_1 16 rfl rfl)
theorem dX0_judgeRow_41 : decode cX0_judgeRow 41 = .ok (.getfield 63, 3) := dk_180 0 63 (dk_at dksX0_judgeRow_1 17 rfl rfl)
theorem dX0_judgeRow_44 : decode cX0_judgeRow 44 = .ok (.iload_n 3, 1) := dk_29 (dk_at dksX0_judgeRow_1 20 rfl rfl)
theorem dX0_judgeRow_45 : decode cX0_judgeRow 45 = .ok (.baload, 1) := dk_51 (dk_at dksX0_judgeRow_1 21 rfl rfl)
theorem dX0_judgeRow_46 : decode cX0_judgeRow 46 = .ok (.if_icmp .eq 5, 3) := dk_159 0 5 (dk_at dksX0_judgeRow_2 0 rfl rfl)
theorem dX0_judgeRow_49 : decode cX0_judgeRow 49 = .ok (.iload_n 3, 1) := dk_29 (dk_at dksX0_judgeRow_2 3 rfl rfl)
theorem dX0_judgeRow_50 : decode cX0_judgeRow 50 = .ok (.ireturn, 1) := dk_172 (dk_at dksX0_judgeRow_2 4 rfl rfl)
theorem dX0_judgeRow_51 : decode cX0_judgeRow 51 = .ok (.iinc 3 1, 3) := dk_132 3 1 (dk_at dksX0_judgeRow_2 5 rfl rfl)
theorem dX0_judgeRow_54 : decode cX0_judgeRow 54 = .ok (.goto (-37), 3) := dk_167 255 219 (dk_at dksX0_judgeRow_2 8 rfl rfl)
theorem dX0_judgeRow_57 : decode cX0_judgeRow 57 = .ok (.bipush (-9), 2) := dk_16 247 (dk_at dksX0_judgeRow_2 11 rfl rfl)
theorem dX0_judgeRow_59 : decode cX0_judgeRow 59 = .ok (.ireturn, 1) := dk_172 (dk_at dksX0_judgeRow_2 13 rfl rfl)
abbrev cX0_lotsTold : ByteArray := prog_1_method_69_code
def yX0_lotsTold : MethodName := ⟨RX0, "lotsTold", "(III)I"⟩
def dkwX0_lotsTold_1 : List UInt8 := [167, 0, 4, 3, 16, 253, 184, 0, 9, 42, 27, 28, 29, 182, 1, 172, 172]
abbrev dktX0_lotsTold_1 : List UInt8 := dkwX0_lotsTold_1 ++ []
def dkwX0_lotsTold_0 : List UInt8 := [27, 133, 10, 20, 1, 170, 184, 0, 255, 29, 184, 1, 100, 42, 180, 0, 53, 180, 0, 134, 158, 0, 7, 4]
abbrev dktX0_lotsTold_0 : List UInt8 := dkwX0_lotsTold_0 ++ dktX0_lotsTold_1
theorem dksX0_lotsTold_0 : cX0_lotsTold.data.toList.drop 0 = dktX0_lotsTold_0 := by decide +kernel
theorem dksX0_lotsTold_1 : cX0_lotsTold.data.toList.drop 24 = dktX0_lotsTold_1 := dk_seg dksX0_lotsTold_0 24 rfl rfl
theorem dX0_lotsTold_0 : decode cX0_lotsTold 0 = .ok (.iload_n 1, 1) := dk_27 (dk_at dksX0_lotsTold_0 0 rfl rfl)
theorem dX0_lotsTold_1 : decode cX0_lotsTold 1 = .ok (.i2l, 1) := dk_133 (dk_at dksX0_lotsTold_0 1 rfl rfl)
theorem dX0_lotsTold_2 : decode cX0_lotsTold 2 = .ok (.lconst 1, 1) := dk_10 (dk_at dksX0_lotsTold_0 2 rfl rfl)
theorem dX0_lotsTold_3 : decode cX0_lotsTold 3 = .ok (.ldc2_w 426, 3) := dk_20 1 170 (dk_at dksX0_lotsTold_0 3 rfl rfl)
theorem dX0_lotsTold_6 : decode cX0_lotsTold 6 = .ok (.invokestatic 255, 3) := dk_184 0 255 (dk_at dksX0_lotsTold_0 6 rfl rfl)
theorem dX0_lotsTold_9 : decode cX0_lotsTold 9 = .ok (.iload_n 3, 1) := dk_29 (dk_at dksX0_lotsTold_0 9 rfl rfl)
theorem dX0_lotsTold_10 : decode cX0_lotsTold 10 = .ok (.invokestatic 356, 3) := dk_184 1 100 (dk_at dksX0_lotsTold_0 10 rfl rfl)
theorem dX0_lotsTold_13 : decode cX0_lotsTold 13 = .ok (.aload_n 0, 1) := dk_42 (dk_at dksX0_lotsTold_0 13 rfl rfl)
theorem dX0_lotsTold_14 : decode cX0_lotsTold 14 = .ok (.getfield 53, 3) := dk_180 0 53 (dk_at dksX0_lotsTold_0 14 rfl rfl)
theorem dX0_lotsTold_17 : decode cX0_lotsTold 17 = .ok (.getfield 134, 3) := dk_180 0 134 (dk_at dksX0_lotsTold_0 17 rfl rfl)
theorem dX0_lotsTold_20 : decode cX0_lotsTold 20 = .ok (.ifCond .le 7, 3) := dk_158 0 7 (dk_at dksX0_lotsTold_0 20 rfl rfl)
theorem dX0_lotsTold_23 : decode cX0_lotsTold 23 = .ok (.iconst 1, 1) := dk_4 (dk_at dksX0_lotsTold_0 23 rfl rfl)
theorem dX0_lotsTold_24 : decode cX0_lotsTold 24 = .ok (.goto 4, 3) := dk_167 0 4 (dk_at dksX0_lotsTold_1 0 rfl rfl)
theorem dX0_lotsTold_27 : decode cX0_lotsTold 27 = .ok (.iconst 0, 1) := dk_3 (dk_at dksX0_lotsTold_1 3 rfl rfl)
theorem dX0_lotsTold_28 : decode cX0_lotsTold 28 = .ok (.bipush (-3), 2) := dk_16 253 (dk_at dksX0_lotsTold_1 4 rfl rfl)
theorem dX0_lotsTold_30 : decode cX0_lotsTold 30 = .ok (.invokestatic 9, 3) := dk_184 0 9 (dk_at dksX0_lotsTold_1 6 rfl rfl)
theorem dX0_lotsTold_33 : decode cX0_lotsTold 33 = .ok (.aload_n 0, 1) := dk_42 (dk_at dksX0_lotsTold_1 9 rfl rfl)
theorem dX0_lotsTold_34 : decode cX0_lotsTold 34 = .ok (.iload_n 1, 1) := dk_27 (dk_at dksX0_lotsTold_1 10 rfl rfl)
theorem dX0_lotsTold_35 : decode cX0_lotsTold 35 = .ok (.iload_n 2, 1) := dk_28 (dk_at dksX0_lotsTold_1 11 rfl rfl)
theorem dX0_lotsTold_36 : decode cX0_lotsTold 36 = .ok (.iload_n 3, 1) := dk_29 (dk_at dksX0_lotsTold_1 12 rfl rfl)
theorem dX0_lotsTold_37 : decode cX0_lotsTold 37 = .ok (.invokevirtual 428, 3) := dk_182 1 172 (dk_at dksX0_lotsTold_1 13 rfl rfl)
theorem dX0_lotsTold_40 : decode cX0_lotsTold 40 = .ok (.ireturn, 1) := dk_172 (dk_at dksX0_lotsTold_1 16 rfl rfl)
abbrev cX0_byLots : ByteArray := prog_1_method_37_code
def yX0_byLots : MethodName := ⟨RX0, "byLots", "(III)I"⟩
def dkwX0_byLots_4 : List UInt8 := [167, 0, 4, 4, 182, 0, 130, 184, 0, 158, 96, 54, 4, 132, 5, 1, 167, 255, 159, 21, 4, 172]
abbrev dktX0_byLots_4 : List UInt8 := dkwX0_byLots_4 ++ []
def dkwX0_byLots_3 : List UInt8 := [87, 25, 6, 3, 182, 0, 127, 132, 7, 1, 167, 255, 202, 21, 4, 25, 6, 29, 154, 0, 7, 3]
abbrev dktX0_byLots_3 : List UInt8 := dkwX0_byLots_3 ++ dktX0_byLots_4
def dkwX0_byLots_2 : List UInt8 := [182, 0, 225, 54, 9, 25, 6, 21, 8, 182, 0, 154, 153, 0, 13, 25, 6, 21, 8, 21, 9, 182, 0, 144]
abbrev dktX0_byLots_2 : List UInt8 := dkwX0_byLots_2 ++ dktX0_byLots_3
def dkwX0_byLots_1 : List UInt8 := [54, 7, 21, 7, 8, 162, 0, 54, 42, 25, 6, 180, 0, 134, 182, 0, 225, 54, 8, 42, 16, 10]
abbrev dktX0_byLots_1 : List UInt8 := dkwX0_byLots_1 ++ dktX0_byLots_2
def dkwX0_byLots_0 : List UInt8 := [42, 28, 181, 0, 219, 3, 54, 4, 3, 54, 5, 21, 5, 27, 162, 0, 97, 42, 182, 0, 116, 58, 6, 3]
abbrev dktX0_byLots_0 : List UInt8 := dkwX0_byLots_0 ++ dktX0_byLots_1
theorem dksX0_byLots_0 : cX0_byLots.data.toList.drop 0 = dktX0_byLots_0 := by decide +kernel
theorem dksX0_byLots_1 : cX0_byLots.data.toList.drop 24 = dktX0_byLots_1 := dk_seg dksX0_byLots_0 24 rfl rfl
theorem dksX0_byLots_2 : cX0_byLots.data.toList.drop 46 = dktX0_byLots_2 := dk_seg dksX0_byLots_1 22 rfl rfl
theorem dksX0_byLots_3 : cX0_byLots.data.toList.drop 70 = dktX0_byLots_3 := dk_seg dksX0_byLots_2 24 rfl rfl
theorem dksX0_byLots_4 : cX0_byLots.data.toList.drop 92 = dktX0_byLots_4 := dk_seg dksX0_byLots_3 22 rfl rfl
theorem dX0_byLots_0 : decode cX0_byLots 0 = .ok (.aload_n 0, 1) := dk_42 (dk_at dksX0_byLots_0 0 rfl rfl)
theorem dX0_byLots_1 : decode cX0_byLots 1 = .ok (.iload_n 2, 1) := dk_28 (dk_at dksX0_byLots_0 1 rfl rfl)
theorem dX0_byLots_2 : decode cX0_byLots 2 = .ok (.putfield 219, 3) := dk_181 0 219 (dk_at dksX0_byLots_0 2 rfl rfl)
theorem dX0_byLots_5 : decode cX0_byLots 5 = .ok (.iconst 0, 1) := dk_3 (dk_at dksX0_byLots_0 5 rfl rfl)
theorem dX0_byLots_6 : decode cX0_byLots 6 = .ok (.istore 4, 2) := dk_54 4 (dk_at dksX0_byLots_0 6 rfl rfl)
theorem dX0_byLots_8 : decode cX0_byLots 8 = .ok (.iconst 0, 1) := dk_3 (dk_at dksX0_byLots_0 8 rfl rfl)
theorem dX0_byLots_9 : decode cX0_byLots 9 = .ok (.istore 5, 2) := dk_54 5 (dk_at dksX0_byLots_0 9 rfl rfl)
theorem dX0_byLots_11 : decode cX0_byLots 11 = .ok (.iload 5, 2) := dk_21 5 (dk_at dksX0_byLots_0 11 rfl rfl)
theorem dX0_byLots_13 : decode cX0_byLots 13 = .ok (.iload_n 1, 1) := dk_27 (dk_at dksX0_byLots_0 13 rfl rfl)
theorem dX0_byLots_14 : decode cX0_byLots 14 = .ok (.if_icmp .ge 97, 3) := dk_162 0 97 (dk_at dksX0_byLots_0 14 rfl rfl)
theorem dX0_byLots_17 : decode cX0_byLots 17 = .ok (.aload_n 0, 1) := dk_42 (dk_at dksX0_byLots_0 17 rfl rfl)
theorem dX0_byLots_18 : decode cX0_byLots 18 = .ok (.invokevirtual 116, 3) := dk_182 0 116 (dk_at dksX0_byLots_0 18 rfl rfl)
theorem dX0_byLots_21 : decode cX0_byLots 21 = .ok (.astore 6, 2) := dk_58 6 (dk_at dksX0_byLots_0 21 rfl rfl)
theorem dX0_byLots_23 : decode cX0_byLots 23 = .ok (.iconst 0, 1) := dk_3 (dk_at dksX0_byLots_0 23 rfl rfl)
theorem dX0_byLots_24 : decode cX0_byLots 24 = .ok (.istore 7, 2) := dk_54 7 (dk_at dksX0_byLots_1 0 rfl rfl)
theorem dX0_byLots_26 : decode cX0_byLots 26 = .ok (.iload 7, 2) := dk_21 7 (dk_at dksX0_byLots_1 2 rfl rfl)
theorem dX0_byLots_28 : decode cX0_byLots 28 = .ok (.iconst 5, 1) := dk_8 (dk_at dksX0_byLots_1 4 rfl rfl)
theorem dX0_byLots_29 : decode cX0_byLots 29 = .ok (.if_icmp .ge 54, 3) := dk_162 0 54 (dk_at dksX0_byLots_1 5 rfl rfl)
theorem dX0_byLots_32 : decode cX0_byLots 32 = .ok (.aload_n 0, 1) := dk_42 (dk_at dksX0_byLots_1 8 rfl rfl)
theorem dX0_byLots_33 : decode cX0_byLots 33 = .ok (.aload 6, 2) := dk_25 6 (dk_at dksX0_byLots_1 9 rfl rfl)
theorem dX0_byLots_35 : decode cX0_byLots 35 = .ok (.getfield 134, 3) := dk_180 0 134 (dk_at dksX0_byLots_1 11 rfl rfl)
theorem dX0_byLots_38 : decode cX0_byLots 38 = .ok (.invokevirtual 225, 3) := dk_182 0 225 (dk_at dksX0_byLots_1 14 rfl rfl)
theorem dX0_byLots_41 : decode cX0_byLots 41 = .ok (.istore 8, 2) := dk_54 8 (dk_at dksX0_byLots_1 17 rfl rfl)
theorem dX0_byLots_43 : decode cX0_byLots 43 = .ok (.aload_n 0, 1) := dk_42 (dk_at dksX0_byLots_1 19 rfl rfl)
theorem dX0_byLots_44 : decode cX0_byLots 44 = .ok (.bipush 10, 2) := dk_16 10 (dk_at dksX0_byLots_1 20 rfl rfl)
theorem dX0_byLots_46 : decode cX0_byLots 46 = .ok (.invokevirtual 225, 3) := dk_182 0 225 (dk_at dksX0_byLots_2 0 rfl rfl)
theorem dX0_byLots_49 : decode cX0_byLots 49 = .ok (.istore 9, 2) := dk_54 9 (dk_at dksX0_byLots_2 3 rfl rfl)
theorem dX0_byLots_51 : decode cX0_byLots 51 = .ok (.aload 6, 2) := dk_25 6 (dk_at dksX0_byLots_2 5 rfl rfl)
theorem dX0_byLots_53 : decode cX0_byLots 53 = .ok (.iload 8, 2) := dk_21 8 (dk_at dksX0_byLots_2 7 rfl rfl)
theorem dX0_byLots_55 : decode cX0_byLots 55 = .ok (.invokevirtual 154, 3) := dk_182 0 154 (dk_at dksX0_byLots_2 9 rfl rfl)
theorem dX0_byLots_58 : decode cX0_byLots 58 = .ok (.ifCond .eq 13, 3) := dk_153 0 13 (dk_at dksX0_byLots_2 12 rfl rfl)
theorem dX0_byLots_61 : decode cX0_byLots 61 = .ok (.aload 6, 2) := dk_25 6 (dk_at dksX0_byLots_2 15 rfl rfl)
theorem dX0_byLots_63 : decode cX0_byLots 63 = .ok (.iload 8, 2) := dk_21 8 (dk_at dksX0_byLots_2 17 rfl rfl)
theorem dX0_byLots_65 : decode cX0_byLots 65 = .ok (.iload 9, 2) := dk_21 9 (dk_at dksX0_byLots_2 19 rfl rfl)
theorem dX0_byLots_67 : decode cX0_byLots 67 = .ok (.invokevirtual 144, 3) := dk_182 0 144 (dk_at dksX0_byLots_2 21 rfl rfl)
theorem dX0_byLots_70 : decode cX0_byLots 70 = .ok (.pop, 1) := dk_87 (dk_at dksX0_byLots_3 0 rfl rfl)
theorem dX0_byLots_71 : decode cX0_byLots 71 = .ok (.aload 6, 2) := dk_25 6 (dk_at dksX0_byLots_3 1 rfl rfl)
theorem dX0_byLots_73 : decode cX0_byLots 73 = .ok (.iconst 0, 1) := dk_3 (dk_at dksX0_byLots_3 3 rfl rfl)
theorem dX0_byLots_74 : decode cX0_byLots 74 = .ok (.invokevirtual 127, 3) := dk_182 0 127 (dk_at dksX0_byLots_3 4 rfl rfl)
theorem dX0_byLots_77 : decode cX0_byLots 77 = .ok (.iinc 7 1, 3) := dk_132 7 1 (dk_at dksX0_byLots_3 7 rfl rfl)
theorem dX0_byLots_80 : decode cX0_byLots 80 = .ok (.goto (-54), 3) := dk_167 255 202 (dk_at dksX0_byLots_3 10 rfl rfl)
theorem dX0_byLots_83 : decode cX0_byLots 83 = .ok (.iload 4, 2) := dk_21 4 (dk_at dksX0_byLots_3 13 rfl rfl)
theorem dX0_byLots_85 : decode cX0_byLots 85 = .ok (.aload 6, 2) := dk_25 6 (dk_at dksX0_byLots_3 15 rfl rfl)
theorem dX0_byLots_87 : decode cX0_byLots 87 = .ok (.iload_n 3, 1) := dk_29 (dk_at dksX0_byLots_3 17 rfl rfl)
theorem dX0_byLots_88 : decode cX0_byLots 88 = .ok (.ifCond .ne 7, 3) := dk_154 0 7 (dk_at dksX0_byLots_3 18 rfl rfl)
theorem dX0_byLots_91 : decode cX0_byLots 91 = .ok (.iconst 0, 1) := dk_3 (dk_at dksX0_byLots_3 21 rfl rfl)
theorem dX0_byLots_92 : decode cX0_byLots 92 = .ok (.goto 4, 3) := dk_167 0 4 (dk_at dksX0_byLots_4 0 rfl rfl)
theorem dX0_byLots_95 : decode cX0_byLots 95 = .ok (.iconst 1, 1) := dk_4 (dk_at dksX0_byLots_4 3 rfl rfl)
theorem dX0_byLots_96 : decode cX0_byLots 96 = .ok (.invokevirtual 130, 3) := dk_182 0 130 (dk_at dksX0_byLots_4 4 rfl rfl)
theorem dX0_byLots_99 : decode cX0_byLots 99 = .ok (.invokestatic 158, 3) := dk_184 0 158 (dk_at dksX0_byLots_4 7 rfl rfl)
theorem dX0_byLots_102 : decode cX0_byLots 102 = .ok (.iadd, 1) := dk_96 (dk_at dksX0_byLots_4 10 rfl rfl)
theorem dX0_byLots_103 : decode cX0_byLots 103 = .ok (.istore 4, 2) := dk_54 4 (dk_at dksX0_byLots_4 11 rfl rfl)
theorem dX0_byLots_105 : decode cX0_byLots 105 = .ok (.iinc 5 1, 3) := dk_132 5 1 (dk_at dksX0_byLots_4 13 rfl rfl)
theorem dX0_byLots_108 : decode cX0_byLots 108 = .ok (.goto (-97), 3) := dk_167 255 159 (dk_at dksX0_byLots_4 16 rfl rfl)
theorem dX0_byLots_111 : decode cX0_byLots 111 = .ok (.iload 4, 2) := dk_21 4 (dk_at dksX0_byLots_4 19 rfl rfl)
theorem dX0_byLots_113 : decode cX0_byLots 113 = .ok (.ireturn, 1) := dk_172 (dk_at dksX0_byLots_4 21 rfl rfl)
abbrev cX0_drawBelow : ByteArray := prog_1_method_36_code
def yX0_drawBelow : MethodName := ⟨RX0, "drawBelow", "(I)I"⟩
def dkwX0_drawBelow_1 : List UInt8 := [108, 27, 112, 172]
abbrev dktX0_drawBelow_1 : List UInt8 := dkwX0_drawBelow_1 ++ []
def dkwX0_drawBelow_0 : List UInt8 := [42, 42, 180, 0, 219, 18, 222, 104, 18, 223, 96, 181, 0, 219, 42, 180, 0, 219, 18, 224, 126, 17, 1, 0]
abbrev dktX0_drawBelow_0 : List UInt8 := dkwX0_drawBelow_0 ++ dktX0_drawBelow_1
theorem dksX0_drawBelow_0 : cX0_drawBelow.data.toList.drop 0 = dktX0_drawBelow_0 := by decide +kernel
theorem dksX0_drawBelow_1 : cX0_drawBelow.data.toList.drop 24 = dktX0_drawBelow_1 := dk_seg dksX0_drawBelow_0 24 rfl rfl
theorem dX0_drawBelow_0 : decode cX0_drawBelow 0 = .ok (.aload_n 0, 1) := dk_42 (dk_at dksX0_drawBelow_0 0 rfl rfl)
theorem dX0_drawBelow_1 : decode cX0_drawBelow 1 = .ok (.aload_n 0, 1) := dk_42 (dk_at dksX0_drawBelow_0 1 rfl rfl)
theorem dX0_drawBelow_2 : decode cX0_drawBelow 2 = .ok (.getfield 219, 3) := dk_180 0 219 (dk_at dksX0_drawBelow_0 2 rfl rfl)
theorem dX0_drawBelow_5 : decode cX0_drawBelow 5 = .ok (.ldc 222, 2) := dk_18 222 (dk_at dksX0_drawBelow_0 5 rfl rfl)
theorem dX0_drawBelow_7 : decode cX0_drawBelow 7 = .ok (.imul, 1) := dk_104 (dk_at dksX0_drawBelow_0 7 rfl rfl)
theorem dX0_drawBelow_8 : decode cX0_drawBelow 8 = .ok (.ldc 223, 2) := dk_18 223 (dk_at dksX0_drawBelow_0 8 rfl rfl)
theorem dX0_drawBelow_10 : decode cX0_drawBelow 10 = .ok (.iadd, 1) := dk_96 (dk_at dksX0_drawBelow_0 10 rfl rfl)
theorem dX0_drawBelow_11 : decode cX0_drawBelow 11 = .ok (.putfield 219, 3) := dk_181 0 219 (dk_at dksX0_drawBelow_0 11 rfl rfl)
theorem dX0_drawBelow_14 : decode cX0_drawBelow 14 = .ok (.aload_n 0, 1) := dk_42 (dk_at dksX0_drawBelow_0 14 rfl rfl)
theorem dX0_drawBelow_15 : decode cX0_drawBelow 15 = .ok (.getfield 219, 3) := dk_180 0 219 (dk_at dksX0_drawBelow_0 15 rfl rfl)
theorem dX0_drawBelow_18 : decode cX0_drawBelow 18 = .ok (.ldc 224, 2) := dk_18 224 (dk_at dksX0_drawBelow_0 18 rfl rfl)
theorem dX0_drawBelow_20 : decode cX0_drawBelow 20 = .ok (.iand, 1) := dk_126 (dk_at dksX0_drawBelow_0 20 rfl rfl)
theorem dX0_drawBelow_21 : decode cX0_drawBelow 21 = .ok (.sipush 256, 3) := dk_17 1 0 (dk_at dksX0_drawBelow_0 21 rfl rfl)
theorem dX0_drawBelow_24 : decode cX0_drawBelow 24 = .ok (.idiv, 1) := dk_108 (dk_at dksX0_drawBelow_1 0 rfl rfl)
theorem dX0_drawBelow_25 : decode cX0_drawBelow 25 = .ok (.iload_n 1, 1) := dk_27 (dk_at dksX0_drawBelow_1 1 rfl rfl)
theorem dX0_drawBelow_26 : decode cX0_drawBelow 26 = .ok (.irem, 1) := dk_112 (dk_at dksX0_drawBelow_1 2 rfl rfl)
theorem dX0_drawBelow_27 : decode cX0_drawBelow 27 = .ok (.ireturn, 1) := dk_172 (dk_at dksX0_drawBelow_1 3 rfl rfl)
abbrev cX0_refuse : ByteArray := prog_1_method_38_code
def yX0_refuse : MethodName := ⟨RX0, "refuse", "(I)I"⟩
def dkwX0_refuse_0 : List UInt8 := [27, 16, 236, 164, 0, 14, 42, 180, 0, 71, 27, 116, 92, 46, 4, 96, 79, 27, 172]
abbrev dktX0_refuse_0 : List UInt8 := dkwX0_refuse_0 ++ []
theorem dksX0_refuse_0 : cX0_refuse.data.toList.drop 0 = dktX0_refuse_0 := by decide +kernel
theorem dX0_refuse_0 : decode cX0_refuse 0 = .ok (.iload_n 1, 1) := dk_27 (dk_at dksX0_refuse_0 0 rfl rfl)
theorem dX0_refuse_1 : decode cX0_refuse 1 = .ok (.bipush (-20), 2) := dk_16 236 (dk_at dksX0_refuse_0 1 rfl rfl)
theorem dX0_refuse_3 : decode cX0_refuse 3 = .ok (.if_icmp .le 14, 3) := dk_164 0 14 (dk_at dksX0_refuse_0 3 rfl rfl)
theorem dX0_refuse_6 : decode cX0_refuse 6 = .ok (.aload_n 0, 1) := dk_42 (dk_at dksX0_refuse_0 6 rfl rfl)
theorem dX0_refuse_7 : decode cX0_refuse 7 = .ok (.getfield 71, 3) := dk_180 0 71 (dk_at dksX0_refuse_0 7 rfl rfl)
theorem dX0_refuse_10 : decode cX0_refuse 10 = .ok (.iload_n 1, 1) := dk_27 (dk_at dksX0_refuse_0 10 rfl rfl)
theorem dX0_refuse_11 : decode cX0_refuse 11 = .ok (.ineg, 1) := dk_116 (dk_at dksX0_refuse_0 11 rfl rfl)
theorem dX0_refuse_12 : decode cX0_refuse 12 = .ok (.dup2, 1) := dk_92 (dk_at dksX0_refuse_0 12 rfl rfl)
theorem dX0_refuse_13 : decode cX0_refuse 13 = .ok (.iaload, 1) := dk_46 (dk_at dksX0_refuse_0 13 rfl rfl)
theorem dX0_refuse_14 : decode cX0_refuse 14 = .ok (.iconst 1, 1) := dk_4 (dk_at dksX0_refuse_0 14 rfl rfl)
theorem dX0_refuse_15 : decode cX0_refuse 15 = .ok (.iadd, 1) := dk_96 (dk_at dksX0_refuse_0 15 rfl rfl)
theorem dX0_refuse_16 : decode cX0_refuse 16 = .ok (.iastore, 1) := dk_79 (dk_at dksX0_refuse_0 16 rfl rfl)
theorem dX0_refuse_17 : decode cX0_refuse 17 = .ok (.iload_n 1, 1) := dk_27 (dk_at dksX0_refuse_0 17 rfl rfl)
theorem dX0_refuse_18 : decode cX0_refuse 18 = .ok (.ireturn, 1) := dk_172 (dk_at dksX0_refuse_0 18 rfl rfl)
abbrev cX0_room : ByteArray := prog_1_method_73_code
def yX0_room : MethodName := ⟨RX0, "room", "()I"⟩
def dkwX0_room_0 : List UInt8 := [42, 4, 3, 3, 3, 3, 3, 182, 1, 195, 172]
abbrev dktX0_room_0 : List UInt8 := dkwX0_room_0 ++ []
theorem dksX0_room_0 : cX0_room.data.toList.drop 0 = dktX0_room_0 := by decide +kernel
theorem dX0_room_0 : decode cX0_room 0 = .ok (.aload_n 0, 1) := dk_42 (dk_at dksX0_room_0 0 rfl rfl)
theorem dX0_room_1 : decode cX0_room 1 = .ok (.iconst 1, 1) := dk_4 (dk_at dksX0_room_0 1 rfl rfl)
theorem dX0_room_2 : decode cX0_room 2 = .ok (.iconst 0, 1) := dk_3 (dk_at dksX0_room_0 2 rfl rfl)
theorem dX0_room_3 : decode cX0_room 3 = .ok (.iconst 0, 1) := dk_3 (dk_at dksX0_room_0 3 rfl rfl)
theorem dX0_room_4 : decode cX0_room 4 = .ok (.iconst 0, 1) := dk_3 (dk_at dksX0_room_0 4 rfl rfl)
theorem dX0_room_5 : decode cX0_room 5 = .ok (.iconst 0, 1) := dk_3 (dk_at dksX0_room_0 5 rfl rfl)
theorem dX0_room_6 : decode cX0_room 6 = .ok (.iconst 0, 1) := dk_3 (dk_at dksX0_room_0 6 rfl rfl)
theorem dX0_room_7 : decode cX0_room 7 = .ok (.invokevirtual 451, 3) := dk_182 1 195 (dk_at dksX0_room_0 7 rfl rfl)
theorem dX0_room_10 : decode cX0_room 10 = .ok (.ireturn, 1) := dk_172 (dk_at dksX0_room_0 10 rfl rfl)
abbrev cX0_thing : ByteArray := prog_1_method_74_code
def yX0_thing : MethodName := ⟨RX0, "thing", "(II)I"⟩
def dkwX0_thing_0 : List UInt8 := [42, 5, 27, 28, 3, 3, 3, 182, 1, 195, 172]
abbrev dktX0_thing_0 : List UInt8 := dkwX0_thing_0 ++ []
theorem dksX0_thing_0 : cX0_thing.data.toList.drop 0 = dktX0_thing_0 := by decide +kernel
theorem dX0_thing_0 : decode cX0_thing 0 = .ok (.aload_n 0, 1) := dk_42 (dk_at dksX0_thing_0 0 rfl rfl)
theorem dX0_thing_1 : decode cX0_thing 1 = .ok (.iconst 2, 1) := dk_5 (dk_at dksX0_thing_0 1 rfl rfl)
theorem dX0_thing_2 : decode cX0_thing 2 = .ok (.iload_n 1, 1) := dk_27 (dk_at dksX0_thing_0 2 rfl rfl)
theorem dX0_thing_3 : decode cX0_thing 3 = .ok (.iload_n 2, 1) := dk_28 (dk_at dksX0_thing_0 3 rfl rfl)
theorem dX0_thing_4 : decode cX0_thing 4 = .ok (.iconst 0, 1) := dk_3 (dk_at dksX0_thing_0 4 rfl rfl)
theorem dX0_thing_5 : decode cX0_thing 5 = .ok (.iconst 0, 1) := dk_3 (dk_at dksX0_thing_0 5 rfl rfl)
theorem dX0_thing_6 : decode cX0_thing 6 = .ok (.iconst 0, 1) := dk_3 (dk_at dksX0_thing_0 6 rfl rfl)
theorem dX0_thing_7 : decode cX0_thing 7 = .ok (.invokevirtual 451, 3) := dk_182 1 195 (dk_at dksX0_thing_0 7 rfl rfl)
theorem dX0_thing_10 : decode cX0_thing 10 = .ok (.ireturn, 1) := dk_172 (dk_at dksX0_thing_0 10 rfl rfl)
abbrev cX0_pulls : ByteArray := prog_1_method_75_code
def yX0_pulls : MethodName := ⟨RX0, "pulls", "(II)I"⟩
def dkwX0_pulls_0 : List UInt8 := [42, 6, 27, 28, 3, 3, 3, 182, 1, 195, 172]
abbrev dktX0_pulls_0 : List UInt8 := dkwX0_pulls_0 ++ []
theorem dksX0_pulls_0 : cX0_pulls.data.toList.drop 0 = dktX0_pulls_0 := by decide +kernel
theorem dX0_pulls_0 : decode cX0_pulls 0 = .ok (.aload_n 0, 1) := dk_42 (dk_at dksX0_pulls_0 0 rfl rfl)
theorem dX0_pulls_1 : decode cX0_pulls 1 = .ok (.iconst 3, 1) := dk_6 (dk_at dksX0_pulls_0 1 rfl rfl)
theorem dX0_pulls_2 : decode cX0_pulls 2 = .ok (.iload_n 1, 1) := dk_27 (dk_at dksX0_pulls_0 2 rfl rfl)
theorem dX0_pulls_3 : decode cX0_pulls 3 = .ok (.iload_n 2, 1) := dk_28 (dk_at dksX0_pulls_0 3 rfl rfl)
theorem dX0_pulls_4 : decode cX0_pulls 4 = .ok (.iconst 0, 1) := dk_3 (dk_at dksX0_pulls_0 4 rfl rfl)
theorem dX0_pulls_5 : decode cX0_pulls 5 = .ok (.iconst 0, 1) := dk_3 (dk_at dksX0_pulls_0 5 rfl rfl)
theorem dX0_pulls_6 : decode cX0_pulls 6 = .ok (.iconst 0, 1) := dk_3 (dk_at dksX0_pulls_0 6 rfl rfl)
theorem dX0_pulls_7 : decode cX0_pulls 7 = .ok (.invokevirtual 451, 3) := dk_182 1 195 (dk_at dksX0_pulls_0 7 rfl rfl)
theorem dX0_pulls_10 : decode cX0_pulls 10 = .ok (.ireturn, 1) := dk_172 (dk_at dksX0_pulls_0 10 rfl rfl)
abbrev cX0_floor : ByteArray := prog_1_method_76_code
def yX0_floor : MethodName := ⟨RX0, "floor", "(I)I"⟩
def dkwX0_floor_0 : List UInt8 := [42, 7, 27, 3, 3, 3, 3, 182, 1, 195, 172]
abbrev dktX0_floor_0 : List UInt8 := dkwX0_floor_0 ++ []
theorem dksX0_floor_0 : cX0_floor.data.toList.drop 0 = dktX0_floor_0 := by decide +kernel
theorem dX0_floor_0 : decode cX0_floor 0 = .ok (.aload_n 0, 1) := dk_42 (dk_at dksX0_floor_0 0 rfl rfl)
theorem dX0_floor_1 : decode cX0_floor 1 = .ok (.iconst 4, 1) := dk_7 (dk_at dksX0_floor_0 1 rfl rfl)
theorem dX0_floor_2 : decode cX0_floor 2 = .ok (.iload_n 1, 1) := dk_27 (dk_at dksX0_floor_0 2 rfl rfl)
theorem dX0_floor_3 : decode cX0_floor 3 = .ok (.iconst 0, 1) := dk_3 (dk_at dksX0_floor_0 3 rfl rfl)
theorem dX0_floor_4 : decode cX0_floor 4 = .ok (.iconst 0, 1) := dk_3 (dk_at dksX0_floor_0 4 rfl rfl)
theorem dX0_floor_5 : decode cX0_floor 5 = .ok (.iconst 0, 1) := dk_3 (dk_at dksX0_floor_0 5 rfl rfl)
theorem dX0_floor_6 : decode cX0_floor 6 = .ok (.iconst 0, 1) := dk_3 (dk_at dksX0_floor_0 6 rfl rfl)
theorem dX0_floor_7 : decode cX0_floor 7 = .ok (.invokevirtual 451, 3) := dk_182 1 195 (dk_at dksX0_floor_0 7 rfl rfl)
theorem dX0_floor_10 : decode cX0_floor 10 = .ok (.ireturn, 1) := dk_172 (dk_at dksX0_floor_0 10 rfl rfl)
abbrev cX0_lays : ByteArray := prog_1_method_77_code
def yX0_lays : MethodName := ⟨RX0, "lays", "()I"⟩
def dkwX0_lays_0 : List UInt8 := [42, 8, 3, 3, 3, 3, 3, 182, 1, 195, 172]
abbrev dktX0_lays_0 : List UInt8 := dkwX0_lays_0 ++ []
theorem dksX0_lays_0 : cX0_lays.data.toList.drop 0 = dktX0_lays_0 := by decide +kernel
theorem dX0_lays_0 : decode cX0_lays 0 = .ok (.aload_n 0, 1) := dk_42 (dk_at dksX0_lays_0 0 rfl rfl)
theorem dX0_lays_1 : decode cX0_lays 1 = .ok (.iconst 5, 1) := dk_8 (dk_at dksX0_lays_0 1 rfl rfl)
theorem dX0_lays_2 : decode cX0_lays 2 = .ok (.iconst 0, 1) := dk_3 (dk_at dksX0_lays_0 2 rfl rfl)
theorem dX0_lays_3 : decode cX0_lays 3 = .ok (.iconst 0, 1) := dk_3 (dk_at dksX0_lays_0 3 rfl rfl)
theorem dX0_lays_4 : decode cX0_lays 4 = .ok (.iconst 0, 1) := dk_3 (dk_at dksX0_lays_0 4 rfl rfl)
theorem dX0_lays_5 : decode cX0_lays 5 = .ok (.iconst 0, 1) := dk_3 (dk_at dksX0_lays_0 5 rfl rfl)
theorem dX0_lays_6 : decode cX0_lays 6 = .ok (.iconst 0, 1) := dk_3 (dk_at dksX0_lays_0 6 rfl rfl)
theorem dX0_lays_7 : decode cX0_lays 7 = .ok (.invokevirtual 451, 3) := dk_182 1 195 (dk_at dksX0_lays_0 7 rfl rfl)
theorem dX0_lays_10 : decode cX0_lays 10 = .ok (.ireturn, 1) := dk_172 (dk_at dksX0_lays_0 10 rfl rfl)
abbrev cX0_setsUp : ByteArray := prog_1_method_78_code
def yX0_setsUp : MethodName := ⟨RX0, "setsUp", "(I)I"⟩
def dkwX0_setsUp_0 : List UInt8 := [42, 16, 6, 27, 3, 3, 3, 3, 182, 1, 195, 172]
abbrev dktX0_setsUp_0 : List UInt8 := dkwX0_setsUp_0 ++ []
theorem dksX0_setsUp_0 : cX0_setsUp.data.toList.drop 0 = dktX0_setsUp_0 := by decide +kernel
theorem dX0_setsUp_0 : decode cX0_setsUp 0 = .ok (.aload_n 0, 1) := dk_42 (dk_at dksX0_setsUp_0 0 rfl rfl)
theorem dX0_setsUp_1 : decode cX0_setsUp 1 = .ok (.bipush 6, 2) := dk_16 6 (dk_at dksX0_setsUp_0 1 rfl rfl)
theorem dX0_setsUp_3 : decode cX0_setsUp 3 = .ok (.iload_n 1, 1) := dk_27 (dk_at dksX0_setsUp_0 3 rfl rfl)
theorem dX0_setsUp_4 : decode cX0_setsUp 4 = .ok (.iconst 0, 1) := dk_3 (dk_at dksX0_setsUp_0 4 rfl rfl)
theorem dX0_setsUp_5 : decode cX0_setsUp 5 = .ok (.iconst 0, 1) := dk_3 (dk_at dksX0_setsUp_0 5 rfl rfl)
theorem dX0_setsUp_6 : decode cX0_setsUp 6 = .ok (.iconst 0, 1) := dk_3 (dk_at dksX0_setsUp_0 6 rfl rfl)
theorem dX0_setsUp_7 : decode cX0_setsUp 7 = .ok (.iconst 0, 1) := dk_3 (dk_at dksX0_setsUp_0 7 rfl rfl)
theorem dX0_setsUp_8 : decode cX0_setsUp 8 = .ok (.invokevirtual 451, 3) := dk_182 1 195 (dk_at dksX0_setsUp_0 8 rfl rfl)
theorem dX0_setsUp_11 : decode cX0_setsUp 11 = .ok (.ireturn, 1) := dk_172 (dk_at dksX0_setsUp_0 11 rfl rfl)
abbrev cX0_turn : ByteArray := prog_1_method_79_code
def yX0_turn : MethodName := ⟨RX0, "turn", "(III)I"⟩
def dkwX0_turn_0 : List UInt8 := [42, 16, 7, 27, 28, 29, 3, 3, 182, 1, 195, 172]
abbrev dktX0_turn_0 : List UInt8 := dkwX0_turn_0 ++ []
theorem dksX0_turn_0 : cX0_turn.data.toList.drop 0 = dktX0_turn_0 := by decide +kernel
theorem dX0_turn_0 : decode cX0_turn 0 = .ok (.aload_n 0, 1) := dk_42 (dk_at dksX0_turn_0 0 rfl rfl)
theorem dX0_turn_1 : decode cX0_turn 1 = .ok (.bipush 7, 2) := dk_16 7 (dk_at dksX0_turn_0 1 rfl rfl)
theorem dX0_turn_3 : decode cX0_turn 3 = .ok (.iload_n 1, 1) := dk_27 (dk_at dksX0_turn_0 3 rfl rfl)
theorem dX0_turn_4 : decode cX0_turn 4 = .ok (.iload_n 2, 1) := dk_28 (dk_at dksX0_turn_0 4 rfl rfl)
theorem dX0_turn_5 : decode cX0_turn 5 = .ok (.iload_n 3, 1) := dk_29 (dk_at dksX0_turn_0 5 rfl rfl)
theorem dX0_turn_6 : decode cX0_turn 6 = .ok (.iconst 0, 1) := dk_3 (dk_at dksX0_turn_0 6 rfl rfl)
theorem dX0_turn_7 : decode cX0_turn 7 = .ok (.iconst 0, 1) := dk_3 (dk_at dksX0_turn_0 7 rfl rfl)
theorem dX0_turn_8 : decode cX0_turn 8 = .ok (.invokevirtual 451, 3) := dk_182 1 195 (dk_at dksX0_turn_0 8 rfl rfl)
theorem dX0_turn_11 : decode cX0_turn 11 = .ok (.ireturn, 1) := dk_172 (dk_at dksX0_turn_0 11 rfl rfl)
abbrev cX0_minutes : ByteArray := prog_1_method_80_code
def yX0_minutes : MethodName := ⟨RX0, "minutes", "(I)I"⟩
def dkwX0_minutes_0 : List UInt8 := [42, 16, 8, 27, 3, 3, 3, 3, 182, 1, 195, 172]
abbrev dktX0_minutes_0 : List UInt8 := dkwX0_minutes_0 ++ []
theorem dksX0_minutes_0 : cX0_minutes.data.toList.drop 0 = dktX0_minutes_0 := by decide +kernel
theorem dX0_minutes_0 : decode cX0_minutes 0 = .ok (.aload_n 0, 1) := dk_42 (dk_at dksX0_minutes_0 0 rfl rfl)
theorem dX0_minutes_1 : decode cX0_minutes 1 = .ok (.bipush 8, 2) := dk_16 8 (dk_at dksX0_minutes_0 1 rfl rfl)
theorem dX0_minutes_3 : decode cX0_minutes 3 = .ok (.iload_n 1, 1) := dk_27 (dk_at dksX0_minutes_0 3 rfl rfl)
theorem dX0_minutes_4 : decode cX0_minutes 4 = .ok (.iconst 0, 1) := dk_3 (dk_at dksX0_minutes_0 4 rfl rfl)
theorem dX0_minutes_5 : decode cX0_minutes 5 = .ok (.iconst 0, 1) := dk_3 (dk_at dksX0_minutes_0 5 rfl rfl)
theorem dX0_minutes_6 : decode cX0_minutes 6 = .ok (.iconst 0, 1) := dk_3 (dk_at dksX0_minutes_0 6 rfl rfl)
theorem dX0_minutes_7 : decode cX0_minutes 7 = .ok (.iconst 0, 1) := dk_3 (dk_at dksX0_minutes_0 7 rfl rfl)
theorem dX0_minutes_8 : decode cX0_minutes 8 = .ok (.invokevirtual 451, 3) := dk_182 1 195 (dk_at dksX0_minutes_0 8 rfl rfl)
theorem dX0_minutes_11 : decode cX0_minutes 11 = .ok (.ireturn, 1) := dk_172 (dk_at dksX0_minutes_0 11 rfl rfl)
abbrev cX0_behind : ByteArray := prog_1_method_81_code
def yX0_behind : MethodName := ⟨RX0, "behind", "(III)I"⟩
def dkwX0_behind_0 : List UInt8 := [42, 16, 9, 27, 28, 29, 3, 3, 182, 1, 195, 172]
abbrev dktX0_behind_0 : List UInt8 := dkwX0_behind_0 ++ []
theorem dksX0_behind_0 : cX0_behind.data.toList.drop 0 = dktX0_behind_0 := by decide +kernel
theorem dX0_behind_0 : decode cX0_behind 0 = .ok (.aload_n 0, 1) := dk_42 (dk_at dksX0_behind_0 0 rfl rfl)
theorem dX0_behind_1 : decode cX0_behind 1 = .ok (.bipush 9, 2) := dk_16 9 (dk_at dksX0_behind_0 1 rfl rfl)
theorem dX0_behind_3 : decode cX0_behind 3 = .ok (.iload_n 1, 1) := dk_27 (dk_at dksX0_behind_0 3 rfl rfl)
theorem dX0_behind_4 : decode cX0_behind 4 = .ok (.iload_n 2, 1) := dk_28 (dk_at dksX0_behind_0 4 rfl rfl)
theorem dX0_behind_5 : decode cX0_behind 5 = .ok (.iload_n 3, 1) := dk_29 (dk_at dksX0_behind_0 5 rfl rfl)
theorem dX0_behind_6 : decode cX0_behind 6 = .ok (.iconst 0, 1) := dk_3 (dk_at dksX0_behind_0 6 rfl rfl)
theorem dX0_behind_7 : decode cX0_behind 7 = .ok (.iconst 0, 1) := dk_3 (dk_at dksX0_behind_0 7 rfl rfl)
theorem dX0_behind_8 : decode cX0_behind 8 = .ok (.invokevirtual 451, 3) := dk_182 1 195 (dk_at dksX0_behind_0 8 rfl rfl)
theorem dX0_behind_11 : decode cX0_behind 11 = .ok (.ireturn, 1) := dk_172 (dk_at dksX0_behind_0 11 rfl rfl)
abbrev cX0_falls : ByteArray := prog_1_method_82_code
def yX0_falls : MethodName := ⟨RX0, "falls", "(I)I"⟩
def dkwX0_falls_0 : List UInt8 := [42, 16, 10, 27, 3, 3, 3, 3, 182, 1, 195, 172]
abbrev dktX0_falls_0 : List UInt8 := dkwX0_falls_0 ++ []
theorem dksX0_falls_0 : cX0_falls.data.toList.drop 0 = dktX0_falls_0 := by decide +kernel
theorem dX0_falls_0 : decode cX0_falls 0 = .ok (.aload_n 0, 1) := dk_42 (dk_at dksX0_falls_0 0 rfl rfl)
theorem dX0_falls_1 : decode cX0_falls 1 = .ok (.bipush 10, 2) := dk_16 10 (dk_at dksX0_falls_0 1 rfl rfl)
theorem dX0_falls_3 : decode cX0_falls 3 = .ok (.iload_n 1, 1) := dk_27 (dk_at dksX0_falls_0 3 rfl rfl)
theorem dX0_falls_4 : decode cX0_falls 4 = .ok (.iconst 0, 1) := dk_3 (dk_at dksX0_falls_0 4 rfl rfl)
theorem dX0_falls_5 : decode cX0_falls 5 = .ok (.iconst 0, 1) := dk_3 (dk_at dksX0_falls_0 5 rfl rfl)
theorem dX0_falls_6 : decode cX0_falls 6 = .ok (.iconst 0, 1) := dk_3 (dk_at dksX0_falls_0 6 rfl rfl)
theorem dX0_falls_7 : decode cX0_falls 7 = .ok (.iconst 0, 1) := dk_3 (dk_at dksX0_falls_0 7 rfl rfl)
theorem dX0_falls_8 : decode cX0_falls 8 = .ok (.invokevirtual 451, 3) := dk_182 1 195 (dk_at dksX0_falls_0 8 rfl rfl)
theorem dX0_falls_11 : decode cX0_falls 11 = .ok (.ireturn, 1) := dk_172 (dk_at dksX0_falls_0 11 rfl rfl)
abbrev cX0_first : ByteArray := prog_1_method_83_code
def yX0_first : MethodName := ⟨RX0, "first", "(I)I"⟩
def dkwX0_first_0 : List UInt8 := [42, 16, 11, 27, 3, 3, 3, 3, 182, 1, 195, 172]
abbrev dktX0_first_0 : List UInt8 := dkwX0_first_0 ++ []
theorem dksX0_first_0 : cX0_first.data.toList.drop 0 = dktX0_first_0 := by decide +kernel
theorem dX0_first_0 : decode cX0_first 0 = .ok (.aload_n 0, 1) := dk_42 (dk_at dksX0_first_0 0 rfl rfl)
theorem dX0_first_1 : decode cX0_first 1 = .ok (.bipush 11, 2) := dk_16 11 (dk_at dksX0_first_0 1 rfl rfl)
theorem dX0_first_3 : decode cX0_first 3 = .ok (.iload_n 1, 1) := dk_27 (dk_at dksX0_first_0 3 rfl rfl)
theorem dX0_first_4 : decode cX0_first 4 = .ok (.iconst 0, 1) := dk_3 (dk_at dksX0_first_0 4 rfl rfl)
theorem dX0_first_5 : decode cX0_first 5 = .ok (.iconst 0, 1) := dk_3 (dk_at dksX0_first_0 5 rfl rfl)
theorem dX0_first_6 : decode cX0_first 6 = .ok (.iconst 0, 1) := dk_3 (dk_at dksX0_first_0 6 rfl rfl)
theorem dX0_first_7 : decode cX0_first 7 = .ok (.iconst 0, 1) := dk_3 (dk_at dksX0_first_0 7 rfl rfl)
theorem dX0_first_8 : decode cX0_first 8 = .ok (.invokevirtual 451, 3) := dk_182 1 195 (dk_at dksX0_first_0 8 rfl rfl)
theorem dX0_first_11 : decode cX0_first 11 = .ok (.ireturn, 1) := dk_172 (dk_at dksX0_first_0 11 rfl rfl)
abbrev cX0_allStand : ByteArray := prog_1_method_84_code
def yX0_allStand : MethodName := ⟨RX0, "allStand", "()I"⟩
def dkwX0_allStand_0 : List UInt8 := [42, 16, 12, 3, 3, 3, 3, 3, 182, 1, 195, 172]
abbrev dktX0_allStand_0 : List UInt8 := dkwX0_allStand_0 ++ []
theorem dksX0_allStand_0 : cX0_allStand.data.toList.drop 0 = dktX0_allStand_0 := by decide +kernel
theorem dX0_allStand_0 : decode cX0_allStand 0 = .ok (.aload_n 0, 1) := dk_42 (dk_at dksX0_allStand_0 0 rfl rfl)
theorem dX0_allStand_1 : decode cX0_allStand 1 = .ok (.bipush 12, 2) := dk_16 12 (dk_at dksX0_allStand_0 1 rfl rfl)
theorem dX0_allStand_3 : decode cX0_allStand 3 = .ok (.iconst 0, 1) := dk_3 (dk_at dksX0_allStand_0 3 rfl rfl)
theorem dX0_allStand_4 : decode cX0_allStand 4 = .ok (.iconst 0, 1) := dk_3 (dk_at dksX0_allStand_0 4 rfl rfl)
theorem dX0_allStand_5 : decode cX0_allStand 5 = .ok (.iconst 0, 1) := dk_3 (dk_at dksX0_allStand_0 5 rfl rfl)
theorem dX0_allStand_6 : decode cX0_allStand 6 = .ok (.iconst 0, 1) := dk_3 (dk_at dksX0_allStand_0 6 rfl rfl)
theorem dX0_allStand_7 : decode cX0_allStand 7 = .ok (.iconst 0, 1) := dk_3 (dk_at dksX0_allStand_0 7 rfl rfl)
theorem dX0_allStand_8 : decode cX0_allStand 8 = .ok (.invokevirtual 451, 3) := dk_182 1 195 (dk_at dksX0_allStand_0 8 rfl rfl)
theorem dX0_allStand_11 : decode cX0_allStand 11 = .ok (.ireturn, 1) := dk_172 (dk_at dksX0_allStand_0 11 rfl rfl)
abbrev cX0_tower : ByteArray := prog_1_method_85_code
def yX0_tower : MethodName := ⟨RX0, "tower", "(II)I"⟩
def dkwX0_tower_0 : List UInt8 := [42, 16, 13, 27, 28, 3, 3, 3, 182, 1, 195, 172]
abbrev dktX0_tower_0 : List UInt8 := dkwX0_tower_0 ++ []
theorem dksX0_tower_0 : cX0_tower.data.toList.drop 0 = dktX0_tower_0 := by decide +kernel
theorem dX0_tower_0 : decode cX0_tower 0 = .ok (.aload_n 0, 1) := dk_42 (dk_at dksX0_tower_0 0 rfl rfl)
theorem dX0_tower_1 : decode cX0_tower 1 = .ok (.bipush 13, 2) := dk_16 13 (dk_at dksX0_tower_0 1 rfl rfl)
theorem dX0_tower_3 : decode cX0_tower 3 = .ok (.iload_n 1, 1) := dk_27 (dk_at dksX0_tower_0 3 rfl rfl)
theorem dX0_tower_4 : decode cX0_tower 4 = .ok (.iload_n 2, 1) := dk_28 (dk_at dksX0_tower_0 4 rfl rfl)
theorem dX0_tower_5 : decode cX0_tower 5 = .ok (.iconst 0, 1) := dk_3 (dk_at dksX0_tower_0 5 rfl rfl)
theorem dX0_tower_6 : decode cX0_tower 6 = .ok (.iconst 0, 1) := dk_3 (dk_at dksX0_tower_0 6 rfl rfl)
theorem dX0_tower_7 : decode cX0_tower 7 = .ok (.iconst 0, 1) := dk_3 (dk_at dksX0_tower_0 7 rfl rfl)
theorem dX0_tower_8 : decode cX0_tower 8 = .ok (.invokevirtual 451, 3) := dk_182 1 195 (dk_at dksX0_tower_0 8 rfl rfl)
theorem dX0_tower_11 : decode cX0_tower 11 = .ok (.ireturn, 1) := dk_172 (dk_at dksX0_tower_0 11 rfl rfl)
abbrev cX0_leastSpeed : ByteArray := prog_1_method_86_code
def yX0_leastSpeed : MethodName := ⟨RX0, "leastSpeed", "(I)I"⟩
def dkwX0_leastSpeed_0 : List UInt8 := [42, 16, 14, 27, 3, 3, 3, 3, 182, 1, 195, 172]
abbrev dktX0_leastSpeed_0 : List UInt8 := dkwX0_leastSpeed_0 ++ []
theorem dksX0_leastSpeed_0 : cX0_leastSpeed.data.toList.drop 0 = dktX0_leastSpeed_0 := by decide +kernel
theorem dX0_leastSpeed_0 : decode cX0_leastSpeed 0 = .ok (.aload_n 0, 1) := dk_42 (dk_at dksX0_leastSpeed_0 0 rfl rfl)
theorem dX0_leastSpeed_1 : decode cX0_leastSpeed 1 = .ok (.bipush 14, 2) := dk_16 14 (dk_at dksX0_leastSpeed_0 1 rfl rfl)
theorem dX0_leastSpeed_3 : decode cX0_leastSpeed 3 = .ok (.iload_n 1, 1) := dk_27 (dk_at dksX0_leastSpeed_0 3 rfl rfl)
theorem dX0_leastSpeed_4 : decode cX0_leastSpeed 4 = .ok (.iconst 0, 1) := dk_3 (dk_at dksX0_leastSpeed_0 4 rfl rfl)
theorem dX0_leastSpeed_5 : decode cX0_leastSpeed 5 = .ok (.iconst 0, 1) := dk_3 (dk_at dksX0_leastSpeed_0 5 rfl rfl)
theorem dX0_leastSpeed_6 : decode cX0_leastSpeed 6 = .ok (.iconst 0, 1) := dk_3 (dk_at dksX0_leastSpeed_0 6 rfl rfl)
theorem dX0_leastSpeed_7 : decode cX0_leastSpeed 7 = .ok (.iconst 0, 1) := dk_3 (dk_at dksX0_leastSpeed_0 7 rfl rfl)
theorem dX0_leastSpeed_8 : decode cX0_leastSpeed 8 = .ok (.invokevirtual 451, 3) := dk_182 1 195 (dk_at dksX0_leastSpeed_0 8 rfl rfl)
theorem dX0_leastSpeed_11 : decode cX0_leastSpeed 11 = .ok (.ireturn, 1) := dk_172 (dk_at dksX0_leastSpeed_0 11 rfl rfl)
abbrev cX0_atOnce : ByteArray := prog_1_method_87_code
def yX0_atOnce : MethodName := ⟨RX0, "atOnce", "(II)I"⟩
def dkwX0_atOnce_0 : List UInt8 := [42, 16, 15, 27, 28, 3, 3, 3, 182, 1, 195, 172]
abbrev dktX0_atOnce_0 : List UInt8 := dkwX0_atOnce_0 ++ []
theorem dksX0_atOnce_0 : cX0_atOnce.data.toList.drop 0 = dktX0_atOnce_0 := by decide +kernel
theorem dX0_atOnce_0 : decode cX0_atOnce 0 = .ok (.aload_n 0, 1) := dk_42 (dk_at dksX0_atOnce_0 0 rfl rfl)
theorem dX0_atOnce_1 : decode cX0_atOnce 1 = .ok (.bipush 15, 2) := dk_16 15 (dk_at dksX0_atOnce_0 1 rfl rfl)
theorem dX0_atOnce_3 : decode cX0_atOnce 3 = .ok (.iload_n 1, 1) := dk_27 (dk_at dksX0_atOnce_0 3 rfl rfl)
theorem dX0_atOnce_4 : decode cX0_atOnce 4 = .ok (.iload_n 2, 1) := dk_28 (dk_at dksX0_atOnce_0 4 rfl rfl)
theorem dX0_atOnce_5 : decode cX0_atOnce 5 = .ok (.iconst 0, 1) := dk_3 (dk_at dksX0_atOnce_0 5 rfl rfl)
theorem dX0_atOnce_6 : decode cX0_atOnce 6 = .ok (.iconst 0, 1) := dk_3 (dk_at dksX0_atOnce_0 6 rfl rfl)
theorem dX0_atOnce_7 : decode cX0_atOnce 7 = .ok (.iconst 0, 1) := dk_3 (dk_at dksX0_atOnce_0 7 rfl rfl)
theorem dX0_atOnce_8 : decode cX0_atOnce 8 = .ok (.invokevirtual 451, 3) := dk_182 1 195 (dk_at dksX0_atOnce_0 8 rfl rfl)
theorem dX0_atOnce_11 : decode cX0_atOnce 11 = .ok (.ireturn, 1) := dk_172 (dk_at dksX0_atOnce_0 11 rfl rfl)
abbrev cX0_later : ByteArray := prog_1_method_88_code
def yX0_later : MethodName := ⟨RX0, "later", "(III)I"⟩
def dkwX0_later_0 : List UInt8 := [42, 16, 16, 27, 28, 29, 3, 3, 182, 1, 195, 172]
abbrev dktX0_later_0 : List UInt8 := dkwX0_later_0 ++ []
theorem dksX0_later_0 : cX0_later.data.toList.drop 0 = dktX0_later_0 := by decide +kernel
theorem dX0_later_0 : decode cX0_later 0 = .ok (.aload_n 0, 1) := dk_42 (dk_at dksX0_later_0 0 rfl rfl)
theorem dX0_later_1 : decode cX0_later 1 = .ok (.bipush 16, 2) := dk_16 16 (dk_at dksX0_later_0 1 rfl rfl)
theorem dX0_later_3 : decode cX0_later 3 = .ok (.iload_n 1, 1) := dk_27 (dk_at dksX0_later_0 3 rfl rfl)
theorem dX0_later_4 : decode cX0_later 4 = .ok (.iload_n 2, 1) := dk_28 (dk_at dksX0_later_0 4 rfl rfl)
theorem dX0_later_5 : decode cX0_later 5 = .ok (.iload_n 3, 1) := dk_29 (dk_at dksX0_later_0 5 rfl rfl)
theorem dX0_later_6 : decode cX0_later 6 = .ok (.iconst 0, 1) := dk_3 (dk_at dksX0_later_0 6 rfl rfl)
theorem dX0_later_7 : decode cX0_later 7 = .ok (.iconst 0, 1) := dk_3 (dk_at dksX0_later_0 7 rfl rfl)
theorem dX0_later_8 : decode cX0_later 8 = .ok (.invokevirtual 451, 3) := dk_182 1 195 (dk_at dksX0_later_0 8 rfl rfl)
theorem dX0_later_11 : decode cX0_later 11 = .ok (.ireturn, 1) := dk_172 (dk_at dksX0_later_0 11 rfl rfl)
abbrev cX0_pullMost : ByteArray := prog_1_method_89_code
def yX0_pullMost : MethodName := ⟨RX0, "pullMost", "(III)I"⟩
def dkwX0_pullMost_0 : List UInt8 := [42, 16, 17, 27, 28, 29, 3, 3, 182, 1, 195, 172]
abbrev dktX0_pullMost_0 : List UInt8 := dkwX0_pullMost_0 ++ []
theorem dksX0_pullMost_0 : cX0_pullMost.data.toList.drop 0 = dktX0_pullMost_0 := by decide +kernel
theorem dX0_pullMost_0 : decode cX0_pullMost 0 = .ok (.aload_n 0, 1) := dk_42 (dk_at dksX0_pullMost_0 0 rfl rfl)
theorem dX0_pullMost_1 : decode cX0_pullMost 1 = .ok (.bipush 17, 2) := dk_16 17 (dk_at dksX0_pullMost_0 1 rfl rfl)
theorem dX0_pullMost_3 : decode cX0_pullMost 3 = .ok (.iload_n 1, 1) := dk_27 (dk_at dksX0_pullMost_0 3 rfl rfl)
theorem dX0_pullMost_4 : decode cX0_pullMost 4 = .ok (.iload_n 2, 1) := dk_28 (dk_at dksX0_pullMost_0 4 rfl rfl)
theorem dX0_pullMost_5 : decode cX0_pullMost 5 = .ok (.iload_n 3, 1) := dk_29 (dk_at dksX0_pullMost_0 5 rfl rfl)
theorem dX0_pullMost_6 : decode cX0_pullMost 6 = .ok (.iconst 0, 1) := dk_3 (dk_at dksX0_pullMost_0 6 rfl rfl)
theorem dX0_pullMost_7 : decode cX0_pullMost 7 = .ok (.iconst 0, 1) := dk_3 (dk_at dksX0_pullMost_0 7 rfl rfl)
theorem dX0_pullMost_8 : decode cX0_pullMost 8 = .ok (.invokevirtual 451, 3) := dk_182 1 195 (dk_at dksX0_pullMost_0 8 rfl rfl)
theorem dX0_pullMost_11 : decode cX0_pullMost 11 = .ok (.ireturn, 1) := dk_172 (dk_at dksX0_pullMost_0 11 rfl rfl)
abbrev cX0_key : ByteArray := prog_1_method_90_code
def yX0_key : MethodName := ⟨RX0, "key", "(I)I"⟩
def dkwX0_key_0 : List UInt8 := [42, 16, 18, 27, 3, 3, 3, 3, 182, 1, 195, 172]
abbrev dktX0_key_0 : List UInt8 := dkwX0_key_0 ++ []
theorem dksX0_key_0 : cX0_key.data.toList.drop 0 = dktX0_key_0 := by decide +kernel
theorem dX0_key_0 : decode cX0_key 0 = .ok (.aload_n 0, 1) := dk_42 (dk_at dksX0_key_0 0 rfl rfl)
theorem dX0_key_1 : decode cX0_key 1 = .ok (.bipush 18, 2) := dk_16 18 (dk_at dksX0_key_0 1 rfl rfl)
theorem dX0_key_3 : decode cX0_key 3 = .ok (.iload_n 1, 1) := dk_27 (dk_at dksX0_key_0 3 rfl rfl)
theorem dX0_key_4 : decode cX0_key 4 = .ok (.iconst 0, 1) := dk_3 (dk_at dksX0_key_0 4 rfl rfl)
theorem dX0_key_5 : decode cX0_key 5 = .ok (.iconst 0, 1) := dk_3 (dk_at dksX0_key_0 5 rfl rfl)
theorem dX0_key_6 : decode cX0_key 6 = .ok (.iconst 0, 1) := dk_3 (dk_at dksX0_key_0 6 rfl rfl)
theorem dX0_key_7 : decode cX0_key 7 = .ok (.iconst 0, 1) := dk_3 (dk_at dksX0_key_0 7 rfl rfl)
theorem dX0_key_8 : decode cX0_key 8 = .ok (.invokevirtual 451, 3) := dk_182 1 195 (dk_at dksX0_key_0 8 rfl rfl)
theorem dX0_key_11 : decode cX0_key 11 = .ok (.ireturn, 1) := dk_172 (dk_at dksX0_key_0 11 rfl rfl)
abbrev cX0_prop : ByteArray := prog_1_method_91_code
def yX0_prop : MethodName := ⟨RX0, "prop", "(I)I"⟩
def dkwX0_prop_0 : List UInt8 := [42, 16, 19, 27, 3, 3, 3, 3, 182, 1, 195, 172]
abbrev dktX0_prop_0 : List UInt8 := dkwX0_prop_0 ++ []
theorem dksX0_prop_0 : cX0_prop.data.toList.drop 0 = dktX0_prop_0 := by decide +kernel
theorem dX0_prop_0 : decode cX0_prop 0 = .ok (.aload_n 0, 1) := dk_42 (dk_at dksX0_prop_0 0 rfl rfl)
theorem dX0_prop_1 : decode cX0_prop 1 = .ok (.bipush 19, 2) := dk_16 19 (dk_at dksX0_prop_0 1 rfl rfl)
theorem dX0_prop_3 : decode cX0_prop 3 = .ok (.iload_n 1, 1) := dk_27 (dk_at dksX0_prop_0 3 rfl rfl)
theorem dX0_prop_4 : decode cX0_prop 4 = .ok (.iconst 0, 1) := dk_3 (dk_at dksX0_prop_0 4 rfl rfl)
theorem dX0_prop_5 : decode cX0_prop 5 = .ok (.iconst 0, 1) := dk_3 (dk_at dksX0_prop_0 5 rfl rfl)
theorem dX0_prop_6 : decode cX0_prop 6 = .ok (.iconst 0, 1) := dk_3 (dk_at dksX0_prop_0 6 rfl rfl)
theorem dX0_prop_7 : decode cX0_prop 7 = .ok (.iconst 0, 1) := dk_3 (dk_at dksX0_prop_0 7 rfl rfl)
theorem dX0_prop_8 : decode cX0_prop 8 = .ok (.invokevirtual 451, 3) := dk_182 1 195 (dk_at dksX0_prop_0 8 rfl rfl)
theorem dX0_prop_11 : decode cX0_prop 11 = .ok (.ireturn, 1) := dk_172 (dk_at dksX0_prop_0 11 rfl rfl)
abbrev cX0_order : ByteArray := prog_1_method_92_code
def yX0_order : MethodName := ⟨RX0, "order", "(IIIII)I"⟩
def dkwX0_order_0 : List UInt8 := [42, 16, 20, 27, 28, 29, 21, 4, 21, 5, 182, 1, 195, 172]
abbrev dktX0_order_0 : List UInt8 := dkwX0_order_0 ++ []
theorem dksX0_order_0 : cX0_order.data.toList.drop 0 = dktX0_order_0 := by decide +kernel
theorem dX0_order_0 : decode cX0_order 0 = .ok (.aload_n 0, 1) := dk_42 (dk_at dksX0_order_0 0 rfl rfl)
theorem dX0_order_1 : decode cX0_order 1 = .ok (.bipush 20, 2) := dk_16 20 (dk_at dksX0_order_0 1 rfl rfl)
theorem dX0_order_3 : decode cX0_order 3 = .ok (.iload_n 1, 1) := dk_27 (dk_at dksX0_order_0 3 rfl rfl)
theorem dX0_order_4 : decode cX0_order 4 = .ok (.iload_n 2, 1) := dk_28 (dk_at dksX0_order_0 4 rfl rfl)
theorem dX0_order_5 : decode cX0_order 5 = .ok (.iload_n 3, 1) := dk_29 (dk_at dksX0_order_0 5 rfl rfl)
theorem dX0_order_6 : decode cX0_order 6 = .ok (.iload 4, 2) := dk_21 4 (dk_at dksX0_order_0 6 rfl rfl)
theorem dX0_order_8 : decode cX0_order 8 = .ok (.iload 5, 2) := dk_21 5 (dk_at dksX0_order_0 8 rfl rfl)
theorem dX0_order_10 : decode cX0_order 10 = .ok (.invokevirtual 451, 3) := dk_182 1 195 (dk_at dksX0_order_0 10 rfl rfl)
theorem dX0_order_13 : decode cX0_order 13 = .ok (.ireturn, 1) := dk_172 (dk_at dksX0_order_0 13 rfl rfl)
abbrev cX0_floorFalls : ByteArray := prog_1_method_93_code
def yX0_floorFalls : MethodName := ⟨RX0, "floorFalls", "(I)I"⟩
def dkwX0_floorFalls_0 : List UInt8 := [42, 16, 21, 27, 3, 3, 3, 3, 182, 1, 195, 172]
abbrev dktX0_floorFalls_0 : List UInt8 := dkwX0_floorFalls_0 ++ []
theorem dksX0_floorFalls_0 : cX0_floorFalls.data.toList.drop 0 = dktX0_floorFalls_0 := by decide +kernel
theorem dX0_floorFalls_0 : decode cX0_floorFalls 0 = .ok (.aload_n 0, 1) := dk_42 (dk_at dksX0_floorFalls_0 0 rfl rfl)
theorem dX0_floorFalls_1 : decode cX0_floorFalls 1 = .ok (.bipush 21, 2) := dk_16 21 (dk_at dksX0_floorFalls_0 1 rfl rfl)
theorem dX0_floorFalls_3 : decode cX0_floorFalls 3 = .ok (.iload_n 1, 1) := dk_27 (dk_at dksX0_floorFalls_0 3 rfl rfl)
theorem dX0_floorFalls_4 : decode cX0_floorFalls 4 = .ok (.iconst 0, 1) := dk_3 (dk_at dksX0_floorFalls_0 4 rfl rfl)
theorem dX0_floorFalls_5 : decode cX0_floorFalls 5 = .ok (.iconst 0, 1) := dk_3 (dk_at dksX0_floorFalls_0 5 rfl rfl)
theorem dX0_floorFalls_6 : decode cX0_floorFalls 6 = .ok (.iconst 0, 1) := dk_3 (dk_at dksX0_floorFalls_0 6 rfl rfl)
theorem dX0_floorFalls_7 : decode cX0_floorFalls 7 = .ok (.iconst 0, 1) := dk_3 (dk_at dksX0_floorFalls_0 7 rfl rfl)
theorem dX0_floorFalls_8 : decode cX0_floorFalls 8 = .ok (.invokevirtual 451, 3) := dk_182 1 195 (dk_at dksX0_floorFalls_0 8 rfl rfl)
theorem dX0_floorFalls_11 : decode cX0_floorFalls 11 = .ok (.ireturn, 1) := dk_172 (dk_at dksX0_floorFalls_0 11 rfl rfl)
abbrev cX0_watched : ByteArray := prog_1_method_94_code
def yX0_watched : MethodName := ⟨RX0, "watched", "(I)I"⟩
def dkwX0_watched_0 : List UInt8 := [42, 16, 22, 27, 3, 3, 3, 3, 182, 1, 195, 172]
abbrev dktX0_watched_0 : List UInt8 := dkwX0_watched_0 ++ []
theorem dksX0_watched_0 : cX0_watched.data.toList.drop 0 = dktX0_watched_0 := by decide +kernel
theorem dX0_watched_0 : decode cX0_watched 0 = .ok (.aload_n 0, 1) := dk_42 (dk_at dksX0_watched_0 0 rfl rfl)
theorem dX0_watched_1 : decode cX0_watched 1 = .ok (.bipush 22, 2) := dk_16 22 (dk_at dksX0_watched_0 1 rfl rfl)
theorem dX0_watched_3 : decode cX0_watched 3 = .ok (.iload_n 1, 1) := dk_27 (dk_at dksX0_watched_0 3 rfl rfl)
theorem dX0_watched_4 : decode cX0_watched 4 = .ok (.iconst 0, 1) := dk_3 (dk_at dksX0_watched_0 4 rfl rfl)
theorem dX0_watched_5 : decode cX0_watched 5 = .ok (.iconst 0, 1) := dk_3 (dk_at dksX0_watched_0 5 rfl rfl)
theorem dX0_watched_6 : decode cX0_watched 6 = .ok (.iconst 0, 1) := dk_3 (dk_at dksX0_watched_0 6 rfl rfl)
theorem dX0_watched_7 : decode cX0_watched 7 = .ok (.iconst 0, 1) := dk_3 (dk_at dksX0_watched_0 7 rfl rfl)
theorem dX0_watched_8 : decode cX0_watched 8 = .ok (.invokevirtual 451, 3) := dk_182 1 195 (dk_at dksX0_watched_0 8 rfl rfl)
theorem dX0_watched_11 : decode cX0_watched 11 = .ok (.ireturn, 1) := dk_172 (dk_at dksX0_watched_0 11 rfl rfl)
abbrev cX0_rebuild : ByteArray := prog_1_method_95_code
def yX0_rebuild : MethodName := ⟨RX0, "rebuild", "(I)I"⟩
def dkwX0_rebuild_0 : List UInt8 := [42, 16, 23, 27, 3, 3, 3, 3, 182, 1, 195, 172]
abbrev dktX0_rebuild_0 : List UInt8 := dkwX0_rebuild_0 ++ []
theorem dksX0_rebuild_0 : cX0_rebuild.data.toList.drop 0 = dktX0_rebuild_0 := by decide +kernel
theorem dX0_rebuild_0 : decode cX0_rebuild 0 = .ok (.aload_n 0, 1) := dk_42 (dk_at dksX0_rebuild_0 0 rfl rfl)
theorem dX0_rebuild_1 : decode cX0_rebuild 1 = .ok (.bipush 23, 2) := dk_16 23 (dk_at dksX0_rebuild_0 1 rfl rfl)
theorem dX0_rebuild_3 : decode cX0_rebuild 3 = .ok (.iload_n 1, 1) := dk_27 (dk_at dksX0_rebuild_0 3 rfl rfl)
theorem dX0_rebuild_4 : decode cX0_rebuild 4 = .ok (.iconst 0, 1) := dk_3 (dk_at dksX0_rebuild_0 4 rfl rfl)
theorem dX0_rebuild_5 : decode cX0_rebuild 5 = .ok (.iconst 0, 1) := dk_3 (dk_at dksX0_rebuild_0 5 rfl rfl)
theorem dX0_rebuild_6 : decode cX0_rebuild 6 = .ok (.iconst 0, 1) := dk_3 (dk_at dksX0_rebuild_0 6 rfl rfl)
theorem dX0_rebuild_7 : decode cX0_rebuild 7 = .ok (.iconst 0, 1) := dk_3 (dk_at dksX0_rebuild_0 7 rfl rfl)
theorem dX0_rebuild_8 : decode cX0_rebuild 8 = .ok (.invokevirtual 451, 3) := dk_182 1 195 (dk_at dksX0_rebuild_0 8 rfl rfl)
theorem dX0_rebuild_11 : decode cX0_rebuild 11 = .ok (.ireturn, 1) := dk_172 (dk_at dksX0_rebuild_0 11 rfl rfl)
abbrev cX0_draught : ByteArray := prog_1_method_96_code
def yX0_draught : MethodName := ⟨RX0, "draught", "(IIII)J"⟩
def dkwX0_draught_0 : List UInt8 := [42, 27, 28, 29, 21, 4, 182, 1, 198, 173]
abbrev dktX0_draught_0 : List UInt8 := dkwX0_draught_0 ++ []
theorem dksX0_draught_0 : cX0_draught.data.toList.drop 0 = dktX0_draught_0 := by decide +kernel
theorem dX0_draught_0 : decode cX0_draught 0 = .ok (.aload_n 0, 1) := dk_42 (dk_at dksX0_draught_0 0 rfl rfl)
theorem dX0_draught_1 : decode cX0_draught 1 = .ok (.iload_n 1, 1) := dk_27 (dk_at dksX0_draught_0 1 rfl rfl)
theorem dX0_draught_2 : decode cX0_draught 2 = .ok (.iload_n 2, 1) := dk_28 (dk_at dksX0_draught_0 2 rfl rfl)
theorem dX0_draught_3 : decode cX0_draught 3 = .ok (.iload_n 3, 1) := dk_29 (dk_at dksX0_draught_0 3 rfl rfl)
theorem dX0_draught_4 : decode cX0_draught 4 = .ok (.iload 4, 2) := dk_21 4 (dk_at dksX0_draught_0 4 rfl rfl)
theorem dX0_draught_6 : decode cX0_draught 6 = .ok (.invokevirtual 454, 3) := dk_182 1 198 (dk_at dksX0_draught_0 6 rfl rfl)
theorem dX0_draught_9 : decode cX0_draught 9 = .ok (.lreturn, 1) := dk_173 (dk_at dksX0_draught_0 9 rfl rfl)
abbrev cX0_draughtTold : ByteArray := prog_1_method_71_code
def yX0_draughtTold : MethodName := ⟨RX0, "draughtTold", "(IIII)J"⟩
def dkwX0_draughtTold_2 : List UInt8 := [184, 1, 100, 42, 27, 28, 29, 21, 4, 182, 1, 187, 173, 58, 5, 42, 25, 5, 182, 1, 191, 173]
abbrev dktX0_draughtTold_2 : List UInt8 := dkwX0_draughtTold_2 ++ []
def dkwX0_draughtTold_1 : List UInt8 := [28, 16, 7, 163, 0, 13, 29, 16, 20, 163, 0, 7, 4, 167, 0, 4, 3, 16, 250, 184, 0, 9, 21, 4]
abbrev dktX0_draughtTold_1 : List UInt8 := dkwX0_draughtTold_1 ++ dktX0_draughtTold_2
def dkwX0_draughtTold_0 : List UInt8 := [42, 27, 182, 1, 7, 28, 155, 0, 12, 29, 5, 161, 0, 7, 4, 167, 0, 4, 3, 16, 252, 184, 0, 9]
abbrev dktX0_draughtTold_0 : List UInt8 := dkwX0_draughtTold_0 ++ dktX0_draughtTold_1
theorem dksX0_draughtTold_0 : cX0_draughtTold.data.toList.drop 0 = dktX0_draughtTold_0 := by decide +kernel
theorem dksX0_draughtTold_1 : cX0_draughtTold.data.toList.drop 24 = dktX0_draughtTold_1 := dk_seg dksX0_draughtTold_0 24 rfl rfl
theorem dksX0_draughtTold_2 : cX0_draughtTold.data.toList.drop 48 = dktX0_draughtTold_2 := dk_seg dksX0_draughtTold_1 24 rfl rfl
theorem dX0_draughtTold_0 : decode cX0_draughtTold 0 = .ok (.aload_n 0, 1) := dk_42 (dk_at dksX0_draughtTold_0 0 rfl rfl)
theorem dX0_draughtTold_1 : decode cX0_draughtTold 1 = .ok (.iload_n 1, 1) := dk_27 (dk_at dksX0_draughtTold_0 1 rfl rfl)
theorem dX0_draughtTold_2 : decode cX0_draughtTold 2 = .ok (.invokevirtual 263, 3) := dk_182 1 7 (dk_at dksX0_draughtTold_0 2 rfl rfl)
theorem dX0_draughtTold_5 : decode cX0_draughtTold 5 = .ok (.iload_n 2, 1) := dk_28 (dk_at dksX0_draughtTold_0 5 rfl rfl)
theorem dX0_draughtTold_6 : decode cX0_draughtTold 6 = .ok (.ifCond .lt 12, 3) := dk_155 0 12 (dk_at dksX0_draughtTold_0 6 rfl rfl)
theorem dX0_draughtTold_9 : decode cX0_draughtTold 9 = .ok (.iload_n 3, 1) := dk_29 (dk_at dksX0_draughtTold_0 9 rfl rfl)
theorem dX0_draughtTold_10 : decode cX0_draughtTold 10 = .ok (.iconst 2, 1) := dk_5 (dk_at dksX0_draughtTold_0 10 rfl rfl)
theorem dX0_draughtTold_11 : decode cX0_draughtTold 11 = .ok (.if_icmp .lt 7, 3) := dk_161 0 7 (dk_at dksX0_draughtTold_0 11 rfl rfl)
theorem dX0_draughtTold_14 : decode cX0_draughtTold 14 = .ok (.iconst 1, 1) := dk_4 (dk_at dksX0_draughtTold_0 14 rfl rfl)
theorem dX0_draughtTold_15 : decode cX0_draughtTold 15 = .ok (.goto 4, 3) := dk_167 0 4 (dk_at dksX0_draughtTold_0 15 rfl rfl)
theorem dX0_draughtTold_18 : decode cX0_draughtTold 18 = .ok (.iconst 0, 1) := dk_3 (dk_at dksX0_draughtTold_0 18 rfl rfl)
theorem dX0_draughtTold_19 : decode cX0_draughtTold 19 = .ok (.bipush (-4), 2) := dk_16 252 (dk_at dksX0_draughtTold_0 19 rfl rfl)
theorem dX0_draughtTold_21 : decode cX0_draughtTold 21 = .ok (.invokestatic 9, 3) := dk_184 0 9 (dk_at dksX0_draughtTold_0 21 rfl rfl)
theorem dX0_draughtTold_24 : decode cX0_draughtTold 24 = .ok (.iload_n 2, 1) := dk_28 (dk_at dksX0_draughtTold_1 0 rfl rfl)
theorem dX0_draughtTold_25 : decode cX0_draughtTold 25 = .ok (.bipush 7, 2) := dk_16 7 (dk_at dksX0_draughtTold_1 1 rfl rfl)
theorem dX0_draughtTold_27 : decode cX0_draughtTold 27 = .ok (.if_icmp .gt 13, 3) := dk_163 0 13 (dk_at dksX0_draughtTold_1 3 rfl rfl)
theorem dX0_draughtTold_30 : decode cX0_draughtTold 30 = .ok (.iload_n 3, 1) := dk_29 (dk_at dksX0_draughtTold_1 6 rfl rfl)
theorem dX0_draughtTold_31 : decode cX0_draughtTold 31 = .ok (.bipush 20, 2) := dk_16 20 (dk_at dksX0_draughtTold_1 7 rfl rfl)
theorem dX0_draughtTold_33 : decode cX0_draughtTold 33 = .ok (.if_icmp .gt 7, 3) := dk_163 0 7 (dk_at dksX0_draughtTold_1 9 rfl rfl)
theorem dX0_draughtTold_36 : decode cX0_draughtTold 36 = .ok (.iconst 1, 1) := dk_4 (dk_at dksX0_draughtTold_1 12 rfl rfl)
theorem dX0_draughtTold_37 : decode cX0_draughtTold 37 = .ok (.goto 4, 3) := dk_167 0 4 (dk_at dksX0_draughtTold_1 13 rfl rfl)
theorem dX0_draughtTold_40 : decode cX0_draughtTold 40 = .ok (.iconst 0, 1) := dk_3 (dk_at dksX0_draughtTold_1 16 rfl rfl)
theorem dX0_draughtTold_41 : decode cX0_draughtTold 41 = .ok (.bipush (-6), 2) := dk_16 250 (dk_at dksX0_draughtTold_1 17 rfl rfl)
theorem dX0_draughtTold_43 : decode cX0_draughtTold 43 = .ok (.invokestatic 9, 3) := dk_184 0 9 (dk_at dksX0_draughtTold_1 19 rfl rfl)
theorem dX0_draughtTold_46 : decode cX0_draughtTold 46 = .ok (.iload 4, 2) := dk_21 4 (dk_at dksX0_draughtTold_1 22 rfl rfl)
theorem dX0_draughtTold_48 : decode cX0_draughtTold 48 = .ok (.invokestatic 356, 3) := dk_184 1 100 (dk_at dksX0_draughtTold_2 0 rfl rfl)
theorem dX0_draughtTold_51 : decode cX0_draughtTold 51 = .ok (.aload_n 0, 1) := dk_42 (dk_at dksX0_draughtTold_2 3 rfl rfl)
theorem dX0_draughtTold_52 : decode cX0_draughtTold 52 = .ok (.iload_n 1, 1) := dk_27 (dk_at dksX0_draughtTold_2 4 rfl rfl)
theorem dX0_draughtTold_53 : decode cX0_draughtTold 53 = .ok (.iload_n 2, 1) := dk_28 (dk_at dksX0_draughtTold_2 5 rfl rfl)
theorem dX0_draughtTold_54 : decode cX0_draughtTold 54 = .ok (.iload_n 3, 1) := dk_29 (dk_at dksX0_draughtTold_2 6 rfl rfl)
theorem dX0_draughtTold_55 : decode cX0_draughtTold 55 = .ok (.iload 4, 2) := dk_21 4 (dk_at dksX0_draughtTold_2 7 rfl rfl)
theorem dX0_draughtTold_57 : decode cX0_draughtTold 57 = .ok (.invokevirtual 443, 3) := dk_182 1 187 (dk_at dksX0_draughtTold_2 9 rfl rfl)
theorem dX0_draughtTold_60 : decode cX0_draughtTold 60 = .ok (.lreturn, 1) := dk_173 (dk_at dksX0_draughtTold_2 12 rfl rfl)
theorem dX0_draughtTold_61 : decode cX0_draughtTold 61 = .ok (.astore 5, 2) := dk_58 5 (dk_at dksX0_draughtTold_2 13 rfl rfl)
theorem dX0_draughtTold_63 : decode cX0_draughtTold 63 = .ok (.aload_n 0, 1) := dk_42 (dk_at dksX0_draughtTold_2 15 rfl rfl)
theorem dX0_draughtTold_64 : decode cX0_draughtTold 64 = .ok (.aload 5, 2) := dk_25 5 (dk_at dksX0_draughtTold_2 16 rfl rfl)
theorem dX0_draughtTold_66 : decode cX0_draughtTold 66 = .ok (.invokevirtual 447, 3) := dk_182 1 191 (dk_at dksX0_draughtTold_2 18 rfl rfl)
theorem dX0_draughtTold_69 : decode cX0_draughtTold 69 = .ok (.lreturn, 1) := dk_173 (dk_at dksX0_draughtTold_2 21 rfl rfl)
abbrev cX0_draughtPart : ByteArray := prog_1_method_31_code
def yX0_draughtPart : MethodName := ⟨RX0, "draughtPart", "(IIII)J"⟩
def dkwX0_draughtPart_6 : List UInt8 := [173]
abbrev dktX0_draughtPart_6 : List UInt8 := dkwX0_draughtPart_6 ++ []
def dkwX0_draughtPart_5 : List UInt8 := [22, 11, 167, 0, 4, 9, 97, 55, 5, 132, 9, 1, 167, 255, 158, 22, 5, 22, 7, 21, 4, 184, 0, 206]
abbrev dktX0_draughtPart_5 : List UInt8 := dkwX0_draughtPart_5 ++ dktX0_draughtPart_6
def dkwX0_draughtPart_4 : List UInt8 := [4, 100, 133, 105, 55, 11, 132, 13, 1, 167, 255, 204, 22, 5, 25, 10, 27, 182, 0, 154, 153, 0, 8]
abbrev dktX0_draughtPart_4 : List UInt8 := dkwX0_draughtPart_4 ++ dktX0_draughtPart_5
def dkwX0_draughtPart_3 : List UInt8 := [167, 0, 4, 3, 182, 0, 127, 22, 11, 21, 9, 21, 13, 184, 0, 137, 153, 0, 7, 10, 167, 0, 7, 29]
abbrev dktX0_draughtPart_3 : List UInt8 := dkwX0_draughtPart_3 ++ dktX0_draughtPart_4
def dkwX0_draughtPart_2 : List UInt8 := [55, 11, 3, 54, 13, 21, 13, 28, 162, 0, 52, 25, 10, 21, 9, 21, 13, 184, 0, 137, 153, 0, 7, 4]
abbrev dktX0_draughtPart_2 : List UInt8 := dkwX0_draughtPart_2 ++ dktX0_draughtPart_3
def dkwX0_draughtPart_1 : List UInt8 := [132, 9, 1, 167, 255, 240, 3, 54, 9, 21, 9, 4, 28, 120, 162, 0, 96, 42, 182, 0, 116, 58, 10, 10]
abbrev dktX0_draughtPart_1 : List UInt8 := dkwX0_draughtPart_1 ++ dktX0_draughtPart_2
def dkwX0_draughtPart_0 : List UInt8 := [9, 55, 5, 10, 55, 7, 3, 54, 9, 21, 9, 28, 162, 0, 16, 22, 7, 29, 133, 105, 55, 7]
abbrev dktX0_draughtPart_0 : List UInt8 := dkwX0_draughtPart_0 ++ dktX0_draughtPart_1
theorem dksX0_draughtPart_0 : cX0_draughtPart.data.toList.drop 0 = dktX0_draughtPart_0 := by decide +kernel
theorem dksX0_draughtPart_1 : cX0_draughtPart.data.toList.drop 22 = dktX0_draughtPart_1 := dk_seg dksX0_draughtPart_0 22 rfl rfl
theorem dksX0_draughtPart_2 : cX0_draughtPart.data.toList.drop 46 = dktX0_draughtPart_2 := dk_seg dksX0_draughtPart_1 24 rfl rfl
theorem dksX0_draughtPart_3 : cX0_draughtPart.data.toList.drop 70 = dktX0_draughtPart_3 := dk_seg dksX0_draughtPart_2 24 rfl rfl
theorem dksX0_draughtPart_4 : cX0_draughtPart.data.toList.drop 94 = dktX0_draughtPart_4 := dk_seg dksX0_draughtPart_3 24 rfl rfl
theorem dksX0_draughtPart_5 : cX0_draughtPart.data.toList.drop 117 = dktX0_draughtPart_5 := dk_seg dksX0_draughtPart_4 23 rfl rfl
theorem dksX0_draughtPart_6 : cX0_draughtPart.data.toList.drop 141 = dktX0_draughtPart_6 := dk_seg dksX0_draughtPart_5 24 rfl rfl
theorem dX0_draughtPart_0 : decode cX0_draughtPart 0 = .ok (.lconst 0, 1) := dk_9 (dk_at dksX0_draughtPart_0 0 rfl rfl)
theorem dX0_draughtPart_1 : decode cX0_draughtPart 1 = .ok (.lstore 5, 2) := dk_55 5 (dk_at dksX0_draughtPart_0 1 rfl rfl)
theorem dX0_draughtPart_3 : decode cX0_draughtPart 3 = .ok (.lconst 1, 1) := dk_10 (dk_at dksX0_draughtPart_0 3 rfl rfl)
theorem dX0_draughtPart_4 : decode cX0_draughtPart 4 = .ok (.lstore 7, 2) := dk_55 7 (dk_at dksX0_draughtPart_0 4 rfl rfl)
theorem dX0_draughtPart_6 : decode cX0_draughtPart 6 = .ok (.iconst 0, 1) := dk_3 (dk_at dksX0_draughtPart_0 6 rfl rfl)
theorem dX0_draughtPart_7 : decode cX0_draughtPart 7 = .ok (.istore 9, 2) := dk_54 9 (dk_at dksX0_draughtPart_0 7 rfl rfl)
theorem dX0_draughtPart_9 : decode cX0_draughtPart 9 = .ok (.iload 9, 2) := dk_21 9 (dk_at dksX0_draughtPart_0 9 rfl rfl)
theorem dX0_draughtPart_11 : decode cX0_draughtPart 11 = .ok (.iload_n 2, 1) := dk_28 (dk_at dksX0_draughtPart_0 11 rfl rfl)
theorem dX0_draughtPart_12 : decode cX0_draughtPart 12 = .ok (.if_icmp .ge 16, 3) := dk_162 0 16 (dk_at dksX0_draughtPart_0 12 rfl rfl)
theorem dX0_draughtPart_15 : decode cX0_draughtPart 15 = .ok (.lload 7, 2) := dk_22 7 (dk_at dksX0_draughtPart_0 15 rfl rfl)
theorem dX0_draughtPart_17 : decode cX0_draughtPart 17 = .ok (.iload_n 3, 1) := dk_29 (dk_at dksX0_draughtPart_0 17 rfl rfl)
theorem dX0_draughtPart_18 : decode cX0_draughtPart 18 = .ok (.i2l, 1) := dk_133 (dk_at dksX0_draughtPart_0 18 rfl rfl)
theorem dX0_draughtPart_19 : decode cX0_draughtPart 19 = .ok (.lmul, 1) := dk_105 (dk_at dksX0_draughtPart_0 19 rfl rfl)
theorem dX0_draughtPart_20 : decode cX0_draughtPart 20 = .ok (.lstore 7, 2) := dk_55 7 (dk_at dksX0_draughtPart_0 20 rfl rfl)
theorem dX0_draughtPart_22 : decode cX0_draughtPart 22 = .ok (.iinc 9 1, 3) := dk_132 9 1 (dk_at dksX0_draughtPart_1 0 rfl rfl)
theorem dX0_draughtPart_25 : decode cX0_draughtPart 25 = .ok (.goto (-16), 3) := dk_167 255 240 (dk_at dksX0_draughtPart_1 3 rfl rfl)
theorem dX0_draughtPart_28 : decode cX0_draughtPart 28 = .ok (.iconst 0, 1) := dk_3 (dk_at dksX0_draughtPart_1 6 rfl rfl)
theorem dX0_draughtPart_29 : decode cX0_draughtPart 29 = .ok (.istore 9, 2) := dk_54 9 (dk_at dksX0_draughtPart_1 7 rfl rfl)
theorem dX0_draughtPart_31 : decode cX0_draughtPart 31 = .ok (.iload 9, 2) := dk_21 9 (dk_at dksX0_draughtPart_1 9 rfl rfl)
theorem dX0_draughtPart_33 : decode cX0_draughtPart 33 = .ok (.iconst 1, 1) := dk_4 (dk_at dksX0_draughtPart_1 11 rfl rfl)
theorem dX0_draughtPart_34 : decode cX0_draughtPart 34 = .ok (.iload_n 2, 1) := dk_28 (dk_at dksX0_draughtPart_1 12 rfl rfl)
theorem dX0_draughtPart_35 : decode cX0_draughtPart 35 = .ok (.ishl, 1) := dk_120 (dk_at dksX0_draughtPart_1 13 rfl rfl)
theorem dX0_draughtPart_36 : decode cX0_draughtPart 36 = .ok (.if_icmp .ge 96, 3) := dk_162 0 96 (dk_at dksX0_draughtPart_1 14 rfl rfl)
theorem dX0_draughtPart_39 : decode cX0_draughtPart 39 = .ok (.aload_n 0, 1) := dk_42 (dk_at dksX0_draughtPart_1 17 rfl rfl)
theorem dX0_draughtPart_40 : decode cX0_draughtPart 40 = .ok (.invokevirtual 116, 3) := dk_182 0 116 (dk_at dksX0_draughtPart_1 18 rfl rfl)
theorem dX0_draughtPart_43 : decode cX0_draughtPart 43 = .ok (.astore 10, 2) := dk_58 10 (dk_at dksX0_draughtPart_1 21 rfl rfl)
theorem dX0_draughtPart_45 : decode cX0_draughtPart 45 = .ok (.lconst 1, 1) := dk_10 (dk_at dksX0_draughtPart_1 23 rfl rfl)
theorem dX0_draughtPart_46 : decode cX0_draughtPart 46 = .ok (.lstore 11, 2) := dk_55 11 (dk_at dksX0_draughtPart_2 0 rfl rfl)
theorem dX0_draughtPart_48 : decode cX0_draughtPart 48 = .ok (.iconst 0, 1) := dk_3 (dk_at dksX0_draughtPart_2 2 rfl rfl)
theorem dX0_draughtPart_49 : decode cX0_draughtPart 49 = .ok (.istore 13, 2) := dk_54 13 (dk_at dksX0_draughtPart_2 3 rfl rfl)
theorem dX0_draughtPart_51 : decode cX0_draughtPart 51 = .ok (.iload 13, 2) := dk_21 13 (dk_at dksX0_draughtPart_2 5 rfl rfl)
theorem dX0_draughtPart_53 : decode cX0_draughtPart 53 = .ok (.iload_n 2, 1) := dk_28 (dk_at dksX0_draughtPart_2 7 rfl rfl)
theorem dX0_draughtPart_54 : decode cX0_draughtPart 54 = .ok (.if_icmp .ge 52, 3) := dk_162 0 52 (dk_at dksX0_draughtPart_2 8 rfl rfl)
theorem dX0_draughtPart_57 : decode cX0_draughtPart 57 = .ok (.aload 10, 2) := dk_25 10 (dk_at dksX0_draughtPart_2 11 rfl rfl)
theorem dX0_draughtPart_59 : decode cX0_draughtPart 59 = .ok (.iload 9, 2) := dk_21 9 (dk_at dksX0_draughtPart_2 13 rfl rfl)
theorem dX0_draughtPart_61 : decode cX0_draughtPart 61 = .ok (.iload 13, 2) := dk_21 13 (dk_at dksX0_draughtPart_2 15 rfl rfl)
theorem dX0_draughtPart_63 : decode cX0_draughtPart 63 = .ok (.invokestatic 137, 3) := dk_184 0 137 (dk_at dksX0_draughtPart_2 17 rfl rfl)
theorem dX0_draughtPart_66 : decode cX0_draughtPart 66 = .ok (.ifCond .eq 7, 3) := dk_153 0 7 (dk_at dksX0_draughtPart_2 20 rfl rfl)
theorem dX0_draughtPart_69 : decode cX0_draughtPart 69 = .ok (.iconst 1, 1) := dk_4 (dk_at dksX0_draughtPart_2 23 rfl rfl)
theorem dX0_draughtPart_70 : decode cX0_draughtPart 70 = .ok (.goto 4, 3) := dk_167 0 4 (dk_at dksX0_draughtPart_3 0 rfl rfl)
theorem dX0_draughtPart_73 : decode cX0_draughtPart 73 = .ok (.iconst 0, 1) := dk_3 (dk_at dksX0_draughtPart_3 3 rfl rfl)
theorem dX0_draughtPart_74 : decode cX0_draughtPart 74 = .ok (.invokevirtual 127, 3) := dk_182 0 127 (dk_at dksX0_draughtPart_3 4 rfl rfl)
theorem dX0_draughtPart_77 : decode cX0_draughtPart 77 = .ok (.lload 11, 2) := dk_22 11 (dk_at dksX0_draughtPart_3 7 rfl rfl)
theorem dX0_draughtPart_79 : decode cX0_draughtPart 79 = .ok (.iload 9, 2) := dk_21 9 (dk_at dksX0_draughtPart_3 9 rfl rfl)
theorem dX0_draughtPart_81 : decode cX0_draughtPart 81 = .ok (.iload 13, 2) := dk_21 13 (dk_at dksX0_draughtPart_3 11 rfl rfl)
theorem dX0_draughtPart_83 : decode cX0_draughtPart 83 = .ok (.invokestatic 137, 3) := dk_184 0 137 (dk_at dksX0_draughtPart_3 13 rfl rfl)
theorem dX0_draughtPart_86 : decode cX0_draughtPart 86 = .ok (.ifCond .eq 7, 3) := dk_153 0 7 (dk_at dksX0_draughtPart_3 16 rfl rfl)
theorem dX0_draughtPart_89 : decode cX0_draughtPart 89 = .ok (.lconst 1, 1) := dk_10 (dk_at dksX0_draughtPart_3 19 rfl rfl)
theorem dX0_draughtPart_90 : decode cX0_draughtPart 90 = .ok (.goto 7, 3) := dk_167 0 7 (dk_at dksX0_draughtPart_3 20 rfl rfl)
theorem dX0_draughtPart_93 : decode cX0_draughtPart 93 = .ok (.iload_n 3, 1) := dk_29 (dk_at dksX0_draughtPart_3 23 rfl rfl)
theorem dX0_draughtPart_94 : decode cX0_draughtPart 94 = .ok (.iconst 1, 1) := dk_4 (dk_at dksX0_draughtPart_4 0 rfl rfl)
theorem dX0_draughtPart_95 : decode cX0_draughtPart 95 = .ok (.isub, 1) := dk_100 (dk_at dksX0_draughtPart_4 1 rfl rfl)
theorem dX0_draughtPart_96 : decode cX0_draughtPart 96 = .ok (.i2l, 1) := dk_133 (dk_at dksX0_draughtPart_4 2 rfl rfl)
theorem dX0_draughtPart_97 : decode cX0_draughtPart 97 = .ok (.lmul, 1) := dk_105 (dk_at dksX0_draughtPart_4 3 rfl rfl)
theorem dX0_draughtPart_98 : decode cX0_draughtPart 98 = .ok (.lstore 11, 2) := dk_55 11 (dk_at dksX0_draughtPart_4 4 rfl rfl)
theorem dX0_draughtPart_100 : decode cX0_draughtPart 100 = .ok (.iinc 13 1, 3) := dk_132 13 1 (dk_at dksX0_draughtPart_4 6 rfl rfl)
theorem dX0_draughtPart_103 : decode cX0_draughtPart 103 = .ok (.goto (-52), 3) := dk_167 255 204 (dk_at dksX0_draughtPart_4 9 rfl rfl)
theorem dX0_draughtPart_106 : decode cX0_draughtPart 106 = .ok (.lload 5, 2) := dk_22 5 (dk_at dksX0_draughtPart_4 12 rfl rfl)
theorem dX0_draughtPart_108 : decode cX0_draughtPart 108 = .ok (.aload 10, 2) := dk_25 10 (dk_at dksX0_draughtPart_4 14 rfl rfl)
theorem dX0_draughtPart_110 : decode cX0_draughtPart 110 = .ok (.iload_n 1, 1) := dk_27 (dk_at dksX0_draughtPart_4 16 rfl rfl)
theorem dX0_draughtPart_111 : decode cX0_draughtPart 111 = .ok (.invokevirtual 154, 3) := dk_182 0 154 (dk_at dksX0_draughtPart_4 17 rfl rfl)
theorem dX0_draughtPart_114 : decode cX0_draughtPart 114 = .ok (.ifCond .eq 8, 3) := dk_153 0 8 (dk_at dksX0_draughtPart_4 20 rfl rfl)
theorem dX0_draughtPart_117 : decode cX0_draughtPart 117 = .ok (.lload 11, 2) := dk_22 11 (dk_at dksX0_draughtPart_5 0 rfl rfl)
theorem dX0_draughtPart_119 : decode cX0_draughtPart 119 = .ok (.goto 4, 3) := dk_167 0 4 (dk_at dksX0_draughtPart_5 2 rfl rfl)
theorem dX0_draughtPart_122 : decode cX0_draughtPart 122 = .ok (.lconst 0, 1) := dk_9 (dk_at dksX0_draughtPart_5 5 rfl rfl)
theorem dX0_draughtPart_123 : decode cX0_draughtPart 123 = .ok (.ladd, 1) := dk_97 (dk_at dksX0_draughtPart_5 6 rfl rfl)
theorem dX0_draughtPart_124 : decode cX0_draughtPart 124 = .ok (.lstore 5, 2) := dk_55 5 (dk_at dksX0_draughtPart_5 7 rfl rfl)
theorem dX0_draughtPart_126 : decode cX0_draughtPart 126 = .ok (.iinc 9 1, 3) := dk_132 9 1 (dk_at dksX0_draughtPart_5 9 rfl rfl)
theorem dX0_draughtPart_129 : decode cX0_draughtPart 129 = .ok (.goto (-98), 3) := dk_167 255 158 (dk_at dksX0_draughtPart_5 12 rfl rfl)
theorem dX0_draughtPart_132 : decode cX0_draughtPart 132 = .ok (.lload 5, 2) := dk_22 5 (dk_at dksX0_draughtPart_5 15 rfl rfl)
theorem dX0_draughtPart_134 : decode cX0_draughtPart 134 = .ok (.lload 7, 2) := dk_22 7 (dk_at dksX0_draughtPart_5 17 rfl rfl)
theorem dX0_draughtPart_136 : decode cX0_draughtPart 136 = .ok (.iload 4, 2) := dk_21 4 (dk_at dksX0_draughtPart_5 19 rfl rfl)
theorem dX0_draughtPart_138 : decode cX0_draughtPart 138 = .ok (.invokestatic 206, 3) := dk_184 0 206 (dk_at dksX0_draughtPart_5 21 rfl rfl)
theorem dX0_draughtPart_141 : decode cX0_draughtPart 141 = .ok (.lreturn, 1) := dk_173 (dk_at dksX0_draughtPart_6 0 rfl rfl)
abbrev cX0_partOf : ByteArray := prog_1_method_8_code
def yX0_partOf : MethodName := ⟨RX0, "partOf", "(JJI)J"⟩
def dkwX0_partOf_1 : List UInt8 := [22, 5, 109, 167, 0, 7, 32, 22, 5, 109, 173]
abbrev dktX0_partOf_1 : List UInt8 := dkwX0_partOf_1 ++ []
def dkwX0_partOf_0 : List UInt8 := [30, 9, 148, 154, 0, 7, 21, 4, 133, 173, 30, 32, 184, 0, 17, 55, 5, 21, 4, 154, 0, 10, 30]
abbrev dktX0_partOf_0 : List UInt8 := dkwX0_partOf_0 ++ dktX0_partOf_1
theorem dksX0_partOf_0 : cX0_partOf.data.toList.drop 0 = dktX0_partOf_0 := by decide +kernel
theorem dksX0_partOf_1 : cX0_partOf.data.toList.drop 23 = dktX0_partOf_1 := dk_seg dksX0_partOf_0 23 rfl rfl
theorem dX0_partOf_0 : decode cX0_partOf 0 = .ok (.lload_n 0, 1) := dk_30 (dk_at dksX0_partOf_0 0 rfl rfl)
theorem dX0_partOf_1 : decode cX0_partOf 1 = .ok (.lconst 0, 1) := dk_9 (dk_at dksX0_partOf_0 1 rfl rfl)
theorem dX0_partOf_2 : decode cX0_partOf 2 = .ok (.lcmp, 1) := dk_148 (dk_at dksX0_partOf_0 2 rfl rfl)
theorem dX0_partOf_3 : decode cX0_partOf 3 = .ok (.ifCond .ne 7, 3) := dk_154 0 7 (dk_at dksX0_partOf_0 3 rfl rfl)
theorem dX0_partOf_6 : decode cX0_partOf 6 = .ok (.iload 4, 2) := dk_21 4 (dk_at dksX0_partOf_0 6 rfl rfl)
theorem dX0_partOf_8 : decode cX0_partOf 8 = .ok (.i2l, 1) := dk_133 (dk_at dksX0_partOf_0 8 rfl rfl)
theorem dX0_partOf_9 : decode cX0_partOf 9 = .ok (.lreturn, 1) := dk_173 (dk_at dksX0_partOf_0 9 rfl rfl)
theorem dX0_partOf_10 : decode cX0_partOf 10 = .ok (.lload_n 0, 1) := dk_30 (dk_at dksX0_partOf_0 10 rfl rfl)
theorem dX0_partOf_11 : decode cX0_partOf 11 = .ok (.lload_n 2, 1) := dk_32 (dk_at dksX0_partOf_0 11 rfl rfl)
theorem dX0_partOf_12 : decode cX0_partOf 12 = .ok (.invokestatic 17, 3) := dk_184 0 17 (dk_at dksX0_partOf_0 12 rfl rfl)
theorem dX0_partOf_15 : decode cX0_partOf 15 = .ok (.lstore 5, 2) := dk_55 5 (dk_at dksX0_partOf_0 15 rfl rfl)
theorem dX0_partOf_17 : decode cX0_partOf 17 = .ok (.iload 4, 2) := dk_21 4 (dk_at dksX0_partOf_0 17 rfl rfl)
theorem dX0_partOf_19 : decode cX0_partOf 19 = .ok (.ifCond .ne 10, 3) := dk_154 0 10 (dk_at dksX0_partOf_0 19 rfl rfl)
theorem dX0_partOf_22 : decode cX0_partOf 22 = .ok (.lload_n 0, 1) := dk_30 (dk_at dksX0_partOf_0 22 rfl rfl)
theorem dX0_partOf_23 : decode cX0_partOf 23 = .ok (.lload 5, 2) := dk_22 5 (dk_at dksX0_partOf_1 0 rfl rfl)
theorem dX0_partOf_25 : decode cX0_partOf 25 = .ok (.ldiv, 1) := dk_109 (dk_at dksX0_partOf_1 2 rfl rfl)
theorem dX0_partOf_26 : decode cX0_partOf 26 = .ok (.goto 7, 3) := dk_167 0 7 (dk_at dksX0_partOf_1 3 rfl rfl)
theorem dX0_partOf_29 : decode cX0_partOf 29 = .ok (.lload_n 2, 1) := dk_32 (dk_at dksX0_partOf_1 6 rfl rfl)
theorem dX0_partOf_30 : decode cX0_partOf 30 = .ok (.lload 5, 2) := dk_22 5 (dk_at dksX0_partOf_1 7 rfl rfl)
theorem dX0_partOf_32 : decode cX0_partOf 32 = .ok (.ldiv, 1) := dk_109 (dk_at dksX0_partOf_1 9 rfl rfl)
theorem dX0_partOf_33 : decode cX0_partOf 33 = .ok (.lreturn, 1) := dk_173 (dk_at dksX0_partOf_1 10 rfl rfl)
abbrev cX0_divisor : ByteArray := prog_1_method_7_code
def yX0_divisor : MethodName := ⟨RX0, "divisor", "(JJ)J"⟩
def dkwX0_divisor_1 : List UInt8 := [22, 8, 55, 6, 167, 255, 234, 22, 4, 173]
abbrev dktX0_divisor_1 : List UInt8 := dkwX0_divisor_1 ++ []
def dkwX0_divisor_0 : List UInt8 := [30, 55, 4, 32, 55, 6, 22, 6, 9, 148, 153, 0, 21, 22, 4, 22, 6, 113, 55, 8, 22, 6, 55, 4]
abbrev dktX0_divisor_0 : List UInt8 := dkwX0_divisor_0 ++ dktX0_divisor_1
theorem dksX0_divisor_0 : cX0_divisor.data.toList.drop 0 = dktX0_divisor_0 := by decide +kernel
theorem dksX0_divisor_1 : cX0_divisor.data.toList.drop 24 = dktX0_divisor_1 := dk_seg dksX0_divisor_0 24 rfl rfl
theorem dX0_divisor_0 : decode cX0_divisor 0 = .ok (.lload_n 0, 1) := dk_30 (dk_at dksX0_divisor_0 0 rfl rfl)
theorem dX0_divisor_1 : decode cX0_divisor 1 = .ok (.lstore 4, 2) := dk_55 4 (dk_at dksX0_divisor_0 1 rfl rfl)
theorem dX0_divisor_3 : decode cX0_divisor 3 = .ok (.lload_n 2, 1) := dk_32 (dk_at dksX0_divisor_0 3 rfl rfl)
theorem dX0_divisor_4 : decode cX0_divisor 4 = .ok (.lstore 6, 2) := dk_55 6 (dk_at dksX0_divisor_0 4 rfl rfl)
theorem dX0_divisor_6 : decode cX0_divisor 6 = .ok (.lload 6, 2) := dk_22 6 (dk_at dksX0_divisor_0 6 rfl rfl)
theorem dX0_divisor_8 : decode cX0_divisor 8 = .ok (.lconst 0, 1) := dk_9 (dk_at dksX0_divisor_0 8 rfl rfl)
theorem dX0_divisor_9 : decode cX0_divisor 9 = .ok (.lcmp, 1) := dk_148 (dk_at dksX0_divisor_0 9 rfl rfl)
theorem dX0_divisor_10 : decode cX0_divisor 10 = .ok (.ifCond .eq 21, 3) := dk_153 0 21 (dk_at dksX0_divisor_0 10 rfl rfl)
theorem dX0_divisor_13 : decode cX0_divisor 13 = .ok (.lload 4, 2) := dk_22 4 (dk_at dksX0_divisor_0 13 rfl rfl)
theorem dX0_divisor_15 : decode cX0_divisor 15 = .ok (.lload 6, 2) := dk_22 6 (dk_at dksX0_divisor_0 15 rfl rfl)
theorem dX0_divisor_17 : decode cX0_divisor 17 = .ok (.lrem, 1) := dk_113 (dk_at dksX0_divisor_0 17 rfl rfl)
theorem dX0_divisor_18 : decode cX0_divisor 18 = .ok (.lstore 8, 2) := dk_55 8 (dk_at dksX0_divisor_0 18 rfl rfl)
theorem dX0_divisor_20 : decode cX0_divisor 20 = .ok (.lload 6, 2) := dk_22 6 (dk_at dksX0_divisor_0 20 rfl rfl)
theorem dX0_divisor_22 : decode cX0_divisor 22 = .ok (.lstore 4, 2) := dk_55 4 (dk_at dksX0_divisor_0 22 rfl rfl)
theorem dX0_divisor_24 : decode cX0_divisor 24 = .ok (.lload 8, 2) := dk_22 8 (dk_at dksX0_divisor_1 0 rfl rfl)
theorem dX0_divisor_26 : decode cX0_divisor 26 = .ok (.lstore 6, 2) := dk_55 6 (dk_at dksX0_divisor_1 2 rfl rfl)
theorem dX0_divisor_28 : decode cX0_divisor 28 = .ok (.goto (-22), 3) := dk_167 255 234 (dk_at dksX0_divisor_1 4 rfl rfl)
theorem dX0_divisor_31 : decode cX0_divisor 31 = .ok (.lload 4, 2) := dk_22 4 (dk_at dksX0_divisor_1 7 rfl rfl)
theorem dX0_divisor_33 : decode cX0_divisor 33 = .ok (.lreturn, 1) := dk_173 (dk_at dksX0_divisor_1 9 rfl rfl)
abbrev cX0_far : ByteArray := prog_1_method_40_code
def yX0_far : MethodName := ⟨RX0, "far", "(LPulledFromUnder$Refusal;)J"⟩
def dkwX0_far_0 : List UInt8 := [20, 0, 247, 42, 43, 182, 0, 241, 182, 0, 244, 133, 101, 173]
abbrev dktX0_far_0 : List UInt8 := dkwX0_far_0 ++ []
theorem dksX0_far_0 : cX0_far.data.toList.drop 0 = dktX0_far_0 := by decide +kernel
theorem dX0_far_0 : decode cX0_far 0 = .ok (.ldc2_w 247, 3) := dk_20 0 247 (dk_at dksX0_far_0 0 rfl rfl)
theorem dX0_far_3 : decode cX0_far 3 = .ok (.aload_n 0, 1) := dk_42 (dk_at dksX0_far_0 3 rfl rfl)
theorem dX0_far_4 : decode cX0_far 4 = .ok (.aload_n 1, 1) := dk_43 (dk_at dksX0_far_0 4 rfl rfl)
theorem dX0_far_5 : decode cX0_far 5 = .ok (.invokevirtual 241, 3) := dk_182 0 241 (dk_at dksX0_far_0 5 rfl rfl)
theorem dX0_far_8 : decode cX0_far 8 = .ok (.invokevirtual 244, 3) := dk_182 0 244 (dk_at dksX0_far_0 8 rfl rfl)
theorem dX0_far_11 : decode cX0_far 11 = .ok (.i2l, 1) := dk_133 (dk_at dksX0_far_0 11 rfl rfl)
theorem dX0_far_12 : decode cX0_far 12 = .ok (.lsub, 1) := dk_101 (dk_at dksX0_far_0 12 rfl rfl)
theorem dX0_far_13 : decode cX0_far 13 = .ok (.lreturn, 1) := dk_173 (dk_at dksX0_far_0 13 rfl rfl)
abbrev cX0_two : ByteArray := prog_1_method_97_code
def yX0_two : MethodName := ⟨RX0, "two", "(III)I"⟩
def dkwX0_two_0 : List UInt8 := [42, 16, 24, 27, 28, 29, 3, 3, 182, 1, 195, 172]
abbrev dktX0_two_0 : List UInt8 := dkwX0_two_0 ++ []
theorem dksX0_two_0 : cX0_two.data.toList.drop 0 = dktX0_two_0 := by decide +kernel
theorem dX0_two_0 : decode cX0_two 0 = .ok (.aload_n 0, 1) := dk_42 (dk_at dksX0_two_0 0 rfl rfl)
theorem dX0_two_1 : decode cX0_two 1 = .ok (.bipush 24, 2) := dk_16 24 (dk_at dksX0_two_0 1 rfl rfl)
theorem dX0_two_3 : decode cX0_two 3 = .ok (.iload_n 1, 1) := dk_27 (dk_at dksX0_two_0 3 rfl rfl)
theorem dX0_two_4 : decode cX0_two 4 = .ok (.iload_n 2, 1) := dk_28 (dk_at dksX0_two_0 4 rfl rfl)
theorem dX0_two_5 : decode cX0_two 5 = .ok (.iload_n 3, 1) := dk_29 (dk_at dksX0_two_0 5 rfl rfl)
theorem dX0_two_6 : decode cX0_two 6 = .ok (.iconst 0, 1) := dk_3 (dk_at dksX0_two_0 6 rfl rfl)
theorem dX0_two_7 : decode cX0_two 7 = .ok (.iconst 0, 1) := dk_3 (dk_at dksX0_two_0 7 rfl rfl)
theorem dX0_two_8 : decode cX0_two 8 = .ok (.invokevirtual 451, 3) := dk_182 1 195 (dk_at dksX0_two_0 8 rfl rfl)
theorem dX0_two_11 : decode cX0_two 11 = .ok (.ireturn, 1) := dk_172 (dk_at dksX0_two_0 11 rfl rfl)
abbrev cX0_whatWas : ByteArray := prog_1_method_98_code
def yX0_whatWas : MethodName := ⟨RX0, "whatWas", "(II)I"⟩
def dkwX0_whatWas_0 : List UInt8 := [42, 16, 25, 27, 28, 3, 3, 3, 182, 1, 195, 172]
abbrev dktX0_whatWas_0 : List UInt8 := dkwX0_whatWas_0 ++ []
theorem dksX0_whatWas_0 : cX0_whatWas.data.toList.drop 0 = dktX0_whatWas_0 := by decide +kernel
theorem dX0_whatWas_0 : decode cX0_whatWas 0 = .ok (.aload_n 0, 1) := dk_42 (dk_at dksX0_whatWas_0 0 rfl rfl)
theorem dX0_whatWas_1 : decode cX0_whatWas 1 = .ok (.bipush 25, 2) := dk_16 25 (dk_at dksX0_whatWas_0 1 rfl rfl)
theorem dX0_whatWas_3 : decode cX0_whatWas 3 = .ok (.iload_n 1, 1) := dk_27 (dk_at dksX0_whatWas_0 3 rfl rfl)
theorem dX0_whatWas_4 : decode cX0_whatWas 4 = .ok (.iload_n 2, 1) := dk_28 (dk_at dksX0_whatWas_0 4 rfl rfl)
theorem dX0_whatWas_5 : decode cX0_whatWas 5 = .ok (.iconst 0, 1) := dk_3 (dk_at dksX0_whatWas_0 5 rfl rfl)
theorem dX0_whatWas_6 : decode cX0_whatWas 6 = .ok (.iconst 0, 1) := dk_3 (dk_at dksX0_whatWas_0 6 rfl rfl)
theorem dX0_whatWas_7 : decode cX0_whatWas 7 = .ok (.iconst 0, 1) := dk_3 (dk_at dksX0_whatWas_0 7 rfl rfl)
theorem dX0_whatWas_8 : decode cX0_whatWas 8 = .ok (.invokevirtual 451, 3) := dk_182 1 195 (dk_at dksX0_whatWas_0 8 rfl rfl)
theorem dX0_whatWas_11 : decode cX0_whatWas 11 = .ok (.ireturn, 1) := dk_172 (dk_at dksX0_whatWas_0 11 rfl rfl)
abbrev cX0_row : ByteArray := prog_1_method_99_code
def yX0_row : MethodName := ⟨RX0, "row", "(I)I"⟩
def dkwX0_row_0 : List UInt8 := [42, 16, 26, 27, 3, 3, 3, 3, 182, 1, 195, 172]
abbrev dktX0_row_0 : List UInt8 := dkwX0_row_0 ++ []
theorem dksX0_row_0 : cX0_row.data.toList.drop 0 = dktX0_row_0 := by decide +kernel
theorem dX0_row_0 : decode cX0_row 0 = .ok (.aload_n 0, 1) := dk_42 (dk_at dksX0_row_0 0 rfl rfl)
theorem dX0_row_1 : decode cX0_row 1 = .ok (.bipush 26, 2) := dk_16 26 (dk_at dksX0_row_0 1 rfl rfl)
theorem dX0_row_3 : decode cX0_row 3 = .ok (.iload_n 1, 1) := dk_27 (dk_at dksX0_row_0 3 rfl rfl)
theorem dX0_row_4 : decode cX0_row 4 = .ok (.iconst 0, 1) := dk_3 (dk_at dksX0_row_0 4 rfl rfl)
theorem dX0_row_5 : decode cX0_row 5 = .ok (.iconst 0, 1) := dk_3 (dk_at dksX0_row_0 5 rfl rfl)
theorem dX0_row_6 : decode cX0_row 6 = .ok (.iconst 0, 1) := dk_3 (dk_at dksX0_row_0 6 rfl rfl)
theorem dX0_row_7 : decode cX0_row 7 = .ok (.iconst 0, 1) := dk_3 (dk_at dksX0_row_0 7 rfl rfl)
theorem dX0_row_8 : decode cX0_row 8 = .ok (.invokevirtual 451, 3) := dk_182 1 195 (dk_at dksX0_row_0 8 rfl rfl)
theorem dX0_row_11 : decode cX0_row 11 = .ok (.ireturn, 1) := dk_172 (dk_at dksX0_row_0 11 rfl rfl)
abbrev cX0_judge : ByteArray := prog_1_method_100_code
def yX0_judge : MethodName := ⟨RX0, "judge", "()I"⟩
def dkwX0_judge_0 : List UInt8 := [42, 16, 27, 3, 3, 3, 3, 3, 182, 1, 195, 172]
abbrev dktX0_judge_0 : List UInt8 := dkwX0_judge_0 ++ []
theorem dksX0_judge_0 : cX0_judge.data.toList.drop 0 = dktX0_judge_0 := by decide +kernel
theorem dX0_judge_0 : decode cX0_judge 0 = .ok (.aload_n 0, 1) := dk_42 (dk_at dksX0_judge_0 0 rfl rfl)
theorem dX0_judge_1 : decode cX0_judge 1 = .ok (.bipush 27, 2) := dk_16 27 (dk_at dksX0_judge_0 1 rfl rfl)
theorem dX0_judge_3 : decode cX0_judge 3 = .ok (.iconst 0, 1) := dk_3 (dk_at dksX0_judge_0 3 rfl rfl)
theorem dX0_judge_4 : decode cX0_judge 4 = .ok (.iconst 0, 1) := dk_3 (dk_at dksX0_judge_0 4 rfl rfl)
theorem dX0_judge_5 : decode cX0_judge 5 = .ok (.iconst 0, 1) := dk_3 (dk_at dksX0_judge_0 5 rfl rfl)
theorem dX0_judge_6 : decode cX0_judge 6 = .ok (.iconst 0, 1) := dk_3 (dk_at dksX0_judge_0 6 rfl rfl)
theorem dX0_judge_7 : decode cX0_judge 7 = .ok (.iconst 0, 1) := dk_3 (dk_at dksX0_judge_0 7 rfl rfl)
theorem dX0_judge_8 : decode cX0_judge 8 = .ok (.invokevirtual 451, 3) := dk_182 1 195 (dk_at dksX0_judge_0 8 rfl rfl)
theorem dX0_judge_11 : decode cX0_judge 11 = .ok (.ireturn, 1) := dk_172 (dk_at dksX0_judge_0 11 rfl rfl)
abbrev cX0_clear : ByteArray := prog_1_method_101_code
def yX0_clear : MethodName := ⟨RX0, "clear", "()I"⟩
def dkwX0_clear_0 : List UInt8 := [42, 16, 28, 3, 3, 3, 3, 3, 182, 1, 195, 172]
abbrev dktX0_clear_0 : List UInt8 := dkwX0_clear_0 ++ []
theorem dksX0_clear_0 : cX0_clear.data.toList.drop 0 = dktX0_clear_0 := by decide +kernel
theorem dX0_clear_0 : decode cX0_clear 0 = .ok (.aload_n 0, 1) := dk_42 (dk_at dksX0_clear_0 0 rfl rfl)
theorem dX0_clear_1 : decode cX0_clear 1 = .ok (.bipush 28, 2) := dk_16 28 (dk_at dksX0_clear_0 1 rfl rfl)
theorem dX0_clear_3 : decode cX0_clear 3 = .ok (.iconst 0, 1) := dk_3 (dk_at dksX0_clear_0 3 rfl rfl)
theorem dX0_clear_4 : decode cX0_clear 4 = .ok (.iconst 0, 1) := dk_3 (dk_at dksX0_clear_0 4 rfl rfl)
theorem dX0_clear_5 : decode cX0_clear 5 = .ok (.iconst 0, 1) := dk_3 (dk_at dksX0_clear_0 5 rfl rfl)
theorem dX0_clear_6 : decode cX0_clear 6 = .ok (.iconst 0, 1) := dk_3 (dk_at dksX0_clear_0 6 rfl rfl)
theorem dX0_clear_7 : decode cX0_clear 7 = .ok (.iconst 0, 1) := dk_3 (dk_at dksX0_clear_0 7 rfl rfl)
theorem dX0_clear_8 : decode cX0_clear 8 = .ok (.invokevirtual 451, 3) := dk_182 1 195 (dk_at dksX0_clear_0 8 rfl rfl)
theorem dX0_clear_11 : decode cX0_clear 11 = .ok (.ireturn, 1) := dk_172 (dk_at dksX0_clear_0 11 rfl rfl)
abbrev cX0_lots : ByteArray := prog_1_method_102_code
def yX0_lots : MethodName := ⟨RX0, "lots", "(III)I"⟩
def dkwX0_lots_0 : List UInt8 := [42, 16, 29, 27, 28, 29, 3, 3, 182, 1, 195, 172]
abbrev dktX0_lots_0 : List UInt8 := dkwX0_lots_0 ++ []
theorem dksX0_lots_0 : cX0_lots.data.toList.drop 0 = dktX0_lots_0 := by decide +kernel
theorem dX0_lots_0 : decode cX0_lots 0 = .ok (.aload_n 0, 1) := dk_42 (dk_at dksX0_lots_0 0 rfl rfl)
theorem dX0_lots_1 : decode cX0_lots 1 = .ok (.bipush 29, 2) := dk_16 29 (dk_at dksX0_lots_0 1 rfl rfl)
theorem dX0_lots_3 : decode cX0_lots 3 = .ok (.iload_n 1, 1) := dk_27 (dk_at dksX0_lots_0 3 rfl rfl)
theorem dX0_lots_4 : decode cX0_lots 4 = .ok (.iload_n 2, 1) := dk_28 (dk_at dksX0_lots_0 4 rfl rfl)
theorem dX0_lots_5 : decode cX0_lots 5 = .ok (.iload_n 3, 1) := dk_29 (dk_at dksX0_lots_0 5 rfl rfl)
theorem dX0_lots_6 : decode cX0_lots 6 = .ok (.iconst 0, 1) := dk_3 (dk_at dksX0_lots_0 6 rfl rfl)
theorem dX0_lots_7 : decode cX0_lots 7 = .ok (.iconst 0, 1) := dk_3 (dk_at dksX0_lots_0 7 rfl rfl)
theorem dX0_lots_8 : decode cX0_lots 8 = .ok (.invokevirtual 451, 3) := dk_182 1 195 (dk_at dksX0_lots_0 8 rfl rfl)
theorem dX0_lots_11 : decode cX0_lots 11 = .ok (.ireturn, 1) := dk_172 (dk_at dksX0_lots_0 11 rfl rfl)
abbrev cX0_image : ByteArray := prog_1_method_103_code
def yX0_image : MethodName := ⟨RX0, "image", "()I"⟩
def dkwX0_image_0 : List UInt8 := [42, 16, 30, 3, 3, 3, 3, 3, 182, 1, 195, 172]
abbrev dktX0_image_0 : List UInt8 := dkwX0_image_0 ++ []
theorem dksX0_image_0 : cX0_image.data.toList.drop 0 = dktX0_image_0 := by decide +kernel
theorem dX0_image_0 : decode cX0_image 0 = .ok (.aload_n 0, 1) := dk_42 (dk_at dksX0_image_0 0 rfl rfl)
theorem dX0_image_1 : decode cX0_image 1 = .ok (.bipush 30, 2) := dk_16 30 (dk_at dksX0_image_0 1 rfl rfl)
theorem dX0_image_3 : decode cX0_image 3 = .ok (.iconst 0, 1) := dk_3 (dk_at dksX0_image_0 3 rfl rfl)
theorem dX0_image_4 : decode cX0_image 4 = .ok (.iconst 0, 1) := dk_3 (dk_at dksX0_image_0 4 rfl rfl)
theorem dX0_image_5 : decode cX0_image 5 = .ok (.iconst 0, 1) := dk_3 (dk_at dksX0_image_0 5 rfl rfl)
theorem dX0_image_6 : decode cX0_image 6 = .ok (.iconst 0, 1) := dk_3 (dk_at dksX0_image_0 6 rfl rfl)
theorem dX0_image_7 : decode cX0_image 7 = .ok (.iconst 0, 1) := dk_3 (dk_at dksX0_image_0 7 rfl rfl)
theorem dX0_image_8 : decode cX0_image 8 = .ok (.invokevirtual 451, 3) := dk_182 1 195 (dk_at dksX0_image_0 8 rfl rfl)
theorem dX0_image_11 : decode cX0_image 11 = .ok (.ireturn, 1) := dk_172 (dk_at dksX0_image_0 11 rfl rfl)
abbrev cX0_on : ByteArray := prog_1_method_104_code
def yX0_on : MethodName := ⟨RX0, "on", "()I"⟩
def dkwX0_on_0 : List UInt8 := [42, 16, 31, 3, 3, 3, 3, 3, 182, 1, 195, 172]
abbrev dktX0_on_0 : List UInt8 := dkwX0_on_0 ++ []
theorem dksX0_on_0 : cX0_on.data.toList.drop 0 = dktX0_on_0 := by decide +kernel
theorem dX0_on_0 : decode cX0_on 0 = .ok (.aload_n 0, 1) := dk_42 (dk_at dksX0_on_0 0 rfl rfl)
theorem dX0_on_1 : decode cX0_on 1 = .ok (.bipush 31, 2) := dk_16 31 (dk_at dksX0_on_0 1 rfl rfl)
theorem dX0_on_3 : decode cX0_on 3 = .ok (.iconst 0, 1) := dk_3 (dk_at dksX0_on_0 3 rfl rfl)
theorem dX0_on_4 : decode cX0_on 4 = .ok (.iconst 0, 1) := dk_3 (dk_at dksX0_on_0 4 rfl rfl)
theorem dX0_on_5 : decode cX0_on 5 = .ok (.iconst 0, 1) := dk_3 (dk_at dksX0_on_0 5 rfl rfl)
theorem dX0_on_6 : decode cX0_on 6 = .ok (.iconst 0, 1) := dk_3 (dk_at dksX0_on_0 6 rfl rfl)
theorem dX0_on_7 : decode cX0_on 7 = .ok (.iconst 0, 1) := dk_3 (dk_at dksX0_on_0 7 rfl rfl)
theorem dX0_on_8 : decode cX0_on 8 = .ok (.invokevirtual 451, 3) := dk_182 1 195 (dk_at dksX0_on_0 8 rfl rfl)
theorem dX0_on_11 : decode cX0_on 11 = .ok (.ireturn, 1) := dk_172 (dk_at dksX0_on_0 11 rfl rfl)
abbrev cX0_count : ByteArray := prog_1_method_105_code
def yX0_count : MethodName := ⟨RX0, "count", "(I)I"⟩
def dkwX0_count_6 : List UInt8 := [16, 247, 172]
abbrev dktX0_count_6 : List UInt8 := dkwX0_count_6 ++ []
def dkwX0_count_5 : List UInt8 := [20, 1, 201, 20, 1, 203, 184, 0, 13, 153, 0, 15, 42, 180, 0, 71, 27, 16, 10, 100, 46, 167, 0, 5]
abbrev dktX0_count_5 : List UInt8 := dkwX0_count_5 ++ dktX0_count_6
def dkwX0_count_4 : List UInt8 := [180, 1, 32, 153, 0, 7, 4, 167, 0, 4, 3, 172, 42, 180, 0, 216, 172, 42, 180, 0, 86, 172, 27, 133]
abbrev dktX0_count_4 : List UInt8 := dkwX0_count_4 ++ dktX0_count_5
def dkwX0_count_3 : List UInt8 := [172, 42, 180, 0, 53, 4, 182, 0, 130, 172, 42, 180, 0, 53, 5, 182, 0, 130, 172, 42, 180, 0, 53]
abbrev dktX0_count_3 : List UInt8 := dkwX0_count_3 ++ dktX0_count_4
def dkwX0_count_2 : List UInt8 := [42, 180, 0, 53, 180, 0, 134, 172, 42, 180, 0, 53, 180, 1, 43, 172, 42, 180, 0, 53, 3, 182, 0, 130]
abbrev dktX0_count_2 : List UInt8 := dkwX0_count_2 ++ dktX0_count_3
def dkwX0_count_1 : List UInt8 := [170, 0, 0, 0, 0, 0, 116, 0, 0, 0, 0, 0, 0, 0, 7, 0, 0, 0, 47, 0, 0, 0, 55, 0, 0, 0, 63, 0, 0, 0, 72, 0, 0, 0, 81, 0, 0, 0, 90, 0, 0, 0, 106, 0, 0, 0, 111]
abbrev dktX0_count_1 : List UInt8 := dkwX0_count_1 ++ dktX0_count_2
def dkwX0_count_0 : List UInt8 := [27]
abbrev dktX0_count_0 : List UInt8 := dkwX0_count_0 ++ dktX0_count_1
theorem dksX0_count_0 : cX0_count.data.toList.drop 0 = dktX0_count_0 := by decide +kernel
theorem dksX0_count_1 : cX0_count.data.toList.drop 1 = dktX0_count_1 := dk_seg dksX0_count_0 1 rfl rfl
theorem dksX0_count_2 : cX0_count.data.toList.drop 48 = dktX0_count_2 := dk_seg dksX0_count_1 47 rfl rfl
theorem dksX0_count_3 : cX0_count.data.toList.drop 72 = dktX0_count_3 := dk_seg dksX0_count_2 24 rfl rfl
theorem dksX0_count_4 : cX0_count.data.toList.drop 95 = dktX0_count_4 := dk_seg dksX0_count_3 23 rfl rfl
theorem dksX0_count_5 : cX0_count.data.toList.drop 119 = dktX0_count_5 := dk_seg dksX0_count_4 24 rfl rfl
theorem dksX0_count_6 : cX0_count.data.toList.drop 143 = dktX0_count_6 := dk_seg dksX0_count_5 24 rfl rfl
theorem dX0_count_0 : decode cX0_count 0 = .ok (.iload_n 1, 1) := dk_27 (dk_at dksX0_count_0 0 rfl rfl)
theorem dX0_count_1 : decode cX0_count 1 = .ok (.tableswitch 116 0 7 #[47, 55, 63, 72, 81, 90, 106, 111], 47) := by decide +kernel
theorem dX0_count_48 : decode cX0_count 48 = .ok (.aload_n 0, 1) := dk_42 (dk_at dksX0_count_2 0 rfl rfl)
theorem dX0_count_49 : decode cX0_count 49 = .ok (.getfield 53, 3) := dk_180 0 53 (dk_at dksX0_count_2 1 rfl rfl)
theorem dX0_count_52 : decode cX0_count 52 = .ok (.getfield 134, 3) := dk_180 0 134 (dk_at dksX0_count_2 4 rfl rfl)
theorem dX0_count_55 : decode cX0_count 55 = .ok (.ireturn, 1) := dk_172 (dk_at dksX0_count_2 7 rfl rfl)
theorem dX0_count_56 : decode cX0_count 56 = .ok (.aload_n 0, 1) := dk_42 (dk_at dksX0_count_2 8 rfl rfl)
theorem dX0_count_57 : decode cX0_count 57 = .ok (.getfield 53, 3) := dk_180 0 53 (dk_at dksX0_count_2 9 rfl rfl)
theorem dX0_count_60 : decode cX0_count 60 = .ok (.getfield 299, 3) := dk_180 1 43 (dk_at dksX0_count_2 12 rfl rfl)
theorem dX0_count_63 : decode cX0_count 63 = .ok (.ireturn, 1) := dk_172 (dk_at dksX0_count_2 15 rfl rfl)
theorem dX0_count_64 : decode cX0_count 64 = .ok (.aload_n 0, 1) := dk_42 (dk_at dksX0_count_2 16 rfl rfl)
theorem dX0_count_65 : decode cX0_count 65 = .ok (.getfield 53, 3) := dk_180 0 53 (dk_at dksX0_count_2 17 rfl rfl)
theorem dX0_count_68 : decode cX0_count 68 = .ok (.iconst 0, 1) := dk_3 (dk_at dksX0_count_2 20 rfl rfl)
theorem dX0_count_69 : decode cX0_count 69 = .ok (.invokevirtual 130, 3) := dk_182 0 130 (dk_at dksX0_count_2 21 rfl rfl)
theorem dX0_count_72 : decode cX0_count 72 = .ok (.ireturn, 1) := dk_172 (dk_at dksX0_count_3 0 rfl rfl)
theorem dX0_count_73 : decode cX0_count 73 = .ok (.aload_n 0, 1) := dk_42 (dk_at dksX0_count_3 1 rfl rfl)
theorem dX0_count_74 : decode cX0_count 74 = .ok (.getfield 53, 3) := dk_180 0 53 (dk_at dksX0_count_3 2 rfl rfl)
theorem dX0_count_77 : decode cX0_count 77 = .ok (.iconst 1, 1) := dk_4 (dk_at dksX0_count_3 5 rfl rfl)
theorem dX0_count_78 : decode cX0_count 78 = .ok (.invokevirtual 130, 3) := dk_182 0 130 (dk_at dksX0_count_3 6 rfl rfl)
theorem dX0_count_81 : decode cX0_count 81 = .ok (.ireturn, 1) := dk_172 (dk_at dksX0_count_3 9 rfl rfl)
theorem dX0_count_82 : decode cX0_count 82 = .ok (.aload_n 0, 1) := dk_42 (dk_at dksX0_count_3 10 rfl rfl)
theorem dX0_count_83 : decode cX0_count 83 = .ok (.getfield 53, 3) := dk_180 0 53 (dk_at dksX0_count_3 11 rfl rfl)
theorem dX0_count_86 : decode cX0_count 86 = .ok (.iconst 2, 1) := dk_5 (dk_at dksX0_count_3 14 rfl rfl)
theorem dX0_count_87 : decode cX0_count 87 = .ok (.invokevirtual 130, 3) := dk_182 0 130 (dk_at dksX0_count_3 15 rfl rfl)
theorem dX0_count_90 : decode cX0_count 90 = .ok (.ireturn, 1) := dk_172 (dk_at dksX0_count_3 18 rfl rfl)
theorem dX0_count_91 : decode cX0_count 91 = .ok (.aload_n 0, 1) := dk_42 (dk_at dksX0_count_3 19 rfl rfl)
theorem dX0_count_92 : decode cX0_count 92 = .ok (.getfield 53, 3) := dk_180 0 53 (dk_at dksX0_count_3 20 rfl rfl)
theorem dX0_count_95 : decode cX0_count 95 = .ok (.getfield 288, 3) := dk_180 1 32 (dk_at dksX0_count_4 0 rfl rfl)
theorem dX0_count_98 : decode cX0_count 98 = .ok (.ifCond .eq 7, 3) := dk_153 0 7 (dk_at dksX0_count_4 3 rfl rfl)
theorem dX0_count_101 : decode cX0_count 101 = .ok (.iconst 1, 1) := dk_4 (dk_at dksX0_count_4 6 rfl rfl)
theorem dX0_count_102 : decode cX0_count 102 = .ok (.goto 4, 3) := dk_167 0 4 (dk_at dksX0_count_4 7 rfl rfl)
theorem dX0_count_105 : decode cX0_count 105 = .ok (.iconst 0, 1) := dk_3 (dk_at dksX0_count_4 10 rfl rfl)
theorem dX0_count_106 : decode cX0_count 106 = .ok (.ireturn, 1) := dk_172 (dk_at dksX0_count_4 11 rfl rfl)
theorem dX0_count_107 : decode cX0_count 107 = .ok (.aload_n 0, 1) := dk_42 (dk_at dksX0_count_4 12 rfl rfl)
theorem dX0_count_108 : decode cX0_count 108 = .ok (.getfield 216, 3) := dk_180 0 216 (dk_at dksX0_count_4 13 rfl rfl)
theorem dX0_count_111 : decode cX0_count 111 = .ok (.ireturn, 1) := dk_172 (dk_at dksX0_count_4 16 rfl rfl)
theorem dX0_count_112 : decode cX0_count 112 = .ok (.aload_n 0, 1) := dk_42 (dk_at dksX0_count_4 17 rfl rfl)
theorem dX0_count_113 : decode cX0_count 113 = .ok (.getfield 86, 3) := dk_180 0 86 (dk_at dksX0_count_4 18 rfl rfl)
theorem dX0_count_116 : decode cX0_count 116 = .ok (.ireturn, 1) := dk_172 (dk_at dksX0_count_4 21 rfl rfl)
theorem dX0_count_117 : decode cX0_count 117 = .ok (.iload_n 1, 1) := dk_27 (dk_at dksX0_count_4 22 rfl rfl)
theorem dX0_count_118 : decode cX0_count 118 = .ok (.i2l, 1) := dk_133 (dk_at dksX0_count_4 23 rfl rfl)
theorem dX0_count_119 : decode cX0_count 119 = .ok (.ldc2_w 457, 3) := dk_20 1 201 (dk_at dksX0_count_5 0 rfl rfl)
theorem dX0_count_122 : decode cX0_count 122 = .ok (.ldc2_w 459, 3) := dk_20 1 203 (dk_at dksX0_count_5 3 rfl rfl)
theorem dX0_count_125 : decode cX0_count 125 = .ok (.invokestatic 13, 3) := dk_184 0 13 (dk_at dksX0_count_5 6 rfl rfl)
theorem dX0_count_128 : decode cX0_count 128 = .ok (.ifCond .eq 15, 3) := dk_153 0 15 (dk_at dksX0_count_5 9 rfl rfl)
theorem dX0_count_131 : decode cX0_count 131 = .ok (.aload_n 0, 1) := dk_42 (dk_at dksX0_count_5 12 rfl rfl)
theorem dX0_count_132 : decode cX0_count 132 = .ok (.getfield 71, 3) := dk_180 0 71 (dk_at dksX0_count_5 13 rfl rfl)
theorem dX0_count_135 : decode cX0_count 135 = .ok (.iload_n 1, 1) := dk_27 (dk_at dksX0_count_5 16 rfl rfl)
theorem dX0_count_136 : decode cX0_count 136 = .ok (.bipush 10, 2) := dk_16 10 (dk_at dksX0_count_5 17 rfl rfl)
theorem dX0_count_138 : decode cX0_count 138 = .ok (.isub, 1) := dk_100 (dk_at dksX0_count_5 19 rfl rfl)
theorem dX0_count_139 : decode cX0_count 139 = .ok (.iaload, 1) := dk_46 (dk_at dksX0_count_5 20 rfl rfl)
theorem dX0_count_140 : decode cX0_count 140 = .ok (.goto 5, 3) := dk_167 0 5 (dk_at dksX0_count_5 21 rfl rfl)
theorem dX0_count_143 : decode cX0_count 143 = .ok (.bipush (-9), 2) := dk_16 247 (dk_at dksX0_count_6 0 rfl rfl)
theorem dX0_count_145 : decode cX0_count 145 = .ok (.ireturn, 1) := dk_172 (dk_at dksX0_count_6 2 rfl rfl)
theorem q86 : (Jvm.Cond.initialized "PulledFromUnder") ∈ lw_all := lw_g (lw_at lw_m1 1 rfl) rfl
theorem q113 : (Jvm.Cond.instantiable "PulledFromUnder" (13 : Nat)) ∈ lw_all := lw_g (lw_at lw_m1 28 rfl) rfl
theorem q115 : (Jvm.Cond.instanceMethod ({ cls := "PulledFromUnder", name := "<init>", desc := "()V" } : Jvm.MethodName)) ∈ lw_all := lw_g (lw_at lw_m1 30 rfl) rfl
theorem q116 : (Jvm.Cond.code ({ cls := "PulledFromUnder", name := "<init>", desc := "()V" } : Jvm.MethodName) prog_1_method_9_code (1 : Nat) (Option.none : Option Jvm.ClassFile.FieldType)) ∈ lw_all := lw_g (lw_at lw_m1 31 rfl) rfl
theorem q117 : (Jvm.Cond.methodLink "PulledFromUnder" (21 : Nat) ({ cls := "java/lang/Object", name := "<init>", desc := "()V" } : Jvm.MethodName)) ∈ lw_all := lw_g (lw_at lw_m1 32 rfl) rfl
theorem q120 : (Jvm.Cond.classLink "PulledFromUnder" (26 : Nat) "PulledFromUnder$Kind") ∈ lw_all := lw_g (lw_at lw_m1 35 rfl) rfl
theorem q122 : (Jvm.Cond.classLink "PulledFromUnder" (28 : Nat) "PulledFromUnder$Thing") ∈ lw_all := lw_g (lw_at lw_m1 37 rfl) rfl
theorem q124 : (Jvm.Cond.methodLinkNest "PulledFromUnder" (30 : Nat) ({ cls := "PulledFromUnder$Thing", name := "<init>", desc := "()V" } : Jvm.MethodName) "PulledFromUnder") ∈ lw_tbl := lw_at lw_m1 39 rfl
theorem q132 : (Jvm.Cond.classLink "PulledFromUnder" (31 : Nat) "PulledFromUnder$Glass") ∈ lw_all := lw_g (lw_at lw_m1 47 rfl) rfl
theorem q134 : (Jvm.Cond.methodLinkNest "PulledFromUnder" (33 : Nat) ({ cls := "PulledFromUnder$Glass", name := "<init>", desc := "()V" } : Jvm.MethodName) "PulledFromUnder") ∈ lw_tbl := lw_at lw_m1 49 rfl
theorem q139 : (Jvm.Cond.classLink "PulledFromUnder" (34 : Nat) "PulledFromUnder$Person") ∈ lw_all := lw_g (lw_at lw_m1 54 rfl) rfl
theorem q141 : (Jvm.Cond.methodLinkNest "PulledFromUnder" (36 : Nat) ({ cls := "PulledFromUnder$Person", name := "<init>", desc := "()V" } : Jvm.MethodName) "PulledFromUnder") ∈ lw_tbl := lw_at lw_m1 56 rfl
theorem q146 : (Jvm.Cond.classLink "PulledFromUnder" (37 : Nat) "PulledFromUnder$Council") ∈ lw_all := lw_g (lw_at lw_m1 61 rfl) rfl
theorem q148 : (Jvm.Cond.methodLinkNest "PulledFromUnder" (39 : Nat) ({ cls := "PulledFromUnder$Council", name := "<init>", desc := "()V" } : Jvm.MethodName) "PulledFromUnder") ∈ lw_tbl := lw_at lw_m1 63 rfl
theorem q153 : (Jvm.Cond.classLink "PulledFromUnder" (40 : Nat) "PulledFromUnder$Watcher") ∈ lw_all := lw_g (lw_at lw_m1 68 rfl) rfl
theorem q155 : (Jvm.Cond.methodLinkNest "PulledFromUnder" (42 : Nat) ({ cls := "PulledFromUnder$Watcher", name := "<init>", desc := "()V" } : Jvm.MethodName) "PulledFromUnder") ∈ lw_tbl := lw_at lw_m1 70 rfl
theorem q160 : (Jvm.Cond.classLink "PulledFromUnder" (43 : Nat) "PulledFromUnder$Bride") ∈ lw_all := lw_g (lw_at lw_m1 75 rfl) rfl
theorem q162 : (Jvm.Cond.methodLinkNest "PulledFromUnder" (45 : Nat) ({ cls := "PulledFromUnder$Bride", name := "<init>", desc := "()V" } : Jvm.MethodName) "PulledFromUnder") ∈ lw_tbl := lw_at lw_m1 77 rfl
theorem q167 : (Jvm.Cond.classLink "PulledFromUnder" (50 : Nat) "PulledFromUnder$Room") ∈ lw_all := lw_g (lw_at lw_m1 82 rfl) rfl
theorem q169 : (Jvm.Cond.methodLinkNest "PulledFromUnder" (52 : Nat) ({ cls := "PulledFromUnder$Room", name := "<init>", desc := "()V" } : Jvm.MethodName) "PulledFromUnder") ∈ lw_tbl := lw_at lw_m1 84 rfl
theorem q179 : (Jvm.Cond.fieldLinkNest "PulledFromUnder" (134 : Nat) "PulledFromUnder$Room" "things" "I" "PulledFromUnder") ∈ lw_tbl := lw_at lw_m1 94 rfl
theorem q181 : (Jvm.Cond.fieldLinkNest "PulledFromUnder" (186 : Nat) "PulledFromUnder$Room" "kind" "[LPulledFromUnder$Kind;" "PulledFromUnder") ∈ lw_tbl := lw_at lw_m1 96 rfl
theorem q183 : (Jvm.Cond.fieldLinkNest "PulledFromUnder" (210 : Nat) "PulledFromUnder$Room" "figures" "[I" "PulledFromUnder") ∈ lw_tbl := lw_at lw_m1 98 rfl
theorem q185 : (Jvm.Cond.fieldLinkNest "PulledFromUnder" (270 : Nat) "PulledFromUnder$Room" "on" "[I" "PulledFromUnder") ∈ lw_tbl := lw_at lw_m1 100 rfl
theorem q188 : (Jvm.Cond.fieldLinkNest "PulledFromUnder" (124 : Nat) "PulledFromUnder$Room" "state" "[I" "PulledFromUnder") ∈ lw_tbl := lw_at lw_m1 103 rfl
theorem q190 : (Jvm.Cond.fieldLinkNest "PulledFromUnder" (273 : Nat) "PulledFromUnder$Room" "air" "[I" "PulledFromUnder") ∈ lw_tbl := lw_at lw_m1 105 rfl
theorem q194 : (Jvm.Cond.fieldLinkNest "PulledFromUnder" (288 : Nat) "PulledFromUnder$Room" "isFloor" "Z" "PulledFromUnder") ∈ lw_tbl := lw_at lw_m1 109 rfl
theorem q197 : (Jvm.Cond.fieldLinkNest "PulledFromUnder" (299 : Nat) "PulledFromUnder$Room" "minute" "I" "PulledFromUnder") ∈ lw_tbl := lw_at lw_m1 112 rfl
theorem q199 : (Jvm.Cond.fieldLinkNest "PulledFromUnder" (174 : Nat) "PulledFromUnder$Room" "props" "I" "PulledFromUnder") ∈ lw_tbl := lw_at lw_m1 114 rfl
theorem q221 : (Jvm.Cond.fieldLink "PulledFromUnder" (46 : Nat) "PulledFromUnder" "kinds" "[LPulledFromUnder$Kind;") ∈ lw_all := lw_g (lw_at lw_m1 136 rfl) rfl
theorem q222 : (Jvm.Cond.fieldLink "PulledFromUnder" (53 : Nat) "PulledFromUnder" "room0" "LPulledFromUnder$Room;") ∈ lw_all := lw_g (lw_at lw_m1 137 rfl) rfl
theorem q223 : (Jvm.Cond.fieldLink "PulledFromUnder" (57 : Nat) "PulledFromUnder" "mind" "LPulledFromUnder$Room;") ∈ lw_all := lw_g (lw_at lw_m1 138 rfl) rfl
theorem q224 : (Jvm.Cond.fieldLink "PulledFromUnder" (60 : Nat) "PulledFromUnder" "imaged" "LPulledFromUnder$Room;") ∈ lw_all := lw_g (lw_at lw_m1 139 rfl) rfl
theorem q225 : (Jvm.Cond.fieldLink "PulledFromUnder" (440 : Nat) "PulledFromUnder" "hasImage" "Z") ∈ lw_all := lw_g (lw_at lw_m1 140 rfl) rfl
theorem q226 : (Jvm.Cond.fieldLink "PulledFromUnder" (63 : Nat) "PulledFromUnder" "row" "[B") ∈ lw_all := lw_g (lw_at lw_m1 141 rfl) rfl
theorem q227 : (Jvm.Cond.fieldLink "PulledFromUnder" (216 : Nat) "PulledFromUnder" "rowMany" "I") ∈ lw_all := lw_g (lw_at lw_m1 142 rfl) rfl
theorem q229 : (Jvm.Cond.fieldLink "PulledFromUnder" (67 : Nat) "PulledFromUnder" "letters" "[C") ∈ lw_all := lw_g (lw_at lw_m1 144 rfl) rfl
theorem q231 : (Jvm.Cond.fieldLink "PulledFromUnder" (86 : Nat) "PulledFromUnder" "letterMany" "I") ∈ lw_all := lw_g (lw_at lw_m1 146 rfl) rfl
theorem q232 : (Jvm.Cond.fieldLink "PulledFromUnder" (71 : Nat) "PulledFromUnder" "refused" "[I") ∈ lw_all := lw_g (lw_at lw_m1 147 rfl) rfl
theorem q233 : (Jvm.Cond.fieldLink "PulledFromUnder" (75 : Nat) "PulledFromUnder" "three" "[I") ∈ lw_all := lw_g (lw_at lw_m1 148 rfl) rfl
theorem q234 : (Jvm.Cond.fieldLink "PulledFromUnder" (78 : Nat) "PulledFromUnder" "standBy" "[I") ∈ lw_all := lw_g (lw_at lw_m1 149 rfl) rfl
theorem q235 : (Jvm.Cond.fieldLink "PulledFromUnder" (219 : Nat) "PulledFromUnder" "drawn" "I") ∈ lw_all := lw_g (lw_at lw_m1 150 rfl) rfl
theorem q236 : (Jvm.Cond.laysFinal "PulledFromUnder" "PulledFromUnder" "kinds" "[LPulledFromUnder$Kind;") ∈ lw_all := lw_g (lw_at lw_m1 151 rfl) rfl
theorem q237 : (Jvm.Cond.soleField "PulledFromUnder" "kinds") ∈ lw_all := lw_g (lw_at lw_m1 152 rfl) rfl
theorem q238 : (Jvm.Cond.laysFinal "PulledFromUnder" "PulledFromUnder" "room0" "LPulledFromUnder$Room;") ∈ lw_all := lw_g (lw_at lw_m1 153 rfl) rfl
theorem q239 : (Jvm.Cond.soleField "PulledFromUnder" "room0") ∈ lw_all := lw_g (lw_at lw_m1 154 rfl) rfl
theorem q240 : (Jvm.Cond.laysFinal "PulledFromUnder" "PulledFromUnder" "mind" "LPulledFromUnder$Room;") ∈ lw_all := lw_g (lw_at lw_m1 155 rfl) rfl
theorem q241 : (Jvm.Cond.soleField "PulledFromUnder" "mind") ∈ lw_all := lw_g (lw_at lw_m1 156 rfl) rfl
theorem q242 : (Jvm.Cond.laysFinal "PulledFromUnder" "PulledFromUnder" "imaged" "LPulledFromUnder$Room;") ∈ lw_all := lw_g (lw_at lw_m1 157 rfl) rfl
theorem q243 : (Jvm.Cond.soleField "PulledFromUnder" "imaged") ∈ lw_all := lw_g (lw_at lw_m1 158 rfl) rfl
theorem q244 : (Jvm.Cond.lays "PulledFromUnder" "PulledFromUnder" "hasImage" "Z") ∈ lw_all := lw_g (lw_at lw_m1 159 rfl) rfl
theorem q245 : (Jvm.Cond.soleField "PulledFromUnder" "hasImage") ∈ lw_all := lw_g (lw_at lw_m1 160 rfl) rfl
theorem q246 : (Jvm.Cond.laysFinal "PulledFromUnder" "PulledFromUnder" "row" "[B") ∈ lw_all := lw_g (lw_at lw_m1 161 rfl) rfl
theorem q247 : (Jvm.Cond.soleField "PulledFromUnder" "row") ∈ lw_all := lw_g (lw_at lw_m1 162 rfl) rfl
theorem q248 : (Jvm.Cond.lays "PulledFromUnder" "PulledFromUnder" "rowMany" "I") ∈ lw_all := lw_g (lw_at lw_m1 163 rfl) rfl
theorem q249 : (Jvm.Cond.soleField "PulledFromUnder" "rowMany") ∈ lw_all := lw_g (lw_at lw_m1 164 rfl) rfl
theorem q250 : (Jvm.Cond.laysFinal "PulledFromUnder" "PulledFromUnder" "letters" "[C") ∈ lw_all := lw_g (lw_at lw_m1 165 rfl) rfl
theorem q251 : (Jvm.Cond.soleField "PulledFromUnder" "letters") ∈ lw_all := lw_g (lw_at lw_m1 166 rfl) rfl
theorem q252 : (Jvm.Cond.lays "PulledFromUnder" "PulledFromUnder" "letterMany" "I") ∈ lw_all := lw_g (lw_at lw_m1 167 rfl) rfl
theorem q253 : (Jvm.Cond.soleField "PulledFromUnder" "letterMany") ∈ lw_all := lw_g (lw_at lw_m1 168 rfl) rfl
theorem q254 : (Jvm.Cond.laysFinal "PulledFromUnder" "PulledFromUnder" "refused" "[I") ∈ lw_all := lw_g (lw_at lw_m1 169 rfl) rfl
theorem q255 : (Jvm.Cond.soleField "PulledFromUnder" "refused") ∈ lw_all := lw_g (lw_at lw_m1 170 rfl) rfl
theorem q256 : (Jvm.Cond.laysFinal "PulledFromUnder" "PulledFromUnder" "three" "[I") ∈ lw_all := lw_g (lw_at lw_m1 171 rfl) rfl
theorem q257 : (Jvm.Cond.soleField "PulledFromUnder" "three") ∈ lw_all := lw_g (lw_at lw_m1 172 rfl) rfl
theorem q258 : (Jvm.Cond.laysFinal "PulledFromUnder" "PulledFromUnder" "standBy" "[I") ∈ lw_all := lw_g (lw_at lw_m1 173 rfl) rfl
theorem q259 : (Jvm.Cond.soleField "PulledFromUnder" "standBy") ∈ lw_all := lw_g (lw_at lw_m1 174 rfl) rfl
theorem q260 : (Jvm.Cond.lays "PulledFromUnder" "PulledFromUnder" "drawn" "I") ∈ lw_all := lw_g (lw_at lw_m1 175 rfl) rfl
theorem q261 : (Jvm.Cond.soleField "PulledFromUnder" "drawn") ∈ lw_all := lw_g (lw_at lw_m1 176 rfl) rfl
theorem q262 : (Jvm.Cond.superclass "PulledFromUnder" "java/lang/Object") ∈ lw_all := lw_g (lw_at lw_m1 177 rfl) rfl
theorem q266 : (Jvm.Cond.instanceMethod ({ cls := "PulledFromUnder", name := "letter", desc := "(I)I" } : Jvm.MethodName)) ∈ lw_all := lw_g (lw_at lw_m1 181 rfl) rfl
theorem q267 : (Jvm.Cond.selects "PulledFromUnder" ({ cls := "PulledFromUnder", name := "letter", desc := "(I)I" } : Jvm.MethodName) ({ cls := "PulledFromUnder", name := "letter", desc := "(I)I" } : Jvm.MethodName)) ∈ lw_all := lw_g (lw_at lw_m1 182 rfl) rfl
theorem q268 : (Jvm.Cond.code ({ cls := "PulledFromUnder", name := "letter", desc := "(I)I" } : Jvm.MethodName) prog_1_method_72_code (2 : Nat) (Option.some Jvm.ClassFile.FieldType.int)) ∈ lw_all := lw_g (lw_at lw_m1 183 rfl) rfl
theorem q269 : (Jvm.Cond.methodLink "PulledFromUnder" (451 : Nat) ({ cls := "PulledFromUnder", name := "act", desc := "(IIIIII)I" } : Jvm.MethodName)) ∈ lw_all := lw_g (lw_at lw_m1 184 rfl) rfl
theorem q270 : (Jvm.Cond.privateMethod ({ cls := "PulledFromUnder", name := "act", desc := "(IIIIII)I" } : Jvm.MethodName)) ∈ lw_tbl := lw_at lw_m1 185 rfl
theorem q271 : (Jvm.Cond.instanceMethod ({ cls := "PulledFromUnder", name := "act", desc := "(IIIIII)I" } : Jvm.MethodName)) ∈ lw_all := lw_g (lw_at lw_m1 186 rfl) rfl
theorem q272 : (Jvm.Cond.codeWith ({ cls := "PulledFromUnder", name := "act", desc := "(IIIIII)I" } : Jvm.MethodName) prog_1_method_39_code (8 : Nat) (Option.some Jvm.ClassFile.FieldType.int) [((0 : Nat), (49 : Nat), (50 : Nat), (239 : Nat))]) ∈ lw_all := lw_g (lw_at lw_m1 187 rfl) rfl
theorem q273 : (Jvm.Cond.classLink "PulledFromUnder" (239 : Nat) "PulledFromUnder$Refusal") ∈ lw_all := lw_g (lw_at lw_m1 188 rfl) rfl
theorem q274 : (Jvm.Cond.methodLink "PulledFromUnder" (228 : Nat) ({ cls := "PulledFromUnder", name := "ofRoom", desc := "(IIII)I" } : Jvm.MethodName)) ∈ lw_all := lw_g (lw_at lw_m1 189 rfl) rfl
theorem q275 : (Jvm.Cond.privateMethod ({ cls := "PulledFromUnder", name := "ofRoom", desc := "(IIII)I" } : Jvm.MethodName)) ∈ lw_tbl := lw_at lw_m1 190 rfl
theorem q276 : (Jvm.Cond.instanceMethod ({ cls := "PulledFromUnder", name := "ofRoom", desc := "(IIII)I" } : Jvm.MethodName)) ∈ lw_all := lw_g (lw_at lw_m1 191 rfl) rfl
theorem q277 : (Jvm.Cond.code ({ cls := "PulledFromUnder", name := "ofRoom", desc := "(IIII)I" } : Jvm.MethodName) prog_1_method_54_code (5 : Nat) (Option.some Jvm.ClassFile.FieldType.int)) ∈ lw_all := lw_g (lw_at lw_m1 192 rfl) rfl
theorem q278 : (Jvm.Cond.methodLink "PulledFromUnder" (302 : Nat) ({ cls := "PulledFromUnder", name := "letterIt", desc := "(I)I" } : Jvm.MethodName)) ∈ lw_all := lw_g (lw_at lw_m1 193 rfl) rfl
theorem q279 : (Jvm.Cond.privateMethod ({ cls := "PulledFromUnder", name := "letterIt", desc := "(I)I" } : Jvm.MethodName)) ∈ lw_tbl := lw_at lw_m1 194 rfl
theorem q280 : (Jvm.Cond.instanceMethod ({ cls := "PulledFromUnder", name := "letterIt", desc := "(I)I" } : Jvm.MethodName)) ∈ lw_all := lw_g (lw_at lw_m1 195 rfl) rfl
theorem q281 : (Jvm.Cond.code ({ cls := "PulledFromUnder", name := "letterIt", desc := "(I)I" } : Jvm.MethodName) prog_1_method_46_code (2 : Nat) (Option.some Jvm.ClassFile.FieldType.int)) ∈ lw_all := lw_g (lw_at lw_m1 196 rfl) rfl
theorem q282 : (Jvm.Cond.constantLong "PulledFromUnder" (261 : Nat) (255 : Int64)) ∈ lw_all := lw_g (lw_at lw_m1 197 rfl) rfl
theorem q283 : (Jvm.Cond.methodLink "PulledFromUnder" (255 : Nat) ({ cls := "PulledFromUnder", name := "within", desc := "(JJJ)V" } : Jvm.MethodName)) ∈ lw_all := lw_g (lw_at lw_m1 198 rfl) rfl
theorem q284 : (Jvm.Cond.static ({ cls := "PulledFromUnder", name := "within", desc := "(JJJ)V" } : Jvm.MethodName)) ∈ lw_all := lw_g (lw_at lw_m1 199 rfl) rfl
theorem q285 : (Jvm.Cond.code ({ cls := "PulledFromUnder", name := "within", desc := "(JJJ)V" } : Jvm.MethodName) prog_1_method_3_code (6 : Nat) (Option.none : Option Jvm.ClassFile.FieldType)) ∈ lw_all := lw_g (lw_at lw_m1 200 rfl) rfl
theorem q286 : (Jvm.Cond.methodLink "PulledFromUnder" (9 : Nat) ({ cls := "PulledFromUnder", name := "must", desc := "(ZI)V" } : Jvm.MethodName)) ∈ lw_all := lw_g (lw_at lw_m1 201 rfl) rfl
theorem q287 : (Jvm.Cond.static ({ cls := "PulledFromUnder", name := "must", desc := "(ZI)V" } : Jvm.MethodName)) ∈ lw_all := lw_g (lw_at lw_m1 202 rfl) rfl
theorem q288 : (Jvm.Cond.code ({ cls := "PulledFromUnder", name := "must", desc := "(ZI)V" } : Jvm.MethodName) prog_1_method_2_code (2 : Nat) (Option.none : Option Jvm.ClassFile.FieldType)) ∈ lw_all := lw_g (lw_at lw_m1 203 rfl) rfl
theorem q289 : (Jvm.Cond.classLink "PulledFromUnder" (1 : Nat) "PulledFromUnder$Refused") ∈ lw_all := lw_g (lw_at lw_m1 204 rfl) rfl
theorem q330 : (Jvm.Cond.methodLink "PulledFromUnder" (3 : Nat) ({ cls := "PulledFromUnder$Refused", name := "<init>", desc := "(I)V" } : Jvm.MethodName)) ∈ lw_all := lw_g (lw_at lw_m2 5 rfl) rfl
theorem q358 : (Jvm.Cond.methodLink "PulledFromUnder" (305 : Nat) ({ cls := "PulledFromUnder", name := "readRoom", desc := "()I" } : Jvm.MethodName)) ∈ lw_all := lw_g (lw_at lw_m2 33 rfl) rfl
theorem q359 : (Jvm.Cond.privateMethod ({ cls := "PulledFromUnder", name := "readRoom", desc := "()I" } : Jvm.MethodName)) ∈ lw_tbl := lw_at lw_m2 34 rfl
theorem q360 : (Jvm.Cond.instanceMethod ({ cls := "PulledFromUnder", name := "readRoom", desc := "()I" } : Jvm.MethodName)) ∈ lw_all := lw_g (lw_at lw_m2 35 rfl) rfl
theorem q361 : (Jvm.Cond.code ({ cls := "PulledFromUnder", name := "readRoom", desc := "()I" } : Jvm.MethodName) prog_1_method_11_code (5 : Nat) (Option.some Jvm.ClassFile.FieldType.int)) ∈ lw_all := lw_g (lw_at lw_m2 36 rfl) rfl
theorem q362 : (Jvm.Cond.classLink "PulledFromUnder" (81 : Nat) "PulledFromUnder$Reader") ∈ lw_all := lw_g (lw_at lw_m2 37 rfl) rfl
theorem q364 : (Jvm.Cond.methodLinkNest "PulledFromUnder" (83 : Nat) ({ cls := "PulledFromUnder$Reader", name := "<init>", desc := "(LPulledFromUnder;)V" } : Jvm.MethodName) "PulledFromUnder") ∈ lw_tbl := lw_at lw_m2 39 rfl
theorem q369 : (Jvm.Cond.fieldLinkNest "PulledFromUnder" (99 : Nat) "PulledFromUnder$Reader" "size" "I" "PulledFromUnder") ∈ lw_tbl := lw_at lw_m2 44 rfl
theorem q371 : (Jvm.Cond.fieldLinkNest "PulledFromUnder" (96 : Nat) "PulledFromUnder$Reader" "at" "I" "PulledFromUnder") ∈ lw_tbl := lw_at lw_m2 46 rfl
theorem q380 : (Jvm.Cond.classLink "PulledFromUnder" (90 : Nat) "PulledFromUnder$Told") ∈ lw_all := lw_g (lw_at lw_m2 55 rfl) rfl
theorem q382 : (Jvm.Cond.methodLink "PulledFromUnder" (92 : Nat) ({ cls := "PulledFromUnder$Reader", name := "statement", desc := "()LPulledFromUnder$Told;" } : Jvm.MethodName)) ∈ lw_all := lw_g (lw_at lw_m2 57 rfl) rfl
theorem q417 : (Jvm.Cond.privateMethod ({ cls := "PulledFromUnder", name := "kindOf", desc := "(I)I" } : Jvm.MethodName)) ∈ lw_tbl := lw_at lw_m2 92 rfl
theorem q418 : (Jvm.Cond.instanceMethod ({ cls := "PulledFromUnder", name := "kindOf", desc := "(I)I" } : Jvm.MethodName)) ∈ lw_all := lw_g (lw_at lw_m2 93 rfl) rfl
theorem q419 : (Jvm.Cond.code ({ cls := "PulledFromUnder", name := "kindOf", desc := "(I)I" } : Jvm.MethodName) prog_1_method_10_code (2 : Nat) (Option.some Jvm.ClassFile.FieldType.int)) ∈ lw_all := lw_g (lw_at lw_m2 94 rfl) rfl
theorem q427 : (Jvm.Cond.static ({ cls := "PulledFromUnder", name := "in", desc := "(JJJ)Z" } : Jvm.MethodName)) ∈ lw_all := lw_g (lw_at lw_m2 102 rfl) rfl
theorem q428 : (Jvm.Cond.code ({ cls := "PulledFromUnder", name := "in", desc := "(JJJ)Z" } : Jvm.MethodName) prog_1_method_1_code (6 : Nat) (Option.some Jvm.ClassFile.FieldType.boolean)) ∈ lw_all := lw_g (lw_at lw_m2 103 rfl) rfl
theorem q442 : (Jvm.Cond.fieldLink "PulledFromUnder" (112 : Nat) "PulledFromUnder$Told" "start" "I") ∈ lw_all := lw_g (lw_at lw_m2 117 rfl) rfl
theorem q523 : (Jvm.Cond.methodLink "PulledFromUnder" (102 : Nat) ({ cls := "PulledFromUnder$Room", name := "set", desc := "(LPulledFromUnder$Room;)LPulledFromUnder$Room;" } : Jvm.MethodName)) ∈ lw_all := lw_g (lw_at lw_m2 198 rfl) rfl
theorem q530 : (Jvm.Cond.methodLink "PulledFromUnder" (106 : Nat) ({ cls := "PulledFromUnder$Told", name := "comes", desc := "(LPulledFromUnder$Room;)Z" } : Jvm.MethodName)) ∈ lw_all := lw_g (lw_at lw_m2 205 rfl) rfl
theorem q617 : (Jvm.Cond.static ({ cls := "PulledFromUnder", name := "has", desc := "(II)Z" } : Jvm.MethodName)) ∈ lw_all := lw_g (lw_at lw_m3 52 rfl) rfl
theorem q618 : (Jvm.Cond.code ({ cls := "PulledFromUnder", name := "has", desc := "(II)Z" } : Jvm.MethodName) prog_1_method_5_code (2 : Nat) (Option.some Jvm.ClassFile.FieldType.boolean)) ∈ lw_all := lw_g (lw_at lw_m3 53 rfl) rfl
theorem q693 : (Jvm.Cond.classLink "PulledFromUnder" (110 : Nat) "PulledFromUnder$Fault") ∈ lw_all := lw_g (lw_at lw_m3 128 rfl) rfl
theorem q694 : (Jvm.Cond.methodLink "PulledFromUnder" (115 : Nat) ({ cls := "PulledFromUnder$Fault", name := "<init>", desc := "(I)V" } : Jvm.MethodName)) ∈ lw_all := lw_g (lw_at lw_m3 129 rfl) rfl
theorem q695 : (Jvm.Cond.methodLink "PulledFromUnder" (308 : Nat) ({ cls := "PulledFromUnder", name := "thingTold", desc := "(II)I" } : Jvm.MethodName)) ∈ lw_all := lw_g (lw_at lw_m3 130 rfl) rfl
theorem q696 : (Jvm.Cond.privateMethod ({ cls := "PulledFromUnder", name := "thingTold", desc := "(II)I" } : Jvm.MethodName)) ∈ lw_tbl := lw_at lw_m3 131 rfl
theorem q697 : (Jvm.Cond.instanceMethod ({ cls := "PulledFromUnder", name := "thingTold", desc := "(II)I" } : Jvm.MethodName)) ∈ lw_all := lw_g (lw_at lw_m3 132 rfl) rfl
theorem q698 : (Jvm.Cond.code ({ cls := "PulledFromUnder", name := "thingTold", desc := "(II)I" } : Jvm.MethodName) prog_1_method_47_code (3 : Nat) (Option.some Jvm.ClassFile.FieldType.int)) ∈ lw_all := lw_g (lw_at lw_m3 133 rfl) rfl
theorem q699 : (Jvm.Cond.methodLink "PulledFromUnder" (263 : Nat) ({ cls := "PulledFromUnder", name := "mustBeThing", desc := "(I)V" } : Jvm.MethodName)) ∈ lw_all := lw_g (lw_at lw_m3 134 rfl) rfl
theorem q700 : (Jvm.Cond.privateMethod ({ cls := "PulledFromUnder", name := "mustBeThing", desc := "(I)V" } : Jvm.MethodName)) ∈ lw_tbl := lw_at lw_m3 135 rfl
theorem q701 : (Jvm.Cond.instanceMethod ({ cls := "PulledFromUnder", name := "mustBeThing", desc := "(I)V" } : Jvm.MethodName)) ∈ lw_all := lw_g (lw_at lw_m3 136 rfl) rfl
theorem q702 : (Jvm.Cond.code ({ cls := "PulledFromUnder", name := "mustBeThing", desc := "(I)V" } : Jvm.MethodName) prog_1_method_41_code (2 : Nat) (Option.none : Option Jvm.ClassFile.FieldType)) ∈ lw_all := lw_g (lw_at lw_m3 137 rfl) rfl
theorem q703 : (Jvm.Cond.methodLink "PulledFromUnder" (249 : Nat) ({ cls := "PulledFromUnder", name := "mustBe", desc := "(II)V" } : Jvm.MethodName)) ∈ lw_all := lw_g (lw_at lw_m3 138 rfl) rfl
theorem q704 : (Jvm.Cond.static ({ cls := "PulledFromUnder", name := "mustBe", desc := "(II)V" } : Jvm.MethodName)) ∈ lw_all := lw_g (lw_at lw_m3 139 rfl) rfl
theorem q705 : (Jvm.Cond.code ({ cls := "PulledFromUnder", name := "mustBe", desc := "(II)V" } : Jvm.MethodName) prog_1_method_4_code (2 : Nat) (Option.none : Option Jvm.ClassFile.FieldType)) ∈ lw_all := lw_g (lw_at lw_m3 140 rfl) rfl
theorem q706 : (Jvm.Cond.methodLink "PulledFromUnder" (13 : Nat) ({ cls := "PulledFromUnder", name := "in", desc := "(JJJ)Z" } : Jvm.MethodName)) ∈ lw_all := lw_g (lw_at lw_m3 141 rfl) rfl
theorem q707 : (Jvm.Cond.constantLong "PulledFromUnder" (266 : Nat) (7 : Int64)) ∈ lw_all := lw_g (lw_at lw_m3 142 rfl) rfl
theorem q708 : (Jvm.Cond.methodLink "PulledFromUnder" (268 : Nat) ({ cls := "PulledFromUnder$Kind", name := "kind", desc := "()I" } : Jvm.MethodName)) ∈ lw_all := lw_g (lw_at lw_m3 143 rfl) rfl
theorem q729 : (Jvm.Cond.methodLink "PulledFromUnder" (276 : Nat) ({ cls := "PulledFromUnder$Room", name := "habit", desc := "(I)I" } : Jvm.MethodName)) ∈ lw_all := lw_g (lw_at lw_m3 164 rfl) rfl
theorem q730 : (Jvm.Cond.methodLink "PulledFromUnder" (279 : Nat) ({ cls := "PulledFromUnder$Room", name := "grip", desc := "(I)I" } : Jvm.MethodName)) ∈ lw_all := lw_g (lw_at lw_m3 165 rfl) rfl
theorem q731 : (Jvm.Cond.methodLink "PulledFromUnder" (193 : Nat) ({ cls := "PulledFromUnder$Room", name := "isHeld", desc := "(I)Z" } : Jvm.MethodName)) ∈ lw_all := lw_g (lw_at lw_m3 166 rfl) rfl
theorem q732 : (Jvm.Cond.methodLink "PulledFromUnder" (311 : Nat) ({ cls := "PulledFromUnder", name := "pullIt", desc := "(II)I" } : Jvm.MethodName)) ∈ lw_all := lw_g (lw_at lw_m3 167 rfl) rfl
theorem q733 : (Jvm.Cond.privateMethod ({ cls := "PulledFromUnder", name := "pullIt", desc := "(II)I" } : Jvm.MethodName)) ∈ lw_tbl := lw_at lw_m3 168 rfl
theorem q734 : (Jvm.Cond.instanceMethod ({ cls := "PulledFromUnder", name := "pullIt", desc := "(II)I" } : Jvm.MethodName)) ∈ lw_all := lw_g (lw_at lw_m3 169 rfl) rfl
theorem q735 : (Jvm.Cond.code ({ cls := "PulledFromUnder", name := "pullIt", desc := "(II)I" } : Jvm.MethodName) prog_1_method_48_code (3 : Nat) (Option.some Jvm.ClassFile.FieldType.int)) ∈ lw_all := lw_g (lw_at lw_m3 170 rfl) rfl
theorem q736 : (Jvm.Cond.methodLink "PulledFromUnder" (282 : Nat) ({ cls := "PulledFromUnder", name := "mustBeSpeed", desc := "(I)V" } : Jvm.MethodName)) ∈ lw_all := lw_g (lw_at lw_m3 171 rfl) rfl
theorem q737 : (Jvm.Cond.static ({ cls := "PulledFromUnder", name := "mustBeSpeed", desc := "(I)V" } : Jvm.MethodName)) ∈ lw_all := lw_g (lw_at lw_m3 172 rfl) rfl
theorem q738 : (Jvm.Cond.code ({ cls := "PulledFromUnder", name := "mustBeSpeed", desc := "(I)V" } : Jvm.MethodName) prog_1_method_44_code (1 : Nat) (Option.none : Option Jvm.ClassFile.FieldType)) ∈ lw_all := lw_g (lw_at lw_m3 173 rfl) rfl
theorem q739 : (Jvm.Cond.constantLong "PulledFromUnder" (253 : Nat) (9 : Int64)) ∈ lw_all := lw_g (lw_at lw_m3 174 rfl) rfl
theorem q740 : (Jvm.Cond.methodLink "PulledFromUnder" (285 : Nat) ({ cls := "PulledFromUnder", name := "mustStandNow", desc := "(I)V" } : Jvm.MethodName)) ∈ lw_all := lw_g (lw_at lw_m3 175 rfl) rfl
theorem q741 : (Jvm.Cond.privateMethod ({ cls := "PulledFromUnder", name := "mustStandNow", desc := "(I)V" } : Jvm.MethodName)) ∈ lw_tbl := lw_at lw_m3 176 rfl
theorem q742 : (Jvm.Cond.instanceMethod ({ cls := "PulledFromUnder", name := "mustStandNow", desc := "(I)V" } : Jvm.MethodName)) ∈ lw_all := lw_g (lw_at lw_m3 177 rfl) rfl
theorem q743 : (Jvm.Cond.code ({ cls := "PulledFromUnder", name := "mustStandNow", desc := "(I)V" } : Jvm.MethodName) prog_1_method_42_code (2 : Nat) (Option.none : Option Jvm.ClassFile.FieldType)) ∈ lw_all := lw_g (lw_at lw_m3 178 rfl) rfl
theorem q744 : (Jvm.Cond.methodLink "PulledFromUnder" (154 : Nat) ({ cls := "PulledFromUnder$Room", name := "isStanding", desc := "(I)Z" } : Jvm.MethodName)) ∈ lw_all := lw_g (lw_at lw_m3 179 rfl) rfl
theorem q745 : (Jvm.Cond.methodLink "PulledFromUnder" (144 : Nat) ({ cls := "PulledFromUnder$Room", name := "pull", desc := "(II)I" } : Jvm.MethodName)) ∈ lw_all := lw_g (lw_at lw_m3 180 rfl) rfl
theorem q746 : (Jvm.Cond.methodLink "PulledFromUnder" (314 : Nat) ({ cls := "PulledFromUnder", name := "floorIt", desc := "(I)I" } : Jvm.MethodName)) ∈ lw_all := lw_g (lw_at lw_m3 181 rfl) rfl
theorem q747 : (Jvm.Cond.privateMethod ({ cls := "PulledFromUnder", name := "floorIt", desc := "(I)I" } : Jvm.MethodName)) ∈ lw_tbl := lw_at lw_m3 182 rfl
theorem q748 : (Jvm.Cond.instanceMethod ({ cls := "PulledFromUnder", name := "floorIt", desc := "(I)I" } : Jvm.MethodName)) ∈ lw_all := lw_g (lw_at lw_m3 183 rfl) rfl
theorem q749 : (Jvm.Cond.code ({ cls := "PulledFromUnder", name := "floorIt", desc := "(I)I" } : Jvm.MethodName) prog_1_method_49_code (2 : Nat) (Option.some Jvm.ClassFile.FieldType.int)) ∈ lw_all := lw_g (lw_at lw_m3 184 rfl) rfl
theorem q750 : (Jvm.Cond.methodLink "PulledFromUnder" (292 : Nat) ({ cls := "PulledFromUnder$Room", name := "pullFloor", desc := "(I)I" } : Jvm.MethodName)) ∈ lw_all := lw_g (lw_at lw_m3 185 rfl) rfl
theorem q751 : (Jvm.Cond.methodLink "PulledFromUnder" (317 : Nat) ({ cls := "PulledFromUnder", name := "layIt", desc := "()I" } : Jvm.MethodName)) ∈ lw_all := lw_g (lw_at lw_m3 186 rfl) rfl
theorem q752 : (Jvm.Cond.privateMethod ({ cls := "PulledFromUnder", name := "layIt", desc := "()I" } : Jvm.MethodName)) ∈ lw_tbl := lw_at lw_m3 187 rfl
theorem q753 : (Jvm.Cond.instanceMethod ({ cls := "PulledFromUnder", name := "layIt", desc := "()I" } : Jvm.MethodName)) ∈ lw_all := lw_g (lw_at lw_m3 188 rfl) rfl
theorem q754 : (Jvm.Cond.code ({ cls := "PulledFromUnder", name := "layIt", desc := "()I" } : Jvm.MethodName) prog_1_method_50_code (3 : Nat) (Option.some Jvm.ClassFile.FieldType.int)) ∈ lw_all := lw_g (lw_at lw_m3 189 rfl) rfl
theorem q755 : (Jvm.Cond.methodLink "PulledFromUnder" (320 : Nat) ({ cls := "PulledFromUnder", name := "setIt", desc := "(I)I" } : Jvm.MethodName)) ∈ lw_all := lw_g (lw_at lw_m3 190 rfl) rfl
theorem q756 : (Jvm.Cond.privateMethod ({ cls := "PulledFromUnder", name := "setIt", desc := "(I)I" } : Jvm.MethodName)) ∈ lw_tbl := lw_at lw_m3 191 rfl
theorem q757 : (Jvm.Cond.instanceMethod ({ cls := "PulledFromUnder", name := "setIt", desc := "(I)I" } : Jvm.MethodName)) ∈ lw_all := lw_g (lw_at lw_m3 192 rfl) rfl
theorem q758 : (Jvm.Cond.code ({ cls := "PulledFromUnder", name := "setIt", desc := "(I)I" } : Jvm.MethodName) prog_1_method_51_code (2 : Nat) (Option.some Jvm.ClassFile.FieldType.int)) ∈ lw_all := lw_g (lw_at lw_m3 193 rfl) rfl
theorem q759 : (Jvm.Cond.methodLink "PulledFromUnder" (203 : Nat) ({ cls := "PulledFromUnder$Room", name := "setUp", desc := "(I)V" } : Jvm.MethodName)) ∈ lw_all := lw_g (lw_at lw_m3 194 rfl) rfl
theorem q760 : (Jvm.Cond.methodLink "PulledFromUnder" (323 : Nat) ({ cls := "PulledFromUnder", name := "turnIt", desc := "(III)I" } : Jvm.MethodName)) ∈ lw_all := lw_g (lw_at lw_m3 195 rfl) rfl
theorem q761 : (Jvm.Cond.privateMethod ({ cls := "PulledFromUnder", name := "turnIt", desc := "(III)I" } : Jvm.MethodName)) ∈ lw_tbl := lw_at lw_m3 196 rfl
theorem q762 : (Jvm.Cond.instanceMethod ({ cls := "PulledFromUnder", name := "turnIt", desc := "(III)I" } : Jvm.MethodName)) ∈ lw_all := lw_g (lw_at lw_m3 197 rfl) rfl
theorem q763 : (Jvm.Cond.code ({ cls := "PulledFromUnder", name := "turnIt", desc := "(III)I" } : Jvm.MethodName) prog_1_method_52_code (5 : Nat) (Option.some Jvm.ClassFile.FieldType.int)) ∈ lw_all := lw_g (lw_at lw_m3 198 rfl) rfl
theorem q764 : (Jvm.Cond.constantLong "PulledFromUnder" (295 : Nat) (5 : Int64)) ∈ lw_all := lw_g (lw_at lw_m3 199 rfl) rfl
theorem q765 : (Jvm.Cond.methodLink "PulledFromUnder" (327 : Nat) ({ cls := "PulledFromUnder", name := "minutesIt", desc := "(I)I" } : Jvm.MethodName)) ∈ lw_all := lw_g (lw_at lw_m3 200 rfl) rfl
theorem q766 : (Jvm.Cond.privateMethod ({ cls := "PulledFromUnder", name := "minutesIt", desc := "(I)I" } : Jvm.MethodName)) ∈ lw_tbl := lw_at lw_m3 201 rfl
theorem q767 : (Jvm.Cond.instanceMethod ({ cls := "PulledFromUnder", name := "minutesIt", desc := "(I)I" } : Jvm.MethodName)) ∈ lw_all := lw_g (lw_at lw_m3 202 rfl) rfl
theorem q768 : (Jvm.Cond.code ({ cls := "PulledFromUnder", name := "minutesIt", desc := "(I)I" } : Jvm.MethodName) prog_1_method_53_code (2 : Nat) (Option.some Jvm.ClassFile.FieldType.int)) ∈ lw_all := lw_g (lw_at lw_m3 203 rfl) rfl
theorem q769 : (Jvm.Cond.constantLong "PulledFromUnder" (297 : Nat) (60 : Int64)) ∈ lw_all := lw_g (lw_at lw_m3 204 rfl) rfl
theorem q770 : (Jvm.Cond.methodLink "PulledFromUnder" (120 : Nat) ({ cls := "PulledFromUnder$Room", name := "minutesOn", desc := "(I)LPulledFromUnder$Room;" } : Jvm.MethodName)) ∈ lw_all := lw_g (lw_at lw_m3 205 rfl) rfl
theorem q771 : (Jvm.Cond.methodLink "PulledFromUnder" (165 : Nat) ({ cls := "PulledFromUnder$Room", name := "standing", desc := "()I" } : Jvm.MethodName)) ∈ lw_all := lw_g (lw_at lw_m3 206 rfl) rfl
theorem q776 : (Jvm.Cond.static ({ cls := "PulledFromUnder", name := "ones", desc := "(I)I" } : Jvm.MethodName)) ∈ lw_all := lw_g (lw_at lw_m3 211 rfl) rfl
theorem q777 : (Jvm.Cond.code ({ cls := "PulledFromUnder", name := "ones", desc := "(I)I" } : Jvm.MethodName) prog_1_method_6_code (3 : Nat) (Option.some Jvm.ClassFile.FieldType.int)) ∈ lw_all := lw_g (lw_at lw_m3 212 rfl) rfl
theorem q778 : (Jvm.Cond.methodLink "PulledFromUnder" (232 : Nat) ({ cls := "PulledFromUnder", name := "ofMinutes", desc := "(IIII)I" } : Jvm.MethodName)) ∈ lw_all := lw_g (lw_at lw_m3 213 rfl) rfl
theorem q779 : (Jvm.Cond.privateMethod ({ cls := "PulledFromUnder", name := "ofMinutes", desc := "(IIII)I" } : Jvm.MethodName)) ∈ lw_tbl := lw_at lw_m3 214 rfl
theorem q780 : (Jvm.Cond.instanceMethod ({ cls := "PulledFromUnder", name := "ofMinutes", desc := "(IIII)I" } : Jvm.MethodName)) ∈ lw_all := lw_g (lw_at lw_m3 215 rfl) rfl
theorem q781 : (Jvm.Cond.code ({ cls := "PulledFromUnder", name := "ofMinutes", desc := "(IIII)I" } : Jvm.MethodName) prog_1_method_62_code (5 : Nat) (Option.some Jvm.ClassFile.FieldType.int)) ∈ lw_all := lw_g (lw_at lw_m3 216 rfl) rfl
theorem q782 : (Jvm.Cond.methodLink "PulledFromUnder" (362 : Nat) ({ cls := "PulledFromUnder", name := "behindTold", desc := "(III)I" } : Jvm.MethodName)) ∈ lw_all := lw_g (lw_at lw_m3 217 rfl) rfl
theorem q783 : (Jvm.Cond.privateMethod ({ cls := "PulledFromUnder", name := "behindTold", desc := "(III)I" } : Jvm.MethodName)) ∈ lw_tbl := lw_at lw_m3 218 rfl
theorem q784 : (Jvm.Cond.instanceMethod ({ cls := "PulledFromUnder", name := "behindTold", desc := "(III)I" } : Jvm.MethodName)) ∈ lw_all := lw_g (lw_at lw_m3 219 rfl) rfl
theorem q785 : (Jvm.Cond.code ({ cls := "PulledFromUnder", name := "behindTold", desc := "(III)I" } : Jvm.MethodName) prog_1_method_55_code (5 : Nat) (Option.some Jvm.ClassFile.FieldType.int)) ∈ lw_all := lw_g (lw_at lw_m3 220 rfl) rfl
theorem q786 : (Jvm.Cond.methodLink "PulledFromUnder" (330 : Nat) ({ cls := "PulledFromUnder", name := "mustBeMinutes", desc := "(I)V" } : Jvm.MethodName)) ∈ lw_all := lw_g (lw_at lw_m3 221 rfl) rfl
theorem q787 : (Jvm.Cond.static ({ cls := "PulledFromUnder", name := "mustBeMinutes", desc := "(I)V" } : Jvm.MethodName)) ∈ lw_all := lw_g (lw_at lw_m3 222 rfl) rfl
theorem q788 : (Jvm.Cond.code ({ cls := "PulledFromUnder", name := "mustBeMinutes", desc := "(I)V" } : Jvm.MethodName) prog_1_method_45_code (1 : Nat) (Option.none : Option Jvm.ClassFile.FieldType)) ∈ lw_all := lw_g (lw_at lw_m3 223 rfl) rfl
theorem q789 : (Jvm.Cond.constantLong "PulledFromUnder" (259 : Nat) (99 : Int64)) ∈ lw_all := lw_g (lw_at lw_m3 224 rfl) rfl
theorem q790 : (Jvm.Cond.constantLong "PulledFromUnder" (333 : Nat) (2 : Int64)) ∈ lw_all := lw_g (lw_at lw_m3 225 rfl) rfl
theorem q791 : (Jvm.Cond.methodLink "PulledFromUnder" (148 : Nat) ({ cls := "PulledFromUnder", name := "ahead", desc := "(I)LPulledFromUnder$Room;" } : Jvm.MethodName)) ∈ lw_all := lw_g (lw_at lw_m3 226 rfl) rfl
theorem q792 : (Jvm.Cond.privateMethod ({ cls := "PulledFromUnder", name := "ahead", desc := "(I)LPulledFromUnder$Room;" } : Jvm.MethodName)) ∈ lw_tbl := lw_at lw_m3 227 rfl
theorem q793 : (Jvm.Cond.instanceMethod ({ cls := "PulledFromUnder", name := "ahead", desc := "(I)LPulledFromUnder$Room;" } : Jvm.MethodName)) ∈ lw_all := lw_g (lw_at lw_m3 228 rfl) rfl
theorem q794 : (Jvm.Cond.code ({ cls := "PulledFromUnder", name := "ahead", desc := "(I)LPulledFromUnder$Room;" } : Jvm.MethodName) prog_1_method_13_code (2 : Nat) (Option.some (Jvm.ClassFile.FieldType.object "PulledFromUnder$Room"))) ∈ lw_all := lw_g (lw_at lw_m3 229 rfl) rfl
theorem q795 : (Jvm.Cond.methodLink "PulledFromUnder" (116 : Nat) ({ cls := "PulledFromUnder", name := "openMind", desc := "()LPulledFromUnder$Room;" } : Jvm.MethodName)) ∈ lw_all := lw_g (lw_at lw_m3 230 rfl) rfl
theorem q796 : (Jvm.Cond.privateMethod ({ cls := "PulledFromUnder", name := "openMind", desc := "()LPulledFromUnder$Room;" } : Jvm.MethodName)) ∈ lw_tbl := lw_at lw_m3 231 rfl
theorem q797 : (Jvm.Cond.instanceMethod ({ cls := "PulledFromUnder", name := "openMind", desc := "()LPulledFromUnder$Room;" } : Jvm.MethodName)) ∈ lw_all := lw_g (lw_at lw_m3 232 rfl) rfl
theorem q798 : (Jvm.Cond.code ({ cls := "PulledFromUnder", name := "openMind", desc := "()LPulledFromUnder$Room;" } : Jvm.MethodName) prog_1_method_12_code (1 : Nat) (Option.some (Jvm.ClassFile.FieldType.object "PulledFromUnder$Room"))) ∈ lw_all := lw_g (lw_at lw_m3 233 rfl) rfl
theorem q799 : (Jvm.Cond.methodLink "PulledFromUnder" (365 : Nat) ({ cls := "PulledFromUnder", name := "fallsTold", desc := "(I)I" } : Jvm.MethodName)) ∈ lw_all := lw_g (lw_at lw_m3 234 rfl) rfl
theorem q800 : (Jvm.Cond.privateMethod ({ cls := "PulledFromUnder", name := "fallsTold", desc := "(I)I" } : Jvm.MethodName)) ∈ lw_tbl := lw_at lw_m3 235 rfl
theorem q801 : (Jvm.Cond.instanceMethod ({ cls := "PulledFromUnder", name := "fallsTold", desc := "(I)I" } : Jvm.MethodName)) ∈ lw_all := lw_g (lw_at lw_m3 236 rfl) rfl
theorem q802 : (Jvm.Cond.code ({ cls := "PulledFromUnder", name := "fallsTold", desc := "(I)I" } : Jvm.MethodName) prog_1_method_56_code (3 : Nat) (Option.some Jvm.ClassFile.FieldType.int)) ∈ lw_all := lw_g (lw_at lw_m3 237 rfl) rfl
theorem q803 : (Jvm.Cond.methodLink "PulledFromUnder" (335 : Nat) ({ cls := "PulledFromUnder", name := "fallIn", desc := "(LPulledFromUnder$Room;I)I" } : Jvm.MethodName)) ∈ lw_all := lw_g (lw_at lw_m3 238 rfl) rfl
theorem q804 : (Jvm.Cond.privateMethod ({ cls := "PulledFromUnder", name := "fallIn", desc := "(LPulledFromUnder$Room;I)I" } : Jvm.MethodName)) ∈ lw_tbl := lw_at lw_m3 239 rfl
theorem q805 : (Jvm.Cond.instanceMethod ({ cls := "PulledFromUnder", name := "fallIn", desc := "(LPulledFromUnder$Room;I)I" } : Jvm.MethodName)) ∈ lw_all := lw_g (lw_at lw_m4 0 rfl) rfl
theorem q806 : (Jvm.Cond.code ({ cls := "PulledFromUnder", name := "fallIn", desc := "(LPulledFromUnder$Room;I)I" } : Jvm.MethodName) prog_1_method_14_code (4 : Nat) (Option.some Jvm.ClassFile.FieldType.int)) ∈ lw_all := lw_g (lw_at lw_m4 1 rfl) rfl
theorem q807 : (Jvm.Cond.methodLink "PulledFromUnder" (127 : Nat) ({ cls := "PulledFromUnder$Room", name := "minuteOn", desc := "(I)V" } : Jvm.MethodName)) ∈ lw_all := lw_g (lw_at lw_m4 2 rfl) rfl
theorem q808 : (Jvm.Cond.methodLink "PulledFromUnder" (356 : Nat) ({ cls := "PulledFromUnder", name := "mustBeBit", desc := "(I)V" } : Jvm.MethodName)) ∈ lw_all := lw_g (lw_at lw_m4 3 rfl) rfl
theorem q809 : (Jvm.Cond.static ({ cls := "PulledFromUnder", name := "mustBeBit", desc := "(I)V" } : Jvm.MethodName)) ∈ lw_all := lw_g (lw_at lw_m4 4 rfl) rfl
theorem q810 : (Jvm.Cond.code ({ cls := "PulledFromUnder", name := "mustBeBit", desc := "(I)V" } : Jvm.MethodName) prog_1_method_43_code (1 : Nat) (Option.none : Option Jvm.ClassFile.FieldType)) ∈ lw_all := lw_g (lw_at lw_m4 5 rfl) rfl
theorem q811 : (Jvm.Cond.methodLink "PulledFromUnder" (141 : Nat) ({ cls := "PulledFromUnder", name := "firstFall", desc := "(I)I" } : Jvm.MethodName)) ∈ lw_all := lw_g (lw_at lw_m4 6 rfl) rfl
theorem q812 : (Jvm.Cond.privateMethod ({ cls := "PulledFromUnder", name := "firstFall", desc := "(I)I" } : Jvm.MethodName)) ∈ lw_tbl := lw_at lw_m4 7 rfl
theorem q813 : (Jvm.Cond.instanceMethod ({ cls := "PulledFromUnder", name := "firstFall", desc := "(I)I" } : Jvm.MethodName)) ∈ lw_all := lw_g (lw_at lw_m4 8 rfl) rfl
theorem q814 : (Jvm.Cond.code ({ cls := "PulledFromUnder", name := "firstFall", desc := "(I)I" } : Jvm.MethodName) prog_1_method_15_code (7 : Nat) (Option.some Jvm.ClassFile.FieldType.int)) ∈ lw_all := lw_g (lw_at lw_m4 9 rfl) rfl
theorem q815 : (Jvm.Cond.methodLink "PulledFromUnder" (130 : Nat) ({ cls := "PulledFromUnder$Room", name := "bits", desc := "(I)I" } : Jvm.MethodName)) ∈ lw_all := lw_g (lw_at lw_m4 10 rfl) rfl
theorem q816 : (Jvm.Cond.methodLink "PulledFromUnder" (137 : Nat) ({ cls := "PulledFromUnder", name := "has", desc := "(II)Z" } : Jvm.MethodName)) ∈ lw_all := lw_g (lw_at lw_m4 11 rfl) rfl
theorem q817 : (Jvm.Cond.methodLink "PulledFromUnder" (368 : Nat) ({ cls := "PulledFromUnder", name := "standFor", desc := "()I" } : Jvm.MethodName)) ∈ lw_all := lw_g (lw_at lw_m4 12 rfl) rfl
theorem q818 : (Jvm.Cond.privateMethod ({ cls := "PulledFromUnder", name := "standFor", desc := "()I" } : Jvm.MethodName)) ∈ lw_tbl := lw_at lw_m4 13 rfl
theorem q819 : (Jvm.Cond.instanceMethod ({ cls := "PulledFromUnder", name := "standFor", desc := "()I" } : Jvm.MethodName)) ∈ lw_all := lw_g (lw_at lw_m4 14 rfl) rfl
theorem q820 : (Jvm.Cond.code ({ cls := "PulledFromUnder", name := "standFor", desc := "()I" } : Jvm.MethodName) prog_1_method_16_code (2 : Nat) (Option.some Jvm.ClassFile.FieldType.int)) ∈ lw_all := lw_g (lw_at lw_m4 15 rfl) rfl
theorem q821 : (Jvm.Cond.methodLink "PulledFromUnder" (371 : Nat) ({ cls := "PulledFromUnder", name := "towerTold", desc := "(II)I" } : Jvm.MethodName)) ∈ lw_all := lw_g (lw_at lw_m4 16 rfl) rfl
theorem q822 : (Jvm.Cond.privateMethod ({ cls := "PulledFromUnder", name := "towerTold", desc := "(II)I" } : Jvm.MethodName)) ∈ lw_tbl := lw_at lw_m4 17 rfl
theorem q823 : (Jvm.Cond.instanceMethod ({ cls := "PulledFromUnder", name := "towerTold", desc := "(II)I" } : Jvm.MethodName)) ∈ lw_all := lw_g (lw_at lw_m4 18 rfl) rfl
theorem q824 : (Jvm.Cond.code ({ cls := "PulledFromUnder", name := "towerTold", desc := "(II)I" } : Jvm.MethodName) prog_1_method_57_code (3 : Nat) (Option.some Jvm.ClassFile.FieldType.int)) ∈ lw_all := lw_g (lw_at lw_m4 19 rfl) rfl
theorem q825 : (Jvm.Cond.methodLink "PulledFromUnder" (339 : Nat) ({ cls := "PulledFromUnder$Room", name := "height", desc := "(I)I" } : Jvm.MethodName)) ∈ lw_all := lw_g (lw_at lw_m4 20 rfl) rfl
theorem q829 : (Jvm.Cond.methodLink "PulledFromUnder" (342 : Nat) ({ cls := "PulledFromUnder$Room", name := "above", desc := "(I)I" } : Jvm.MethodName)) ∈ lw_all := lw_g (lw_at lw_m4 24 rfl) rfl
theorem q833 : (Jvm.Cond.methodLink "PulledFromUnder" (345 : Nat) ({ cls := "PulledFromUnder$Room", name := "bottom", desc := "(I)I" } : Jvm.MethodName)) ∈ lw_all := lw_g (lw_at lw_m4 28 rfl) rfl
theorem q837 : (Jvm.Cond.methodLink "PulledFromUnder" (374 : Nat) ({ cls := "PulledFromUnder", name := "slowestTold", desc := "(I)I" } : Jvm.MethodName)) ∈ lw_all := lw_g (lw_at lw_m4 32 rfl) rfl
theorem q838 : (Jvm.Cond.privateMethod ({ cls := "PulledFromUnder", name := "slowestTold", desc := "(I)I" } : Jvm.MethodName)) ∈ lw_tbl := lw_at lw_m4 33 rfl
theorem q839 : (Jvm.Cond.instanceMethod ({ cls := "PulledFromUnder", name := "slowestTold", desc := "(I)I" } : Jvm.MethodName)) ∈ lw_all := lw_g (lw_at lw_m4 34 rfl) rfl
theorem q840 : (Jvm.Cond.code ({ cls := "PulledFromUnder", name := "slowestTold", desc := "(I)I" } : Jvm.MethodName) prog_1_method_58_code (2 : Nat) (Option.some Jvm.ClassFile.FieldType.int)) ∈ lw_all := lw_g (lw_at lw_m4 35 rfl) rfl
theorem q841 : (Jvm.Cond.methodLink "PulledFromUnder" (348 : Nat) ({ cls := "PulledFromUnder", name := "slowest", desc := "(I)I" } : Jvm.MethodName)) ∈ lw_all := lw_g (lw_at lw_m4 36 rfl) rfl
theorem q842 : (Jvm.Cond.privateMethod ({ cls := "PulledFromUnder", name := "slowest", desc := "(I)I" } : Jvm.MethodName)) ∈ lw_tbl := lw_at lw_m4 37 rfl
theorem q843 : (Jvm.Cond.instanceMethod ({ cls := "PulledFromUnder", name := "slowest", desc := "(I)I" } : Jvm.MethodName)) ∈ lw_all := lw_g (lw_at lw_m4 38 rfl) rfl
theorem q844 : (Jvm.Cond.code ({ cls := "PulledFromUnder", name := "slowest", desc := "(I)I" } : Jvm.MethodName) prog_1_method_17_code (3 : Nat) (Option.some Jvm.ClassFile.FieldType.int)) ∈ lw_all := lw_g (lw_at lw_m4 39 rfl) rfl
theorem q845 : (Jvm.Cond.methodLink "PulledFromUnder" (377 : Nat) ({ cls := "PulledFromUnder", name := "onceTold", desc := "(II)I" } : Jvm.MethodName)) ∈ lw_all := lw_g (lw_at lw_m4 40 rfl) rfl
theorem q846 : (Jvm.Cond.privateMethod ({ cls := "PulledFromUnder", name := "onceTold", desc := "(II)I" } : Jvm.MethodName)) ∈ lw_tbl := lw_at lw_m4 41 rfl
theorem q847 : (Jvm.Cond.instanceMethod ({ cls := "PulledFromUnder", name := "onceTold", desc := "(II)I" } : Jvm.MethodName)) ∈ lw_all := lw_g (lw_at lw_m4 42 rfl) rfl
theorem q848 : (Jvm.Cond.code ({ cls := "PulledFromUnder", name := "onceTold", desc := "(II)I" } : Jvm.MethodName) prog_1_method_59_code (3 : Nat) (Option.some Jvm.ClassFile.FieldType.int)) ∈ lw_all := lw_g (lw_at lw_m4 43 rfl) rfl
theorem q849 : (Jvm.Cond.methodLink "PulledFromUnder" (151 : Nat) ({ cls := "PulledFromUnder", name := "fallenBy", desc := "(II)I" } : Jvm.MethodName)) ∈ lw_all := lw_g (lw_at lw_m4 44 rfl) rfl
theorem q850 : (Jvm.Cond.privateMethod ({ cls := "PulledFromUnder", name := "fallenBy", desc := "(II)I" } : Jvm.MethodName)) ∈ lw_tbl := lw_at lw_m4 45 rfl
theorem q851 : (Jvm.Cond.instanceMethod ({ cls := "PulledFromUnder", name := "fallenBy", desc := "(II)I" } : Jvm.MethodName)) ∈ lw_all := lw_g (lw_at lw_m4 46 rfl) rfl
theorem q852 : (Jvm.Cond.code ({ cls := "PulledFromUnder", name := "fallenBy", desc := "(II)I" } : Jvm.MethodName) prog_1_method_18_code (4 : Nat) (Option.some Jvm.ClassFile.FieldType.int)) ∈ lw_all := lw_g (lw_at lw_m4 47 rfl) rfl
theorem q853 : (Jvm.Cond.methodLink "PulledFromUnder" (380 : Nat) ({ cls := "PulledFromUnder", name := "laterTold", desc := "(III)I" } : Jvm.MethodName)) ∈ lw_all := lw_g (lw_at lw_m4 48 rfl) rfl
theorem q854 : (Jvm.Cond.privateMethod ({ cls := "PulledFromUnder", name := "laterTold", desc := "(III)I" } : Jvm.MethodName)) ∈ lw_tbl := lw_at lw_m4 49 rfl
theorem q855 : (Jvm.Cond.instanceMethod ({ cls := "PulledFromUnder", name := "laterTold", desc := "(III)I" } : Jvm.MethodName)) ∈ lw_all := lw_g (lw_at lw_m4 50 rfl) rfl
theorem q856 : (Jvm.Cond.code ({ cls := "PulledFromUnder", name := "laterTold", desc := "(III)I" } : Jvm.MethodName) prog_1_method_60_code (4 : Nat) (Option.some Jvm.ClassFile.FieldType.int)) ∈ lw_all := lw_g (lw_at lw_m4 51 rfl) rfl
theorem q857 : (Jvm.Cond.methodLink "PulledFromUnder" (351 : Nat) ({ cls := "PulledFromUnder", name := "fallenLater", desc := "(III)I" } : Jvm.MethodName)) ∈ lw_all := lw_g (lw_at lw_m4 52 rfl) rfl
theorem q858 : (Jvm.Cond.privateMethod ({ cls := "PulledFromUnder", name := "fallenLater", desc := "(III)I" } : Jvm.MethodName)) ∈ lw_tbl := lw_at lw_m4 53 rfl
theorem q859 : (Jvm.Cond.instanceMethod ({ cls := "PulledFromUnder", name := "fallenLater", desc := "(III)I" } : Jvm.MethodName)) ∈ lw_all := lw_g (lw_at lw_m4 54 rfl) rfl
theorem q860 : (Jvm.Cond.code ({ cls := "PulledFromUnder", name := "fallenLater", desc := "(III)I" } : Jvm.MethodName) prog_1_method_19_code (7 : Nat) (Option.some Jvm.ClassFile.FieldType.int)) ∈ lw_all := lw_g (lw_at lw_m4 55 rfl) rfl
theorem q861 : (Jvm.Cond.methodLink "PulledFromUnder" (383 : Nat) ({ cls := "PulledFromUnder", name := "mostTold", desc := "(III)I" } : Jvm.MethodName)) ∈ lw_all := lw_g (lw_at lw_m4 56 rfl) rfl
theorem q862 : (Jvm.Cond.privateMethod ({ cls := "PulledFromUnder", name := "mostTold", desc := "(III)I" } : Jvm.MethodName)) ∈ lw_tbl := lw_at lw_m4 57 rfl
theorem q863 : (Jvm.Cond.instanceMethod ({ cls := "PulledFromUnder", name := "mostTold", desc := "(III)I" } : Jvm.MethodName)) ∈ lw_all := lw_g (lw_at lw_m4 58 rfl) rfl
theorem q864 : (Jvm.Cond.code ({ cls := "PulledFromUnder", name := "mostTold", desc := "(III)I" } : Jvm.MethodName) prog_1_method_61_code (4 : Nat) (Option.some Jvm.ClassFile.FieldType.int)) ∈ lw_all := lw_g (lw_at lw_m4 59 rfl) rfl
theorem q865 : (Jvm.Cond.constantLong "PulledFromUnder" (354 : Nat) (30 : Int64)) ∈ lw_all := lw_g (lw_at lw_m4 60 rfl) rfl
theorem q866 : (Jvm.Cond.methodLink "PulledFromUnder" (359 : Nat) ({ cls := "PulledFromUnder", name := "mostPulled", desc := "(III)I" } : Jvm.MethodName)) ∈ lw_all := lw_g (lw_at lw_m4 61 rfl) rfl
theorem q867 : (Jvm.Cond.privateMethod ({ cls := "PulledFromUnder", name := "mostPulled", desc := "(III)I" } : Jvm.MethodName)) ∈ lw_tbl := lw_at lw_m4 62 rfl
theorem q868 : (Jvm.Cond.instanceMethod ({ cls := "PulledFromUnder", name := "mostPulled", desc := "(III)I" } : Jvm.MethodName)) ∈ lw_all := lw_g (lw_at lw_m4 63 rfl) rfl
theorem q869 : (Jvm.Cond.code ({ cls := "PulledFromUnder", name := "mostPulled", desc := "(III)I" } : Jvm.MethodName) prog_1_method_21_code (8 : Nat) (Option.some Jvm.ClassFile.FieldType.int)) ∈ lw_all := lw_g (lw_at lw_m4 64 rfl) rfl
theorem q870 : (Jvm.Cond.methodLink "PulledFromUnder" (158 : Nat) ({ cls := "PulledFromUnder", name := "ones", desc := "(I)I" } : Jvm.MethodName)) ∈ lw_all := lw_g (lw_at lw_m4 65 rfl) rfl
theorem q871 : (Jvm.Cond.methodLink "PulledFromUnder" (161 : Nat) ({ cls := "PulledFromUnder", name := "areEnough", desc := "(III)Z" } : Jvm.MethodName)) ∈ lw_all := lw_g (lw_at lw_m4 66 rfl) rfl
theorem q872 : (Jvm.Cond.privateMethod ({ cls := "PulledFromUnder", name := "areEnough", desc := "(III)Z" } : Jvm.MethodName)) ∈ lw_tbl := lw_at lw_m4 67 rfl
theorem q873 : (Jvm.Cond.instanceMethod ({ cls := "PulledFromUnder", name := "areEnough", desc := "(III)Z" } : Jvm.MethodName)) ∈ lw_all := lw_g (lw_at lw_m4 68 rfl) rfl
theorem q874 : (Jvm.Cond.code ({ cls := "PulledFromUnder", name := "areEnough", desc := "(III)Z" } : Jvm.MethodName) prog_1_method_20_code (6 : Nat) (Option.some Jvm.ClassFile.FieldType.boolean)) ∈ lw_all := lw_g (lw_at lw_m4 69 rfl) rfl
theorem q875 : (Jvm.Cond.methodLink "PulledFromUnder" (235 : Nat) ({ cls := "PulledFromUnder", name := "ofRest", desc := "(IIIIII)I" } : Jvm.MethodName)) ∈ lw_all := lw_g (lw_at lw_m4 70 rfl) rfl
theorem q876 : (Jvm.Cond.privateMethod ({ cls := "PulledFromUnder", name := "ofRest", desc := "(IIIIII)I" } : Jvm.MethodName)) ∈ lw_tbl := lw_at lw_m4 71 rfl
theorem q877 : (Jvm.Cond.instanceMethod ({ cls := "PulledFromUnder", name := "ofRest", desc := "(IIIIII)I" } : Jvm.MethodName)) ∈ lw_all := lw_g (lw_at lw_m4 72 rfl) rfl
theorem q878 : (Jvm.Cond.code ({ cls := "PulledFromUnder", name := "ofRest", desc := "(IIIIII)I" } : Jvm.MethodName) prog_1_method_67_code (7 : Nat) (Option.some Jvm.ClassFile.FieldType.int)) ∈ lw_all := lw_g (lw_at lw_m4 73 rfl) rfl
theorem q879 : (Jvm.Cond.methodLink "PulledFromUnder" (398 : Nat) ({ cls := "PulledFromUnder", name := "keyOf", desc := "(I)I" } : Jvm.MethodName)) ∈ lw_all := lw_g (lw_at lw_m4 74 rfl) rfl
theorem q880 : (Jvm.Cond.privateMethod ({ cls := "PulledFromUnder", name := "keyOf", desc := "(I)I" } : Jvm.MethodName)) ∈ lw_tbl := lw_at lw_m4 75 rfl
theorem q881 : (Jvm.Cond.instanceMethod ({ cls := "PulledFromUnder", name := "keyOf", desc := "(I)I" } : Jvm.MethodName)) ∈ lw_all := lw_g (lw_at lw_m4 76 rfl) rfl
theorem q882 : (Jvm.Cond.code ({ cls := "PulledFromUnder", name := "keyOf", desc := "(I)I" } : Jvm.MethodName) prog_1_method_22_code (7 : Nat) (Option.some Jvm.ClassFile.FieldType.int)) ∈ lw_all := lw_g (lw_at lw_m4 77 rfl) rfl
theorem q883 : (Jvm.Cond.methodLink "PulledFromUnder" (169 : Nat) ({ cls := "java/lang/Math", name := "min", desc := "(II)I" } : Jvm.MethodName)) ∈ lw_all := lw_g (lw_at lw_m4 78 rfl) rfl
theorem q886 : (Jvm.Cond.methodLink "PulledFromUnder" (401 : Nat) ({ cls := "PulledFromUnder", name := "fewestProps", desc := "(I)I" } : Jvm.MethodName)) ∈ lw_all := lw_g (lw_at lw_m4 81 rfl) rfl
theorem q887 : (Jvm.Cond.privateMethod ({ cls := "PulledFromUnder", name := "fewestProps", desc := "(I)I" } : Jvm.MethodName)) ∈ lw_tbl := lw_at lw_m4 82 rfl
theorem q888 : (Jvm.Cond.instanceMethod ({ cls := "PulledFromUnder", name := "fewestProps", desc := "(I)I" } : Jvm.MethodName)) ∈ lw_all := lw_g (lw_at lw_m4 83 rfl) rfl
theorem q889 : (Jvm.Cond.code ({ cls := "PulledFromUnder", name := "fewestProps", desc := "(I)I" } : Jvm.MethodName) prog_1_method_23_code (6 : Nat) (Option.some Jvm.ClassFile.FieldType.int)) ∈ lw_all := lw_g (lw_at lw_m4 84 rfl) rfl
theorem q890 : (Jvm.Cond.methodLink "PulledFromUnder" (404 : Nat) ({ cls := "PulledFromUnder", name := "orderTold", desc := "(IIIII)I" } : Jvm.MethodName)) ∈ lw_all := lw_g (lw_at lw_m4 85 rfl) rfl
theorem q891 : (Jvm.Cond.privateMethod ({ cls := "PulledFromUnder", name := "orderTold", desc := "(IIIII)I" } : Jvm.MethodName)) ∈ lw_tbl := lw_at lw_m4 86 rfl
theorem q892 : (Jvm.Cond.instanceMethod ({ cls := "PulledFromUnder", name := "orderTold", desc := "(IIIII)I" } : Jvm.MethodName)) ∈ lw_all := lw_g (lw_at lw_m4 87 rfl) rfl
theorem q893 : (Jvm.Cond.code ({ cls := "PulledFromUnder", name := "orderTold", desc := "(IIIII)I" } : Jvm.MethodName) prog_1_method_63_code (6 : Nat) (Option.some Jvm.ClassFile.FieldType.int)) ∈ lw_all := lw_g (lw_at lw_m4 88 rfl) rfl
theorem q894 : (Jvm.Cond.methodLink "PulledFromUnder" (386 : Nat) ({ cls := "PulledFromUnder", name := "bestOrder", desc := "(II)I" } : Jvm.MethodName)) ∈ lw_all := lw_g (lw_at lw_m4 89 rfl) rfl
theorem q895 : (Jvm.Cond.privateMethod ({ cls := "PulledFromUnder", name := "bestOrder", desc := "(II)I" } : Jvm.MethodName)) ∈ lw_tbl := lw_at lw_m4 90 rfl
theorem q896 : (Jvm.Cond.instanceMethod ({ cls := "PulledFromUnder", name := "bestOrder", desc := "(II)I" } : Jvm.MethodName)) ∈ lw_all := lw_g (lw_at lw_m4 91 rfl) rfl
theorem q897 : (Jvm.Cond.code ({ cls := "PulledFromUnder", name := "bestOrder", desc := "(II)I" } : Jvm.MethodName) prog_1_method_26_code (7 : Nat) (Option.some Jvm.ClassFile.FieldType.int)) ∈ lw_all := lw_g (lw_at lw_m4 92 rfl) rfl
theorem q898 : (Jvm.Cond.methodLink "PulledFromUnder" (177 : Nat) ({ cls := "PulledFromUnder", name := "isOrder", desc := "(I)Z" } : Jvm.MethodName)) ∈ lw_all := lw_g (lw_at lw_m4 93 rfl) rfl
theorem q899 : (Jvm.Cond.static ({ cls := "PulledFromUnder", name := "isOrder", desc := "(I)Z" } : Jvm.MethodName)) ∈ lw_all := lw_g (lw_at lw_m4 94 rfl) rfl
theorem q900 : (Jvm.Cond.code ({ cls := "PulledFromUnder", name := "isOrder", desc := "(I)Z" } : Jvm.MethodName) prog_1_method_25_code (4 : Nat) (Option.some Jvm.ClassFile.FieldType.boolean)) ∈ lw_all := lw_g (lw_at lw_m4 95 rfl) rfl
theorem q901 : (Jvm.Cond.methodLink "PulledFromUnder" (180 : Nat) ({ cls := "PulledFromUnder", name := "standingBy", desc := "(II)I" } : Jvm.MethodName)) ∈ lw_all := lw_g (lw_at lw_m4 96 rfl) rfl
theorem q902 : (Jvm.Cond.privateMethod ({ cls := "PulledFromUnder", name := "standingBy", desc := "(II)I" } : Jvm.MethodName)) ∈ lw_tbl := lw_at lw_m4 97 rfl
theorem q903 : (Jvm.Cond.instanceMethod ({ cls := "PulledFromUnder", name := "standingBy", desc := "(II)I" } : Jvm.MethodName)) ∈ lw_all := lw_g (lw_at lw_m4 98 rfl) rfl
theorem q904 : (Jvm.Cond.code ({ cls := "PulledFromUnder", name := "standingBy", desc := "(II)I" } : Jvm.MethodName) prog_1_method_24_code (8 : Nat) (Option.some Jvm.ClassFile.FieldType.int)) ∈ lw_all := lw_g (lw_at lw_m4 99 rfl) rfl
theorem q905 : (Jvm.Cond.methodLink "PulledFromUnder" (183 : Nat) ({ cls := "java/lang/Math", name := "max", desc := "(II)I" } : Jvm.MethodName)) ∈ lw_all := lw_g (lw_at lw_m4 100 rfl) rfl
theorem q906 : (Jvm.Cond.methodLink "PulledFromUnder" (408 : Nat) ({ cls := "PulledFromUnder", name := "floorTold", desc := "(I)I" } : Jvm.MethodName)) ∈ lw_all := lw_g (lw_at lw_m4 101 rfl) rfl
theorem q907 : (Jvm.Cond.privateMethod ({ cls := "PulledFromUnder", name := "floorTold", desc := "(I)I" } : Jvm.MethodName)) ∈ lw_tbl := lw_at lw_m4 102 rfl
theorem q908 : (Jvm.Cond.instanceMethod ({ cls := "PulledFromUnder", name := "floorTold", desc := "(I)I" } : Jvm.MethodName)) ∈ lw_all := lw_g (lw_at lw_m4 103 rfl) rfl
theorem q909 : (Jvm.Cond.code ({ cls := "PulledFromUnder", name := "floorTold", desc := "(I)I" } : Jvm.MethodName) prog_1_method_64_code (2 : Nat) (Option.some Jvm.ClassFile.FieldType.int)) ∈ lw_all := lw_g (lw_at lw_m4 104 rfl) rfl
theorem q910 : (Jvm.Cond.methodLink "PulledFromUnder" (411 : Nat) ({ cls := "PulledFromUnder", name := "watchedTold", desc := "(I)I" } : Jvm.MethodName)) ∈ lw_all := lw_g (lw_at lw_m4 105 rfl) rfl
theorem q911 : (Jvm.Cond.privateMethod ({ cls := "PulledFromUnder", name := "watchedTold", desc := "(I)I" } : Jvm.MethodName)) ∈ lw_tbl := lw_at lw_m4 106 rfl
theorem q912 : (Jvm.Cond.instanceMethod ({ cls := "PulledFromUnder", name := "watchedTold", desc := "(I)I" } : Jvm.MethodName)) ∈ lw_all := lw_g (lw_at lw_m4 107 rfl) rfl
theorem q913 : (Jvm.Cond.code ({ cls := "PulledFromUnder", name := "watchedTold", desc := "(I)I" } : Jvm.MethodName) prog_1_method_65_code (2 : Nat) (Option.some Jvm.ClassFile.FieldType.int)) ∈ lw_all := lw_g (lw_at lw_m4 108 rfl) rfl
theorem q914 : (Jvm.Cond.methodLink "PulledFromUnder" (389 : Nat) ({ cls := "PulledFromUnder", name := "watching", desc := "()I" } : Jvm.MethodName)) ∈ lw_all := lw_g (lw_at lw_m4 109 rfl) rfl
theorem q915 : (Jvm.Cond.privateMethod ({ cls := "PulledFromUnder", name := "watching", desc := "()I" } : Jvm.MethodName)) ∈ lw_tbl := lw_at lw_m4 110 rfl
theorem q916 : (Jvm.Cond.instanceMethod ({ cls := "PulledFromUnder", name := "watching", desc := "()I" } : Jvm.MethodName)) ∈ lw_all := lw_g (lw_at lw_m4 111 rfl) rfl
theorem q917 : (Jvm.Cond.code ({ cls := "PulledFromUnder", name := "watching", desc := "()I" } : Jvm.MethodName) prog_1_method_27_code (3 : Nat) (Option.some Jvm.ClassFile.FieldType.int)) ∈ lw_all := lw_g (lw_at lw_m4 112 rfl) rfl
theorem q918 : (Jvm.Cond.methodLink "PulledFromUnder" (189 : Nat) ({ cls := "PulledFromUnder$Kind", name := "isWatcher", desc := "()Z" } : Jvm.MethodName)) ∈ lw_all := lw_g (lw_at lw_m4 113 rfl) rfl
theorem q933 : (Jvm.Cond.methodLink "PulledFromUnder" (392 : Nat) ({ cls := "PulledFromUnder", name := "isSure", desc := "()Z" } : Jvm.MethodName)) ∈ lw_all := lw_g (lw_at lw_m4 128 rfl) rfl
theorem q934 : (Jvm.Cond.privateMethod ({ cls := "PulledFromUnder", name := "isSure", desc := "()Z" } : Jvm.MethodName)) ∈ lw_tbl := lw_at lw_m4 129 rfl
theorem q935 : (Jvm.Cond.instanceMethod ({ cls := "PulledFromUnder", name := "isSure", desc := "()Z" } : Jvm.MethodName)) ∈ lw_all := lw_g (lw_at lw_m4 130 rfl) rfl
theorem q936 : (Jvm.Cond.code ({ cls := "PulledFromUnder", name := "isSure", desc := "()Z" } : Jvm.MethodName) prog_1_method_28_code (3 : Nat) (Option.some Jvm.ClassFile.FieldType.boolean)) ∈ lw_all := lw_g (lw_at lw_m4 131 rfl) rfl
theorem q937 : (Jvm.Cond.methodLink "PulledFromUnder" (414 : Nat) ({ cls := "PulledFromUnder", name := "rebuilt", desc := "(I)I" } : Jvm.MethodName)) ∈ lw_all := lw_g (lw_at lw_m4 132 rfl) rfl
theorem q938 : (Jvm.Cond.privateMethod ({ cls := "PulledFromUnder", name := "rebuilt", desc := "(I)I" } : Jvm.MethodName)) ∈ lw_tbl := lw_at lw_m4 133 rfl
theorem q939 : (Jvm.Cond.instanceMethod ({ cls := "PulledFromUnder", name := "rebuilt", desc := "(I)I" } : Jvm.MethodName)) ∈ lw_all := lw_g (lw_at lw_m4 134 rfl) rfl
theorem q940 : (Jvm.Cond.code ({ cls := "PulledFromUnder", name := "rebuilt", desc := "(I)I" } : Jvm.MethodName) prog_1_method_30_code (6 : Nat) (Option.some Jvm.ClassFile.FieldType.int)) ∈ lw_all := lw_g (lw_at lw_m4 135 rfl) rfl
theorem q941 : (Jvm.Cond.methodLink "PulledFromUnder" (199 : Nat) ({ cls := "PulledFromUnder", name := "leastToSet", desc := "(LPulledFromUnder$Room;)I" } : Jvm.MethodName)) ∈ lw_all := lw_g (lw_at lw_m4 136 rfl) rfl
theorem q942 : (Jvm.Cond.privateMethod ({ cls := "PulledFromUnder", name := "leastToSet", desc := "(LPulledFromUnder$Room;)I" } : Jvm.MethodName)) ∈ lw_tbl := lw_at lw_m4 137 rfl
theorem q943 : (Jvm.Cond.instanceMethod ({ cls := "PulledFromUnder", name := "leastToSet", desc := "(LPulledFromUnder$Room;)I" } : Jvm.MethodName)) ∈ lw_all := lw_g (lw_at lw_m4 138 rfl) rfl
theorem q944 : (Jvm.Cond.code ({ cls := "PulledFromUnder", name := "leastToSet", desc := "(LPulledFromUnder$Room;)I" } : Jvm.MethodName) prog_1_method_29_code (3 : Nat) (Option.some Jvm.ClassFile.FieldType.int)) ∈ lw_all := lw_g (lw_at lw_m4 139 rfl) rfl
theorem q945 : (Jvm.Cond.methodLink "PulledFromUnder" (196 : Nat) ({ cls := "PulledFromUnder$Room", name := "hasUnder", desc := "(I)Z" } : Jvm.MethodName)) ∈ lw_all := lw_g (lw_at lw_m4 140 rfl) rfl
theorem q946 : (Jvm.Cond.methodLink "PulledFromUnder" (417 : Nat) ({ cls := "PulledFromUnder", name := "twoTold", desc := "(III)I" } : Jvm.MethodName)) ∈ lw_all := lw_g (lw_at lw_m4 141 rfl) rfl
theorem q947 : (Jvm.Cond.privateMethod ({ cls := "PulledFromUnder", name := "twoTold", desc := "(III)I" } : Jvm.MethodName)) ∈ lw_tbl := lw_at lw_m4 142 rfl
theorem q948 : (Jvm.Cond.instanceMethod ({ cls := "PulledFromUnder", name := "twoTold", desc := "(III)I" } : Jvm.MethodName)) ∈ lw_all := lw_g (lw_at lw_m4 143 rfl) rfl
theorem q949 : (Jvm.Cond.code ({ cls := "PulledFromUnder", name := "twoTold", desc := "(III)I" } : Jvm.MethodName) prog_1_method_66_code (4 : Nat) (Option.some Jvm.ClassFile.FieldType.int)) ∈ lw_all := lw_g (lw_at lw_m4 144 rfl) rfl
theorem q950 : (Jvm.Cond.methodLink "PulledFromUnder" (395 : Nat) ({ cls := "PulledFromUnder", name := "restingPulls", desc := "(III)I" } : Jvm.MethodName)) ∈ lw_all := lw_g (lw_at lw_m4 145 rfl) rfl
theorem q951 : (Jvm.Cond.privateMethod ({ cls := "PulledFromUnder", name := "restingPulls", desc := "(III)I" } : Jvm.MethodName)) ∈ lw_tbl := lw_at lw_m4 146 rfl
theorem q952 : (Jvm.Cond.instanceMethod ({ cls := "PulledFromUnder", name := "restingPulls", desc := "(III)I" } : Jvm.MethodName)) ∈ lw_all := lw_g (lw_at lw_m4 147 rfl) rfl
theorem q953 : (Jvm.Cond.code ({ cls := "PulledFromUnder", name := "restingPulls", desc := "(III)I" } : Jvm.MethodName) prog_1_method_32_code (6 : Nat) (Option.some Jvm.ClassFile.FieldType.int)) ∈ lw_all := lw_g (lw_at lw_m4 148 rfl) rfl
theorem q954 : (Jvm.Cond.methodLink "PulledFromUnder" (420 : Nat) ({ cls := "PulledFromUnder", name := "ofLast", desc := "(IIII)I" } : Jvm.MethodName)) ∈ lw_all := lw_g (lw_at lw_m4 149 rfl) rfl
theorem q955 : (Jvm.Cond.privateMethod ({ cls := "PulledFromUnder", name := "ofLast", desc := "(IIII)I" } : Jvm.MethodName)) ∈ lw_tbl := lw_at lw_m4 150 rfl
theorem q956 : (Jvm.Cond.instanceMethod ({ cls := "PulledFromUnder", name := "ofLast", desc := "(IIII)I" } : Jvm.MethodName)) ∈ lw_all := lw_g (lw_at lw_m4 151 rfl) rfl
theorem q957 : (Jvm.Cond.code ({ cls := "PulledFromUnder", name := "ofLast", desc := "(IIII)I" } : Jvm.MethodName) prog_1_method_70_code (6 : Nat) (Option.some Jvm.ClassFile.FieldType.int)) ∈ lw_all := lw_g (lw_at lw_m4 152 rfl) rfl
theorem q958 : (Jvm.Cond.methodLink "PulledFromUnder" (431 : Nat) ({ cls := "PulledFromUnder", name := "whatTold", desc := "(II)I" } : Jvm.MethodName)) ∈ lw_all := lw_g (lw_at lw_m4 153 rfl) rfl
theorem q959 : (Jvm.Cond.privateMethod ({ cls := "PulledFromUnder", name := "whatTold", desc := "(II)I" } : Jvm.MethodName)) ∈ lw_tbl := lw_at lw_m4 154 rfl
theorem q960 : (Jvm.Cond.instanceMethod ({ cls := "PulledFromUnder", name := "whatTold", desc := "(II)I" } : Jvm.MethodName)) ∈ lw_all := lw_g (lw_at lw_m4 155 rfl) rfl
theorem q961 : (Jvm.Cond.code ({ cls := "PulledFromUnder", name := "whatTold", desc := "(II)I" } : Jvm.MethodName) prog_1_method_68_code (3 : Nat) (Option.some Jvm.ClassFile.FieldType.int)) ∈ lw_all := lw_g (lw_at lw_m4 156 rfl) rfl
theorem q962 : (Jvm.Cond.methodLink "PulledFromUnder" (423 : Nat) ({ cls := "PulledFromUnder", name := "fitting", desc := "(II)I" } : Jvm.MethodName)) ∈ lw_all := lw_g (lw_at lw_m4 157 rfl) rfl
theorem q963 : (Jvm.Cond.privateMethod ({ cls := "PulledFromUnder", name := "fitting", desc := "(II)I" } : Jvm.MethodName)) ∈ lw_tbl := lw_at lw_m4 158 rfl
theorem q964 : (Jvm.Cond.instanceMethod ({ cls := "PulledFromUnder", name := "fitting", desc := "(II)I" } : Jvm.MethodName)) ∈ lw_all := lw_g (lw_at lw_m4 159 rfl) rfl
theorem q965 : (Jvm.Cond.code ({ cls := "PulledFromUnder", name := "fitting", desc := "(II)I" } : Jvm.MethodName) prog_1_method_34_code (6 : Nat) (Option.some Jvm.ClassFile.FieldType.int)) ∈ lw_all := lw_g (lw_at lw_m4 160 rfl) rfl
theorem q966 : (Jvm.Cond.methodLink "PulledFromUnder" (213 : Nat) ({ cls := "PulledFromUnder", name := "isRow", desc := "(LPulledFromUnder$Room;)Z" } : Jvm.MethodName)) ∈ lw_all := lw_g (lw_at lw_m4 161 rfl) rfl
theorem q967 : (Jvm.Cond.privateMethod ({ cls := "PulledFromUnder", name := "isRow", desc := "(LPulledFromUnder$Room;)Z" } : Jvm.MethodName)) ∈ lw_tbl := lw_at lw_m4 162 rfl
theorem q968 : (Jvm.Cond.instanceMethod ({ cls := "PulledFromUnder", name := "isRow", desc := "(LPulledFromUnder$Room;)Z" } : Jvm.MethodName)) ∈ lw_all := lw_g (lw_at lw_m4 163 rfl) rfl
theorem q969 : (Jvm.Cond.code ({ cls := "PulledFromUnder", name := "isRow", desc := "(LPulledFromUnder$Room;)Z" } : Jvm.MethodName) prog_1_method_33_code (5 : Nat) (Option.some Jvm.ClassFile.FieldType.boolean)) ∈ lw_all := lw_g (lw_at lw_m4 164 rfl) rfl
theorem q970 : (Jvm.Cond.methodLink "PulledFromUnder" (434 : Nat) ({ cls := "PulledFromUnder", name := "judgeRow", desc := "()I" } : Jvm.MethodName)) ∈ lw_all := lw_g (lw_at lw_m4 165 rfl) rfl
theorem q971 : (Jvm.Cond.privateMethod ({ cls := "PulledFromUnder", name := "judgeRow", desc := "()I" } : Jvm.MethodName)) ∈ lw_tbl := lw_at lw_m4 166 rfl
theorem q972 : (Jvm.Cond.instanceMethod ({ cls := "PulledFromUnder", name := "judgeRow", desc := "()I" } : Jvm.MethodName)) ∈ lw_all := lw_g (lw_at lw_m4 167 rfl) rfl
theorem q973 : (Jvm.Cond.code ({ cls := "PulledFromUnder", name := "judgeRow", desc := "()I" } : Jvm.MethodName) prog_1_method_35_code (4 : Nat) (Option.some Jvm.ClassFile.FieldType.int)) ∈ lw_all := lw_g (lw_at lw_m4 168 rfl) rfl
theorem q974 : (Jvm.Cond.methodLink "PulledFromUnder" (437 : Nat) ({ cls := "PulledFromUnder", name := "lotsTold", desc := "(III)I" } : Jvm.MethodName)) ∈ lw_all := lw_g (lw_at lw_m4 169 rfl) rfl
theorem q975 : (Jvm.Cond.privateMethod ({ cls := "PulledFromUnder", name := "lotsTold", desc := "(III)I" } : Jvm.MethodName)) ∈ lw_tbl := lw_at lw_m4 170 rfl
theorem q976 : (Jvm.Cond.instanceMethod ({ cls := "PulledFromUnder", name := "lotsTold", desc := "(III)I" } : Jvm.MethodName)) ∈ lw_all := lw_g (lw_at lw_m4 171 rfl) rfl
theorem q977 : (Jvm.Cond.code ({ cls := "PulledFromUnder", name := "lotsTold", desc := "(III)I" } : Jvm.MethodName) prog_1_method_69_code (4 : Nat) (Option.some Jvm.ClassFile.FieldType.int)) ∈ lw_all := lw_g (lw_at lw_m4 172 rfl) rfl
theorem q978 : (Jvm.Cond.constantLong "PulledFromUnder" (426 : Nat) (20 : Int64)) ∈ lw_all := lw_g (lw_at lw_m4 173 rfl) rfl
theorem q979 : (Jvm.Cond.methodLink "PulledFromUnder" (428 : Nat) ({ cls := "PulledFromUnder", name := "byLots", desc := "(III)I" } : Jvm.MethodName)) ∈ lw_all := lw_g (lw_at lw_m4 174 rfl) rfl
theorem q980 : (Jvm.Cond.privateMethod ({ cls := "PulledFromUnder", name := "byLots", desc := "(III)I" } : Jvm.MethodName)) ∈ lw_tbl := lw_at lw_m4 175 rfl
theorem q981 : (Jvm.Cond.instanceMethod ({ cls := "PulledFromUnder", name := "byLots", desc := "(III)I" } : Jvm.MethodName)) ∈ lw_all := lw_g (lw_at lw_m4 176 rfl) rfl
theorem q982 : (Jvm.Cond.code ({ cls := "PulledFromUnder", name := "byLots", desc := "(III)I" } : Jvm.MethodName) prog_1_method_37_code (10 : Nat) (Option.some Jvm.ClassFile.FieldType.int)) ∈ lw_all := lw_g (lw_at lw_m4 177 rfl) rfl
theorem q983 : (Jvm.Cond.methodLink "PulledFromUnder" (225 : Nat) ({ cls := "PulledFromUnder", name := "drawBelow", desc := "(I)I" } : Jvm.MethodName)) ∈ lw_all := lw_g (lw_at lw_m4 178 rfl) rfl
theorem q984 : (Jvm.Cond.privateMethod ({ cls := "PulledFromUnder", name := "drawBelow", desc := "(I)I" } : Jvm.MethodName)) ∈ lw_tbl := lw_at lw_m4 179 rfl
theorem q985 : (Jvm.Cond.instanceMethod ({ cls := "PulledFromUnder", name := "drawBelow", desc := "(I)I" } : Jvm.MethodName)) ∈ lw_all := lw_g (lw_at lw_m4 180 rfl) rfl
theorem q986 : (Jvm.Cond.code ({ cls := "PulledFromUnder", name := "drawBelow", desc := "(I)I" } : Jvm.MethodName) prog_1_method_36_code (2 : Nat) (Option.some Jvm.ClassFile.FieldType.int)) ∈ lw_all := lw_g (lw_at lw_m4 181 rfl) rfl
theorem q987 : (Jvm.Cond.constant "PulledFromUnder" (222 : Nat) (1664525 : Int32)) ∈ lw_all := lw_g (lw_at lw_m4 182 rfl) rfl
theorem q988 : (Jvm.Cond.constant "PulledFromUnder" (223 : Nat) (1013904223 : Int32)) ∈ lw_all := lw_g (lw_at lw_m4 183 rfl) rfl
theorem q989 : (Jvm.Cond.constant "PulledFromUnder" (224 : Nat) (2147483647 : Int32)) ∈ lw_all := lw_g (lw_at lw_m4 184 rfl) rfl
theorem q990 : (Jvm.Cond.methodLink "PulledFromUnder" (241 : Nat) ({ cls := "PulledFromUnder$Refusal", name := "number", desc := "()I" } : Jvm.MethodName)) ∈ lw_all := lw_g (lw_at lw_m4 185 rfl) rfl
theorem q999 : (Jvm.Cond.methodLink "PulledFromUnder" (244 : Nat) ({ cls := "PulledFromUnder", name := "refuse", desc := "(I)I" } : Jvm.MethodName)) ∈ lw_all := lw_g (lw_at lw_m4 194 rfl) rfl
theorem q1000 : (Jvm.Cond.privateMethod ({ cls := "PulledFromUnder", name := "refuse", desc := "(I)I" } : Jvm.MethodName)) ∈ lw_tbl := lw_at lw_m4 195 rfl
theorem q1001 : (Jvm.Cond.instanceMethod ({ cls := "PulledFromUnder", name := "refuse", desc := "(I)I" } : Jvm.MethodName)) ∈ lw_all := lw_g (lw_at lw_m4 196 rfl) rfl
theorem q1002 : (Jvm.Cond.code ({ cls := "PulledFromUnder", name := "refuse", desc := "(I)I" } : Jvm.MethodName) prog_1_method_38_code (2 : Nat) (Option.some Jvm.ClassFile.FieldType.int)) ∈ lw_all := lw_g (lw_at lw_m4 197 rfl) rfl
theorem q1004 : (Jvm.Cond.instanceMethod ({ cls := "PulledFromUnder", name := "room", desc := "()I" } : Jvm.MethodName)) ∈ lw_all := lw_g (lw_at lw_m4 199 rfl) rfl
theorem q1005 : (Jvm.Cond.selects "PulledFromUnder" ({ cls := "PulledFromUnder", name := "room", desc := "()I" } : Jvm.MethodName) ({ cls := "PulledFromUnder", name := "room", desc := "()I" } : Jvm.MethodName)) ∈ lw_all := lw_g (lw_at lw_m4 200 rfl) rfl
theorem q1006 : (Jvm.Cond.code ({ cls := "PulledFromUnder", name := "room", desc := "()I" } : Jvm.MethodName) prog_1_method_73_code (1 : Nat) (Option.some Jvm.ClassFile.FieldType.int)) ∈ lw_all := lw_g (lw_at lw_m4 201 rfl) rfl
theorem q1008 : (Jvm.Cond.instanceMethod ({ cls := "PulledFromUnder", name := "thing", desc := "(II)I" } : Jvm.MethodName)) ∈ lw_all := lw_g (lw_at lw_m4 203 rfl) rfl
theorem q1009 : (Jvm.Cond.selects "PulledFromUnder" ({ cls := "PulledFromUnder", name := "thing", desc := "(II)I" } : Jvm.MethodName) ({ cls := "PulledFromUnder", name := "thing", desc := "(II)I" } : Jvm.MethodName)) ∈ lw_all := lw_g (lw_at lw_m4 204 rfl) rfl
theorem q1010 : (Jvm.Cond.code ({ cls := "PulledFromUnder", name := "thing", desc := "(II)I" } : Jvm.MethodName) prog_1_method_74_code (3 : Nat) (Option.some Jvm.ClassFile.FieldType.int)) ∈ lw_all := lw_g (lw_at lw_m4 205 rfl) rfl
theorem q1012 : (Jvm.Cond.instanceMethod ({ cls := "PulledFromUnder", name := "pulls", desc := "(II)I" } : Jvm.MethodName)) ∈ lw_all := lw_g (lw_at lw_m4 207 rfl) rfl
theorem q1013 : (Jvm.Cond.selects "PulledFromUnder" ({ cls := "PulledFromUnder", name := "pulls", desc := "(II)I" } : Jvm.MethodName) ({ cls := "PulledFromUnder", name := "pulls", desc := "(II)I" } : Jvm.MethodName)) ∈ lw_all := lw_g (lw_at lw_m4 208 rfl) rfl
theorem q1014 : (Jvm.Cond.code ({ cls := "PulledFromUnder", name := "pulls", desc := "(II)I" } : Jvm.MethodName) prog_1_method_75_code (3 : Nat) (Option.some Jvm.ClassFile.FieldType.int)) ∈ lw_all := lw_g (lw_at lw_m4 209 rfl) rfl
theorem q1016 : (Jvm.Cond.instanceMethod ({ cls := "PulledFromUnder", name := "floor", desc := "(I)I" } : Jvm.MethodName)) ∈ lw_all := lw_g (lw_at lw_m4 211 rfl) rfl
theorem q1017 : (Jvm.Cond.selects "PulledFromUnder" ({ cls := "PulledFromUnder", name := "floor", desc := "(I)I" } : Jvm.MethodName) ({ cls := "PulledFromUnder", name := "floor", desc := "(I)I" } : Jvm.MethodName)) ∈ lw_all := lw_g (lw_at lw_m4 212 rfl) rfl
theorem q1018 : (Jvm.Cond.code ({ cls := "PulledFromUnder", name := "floor", desc := "(I)I" } : Jvm.MethodName) prog_1_method_76_code (2 : Nat) (Option.some Jvm.ClassFile.FieldType.int)) ∈ lw_all := lw_g (lw_at lw_m4 213 rfl) rfl
theorem q1020 : (Jvm.Cond.instanceMethod ({ cls := "PulledFromUnder", name := "lays", desc := "()I" } : Jvm.MethodName)) ∈ lw_all := lw_g (lw_at lw_m4 215 rfl) rfl
theorem q1021 : (Jvm.Cond.selects "PulledFromUnder" ({ cls := "PulledFromUnder", name := "lays", desc := "()I" } : Jvm.MethodName) ({ cls := "PulledFromUnder", name := "lays", desc := "()I" } : Jvm.MethodName)) ∈ lw_all := lw_g (lw_at lw_m4 216 rfl) rfl
theorem q1022 : (Jvm.Cond.code ({ cls := "PulledFromUnder", name := "lays", desc := "()I" } : Jvm.MethodName) prog_1_method_77_code (1 : Nat) (Option.some Jvm.ClassFile.FieldType.int)) ∈ lw_all := lw_g (lw_at lw_m4 217 rfl) rfl
theorem q1024 : (Jvm.Cond.instanceMethod ({ cls := "PulledFromUnder", name := "setsUp", desc := "(I)I" } : Jvm.MethodName)) ∈ lw_all := lw_g (lw_at lw_m4 219 rfl) rfl
theorem q1025 : (Jvm.Cond.selects "PulledFromUnder" ({ cls := "PulledFromUnder", name := "setsUp", desc := "(I)I" } : Jvm.MethodName) ({ cls := "PulledFromUnder", name := "setsUp", desc := "(I)I" } : Jvm.MethodName)) ∈ lw_all := lw_g (lw_at lw_m4 220 rfl) rfl
theorem q1026 : (Jvm.Cond.code ({ cls := "PulledFromUnder", name := "setsUp", desc := "(I)I" } : Jvm.MethodName) prog_1_method_78_code (2 : Nat) (Option.some Jvm.ClassFile.FieldType.int)) ∈ lw_all := lw_g (lw_at lw_m4 221 rfl) rfl
theorem q1028 : (Jvm.Cond.instanceMethod ({ cls := "PulledFromUnder", name := "turn", desc := "(III)I" } : Jvm.MethodName)) ∈ lw_all := lw_g (lw_at lw_m4 223 rfl) rfl
theorem q1029 : (Jvm.Cond.selects "PulledFromUnder" ({ cls := "PulledFromUnder", name := "turn", desc := "(III)I" } : Jvm.MethodName) ({ cls := "PulledFromUnder", name := "turn", desc := "(III)I" } : Jvm.MethodName)) ∈ lw_all := lw_g (lw_at lw_m4 224 rfl) rfl
theorem q1030 : (Jvm.Cond.code ({ cls := "PulledFromUnder", name := "turn", desc := "(III)I" } : Jvm.MethodName) prog_1_method_79_code (4 : Nat) (Option.some Jvm.ClassFile.FieldType.int)) ∈ lw_all := lw_g (lw_at lw_m4 225 rfl) rfl
theorem q1032 : (Jvm.Cond.instanceMethod ({ cls := "PulledFromUnder", name := "minutes", desc := "(I)I" } : Jvm.MethodName)) ∈ lw_all := lw_g (lw_at lw_m4 227 rfl) rfl
theorem q1033 : (Jvm.Cond.selects "PulledFromUnder" ({ cls := "PulledFromUnder", name := "minutes", desc := "(I)I" } : Jvm.MethodName) ({ cls := "PulledFromUnder", name := "minutes", desc := "(I)I" } : Jvm.MethodName)) ∈ lw_all := lw_g (lw_at lw_m4 228 rfl) rfl
theorem q1034 : (Jvm.Cond.code ({ cls := "PulledFromUnder", name := "minutes", desc := "(I)I" } : Jvm.MethodName) prog_1_method_80_code (2 : Nat) (Option.some Jvm.ClassFile.FieldType.int)) ∈ lw_all := lw_g (lw_at lw_m4 229 rfl) rfl
theorem q1036 : (Jvm.Cond.instanceMethod ({ cls := "PulledFromUnder", name := "behind", desc := "(III)I" } : Jvm.MethodName)) ∈ lw_all := lw_g (lw_at lw_m4 231 rfl) rfl
theorem q1037 : (Jvm.Cond.selects "PulledFromUnder" ({ cls := "PulledFromUnder", name := "behind", desc := "(III)I" } : Jvm.MethodName) ({ cls := "PulledFromUnder", name := "behind", desc := "(III)I" } : Jvm.MethodName)) ∈ lw_all := lw_g (lw_at lw_m4 232 rfl) rfl
theorem q1038 : (Jvm.Cond.code ({ cls := "PulledFromUnder", name := "behind", desc := "(III)I" } : Jvm.MethodName) prog_1_method_81_code (4 : Nat) (Option.some Jvm.ClassFile.FieldType.int)) ∈ lw_all := lw_g (lw_at lw_m4 233 rfl) rfl
theorem q1040 : (Jvm.Cond.instanceMethod ({ cls := "PulledFromUnder", name := "falls", desc := "(I)I" } : Jvm.MethodName)) ∈ lw_all := lw_g (lw_at lw_m4 235 rfl) rfl
theorem q1041 : (Jvm.Cond.selects "PulledFromUnder" ({ cls := "PulledFromUnder", name := "falls", desc := "(I)I" } : Jvm.MethodName) ({ cls := "PulledFromUnder", name := "falls", desc := "(I)I" } : Jvm.MethodName)) ∈ lw_all := lw_g (lw_at lw_m4 236 rfl) rfl
theorem q1042 : (Jvm.Cond.code ({ cls := "PulledFromUnder", name := "falls", desc := "(I)I" } : Jvm.MethodName) prog_1_method_82_code (2 : Nat) (Option.some Jvm.ClassFile.FieldType.int)) ∈ lw_all := lw_g (lw_at lw_m4 237 rfl) rfl
theorem q1044 : (Jvm.Cond.instanceMethod ({ cls := "PulledFromUnder", name := "first", desc := "(I)I" } : Jvm.MethodName)) ∈ lw_all := lw_g (lw_at lw_m4 239 rfl) rfl
theorem q1045 : (Jvm.Cond.selects "PulledFromUnder" ({ cls := "PulledFromUnder", name := "first", desc := "(I)I" } : Jvm.MethodName) ({ cls := "PulledFromUnder", name := "first", desc := "(I)I" } : Jvm.MethodName)) ∈ lw_all := lw_g (lw_at lw_m5 0 rfl) rfl
theorem q1046 : (Jvm.Cond.code ({ cls := "PulledFromUnder", name := "first", desc := "(I)I" } : Jvm.MethodName) prog_1_method_83_code (2 : Nat) (Option.some Jvm.ClassFile.FieldType.int)) ∈ lw_all := lw_g (lw_at lw_m5 1 rfl) rfl
theorem q1048 : (Jvm.Cond.instanceMethod ({ cls := "PulledFromUnder", name := "allStand", desc := "()I" } : Jvm.MethodName)) ∈ lw_all := lw_g (lw_at lw_m5 3 rfl) rfl
theorem q1049 : (Jvm.Cond.selects "PulledFromUnder" ({ cls := "PulledFromUnder", name := "allStand", desc := "()I" } : Jvm.MethodName) ({ cls := "PulledFromUnder", name := "allStand", desc := "()I" } : Jvm.MethodName)) ∈ lw_all := lw_g (lw_at lw_m5 4 rfl) rfl
theorem q1050 : (Jvm.Cond.code ({ cls := "PulledFromUnder", name := "allStand", desc := "()I" } : Jvm.MethodName) prog_1_method_84_code (1 : Nat) (Option.some Jvm.ClassFile.FieldType.int)) ∈ lw_all := lw_g (lw_at lw_m5 5 rfl) rfl
theorem q1052 : (Jvm.Cond.instanceMethod ({ cls := "PulledFromUnder", name := "tower", desc := "(II)I" } : Jvm.MethodName)) ∈ lw_all := lw_g (lw_at lw_m5 7 rfl) rfl
theorem q1053 : (Jvm.Cond.selects "PulledFromUnder" ({ cls := "PulledFromUnder", name := "tower", desc := "(II)I" } : Jvm.MethodName) ({ cls := "PulledFromUnder", name := "tower", desc := "(II)I" } : Jvm.MethodName)) ∈ lw_all := lw_g (lw_at lw_m5 8 rfl) rfl
theorem q1054 : (Jvm.Cond.code ({ cls := "PulledFromUnder", name := "tower", desc := "(II)I" } : Jvm.MethodName) prog_1_method_85_code (3 : Nat) (Option.some Jvm.ClassFile.FieldType.int)) ∈ lw_all := lw_g (lw_at lw_m5 9 rfl) rfl
theorem q1056 : (Jvm.Cond.instanceMethod ({ cls := "PulledFromUnder", name := "leastSpeed", desc := "(I)I" } : Jvm.MethodName)) ∈ lw_all := lw_g (lw_at lw_m5 11 rfl) rfl
theorem q1057 : (Jvm.Cond.selects "PulledFromUnder" ({ cls := "PulledFromUnder", name := "leastSpeed", desc := "(I)I" } : Jvm.MethodName) ({ cls := "PulledFromUnder", name := "leastSpeed", desc := "(I)I" } : Jvm.MethodName)) ∈ lw_all := lw_g (lw_at lw_m5 12 rfl) rfl
theorem q1058 : (Jvm.Cond.code ({ cls := "PulledFromUnder", name := "leastSpeed", desc := "(I)I" } : Jvm.MethodName) prog_1_method_86_code (2 : Nat) (Option.some Jvm.ClassFile.FieldType.int)) ∈ lw_all := lw_g (lw_at lw_m5 13 rfl) rfl
theorem q1060 : (Jvm.Cond.instanceMethod ({ cls := "PulledFromUnder", name := "atOnce", desc := "(II)I" } : Jvm.MethodName)) ∈ lw_all := lw_g (lw_at lw_m5 15 rfl) rfl
theorem q1061 : (Jvm.Cond.selects "PulledFromUnder" ({ cls := "PulledFromUnder", name := "atOnce", desc := "(II)I" } : Jvm.MethodName) ({ cls := "PulledFromUnder", name := "atOnce", desc := "(II)I" } : Jvm.MethodName)) ∈ lw_all := lw_g (lw_at lw_m5 16 rfl) rfl
theorem q1062 : (Jvm.Cond.code ({ cls := "PulledFromUnder", name := "atOnce", desc := "(II)I" } : Jvm.MethodName) prog_1_method_87_code (3 : Nat) (Option.some Jvm.ClassFile.FieldType.int)) ∈ lw_all := lw_g (lw_at lw_m5 17 rfl) rfl
theorem q1064 : (Jvm.Cond.instanceMethod ({ cls := "PulledFromUnder", name := "later", desc := "(III)I" } : Jvm.MethodName)) ∈ lw_all := lw_g (lw_at lw_m5 19 rfl) rfl
theorem q1065 : (Jvm.Cond.selects "PulledFromUnder" ({ cls := "PulledFromUnder", name := "later", desc := "(III)I" } : Jvm.MethodName) ({ cls := "PulledFromUnder", name := "later", desc := "(III)I" } : Jvm.MethodName)) ∈ lw_all := lw_g (lw_at lw_m5 20 rfl) rfl
theorem q1066 : (Jvm.Cond.code ({ cls := "PulledFromUnder", name := "later", desc := "(III)I" } : Jvm.MethodName) prog_1_method_88_code (4 : Nat) (Option.some Jvm.ClassFile.FieldType.int)) ∈ lw_all := lw_g (lw_at lw_m5 21 rfl) rfl
theorem q1068 : (Jvm.Cond.instanceMethod ({ cls := "PulledFromUnder", name := "pullMost", desc := "(III)I" } : Jvm.MethodName)) ∈ lw_all := lw_g (lw_at lw_m5 23 rfl) rfl
theorem q1069 : (Jvm.Cond.selects "PulledFromUnder" ({ cls := "PulledFromUnder", name := "pullMost", desc := "(III)I" } : Jvm.MethodName) ({ cls := "PulledFromUnder", name := "pullMost", desc := "(III)I" } : Jvm.MethodName)) ∈ lw_all := lw_g (lw_at lw_m5 24 rfl) rfl
theorem q1070 : (Jvm.Cond.code ({ cls := "PulledFromUnder", name := "pullMost", desc := "(III)I" } : Jvm.MethodName) prog_1_method_89_code (4 : Nat) (Option.some Jvm.ClassFile.FieldType.int)) ∈ lw_all := lw_g (lw_at lw_m5 25 rfl) rfl
theorem q1072 : (Jvm.Cond.instanceMethod ({ cls := "PulledFromUnder", name := "key", desc := "(I)I" } : Jvm.MethodName)) ∈ lw_all := lw_g (lw_at lw_m5 27 rfl) rfl
theorem q1073 : (Jvm.Cond.selects "PulledFromUnder" ({ cls := "PulledFromUnder", name := "key", desc := "(I)I" } : Jvm.MethodName) ({ cls := "PulledFromUnder", name := "key", desc := "(I)I" } : Jvm.MethodName)) ∈ lw_all := lw_g (lw_at lw_m5 28 rfl) rfl
theorem q1074 : (Jvm.Cond.code ({ cls := "PulledFromUnder", name := "key", desc := "(I)I" } : Jvm.MethodName) prog_1_method_90_code (2 : Nat) (Option.some Jvm.ClassFile.FieldType.int)) ∈ lw_all := lw_g (lw_at lw_m5 29 rfl) rfl
theorem q1076 : (Jvm.Cond.instanceMethod ({ cls := "PulledFromUnder", name := "prop", desc := "(I)I" } : Jvm.MethodName)) ∈ lw_all := lw_g (lw_at lw_m5 31 rfl) rfl
theorem q1077 : (Jvm.Cond.selects "PulledFromUnder" ({ cls := "PulledFromUnder", name := "prop", desc := "(I)I" } : Jvm.MethodName) ({ cls := "PulledFromUnder", name := "prop", desc := "(I)I" } : Jvm.MethodName)) ∈ lw_all := lw_g (lw_at lw_m5 32 rfl) rfl
theorem q1078 : (Jvm.Cond.code ({ cls := "PulledFromUnder", name := "prop", desc := "(I)I" } : Jvm.MethodName) prog_1_method_91_code (2 : Nat) (Option.some Jvm.ClassFile.FieldType.int)) ∈ lw_all := lw_g (lw_at lw_m5 33 rfl) rfl
theorem q1080 : (Jvm.Cond.instanceMethod ({ cls := "PulledFromUnder", name := "order", desc := "(IIIII)I" } : Jvm.MethodName)) ∈ lw_all := lw_g (lw_at lw_m5 35 rfl) rfl
theorem q1081 : (Jvm.Cond.selects "PulledFromUnder" ({ cls := "PulledFromUnder", name := "order", desc := "(IIIII)I" } : Jvm.MethodName) ({ cls := "PulledFromUnder", name := "order", desc := "(IIIII)I" } : Jvm.MethodName)) ∈ lw_all := lw_g (lw_at lw_m5 36 rfl) rfl
theorem q1082 : (Jvm.Cond.code ({ cls := "PulledFromUnder", name := "order", desc := "(IIIII)I" } : Jvm.MethodName) prog_1_method_92_code (6 : Nat) (Option.some Jvm.ClassFile.FieldType.int)) ∈ lw_all := lw_g (lw_at lw_m5 37 rfl) rfl
theorem q1084 : (Jvm.Cond.instanceMethod ({ cls := "PulledFromUnder", name := "floorFalls", desc := "(I)I" } : Jvm.MethodName)) ∈ lw_all := lw_g (lw_at lw_m5 39 rfl) rfl
theorem q1085 : (Jvm.Cond.selects "PulledFromUnder" ({ cls := "PulledFromUnder", name := "floorFalls", desc := "(I)I" } : Jvm.MethodName) ({ cls := "PulledFromUnder", name := "floorFalls", desc := "(I)I" } : Jvm.MethodName)) ∈ lw_all := lw_g (lw_at lw_m5 40 rfl) rfl
theorem q1086 : (Jvm.Cond.code ({ cls := "PulledFromUnder", name := "floorFalls", desc := "(I)I" } : Jvm.MethodName) prog_1_method_93_code (2 : Nat) (Option.some Jvm.ClassFile.FieldType.int)) ∈ lw_all := lw_g (lw_at lw_m5 41 rfl) rfl
theorem q1088 : (Jvm.Cond.instanceMethod ({ cls := "PulledFromUnder", name := "watched", desc := "(I)I" } : Jvm.MethodName)) ∈ lw_all := lw_g (lw_at lw_m5 43 rfl) rfl
theorem q1089 : (Jvm.Cond.selects "PulledFromUnder" ({ cls := "PulledFromUnder", name := "watched", desc := "(I)I" } : Jvm.MethodName) ({ cls := "PulledFromUnder", name := "watched", desc := "(I)I" } : Jvm.MethodName)) ∈ lw_all := lw_g (lw_at lw_m5 44 rfl) rfl
theorem q1090 : (Jvm.Cond.code ({ cls := "PulledFromUnder", name := "watched", desc := "(I)I" } : Jvm.MethodName) prog_1_method_94_code (2 : Nat) (Option.some Jvm.ClassFile.FieldType.int)) ∈ lw_all := lw_g (lw_at lw_m5 45 rfl) rfl
theorem q1092 : (Jvm.Cond.instanceMethod ({ cls := "PulledFromUnder", name := "rebuild", desc := "(I)I" } : Jvm.MethodName)) ∈ lw_all := lw_g (lw_at lw_m5 47 rfl) rfl
theorem q1093 : (Jvm.Cond.selects "PulledFromUnder" ({ cls := "PulledFromUnder", name := "rebuild", desc := "(I)I" } : Jvm.MethodName) ({ cls := "PulledFromUnder", name := "rebuild", desc := "(I)I" } : Jvm.MethodName)) ∈ lw_all := lw_g (lw_at lw_m5 48 rfl) rfl
theorem q1094 : (Jvm.Cond.code ({ cls := "PulledFromUnder", name := "rebuild", desc := "(I)I" } : Jvm.MethodName) prog_1_method_95_code (2 : Nat) (Option.some Jvm.ClassFile.FieldType.int)) ∈ lw_all := lw_g (lw_at lw_m5 49 rfl) rfl
theorem q1096 : (Jvm.Cond.instanceMethod ({ cls := "PulledFromUnder", name := "draught", desc := "(IIII)J" } : Jvm.MethodName)) ∈ lw_all := lw_g (lw_at lw_m5 51 rfl) rfl
theorem q1097 : (Jvm.Cond.selects "PulledFromUnder" ({ cls := "PulledFromUnder", name := "draught", desc := "(IIII)J" } : Jvm.MethodName) ({ cls := "PulledFromUnder", name := "draught", desc := "(IIII)J" } : Jvm.MethodName)) ∈ lw_all := lw_g (lw_at lw_m5 52 rfl) rfl
theorem q1098 : (Jvm.Cond.code ({ cls := "PulledFromUnder", name := "draught", desc := "(IIII)J" } : Jvm.MethodName) prog_1_method_96_code (5 : Nat) (Option.some Jvm.ClassFile.FieldType.long)) ∈ lw_all := lw_g (lw_at lw_m5 53 rfl) rfl
theorem q1099 : (Jvm.Cond.methodLink "PulledFromUnder" (454 : Nat) ({ cls := "PulledFromUnder", name := "draughtTold", desc := "(IIII)J" } : Jvm.MethodName)) ∈ lw_all := lw_g (lw_at lw_m5 54 rfl) rfl
theorem q1100 : (Jvm.Cond.privateMethod ({ cls := "PulledFromUnder", name := "draughtTold", desc := "(IIII)J" } : Jvm.MethodName)) ∈ lw_tbl := lw_at lw_m5 55 rfl
theorem q1101 : (Jvm.Cond.instanceMethod ({ cls := "PulledFromUnder", name := "draughtTold", desc := "(IIII)J" } : Jvm.MethodName)) ∈ lw_all := lw_g (lw_at lw_m5 56 rfl) rfl
theorem q1102 : (Jvm.Cond.codeWith ({ cls := "PulledFromUnder", name := "draughtTold", desc := "(IIII)J" } : Jvm.MethodName) prog_1_method_71_code (6 : Nat) (Option.some Jvm.ClassFile.FieldType.long) [((0 : Nat), (60 : Nat), (61 : Nat), (239 : Nat))]) ∈ lw_all := lw_g (lw_at lw_m5 57 rfl) rfl
theorem q1103 : (Jvm.Cond.methodLink "PulledFromUnder" (443 : Nat) ({ cls := "PulledFromUnder", name := "draughtPart", desc := "(IIII)J" } : Jvm.MethodName)) ∈ lw_all := lw_g (lw_at lw_m5 58 rfl) rfl
theorem q1104 : (Jvm.Cond.privateMethod ({ cls := "PulledFromUnder", name := "draughtPart", desc := "(IIII)J" } : Jvm.MethodName)) ∈ lw_tbl := lw_at lw_m5 59 rfl
theorem q1105 : (Jvm.Cond.instanceMethod ({ cls := "PulledFromUnder", name := "draughtPart", desc := "(IIII)J" } : Jvm.MethodName)) ∈ lw_all := lw_g (lw_at lw_m5 60 rfl) rfl
theorem q1106 : (Jvm.Cond.code ({ cls := "PulledFromUnder", name := "draughtPart", desc := "(IIII)J" } : Jvm.MethodName) prog_1_method_31_code (14 : Nat) (Option.some Jvm.ClassFile.FieldType.long)) ∈ lw_all := lw_g (lw_at lw_m5 61 rfl) rfl
theorem q1107 : (Jvm.Cond.methodLink "PulledFromUnder" (206 : Nat) ({ cls := "PulledFromUnder", name := "partOf", desc := "(JJI)J" } : Jvm.MethodName)) ∈ lw_all := lw_g (lw_at lw_m5 62 rfl) rfl
theorem q1108 : (Jvm.Cond.static ({ cls := "PulledFromUnder", name := "partOf", desc := "(JJI)J" } : Jvm.MethodName)) ∈ lw_all := lw_g (lw_at lw_m5 63 rfl) rfl
theorem q1109 : (Jvm.Cond.code ({ cls := "PulledFromUnder", name := "partOf", desc := "(JJI)J" } : Jvm.MethodName) prog_1_method_8_code (7 : Nat) (Option.some Jvm.ClassFile.FieldType.long)) ∈ lw_all := lw_g (lw_at lw_m5 64 rfl) rfl
theorem q1110 : (Jvm.Cond.methodLink "PulledFromUnder" (17 : Nat) ({ cls := "PulledFromUnder", name := "divisor", desc := "(JJ)J" } : Jvm.MethodName)) ∈ lw_all := lw_g (lw_at lw_m5 65 rfl) rfl
theorem q1111 : (Jvm.Cond.static ({ cls := "PulledFromUnder", name := "divisor", desc := "(JJ)J" } : Jvm.MethodName)) ∈ lw_all := lw_g (lw_at lw_m5 66 rfl) rfl
theorem q1112 : (Jvm.Cond.code ({ cls := "PulledFromUnder", name := "divisor", desc := "(JJ)J" } : Jvm.MethodName) prog_1_method_7_code (10 : Nat) (Option.some Jvm.ClassFile.FieldType.long)) ∈ lw_all := lw_g (lw_at lw_m5 67 rfl) rfl
theorem q1113 : (Jvm.Cond.methodLink "PulledFromUnder" (447 : Nat) ({ cls := "PulledFromUnder", name := "far", desc := "(LPulledFromUnder$Refusal;)J" } : Jvm.MethodName)) ∈ lw_all := lw_g (lw_at lw_m5 68 rfl) rfl
theorem q1114 : (Jvm.Cond.privateMethod ({ cls := "PulledFromUnder", name := "far", desc := "(LPulledFromUnder$Refusal;)J" } : Jvm.MethodName)) ∈ lw_tbl := lw_at lw_m5 69 rfl
theorem q1115 : (Jvm.Cond.instanceMethod ({ cls := "PulledFromUnder", name := "far", desc := "(LPulledFromUnder$Refusal;)J" } : Jvm.MethodName)) ∈ lw_all := lw_g (lw_at lw_m5 70 rfl) rfl
theorem q1116 : (Jvm.Cond.code ({ cls := "PulledFromUnder", name := "far", desc := "(LPulledFromUnder$Refusal;)J" } : Jvm.MethodName) prog_1_method_40_code (2 : Nat) (Option.some Jvm.ClassFile.FieldType.long)) ∈ lw_all := lw_g (lw_at lw_m5 71 rfl) rfl
theorem q1117 : (Jvm.Cond.constantLong "PulledFromUnder" (247 : Nat) (4000000000000000000 : Int64)) ∈ lw_all := lw_g (lw_at lw_m5 72 rfl) rfl
theorem q1119 : (Jvm.Cond.instanceMethod ({ cls := "PulledFromUnder", name := "two", desc := "(III)I" } : Jvm.MethodName)) ∈ lw_all := lw_g (lw_at lw_m5 74 rfl) rfl
theorem q1120 : (Jvm.Cond.selects "PulledFromUnder" ({ cls := "PulledFromUnder", name := "two", desc := "(III)I" } : Jvm.MethodName) ({ cls := "PulledFromUnder", name := "two", desc := "(III)I" } : Jvm.MethodName)) ∈ lw_all := lw_g (lw_at lw_m5 75 rfl) rfl
theorem q1121 : (Jvm.Cond.code ({ cls := "PulledFromUnder", name := "two", desc := "(III)I" } : Jvm.MethodName) prog_1_method_97_code (4 : Nat) (Option.some Jvm.ClassFile.FieldType.int)) ∈ lw_all := lw_g (lw_at lw_m5 76 rfl) rfl
theorem q1123 : (Jvm.Cond.instanceMethod ({ cls := "PulledFromUnder", name := "whatWas", desc := "(II)I" } : Jvm.MethodName)) ∈ lw_all := lw_g (lw_at lw_m5 78 rfl) rfl
theorem q1124 : (Jvm.Cond.selects "PulledFromUnder" ({ cls := "PulledFromUnder", name := "whatWas", desc := "(II)I" } : Jvm.MethodName) ({ cls := "PulledFromUnder", name := "whatWas", desc := "(II)I" } : Jvm.MethodName)) ∈ lw_all := lw_g (lw_at lw_m5 79 rfl) rfl
theorem q1125 : (Jvm.Cond.code ({ cls := "PulledFromUnder", name := "whatWas", desc := "(II)I" } : Jvm.MethodName) prog_1_method_98_code (3 : Nat) (Option.some Jvm.ClassFile.FieldType.int)) ∈ lw_all := lw_g (lw_at lw_m5 80 rfl) rfl
theorem q1127 : (Jvm.Cond.instanceMethod ({ cls := "PulledFromUnder", name := "row", desc := "(I)I" } : Jvm.MethodName)) ∈ lw_all := lw_g (lw_at lw_m5 82 rfl) rfl
theorem q1128 : (Jvm.Cond.selects "PulledFromUnder" ({ cls := "PulledFromUnder", name := "row", desc := "(I)I" } : Jvm.MethodName) ({ cls := "PulledFromUnder", name := "row", desc := "(I)I" } : Jvm.MethodName)) ∈ lw_all := lw_g (lw_at lw_m5 83 rfl) rfl
theorem q1129 : (Jvm.Cond.code ({ cls := "PulledFromUnder", name := "row", desc := "(I)I" } : Jvm.MethodName) prog_1_method_99_code (2 : Nat) (Option.some Jvm.ClassFile.FieldType.int)) ∈ lw_all := lw_g (lw_at lw_m5 84 rfl) rfl
theorem q1131 : (Jvm.Cond.instanceMethod ({ cls := "PulledFromUnder", name := "judge", desc := "()I" } : Jvm.MethodName)) ∈ lw_all := lw_g (lw_at lw_m5 86 rfl) rfl
theorem q1132 : (Jvm.Cond.selects "PulledFromUnder" ({ cls := "PulledFromUnder", name := "judge", desc := "()I" } : Jvm.MethodName) ({ cls := "PulledFromUnder", name := "judge", desc := "()I" } : Jvm.MethodName)) ∈ lw_all := lw_g (lw_at lw_m5 87 rfl) rfl
theorem q1133 : (Jvm.Cond.code ({ cls := "PulledFromUnder", name := "judge", desc := "()I" } : Jvm.MethodName) prog_1_method_100_code (1 : Nat) (Option.some Jvm.ClassFile.FieldType.int)) ∈ lw_all := lw_g (lw_at lw_m5 88 rfl) rfl
theorem q1135 : (Jvm.Cond.instanceMethod ({ cls := "PulledFromUnder", name := "clear", desc := "()I" } : Jvm.MethodName)) ∈ lw_all := lw_g (lw_at lw_m5 90 rfl) rfl
theorem q1136 : (Jvm.Cond.selects "PulledFromUnder" ({ cls := "PulledFromUnder", name := "clear", desc := "()I" } : Jvm.MethodName) ({ cls := "PulledFromUnder", name := "clear", desc := "()I" } : Jvm.MethodName)) ∈ lw_all := lw_g (lw_at lw_m5 91 rfl) rfl
theorem q1137 : (Jvm.Cond.code ({ cls := "PulledFromUnder", name := "clear", desc := "()I" } : Jvm.MethodName) prog_1_method_101_code (1 : Nat) (Option.some Jvm.ClassFile.FieldType.int)) ∈ lw_all := lw_g (lw_at lw_m5 92 rfl) rfl
theorem q1139 : (Jvm.Cond.instanceMethod ({ cls := "PulledFromUnder", name := "lots", desc := "(III)I" } : Jvm.MethodName)) ∈ lw_all := lw_g (lw_at lw_m5 94 rfl) rfl
theorem q1140 : (Jvm.Cond.selects "PulledFromUnder" ({ cls := "PulledFromUnder", name := "lots", desc := "(III)I" } : Jvm.MethodName) ({ cls := "PulledFromUnder", name := "lots", desc := "(III)I" } : Jvm.MethodName)) ∈ lw_all := lw_g (lw_at lw_m5 95 rfl) rfl
theorem q1141 : (Jvm.Cond.code ({ cls := "PulledFromUnder", name := "lots", desc := "(III)I" } : Jvm.MethodName) prog_1_method_102_code (4 : Nat) (Option.some Jvm.ClassFile.FieldType.int)) ∈ lw_all := lw_g (lw_at lw_m5 96 rfl) rfl
theorem q1143 : (Jvm.Cond.instanceMethod ({ cls := "PulledFromUnder", name := "image", desc := "()I" } : Jvm.MethodName)) ∈ lw_all := lw_g (lw_at lw_m5 98 rfl) rfl
theorem q1144 : (Jvm.Cond.selects "PulledFromUnder" ({ cls := "PulledFromUnder", name := "image", desc := "()I" } : Jvm.MethodName) ({ cls := "PulledFromUnder", name := "image", desc := "()I" } : Jvm.MethodName)) ∈ lw_all := lw_g (lw_at lw_m5 99 rfl) rfl
theorem q1145 : (Jvm.Cond.code ({ cls := "PulledFromUnder", name := "image", desc := "()I" } : Jvm.MethodName) prog_1_method_103_code (1 : Nat) (Option.some Jvm.ClassFile.FieldType.int)) ∈ lw_all := lw_g (lw_at lw_m5 100 rfl) rfl
theorem q1147 : (Jvm.Cond.instanceMethod ({ cls := "PulledFromUnder", name := "on", desc := "()I" } : Jvm.MethodName)) ∈ lw_all := lw_g (lw_at lw_m5 102 rfl) rfl
theorem q1148 : (Jvm.Cond.selects "PulledFromUnder" ({ cls := "PulledFromUnder", name := "on", desc := "()I" } : Jvm.MethodName) ({ cls := "PulledFromUnder", name := "on", desc := "()I" } : Jvm.MethodName)) ∈ lw_all := lw_g (lw_at lw_m5 103 rfl) rfl
theorem q1149 : (Jvm.Cond.code ({ cls := "PulledFromUnder", name := "on", desc := "()I" } : Jvm.MethodName) prog_1_method_104_code (1 : Nat) (Option.some Jvm.ClassFile.FieldType.int)) ∈ lw_all := lw_g (lw_at lw_m5 104 rfl) rfl
theorem q1151 : (Jvm.Cond.instanceMethod ({ cls := "PulledFromUnder", name := "count", desc := "(I)I" } : Jvm.MethodName)) ∈ lw_all := lw_g (lw_at lw_m5 106 rfl) rfl
theorem q1152 : (Jvm.Cond.selects "PulledFromUnder" ({ cls := "PulledFromUnder", name := "count", desc := "(I)I" } : Jvm.MethodName) ({ cls := "PulledFromUnder", name := "count", desc := "(I)I" } : Jvm.MethodName)) ∈ lw_all := lw_g (lw_at lw_m5 107 rfl) rfl
theorem q1153 : (Jvm.Cond.code ({ cls := "PulledFromUnder", name := "count", desc := "(I)I" } : Jvm.MethodName) prog_1_method_105_code (2 : Nat) (Option.some Jvm.ClassFile.FieldType.int)) ∈ lw_all := lw_g (lw_at lw_m5 108 rfl) rfl
theorem q1154 : (Jvm.Cond.constantLong "PulledFromUnder" (457 : Nat) (11 : Int64)) ∈ lw_all := lw_g (lw_at lw_m5 109 rfl) rfl
theorem q1155 : (Jvm.Cond.constantLong "PulledFromUnder" (459 : Nat) (16 : Int64)) ∈ lw_all := lw_g (lw_at lw_m5 110 rfl) rfl
theorem in_X0 : ∀ w ∈ wsX00, w ∈ lw_all := lw_in wsX00 [236, 238, 240, 242, 244, 246, 248, 250, 252, 254, 256, 258, 260] (by decide +kernel) (by decide +kernel)
