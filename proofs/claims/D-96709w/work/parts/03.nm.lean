/-! PulledFromUnderModel -/
set_option maxRecDepth 100000
def RX9 : String := "PulledFromUnderModel"
def TX9 : u_T := fun k => match k with
  | 0 => ("PulledFromUnderModel", "s", "[I", true)
  | 1 => ("PulledFromUnderModel", "m", "[I", true)
  | 2 => ("PulledFromUnderModel", "image", "[I", true)
  | 3 => ("PulledFromUnderModel", "was", "[I", true)
  | 4 => ("PulledFromUnderModel", "hasImage", "Z", false)
  | 5 => ("PulledFromUnderModel", "letters", "[I", true)
  | 6 => ("PulledFromUnderModel", "row", "[I", true)
  | 7 => ("PulledFromUnderModel", "refused", "[I", true)
  | 8 => ("PulledFromUnderModel", "letterMany", "I", false)
  | 9 => ("PulledFromUnderModel", "rowMany", "I", false)
  | 10 => ("PulledFromUnderModel", "place", "I", false)
  | 11 => ("PulledFromUnderModel", "numbers", "[I", true)
  | _ => ("PulledFromUnderModel", "seed", "I", false)
def tyX9 : Nat → FieldType := fun k => match k with
  | 0 => .array .int
  | 1 => .array .int
  | 2 => .array .int
  | 3 => .array .int
  | 4 => .boolean
  | 5 => .array .int
  | 6 => .array .int
  | 7 => .array .int
  | 8 => .int
  | 9 => .int
  | 10 => .int
  | 11 => .array .int
  | _ => .int
abbrev wsX90 : List Cond := u_ws RX9 TX9 13
set_option maxRecDepth 100000 in
theorem nmX9 : ∀ a, a < 13 → ∀ b, b < 13 → a ≠ b → (TX9 a).2.1 ≠ (TX9 b).2.1 := by decide +kernel
set_option maxRecDepth 100000 in
theorem tyX9_ok : ∀ k, k < 13 → parseFieldDescriptor (TX9 k).2.2.1 = some (tyX9 k) := by decide +kernel
abbrev cX9_init : ByteArray := prog_22_method_1_code
def yX9_init : MethodName := ⟨RX9, "<init>", "()V"⟩
def dkwX9_init_3 : List UInt8 := [5, 4, 79, 177]
abbrev dktX9_init_3 : List UInt8 := dkwX9_init_3 ++ []
def dkwX9_init_2 : List UInt8 := [188, 10, 181, 0, 25, 42, 16, 7, 188, 10, 181, 0, 28, 42, 6, 188, 10, 181, 0, 31, 42, 180, 0, 9]
abbrev dktX9_init_2 : List UInt8 := dkwX9_init_2 ++ dktX9_init_3
def dkwX9_init_1 : List UInt8 := [188, 10, 181, 0, 16, 42, 16, 54, 188, 10, 181, 0, 19, 42, 16, 96, 188, 10, 181, 0, 22, 42, 16, 16]
abbrev dktX9_init_1 : List UInt8 := dkwX9_init_1 ++ dktX9_init_2
def dkwX9_init_0 : List UInt8 := [42, 183, 0, 1, 42, 16, 54, 188, 10, 181, 0, 9, 42, 16, 54, 188, 10, 181, 0, 13, 42, 16, 54]
abbrev dktX9_init_0 : List UInt8 := dkwX9_init_0 ++ dktX9_init_1
theorem dksX9_init_0 : cX9_init.data.toList.drop 0 = dktX9_init_0 := by decide +kernel
theorem dksX9_init_1 : cX9_init.data.toList.drop 23 = dktX9_init_1 := dk_seg dksX9_init_0 23 rfl rfl
theorem dksX9_init_2 : cX9_init.data.toList.drop 47 = dktX9_init_2 := dk_seg dksX9_init_1 24 rfl rfl
theorem dksX9_init_3 : cX9_init.data.toList.drop 71 = dktX9_init_3 := dk_seg dksX9_init_2 24 rfl rfl
theorem dX9_init_0 : decode cX9_init 0 = .ok (.aload_n 0, 1) := dk_42 (dk_at dksX9_init_0 0 rfl rfl)
theorem dX9_init_1 : decode cX9_init 1 = .ok (.invokespecial 1, 3) := dk_183 0 1 (dk_at dksX9_init_0 1 rfl rfl)
theorem dX9_init_4 : decode cX9_init 4 = .ok (.aload_n 0, 1) := dk_42 (dk_at dksX9_init_0 4 rfl rfl)
theorem dX9_init_5 : decode cX9_init 5 = .ok (.bipush 54, 2) := dk_16 54 (dk_at dksX9_init_0 5 rfl rfl)
theorem dX9_init_7 : decode cX9_init 7 = .ok (.newarray .int, 2) := dk_188_10 (dk_at dksX9_init_0 7 rfl rfl)
theorem dX9_init_9 : decode cX9_init 9 = .ok (.putfield 9, 3) := dk_181 0 9 (dk_at dksX9_init_0 9 rfl rfl)
theorem dX9_init_12 : decode cX9_init 12 = .ok (.aload_n 0, 1) := dk_42 (dk_at dksX9_init_0 12 rfl rfl)
theorem dX9_init_13 : decode cX9_init 13 = .ok (.bipush 54, 2) := dk_16 54 (dk_at dksX9_init_0 13 rfl rfl)
theorem dX9_init_15 : decode cX9_init 15 = .ok (.newarray .int, 2) := dk_188_10 (dk_at dksX9_init_0 15 rfl rfl)
theorem dX9_init_17 : decode cX9_init 17 = .ok (.putfield 13, 3) := dk_181 0 13 (dk_at dksX9_init_0 17 rfl rfl)
theorem dX9_init_20 : decode cX9_init 20 = .ok (.aload_n 0, 1) := dk_42 (dk_at dksX9_init_0 20 rfl rfl)
theorem dX9_init_21 : decode cX9_init 21 = .ok (.bipush 54, 2) := dk_16 54 (dk_at dksX9_init_0 21 rfl rfl)
theorem dX9_init_23 : decode cX9_init 23 = .ok (.newarray .int, 2) := dk_188_10 (dk_at dksX9_init_1 0 rfl rfl)
theorem dX9_init_25 : decode cX9_init 25 = .ok (.putfield 16, 3) := dk_181 0 16 (dk_at dksX9_init_1 2 rfl rfl)
theorem dX9_init_28 : decode cX9_init 28 = .ok (.aload_n 0, 1) := dk_42 (dk_at dksX9_init_1 5 rfl rfl)
theorem dX9_init_29 : decode cX9_init 29 = .ok (.bipush 54, 2) := dk_16 54 (dk_at dksX9_init_1 6 rfl rfl)
theorem dX9_init_31 : decode cX9_init 31 = .ok (.newarray .int, 2) := dk_188_10 (dk_at dksX9_init_1 8 rfl rfl)
theorem dX9_init_33 : decode cX9_init 33 = .ok (.putfield 19, 3) := dk_181 0 19 (dk_at dksX9_init_1 10 rfl rfl)
theorem dX9_init_36 : decode cX9_init 36 = .ok (.aload_n 0, 1) := dk_42 (dk_at dksX9_init_1 13 rfl rfl)
theorem dX9_init_37 : decode cX9_init 37 = .ok (.bipush 96, 2) := dk_16 96 (dk_at dksX9_init_1 14 rfl rfl)
theorem dX9_init_39 : decode cX9_init 39 = .ok (.newarray .int, 2) := dk_188_10 (dk_at dksX9_init_1 16 rfl rfl)
theorem dX9_init_41 : decode cX9_init 41 = .ok (.putfield 22, 3) := dk_181 0 22 (dk_at dksX9_init_1 18 rfl rfl)
theorem dX9_init_44 : decode cX9_init 44 = .ok (.aload_n 0, 1) := dk_42 (dk_at dksX9_init_1 21 rfl rfl)
theorem dX9_init_45 : decode cX9_init 45 = .ok (.bipush 16, 2) := dk_16 16 (dk_at dksX9_init_1 22 rfl rfl)
theorem dX9_init_47 : decode cX9_init 47 = .ok (.newarray .int, 2) := dk_188_10 (dk_at dksX9_init_2 0 rfl rfl)
theorem dX9_init_49 : decode cX9_init 49 = .ok (.putfield 25, 3) := dk_181 0 25 (dk_at dksX9_init_2 2 rfl rfl)
theorem dX9_init_52 : decode cX9_init 52 = .ok (.aload_n 0, 1) := dk_42 (dk_at dksX9_init_2 5 rfl rfl)
theorem dX9_init_53 : decode cX9_init 53 = .ok (.bipush 7, 2) := dk_16 7 (dk_at dksX9_init_2 6 rfl rfl)
theorem dX9_init_55 : decode cX9_init 55 = .ok (.newarray .int, 2) := dk_188_10 (dk_at dksX9_init_2 8 rfl rfl)
theorem dX9_init_57 : decode cX9_init 57 = .ok (.putfield 28, 3) := dk_181 0 28 (dk_at dksX9_init_2 10 rfl rfl)
theorem dX9_init_60 : decode cX9_init 60 = .ok (.aload_n 0, 1) := dk_42 (dk_at dksX9_init_2 13 rfl rfl)
theorem dX9_init_61 : decode cX9_init 61 = .ok (.iconst 3, 1) := dk_6 (dk_at dksX9_init_2 14 rfl rfl)
theorem dX9_init_62 : decode cX9_init 62 = .ok (.newarray .int, 2) := dk_188_10 (dk_at dksX9_init_2 15 rfl rfl)
theorem dX9_init_64 : decode cX9_init 64 = .ok (.putfield 31, 3) := dk_181 0 31 (dk_at dksX9_init_2 17 rfl rfl)
theorem dX9_init_67 : decode cX9_init 67 = .ok (.aload_n 0, 1) := dk_42 (dk_at dksX9_init_2 20 rfl rfl)
theorem dX9_init_68 : decode cX9_init 68 = .ok (.getfield 9, 3) := dk_180 0 9 (dk_at dksX9_init_2 21 rfl rfl)
theorem dX9_init_71 : decode cX9_init 71 = .ok (.iconst 2, 1) := dk_5 (dk_at dksX9_init_3 0 rfl rfl)
theorem dX9_init_72 : decode cX9_init 72 = .ok (.iconst 1, 1) := dk_4 (dk_at dksX9_init_3 1 rfl rfl)
theorem dX9_init_73 : decode cX9_init 73 = .ok (.iastore, 1) := dk_79 (dk_at dksX9_init_3 2 rfl rfl)
theorem dX9_init_74 : decode cX9_init 74 = .ok (.return_, 1) := dk_177 (dk_at dksX9_init_3 3 rfl rfl)
abbrev cX9_letter : ByteArray := prog_22_method_20_code
def yX9_letter : MethodName := ⟨RX9, "letter", "(I)I"⟩
def dkwX9_letter_2 : List UInt8 := [180, 0, 84, 4, 96, 181, 0, 84, 42, 180, 0, 84, 172]
abbrev dktX9_letter_2 : List UInt8 := dkwX9_letter_2 ++ []
def dkwX9_letter_1 : List UInt8 := [160, 0, 10, 42, 16, 250, 182, 0, 36, 172, 42, 180, 0, 22, 42, 180, 0, 84, 27, 79, 42, 89]
abbrev dktX9_letter_1 : List UInt8 := dkwX9_letter_1 ++ dktX9_letter_2
def dkwX9_letter_0 : List UInt8 := [27, 156, 0, 10, 42, 16, 252, 182, 0, 36, 172, 27, 17, 0, 255, 163, 0, 12, 42, 180, 0, 84, 16, 96]
abbrev dktX9_letter_0 : List UInt8 := dkwX9_letter_0 ++ dktX9_letter_1
theorem dksX9_letter_0 : cX9_letter.data.toList.drop 0 = dktX9_letter_0 := by decide +kernel
theorem dksX9_letter_1 : cX9_letter.data.toList.drop 24 = dktX9_letter_1 := dk_seg dksX9_letter_0 24 rfl rfl
theorem dksX9_letter_2 : cX9_letter.data.toList.drop 46 = dktX9_letter_2 := dk_seg dksX9_letter_1 22 rfl rfl
theorem dX9_letter_0 : decode cX9_letter 0 = .ok (.iload_n 1, 1) := dk_27 (dk_at dksX9_letter_0 0 rfl rfl)
theorem dX9_letter_1 : decode cX9_letter 1 = .ok (.ifCond .ge 10, 3) := dk_156 0 10 (dk_at dksX9_letter_0 1 rfl rfl)
theorem dX9_letter_4 : decode cX9_letter 4 = .ok (.aload_n 0, 1) := dk_42 (dk_at dksX9_letter_0 4 rfl rfl)
theorem dX9_letter_5 : decode cX9_letter 5 = .ok (.bipush (-4), 2) := dk_16 252 (dk_at dksX9_letter_0 5 rfl rfl)
theorem dX9_letter_7 : decode cX9_letter 7 = .ok (.invokevirtual 36, 3) := dk_182 0 36 (dk_at dksX9_letter_0 7 rfl rfl)
theorem dX9_letter_10 : decode cX9_letter 10 = .ok (.ireturn, 1) := dk_172 (dk_at dksX9_letter_0 10 rfl rfl)
theorem dX9_letter_11 : decode cX9_letter 11 = .ok (.iload_n 1, 1) := dk_27 (dk_at dksX9_letter_0 11 rfl rfl)
theorem dX9_letter_12 : decode cX9_letter 12 = .ok (.sipush 255, 3) := dk_17 0 255 (dk_at dksX9_letter_0 12 rfl rfl)
theorem dX9_letter_15 : decode cX9_letter 15 = .ok (.if_icmp .gt 12, 3) := dk_163 0 12 (dk_at dksX9_letter_0 15 rfl rfl)
theorem dX9_letter_18 : decode cX9_letter 18 = .ok (.aload_n 0, 1) := dk_42 (dk_at dksX9_letter_0 18 rfl rfl)
theorem dX9_letter_19 : decode cX9_letter 19 = .ok (.getfield 84, 3) := dk_180 0 84 (dk_at dksX9_letter_0 19 rfl rfl)
theorem dX9_letter_22 : decode cX9_letter 22 = .ok (.bipush 96, 2) := dk_16 96 (dk_at dksX9_letter_0 22 rfl rfl)
theorem dX9_letter_24 : decode cX9_letter 24 = .ok (.if_icmp .ne 10, 3) := dk_160 0 10 (dk_at dksX9_letter_1 0 rfl rfl)
theorem dX9_letter_27 : decode cX9_letter 27 = .ok (.aload_n 0, 1) := dk_42 (dk_at dksX9_letter_1 3 rfl rfl)
theorem dX9_letter_28 : decode cX9_letter 28 = .ok (.bipush (-6), 2) := dk_16 250 (dk_at dksX9_letter_1 4 rfl rfl)
theorem dX9_letter_30 : decode cX9_letter 30 = .ok (.invokevirtual 36, 3) := dk_182 0 36 (dk_at dksX9_letter_1 6 rfl rfl)
theorem dX9_letter_33 : decode cX9_letter 33 = .ok (.ireturn, 1) := dk_172 (dk_at dksX9_letter_1 9 rfl rfl)
theorem dX9_letter_34 : decode cX9_letter 34 = .ok (.aload_n 0, 1) := dk_42 (dk_at dksX9_letter_1 10 rfl rfl)
theorem dX9_letter_35 : decode cX9_letter 35 = .ok (.getfield 22, 3) := dk_180 0 22 (dk_at dksX9_letter_1 11 rfl rfl)
theorem dX9_letter_38 : decode cX9_letter 38 = .ok (.aload_n 0, 1) := dk_42 (dk_at dksX9_letter_1 14 rfl rfl)
theorem dX9_letter_39 : decode cX9_letter 39 = .ok (.getfield 84, 3) := dk_180 0 84 (dk_at dksX9_letter_1 15 rfl rfl)
theorem dX9_letter_42 : decode cX9_letter 42 = .ok (.iload_n 1, 1) := dk_27 (dk_at dksX9_letter_1 18 rfl rfl)
theorem dX9_letter_43 : decode cX9_letter 43 = .ok (.iastore, 1) := dk_79 (dk_at dksX9_letter_1 19 rfl rfl)
theorem dX9_letter_44 : decode cX9_letter 44 = .ok (.aload_n 0, 1) := dk_42 (dk_at dksX9_letter_1 20 rfl rfl)
theorem dX9_letter_45 : decode cX9_letter 45 = .ok (.dup, 1) := dk_89 (dk_at dksX9_letter_1 21 rfl rfl)
theorem dX9_letter_46 : decode cX9_letter 46 = .ok (.getfield 84, 3) := dk_180 0 84 (dk_at dksX9_letter_2 0 rfl rfl)
theorem dX9_letter_49 : decode cX9_letter 49 = .ok (.iconst 1, 1) := dk_4 (dk_at dksX9_letter_2 3 rfl rfl)
theorem dX9_letter_50 : decode cX9_letter 50 = .ok (.iadd, 1) := dk_96 (dk_at dksX9_letter_2 4 rfl rfl)
theorem dX9_letter_51 : decode cX9_letter 51 = .ok (.putfield 84, 3) := dk_181 0 84 (dk_at dksX9_letter_2 5 rfl rfl)
theorem dX9_letter_54 : decode cX9_letter 54 = .ok (.aload_n 0, 1) := dk_42 (dk_at dksX9_letter_2 8 rfl rfl)
theorem dX9_letter_55 : decode cX9_letter 55 = .ok (.getfield 84, 3) := dk_180 0 84 (dk_at dksX9_letter_2 9 rfl rfl)
theorem dX9_letter_58 : decode cX9_letter 58 = .ok (.ireturn, 1) := dk_172 (dk_at dksX9_letter_2 12 rfl rfl)
abbrev cX9_no : ByteArray := prog_22_method_5_code
def yX9_no : MethodName := ⟨RX9, "no", "(I)I"⟩
def dkwX9_no_0 : List UInt8 := [42, 180, 0, 28, 27, 116, 92, 46, 4, 96, 79, 27, 172]
abbrev dktX9_no_0 : List UInt8 := dkwX9_no_0 ++ []
theorem dksX9_no_0 : cX9_no.data.toList.drop 0 = dktX9_no_0 := by decide +kernel
theorem dX9_no_0 : decode cX9_no 0 = .ok (.aload_n 0, 1) := dk_42 (dk_at dksX9_no_0 0 rfl rfl)
theorem dX9_no_1 : decode cX9_no 1 = .ok (.getfield 28, 3) := dk_180 0 28 (dk_at dksX9_no_0 1 rfl rfl)
theorem dX9_no_4 : decode cX9_no 4 = .ok (.iload_n 1, 1) := dk_27 (dk_at dksX9_no_0 4 rfl rfl)
theorem dX9_no_5 : decode cX9_no 5 = .ok (.ineg, 1) := dk_116 (dk_at dksX9_no_0 5 rfl rfl)
theorem dX9_no_6 : decode cX9_no 6 = .ok (.dup2, 1) := dk_92 (dk_at dksX9_no_0 6 rfl rfl)
theorem dX9_no_7 : decode cX9_no 7 = .ok (.iaload, 1) := dk_46 (dk_at dksX9_no_0 7 rfl rfl)
theorem dX9_no_8 : decode cX9_no 8 = .ok (.iconst 1, 1) := dk_4 (dk_at dksX9_no_0 8 rfl rfl)
theorem dX9_no_9 : decode cX9_no 9 = .ok (.iadd, 1) := dk_96 (dk_at dksX9_no_0 9 rfl rfl)
theorem dX9_no_10 : decode cX9_no 10 = .ok (.iastore, 1) := dk_79 (dk_at dksX9_no_0 10 rfl rfl)
theorem dX9_no_11 : decode cX9_no 11 = .ok (.iload_n 1, 1) := dk_27 (dk_at dksX9_no_0 11 rfl rfl)
theorem dX9_no_12 : decode cX9_no 12 = .ok (.ireturn, 1) := dk_172 (dk_at dksX9_no_0 12 rfl rfl)
abbrev cX9_room : ByteArray := prog_22_method_28_code
def yX9_room : MethodName := ⟨RX9, "room", "()I"⟩
def dkwX9_room_6 : List UInt8 := [27, 167, 0, 4, 28, 172]
abbrev dktX9_room_6 : List UInt8 := dkwX9_room_6 ++ []
def dkwX9_room_5 : List UInt8 := [180, 0, 19, 42, 180, 0, 9, 184, 0, 121, 167, 255, 193, 42, 3, 181, 0, 84, 28, 16, 247, 160, 0, 7]
abbrev dktX9_room_5 : List UInt8 := dkwX9_room_5 ++ dktX9_room_6
def dkwX9_room_4 : List UInt8 := [182, 0, 118, 54, 5, 42, 21, 4, 182, 0, 125, 153, 0, 6, 167, 255, 213, 17, 248, 48, 29, 100, 61, 42]
abbrev dktX9_room_4 : List UInt8 := dkwX9_room_4 ++ dktX9_room_5
def dkwX9_room_3 : List UInt8 := [180, 0, 88, 42, 180, 0, 84, 162, 0, 52, 42, 180, 0, 88, 62, 42, 182, 0, 91, 54, 4, 42]
abbrev dktX9_room_3 : List UInt8 := dkwX9_room_3 ++ dktX9_room_4
def dkwX9_room_2 : List UInt8 := [180, 0, 9, 42, 180, 0, 19, 184, 0, 121, 42, 3, 181, 0, 88, 28, 16, 247, 160, 0, 63, 42]
abbrev dktX9_room_2 : List UInt8 := dkwX9_room_2 ++ dktX9_room_3
def dkwX9_room_1 : List UInt8 := [100, 61, 132, 1, 1, 28, 16, 247, 160, 0, 14, 42, 180, 0, 88, 42, 180, 0, 84, 161, 255, 223, 42]
abbrev dktX9_room_1 : List UInt8 := dkwX9_room_1 ++ dktX9_room_2
def dkwX9_room_0 : List UInt8 := [42, 3, 181, 0, 88, 3, 60, 16, 247, 61, 42, 182, 0, 118, 154, 0, 12, 17, 252, 24, 42, 180, 0, 88]
abbrev dktX9_room_0 : List UInt8 := dkwX9_room_0 ++ dktX9_room_1
theorem dksX9_room_0 : cX9_room.data.toList.drop 0 = dktX9_room_0 := by decide +kernel
theorem dksX9_room_1 : cX9_room.data.toList.drop 24 = dktX9_room_1 := dk_seg dksX9_room_0 24 rfl rfl
theorem dksX9_room_2 : cX9_room.data.toList.drop 47 = dktX9_room_2 := dk_seg dksX9_room_1 23 rfl rfl
theorem dksX9_room_3 : cX9_room.data.toList.drop 69 = dktX9_room_3 := dk_seg dksX9_room_2 22 rfl rfl
theorem dksX9_room_4 : cX9_room.data.toList.drop 91 = dktX9_room_4 := dk_seg dksX9_room_3 22 rfl rfl
theorem dksX9_room_5 : cX9_room.data.toList.drop 115 = dktX9_room_5 := dk_seg dksX9_room_4 24 rfl rfl
theorem dksX9_room_6 : cX9_room.data.toList.drop 139 = dktX9_room_6 := dk_seg dksX9_room_5 24 rfl rfl
theorem dX9_room_0 : decode cX9_room 0 = .ok (.aload_n 0, 1) := dk_42 (dk_at dksX9_room_0 0 rfl rfl)
theorem dX9_room_1 : decode cX9_room 1 = .ok (.iconst 0, 1) := dk_3 (dk_at dksX9_room_0 1 rfl rfl)
theorem dX9_room_2 : decode cX9_room 2 = .ok (.putfield 88, 3) := dk_181 0 88 (dk_at dksX9_room_0 2 rfl rfl)
theorem dX9_room_5 : decode cX9_room 5 = .ok (.iconst 0, 1) := dk_3 (dk_at dksX9_room_0 5 rfl rfl)
theorem dX9_room_6 : decode cX9_room 6 = .ok (.istore_n 1, 1) := dk_60 (dk_at dksX9_room_0 6 rfl rfl)
theorem dX9_room_7 : decode cX9_room 7 = .ok (.bipush (-9), 2) := dk_16 247 (dk_at dksX9_room_0 7 rfl rfl)
theorem dX9_room_9 : decode cX9_room 9 = .ok (.istore_n 2, 1) := dk_61 (dk_at dksX9_room_0 9 rfl rfl)
theorem dX9_room_10 : decode cX9_room 10 = .ok (.aload_n 0, 1) := dk_42 (dk_at dksX9_room_0 10 rfl rfl)
theorem dX9_room_11 : decode cX9_room 11 = .ok (.invokevirtual 118, 3) := dk_182 0 118 (dk_at dksX9_room_0 11 rfl rfl)
theorem dX9_room_14 : decode cX9_room 14 = .ok (.ifCond .ne 12, 3) := dk_154 0 12 (dk_at dksX9_room_0 14 rfl rfl)
theorem dX9_room_17 : decode cX9_room 17 = .ok (.sipush (-1000), 3) := dk_17 252 24 (dk_at dksX9_room_0 17 rfl rfl)
theorem dX9_room_20 : decode cX9_room 20 = .ok (.aload_n 0, 1) := dk_42 (dk_at dksX9_room_0 20 rfl rfl)
theorem dX9_room_21 : decode cX9_room 21 = .ok (.getfield 88, 3) := dk_180 0 88 (dk_at dksX9_room_0 21 rfl rfl)
theorem dX9_room_24 : decode cX9_room 24 = .ok (.isub, 1) := dk_100 (dk_at dksX9_room_1 0 rfl rfl)
theorem dX9_room_25 : decode cX9_room 25 = .ok (.istore_n 2, 1) := dk_61 (dk_at dksX9_room_1 1 rfl rfl)
theorem dX9_room_26 : decode cX9_room 26 = .ok (.iinc 1 1, 3) := dk_132 1 1 (dk_at dksX9_room_1 2 rfl rfl)
theorem dX9_room_29 : decode cX9_room 29 = .ok (.iload_n 2, 1) := dk_28 (dk_at dksX9_room_1 5 rfl rfl)
theorem dX9_room_30 : decode cX9_room 30 = .ok (.bipush (-9), 2) := dk_16 247 (dk_at dksX9_room_1 6 rfl rfl)
theorem dX9_room_32 : decode cX9_room 32 = .ok (.if_icmp .ne 14, 3) := dk_160 0 14 (dk_at dksX9_room_1 8 rfl rfl)
theorem dX9_room_35 : decode cX9_room 35 = .ok (.aload_n 0, 1) := dk_42 (dk_at dksX9_room_1 11 rfl rfl)
theorem dX9_room_36 : decode cX9_room 36 = .ok (.getfield 88, 3) := dk_180 0 88 (dk_at dksX9_room_1 12 rfl rfl)
theorem dX9_room_39 : decode cX9_room 39 = .ok (.aload_n 0, 1) := dk_42 (dk_at dksX9_room_1 15 rfl rfl)
theorem dX9_room_40 : decode cX9_room 40 = .ok (.getfield 84, 3) := dk_180 0 84 (dk_at dksX9_room_1 16 rfl rfl)
theorem dX9_room_43 : decode cX9_room 43 = .ok (.if_icmp .lt (-33), 3) := dk_161 255 223 (dk_at dksX9_room_1 19 rfl rfl)
theorem dX9_room_46 : decode cX9_room 46 = .ok (.aload_n 0, 1) := dk_42 (dk_at dksX9_room_1 22 rfl rfl)
theorem dX9_room_47 : decode cX9_room 47 = .ok (.getfield 9, 3) := dk_180 0 9 (dk_at dksX9_room_2 0 rfl rfl)
theorem dX9_room_50 : decode cX9_room 50 = .ok (.aload_n 0, 1) := dk_42 (dk_at dksX9_room_2 3 rfl rfl)
theorem dX9_room_51 : decode cX9_room 51 = .ok (.getfield 19, 3) := dk_180 0 19 (dk_at dksX9_room_2 4 rfl rfl)
theorem dX9_room_54 : decode cX9_room 54 = .ok (.invokestatic 121, 3) := dk_184 0 121 (dk_at dksX9_room_2 7 rfl rfl)
theorem dX9_room_57 : decode cX9_room 57 = .ok (.aload_n 0, 1) := dk_42 (dk_at dksX9_room_2 10 rfl rfl)
theorem dX9_room_58 : decode cX9_room 58 = .ok (.iconst 0, 1) := dk_3 (dk_at dksX9_room_2 11 rfl rfl)
theorem dX9_room_59 : decode cX9_room 59 = .ok (.putfield 88, 3) := dk_181 0 88 (dk_at dksX9_room_2 12 rfl rfl)
theorem dX9_room_62 : decode cX9_room 62 = .ok (.iload_n 2, 1) := dk_28 (dk_at dksX9_room_2 15 rfl rfl)
theorem dX9_room_63 : decode cX9_room 63 = .ok (.bipush (-9), 2) := dk_16 247 (dk_at dksX9_room_2 16 rfl rfl)
theorem dX9_room_65 : decode cX9_room 65 = .ok (.if_icmp .ne 63, 3) := dk_160 0 63 (dk_at dksX9_room_2 18 rfl rfl)
theorem dX9_room_68 : decode cX9_room 68 = .ok (.aload_n 0, 1) := dk_42 (dk_at dksX9_room_2 21 rfl rfl)
theorem dX9_room_69 : decode cX9_room 69 = .ok (.getfield 88, 3) := dk_180 0 88 (dk_at dksX9_room_3 0 rfl rfl)
theorem dX9_room_72 : decode cX9_room 72 = .ok (.aload_n 0, 1) := dk_42 (dk_at dksX9_room_3 3 rfl rfl)
theorem dX9_room_73 : decode cX9_room 73 = .ok (.getfield 84, 3) := dk_180 0 84 (dk_at dksX9_room_3 4 rfl rfl)
theorem dX9_room_76 : decode cX9_room 76 = .ok (.if_icmp .ge 52, 3) := dk_162 0 52 (dk_at dksX9_room_3 7 rfl rfl)
theorem dX9_room_79 : decode cX9_room 79 = .ok (.aload_n 0, 1) := dk_42 (dk_at dksX9_room_3 10 rfl rfl)
theorem dX9_room_80 : decode cX9_room 80 = .ok (.getfield 88, 3) := dk_180 0 88 (dk_at dksX9_room_3 11 rfl rfl)
theorem dX9_room_83 : decode cX9_room 83 = .ok (.istore_n 3, 1) := dk_62 (dk_at dksX9_room_3 14 rfl rfl)
theorem dX9_room_84 : decode cX9_room 84 = .ok (.aload_n 0, 1) := dk_42 (dk_at dksX9_room_3 15 rfl rfl)
theorem dX9_room_85 : decode cX9_room 85 = .ok (.invokevirtual 91, 3) := dk_182 0 91 (dk_at dksX9_room_3 16 rfl rfl)
theorem dX9_room_88 : decode cX9_room 88 = .ok (.istore 4, 2) := dk_54 4 (dk_at dksX9_room_3 19 rfl rfl)
theorem dX9_room_90 : decode cX9_room 90 = .ok (.aload_n 0, 1) := dk_42 (dk_at dksX9_room_3 21 rfl rfl)
theorem dX9_room_91 : decode cX9_room 91 = .ok (.invokevirtual 118, 3) := dk_182 0 118 (dk_at dksX9_room_4 0 rfl rfl)
theorem dX9_room_94 : decode cX9_room 94 = .ok (.istore 5, 2) := dk_54 5 (dk_at dksX9_room_4 3 rfl rfl)
theorem dX9_room_96 : decode cX9_room 96 = .ok (.aload_n 0, 1) := dk_42 (dk_at dksX9_room_4 5 rfl rfl)
theorem dX9_room_97 : decode cX9_room 97 = .ok (.iload 4, 2) := dk_21 4 (dk_at dksX9_room_4 6 rfl rfl)
theorem dX9_room_99 : decode cX9_room 99 = .ok (.invokevirtual 125, 3) := dk_182 0 125 (dk_at dksX9_room_4 8 rfl rfl)
theorem dX9_room_102 : decode cX9_room 102 = .ok (.ifCond .eq 6, 3) := dk_153 0 6 (dk_at dksX9_room_4 11 rfl rfl)
theorem dX9_room_105 : decode cX9_room 105 = .ok (.goto (-43), 3) := dk_167 255 213 (dk_at dksX9_room_4 14 rfl rfl)
theorem dX9_room_108 : decode cX9_room 108 = .ok (.sipush (-2000), 3) := dk_17 248 48 (dk_at dksX9_room_4 17 rfl rfl)
theorem dX9_room_111 : decode cX9_room 111 = .ok (.iload_n 3, 1) := dk_29 (dk_at dksX9_room_4 20 rfl rfl)
theorem dX9_room_112 : decode cX9_room 112 = .ok (.isub, 1) := dk_100 (dk_at dksX9_room_4 21 rfl rfl)
theorem dX9_room_113 : decode cX9_room 113 = .ok (.istore_n 2, 1) := dk_61 (dk_at dksX9_room_4 22 rfl rfl)
theorem dX9_room_114 : decode cX9_room 114 = .ok (.aload_n 0, 1) := dk_42 (dk_at dksX9_room_4 23 rfl rfl)
theorem dX9_room_115 : decode cX9_room 115 = .ok (.getfield 19, 3) := dk_180 0 19 (dk_at dksX9_room_5 0 rfl rfl)
theorem dX9_room_118 : decode cX9_room 118 = .ok (.aload_n 0, 1) := dk_42 (dk_at dksX9_room_5 3 rfl rfl)
theorem dX9_room_119 : decode cX9_room 119 = .ok (.getfield 9, 3) := dk_180 0 9 (dk_at dksX9_room_5 4 rfl rfl)
theorem dX9_room_122 : decode cX9_room 122 = .ok (.invokestatic 121, 3) := dk_184 0 121 (dk_at dksX9_room_5 7 rfl rfl)
theorem dX9_room_125 : decode cX9_room 125 = .ok (.goto (-63), 3) := dk_167 255 193 (dk_at dksX9_room_5 10 rfl rfl)
theorem dX9_room_128 : decode cX9_room 128 = .ok (.aload_n 0, 1) := dk_42 (dk_at dksX9_room_5 13 rfl rfl)
theorem dX9_room_129 : decode cX9_room 129 = .ok (.iconst 0, 1) := dk_3 (dk_at dksX9_room_5 14 rfl rfl)
theorem dX9_room_130 : decode cX9_room 130 = .ok (.putfield 84, 3) := dk_181 0 84 (dk_at dksX9_room_5 15 rfl rfl)
theorem dX9_room_133 : decode cX9_room 133 = .ok (.iload_n 2, 1) := dk_28 (dk_at dksX9_room_5 18 rfl rfl)
theorem dX9_room_134 : decode cX9_room 134 = .ok (.bipush (-9), 2) := dk_16 247 (dk_at dksX9_room_5 19 rfl rfl)
theorem dX9_room_136 : decode cX9_room 136 = .ok (.if_icmp .ne 7, 3) := dk_160 0 7 (dk_at dksX9_room_5 21 rfl rfl)
theorem dX9_room_139 : decode cX9_room 139 = .ok (.iload_n 1, 1) := dk_27 (dk_at dksX9_room_6 0 rfl rfl)
theorem dX9_room_140 : decode cX9_room 140 = .ok (.goto 4, 3) := dk_167 0 4 (dk_at dksX9_room_6 1 rfl rfl)
theorem dX9_room_143 : decode cX9_room 143 = .ok (.iload_n 2, 1) := dk_28 (dk_at dksX9_room_6 4 rfl rfl)
theorem dX9_room_144 : decode cX9_room 144 = .ok (.ireturn, 1) := dk_172 (dk_at dksX9_room_6 5 rfl rfl)
abbrev cX9_readsStatement : ByteArray := prog_22_method_25_code
def yX9_readsStatement : MethodName := ⟨RX9, "readsStatement", "()Z"⟩
def dkwX9_readsStatement_8 : List UInt8 := [172, 42, 89, 180, 0, 88, 4, 96, 181, 0, 88, 4, 172]
abbrev dktX9_readsStatement_8 : List UInt8 := dkwX9_readsStatement_8 ++ []
def dkwX9_readsStatement_7 : List UInt8 := [180, 0, 88, 4, 100, 181, 0, 88, 3, 172, 28, 153, 0, 12, 42, 182, 0, 91, 16, 59, 159, 0, 5, 3]
abbrev dktX9_readsStatement_7 : List UInt8 := dkwX9_readsStatement_7 ++ dktX9_readsStatement_8
def dkwX9_readsStatement_6 : List UInt8 := [42, 3, 4, 182, 0, 102, 61, 167, 0, 25, 42, 3, 5, 182, 0, 102, 61, 167, 0, 15, 42, 89]
abbrev dktX9_readsStatement_6 : List UInt8 := dkwX9_readsStatement_6 ++ dktX9_readsStatement_7
def dkwX9_readsStatement_5 : List UInt8 := [182, 0, 102, 153, 0, 16, 42, 4, 4, 182, 0, 102, 153, 0, 7, 4, 167, 0, 4, 3, 61, 167, 0, 35]
abbrev dktX9_readsStatement_5 : List UInt8 := dkwX9_readsStatement_5 ++ dktX9_readsStatement_6
def dkwX9_readsStatement_4 : List UInt8 := [153, 0, 16, 42, 5, 4, 182, 0, 102, 153, 0, 7, 4, 167, 0, 4, 3, 61, 167, 0, 62, 42, 3, 4]
abbrev dktX9_readsStatement_4 : List UInt8 := dkwX9_readsStatement_4 ++ dktX9_readsStatement_5
def dkwX9_readsStatement_3 : List UInt8 := [180, 0, 31, 5, 16, 247, 79, 167, 0, 96, 42, 182, 0, 98, 153, 0, 25, 42, 4, 4, 182, 0, 102]
abbrev dktX9_readsStatement_3 : List UInt8 := dkwX9_readsStatement_3 ++ dktX9_readsStatement_4
def dkwX9_readsStatement_2 : List UInt8 := [42, 182, 0, 98, 153, 0, 16, 42, 4, 4, 182, 0, 102, 153, 0, 7, 4, 167, 0, 4, 3, 61, 42]
abbrev dktX9_readsStatement_2 : List UInt8 := dkwX9_readsStatement_2 ++ dktX9_readsStatement_3
def dkwX9_readsStatement_1 : List UInt8 := [170, 0, 0, 0, 0, 0, 0, 190, 0, 0, 0, 102, 0, 0, 0, 116, 0, 0, 0, 170, 0, 0, 0, 190, 0, 0, 0, 170, 0, 0, 0, 190, 0, 0, 0, 190, 0, 0, 0, 190, 0, 0, 0, 190, 0, 0, 0, 180, 0, 0, 0, 190, 0, 0, 0, 109, 0, 0, 0, 143, 0, 0, 0, 190, 0, 0, 0, 190, 0, 0, 0, 190, 0, 0, 0, 76]
abbrev dktX9_readsStatement_1 : List UInt8 := dkwX9_readsStatement_1 ++ dktX9_readsStatement_2
def dkwX9_readsStatement_0 : List UInt8 := [42, 182, 0, 91, 60, 42, 89, 180, 0, 88, 4, 96, 181, 0, 88, 27]
abbrev dktX9_readsStatement_0 : List UInt8 := dkwX9_readsStatement_0 ++ dktX9_readsStatement_1
theorem dksX9_readsStatement_0 : cX9_readsStatement.data.toList.drop 0 = dktX9_readsStatement_0 := by decide +kernel
theorem dksX9_readsStatement_1 : cX9_readsStatement.data.toList.drop 16 = dktX9_readsStatement_1 := dk_seg dksX9_readsStatement_0 16 rfl rfl
theorem dksX9_readsStatement_2 : cX9_readsStatement.data.toList.drop 92 = dktX9_readsStatement_2 := dk_seg dksX9_readsStatement_1 76 rfl rfl
theorem dksX9_readsStatement_3 : cX9_readsStatement.data.toList.drop 115 = dktX9_readsStatement_3 := dk_seg dksX9_readsStatement_2 23 rfl rfl
theorem dksX9_readsStatement_4 : cX9_readsStatement.data.toList.drop 138 = dktX9_readsStatement_4 := dk_seg dksX9_readsStatement_3 23 rfl rfl
theorem dksX9_readsStatement_5 : cX9_readsStatement.data.toList.drop 162 = dktX9_readsStatement_5 := dk_seg dksX9_readsStatement_4 24 rfl rfl
theorem dksX9_readsStatement_6 : cX9_readsStatement.data.toList.drop 186 = dktX9_readsStatement_6 := dk_seg dksX9_readsStatement_5 24 rfl rfl
theorem dksX9_readsStatement_7 : cX9_readsStatement.data.toList.drop 208 = dktX9_readsStatement_7 := dk_seg dksX9_readsStatement_6 22 rfl rfl
theorem dksX9_readsStatement_8 : cX9_readsStatement.data.toList.drop 232 = dktX9_readsStatement_8 := dk_seg dksX9_readsStatement_7 24 rfl rfl
theorem dX9_readsStatement_0 : decode cX9_readsStatement 0 = .ok (.aload_n 0, 1) := dk_42 (dk_at dksX9_readsStatement_0 0 rfl rfl)
theorem dX9_readsStatement_1 : decode cX9_readsStatement 1 = .ok (.invokevirtual 91, 3) := dk_182 0 91 (dk_at dksX9_readsStatement_0 1 rfl rfl)
theorem dX9_readsStatement_4 : decode cX9_readsStatement 4 = .ok (.istore_n 1, 1) := dk_60 (dk_at dksX9_readsStatement_0 4 rfl rfl)
theorem dX9_readsStatement_5 : decode cX9_readsStatement 5 = .ok (.aload_n 0, 1) := dk_42 (dk_at dksX9_readsStatement_0 5 rfl rfl)
theorem dX9_readsStatement_6 : decode cX9_readsStatement 6 = .ok (.dup, 1) := dk_89 (dk_at dksX9_readsStatement_0 6 rfl rfl)
theorem dX9_readsStatement_7 : decode cX9_readsStatement 7 = .ok (.getfield 88, 3) := dk_180 0 88 (dk_at dksX9_readsStatement_0 7 rfl rfl)
theorem dX9_readsStatement_10 : decode cX9_readsStatement 10 = .ok (.iconst 1, 1) := dk_4 (dk_at dksX9_readsStatement_0 10 rfl rfl)
theorem dX9_readsStatement_11 : decode cX9_readsStatement 11 = .ok (.iadd, 1) := dk_96 (dk_at dksX9_readsStatement_0 11 rfl rfl)
theorem dX9_readsStatement_12 : decode cX9_readsStatement 12 = .ok (.putfield 88, 3) := dk_181 0 88 (dk_at dksX9_readsStatement_0 12 rfl rfl)
theorem dX9_readsStatement_15 : decode cX9_readsStatement 15 = .ok (.iload_n 1, 1) := dk_27 (dk_at dksX9_readsStatement_0 15 rfl rfl)
theorem dX9_readsStatement_16 : decode cX9_readsStatement 16 = .ok (.tableswitch 190 102 116 #[170, 190, 170, 190, 190, 190, 190, 180, 190, 109, 143, 190, 190, 190, 76], 76) := by decide +kernel
theorem dX9_readsStatement_92 : decode cX9_readsStatement 92 = .ok (.aload_n 0, 1) := dk_42 (dk_at dksX9_readsStatement_2 0 rfl rfl)
theorem dX9_readsStatement_93 : decode cX9_readsStatement 93 = .ok (.invokevirtual 98, 3) := dk_182 0 98 (dk_at dksX9_readsStatement_2 1 rfl rfl)
theorem dX9_readsStatement_96 : decode cX9_readsStatement 96 = .ok (.ifCond .eq 16, 3) := dk_153 0 16 (dk_at dksX9_readsStatement_2 4 rfl rfl)
theorem dX9_readsStatement_99 : decode cX9_readsStatement 99 = .ok (.aload_n 0, 1) := dk_42 (dk_at dksX9_readsStatement_2 7 rfl rfl)
theorem dX9_readsStatement_100 : decode cX9_readsStatement 100 = .ok (.iconst 1, 1) := dk_4 (dk_at dksX9_readsStatement_2 8 rfl rfl)
theorem dX9_readsStatement_101 : decode cX9_readsStatement 101 = .ok (.iconst 1, 1) := dk_4 (dk_at dksX9_readsStatement_2 9 rfl rfl)
theorem dX9_readsStatement_102 : decode cX9_readsStatement 102 = .ok (.invokevirtual 102, 3) := dk_182 0 102 (dk_at dksX9_readsStatement_2 10 rfl rfl)
theorem dX9_readsStatement_105 : decode cX9_readsStatement 105 = .ok (.ifCond .eq 7, 3) := dk_153 0 7 (dk_at dksX9_readsStatement_2 13 rfl rfl)
theorem dX9_readsStatement_108 : decode cX9_readsStatement 108 = .ok (.iconst 1, 1) := dk_4 (dk_at dksX9_readsStatement_2 16 rfl rfl)
theorem dX9_readsStatement_109 : decode cX9_readsStatement 109 = .ok (.goto 4, 3) := dk_167 0 4 (dk_at dksX9_readsStatement_2 17 rfl rfl)
theorem dX9_readsStatement_112 : decode cX9_readsStatement 112 = .ok (.iconst 0, 1) := dk_3 (dk_at dksX9_readsStatement_2 20 rfl rfl)
theorem dX9_readsStatement_113 : decode cX9_readsStatement 113 = .ok (.istore_n 2, 1) := dk_61 (dk_at dksX9_readsStatement_2 21 rfl rfl)
theorem dX9_readsStatement_114 : decode cX9_readsStatement 114 = .ok (.aload_n 0, 1) := dk_42 (dk_at dksX9_readsStatement_2 22 rfl rfl)
theorem dX9_readsStatement_115 : decode cX9_readsStatement 115 = .ok (.getfield 31, 3) := dk_180 0 31 (dk_at dksX9_readsStatement_3 0 rfl rfl)
theorem dX9_readsStatement_118 : decode cX9_readsStatement 118 = .ok (.iconst 2, 1) := dk_5 (dk_at dksX9_readsStatement_3 3 rfl rfl)
theorem dX9_readsStatement_119 : decode cX9_readsStatement 119 = .ok (.bipush (-9), 2) := dk_16 247 (dk_at dksX9_readsStatement_3 4 rfl rfl)
theorem dX9_readsStatement_121 : decode cX9_readsStatement 121 = .ok (.iastore, 1) := dk_79 (dk_at dksX9_readsStatement_3 6 rfl rfl)
theorem dX9_readsStatement_122 : decode cX9_readsStatement 122 = .ok (.goto 96, 3) := dk_167 0 96 (dk_at dksX9_readsStatement_3 7 rfl rfl)
theorem dX9_readsStatement_125 : decode cX9_readsStatement 125 = .ok (.aload_n 0, 1) := dk_42 (dk_at dksX9_readsStatement_3 10 rfl rfl)
theorem dX9_readsStatement_126 : decode cX9_readsStatement 126 = .ok (.invokevirtual 98, 3) := dk_182 0 98 (dk_at dksX9_readsStatement_3 11 rfl rfl)
theorem dX9_readsStatement_129 : decode cX9_readsStatement 129 = .ok (.ifCond .eq 25, 3) := dk_153 0 25 (dk_at dksX9_readsStatement_3 14 rfl rfl)
theorem dX9_readsStatement_132 : decode cX9_readsStatement 132 = .ok (.aload_n 0, 1) := dk_42 (dk_at dksX9_readsStatement_3 17 rfl rfl)
theorem dX9_readsStatement_133 : decode cX9_readsStatement 133 = .ok (.iconst 1, 1) := dk_4 (dk_at dksX9_readsStatement_3 18 rfl rfl)
theorem dX9_readsStatement_134 : decode cX9_readsStatement 134 = .ok (.iconst 1, 1) := dk_4 (dk_at dksX9_readsStatement_3 19 rfl rfl)
theorem dX9_readsStatement_135 : decode cX9_readsStatement 135 = .ok (.invokevirtual 102, 3) := dk_182 0 102 (dk_at dksX9_readsStatement_3 20 rfl rfl)
theorem dX9_readsStatement_138 : decode cX9_readsStatement 138 = .ok (.ifCond .eq 16, 3) := dk_153 0 16 (dk_at dksX9_readsStatement_4 0 rfl rfl)
theorem dX9_readsStatement_141 : decode cX9_readsStatement 141 = .ok (.aload_n 0, 1) := dk_42 (dk_at dksX9_readsStatement_4 3 rfl rfl)
theorem dX9_readsStatement_142 : decode cX9_readsStatement 142 = .ok (.iconst 2, 1) := dk_5 (dk_at dksX9_readsStatement_4 4 rfl rfl)
theorem dX9_readsStatement_143 : decode cX9_readsStatement 143 = .ok (.iconst 1, 1) := dk_4 (dk_at dksX9_readsStatement_4 5 rfl rfl)
theorem dX9_readsStatement_144 : decode cX9_readsStatement 144 = .ok (.invokevirtual 102, 3) := dk_182 0 102 (dk_at dksX9_readsStatement_4 6 rfl rfl)
theorem dX9_readsStatement_147 : decode cX9_readsStatement 147 = .ok (.ifCond .eq 7, 3) := dk_153 0 7 (dk_at dksX9_readsStatement_4 9 rfl rfl)
theorem dX9_readsStatement_150 : decode cX9_readsStatement 150 = .ok (.iconst 1, 1) := dk_4 (dk_at dksX9_readsStatement_4 12 rfl rfl)
theorem dX9_readsStatement_151 : decode cX9_readsStatement 151 = .ok (.goto 4, 3) := dk_167 0 4 (dk_at dksX9_readsStatement_4 13 rfl rfl)
theorem dX9_readsStatement_154 : decode cX9_readsStatement 154 = .ok (.iconst 0, 1) := dk_3 (dk_at dksX9_readsStatement_4 16 rfl rfl)
theorem dX9_readsStatement_155 : decode cX9_readsStatement 155 = .ok (.istore_n 2, 1) := dk_61 (dk_at dksX9_readsStatement_4 17 rfl rfl)
theorem dX9_readsStatement_156 : decode cX9_readsStatement 156 = .ok (.goto 62, 3) := dk_167 0 62 (dk_at dksX9_readsStatement_4 18 rfl rfl)
theorem dX9_readsStatement_159 : decode cX9_readsStatement 159 = .ok (.aload_n 0, 1) := dk_42 (dk_at dksX9_readsStatement_4 21 rfl rfl)
theorem dX9_readsStatement_160 : decode cX9_readsStatement 160 = .ok (.iconst 0, 1) := dk_3 (dk_at dksX9_readsStatement_4 22 rfl rfl)
theorem dX9_readsStatement_161 : decode cX9_readsStatement 161 = .ok (.iconst 1, 1) := dk_4 (dk_at dksX9_readsStatement_4 23 rfl rfl)
theorem dX9_readsStatement_162 : decode cX9_readsStatement 162 = .ok (.invokevirtual 102, 3) := dk_182 0 102 (dk_at dksX9_readsStatement_5 0 rfl rfl)
theorem dX9_readsStatement_165 : decode cX9_readsStatement 165 = .ok (.ifCond .eq 16, 3) := dk_153 0 16 (dk_at dksX9_readsStatement_5 3 rfl rfl)
theorem dX9_readsStatement_168 : decode cX9_readsStatement 168 = .ok (.aload_n 0, 1) := dk_42 (dk_at dksX9_readsStatement_5 6 rfl rfl)
theorem dX9_readsStatement_169 : decode cX9_readsStatement 169 = .ok (.iconst 1, 1) := dk_4 (dk_at dksX9_readsStatement_5 7 rfl rfl)
theorem dX9_readsStatement_170 : decode cX9_readsStatement 170 = .ok (.iconst 1, 1) := dk_4 (dk_at dksX9_readsStatement_5 8 rfl rfl)
theorem dX9_readsStatement_171 : decode cX9_readsStatement 171 = .ok (.invokevirtual 102, 3) := dk_182 0 102 (dk_at dksX9_readsStatement_5 9 rfl rfl)
theorem dX9_readsStatement_174 : decode cX9_readsStatement 174 = .ok (.ifCond .eq 7, 3) := dk_153 0 7 (dk_at dksX9_readsStatement_5 12 rfl rfl)
theorem dX9_readsStatement_177 : decode cX9_readsStatement 177 = .ok (.iconst 1, 1) := dk_4 (dk_at dksX9_readsStatement_5 15 rfl rfl)
theorem dX9_readsStatement_178 : decode cX9_readsStatement 178 = .ok (.goto 4, 3) := dk_167 0 4 (dk_at dksX9_readsStatement_5 16 rfl rfl)
theorem dX9_readsStatement_181 : decode cX9_readsStatement 181 = .ok (.iconst 0, 1) := dk_3 (dk_at dksX9_readsStatement_5 19 rfl rfl)
theorem dX9_readsStatement_182 : decode cX9_readsStatement 182 = .ok (.istore_n 2, 1) := dk_61 (dk_at dksX9_readsStatement_5 20 rfl rfl)
theorem dX9_readsStatement_183 : decode cX9_readsStatement 183 = .ok (.goto 35, 3) := dk_167 0 35 (dk_at dksX9_readsStatement_5 21 rfl rfl)
theorem dX9_readsStatement_186 : decode cX9_readsStatement 186 = .ok (.aload_n 0, 1) := dk_42 (dk_at dksX9_readsStatement_6 0 rfl rfl)
theorem dX9_readsStatement_187 : decode cX9_readsStatement 187 = .ok (.iconst 0, 1) := dk_3 (dk_at dksX9_readsStatement_6 1 rfl rfl)
theorem dX9_readsStatement_188 : decode cX9_readsStatement 188 = .ok (.iconst 1, 1) := dk_4 (dk_at dksX9_readsStatement_6 2 rfl rfl)
theorem dX9_readsStatement_189 : decode cX9_readsStatement 189 = .ok (.invokevirtual 102, 3) := dk_182 0 102 (dk_at dksX9_readsStatement_6 3 rfl rfl)
theorem dX9_readsStatement_192 : decode cX9_readsStatement 192 = .ok (.istore_n 2, 1) := dk_61 (dk_at dksX9_readsStatement_6 6 rfl rfl)
theorem dX9_readsStatement_193 : decode cX9_readsStatement 193 = .ok (.goto 25, 3) := dk_167 0 25 (dk_at dksX9_readsStatement_6 7 rfl rfl)
theorem dX9_readsStatement_196 : decode cX9_readsStatement 196 = .ok (.aload_n 0, 1) := dk_42 (dk_at dksX9_readsStatement_6 10 rfl rfl)
theorem dX9_readsStatement_197 : decode cX9_readsStatement 197 = .ok (.iconst 0, 1) := dk_3 (dk_at dksX9_readsStatement_6 11 rfl rfl)
theorem dX9_readsStatement_198 : decode cX9_readsStatement 198 = .ok (.iconst 2, 1) := dk_5 (dk_at dksX9_readsStatement_6 12 rfl rfl)
theorem dX9_readsStatement_199 : decode cX9_readsStatement 199 = .ok (.invokevirtual 102, 3) := dk_182 0 102 (dk_at dksX9_readsStatement_6 13 rfl rfl)
theorem dX9_readsStatement_202 : decode cX9_readsStatement 202 = .ok (.istore_n 2, 1) := dk_61 (dk_at dksX9_readsStatement_6 16 rfl rfl)
theorem dX9_readsStatement_203 : decode cX9_readsStatement 203 = .ok (.goto 15, 3) := dk_167 0 15 (dk_at dksX9_readsStatement_6 17 rfl rfl)
theorem dX9_readsStatement_206 : decode cX9_readsStatement 206 = .ok (.aload_n 0, 1) := dk_42 (dk_at dksX9_readsStatement_6 20 rfl rfl)
theorem dX9_readsStatement_207 : decode cX9_readsStatement 207 = .ok (.dup, 1) := dk_89 (dk_at dksX9_readsStatement_6 21 rfl rfl)
theorem dX9_readsStatement_208 : decode cX9_readsStatement 208 = .ok (.getfield 88, 3) := dk_180 0 88 (dk_at dksX9_readsStatement_7 0 rfl rfl)
theorem dX9_readsStatement_211 : decode cX9_readsStatement 211 = .ok (.iconst 1, 1) := dk_4 (dk_at dksX9_readsStatement_7 3 rfl rfl)
theorem dX9_readsStatement_212 : decode cX9_readsStatement 212 = .ok (.isub, 1) := dk_100 (dk_at dksX9_readsStatement_7 4 rfl rfl)
theorem dX9_readsStatement_213 : decode cX9_readsStatement 213 = .ok (.putfield 88, 3) := dk_181 0 88 (dk_at dksX9_readsStatement_7 5 rfl rfl)
theorem dX9_readsStatement_216 : decode cX9_readsStatement 216 = .ok (.iconst 0, 1) := dk_3 (dk_at dksX9_readsStatement_7 8 rfl rfl)
theorem dX9_readsStatement_217 : decode cX9_readsStatement 217 = .ok (.ireturn, 1) := dk_172 (dk_at dksX9_readsStatement_7 9 rfl rfl)
theorem dX9_readsStatement_218 : decode cX9_readsStatement 218 = .ok (.iload_n 2, 1) := dk_28 (dk_at dksX9_readsStatement_7 10 rfl rfl)
theorem dX9_readsStatement_219 : decode cX9_readsStatement 219 = .ok (.ifCond .eq 12, 3) := dk_153 0 12 (dk_at dksX9_readsStatement_7 11 rfl rfl)
theorem dX9_readsStatement_222 : decode cX9_readsStatement 222 = .ok (.aload_n 0, 1) := dk_42 (dk_at dksX9_readsStatement_7 14 rfl rfl)
theorem dX9_readsStatement_223 : decode cX9_readsStatement 223 = .ok (.invokevirtual 91, 3) := dk_182 0 91 (dk_at dksX9_readsStatement_7 15 rfl rfl)
theorem dX9_readsStatement_226 : decode cX9_readsStatement 226 = .ok (.bipush 59, 2) := dk_16 59 (dk_at dksX9_readsStatement_7 18 rfl rfl)
theorem dX9_readsStatement_228 : decode cX9_readsStatement 228 = .ok (.if_icmp .eq 5, 3) := dk_159 0 5 (dk_at dksX9_readsStatement_7 20 rfl rfl)
theorem dX9_readsStatement_231 : decode cX9_readsStatement 231 = .ok (.iconst 0, 1) := dk_3 (dk_at dksX9_readsStatement_7 23 rfl rfl)
theorem dX9_readsStatement_232 : decode cX9_readsStatement 232 = .ok (.ireturn, 1) := dk_172 (dk_at dksX9_readsStatement_8 0 rfl rfl)
theorem dX9_readsStatement_233 : decode cX9_readsStatement 233 = .ok (.aload_n 0, 1) := dk_42 (dk_at dksX9_readsStatement_8 1 rfl rfl)
theorem dX9_readsStatement_234 : decode cX9_readsStatement 234 = .ok (.dup, 1) := dk_89 (dk_at dksX9_readsStatement_8 2 rfl rfl)
theorem dX9_readsStatement_235 : decode cX9_readsStatement 235 = .ok (.getfield 88, 3) := dk_180 0 88 (dk_at dksX9_readsStatement_8 3 rfl rfl)
theorem dX9_readsStatement_238 : decode cX9_readsStatement 238 = .ok (.iconst 1, 1) := dk_4 (dk_at dksX9_readsStatement_8 6 rfl rfl)
theorem dX9_readsStatement_239 : decode cX9_readsStatement 239 = .ok (.iadd, 1) := dk_96 (dk_at dksX9_readsStatement_8 7 rfl rfl)
theorem dX9_readsStatement_240 : decode cX9_readsStatement 240 = .ok (.putfield 88, 3) := dk_181 0 88 (dk_at dksX9_readsStatement_8 8 rfl rfl)
theorem dX9_readsStatement_243 : decode cX9_readsStatement 243 = .ok (.iconst 1, 1) := dk_4 (dk_at dksX9_readsStatement_8 11 rfl rfl)
theorem dX9_readsStatement_244 : decode cX9_readsStatement 244 = .ok (.ireturn, 1) := dk_172 (dk_at dksX9_readsStatement_8 12 rfl rfl)
abbrev cX9_here : ByteArray := prog_22_method_21_code
def yX9_here : MethodName := ⟨RX9, "here", "()I"⟩
def dkwX9_here_1 : List UInt8 := [172]
abbrev dktX9_here_1 : List UInt8 := dkwX9_here_1 ++ []
def dkwX9_here_0 : List UInt8 := [42, 180, 0, 88, 42, 180, 0, 84, 162, 0, 15, 42, 180, 0, 22, 42, 180, 0, 88, 46, 167, 0, 4, 2]
abbrev dktX9_here_0 : List UInt8 := dkwX9_here_0 ++ dktX9_here_1
theorem dksX9_here_0 : cX9_here.data.toList.drop 0 = dktX9_here_0 := by decide +kernel
theorem dksX9_here_1 : cX9_here.data.toList.drop 24 = dktX9_here_1 := dk_seg dksX9_here_0 24 rfl rfl
theorem dX9_here_0 : decode cX9_here 0 = .ok (.aload_n 0, 1) := dk_42 (dk_at dksX9_here_0 0 rfl rfl)
theorem dX9_here_1 : decode cX9_here 1 = .ok (.getfield 88, 3) := dk_180 0 88 (dk_at dksX9_here_0 1 rfl rfl)
theorem dX9_here_4 : decode cX9_here 4 = .ok (.aload_n 0, 1) := dk_42 (dk_at dksX9_here_0 4 rfl rfl)
theorem dX9_here_5 : decode cX9_here 5 = .ok (.getfield 84, 3) := dk_180 0 84 (dk_at dksX9_here_0 5 rfl rfl)
theorem dX9_here_8 : decode cX9_here 8 = .ok (.if_icmp .ge 15, 3) := dk_162 0 15 (dk_at dksX9_here_0 8 rfl rfl)
theorem dX9_here_11 : decode cX9_here 11 = .ok (.aload_n 0, 1) := dk_42 (dk_at dksX9_here_0 11 rfl rfl)
theorem dX9_here_12 : decode cX9_here 12 = .ok (.getfield 22, 3) := dk_180 0 22 (dk_at dksX9_here_0 12 rfl rfl)
theorem dX9_here_15 : decode cX9_here 15 = .ok (.aload_n 0, 1) := dk_42 (dk_at dksX9_here_0 15 rfl rfl)
theorem dX9_here_16 : decode cX9_here 16 = .ok (.getfield 88, 3) := dk_180 0 88 (dk_at dksX9_here_0 16 rfl rfl)
theorem dX9_here_19 : decode cX9_here 19 = .ok (.iaload, 1) := dk_46 (dk_at dksX9_here_0 19 rfl rfl)
theorem dX9_here_20 : decode cX9_here 20 = .ok (.goto 4, 3) := dk_167 0 4 (dk_at dksX9_here_0 20 rfl rfl)
theorem dX9_here_23 : decode cX9_here 23 = .ok (.iconst (-1), 1) := dk_2 (dk_at dksX9_here_0 23 rfl rfl)
theorem dX9_here_24 : decode cX9_here 24 = .ok (.ireturn, 1) := dk_172 (dk_at dksX9_here_1 0 rfl rfl)
abbrev cX9_readsKind : ByteArray := prog_22_method_24_code
def yX9_readsKind : MethodName := ⟨RX9, "readsKind", "()Z"⟩
def dkwX9_readsKind_2 : List UInt8 := [167, 0, 4, 3, 172]
abbrev dktX9_readsKind_2 : List UInt8 := dkwX9_readsKind_2 ++ []
def dkwX9_readsKind_1 : List UInt8 := [156, 0, 7, 3, 167, 0, 4, 4, 96, 181, 0, 88, 42, 180, 0, 31, 3, 46, 155, 0, 7, 4]
abbrev dktX9_readsKind_1 : List UInt8 := dkwX9_readsKind_1 ++ dktX9_readsKind_2
def dkwX9_readsKind_0 : List UInt8 := [42, 180, 0, 31, 3, 42, 182, 0, 91, 184, 0, 95, 79, 42, 89, 180, 0, 88, 42, 180, 0, 31, 3, 46]
abbrev dktX9_readsKind_0 : List UInt8 := dkwX9_readsKind_0 ++ dktX9_readsKind_1
theorem dksX9_readsKind_0 : cX9_readsKind.data.toList.drop 0 = dktX9_readsKind_0 := by decide +kernel
theorem dksX9_readsKind_1 : cX9_readsKind.data.toList.drop 24 = dktX9_readsKind_1 := dk_seg dksX9_readsKind_0 24 rfl rfl
theorem dksX9_readsKind_2 : cX9_readsKind.data.toList.drop 46 = dktX9_readsKind_2 := dk_seg dksX9_readsKind_1 22 rfl rfl
theorem dX9_readsKind_0 : decode cX9_readsKind 0 = .ok (.aload_n 0, 1) := dk_42 (dk_at dksX9_readsKind_0 0 rfl rfl)
theorem dX9_readsKind_1 : decode cX9_readsKind 1 = .ok (.getfield 31, 3) := dk_180 0 31 (dk_at dksX9_readsKind_0 1 rfl rfl)
theorem dX9_readsKind_4 : decode cX9_readsKind 4 = .ok (.iconst 0, 1) := dk_3 (dk_at dksX9_readsKind_0 4 rfl rfl)
theorem dX9_readsKind_5 : decode cX9_readsKind 5 = .ok (.aload_n 0, 1) := dk_42 (dk_at dksX9_readsKind_0 5 rfl rfl)
theorem dX9_readsKind_6 : decode cX9_readsKind 6 = .ok (.invokevirtual 91, 3) := dk_182 0 91 (dk_at dksX9_readsKind_0 6 rfl rfl)
theorem dX9_readsKind_9 : decode cX9_readsKind 9 = .ok (.invokestatic 95, 3) := dk_184 0 95 (dk_at dksX9_readsKind_0 9 rfl rfl)
theorem dX9_readsKind_12 : decode cX9_readsKind 12 = .ok (.iastore, 1) := dk_79 (dk_at dksX9_readsKind_0 12 rfl rfl)
theorem dX9_readsKind_13 : decode cX9_readsKind 13 = .ok (.aload_n 0, 1) := dk_42 (dk_at dksX9_readsKind_0 13 rfl rfl)
theorem dX9_readsKind_14 : decode cX9_readsKind 14 = .ok (.dup, 1) := dk_89 (dk_at dksX9_readsKind_0 14 rfl rfl)
theorem dX9_readsKind_15 : decode cX9_readsKind 15 = .ok (.getfield 88, 3) := dk_180 0 88 (dk_at dksX9_readsKind_0 15 rfl rfl)
theorem dX9_readsKind_18 : decode cX9_readsKind 18 = .ok (.aload_n 0, 1) := dk_42 (dk_at dksX9_readsKind_0 18 rfl rfl)
theorem dX9_readsKind_19 : decode cX9_readsKind 19 = .ok (.getfield 31, 3) := dk_180 0 31 (dk_at dksX9_readsKind_0 19 rfl rfl)
theorem dX9_readsKind_22 : decode cX9_readsKind 22 = .ok (.iconst 0, 1) := dk_3 (dk_at dksX9_readsKind_0 22 rfl rfl)
theorem dX9_readsKind_23 : decode cX9_readsKind 23 = .ok (.iaload, 1) := dk_46 (dk_at dksX9_readsKind_0 23 rfl rfl)
theorem dX9_readsKind_24 : decode cX9_readsKind 24 = .ok (.ifCond .ge 7, 3) := dk_156 0 7 (dk_at dksX9_readsKind_1 0 rfl rfl)
theorem dX9_readsKind_27 : decode cX9_readsKind 27 = .ok (.iconst 0, 1) := dk_3 (dk_at dksX9_readsKind_1 3 rfl rfl)
theorem dX9_readsKind_28 : decode cX9_readsKind 28 = .ok (.goto 4, 3) := dk_167 0 4 (dk_at dksX9_readsKind_1 4 rfl rfl)
theorem dX9_readsKind_31 : decode cX9_readsKind 31 = .ok (.iconst 1, 1) := dk_4 (dk_at dksX9_readsKind_1 7 rfl rfl)
theorem dX9_readsKind_32 : decode cX9_readsKind 32 = .ok (.iadd, 1) := dk_96 (dk_at dksX9_readsKind_1 8 rfl rfl)
theorem dX9_readsKind_33 : decode cX9_readsKind 33 = .ok (.putfield 88, 3) := dk_181 0 88 (dk_at dksX9_readsKind_1 9 rfl rfl)
theorem dX9_readsKind_36 : decode cX9_readsKind 36 = .ok (.aload_n 0, 1) := dk_42 (dk_at dksX9_readsKind_1 12 rfl rfl)
theorem dX9_readsKind_37 : decode cX9_readsKind 37 = .ok (.getfield 31, 3) := dk_180 0 31 (dk_at dksX9_readsKind_1 13 rfl rfl)
theorem dX9_readsKind_40 : decode cX9_readsKind 40 = .ok (.iconst 0, 1) := dk_3 (dk_at dksX9_readsKind_1 16 rfl rfl)
theorem dX9_readsKind_41 : decode cX9_readsKind 41 = .ok (.iaload, 1) := dk_46 (dk_at dksX9_readsKind_1 17 rfl rfl)
theorem dX9_readsKind_42 : decode cX9_readsKind 42 = .ok (.ifCond .lt 7, 3) := dk_155 0 7 (dk_at dksX9_readsKind_1 18 rfl rfl)
theorem dX9_readsKind_45 : decode cX9_readsKind 45 = .ok (.iconst 1, 1) := dk_4 (dk_at dksX9_readsKind_1 21 rfl rfl)
theorem dX9_readsKind_46 : decode cX9_readsKind 46 = .ok (.goto 4, 3) := dk_167 0 4 (dk_at dksX9_readsKind_2 0 rfl rfl)
theorem dX9_readsKind_49 : decode cX9_readsKind 49 = .ok (.iconst 0, 1) := dk_3 (dk_at dksX9_readsKind_2 3 rfl rfl)
theorem dX9_readsKind_50 : decode cX9_readsKind 50 = .ok (.ireturn, 1) := dk_172 (dk_at dksX9_readsKind_2 4 rfl rfl)
abbrev cX9_kindBy : ByteArray := prog_22_method_23_code
def yX9_kindBy : MethodName := ⟨RX9, "kindBy", "(I)I"⟩
def dkwX9_kindBy_2 : List UInt8 := [3, 172, 4, 172, 5, 172, 6, 172, 7, 172, 8, 172, 16, 247, 172]
abbrev dktX9_kindBy_2 : List UInt8 := dkwX9_kindBy_2 ++ []
def dkwX9_kindBy_1 : List UInt8 := [171, 0, 0, 0, 0, 0, 71, 0, 0, 0, 6, 0, 0, 0, 98, 0, 0, 0, 69, 0, 0, 0, 99, 0, 0, 0, 65, 0, 0, 0, 103, 0, 0, 0, 61, 0, 0, 0, 112, 0, 0, 0, 63, 0, 0, 0, 116, 0, 0, 0, 59, 0, 0, 0, 119, 0, 0, 0, 67]
abbrev dktX9_kindBy_1 : List UInt8 := dkwX9_kindBy_1 ++ dktX9_kindBy_2
def dkwX9_kindBy_0 : List UInt8 := [26]
abbrev dktX9_kindBy_0 : List UInt8 := dkwX9_kindBy_0 ++ dktX9_kindBy_1
theorem dksX9_kindBy_0 : cX9_kindBy.data.toList.drop 0 = dktX9_kindBy_0 := by decide +kernel
theorem dksX9_kindBy_1 : cX9_kindBy.data.toList.drop 1 = dktX9_kindBy_1 := dk_seg dksX9_kindBy_0 1 rfl rfl
theorem dksX9_kindBy_2 : cX9_kindBy.data.toList.drop 60 = dktX9_kindBy_2 := dk_seg dksX9_kindBy_1 59 rfl rfl
theorem dX9_kindBy_0 : decode cX9_kindBy 0 = .ok (.iload_n 0, 1) := dk_26 (dk_at dksX9_kindBy_0 0 rfl rfl)
theorem dX9_kindBy_1 : decode cX9_kindBy 1 = .ok (.lookupswitch 71 #[(98, 69), (99, 65), (103, 61), (112, 63), (116, 59), (119, 67)], 59) := by decide +kernel
theorem dX9_kindBy_60 : decode cX9_kindBy 60 = .ok (.iconst 0, 1) := dk_3 (dk_at dksX9_kindBy_2 0 rfl rfl)
theorem dX9_kindBy_61 : decode cX9_kindBy 61 = .ok (.ireturn, 1) := dk_172 (dk_at dksX9_kindBy_2 1 rfl rfl)
theorem dX9_kindBy_62 : decode cX9_kindBy 62 = .ok (.iconst 1, 1) := dk_4 (dk_at dksX9_kindBy_2 2 rfl rfl)
theorem dX9_kindBy_63 : decode cX9_kindBy 63 = .ok (.ireturn, 1) := dk_172 (dk_at dksX9_kindBy_2 3 rfl rfl)
theorem dX9_kindBy_64 : decode cX9_kindBy 64 = .ok (.iconst 2, 1) := dk_5 (dk_at dksX9_kindBy_2 4 rfl rfl)
theorem dX9_kindBy_65 : decode cX9_kindBy 65 = .ok (.ireturn, 1) := dk_172 (dk_at dksX9_kindBy_2 5 rfl rfl)
theorem dX9_kindBy_66 : decode cX9_kindBy 66 = .ok (.iconst 3, 1) := dk_6 (dk_at dksX9_kindBy_2 6 rfl rfl)
theorem dX9_kindBy_67 : decode cX9_kindBy 67 = .ok (.ireturn, 1) := dk_172 (dk_at dksX9_kindBy_2 7 rfl rfl)
theorem dX9_kindBy_68 : decode cX9_kindBy 68 = .ok (.iconst 4, 1) := dk_7 (dk_at dksX9_kindBy_2 8 rfl rfl)
theorem dX9_kindBy_69 : decode cX9_kindBy 69 = .ok (.ireturn, 1) := dk_172 (dk_at dksX9_kindBy_2 9 rfl rfl)
theorem dX9_kindBy_70 : decode cX9_kindBy 70 = .ok (.iconst 5, 1) := dk_8 (dk_at dksX9_kindBy_2 10 rfl rfl)
theorem dX9_kindBy_71 : decode cX9_kindBy 71 = .ok (.ireturn, 1) := dk_172 (dk_at dksX9_kindBy_2 11 rfl rfl)
theorem dX9_kindBy_72 : decode cX9_kindBy 72 = .ok (.bipush (-9), 2) := dk_16 247 (dk_at dksX9_kindBy_2 12 rfl rfl)
theorem dX9_kindBy_74 : decode cX9_kindBy 74 = .ok (.ireturn, 1) := dk_172 (dk_at dksX9_kindBy_2 14 rfl rfl)
abbrev cX9_readsNumber : ByteArray := prog_22_method_22_code
def yX9_readsNumber : MethodName := ⟨RX9, "readsNumber", "(II)Z"⟩
def dkwX9_readsNumber_3 : List UInt8 := [4, 172]
abbrev dktX9_readsNumber_3 : List UInt8 := dkwX9_readsNumber_3 ++ []
def dkwX9_readsNumber_2 : List UInt8 := [182, 0, 91, 96, 16, 48, 100, 79, 42, 89, 180, 0, 88, 4, 96, 181, 0, 88, 132, 3, 1, 167, 255, 199]
abbrev dktX9_readsNumber_2 : List UInt8 := dkwX9_readsNumber_2 ++ dktX9_readsNumber_3
def dkwX9_readsNumber_1 : List UInt8 := [184, 0, 40, 154, 0, 5, 3, 172, 42, 180, 0, 31, 27, 16, 10, 42, 180, 0, 31, 27, 46, 104, 42]
abbrev dktX9_readsNumber_1 : List UInt8 := dkwX9_readsNumber_1 ++ dktX9_readsNumber_2
def dkwX9_readsNumber_0 : List UInt8 := [42, 180, 0, 31, 27, 3, 79, 3, 62, 29, 28, 162, 0, 58, 42, 182, 0, 91, 16, 48, 16, 57]
abbrev dktX9_readsNumber_0 : List UInt8 := dkwX9_readsNumber_0 ++ dktX9_readsNumber_1
theorem dksX9_readsNumber_0 : cX9_readsNumber.data.toList.drop 0 = dktX9_readsNumber_0 := by decide +kernel
theorem dksX9_readsNumber_1 : cX9_readsNumber.data.toList.drop 22 = dktX9_readsNumber_1 := dk_seg dksX9_readsNumber_0 22 rfl rfl
theorem dksX9_readsNumber_2 : cX9_readsNumber.data.toList.drop 45 = dktX9_readsNumber_2 := dk_seg dksX9_readsNumber_1 23 rfl rfl
theorem dksX9_readsNumber_3 : cX9_readsNumber.data.toList.drop 69 = dktX9_readsNumber_3 := dk_seg dksX9_readsNumber_2 24 rfl rfl
theorem dX9_readsNumber_0 : decode cX9_readsNumber 0 = .ok (.aload_n 0, 1) := dk_42 (dk_at dksX9_readsNumber_0 0 rfl rfl)
theorem dX9_readsNumber_1 : decode cX9_readsNumber 1 = .ok (.getfield 31, 3) := dk_180 0 31 (dk_at dksX9_readsNumber_0 1 rfl rfl)
theorem dX9_readsNumber_4 : decode cX9_readsNumber 4 = .ok (.iload_n 1, 1) := dk_27 (dk_at dksX9_readsNumber_0 4 rfl rfl)
theorem dX9_readsNumber_5 : decode cX9_readsNumber 5 = .ok (.iconst 0, 1) := dk_3 (dk_at dksX9_readsNumber_0 5 rfl rfl)
theorem dX9_readsNumber_6 : decode cX9_readsNumber 6 = .ok (.iastore, 1) := dk_79 (dk_at dksX9_readsNumber_0 6 rfl rfl)
theorem dX9_readsNumber_7 : decode cX9_readsNumber 7 = .ok (.iconst 0, 1) := dk_3 (dk_at dksX9_readsNumber_0 7 rfl rfl)
theorem dX9_readsNumber_8 : decode cX9_readsNumber 8 = .ok (.istore_n 3, 1) := dk_62 (dk_at dksX9_readsNumber_0 8 rfl rfl)
theorem dX9_readsNumber_9 : decode cX9_readsNumber 9 = .ok (.iload_n 3, 1) := dk_29 (dk_at dksX9_readsNumber_0 9 rfl rfl)
theorem dX9_readsNumber_10 : decode cX9_readsNumber 10 = .ok (.iload_n 2, 1) := dk_28 (dk_at dksX9_readsNumber_0 10 rfl rfl)
theorem dX9_readsNumber_11 : decode cX9_readsNumber 11 = .ok (.if_icmp .ge 58, 3) := dk_162 0 58 (dk_at dksX9_readsNumber_0 11 rfl rfl)
theorem dX9_readsNumber_14 : decode cX9_readsNumber 14 = .ok (.aload_n 0, 1) := dk_42 (dk_at dksX9_readsNumber_0 14 rfl rfl)
theorem dX9_readsNumber_15 : decode cX9_readsNumber 15 = .ok (.invokevirtual 91, 3) := dk_182 0 91 (dk_at dksX9_readsNumber_0 15 rfl rfl)
theorem dX9_readsNumber_18 : decode cX9_readsNumber 18 = .ok (.bipush 48, 2) := dk_16 48 (dk_at dksX9_readsNumber_0 18 rfl rfl)
theorem dX9_readsNumber_20 : decode cX9_readsNumber 20 = .ok (.bipush 57, 2) := dk_16 57 (dk_at dksX9_readsNumber_0 20 rfl rfl)
theorem dX9_readsNumber_22 : decode cX9_readsNumber 22 = .ok (.invokestatic 40, 3) := dk_184 0 40 (dk_at dksX9_readsNumber_1 0 rfl rfl)
theorem dX9_readsNumber_25 : decode cX9_readsNumber 25 = .ok (.ifCond .ne 5, 3) := dk_154 0 5 (dk_at dksX9_readsNumber_1 3 rfl rfl)
theorem dX9_readsNumber_28 : decode cX9_readsNumber 28 = .ok (.iconst 0, 1) := dk_3 (dk_at dksX9_readsNumber_1 6 rfl rfl)
theorem dX9_readsNumber_29 : decode cX9_readsNumber 29 = .ok (.ireturn, 1) := dk_172 (dk_at dksX9_readsNumber_1 7 rfl rfl)
theorem dX9_readsNumber_30 : decode cX9_readsNumber 30 = .ok (.aload_n 0, 1) := dk_42 (dk_at dksX9_readsNumber_1 8 rfl rfl)
theorem dX9_readsNumber_31 : decode cX9_readsNumber 31 = .ok (.getfield 31, 3) := dk_180 0 31 (dk_at dksX9_readsNumber_1 9 rfl rfl)
theorem dX9_readsNumber_34 : decode cX9_readsNumber 34 = .ok (.iload_n 1, 1) := dk_27 (dk_at dksX9_readsNumber_1 12 rfl rfl)
theorem dX9_readsNumber_35 : decode cX9_readsNumber 35 = .ok (.bipush 10, 2) := dk_16 10 (dk_at dksX9_readsNumber_1 13 rfl rfl)
theorem dX9_readsNumber_37 : decode cX9_readsNumber 37 = .ok (.aload_n 0, 1) := dk_42 (dk_at dksX9_readsNumber_1 15 rfl rfl)
theorem dX9_readsNumber_38 : decode cX9_readsNumber 38 = .ok (.getfield 31, 3) := dk_180 0 31 (dk_at dksX9_readsNumber_1 16 rfl rfl)
theorem dX9_readsNumber_41 : decode cX9_readsNumber 41 = .ok (.iload_n 1, 1) := dk_27 (dk_at dksX9_readsNumber_1 19 rfl rfl)
theorem dX9_readsNumber_42 : decode cX9_readsNumber 42 = .ok (.iaload, 1) := dk_46 (dk_at dksX9_readsNumber_1 20 rfl rfl)
theorem dX9_readsNumber_43 : decode cX9_readsNumber 43 = .ok (.imul, 1) := dk_104 (dk_at dksX9_readsNumber_1 21 rfl rfl)
theorem dX9_readsNumber_44 : decode cX9_readsNumber 44 = .ok (.aload_n 0, 1) := dk_42 (dk_at dksX9_readsNumber_1 22 rfl rfl)
theorem dX9_readsNumber_45 : decode cX9_readsNumber 45 = .ok (.invokevirtual 91, 3) := dk_182 0 91 (dk_at dksX9_readsNumber_2 0 rfl rfl)
theorem dX9_readsNumber_48 : decode cX9_readsNumber 48 = .ok (.iadd, 1) := dk_96 (dk_at dksX9_readsNumber_2 3 rfl rfl)
theorem dX9_readsNumber_49 : decode cX9_readsNumber 49 = .ok (.bipush 48, 2) := dk_16 48 (dk_at dksX9_readsNumber_2 4 rfl rfl)
theorem dX9_readsNumber_51 : decode cX9_readsNumber 51 = .ok (.isub, 1) := dk_100 (dk_at dksX9_readsNumber_2 6 rfl rfl)
theorem dX9_readsNumber_52 : decode cX9_readsNumber 52 = .ok (.iastore, 1) := dk_79 (dk_at dksX9_readsNumber_2 7 rfl rfl)
theorem dX9_readsNumber_53 : decode cX9_readsNumber 53 = .ok (.aload_n 0, 1) := dk_42 (dk_at dksX9_readsNumber_2 8 rfl rfl)
theorem dX9_readsNumber_54 : decode cX9_readsNumber 54 = .ok (.dup, 1) := dk_89 (dk_at dksX9_readsNumber_2 9 rfl rfl)
theorem dX9_readsNumber_55 : decode cX9_readsNumber 55 = .ok (.getfield 88, 3) := dk_180 0 88 (dk_at dksX9_readsNumber_2 10 rfl rfl)
theorem dX9_readsNumber_58 : decode cX9_readsNumber 58 = .ok (.iconst 1, 1) := dk_4 (dk_at dksX9_readsNumber_2 13 rfl rfl)
theorem dX9_readsNumber_59 : decode cX9_readsNumber 59 = .ok (.iadd, 1) := dk_96 (dk_at dksX9_readsNumber_2 14 rfl rfl)
theorem dX9_readsNumber_60 : decode cX9_readsNumber 60 = .ok (.putfield 88, 3) := dk_181 0 88 (dk_at dksX9_readsNumber_2 15 rfl rfl)
theorem dX9_readsNumber_63 : decode cX9_readsNumber 63 = .ok (.iinc 3 1, 3) := dk_132 3 1 (dk_at dksX9_readsNumber_2 18 rfl rfl)
theorem dX9_readsNumber_66 : decode cX9_readsNumber 66 = .ok (.goto (-57), 3) := dk_167 255 199 (dk_at dksX9_readsNumber_2 21 rfl rfl)
theorem dX9_readsNumber_69 : decode cX9_readsNumber 69 = .ok (.iconst 1, 1) := dk_4 (dk_at dksX9_readsNumber_3 0 rfl rfl)
theorem dX9_readsNumber_70 : decode cX9_readsNumber 70 = .ok (.ireturn, 1) := dk_172 (dk_at dksX9_readsNumber_3 1 rfl rfl)
abbrev cX9_isIn : ByteArray := prog_22_method_2_code
def yX9_isIn : MethodName := ⟨RX9, "isIn", "(III)Z"⟩
def dkwX9_isIn_0 : List UInt8 := [26, 27, 161, 0, 12, 26, 28, 163, 0, 7, 4, 167, 0, 4, 3, 172]
abbrev dktX9_isIn_0 : List UInt8 := dkwX9_isIn_0 ++ []
theorem dksX9_isIn_0 : cX9_isIn.data.toList.drop 0 = dktX9_isIn_0 := by decide +kernel
theorem dX9_isIn_0 : decode cX9_isIn 0 = .ok (.iload_n 0, 1) := dk_26 (dk_at dksX9_isIn_0 0 rfl rfl)
theorem dX9_isIn_1 : decode cX9_isIn 1 = .ok (.iload_n 1, 1) := dk_27 (dk_at dksX9_isIn_0 1 rfl rfl)
theorem dX9_isIn_2 : decode cX9_isIn 2 = .ok (.if_icmp .lt 12, 3) := dk_161 0 12 (dk_at dksX9_isIn_0 2 rfl rfl)
theorem dX9_isIn_5 : decode cX9_isIn 5 = .ok (.iload_n 0, 1) := dk_26 (dk_at dksX9_isIn_0 5 rfl rfl)
theorem dX9_isIn_6 : decode cX9_isIn 6 = .ok (.iload_n 2, 1) := dk_28 (dk_at dksX9_isIn_0 6 rfl rfl)
theorem dX9_isIn_7 : decode cX9_isIn 7 = .ok (.if_icmp .gt 7, 3) := dk_163 0 7 (dk_at dksX9_isIn_0 7 rfl rfl)
theorem dX9_isIn_10 : decode cX9_isIn 10 = .ok (.iconst 1, 1) := dk_4 (dk_at dksX9_isIn_0 10 rfl rfl)
theorem dX9_isIn_11 : decode cX9_isIn 11 = .ok (.goto 4, 3) := dk_167 0 4 (dk_at dksX9_isIn_0 11 rfl rfl)
theorem dX9_isIn_14 : decode cX9_isIn 14 = .ok (.iconst 0, 1) := dk_3 (dk_at dksX9_isIn_0 14 rfl rfl)
theorem dX9_isIn_15 : decode cX9_isIn 15 = .ok (.ireturn, 1) := dk_172 (dk_at dksX9_isIn_0 15 rfl rfl)
abbrev cX9_copies : ByteArray := prog_22_method_4_code
def yX9_copies : MethodName := ⟨RX9, "copies", "([I[I)V"⟩
def dkwX9_copies_0 : List UInt8 := [3, 61, 28, 16, 54, 162, 0, 15, 43, 28, 42, 28, 46, 79, 132, 2, 1, 167, 255, 241, 177]
abbrev dktX9_copies_0 : List UInt8 := dkwX9_copies_0 ++ []
theorem dksX9_copies_0 : cX9_copies.data.toList.drop 0 = dktX9_copies_0 := by decide +kernel
theorem dX9_copies_0 : decode cX9_copies 0 = .ok (.iconst 0, 1) := dk_3 (dk_at dksX9_copies_0 0 rfl rfl)
theorem dX9_copies_1 : decode cX9_copies 1 = .ok (.istore_n 2, 1) := dk_61 (dk_at dksX9_copies_0 1 rfl rfl)
theorem dX9_copies_2 : decode cX9_copies 2 = .ok (.iload_n 2, 1) := dk_28 (dk_at dksX9_copies_0 2 rfl rfl)
theorem dX9_copies_3 : decode cX9_copies 3 = .ok (.bipush 54, 2) := dk_16 54 (dk_at dksX9_copies_0 3 rfl rfl)
theorem dX9_copies_5 : decode cX9_copies 5 = .ok (.if_icmp .ge 15, 3) := dk_162 0 15 (dk_at dksX9_copies_0 5 rfl rfl)
theorem dX9_copies_8 : decode cX9_copies 8 = .ok (.aload_n 1, 1) := dk_43 (dk_at dksX9_copies_0 8 rfl rfl)
theorem dX9_copies_9 : decode cX9_copies 9 = .ok (.iload_n 2, 1) := dk_28 (dk_at dksX9_copies_0 9 rfl rfl)
theorem dX9_copies_10 : decode cX9_copies 10 = .ok (.aload_n 0, 1) := dk_42 (dk_at dksX9_copies_0 10 rfl rfl)
theorem dX9_copies_11 : decode cX9_copies 11 = .ok (.iload_n 2, 1) := dk_28 (dk_at dksX9_copies_0 11 rfl rfl)
theorem dX9_copies_12 : decode cX9_copies 12 = .ok (.iaload, 1) := dk_46 (dk_at dksX9_copies_0 12 rfl rfl)
theorem dX9_copies_13 : decode cX9_copies 13 = .ok (.iastore, 1) := dk_79 (dk_at dksX9_copies_0 13 rfl rfl)
theorem dX9_copies_14 : decode cX9_copies 14 = .ok (.iinc 2 1, 3) := dk_132 2 1 (dk_at dksX9_copies_0 14 rfl rfl)
theorem dX9_copies_17 : decode cX9_copies 17 = .ok (.goto (-15), 3) := dk_167 255 241 (dk_at dksX9_copies_0 17 rfl rfl)
theorem dX9_copies_20 : decode cX9_copies 20 = .ok (.return_, 1) := dk_177 (dk_at dksX9_copies_0 20 rfl rfl)
abbrev cX9_isDone : ByteArray := prog_22_method_27_code
def yX9_isDone : MethodName := ⟨RX9, "isDone", "(I)Z"⟩
def dkwX9_isDone_9 : List UInt8 := [172]
abbrev dktX9_isDone_9 : List UInt8 := dkwX9_isDone_9 ++ []
def dkwX9_isDone_8 : List UInt8 := [180, 0, 9, 4, 46, 28, 96, 17, 3, 231, 164, 0, 5, 3, 172, 42, 180, 0, 9, 28, 184, 0, 115, 4]
abbrev dktX9_isDone_8 : List UInt8 := dkwX9_isDone_8 ++ dktX9_isDone_9
def dkwX9_isDone_7 : List UInt8 := [180, 0, 9, 28, 7, 184, 0, 44, 3, 79, 4, 172, 28, 4, 16, 60, 184, 0, 40, 153, 0, 17, 42]
abbrev dktX9_isDone_7 : List UInt8 := dkwX9_isDone_7 ++ dktX9_isDone_8
def dkwX9_isDone_6 : List UInt8 := [28, 6, 184, 0, 44, 46, 5, 160, 0, 5, 3, 172, 42, 180, 0, 9, 28, 6, 184, 0, 44, 3, 79, 42]
abbrev dktX9_isDone_6 : List UInt8 := dkwX9_isDone_6 ++ dktX9_isDone_7
def dkwX9_isDone_5 : List UInt8 := [180, 0, 9, 16, 247, 28, 184, 0, 112, 62, 4, 172, 42, 28, 182, 0, 105, 153, 0, 17, 42, 180, 0, 9]
abbrev dktX9_isDone_5 : List UInt8 := dkwX9_isDone_5 ++ dktX9_isDone_6
def dkwX9_isDone_4 : List UInt8 := [180, 0, 31, 4, 46, 184, 0, 112, 62, 4, 172, 42, 180, 0, 9, 5, 46, 154, 0, 5, 3, 172, 42]
abbrev dktX9_isDone_4 : List UInt8 := dkwX9_isDone_4 ++ dktX9_isDone_5
def dkwX9_isDone_3 : List UInt8 := [153, 0, 14, 42, 180, 0, 9, 28, 184, 0, 55, 154, 0, 5, 3, 172, 42, 180, 0, 9, 28, 42]
abbrev dktX9_isDone_3 : List UInt8 := dkwX9_isDone_3 ++ dktX9_isDone_4
def dkwX9_isDone_2 : List UInt8 := [42, 28, 42, 180, 0, 31, 4, 46, 42, 180, 0, 31, 5, 46, 182, 0, 109, 172, 42, 28, 182, 0, 105]
abbrev dktX9_isDone_2 : List UInt8 := dkwX9_isDone_2 ++ dktX9_isDone_3
def dkwX9_isDone_1 : List UInt8 := [170, 0, 0, 0, 0, 202, 0, 0, 0, 102, 0, 0, 0, 116, 0, 0, 0, 130, 0, 0, 0, 202, 0, 0, 0, 154, 0, 0, 0, 202, 0, 0, 0, 202, 0, 0, 0, 202, 0, 0, 0, 202, 0, 0, 0, 202, 0, 0, 0, 202, 0, 0, 0, 74, 0, 0, 0, 92, 0, 0, 0, 202, 0, 0, 0, 202, 0, 0, 0, 202, 0, 0, 0, 74]
abbrev dktX9_isDone_1 : List UInt8 := dkwX9_isDone_1 ++ dktX9_isDone_2
def dkwX9_isDone_0 : List UInt8 := [42, 180, 0, 31, 3, 46, 61, 3, 62, 27]
abbrev dktX9_isDone_0 : List UInt8 := dkwX9_isDone_0 ++ dktX9_isDone_1
theorem dksX9_isDone_0 : cX9_isDone.data.toList.drop 0 = dktX9_isDone_0 := by decide +kernel
theorem dksX9_isDone_1 : cX9_isDone.data.toList.drop 10 = dktX9_isDone_1 := dk_seg dksX9_isDone_0 10 rfl rfl
theorem dksX9_isDone_2 : cX9_isDone.data.toList.drop 84 = dktX9_isDone_2 := dk_seg dksX9_isDone_1 74 rfl rfl
theorem dksX9_isDone_3 : cX9_isDone.data.toList.drop 107 = dktX9_isDone_3 := dk_seg dksX9_isDone_2 23 rfl rfl
theorem dksX9_isDone_4 : cX9_isDone.data.toList.drop 129 = dktX9_isDone_4 := dk_seg dksX9_isDone_3 22 rfl rfl
theorem dksX9_isDone_5 : cX9_isDone.data.toList.drop 152 = dktX9_isDone_5 := dk_seg dksX9_isDone_4 23 rfl rfl
theorem dksX9_isDone_6 : cX9_isDone.data.toList.drop 176 = dktX9_isDone_6 := dk_seg dksX9_isDone_5 24 rfl rfl
theorem dksX9_isDone_7 : cX9_isDone.data.toList.drop 200 = dktX9_isDone_7 := dk_seg dksX9_isDone_6 24 rfl rfl
theorem dksX9_isDone_8 : cX9_isDone.data.toList.drop 223 = dktX9_isDone_8 := dk_seg dksX9_isDone_7 23 rfl rfl
theorem dksX9_isDone_9 : cX9_isDone.data.toList.drop 247 = dktX9_isDone_9 := dk_seg dksX9_isDone_8 24 rfl rfl
theorem dX9_isDone_0 : decode cX9_isDone 0 = .ok (.aload_n 0, 1) := dk_42 (dk_at dksX9_isDone_0 0 rfl rfl)
theorem dX9_isDone_1 : decode cX9_isDone 1 = .ok (.getfield 31, 3) := dk_180 0 31 (dk_at dksX9_isDone_0 1 rfl rfl)
theorem dX9_isDone_4 : decode cX9_isDone 4 = .ok (.iconst 0, 1) := dk_3 (dk_at dksX9_isDone_0 4 rfl rfl)
theorem dX9_isDone_5 : decode cX9_isDone 5 = .ok (.iaload, 1) := dk_46 (dk_at dksX9_isDone_0 5 rfl rfl)
theorem dX9_isDone_6 : decode cX9_isDone 6 = .ok (.istore_n 2, 1) := dk_61 (dk_at dksX9_isDone_0 6 rfl rfl)
theorem dX9_isDone_7 : decode cX9_isDone 7 = .ok (.iconst 0, 1) := dk_3 (dk_at dksX9_isDone_0 7 rfl rfl)
theorem dX9_isDone_8 : decode cX9_isDone 8 = .ok (.istore_n 3, 1) := dk_62 (dk_at dksX9_isDone_0 8 rfl rfl)
theorem dX9_isDone_9 : decode cX9_isDone 9 = .ok (.iload_n 1, 1) := dk_27 (dk_at dksX9_isDone_0 9 rfl rfl)
theorem dX9_isDone_10 : decode cX9_isDone 10 = .ok (.tableswitch 202 102 116 #[130, 202, 154, 202, 202, 202, 202, 202, 202, 74, 92, 202, 202, 202, 74], 74) := by decide +kernel
theorem dX9_isDone_84 : decode cX9_isDone 84 = .ok (.aload_n 0, 1) := dk_42 (dk_at dksX9_isDone_2 0 rfl rfl)
theorem dX9_isDone_85 : decode cX9_isDone 85 = .ok (.iload_n 2, 1) := dk_28 (dk_at dksX9_isDone_2 1 rfl rfl)
theorem dX9_isDone_86 : decode cX9_isDone 86 = .ok (.aload_n 0, 1) := dk_42 (dk_at dksX9_isDone_2 2 rfl rfl)
theorem dX9_isDone_87 : decode cX9_isDone 87 = .ok (.getfield 31, 3) := dk_180 0 31 (dk_at dksX9_isDone_2 3 rfl rfl)
theorem dX9_isDone_90 : decode cX9_isDone 90 = .ok (.iconst 1, 1) := dk_4 (dk_at dksX9_isDone_2 6 rfl rfl)
theorem dX9_isDone_91 : decode cX9_isDone 91 = .ok (.iaload, 1) := dk_46 (dk_at dksX9_isDone_2 7 rfl rfl)
theorem dX9_isDone_92 : decode cX9_isDone 92 = .ok (.aload_n 0, 1) := dk_42 (dk_at dksX9_isDone_2 8 rfl rfl)
theorem dX9_isDone_93 : decode cX9_isDone 93 = .ok (.getfield 31, 3) := dk_180 0 31 (dk_at dksX9_isDone_2 9 rfl rfl)
theorem dX9_isDone_96 : decode cX9_isDone 96 = .ok (.iconst 2, 1) := dk_5 (dk_at dksX9_isDone_2 12 rfl rfl)
theorem dX9_isDone_97 : decode cX9_isDone 97 = .ok (.iaload, 1) := dk_46 (dk_at dksX9_isDone_2 13 rfl rfl)
theorem dX9_isDone_98 : decode cX9_isDone 98 = .ok (.invokevirtual 109, 3) := dk_182 0 109 (dk_at dksX9_isDone_2 14 rfl rfl)
theorem dX9_isDone_101 : decode cX9_isDone 101 = .ok (.ireturn, 1) := dk_172 (dk_at dksX9_isDone_2 17 rfl rfl)
theorem dX9_isDone_102 : decode cX9_isDone 102 = .ok (.aload_n 0, 1) := dk_42 (dk_at dksX9_isDone_2 18 rfl rfl)
theorem dX9_isDone_103 : decode cX9_isDone 103 = .ok (.iload_n 2, 1) := dk_28 (dk_at dksX9_isDone_2 19 rfl rfl)
theorem dX9_isDone_104 : decode cX9_isDone 104 = .ok (.invokevirtual 105, 3) := dk_182 0 105 (dk_at dksX9_isDone_2 20 rfl rfl)
theorem dX9_isDone_107 : decode cX9_isDone 107 = .ok (.ifCond .eq 14, 3) := dk_153 0 14 (dk_at dksX9_isDone_3 0 rfl rfl)
theorem dX9_isDone_110 : decode cX9_isDone 110 = .ok (.aload_n 0, 1) := dk_42 (dk_at dksX9_isDone_3 3 rfl rfl)
theorem dX9_isDone_111 : decode cX9_isDone 111 = .ok (.getfield 9, 3) := dk_180 0 9 (dk_at dksX9_isDone_3 4 rfl rfl)
theorem dX9_isDone_114 : decode cX9_isDone 114 = .ok (.iload_n 2, 1) := dk_28 (dk_at dksX9_isDone_3 7 rfl rfl)
theorem dX9_isDone_115 : decode cX9_isDone 115 = .ok (.invokestatic 55, 3) := dk_184 0 55 (dk_at dksX9_isDone_3 8 rfl rfl)
theorem dX9_isDone_118 : decode cX9_isDone 118 = .ok (.ifCond .ne 5, 3) := dk_154 0 5 (dk_at dksX9_isDone_3 11 rfl rfl)
theorem dX9_isDone_121 : decode cX9_isDone 121 = .ok (.iconst 0, 1) := dk_3 (dk_at dksX9_isDone_3 14 rfl rfl)
theorem dX9_isDone_122 : decode cX9_isDone 122 = .ok (.ireturn, 1) := dk_172 (dk_at dksX9_isDone_3 15 rfl rfl)
theorem dX9_isDone_123 : decode cX9_isDone 123 = .ok (.aload_n 0, 1) := dk_42 (dk_at dksX9_isDone_3 16 rfl rfl)
theorem dX9_isDone_124 : decode cX9_isDone 124 = .ok (.getfield 9, 3) := dk_180 0 9 (dk_at dksX9_isDone_3 17 rfl rfl)
theorem dX9_isDone_127 : decode cX9_isDone 127 = .ok (.iload_n 2, 1) := dk_28 (dk_at dksX9_isDone_3 20 rfl rfl)
theorem dX9_isDone_128 : decode cX9_isDone 128 = .ok (.aload_n 0, 1) := dk_42 (dk_at dksX9_isDone_3 21 rfl rfl)
theorem dX9_isDone_129 : decode cX9_isDone 129 = .ok (.getfield 31, 3) := dk_180 0 31 (dk_at dksX9_isDone_4 0 rfl rfl)
theorem dX9_isDone_132 : decode cX9_isDone 132 = .ok (.iconst 1, 1) := dk_4 (dk_at dksX9_isDone_4 3 rfl rfl)
theorem dX9_isDone_133 : decode cX9_isDone 133 = .ok (.iaload, 1) := dk_46 (dk_at dksX9_isDone_4 4 rfl rfl)
theorem dX9_isDone_134 : decode cX9_isDone 134 = .ok (.invokestatic 112, 3) := dk_184 0 112 (dk_at dksX9_isDone_4 5 rfl rfl)
theorem dX9_isDone_137 : decode cX9_isDone 137 = .ok (.istore_n 3, 1) := dk_62 (dk_at dksX9_isDone_4 8 rfl rfl)
theorem dX9_isDone_138 : decode cX9_isDone 138 = .ok (.iconst 1, 1) := dk_4 (dk_at dksX9_isDone_4 9 rfl rfl)
theorem dX9_isDone_139 : decode cX9_isDone 139 = .ok (.ireturn, 1) := dk_172 (dk_at dksX9_isDone_4 10 rfl rfl)
theorem dX9_isDone_140 : decode cX9_isDone 140 = .ok (.aload_n 0, 1) := dk_42 (dk_at dksX9_isDone_4 11 rfl rfl)
theorem dX9_isDone_141 : decode cX9_isDone 141 = .ok (.getfield 9, 3) := dk_180 0 9 (dk_at dksX9_isDone_4 12 rfl rfl)
theorem dX9_isDone_144 : decode cX9_isDone 144 = .ok (.iconst 2, 1) := dk_5 (dk_at dksX9_isDone_4 15 rfl rfl)
theorem dX9_isDone_145 : decode cX9_isDone 145 = .ok (.iaload, 1) := dk_46 (dk_at dksX9_isDone_4 16 rfl rfl)
theorem dX9_isDone_146 : decode cX9_isDone 146 = .ok (.ifCond .ne 5, 3) := dk_154 0 5 (dk_at dksX9_isDone_4 17 rfl rfl)
theorem dX9_isDone_149 : decode cX9_isDone 149 = .ok (.iconst 0, 1) := dk_3 (dk_at dksX9_isDone_4 20 rfl rfl)
theorem dX9_isDone_150 : decode cX9_isDone 150 = .ok (.ireturn, 1) := dk_172 (dk_at dksX9_isDone_4 21 rfl rfl)
theorem dX9_isDone_151 : decode cX9_isDone 151 = .ok (.aload_n 0, 1) := dk_42 (dk_at dksX9_isDone_4 22 rfl rfl)
theorem dX9_isDone_152 : decode cX9_isDone 152 = .ok (.getfield 9, 3) := dk_180 0 9 (dk_at dksX9_isDone_5 0 rfl rfl)
theorem dX9_isDone_155 : decode cX9_isDone 155 = .ok (.bipush (-9), 2) := dk_16 247 (dk_at dksX9_isDone_5 3 rfl rfl)
theorem dX9_isDone_157 : decode cX9_isDone 157 = .ok (.iload_n 2, 1) := dk_28 (dk_at dksX9_isDone_5 5 rfl rfl)
theorem dX9_isDone_158 : decode cX9_isDone 158 = .ok (.invokestatic 112, 3) := dk_184 0 112 (dk_at dksX9_isDone_5 6 rfl rfl)
theorem dX9_isDone_161 : decode cX9_isDone 161 = .ok (.istore_n 3, 1) := dk_62 (dk_at dksX9_isDone_5 9 rfl rfl)
theorem dX9_isDone_162 : decode cX9_isDone 162 = .ok (.iconst 1, 1) := dk_4 (dk_at dksX9_isDone_5 10 rfl rfl)
theorem dX9_isDone_163 : decode cX9_isDone 163 = .ok (.ireturn, 1) := dk_172 (dk_at dksX9_isDone_5 11 rfl rfl)
theorem dX9_isDone_164 : decode cX9_isDone 164 = .ok (.aload_n 0, 1) := dk_42 (dk_at dksX9_isDone_5 12 rfl rfl)
theorem dX9_isDone_165 : decode cX9_isDone 165 = .ok (.iload_n 2, 1) := dk_28 (dk_at dksX9_isDone_5 13 rfl rfl)
theorem dX9_isDone_166 : decode cX9_isDone 166 = .ok (.invokevirtual 105, 3) := dk_182 0 105 (dk_at dksX9_isDone_5 14 rfl rfl)
theorem dX9_isDone_169 : decode cX9_isDone 169 = .ok (.ifCond .eq 17, 3) := dk_153 0 17 (dk_at dksX9_isDone_5 17 rfl rfl)
theorem dX9_isDone_172 : decode cX9_isDone 172 = .ok (.aload_n 0, 1) := dk_42 (dk_at dksX9_isDone_5 20 rfl rfl)
theorem dX9_isDone_173 : decode cX9_isDone 173 = .ok (.getfield 9, 3) := dk_180 0 9 (dk_at dksX9_isDone_5 21 rfl rfl)
theorem dX9_isDone_176 : decode cX9_isDone 176 = .ok (.iload_n 2, 1) := dk_28 (dk_at dksX9_isDone_6 0 rfl rfl)
theorem dX9_isDone_177 : decode cX9_isDone 177 = .ok (.iconst 3, 1) := dk_6 (dk_at dksX9_isDone_6 1 rfl rfl)
theorem dX9_isDone_178 : decode cX9_isDone 178 = .ok (.invokestatic 44, 3) := dk_184 0 44 (dk_at dksX9_isDone_6 2 rfl rfl)
theorem dX9_isDone_181 : decode cX9_isDone 181 = .ok (.iaload, 1) := dk_46 (dk_at dksX9_isDone_6 5 rfl rfl)
theorem dX9_isDone_182 : decode cX9_isDone 182 = .ok (.iconst 2, 1) := dk_5 (dk_at dksX9_isDone_6 6 rfl rfl)
theorem dX9_isDone_183 : decode cX9_isDone 183 = .ok (.if_icmp .ne 5, 3) := dk_160 0 5 (dk_at dksX9_isDone_6 7 rfl rfl)
theorem dX9_isDone_186 : decode cX9_isDone 186 = .ok (.iconst 0, 1) := dk_3 (dk_at dksX9_isDone_6 10 rfl rfl)
theorem dX9_isDone_187 : decode cX9_isDone 187 = .ok (.ireturn, 1) := dk_172 (dk_at dksX9_isDone_6 11 rfl rfl)
theorem dX9_isDone_188 : decode cX9_isDone 188 = .ok (.aload_n 0, 1) := dk_42 (dk_at dksX9_isDone_6 12 rfl rfl)
theorem dX9_isDone_189 : decode cX9_isDone 189 = .ok (.getfield 9, 3) := dk_180 0 9 (dk_at dksX9_isDone_6 13 rfl rfl)
theorem dX9_isDone_192 : decode cX9_isDone 192 = .ok (.iload_n 2, 1) := dk_28 (dk_at dksX9_isDone_6 16 rfl rfl)
theorem dX9_isDone_193 : decode cX9_isDone 193 = .ok (.iconst 3, 1) := dk_6 (dk_at dksX9_isDone_6 17 rfl rfl)
theorem dX9_isDone_194 : decode cX9_isDone 194 = .ok (.invokestatic 44, 3) := dk_184 0 44 (dk_at dksX9_isDone_6 18 rfl rfl)
theorem dX9_isDone_197 : decode cX9_isDone 197 = .ok (.iconst 0, 1) := dk_3 (dk_at dksX9_isDone_6 21 rfl rfl)
theorem dX9_isDone_198 : decode cX9_isDone 198 = .ok (.iastore, 1) := dk_79 (dk_at dksX9_isDone_6 22 rfl rfl)
theorem dX9_isDone_199 : decode cX9_isDone 199 = .ok (.aload_n 0, 1) := dk_42 (dk_at dksX9_isDone_6 23 rfl rfl)
theorem dX9_isDone_200 : decode cX9_isDone 200 = .ok (.getfield 9, 3) := dk_180 0 9 (dk_at dksX9_isDone_7 0 rfl rfl)
theorem dX9_isDone_203 : decode cX9_isDone 203 = .ok (.iload_n 2, 1) := dk_28 (dk_at dksX9_isDone_7 3 rfl rfl)
theorem dX9_isDone_204 : decode cX9_isDone 204 = .ok (.iconst 4, 1) := dk_7 (dk_at dksX9_isDone_7 4 rfl rfl)
theorem dX9_isDone_205 : decode cX9_isDone 205 = .ok (.invokestatic 44, 3) := dk_184 0 44 (dk_at dksX9_isDone_7 5 rfl rfl)
theorem dX9_isDone_208 : decode cX9_isDone 208 = .ok (.iconst 0, 1) := dk_3 (dk_at dksX9_isDone_7 8 rfl rfl)
theorem dX9_isDone_209 : decode cX9_isDone 209 = .ok (.iastore, 1) := dk_79 (dk_at dksX9_isDone_7 9 rfl rfl)
theorem dX9_isDone_210 : decode cX9_isDone 210 = .ok (.iconst 1, 1) := dk_4 (dk_at dksX9_isDone_7 10 rfl rfl)
theorem dX9_isDone_211 : decode cX9_isDone 211 = .ok (.ireturn, 1) := dk_172 (dk_at dksX9_isDone_7 11 rfl rfl)
theorem dX9_isDone_212 : decode cX9_isDone 212 = .ok (.iload_n 2, 1) := dk_28 (dk_at dksX9_isDone_7 12 rfl rfl)
theorem dX9_isDone_213 : decode cX9_isDone 213 = .ok (.iconst 1, 1) := dk_4 (dk_at dksX9_isDone_7 13 rfl rfl)
theorem dX9_isDone_214 : decode cX9_isDone 214 = .ok (.bipush 60, 2) := dk_16 60 (dk_at dksX9_isDone_7 14 rfl rfl)
theorem dX9_isDone_216 : decode cX9_isDone 216 = .ok (.invokestatic 40, 3) := dk_184 0 40 (dk_at dksX9_isDone_7 16 rfl rfl)
theorem dX9_isDone_219 : decode cX9_isDone 219 = .ok (.ifCond .eq 17, 3) := dk_153 0 17 (dk_at dksX9_isDone_7 19 rfl rfl)
theorem dX9_isDone_222 : decode cX9_isDone 222 = .ok (.aload_n 0, 1) := dk_42 (dk_at dksX9_isDone_7 22 rfl rfl)
theorem dX9_isDone_223 : decode cX9_isDone 223 = .ok (.getfield 9, 3) := dk_180 0 9 (dk_at dksX9_isDone_8 0 rfl rfl)
theorem dX9_isDone_226 : decode cX9_isDone 226 = .ok (.iconst 1, 1) := dk_4 (dk_at dksX9_isDone_8 3 rfl rfl)
theorem dX9_isDone_227 : decode cX9_isDone 227 = .ok (.iaload, 1) := dk_46 (dk_at dksX9_isDone_8 4 rfl rfl)
theorem dX9_isDone_228 : decode cX9_isDone 228 = .ok (.iload_n 2, 1) := dk_28 (dk_at dksX9_isDone_8 5 rfl rfl)
theorem dX9_isDone_229 : decode cX9_isDone 229 = .ok (.iadd, 1) := dk_96 (dk_at dksX9_isDone_8 6 rfl rfl)
theorem dX9_isDone_230 : decode cX9_isDone 230 = .ok (.sipush 999, 3) := dk_17 3 231 (dk_at dksX9_isDone_8 7 rfl rfl)
theorem dX9_isDone_233 : decode cX9_isDone 233 = .ok (.if_icmp .le 5, 3) := dk_164 0 5 (dk_at dksX9_isDone_8 10 rfl rfl)
theorem dX9_isDone_236 : decode cX9_isDone 236 = .ok (.iconst 0, 1) := dk_3 (dk_at dksX9_isDone_8 13 rfl rfl)
theorem dX9_isDone_237 : decode cX9_isDone 237 = .ok (.ireturn, 1) := dk_172 (dk_at dksX9_isDone_8 14 rfl rfl)
theorem dX9_isDone_238 : decode cX9_isDone 238 = .ok (.aload_n 0, 1) := dk_42 (dk_at dksX9_isDone_8 15 rfl rfl)
theorem dX9_isDone_239 : decode cX9_isDone 239 = .ok (.getfield 9, 3) := dk_180 0 9 (dk_at dksX9_isDone_8 16 rfl rfl)
theorem dX9_isDone_242 : decode cX9_isDone 242 = .ok (.iload_n 2, 1) := dk_28 (dk_at dksX9_isDone_8 19 rfl rfl)
theorem dX9_isDone_243 : decode cX9_isDone 243 = .ok (.invokestatic 115, 3) := dk_184 0 115 (dk_at dksX9_isDone_8 20 rfl rfl)
theorem dX9_isDone_246 : decode cX9_isDone 246 = .ok (.iconst 1, 1) := dk_4 (dk_at dksX9_isDone_8 23 rfl rfl)
theorem dX9_isDone_247 : decode cX9_isDone 247 = .ok (.ireturn, 1) := dk_172 (dk_at dksX9_isDone_9 0 rfl rfl)
abbrev cX9_adds : ByteArray := prog_22_method_26_code
def yX9_adds : MethodName := ⟨RX9, "adds", "(III)Z"⟩
def dkwX9_adds_6 : List UInt8 := [4, 172]
abbrev dktX9_adds_6 : List UInt8 := dkwX9_adds_6 ++ []
def dkwX9_adds_5 : List UInt8 := [3, 79, 42, 180, 0, 9, 21, 5, 7, 184, 0, 44, 3, 79, 42, 180, 0, 9, 3, 92, 46, 4, 96, 79]
abbrev dktX9_adds_5 : List UInt8 := dkwX9_adds_5 ++ dktX9_adds_6
def dkwX9_adds_4 : List UInt8 := [28, 79, 42, 180, 0, 9, 21, 5, 5, 184, 0, 44, 29, 79, 42, 180, 0, 9, 21, 5, 6, 184, 0, 44]
abbrev dktX9_adds_4 : List UInt8 := dkwX9_adds_4 ++ dktX9_adds_5
def dkwX9_adds_3 : List UInt8 := [54, 5, 42, 180, 0, 9, 21, 5, 3, 184, 0, 44, 27, 79, 42, 180, 0, 9, 21, 5, 4, 184, 0, 44]
abbrev dktX9_adds_3 : List UInt8 := dkwX9_adds_3 ++ dktX9_adds_4
def dkwX9_adds_2 : List UInt8 := [21, 4, 153, 0, 14, 42, 180, 0, 9, 3, 46, 16, 10, 160, 0, 5, 3, 172, 42, 180, 0, 9, 3, 46]
abbrev dktX9_adds_2 : List UInt8 := dkwX9_adds_2 ++ dktX9_adds_3
def dkwX9_adds_1 : List UInt8 := [182, 0, 105, 153, 0, 18, 42, 180, 0, 9, 29, 184, 0, 55, 153, 0, 7, 4, 167, 0, 4, 3, 54, 4]
abbrev dktX9_adds_1 : List UInt8 := dkwX9_adds_1 ++ dktX9_adds_2
def dkwX9_adds_0 : List UInt8 := [29, 156, 0, 21, 42, 180, 0, 9, 5, 46, 4, 160, 0, 7, 4, 167, 0, 31, 3, 167, 0, 27, 42, 29]
abbrev dktX9_adds_0 : List UInt8 := dkwX9_adds_0 ++ dktX9_adds_1
theorem dksX9_adds_0 : cX9_adds.data.toList.drop 0 = dktX9_adds_0 := by decide +kernel
theorem dksX9_adds_1 : cX9_adds.data.toList.drop 24 = dktX9_adds_1 := dk_seg dksX9_adds_0 24 rfl rfl
theorem dksX9_adds_2 : cX9_adds.data.toList.drop 48 = dktX9_adds_2 := dk_seg dksX9_adds_1 24 rfl rfl
theorem dksX9_adds_3 : cX9_adds.data.toList.drop 72 = dktX9_adds_3 := dk_seg dksX9_adds_2 24 rfl rfl
theorem dksX9_adds_4 : cX9_adds.data.toList.drop 96 = dktX9_adds_4 := dk_seg dksX9_adds_3 24 rfl rfl
theorem dksX9_adds_5 : cX9_adds.data.toList.drop 120 = dktX9_adds_5 := dk_seg dksX9_adds_4 24 rfl rfl
theorem dksX9_adds_6 : cX9_adds.data.toList.drop 144 = dktX9_adds_6 := dk_seg dksX9_adds_5 24 rfl rfl
theorem dX9_adds_0 : decode cX9_adds 0 = .ok (.iload_n 3, 1) := dk_29 (dk_at dksX9_adds_0 0 rfl rfl)
theorem dX9_adds_1 : decode cX9_adds 1 = .ok (.ifCond .ge 21, 3) := dk_156 0 21 (dk_at dksX9_adds_0 1 rfl rfl)
theorem dX9_adds_4 : decode cX9_adds 4 = .ok (.aload_n 0, 1) := dk_42 (dk_at dksX9_adds_0 4 rfl rfl)
theorem dX9_adds_5 : decode cX9_adds 5 = .ok (.getfield 9, 3) := dk_180 0 9 (dk_at dksX9_adds_0 5 rfl rfl)
theorem dX9_adds_8 : decode cX9_adds 8 = .ok (.iconst 2, 1) := dk_5 (dk_at dksX9_adds_0 8 rfl rfl)
theorem dX9_adds_9 : decode cX9_adds 9 = .ok (.iaload, 1) := dk_46 (dk_at dksX9_adds_0 9 rfl rfl)
theorem dX9_adds_10 : decode cX9_adds 10 = .ok (.iconst 1, 1) := dk_4 (dk_at dksX9_adds_0 10 rfl rfl)
theorem dX9_adds_11 : decode cX9_adds 11 = .ok (.if_icmp .ne 7, 3) := dk_160 0 7 (dk_at dksX9_adds_0 11 rfl rfl)
theorem dX9_adds_14 : decode cX9_adds 14 = .ok (.iconst 1, 1) := dk_4 (dk_at dksX9_adds_0 14 rfl rfl)
theorem dX9_adds_15 : decode cX9_adds 15 = .ok (.goto 31, 3) := dk_167 0 31 (dk_at dksX9_adds_0 15 rfl rfl)
theorem dX9_adds_18 : decode cX9_adds 18 = .ok (.iconst 0, 1) := dk_3 (dk_at dksX9_adds_0 18 rfl rfl)
theorem dX9_adds_19 : decode cX9_adds 19 = .ok (.goto 27, 3) := dk_167 0 27 (dk_at dksX9_adds_0 19 rfl rfl)
theorem dX9_adds_22 : decode cX9_adds 22 = .ok (.aload_n 0, 1) := dk_42 (dk_at dksX9_adds_0 22 rfl rfl)
theorem dX9_adds_23 : decode cX9_adds 23 = .ok (.iload_n 3, 1) := dk_29 (dk_at dksX9_adds_0 23 rfl rfl)
theorem dX9_adds_24 : decode cX9_adds 24 = .ok (.invokevirtual 105, 3) := dk_182 0 105 (dk_at dksX9_adds_1 0 rfl rfl)
theorem dX9_adds_27 : decode cX9_adds 27 = .ok (.ifCond .eq 18, 3) := dk_153 0 18 (dk_at dksX9_adds_1 3 rfl rfl)
theorem dX9_adds_30 : decode cX9_adds 30 = .ok (.aload_n 0, 1) := dk_42 (dk_at dksX9_adds_1 6 rfl rfl)
theorem dX9_adds_31 : decode cX9_adds 31 = .ok (.getfield 9, 3) := dk_180 0 9 (dk_at dksX9_adds_1 7 rfl rfl)
theorem dX9_adds_34 : decode cX9_adds 34 = .ok (.iload_n 3, 1) := dk_29 (dk_at dksX9_adds_1 10 rfl rfl)
theorem dX9_adds_35 : decode cX9_adds 35 = .ok (.invokestatic 55, 3) := dk_184 0 55 (dk_at dksX9_adds_1 11 rfl rfl)
theorem dX9_adds_38 : decode cX9_adds 38 = .ok (.ifCond .eq 7, 3) := dk_153 0 7 (dk_at dksX9_adds_1 14 rfl rfl)
theorem dX9_adds_41 : decode cX9_adds 41 = .ok (.iconst 1, 1) := dk_4 (dk_at dksX9_adds_1 17 rfl rfl)
theorem dX9_adds_42 : decode cX9_adds 42 = .ok (.goto 4, 3) := dk_167 0 4 (dk_at dksX9_adds_1 18 rfl rfl)
theorem dX9_adds_45 : decode cX9_adds 45 = .ok (.iconst 0, 1) := dk_3 (dk_at dksX9_adds_1 21 rfl rfl)
theorem dX9_adds_46 : decode cX9_adds 46 = .ok (.istore 4, 2) := dk_54 4 (dk_at dksX9_adds_1 22 rfl rfl)
theorem dX9_adds_48 : decode cX9_adds 48 = .ok (.iload 4, 2) := dk_21 4 (dk_at dksX9_adds_2 0 rfl rfl)
theorem dX9_adds_50 : decode cX9_adds 50 = .ok (.ifCond .eq 14, 3) := dk_153 0 14 (dk_at dksX9_adds_2 2 rfl rfl)
theorem dX9_adds_53 : decode cX9_adds 53 = .ok (.aload_n 0, 1) := dk_42 (dk_at dksX9_adds_2 5 rfl rfl)
theorem dX9_adds_54 : decode cX9_adds 54 = .ok (.getfield 9, 3) := dk_180 0 9 (dk_at dksX9_adds_2 6 rfl rfl)
theorem dX9_adds_57 : decode cX9_adds 57 = .ok (.iconst 0, 1) := dk_3 (dk_at dksX9_adds_2 9 rfl rfl)
theorem dX9_adds_58 : decode cX9_adds 58 = .ok (.iaload, 1) := dk_46 (dk_at dksX9_adds_2 10 rfl rfl)
theorem dX9_adds_59 : decode cX9_adds 59 = .ok (.bipush 10, 2) := dk_16 10 (dk_at dksX9_adds_2 11 rfl rfl)
theorem dX9_adds_61 : decode cX9_adds 61 = .ok (.if_icmp .ne 5, 3) := dk_160 0 5 (dk_at dksX9_adds_2 13 rfl rfl)
theorem dX9_adds_64 : decode cX9_adds 64 = .ok (.iconst 0, 1) := dk_3 (dk_at dksX9_adds_2 16 rfl rfl)
theorem dX9_adds_65 : decode cX9_adds 65 = .ok (.ireturn, 1) := dk_172 (dk_at dksX9_adds_2 17 rfl rfl)
theorem dX9_adds_66 : decode cX9_adds 66 = .ok (.aload_n 0, 1) := dk_42 (dk_at dksX9_adds_2 18 rfl rfl)
theorem dX9_adds_67 : decode cX9_adds 67 = .ok (.getfield 9, 3) := dk_180 0 9 (dk_at dksX9_adds_2 19 rfl rfl)
theorem dX9_adds_70 : decode cX9_adds 70 = .ok (.iconst 0, 1) := dk_3 (dk_at dksX9_adds_2 22 rfl rfl)
theorem dX9_adds_71 : decode cX9_adds 71 = .ok (.iaload, 1) := dk_46 (dk_at dksX9_adds_2 23 rfl rfl)
theorem dX9_adds_72 : decode cX9_adds 72 = .ok (.istore 5, 2) := dk_54 5 (dk_at dksX9_adds_3 0 rfl rfl)
theorem dX9_adds_74 : decode cX9_adds 74 = .ok (.aload_n 0, 1) := dk_42 (dk_at dksX9_adds_3 2 rfl rfl)
theorem dX9_adds_75 : decode cX9_adds 75 = .ok (.getfield 9, 3) := dk_180 0 9 (dk_at dksX9_adds_3 3 rfl rfl)
theorem dX9_adds_78 : decode cX9_adds 78 = .ok (.iload 5, 2) := dk_21 5 (dk_at dksX9_adds_3 6 rfl rfl)
theorem dX9_adds_80 : decode cX9_adds 80 = .ok (.iconst 0, 1) := dk_3 (dk_at dksX9_adds_3 8 rfl rfl)
theorem dX9_adds_81 : decode cX9_adds 81 = .ok (.invokestatic 44, 3) := dk_184 0 44 (dk_at dksX9_adds_3 9 rfl rfl)
theorem dX9_adds_84 : decode cX9_adds 84 = .ok (.iload_n 1, 1) := dk_27 (dk_at dksX9_adds_3 12 rfl rfl)
theorem dX9_adds_85 : decode cX9_adds 85 = .ok (.iastore, 1) := dk_79 (dk_at dksX9_adds_3 13 rfl rfl)
theorem dX9_adds_86 : decode cX9_adds 86 = .ok (.aload_n 0, 1) := dk_42 (dk_at dksX9_adds_3 14 rfl rfl)
theorem dX9_adds_87 : decode cX9_adds 87 = .ok (.getfield 9, 3) := dk_180 0 9 (dk_at dksX9_adds_3 15 rfl rfl)
theorem dX9_adds_90 : decode cX9_adds 90 = .ok (.iload 5, 2) := dk_21 5 (dk_at dksX9_adds_3 18 rfl rfl)
theorem dX9_adds_92 : decode cX9_adds 92 = .ok (.iconst 1, 1) := dk_4 (dk_at dksX9_adds_3 20 rfl rfl)
theorem dX9_adds_93 : decode cX9_adds 93 = .ok (.invokestatic 44, 3) := dk_184 0 44 (dk_at dksX9_adds_3 21 rfl rfl)
theorem dX9_adds_96 : decode cX9_adds 96 = .ok (.iload_n 2, 1) := dk_28 (dk_at dksX9_adds_4 0 rfl rfl)
theorem dX9_adds_97 : decode cX9_adds 97 = .ok (.iastore, 1) := dk_79 (dk_at dksX9_adds_4 1 rfl rfl)
theorem dX9_adds_98 : decode cX9_adds 98 = .ok (.aload_n 0, 1) := dk_42 (dk_at dksX9_adds_4 2 rfl rfl)
theorem dX9_adds_99 : decode cX9_adds 99 = .ok (.getfield 9, 3) := dk_180 0 9 (dk_at dksX9_adds_4 3 rfl rfl)
theorem dX9_adds_102 : decode cX9_adds 102 = .ok (.iload 5, 2) := dk_21 5 (dk_at dksX9_adds_4 6 rfl rfl)
theorem dX9_adds_104 : decode cX9_adds 104 = .ok (.iconst 2, 1) := dk_5 (dk_at dksX9_adds_4 8 rfl rfl)
theorem dX9_adds_105 : decode cX9_adds 105 = .ok (.invokestatic 44, 3) := dk_184 0 44 (dk_at dksX9_adds_4 9 rfl rfl)
theorem dX9_adds_108 : decode cX9_adds 108 = .ok (.iload_n 3, 1) := dk_29 (dk_at dksX9_adds_4 12 rfl rfl)
theorem dX9_adds_109 : decode cX9_adds 109 = .ok (.iastore, 1) := dk_79 (dk_at dksX9_adds_4 13 rfl rfl)
theorem dX9_adds_110 : decode cX9_adds 110 = .ok (.aload_n 0, 1) := dk_42 (dk_at dksX9_adds_4 14 rfl rfl)
theorem dX9_adds_111 : decode cX9_adds 111 = .ok (.getfield 9, 3) := dk_180 0 9 (dk_at dksX9_adds_4 15 rfl rfl)
theorem dX9_adds_114 : decode cX9_adds 114 = .ok (.iload 5, 2) := dk_21 5 (dk_at dksX9_adds_4 18 rfl rfl)
theorem dX9_adds_116 : decode cX9_adds 116 = .ok (.iconst 3, 1) := dk_6 (dk_at dksX9_adds_4 20 rfl rfl)
theorem dX9_adds_117 : decode cX9_adds 117 = .ok (.invokestatic 44, 3) := dk_184 0 44 (dk_at dksX9_adds_4 21 rfl rfl)
theorem dX9_adds_120 : decode cX9_adds 120 = .ok (.iconst 0, 1) := dk_3 (dk_at dksX9_adds_5 0 rfl rfl)
theorem dX9_adds_121 : decode cX9_adds 121 = .ok (.iastore, 1) := dk_79 (dk_at dksX9_adds_5 1 rfl rfl)
theorem dX9_adds_122 : decode cX9_adds 122 = .ok (.aload_n 0, 1) := dk_42 (dk_at dksX9_adds_5 2 rfl rfl)
theorem dX9_adds_123 : decode cX9_adds 123 = .ok (.getfield 9, 3) := dk_180 0 9 (dk_at dksX9_adds_5 3 rfl rfl)
theorem dX9_adds_126 : decode cX9_adds 126 = .ok (.iload 5, 2) := dk_21 5 (dk_at dksX9_adds_5 6 rfl rfl)
theorem dX9_adds_128 : decode cX9_adds 128 = .ok (.iconst 4, 1) := dk_7 (dk_at dksX9_adds_5 8 rfl rfl)
theorem dX9_adds_129 : decode cX9_adds 129 = .ok (.invokestatic 44, 3) := dk_184 0 44 (dk_at dksX9_adds_5 9 rfl rfl)
theorem dX9_adds_132 : decode cX9_adds 132 = .ok (.iconst 0, 1) := dk_3 (dk_at dksX9_adds_5 12 rfl rfl)
theorem dX9_adds_133 : decode cX9_adds 133 = .ok (.iastore, 1) := dk_79 (dk_at dksX9_adds_5 13 rfl rfl)
theorem dX9_adds_134 : decode cX9_adds 134 = .ok (.aload_n 0, 1) := dk_42 (dk_at dksX9_adds_5 14 rfl rfl)
theorem dX9_adds_135 : decode cX9_adds 135 = .ok (.getfield 9, 3) := dk_180 0 9 (dk_at dksX9_adds_5 15 rfl rfl)
theorem dX9_adds_138 : decode cX9_adds 138 = .ok (.iconst 0, 1) := dk_3 (dk_at dksX9_adds_5 18 rfl rfl)
theorem dX9_adds_139 : decode cX9_adds 139 = .ok (.dup2, 1) := dk_92 (dk_at dksX9_adds_5 19 rfl rfl)
theorem dX9_adds_140 : decode cX9_adds 140 = .ok (.iaload, 1) := dk_46 (dk_at dksX9_adds_5 20 rfl rfl)
theorem dX9_adds_141 : decode cX9_adds 141 = .ok (.iconst 1, 1) := dk_4 (dk_at dksX9_adds_5 21 rfl rfl)
theorem dX9_adds_142 : decode cX9_adds 142 = .ok (.iadd, 1) := dk_96 (dk_at dksX9_adds_5 22 rfl rfl)
theorem dX9_adds_143 : decode cX9_adds 143 = .ok (.iastore, 1) := dk_79 (dk_at dksX9_adds_5 23 rfl rfl)
theorem dX9_adds_144 : decode cX9_adds 144 = .ok (.iconst 1, 1) := dk_4 (dk_at dksX9_adds_6 0 rfl rfl)
theorem dX9_adds_145 : decode cX9_adds 145 = .ok (.ireturn, 1) := dk_172 (dk_at dksX9_adds_6 1 rfl rfl)
abbrev cX9_isThing : ByteArray := prog_22_method_8_code
def yX9_isThing : MethodName := ⟨RX9, "isThing", "(I)Z"⟩
def dkwX9_isThing_0 : List UInt8 := [27, 3, 42, 180, 0, 9, 3, 46, 4, 100, 184, 0, 40, 172]
abbrev dktX9_isThing_0 : List UInt8 := dkwX9_isThing_0 ++ []
theorem dksX9_isThing_0 : cX9_isThing.data.toList.drop 0 = dktX9_isThing_0 := by decide +kernel
theorem dX9_isThing_0 : decode cX9_isThing 0 = .ok (.iload_n 1, 1) := dk_27 (dk_at dksX9_isThing_0 0 rfl rfl)
theorem dX9_isThing_1 : decode cX9_isThing 1 = .ok (.iconst 0, 1) := dk_3 (dk_at dksX9_isThing_0 1 rfl rfl)
theorem dX9_isThing_2 : decode cX9_isThing 2 = .ok (.aload_n 0, 1) := dk_42 (dk_at dksX9_isThing_0 2 rfl rfl)
theorem dX9_isThing_3 : decode cX9_isThing 3 = .ok (.getfield 9, 3) := dk_180 0 9 (dk_at dksX9_isThing_0 3 rfl rfl)
theorem dX9_isThing_6 : decode cX9_isThing 6 = .ok (.iconst 0, 1) := dk_3 (dk_at dksX9_isThing_0 6 rfl rfl)
theorem dX9_isThing_7 : decode cX9_isThing 7 = .ok (.iaload, 1) := dk_46 (dk_at dksX9_isThing_0 7 rfl rfl)
theorem dX9_isThing_8 : decode cX9_isThing 8 = .ok (.iconst 1, 1) := dk_4 (dk_at dksX9_isThing_0 8 rfl rfl)
theorem dX9_isThing_9 : decode cX9_isThing 9 = .ok (.isub, 1) := dk_100 (dk_at dksX9_isThing_0 9 rfl rfl)
theorem dX9_isThing_10 : decode cX9_isThing 10 = .ok (.invokestatic 40, 3) := dk_184 0 40 (dk_at dksX9_isThing_0 10 rfl rfl)
theorem dX9_isThing_13 : decode cX9_isThing 13 = .ok (.ireturn, 1) := dk_172 (dk_at dksX9_isThing_0 13 rfl rfl)
abbrev cX9_stands : ByteArray := prog_22_method_9_code
def yX9_stands : MethodName := ⟨RX9, "stands", "([II)Z"⟩
def dkwX9_stands_0 : List UInt8 := [42, 27, 6, 184, 0, 44, 46, 154, 0, 7, 4, 167, 0, 4, 3, 172]
abbrev dktX9_stands_0 : List UInt8 := dkwX9_stands_0 ++ []
theorem dksX9_stands_0 : cX9_stands.data.toList.drop 0 = dktX9_stands_0 := by decide +kernel
theorem dX9_stands_0 : decode cX9_stands 0 = .ok (.aload_n 0, 1) := dk_42 (dk_at dksX9_stands_0 0 rfl rfl)
theorem dX9_stands_1 : decode cX9_stands 1 = .ok (.iload_n 1, 1) := dk_27 (dk_at dksX9_stands_0 1 rfl rfl)
theorem dX9_stands_2 : decode cX9_stands 2 = .ok (.iconst 3, 1) := dk_6 (dk_at dksX9_stands_0 2 rfl rfl)
theorem dX9_stands_3 : decode cX9_stands 3 = .ok (.invokestatic 44, 3) := dk_184 0 44 (dk_at dksX9_stands_0 3 rfl rfl)
theorem dX9_stands_6 : decode cX9_stands 6 = .ok (.iaload, 1) := dk_46 (dk_at dksX9_stands_0 6 rfl rfl)
theorem dX9_stands_7 : decode cX9_stands 7 = .ok (.ifCond .ne 7, 3) := dk_154 0 7 (dk_at dksX9_stands_0 7 rfl rfl)
theorem dX9_stands_10 : decode cX9_stands 10 = .ok (.iconst 1, 1) := dk_4 (dk_at dksX9_stands_0 10 rfl rfl)
theorem dX9_stands_11 : decode cX9_stands 11 = .ok (.goto 4, 3) := dk_167 0 4 (dk_at dksX9_stands_0 11 rfl rfl)
theorem dX9_stands_14 : decode cX9_stands 14 = .ok (.iconst 0, 1) := dk_3 (dk_at dksX9_stands_0 14 rfl rfl)
theorem dX9_stands_15 : decode cX9_stands 15 = .ok (.ireturn, 1) := dk_172 (dk_at dksX9_stands_0 15 rfl rfl)
abbrev cX9_of : ByteArray := prog_22_method_7_code
def yX9_of : MethodName := ⟨RX9, "of", "(II)I"⟩
def dkwX9_of_0 : List UInt8 := [7, 8, 26, 104, 96, 27, 96, 172]
abbrev dktX9_of_0 : List UInt8 := dkwX9_of_0 ++ []
theorem dksX9_of_0 : cX9_of.data.toList.drop 0 = dktX9_of_0 := by decide +kernel
theorem dX9_of_0 : decode cX9_of 0 = .ok (.iconst 4, 1) := dk_7 (dk_at dksX9_of_0 0 rfl rfl)
theorem dX9_of_1 : decode cX9_of 1 = .ok (.iconst 5, 1) := dk_8 (dk_at dksX9_of_0 1 rfl rfl)
theorem dX9_of_2 : decode cX9_of 2 = .ok (.iload_n 0, 1) := dk_26 (dk_at dksX9_of_0 2 rfl rfl)
theorem dX9_of_3 : decode cX9_of 3 = .ok (.imul, 1) := dk_104 (dk_at dksX9_of_0 3 rfl rfl)
theorem dX9_of_4 : decode cX9_of 4 = .ok (.iadd, 1) := dk_96 (dk_at dksX9_of_0 4 rfl rfl)
theorem dX9_of_5 : decode cX9_of 5 = .ok (.iload_n 1, 1) := dk_27 (dk_at dksX9_of_0 5 rfl rfl)
theorem dX9_of_6 : decode cX9_of 6 = .ok (.iadd, 1) := dk_96 (dk_at dksX9_of_0 6 rfl rfl)
theorem dX9_of_7 : decode cX9_of 7 = .ok (.ireturn, 1) := dk_172 (dk_at dksX9_of_0 7 rfl rfl)
abbrev cX9_pullsIn : ByteArray := prog_22_method_17_code
def yX9_pullsIn : MethodName := ⟨RX9, "pullsIn", "([III)I"⟩
def dkwX9_pullsIn_3 : List UInt8 := [167, 255, 216, 29, 184, 0, 67, 172]
abbrev dktX9_pullsIn_3 : List UInt8 := dkwX9_pullsIn_3 ++ []
def dkwX9_pullsIn_2 : List UInt8 := [184, 0, 51, 153, 0, 7, 4, 167, 0, 11, 42, 21, 4, 6, 184, 0, 44, 46, 79, 132, 4, 1]
abbrev dktX9_pullsIn_2 : List UInt8 := dkwX9_pullsIn_2 ++ dktX9_pullsIn_3
def dkwX9_pullsIn_1 : List UInt8 := [5, 79, 3, 54, 4, 21, 4, 42, 3, 46, 162, 0, 38, 42, 21, 4, 6, 184, 0, 44, 29, 21, 4]
abbrev dktX9_pullsIn_1 : List UInt8 := dkwX9_pullsIn_1 ++ dktX9_pullsIn_2
def dkwX9_pullsIn_0 : List UInt8 := [42, 27, 28, 184, 0, 63, 62, 27, 156, 0, 10, 42, 5, 3, 79, 167, 0, 11, 42, 27, 6, 184, 0, 44]
abbrev dktX9_pullsIn_0 : List UInt8 := dkwX9_pullsIn_0 ++ dktX9_pullsIn_1
theorem dksX9_pullsIn_0 : cX9_pullsIn.data.toList.drop 0 = dktX9_pullsIn_0 := by decide +kernel
theorem dksX9_pullsIn_1 : cX9_pullsIn.data.toList.drop 24 = dktX9_pullsIn_1 := dk_seg dksX9_pullsIn_0 24 rfl rfl
theorem dksX9_pullsIn_2 : cX9_pullsIn.data.toList.drop 47 = dktX9_pullsIn_2 := dk_seg dksX9_pullsIn_1 23 rfl rfl
theorem dksX9_pullsIn_3 : cX9_pullsIn.data.toList.drop 69 = dktX9_pullsIn_3 := dk_seg dksX9_pullsIn_2 22 rfl rfl
theorem dX9_pullsIn_0 : decode cX9_pullsIn 0 = .ok (.aload_n 0, 1) := dk_42 (dk_at dksX9_pullsIn_0 0 rfl rfl)
theorem dX9_pullsIn_1 : decode cX9_pullsIn 1 = .ok (.iload_n 1, 1) := dk_27 (dk_at dksX9_pullsIn_0 1 rfl rfl)
theorem dX9_pullsIn_2 : decode cX9_pullsIn 2 = .ok (.iload_n 2, 1) := dk_28 (dk_at dksX9_pullsIn_0 2 rfl rfl)
theorem dX9_pullsIn_3 : decode cX9_pullsIn 3 = .ok (.invokestatic 63, 3) := dk_184 0 63 (dk_at dksX9_pullsIn_0 3 rfl rfl)
theorem dX9_pullsIn_6 : decode cX9_pullsIn 6 = .ok (.istore_n 3, 1) := dk_62 (dk_at dksX9_pullsIn_0 6 rfl rfl)
theorem dX9_pullsIn_7 : decode cX9_pullsIn 7 = .ok (.iload_n 1, 1) := dk_27 (dk_at dksX9_pullsIn_0 7 rfl rfl)
theorem dX9_pullsIn_8 : decode cX9_pullsIn 8 = .ok (.ifCond .ge 10, 3) := dk_156 0 10 (dk_at dksX9_pullsIn_0 8 rfl rfl)
theorem dX9_pullsIn_11 : decode cX9_pullsIn 11 = .ok (.aload_n 0, 1) := dk_42 (dk_at dksX9_pullsIn_0 11 rfl rfl)
theorem dX9_pullsIn_12 : decode cX9_pullsIn 12 = .ok (.iconst 2, 1) := dk_5 (dk_at dksX9_pullsIn_0 12 rfl rfl)
theorem dX9_pullsIn_13 : decode cX9_pullsIn 13 = .ok (.iconst 0, 1) := dk_3 (dk_at dksX9_pullsIn_0 13 rfl rfl)
theorem dX9_pullsIn_14 : decode cX9_pullsIn 14 = .ok (.iastore, 1) := dk_79 (dk_at dksX9_pullsIn_0 14 rfl rfl)
theorem dX9_pullsIn_15 : decode cX9_pullsIn 15 = .ok (.goto 11, 3) := dk_167 0 11 (dk_at dksX9_pullsIn_0 15 rfl rfl)
theorem dX9_pullsIn_18 : decode cX9_pullsIn 18 = .ok (.aload_n 0, 1) := dk_42 (dk_at dksX9_pullsIn_0 18 rfl rfl)
theorem dX9_pullsIn_19 : decode cX9_pullsIn 19 = .ok (.iload_n 1, 1) := dk_27 (dk_at dksX9_pullsIn_0 19 rfl rfl)
theorem dX9_pullsIn_20 : decode cX9_pullsIn 20 = .ok (.iconst 3, 1) := dk_6 (dk_at dksX9_pullsIn_0 20 rfl rfl)
theorem dX9_pullsIn_21 : decode cX9_pullsIn 21 = .ok (.invokestatic 44, 3) := dk_184 0 44 (dk_at dksX9_pullsIn_0 21 rfl rfl)
theorem dX9_pullsIn_24 : decode cX9_pullsIn 24 = .ok (.iconst 2, 1) := dk_5 (dk_at dksX9_pullsIn_1 0 rfl rfl)
theorem dX9_pullsIn_25 : decode cX9_pullsIn 25 = .ok (.iastore, 1) := dk_79 (dk_at dksX9_pullsIn_1 1 rfl rfl)
theorem dX9_pullsIn_26 : decode cX9_pullsIn 26 = .ok (.iconst 0, 1) := dk_3 (dk_at dksX9_pullsIn_1 2 rfl rfl)
theorem dX9_pullsIn_27 : decode cX9_pullsIn 27 = .ok (.istore 4, 2) := dk_54 4 (dk_at dksX9_pullsIn_1 3 rfl rfl)
theorem dX9_pullsIn_29 : decode cX9_pullsIn 29 = .ok (.iload 4, 2) := dk_21 4 (dk_at dksX9_pullsIn_1 5 rfl rfl)
theorem dX9_pullsIn_31 : decode cX9_pullsIn 31 = .ok (.aload_n 0, 1) := dk_42 (dk_at dksX9_pullsIn_1 7 rfl rfl)
theorem dX9_pullsIn_32 : decode cX9_pullsIn 32 = .ok (.iconst 0, 1) := dk_3 (dk_at dksX9_pullsIn_1 8 rfl rfl)
theorem dX9_pullsIn_33 : decode cX9_pullsIn 33 = .ok (.iaload, 1) := dk_46 (dk_at dksX9_pullsIn_1 9 rfl rfl)
theorem dX9_pullsIn_34 : decode cX9_pullsIn 34 = .ok (.if_icmp .ge 38, 3) := dk_162 0 38 (dk_at dksX9_pullsIn_1 10 rfl rfl)
theorem dX9_pullsIn_37 : decode cX9_pullsIn 37 = .ok (.aload_n 0, 1) := dk_42 (dk_at dksX9_pullsIn_1 13 rfl rfl)
theorem dX9_pullsIn_38 : decode cX9_pullsIn 38 = .ok (.iload 4, 2) := dk_21 4 (dk_at dksX9_pullsIn_1 14 rfl rfl)
theorem dX9_pullsIn_40 : decode cX9_pullsIn 40 = .ok (.iconst 3, 1) := dk_6 (dk_at dksX9_pullsIn_1 16 rfl rfl)
theorem dX9_pullsIn_41 : decode cX9_pullsIn 41 = .ok (.invokestatic 44, 3) := dk_184 0 44 (dk_at dksX9_pullsIn_1 17 rfl rfl)
theorem dX9_pullsIn_44 : decode cX9_pullsIn 44 = .ok (.iload_n 3, 1) := dk_29 (dk_at dksX9_pullsIn_1 20 rfl rfl)
theorem dX9_pullsIn_45 : decode cX9_pullsIn 45 = .ok (.iload 4, 2) := dk_21 4 (dk_at dksX9_pullsIn_1 21 rfl rfl)
theorem dX9_pullsIn_47 : decode cX9_pullsIn 47 = .ok (.invokestatic 51, 3) := dk_184 0 51 (dk_at dksX9_pullsIn_2 0 rfl rfl)
theorem dX9_pullsIn_50 : decode cX9_pullsIn 50 = .ok (.ifCond .eq 7, 3) := dk_153 0 7 (dk_at dksX9_pullsIn_2 3 rfl rfl)
theorem dX9_pullsIn_53 : decode cX9_pullsIn 53 = .ok (.iconst 1, 1) := dk_4 (dk_at dksX9_pullsIn_2 6 rfl rfl)
theorem dX9_pullsIn_54 : decode cX9_pullsIn 54 = .ok (.goto 11, 3) := dk_167 0 11 (dk_at dksX9_pullsIn_2 7 rfl rfl)
theorem dX9_pullsIn_57 : decode cX9_pullsIn 57 = .ok (.aload_n 0, 1) := dk_42 (dk_at dksX9_pullsIn_2 10 rfl rfl)
theorem dX9_pullsIn_58 : decode cX9_pullsIn 58 = .ok (.iload 4, 2) := dk_21 4 (dk_at dksX9_pullsIn_2 11 rfl rfl)
theorem dX9_pullsIn_60 : decode cX9_pullsIn 60 = .ok (.iconst 3, 1) := dk_6 (dk_at dksX9_pullsIn_2 13 rfl rfl)
theorem dX9_pullsIn_61 : decode cX9_pullsIn 61 = .ok (.invokestatic 44, 3) := dk_184 0 44 (dk_at dksX9_pullsIn_2 14 rfl rfl)
theorem dX9_pullsIn_64 : decode cX9_pullsIn 64 = .ok (.iaload, 1) := dk_46 (dk_at dksX9_pullsIn_2 17 rfl rfl)
theorem dX9_pullsIn_65 : decode cX9_pullsIn 65 = .ok (.iastore, 1) := dk_79 (dk_at dksX9_pullsIn_2 18 rfl rfl)
theorem dX9_pullsIn_66 : decode cX9_pullsIn 66 = .ok (.iinc 4 1, 3) := dk_132 4 1 (dk_at dksX9_pullsIn_2 19 rfl rfl)
theorem dX9_pullsIn_69 : decode cX9_pullsIn 69 = .ok (.goto (-40), 3) := dk_167 255 216 (dk_at dksX9_pullsIn_3 0 rfl rfl)
theorem dX9_pullsIn_72 : decode cX9_pullsIn 72 = .ok (.iload_n 3, 1) := dk_29 (dk_at dksX9_pullsIn_3 3 rfl rfl)
theorem dX9_pullsIn_73 : decode cX9_pullsIn 73 = .ok (.invokestatic 67, 3) := dk_184 0 67 (dk_at dksX9_pullsIn_3 4 rfl rfl)
theorem dX9_pullsIn_76 : decode cX9_pullsIn 76 = .ok (.ireturn, 1) := dk_172 (dk_at dksX9_pullsIn_3 7 rfl rfl)
abbrev cX9_shaken : ByteArray := prog_22_method_16_code
def yX9_shaken : MethodName := ⟨RX9, "shaken", "([III)I"⟩
def dkwX9_shaken_2 : List UInt8 := [120, 167, 0, 4, 3, 128, 62, 132, 4, 1, 167, 255, 203, 29, 172]
abbrev dktX9_shaken_2 : List UInt8 := dkwX9_shaken_2 ++ []
def dkwX9_shaken_1 : List UInt8 := [21, 4, 5, 184, 0, 44, 46, 27, 160, 0, 20, 42, 21, 4, 184, 0, 59, 28, 164, 0, 10, 4, 21, 4]
abbrev dktX9_shaken_1 : List UInt8 := dkwX9_shaken_1 ++ dktX9_shaken_2
def dkwX9_shaken_0 : List UInt8 := [3, 62, 3, 54, 4, 21, 4, 42, 3, 46, 162, 0, 51, 29, 42, 21, 4, 184, 0, 55, 153, 0, 32, 42]
abbrev dktX9_shaken_0 : List UInt8 := dkwX9_shaken_0 ++ dktX9_shaken_1
theorem dksX9_shaken_0 : cX9_shaken.data.toList.drop 0 = dktX9_shaken_0 := by decide +kernel
theorem dksX9_shaken_1 : cX9_shaken.data.toList.drop 24 = dktX9_shaken_1 := dk_seg dksX9_shaken_0 24 rfl rfl
theorem dksX9_shaken_2 : cX9_shaken.data.toList.drop 48 = dktX9_shaken_2 := dk_seg dksX9_shaken_1 24 rfl rfl
theorem dX9_shaken_0 : decode cX9_shaken 0 = .ok (.iconst 0, 1) := dk_3 (dk_at dksX9_shaken_0 0 rfl rfl)
theorem dX9_shaken_1 : decode cX9_shaken 1 = .ok (.istore_n 3, 1) := dk_62 (dk_at dksX9_shaken_0 1 rfl rfl)
theorem dX9_shaken_2 : decode cX9_shaken 2 = .ok (.iconst 0, 1) := dk_3 (dk_at dksX9_shaken_0 2 rfl rfl)
theorem dX9_shaken_3 : decode cX9_shaken 3 = .ok (.istore 4, 2) := dk_54 4 (dk_at dksX9_shaken_0 3 rfl rfl)
theorem dX9_shaken_5 : decode cX9_shaken 5 = .ok (.iload 4, 2) := dk_21 4 (dk_at dksX9_shaken_0 5 rfl rfl)
theorem dX9_shaken_7 : decode cX9_shaken 7 = .ok (.aload_n 0, 1) := dk_42 (dk_at dksX9_shaken_0 7 rfl rfl)
theorem dX9_shaken_8 : decode cX9_shaken 8 = .ok (.iconst 0, 1) := dk_3 (dk_at dksX9_shaken_0 8 rfl rfl)
theorem dX9_shaken_9 : decode cX9_shaken 9 = .ok (.iaload, 1) := dk_46 (dk_at dksX9_shaken_0 9 rfl rfl)
theorem dX9_shaken_10 : decode cX9_shaken 10 = .ok (.if_icmp .ge 51, 3) := dk_162 0 51 (dk_at dksX9_shaken_0 10 rfl rfl)
theorem dX9_shaken_13 : decode cX9_shaken 13 = .ok (.iload_n 3, 1) := dk_29 (dk_at dksX9_shaken_0 13 rfl rfl)
theorem dX9_shaken_14 : decode cX9_shaken 14 = .ok (.aload_n 0, 1) := dk_42 (dk_at dksX9_shaken_0 14 rfl rfl)
theorem dX9_shaken_15 : decode cX9_shaken 15 = .ok (.iload 4, 2) := dk_21 4 (dk_at dksX9_shaken_0 15 rfl rfl)
theorem dX9_shaken_17 : decode cX9_shaken 17 = .ok (.invokestatic 55, 3) := dk_184 0 55 (dk_at dksX9_shaken_0 17 rfl rfl)
theorem dX9_shaken_20 : decode cX9_shaken 20 = .ok (.ifCond .eq 32, 3) := dk_153 0 32 (dk_at dksX9_shaken_0 20 rfl rfl)
theorem dX9_shaken_23 : decode cX9_shaken 23 = .ok (.aload_n 0, 1) := dk_42 (dk_at dksX9_shaken_0 23 rfl rfl)
theorem dX9_shaken_24 : decode cX9_shaken 24 = .ok (.iload 4, 2) := dk_21 4 (dk_at dksX9_shaken_1 0 rfl rfl)
theorem dX9_shaken_26 : decode cX9_shaken 26 = .ok (.iconst 2, 1) := dk_5 (dk_at dksX9_shaken_1 2 rfl rfl)
theorem dX9_shaken_27 : decode cX9_shaken 27 = .ok (.invokestatic 44, 3) := dk_184 0 44 (dk_at dksX9_shaken_1 3 rfl rfl)
theorem dX9_shaken_30 : decode cX9_shaken 30 = .ok (.iaload, 1) := dk_46 (dk_at dksX9_shaken_1 6 rfl rfl)
theorem dX9_shaken_31 : decode cX9_shaken 31 = .ok (.iload_n 1, 1) := dk_27 (dk_at dksX9_shaken_1 7 rfl rfl)
theorem dX9_shaken_32 : decode cX9_shaken 32 = .ok (.if_icmp .ne 20, 3) := dk_160 0 20 (dk_at dksX9_shaken_1 8 rfl rfl)
theorem dX9_shaken_35 : decode cX9_shaken 35 = .ok (.aload_n 0, 1) := dk_42 (dk_at dksX9_shaken_1 11 rfl rfl)
theorem dX9_shaken_36 : decode cX9_shaken 36 = .ok (.iload 4, 2) := dk_21 4 (dk_at dksX9_shaken_1 12 rfl rfl)
theorem dX9_shaken_38 : decode cX9_shaken 38 = .ok (.invokestatic 59, 3) := dk_184 0 59 (dk_at dksX9_shaken_1 14 rfl rfl)
theorem dX9_shaken_41 : decode cX9_shaken 41 = .ok (.iload_n 2, 1) := dk_28 (dk_at dksX9_shaken_1 17 rfl rfl)
theorem dX9_shaken_42 : decode cX9_shaken 42 = .ok (.if_icmp .le 10, 3) := dk_164 0 10 (dk_at dksX9_shaken_1 18 rfl rfl)
theorem dX9_shaken_45 : decode cX9_shaken 45 = .ok (.iconst 1, 1) := dk_4 (dk_at dksX9_shaken_1 21 rfl rfl)
theorem dX9_shaken_46 : decode cX9_shaken 46 = .ok (.iload 4, 2) := dk_21 4 (dk_at dksX9_shaken_1 22 rfl rfl)
theorem dX9_shaken_48 : decode cX9_shaken 48 = .ok (.ishl, 1) := dk_120 (dk_at dksX9_shaken_2 0 rfl rfl)
theorem dX9_shaken_49 : decode cX9_shaken 49 = .ok (.goto 4, 3) := dk_167 0 4 (dk_at dksX9_shaken_2 1 rfl rfl)
theorem dX9_shaken_52 : decode cX9_shaken 52 = .ok (.iconst 0, 1) := dk_3 (dk_at dksX9_shaken_2 4 rfl rfl)
theorem dX9_shaken_53 : decode cX9_shaken 53 = .ok (.ior, 1) := dk_128 (dk_at dksX9_shaken_2 5 rfl rfl)
theorem dX9_shaken_54 : decode cX9_shaken 54 = .ok (.istore_n 3, 1) := dk_62 (dk_at dksX9_shaken_2 6 rfl rfl)
theorem dX9_shaken_55 : decode cX9_shaken 55 = .ok (.iinc 4 1, 3) := dk_132 4 1 (dk_at dksX9_shaken_2 7 rfl rfl)
theorem dX9_shaken_58 : decode cX9_shaken 58 = .ok (.goto (-53), 3) := dk_167 255 203 (dk_at dksX9_shaken_2 10 rfl rfl)
theorem dX9_shaken_61 : decode cX9_shaken 61 = .ok (.iload_n 3, 1) := dk_29 (dk_at dksX9_shaken_2 13 rfl rfl)
theorem dX9_shaken_62 : decode cX9_shaken 62 = .ok (.ireturn, 1) := dk_172 (dk_at dksX9_shaken_2 14 rfl rfl)
abbrev cX9_grip : ByteArray := prog_22_method_12_code
def yX9_grip : MethodName := ⟨RX9, "grip", "([II)I"⟩
def dkwX9_grip_2 : List UInt8 := [16, 9, 28, 100, 172, 28, 5, 108, 172, 3, 172, 16, 10, 28, 100, 172, 28, 172]
abbrev dktX9_grip_2 : List UInt8 := dkwX9_grip_2 ++ []
def dkwX9_grip_1 : List UInt8 := [170, 0, 0, 0, 49, 0, 0, 0, 1, 0, 0, 0, 5, 0, 0, 0, 33, 0, 0, 0, 38, 0, 0, 0, 42, 0, 0, 0, 38, 0, 0, 0, 44]
abbrev dktX9_grip_1 : List UInt8 := dkwX9_grip_1 ++ dktX9_grip_2
def dkwX9_grip_0 : List UInt8 := [42, 27, 4, 184, 0, 44, 46, 61, 42, 27, 3, 184, 0, 44, 46]
abbrev dktX9_grip_0 : List UInt8 := dkwX9_grip_0 ++ dktX9_grip_1
theorem dksX9_grip_0 : cX9_grip.data.toList.drop 0 = dktX9_grip_0 := by decide +kernel
theorem dksX9_grip_1 : cX9_grip.data.toList.drop 15 = dktX9_grip_1 := dk_seg dksX9_grip_0 15 rfl rfl
theorem dksX9_grip_2 : cX9_grip.data.toList.drop 48 = dktX9_grip_2 := dk_seg dksX9_grip_1 33 rfl rfl
theorem dX9_grip_0 : decode cX9_grip 0 = .ok (.aload_n 0, 1) := dk_42 (dk_at dksX9_grip_0 0 rfl rfl)
theorem dX9_grip_1 : decode cX9_grip 1 = .ok (.iload_n 1, 1) := dk_27 (dk_at dksX9_grip_0 1 rfl rfl)
theorem dX9_grip_2 : decode cX9_grip 2 = .ok (.iconst 1, 1) := dk_4 (dk_at dksX9_grip_0 2 rfl rfl)
theorem dX9_grip_3 : decode cX9_grip 3 = .ok (.invokestatic 44, 3) := dk_184 0 44 (dk_at dksX9_grip_0 3 rfl rfl)
theorem dX9_grip_6 : decode cX9_grip 6 = .ok (.iaload, 1) := dk_46 (dk_at dksX9_grip_0 6 rfl rfl)
theorem dX9_grip_7 : decode cX9_grip 7 = .ok (.istore_n 2, 1) := dk_61 (dk_at dksX9_grip_0 7 rfl rfl)
theorem dX9_grip_8 : decode cX9_grip 8 = .ok (.aload_n 0, 1) := dk_42 (dk_at dksX9_grip_0 8 rfl rfl)
theorem dX9_grip_9 : decode cX9_grip 9 = .ok (.iload_n 1, 1) := dk_27 (dk_at dksX9_grip_0 9 rfl rfl)
theorem dX9_grip_10 : decode cX9_grip 10 = .ok (.iconst 0, 1) := dk_3 (dk_at dksX9_grip_0 10 rfl rfl)
theorem dX9_grip_11 : decode cX9_grip 11 = .ok (.invokestatic 44, 3) := dk_184 0 44 (dk_at dksX9_grip_0 11 rfl rfl)
theorem dX9_grip_14 : decode cX9_grip 14 = .ok (.iaload, 1) := dk_46 (dk_at dksX9_grip_0 14 rfl rfl)
theorem dX9_grip_15 : decode cX9_grip 15 = .ok (.tableswitch 49 1 5 #[33, 38, 42, 38, 44], 33) := by decide +kernel
theorem dX9_grip_48 : decode cX9_grip 48 = .ok (.bipush 9, 2) := dk_16 9 (dk_at dksX9_grip_2 0 rfl rfl)
theorem dX9_grip_50 : decode cX9_grip 50 = .ok (.iload_n 2, 1) := dk_28 (dk_at dksX9_grip_2 2 rfl rfl)
theorem dX9_grip_51 : decode cX9_grip 51 = .ok (.isub, 1) := dk_100 (dk_at dksX9_grip_2 3 rfl rfl)
theorem dX9_grip_52 : decode cX9_grip 52 = .ok (.ireturn, 1) := dk_172 (dk_at dksX9_grip_2 4 rfl rfl)
theorem dX9_grip_53 : decode cX9_grip 53 = .ok (.iload_n 2, 1) := dk_28 (dk_at dksX9_grip_2 5 rfl rfl)
theorem dX9_grip_54 : decode cX9_grip 54 = .ok (.iconst 2, 1) := dk_5 (dk_at dksX9_grip_2 6 rfl rfl)
theorem dX9_grip_55 : decode cX9_grip 55 = .ok (.idiv, 1) := dk_108 (dk_at dksX9_grip_2 7 rfl rfl)
theorem dX9_grip_56 : decode cX9_grip 56 = .ok (.ireturn, 1) := dk_172 (dk_at dksX9_grip_2 8 rfl rfl)
theorem dX9_grip_57 : decode cX9_grip 57 = .ok (.iconst 0, 1) := dk_3 (dk_at dksX9_grip_2 9 rfl rfl)
theorem dX9_grip_58 : decode cX9_grip 58 = .ok (.ireturn, 1) := dk_172 (dk_at dksX9_grip_2 10 rfl rfl)
theorem dX9_grip_59 : decode cX9_grip 59 = .ok (.bipush 10, 2) := dk_16 10 (dk_at dksX9_grip_2 11 rfl rfl)
theorem dX9_grip_61 : decode cX9_grip 61 = .ok (.iload_n 2, 1) := dk_28 (dk_at dksX9_grip_2 13 rfl rfl)
theorem dX9_grip_62 : decode cX9_grip 62 = .ok (.isub, 1) := dk_100 (dk_at dksX9_grip_2 14 rfl rfl)
theorem dX9_grip_63 : decode cX9_grip 63 = .ok (.ireturn, 1) := dk_172 (dk_at dksX9_grip_2 15 rfl rfl)
theorem dX9_grip_64 : decode cX9_grip 64 = .ok (.iload_n 2, 1) := dk_28 (dk_at dksX9_grip_2 16 rfl rfl)
theorem dX9_grip_65 : decode cX9_grip 65 = .ok (.ireturn, 1) := dk_172 (dk_at dksX9_grip_2 17 rfl rfl)
abbrev cX9_has : ByteArray := prog_22_method_10_code
def yX9_has : MethodName := ⟨RX9, "has", "(II)Z"⟩
def dkwX9_has_0 : List UInt8 := [26, 27, 122, 4, 126, 4, 160, 0, 7, 4, 167, 0, 4, 3, 172]
abbrev dktX9_has_0 : List UInt8 := dkwX9_has_0 ++ []
theorem dksX9_has_0 : cX9_has.data.toList.drop 0 = dktX9_has_0 := by decide +kernel
theorem dX9_has_0 : decode cX9_has 0 = .ok (.iload_n 0, 1) := dk_26 (dk_at dksX9_has_0 0 rfl rfl)
theorem dX9_has_1 : decode cX9_has 1 = .ok (.iload_n 1, 1) := dk_27 (dk_at dksX9_has_0 1 rfl rfl)
theorem dX9_has_2 : decode cX9_has 2 = .ok (.ishr, 1) := dk_122 (dk_at dksX9_has_0 2 rfl rfl)
theorem dX9_has_3 : decode cX9_has 3 = .ok (.iconst 1, 1) := dk_4 (dk_at dksX9_has_0 3 rfl rfl)
theorem dX9_has_4 : decode cX9_has 4 = .ok (.iand, 1) := dk_126 (dk_at dksX9_has_0 4 rfl rfl)
theorem dX9_has_5 : decode cX9_has 5 = .ok (.iconst 1, 1) := dk_4 (dk_at dksX9_has_0 5 rfl rfl)
theorem dX9_has_6 : decode cX9_has 6 = .ok (.if_icmp .ne 7, 3) := dk_160 0 7 (dk_at dksX9_has_0 6 rfl rfl)
theorem dX9_has_9 : decode cX9_has 9 = .ok (.iconst 1, 1) := dk_4 (dk_at dksX9_has_0 9 rfl rfl)
theorem dX9_has_10 : decode cX9_has 10 = .ok (.goto 4, 3) := dk_167 0 4 (dk_at dksX9_has_0 10 rfl rfl)
theorem dX9_has_13 : decode cX9_has 13 = .ok (.iconst 0, 1) := dk_3 (dk_at dksX9_has_0 13 rfl rfl)
theorem dX9_has_14 : decode cX9_has 14 = .ok (.ireturn, 1) := dk_172 (dk_at dksX9_has_0 14 rfl rfl)
abbrev cX9_bits : ByteArray := prog_22_method_11_code
def yX9_bits : MethodName := ⟨RX9, "bits", "(I)I"⟩
def dkwX9_bits_1 : List UInt8 := [27, 172]
abbrev dktX9_bits_1 : List UInt8 := dkwX9_bits_1 ++ []
def dkwX9_bits_0 : List UInt8 := [3, 60, 3, 61, 28, 16, 10, 162, 0, 17, 27, 26, 28, 122, 4, 126, 96, 60, 132, 2, 1, 167, 255, 239]
abbrev dktX9_bits_0 : List UInt8 := dkwX9_bits_0 ++ dktX9_bits_1
theorem dksX9_bits_0 : cX9_bits.data.toList.drop 0 = dktX9_bits_0 := by decide +kernel
theorem dksX9_bits_1 : cX9_bits.data.toList.drop 24 = dktX9_bits_1 := dk_seg dksX9_bits_0 24 rfl rfl
theorem dX9_bits_0 : decode cX9_bits 0 = .ok (.iconst 0, 1) := dk_3 (dk_at dksX9_bits_0 0 rfl rfl)
theorem dX9_bits_1 : decode cX9_bits 1 = .ok (.istore_n 1, 1) := dk_60 (dk_at dksX9_bits_0 1 rfl rfl)
theorem dX9_bits_2 : decode cX9_bits 2 = .ok (.iconst 0, 1) := dk_3 (dk_at dksX9_bits_0 2 rfl rfl)
theorem dX9_bits_3 : decode cX9_bits 3 = .ok (.istore_n 2, 1) := dk_61 (dk_at dksX9_bits_0 3 rfl rfl)
theorem dX9_bits_4 : decode cX9_bits 4 = .ok (.iload_n 2, 1) := dk_28 (dk_at dksX9_bits_0 4 rfl rfl)
theorem dX9_bits_5 : decode cX9_bits 5 = .ok (.bipush 10, 2) := dk_16 10 (dk_at dksX9_bits_0 5 rfl rfl)
theorem dX9_bits_7 : decode cX9_bits 7 = .ok (.if_icmp .ge 17, 3) := dk_162 0 17 (dk_at dksX9_bits_0 7 rfl rfl)
theorem dX9_bits_10 : decode cX9_bits 10 = .ok (.iload_n 1, 1) := dk_27 (dk_at dksX9_bits_0 10 rfl rfl)
theorem dX9_bits_11 : decode cX9_bits 11 = .ok (.iload_n 0, 1) := dk_26 (dk_at dksX9_bits_0 11 rfl rfl)
theorem dX9_bits_12 : decode cX9_bits 12 = .ok (.iload_n 2, 1) := dk_28 (dk_at dksX9_bits_0 12 rfl rfl)
theorem dX9_bits_13 : decode cX9_bits 13 = .ok (.ishr, 1) := dk_122 (dk_at dksX9_bits_0 13 rfl rfl)
theorem dX9_bits_14 : decode cX9_bits 14 = .ok (.iconst 1, 1) := dk_4 (dk_at dksX9_bits_0 14 rfl rfl)
theorem dX9_bits_15 : decode cX9_bits 15 = .ok (.iand, 1) := dk_126 (dk_at dksX9_bits_0 15 rfl rfl)
theorem dX9_bits_16 : decode cX9_bits 16 = .ok (.iadd, 1) := dk_96 (dk_at dksX9_bits_0 16 rfl rfl)
theorem dX9_bits_17 : decode cX9_bits 17 = .ok (.istore_n 1, 1) := dk_60 (dk_at dksX9_bits_0 17 rfl rfl)
theorem dX9_bits_18 : decode cX9_bits 18 = .ok (.iinc 2 1, 3) := dk_132 2 1 (dk_at dksX9_bits_0 18 rfl rfl)
theorem dX9_bits_21 : decode cX9_bits 21 = .ok (.goto (-17), 3) := dk_167 255 239 (dk_at dksX9_bits_0 21 rfl rfl)
theorem dX9_bits_24 : decode cX9_bits 24 = .ok (.iload_n 1, 1) := dk_27 (dk_at dksX9_bits_1 0 rfl rfl)
theorem dX9_bits_25 : decode cX9_bits 25 = .ok (.ireturn, 1) := dk_172 (dk_at dksX9_bits_1 1 rfl rfl)
abbrev cX9_minutesOn : ByteArray := prog_22_method_19_code
def yX9_minutesOn : MethodName := ⟨RX9, "minutesOn", "([II)V"⟩
def dkwX9_minutesOn_0 : List UInt8 := [3, 61, 28, 27, 162, 0, 14, 42, 3, 184, 0, 80, 132, 2, 1, 167, 255, 243, 177]
abbrev dktX9_minutesOn_0 : List UInt8 := dkwX9_minutesOn_0 ++ []
theorem dksX9_minutesOn_0 : cX9_minutesOn.data.toList.drop 0 = dktX9_minutesOn_0 := by decide +kernel
theorem dX9_minutesOn_0 : decode cX9_minutesOn 0 = .ok (.iconst 0, 1) := dk_3 (dk_at dksX9_minutesOn_0 0 rfl rfl)
theorem dX9_minutesOn_1 : decode cX9_minutesOn 1 = .ok (.istore_n 2, 1) := dk_61 (dk_at dksX9_minutesOn_0 1 rfl rfl)
theorem dX9_minutesOn_2 : decode cX9_minutesOn 2 = .ok (.iload_n 2, 1) := dk_28 (dk_at dksX9_minutesOn_0 2 rfl rfl)
theorem dX9_minutesOn_3 : decode cX9_minutesOn 3 = .ok (.iload_n 1, 1) := dk_27 (dk_at dksX9_minutesOn_0 3 rfl rfl)
theorem dX9_minutesOn_4 : decode cX9_minutesOn 4 = .ok (.if_icmp .ge 14, 3) := dk_162 0 14 (dk_at dksX9_minutesOn_0 4 rfl rfl)
theorem dX9_minutesOn_7 : decode cX9_minutesOn 7 = .ok (.aload_n 0, 1) := dk_42 (dk_at dksX9_minutesOn_0 7 rfl rfl)
theorem dX9_minutesOn_8 : decode cX9_minutesOn 8 = .ok (.iconst 0, 1) := dk_3 (dk_at dksX9_minutesOn_0 8 rfl rfl)
theorem dX9_minutesOn_9 : decode cX9_minutesOn 9 = .ok (.invokestatic 80, 3) := dk_184 0 80 (dk_at dksX9_minutesOn_0 9 rfl rfl)
theorem dX9_minutesOn_12 : decode cX9_minutesOn 12 = .ok (.iinc 2 1, 3) := dk_132 2 1 (dk_at dksX9_minutesOn_0 12 rfl rfl)
theorem dX9_minutesOn_15 : decode cX9_minutesOn 15 = .ok (.goto (-13), 3) := dk_167 255 243 (dk_at dksX9_minutesOn_0 15 rfl rfl)
theorem dX9_minutesOn_18 : decode cX9_minutesOn 18 = .ok (.return_, 1) := dk_177 (dk_at dksX9_minutesOn_0 18 rfl rfl)
abbrev cX9_minute : ByteArray := prog_22_method_18_code
def yX9_minute : MethodName := ⟨RX9, "minute", "([II)V"⟩
def dkwX9_minute_7 : List UInt8 := [4, 79, 132, 4, 1, 167, 255, 209, 177]
abbrev dktX9_minute_7 : List UInt8 := dkwX9_minute_7 ++ []
def dkwX9_minute_6 : List UInt8 := [21, 4, 7, 184, 0, 44, 46, 42, 21, 4, 29, 184, 0, 76, 164, 0, 12, 42, 21, 4, 6, 184, 0, 44]
abbrev dktX9_minute_6 : List UInt8 := dkwX9_minute_6 ++ dktX9_minute_7
def dkwX9_minute_5 : List UInt8 := [167, 255, 200, 3, 54, 4, 21, 4, 42, 3, 46, 162, 0, 45, 42, 21, 4, 184, 0, 55, 153, 0, 30, 42]
abbrev dktX9_minute_5 : List UInt8 := dkwX9_minute_5 ++ dktX9_minute_6
def dkwX9_minute_4 : List UInt8 := [153, 0, 7, 3, 167, 0, 15, 42, 21, 4, 7, 184, 0, 44, 46, 4, 96, 27, 96, 79, 132, 4, 1]
abbrev dktX9_minute_4 : List UInt8 := dkwX9_minute_4 ++ dktX9_minute_5
def dkwX9_minute_3 : List UInt8 := [184, 0, 55, 154, 0, 6, 167, 0, 36, 42, 21, 4, 7, 184, 0, 44, 28, 21, 4, 184, 0, 51]
abbrev dktX9_minute_3 : List UInt8 := dkwX9_minute_3 ++ dktX9_minute_4
def dkwX9_minute_2 : List UInt8 := [153, 0, 7, 4, 167, 0, 4, 3, 62, 3, 54, 4, 21, 4, 42, 3, 46, 162, 0, 54, 42, 21, 4]
abbrev dktX9_minute_2 : List UInt8 := dkwX9_minute_2 ++ dktX9_minute_3
def dkwX9_minute_1 : List UInt8 := [153, 0, 9, 4, 29, 120, 167, 0, 4, 3, 128, 61, 132, 3, 1, 167, 255, 228, 42, 4, 184, 0, 73]
abbrev dktX9_minute_1 : List UInt8 := dkwX9_minute_1 ++ dktX9_minute_2
def dkwX9_minute_0 : List UInt8 := [42, 4, 92, 46, 4, 96, 79, 3, 61, 3, 62, 29, 42, 3, 46, 162, 0, 27, 28, 42, 29, 184, 0, 70]
abbrev dktX9_minute_0 : List UInt8 := dkwX9_minute_0 ++ dktX9_minute_1
theorem dksX9_minute_0 : cX9_minute.data.toList.drop 0 = dktX9_minute_0 := by decide +kernel
theorem dksX9_minute_1 : cX9_minute.data.toList.drop 24 = dktX9_minute_1 := dk_seg dksX9_minute_0 24 rfl rfl
theorem dksX9_minute_2 : cX9_minute.data.toList.drop 47 = dktX9_minute_2 := dk_seg dksX9_minute_1 23 rfl rfl
theorem dksX9_minute_3 : cX9_minute.data.toList.drop 70 = dktX9_minute_3 := dk_seg dksX9_minute_2 23 rfl rfl
theorem dksX9_minute_4 : cX9_minute.data.toList.drop 92 = dktX9_minute_4 := dk_seg dksX9_minute_3 22 rfl rfl
theorem dksX9_minute_5 : cX9_minute.data.toList.drop 115 = dktX9_minute_5 := dk_seg dksX9_minute_4 23 rfl rfl
theorem dksX9_minute_6 : cX9_minute.data.toList.drop 139 = dktX9_minute_6 := dk_seg dksX9_minute_5 24 rfl rfl
theorem dksX9_minute_7 : cX9_minute.data.toList.drop 163 = dktX9_minute_7 := dk_seg dksX9_minute_6 24 rfl rfl
theorem dX9_minute_0 : decode cX9_minute 0 = .ok (.aload_n 0, 1) := dk_42 (dk_at dksX9_minute_0 0 rfl rfl)
theorem dX9_minute_1 : decode cX9_minute 1 = .ok (.iconst 1, 1) := dk_4 (dk_at dksX9_minute_0 1 rfl rfl)
theorem dX9_minute_2 : decode cX9_minute 2 = .ok (.dup2, 1) := dk_92 (dk_at dksX9_minute_0 2 rfl rfl)
theorem dX9_minute_3 : decode cX9_minute 3 = .ok (.iaload, 1) := dk_46 (dk_at dksX9_minute_0 3 rfl rfl)
theorem dX9_minute_4 : decode cX9_minute 4 = .ok (.iconst 1, 1) := dk_4 (dk_at dksX9_minute_0 4 rfl rfl)
theorem dX9_minute_5 : decode cX9_minute 5 = .ok (.iadd, 1) := dk_96 (dk_at dksX9_minute_0 5 rfl rfl)
theorem dX9_minute_6 : decode cX9_minute 6 = .ok (.iastore, 1) := dk_79 (dk_at dksX9_minute_0 6 rfl rfl)
theorem dX9_minute_7 : decode cX9_minute 7 = .ok (.iconst 0, 1) := dk_3 (dk_at dksX9_minute_0 7 rfl rfl)
theorem dX9_minute_8 : decode cX9_minute 8 = .ok (.istore_n 2, 1) := dk_61 (dk_at dksX9_minute_0 8 rfl rfl)
theorem dX9_minute_9 : decode cX9_minute 9 = .ok (.iconst 0, 1) := dk_3 (dk_at dksX9_minute_0 9 rfl rfl)
theorem dX9_minute_10 : decode cX9_minute 10 = .ok (.istore_n 3, 1) := dk_62 (dk_at dksX9_minute_0 10 rfl rfl)
theorem dX9_minute_11 : decode cX9_minute 11 = .ok (.iload_n 3, 1) := dk_29 (dk_at dksX9_minute_0 11 rfl rfl)
theorem dX9_minute_12 : decode cX9_minute 12 = .ok (.aload_n 0, 1) := dk_42 (dk_at dksX9_minute_0 12 rfl rfl)
theorem dX9_minute_13 : decode cX9_minute 13 = .ok (.iconst 0, 1) := dk_3 (dk_at dksX9_minute_0 13 rfl rfl)
theorem dX9_minute_14 : decode cX9_minute 14 = .ok (.iaload, 1) := dk_46 (dk_at dksX9_minute_0 14 rfl rfl)
theorem dX9_minute_15 : decode cX9_minute 15 = .ok (.if_icmp .ge 27, 3) := dk_162 0 27 (dk_at dksX9_minute_0 15 rfl rfl)
theorem dX9_minute_18 : decode cX9_minute 18 = .ok (.iload_n 2, 1) := dk_28 (dk_at dksX9_minute_0 18 rfl rfl)
theorem dX9_minute_19 : decode cX9_minute 19 = .ok (.aload_n 0, 1) := dk_42 (dk_at dksX9_minute_0 19 rfl rfl)
theorem dX9_minute_20 : decode cX9_minute 20 = .ok (.iload_n 3, 1) := dk_29 (dk_at dksX9_minute_0 20 rfl rfl)
theorem dX9_minute_21 : decode cX9_minute 21 = .ok (.invokestatic 70, 3) := dk_184 0 70 (dk_at dksX9_minute_0 21 rfl rfl)
theorem dX9_minute_24 : decode cX9_minute 24 = .ok (.ifCond .eq 9, 3) := dk_153 0 9 (dk_at dksX9_minute_1 0 rfl rfl)
theorem dX9_minute_27 : decode cX9_minute 27 = .ok (.iconst 1, 1) := dk_4 (dk_at dksX9_minute_1 3 rfl rfl)
theorem dX9_minute_28 : decode cX9_minute 28 = .ok (.iload_n 3, 1) := dk_29 (dk_at dksX9_minute_1 4 rfl rfl)
theorem dX9_minute_29 : decode cX9_minute 29 = .ok (.ishl, 1) := dk_120 (dk_at dksX9_minute_1 5 rfl rfl)
theorem dX9_minute_30 : decode cX9_minute 30 = .ok (.goto 4, 3) := dk_167 0 4 (dk_at dksX9_minute_1 6 rfl rfl)
theorem dX9_minute_33 : decode cX9_minute 33 = .ok (.iconst 0, 1) := dk_3 (dk_at dksX9_minute_1 9 rfl rfl)
theorem dX9_minute_34 : decode cX9_minute 34 = .ok (.ior, 1) := dk_128 (dk_at dksX9_minute_1 10 rfl rfl)
theorem dX9_minute_35 : decode cX9_minute 35 = .ok (.istore_n 2, 1) := dk_61 (dk_at dksX9_minute_1 11 rfl rfl)
theorem dX9_minute_36 : decode cX9_minute 36 = .ok (.iinc 3 1, 3) := dk_132 3 1 (dk_at dksX9_minute_1 12 rfl rfl)
theorem dX9_minute_39 : decode cX9_minute 39 = .ok (.goto (-28), 3) := dk_167 255 228 (dk_at dksX9_minute_1 15 rfl rfl)
theorem dX9_minute_42 : decode cX9_minute 42 = .ok (.aload_n 0, 1) := dk_42 (dk_at dksX9_minute_1 18 rfl rfl)
theorem dX9_minute_43 : decode cX9_minute 43 = .ok (.iconst 1, 1) := dk_4 (dk_at dksX9_minute_1 19 rfl rfl)
theorem dX9_minute_44 : decode cX9_minute 44 = .ok (.invokestatic 73, 3) := dk_184 0 73 (dk_at dksX9_minute_1 20 rfl rfl)
theorem dX9_minute_47 : decode cX9_minute 47 = .ok (.ifCond .eq 7, 3) := dk_153 0 7 (dk_at dksX9_minute_2 0 rfl rfl)
theorem dX9_minute_50 : decode cX9_minute 50 = .ok (.iconst 1, 1) := dk_4 (dk_at dksX9_minute_2 3 rfl rfl)
theorem dX9_minute_51 : decode cX9_minute 51 = .ok (.goto 4, 3) := dk_167 0 4 (dk_at dksX9_minute_2 4 rfl rfl)
theorem dX9_minute_54 : decode cX9_minute 54 = .ok (.iconst 0, 1) := dk_3 (dk_at dksX9_minute_2 7 rfl rfl)
theorem dX9_minute_55 : decode cX9_minute 55 = .ok (.istore_n 3, 1) := dk_62 (dk_at dksX9_minute_2 8 rfl rfl)
theorem dX9_minute_56 : decode cX9_minute 56 = .ok (.iconst 0, 1) := dk_3 (dk_at dksX9_minute_2 9 rfl rfl)
theorem dX9_minute_57 : decode cX9_minute 57 = .ok (.istore 4, 2) := dk_54 4 (dk_at dksX9_minute_2 10 rfl rfl)
theorem dX9_minute_59 : decode cX9_minute 59 = .ok (.iload 4, 2) := dk_21 4 (dk_at dksX9_minute_2 12 rfl rfl)
theorem dX9_minute_61 : decode cX9_minute 61 = .ok (.aload_n 0, 1) := dk_42 (dk_at dksX9_minute_2 14 rfl rfl)
theorem dX9_minute_62 : decode cX9_minute 62 = .ok (.iconst 0, 1) := dk_3 (dk_at dksX9_minute_2 15 rfl rfl)
theorem dX9_minute_63 : decode cX9_minute 63 = .ok (.iaload, 1) := dk_46 (dk_at dksX9_minute_2 16 rfl rfl)
theorem dX9_minute_64 : decode cX9_minute 64 = .ok (.if_icmp .ge 54, 3) := dk_162 0 54 (dk_at dksX9_minute_2 17 rfl rfl)
theorem dX9_minute_67 : decode cX9_minute 67 = .ok (.aload_n 0, 1) := dk_42 (dk_at dksX9_minute_2 20 rfl rfl)
theorem dX9_minute_68 : decode cX9_minute 68 = .ok (.iload 4, 2) := dk_21 4 (dk_at dksX9_minute_2 21 rfl rfl)
theorem dX9_minute_70 : decode cX9_minute 70 = .ok (.invokestatic 55, 3) := dk_184 0 55 (dk_at dksX9_minute_3 0 rfl rfl)
theorem dX9_minute_73 : decode cX9_minute 73 = .ok (.ifCond .ne 6, 3) := dk_154 0 6 (dk_at dksX9_minute_3 3 rfl rfl)
theorem dX9_minute_76 : decode cX9_minute 76 = .ok (.goto 36, 3) := dk_167 0 36 (dk_at dksX9_minute_3 6 rfl rfl)
theorem dX9_minute_79 : decode cX9_minute 79 = .ok (.aload_n 0, 1) := dk_42 (dk_at dksX9_minute_3 9 rfl rfl)
theorem dX9_minute_80 : decode cX9_minute 80 = .ok (.iload 4, 2) := dk_21 4 (dk_at dksX9_minute_3 10 rfl rfl)
theorem dX9_minute_82 : decode cX9_minute 82 = .ok (.iconst 4, 1) := dk_7 (dk_at dksX9_minute_3 12 rfl rfl)
theorem dX9_minute_83 : decode cX9_minute 83 = .ok (.invokestatic 44, 3) := dk_184 0 44 (dk_at dksX9_minute_3 13 rfl rfl)
theorem dX9_minute_86 : decode cX9_minute 86 = .ok (.iload_n 2, 1) := dk_28 (dk_at dksX9_minute_3 16 rfl rfl)
theorem dX9_minute_87 : decode cX9_minute 87 = .ok (.iload 4, 2) := dk_21 4 (dk_at dksX9_minute_3 17 rfl rfl)
theorem dX9_minute_89 : decode cX9_minute 89 = .ok (.invokestatic 51, 3) := dk_184 0 51 (dk_at dksX9_minute_3 19 rfl rfl)
theorem dX9_minute_92 : decode cX9_minute 92 = .ok (.ifCond .eq 7, 3) := dk_153 0 7 (dk_at dksX9_minute_4 0 rfl rfl)
theorem dX9_minute_95 : decode cX9_minute 95 = .ok (.iconst 0, 1) := dk_3 (dk_at dksX9_minute_4 3 rfl rfl)
theorem dX9_minute_96 : decode cX9_minute 96 = .ok (.goto 15, 3) := dk_167 0 15 (dk_at dksX9_minute_4 4 rfl rfl)
theorem dX9_minute_99 : decode cX9_minute 99 = .ok (.aload_n 0, 1) := dk_42 (dk_at dksX9_minute_4 7 rfl rfl)
theorem dX9_minute_100 : decode cX9_minute 100 = .ok (.iload 4, 2) := dk_21 4 (dk_at dksX9_minute_4 8 rfl rfl)
theorem dX9_minute_102 : decode cX9_minute 102 = .ok (.iconst 4, 1) := dk_7 (dk_at dksX9_minute_4 10 rfl rfl)
theorem dX9_minute_103 : decode cX9_minute 103 = .ok (.invokestatic 44, 3) := dk_184 0 44 (dk_at dksX9_minute_4 11 rfl rfl)
theorem dX9_minute_106 : decode cX9_minute 106 = .ok (.iaload, 1) := dk_46 (dk_at dksX9_minute_4 14 rfl rfl)
theorem dX9_minute_107 : decode cX9_minute 107 = .ok (.iconst 1, 1) := dk_4 (dk_at dksX9_minute_4 15 rfl rfl)
theorem dX9_minute_108 : decode cX9_minute 108 = .ok (.iadd, 1) := dk_96 (dk_at dksX9_minute_4 16 rfl rfl)
theorem dX9_minute_109 : decode cX9_minute 109 = .ok (.iload_n 1, 1) := dk_27 (dk_at dksX9_minute_4 17 rfl rfl)
theorem dX9_minute_110 : decode cX9_minute 110 = .ok (.iadd, 1) := dk_96 (dk_at dksX9_minute_4 18 rfl rfl)
theorem dX9_minute_111 : decode cX9_minute 111 = .ok (.iastore, 1) := dk_79 (dk_at dksX9_minute_4 19 rfl rfl)
theorem dX9_minute_112 : decode cX9_minute 112 = .ok (.iinc 4 1, 3) := dk_132 4 1 (dk_at dksX9_minute_4 20 rfl rfl)
theorem dX9_minute_115 : decode cX9_minute 115 = .ok (.goto (-56), 3) := dk_167 255 200 (dk_at dksX9_minute_5 0 rfl rfl)
theorem dX9_minute_118 : decode cX9_minute 118 = .ok (.iconst 0, 1) := dk_3 (dk_at dksX9_minute_5 3 rfl rfl)
theorem dX9_minute_119 : decode cX9_minute 119 = .ok (.istore 4, 2) := dk_54 4 (dk_at dksX9_minute_5 4 rfl rfl)
theorem dX9_minute_121 : decode cX9_minute 121 = .ok (.iload 4, 2) := dk_21 4 (dk_at dksX9_minute_5 6 rfl rfl)
theorem dX9_minute_123 : decode cX9_minute 123 = .ok (.aload_n 0, 1) := dk_42 (dk_at dksX9_minute_5 8 rfl rfl)
theorem dX9_minute_124 : decode cX9_minute 124 = .ok (.iconst 0, 1) := dk_3 (dk_at dksX9_minute_5 9 rfl rfl)
theorem dX9_minute_125 : decode cX9_minute 125 = .ok (.iaload, 1) := dk_46 (dk_at dksX9_minute_5 10 rfl rfl)
theorem dX9_minute_126 : decode cX9_minute 126 = .ok (.if_icmp .ge 45, 3) := dk_162 0 45 (dk_at dksX9_minute_5 11 rfl rfl)
theorem dX9_minute_129 : decode cX9_minute 129 = .ok (.aload_n 0, 1) := dk_42 (dk_at dksX9_minute_5 14 rfl rfl)
theorem dX9_minute_130 : decode cX9_minute 130 = .ok (.iload 4, 2) := dk_21 4 (dk_at dksX9_minute_5 15 rfl rfl)
theorem dX9_minute_132 : decode cX9_minute 132 = .ok (.invokestatic 55, 3) := dk_184 0 55 (dk_at dksX9_minute_5 17 rfl rfl)
theorem dX9_minute_135 : decode cX9_minute 135 = .ok (.ifCond .eq 30, 3) := dk_153 0 30 (dk_at dksX9_minute_5 20 rfl rfl)
theorem dX9_minute_138 : decode cX9_minute 138 = .ok (.aload_n 0, 1) := dk_42 (dk_at dksX9_minute_5 23 rfl rfl)
theorem dX9_minute_139 : decode cX9_minute 139 = .ok (.iload 4, 2) := dk_21 4 (dk_at dksX9_minute_6 0 rfl rfl)
theorem dX9_minute_141 : decode cX9_minute 141 = .ok (.iconst 4, 1) := dk_7 (dk_at dksX9_minute_6 2 rfl rfl)
theorem dX9_minute_142 : decode cX9_minute 142 = .ok (.invokestatic 44, 3) := dk_184 0 44 (dk_at dksX9_minute_6 3 rfl rfl)
theorem dX9_minute_145 : decode cX9_minute 145 = .ok (.iaload, 1) := dk_46 (dk_at dksX9_minute_6 6 rfl rfl)
theorem dX9_minute_146 : decode cX9_minute 146 = .ok (.aload_n 0, 1) := dk_42 (dk_at dksX9_minute_6 7 rfl rfl)
theorem dX9_minute_147 : decode cX9_minute 147 = .ok (.iload 4, 2) := dk_21 4 (dk_at dksX9_minute_6 8 rfl rfl)
theorem dX9_minute_149 : decode cX9_minute 149 = .ok (.iload_n 3, 1) := dk_29 (dk_at dksX9_minute_6 10 rfl rfl)
theorem dX9_minute_150 : decode cX9_minute 150 = .ok (.invokestatic 76, 3) := dk_184 0 76 (dk_at dksX9_minute_6 11 rfl rfl)
theorem dX9_minute_153 : decode cX9_minute 153 = .ok (.if_icmp .le 12, 3) := dk_164 0 12 (dk_at dksX9_minute_6 14 rfl rfl)
theorem dX9_minute_156 : decode cX9_minute 156 = .ok (.aload_n 0, 1) := dk_42 (dk_at dksX9_minute_6 17 rfl rfl)
theorem dX9_minute_157 : decode cX9_minute 157 = .ok (.iload 4, 2) := dk_21 4 (dk_at dksX9_minute_6 18 rfl rfl)
theorem dX9_minute_159 : decode cX9_minute 159 = .ok (.iconst 3, 1) := dk_6 (dk_at dksX9_minute_6 20 rfl rfl)
theorem dX9_minute_160 : decode cX9_minute 160 = .ok (.invokestatic 44, 3) := dk_184 0 44 (dk_at dksX9_minute_6 21 rfl rfl)
theorem dX9_minute_163 : decode cX9_minute 163 = .ok (.iconst 1, 1) := dk_4 (dk_at dksX9_minute_7 0 rfl rfl)
theorem dX9_minute_164 : decode cX9_minute 164 = .ok (.iastore, 1) := dk_79 (dk_at dksX9_minute_7 1 rfl rfl)
theorem dX9_minute_165 : decode cX9_minute 165 = .ok (.iinc 4 1, 3) := dk_132 4 1 (dk_at dksX9_minute_7 2 rfl rfl)
theorem dX9_minute_168 : decode cX9_minute 168 = .ok (.goto (-47), 3) := dk_167 255 209 (dk_at dksX9_minute_7 5 rfl rfl)
theorem dX9_minute_171 : decode cX9_minute 171 = .ok (.return_, 1) := dk_177 (dk_at dksX9_minute_7 8 rfl rfl)
abbrev cX9_isHeld : ByteArray := prog_22_method_15_code
def yX9_isHeld : MethodName := ⟨RX9, "isHeld", "([II)Z"⟩
def dkwX9_isHeld_1 : List UInt8 := [46, 4, 160, 0, 18, 167, 0, 11, 42, 28, 184, 0, 55, 153, 0, 7, 4, 167, 0, 4, 3, 172]
abbrev dktX9_isHeld_1 : List UInt8 := dkwX9_isHeld_1 ++ []
def dkwX9_isHeld_0 : List UInt8 := [42, 27, 5, 184, 0, 44, 46, 61, 42, 6, 46, 27, 184, 0, 51, 154, 0, 25, 28, 156, 0, 13, 42, 5]
abbrev dktX9_isHeld_0 : List UInt8 := dkwX9_isHeld_0 ++ dktX9_isHeld_1
theorem dksX9_isHeld_0 : cX9_isHeld.data.toList.drop 0 = dktX9_isHeld_0 := by decide +kernel
theorem dksX9_isHeld_1 : cX9_isHeld.data.toList.drop 24 = dktX9_isHeld_1 := dk_seg dksX9_isHeld_0 24 rfl rfl
theorem dX9_isHeld_0 : decode cX9_isHeld 0 = .ok (.aload_n 0, 1) := dk_42 (dk_at dksX9_isHeld_0 0 rfl rfl)
theorem dX9_isHeld_1 : decode cX9_isHeld 1 = .ok (.iload_n 1, 1) := dk_27 (dk_at dksX9_isHeld_0 1 rfl rfl)
theorem dX9_isHeld_2 : decode cX9_isHeld 2 = .ok (.iconst 2, 1) := dk_5 (dk_at dksX9_isHeld_0 2 rfl rfl)
theorem dX9_isHeld_3 : decode cX9_isHeld 3 = .ok (.invokestatic 44, 3) := dk_184 0 44 (dk_at dksX9_isHeld_0 3 rfl rfl)
theorem dX9_isHeld_6 : decode cX9_isHeld 6 = .ok (.iaload, 1) := dk_46 (dk_at dksX9_isHeld_0 6 rfl rfl)
theorem dX9_isHeld_7 : decode cX9_isHeld 7 = .ok (.istore_n 2, 1) := dk_61 (dk_at dksX9_isHeld_0 7 rfl rfl)
theorem dX9_isHeld_8 : decode cX9_isHeld 8 = .ok (.aload_n 0, 1) := dk_42 (dk_at dksX9_isHeld_0 8 rfl rfl)
theorem dX9_isHeld_9 : decode cX9_isHeld 9 = .ok (.iconst 3, 1) := dk_6 (dk_at dksX9_isHeld_0 9 rfl rfl)
theorem dX9_isHeld_10 : decode cX9_isHeld 10 = .ok (.iaload, 1) := dk_46 (dk_at dksX9_isHeld_0 10 rfl rfl)
theorem dX9_isHeld_11 : decode cX9_isHeld 11 = .ok (.iload_n 1, 1) := dk_27 (dk_at dksX9_isHeld_0 11 rfl rfl)
theorem dX9_isHeld_12 : decode cX9_isHeld 12 = .ok (.invokestatic 51, 3) := dk_184 0 51 (dk_at dksX9_isHeld_0 12 rfl rfl)
theorem dX9_isHeld_15 : decode cX9_isHeld 15 = .ok (.ifCond .ne 25, 3) := dk_154 0 25 (dk_at dksX9_isHeld_0 15 rfl rfl)
theorem dX9_isHeld_18 : decode cX9_isHeld 18 = .ok (.iload_n 2, 1) := dk_28 (dk_at dksX9_isHeld_0 18 rfl rfl)
theorem dX9_isHeld_19 : decode cX9_isHeld 19 = .ok (.ifCond .ge 13, 3) := dk_156 0 13 (dk_at dksX9_isHeld_0 19 rfl rfl)
theorem dX9_isHeld_22 : decode cX9_isHeld 22 = .ok (.aload_n 0, 1) := dk_42 (dk_at dksX9_isHeld_0 22 rfl rfl)
theorem dX9_isHeld_23 : decode cX9_isHeld 23 = .ok (.iconst 2, 1) := dk_5 (dk_at dksX9_isHeld_0 23 rfl rfl)
theorem dX9_isHeld_24 : decode cX9_isHeld 24 = .ok (.iaload, 1) := dk_46 (dk_at dksX9_isHeld_1 0 rfl rfl)
theorem dX9_isHeld_25 : decode cX9_isHeld 25 = .ok (.iconst 1, 1) := dk_4 (dk_at dksX9_isHeld_1 1 rfl rfl)
theorem dX9_isHeld_26 : decode cX9_isHeld 26 = .ok (.if_icmp .ne 18, 3) := dk_160 0 18 (dk_at dksX9_isHeld_1 2 rfl rfl)
theorem dX9_isHeld_29 : decode cX9_isHeld 29 = .ok (.goto 11, 3) := dk_167 0 11 (dk_at dksX9_isHeld_1 5 rfl rfl)
theorem dX9_isHeld_32 : decode cX9_isHeld 32 = .ok (.aload_n 0, 1) := dk_42 (dk_at dksX9_isHeld_1 8 rfl rfl)
theorem dX9_isHeld_33 : decode cX9_isHeld 33 = .ok (.iload_n 2, 1) := dk_28 (dk_at dksX9_isHeld_1 9 rfl rfl)
theorem dX9_isHeld_34 : decode cX9_isHeld 34 = .ok (.invokestatic 55, 3) := dk_184 0 55 (dk_at dksX9_isHeld_1 10 rfl rfl)
theorem dX9_isHeld_37 : decode cX9_isHeld 37 = .ok (.ifCond .eq 7, 3) := dk_153 0 7 (dk_at dksX9_isHeld_1 13 rfl rfl)
theorem dX9_isHeld_40 : decode cX9_isHeld 40 = .ok (.iconst 1, 1) := dk_4 (dk_at dksX9_isHeld_1 16 rfl rfl)
theorem dX9_isHeld_41 : decode cX9_isHeld 41 = .ok (.goto 4, 3) := dk_167 0 4 (dk_at dksX9_isHeld_1 17 rfl rfl)
theorem dX9_isHeld_44 : decode cX9_isHeld 44 = .ok (.iconst 0, 1) := dk_3 (dk_at dksX9_isHeld_1 20 rfl rfl)
theorem dX9_isHeld_45 : decode cX9_isHeld 45 = .ok (.ireturn, 1) := dk_172 (dk_at dksX9_isHeld_1 21 rfl rfl)
abbrev cX9_setOf : ByteArray := prog_22_method_13_code
def yX9_setOf : MethodName := ⟨RX9, "setOf", "([II)I"⟩
def dkwX9_setOf_1 : List UInt8 := [29, 120, 167, 0, 4, 3, 128, 61, 132, 3, 1, 167, 255, 225, 28, 172]
abbrev dktX9_setOf_1 : List UInt8 := dkwX9_setOf_1 ++ []
def dkwX9_setOf_0 : List UInt8 := [3, 61, 3, 62, 29, 42, 3, 46, 162, 0, 30, 28, 42, 29, 6, 184, 0, 44, 46, 27, 160, 0, 9, 4]
abbrev dktX9_setOf_0 : List UInt8 := dkwX9_setOf_0 ++ dktX9_setOf_1
theorem dksX9_setOf_0 : cX9_setOf.data.toList.drop 0 = dktX9_setOf_0 := by decide +kernel
theorem dksX9_setOf_1 : cX9_setOf.data.toList.drop 24 = dktX9_setOf_1 := dk_seg dksX9_setOf_0 24 rfl rfl
theorem dX9_setOf_0 : decode cX9_setOf 0 = .ok (.iconst 0, 1) := dk_3 (dk_at dksX9_setOf_0 0 rfl rfl)
theorem dX9_setOf_1 : decode cX9_setOf 1 = .ok (.istore_n 2, 1) := dk_61 (dk_at dksX9_setOf_0 1 rfl rfl)
theorem dX9_setOf_2 : decode cX9_setOf 2 = .ok (.iconst 0, 1) := dk_3 (dk_at dksX9_setOf_0 2 rfl rfl)
theorem dX9_setOf_3 : decode cX9_setOf 3 = .ok (.istore_n 3, 1) := dk_62 (dk_at dksX9_setOf_0 3 rfl rfl)
theorem dX9_setOf_4 : decode cX9_setOf 4 = .ok (.iload_n 3, 1) := dk_29 (dk_at dksX9_setOf_0 4 rfl rfl)
theorem dX9_setOf_5 : decode cX9_setOf 5 = .ok (.aload_n 0, 1) := dk_42 (dk_at dksX9_setOf_0 5 rfl rfl)
theorem dX9_setOf_6 : decode cX9_setOf 6 = .ok (.iconst 0, 1) := dk_3 (dk_at dksX9_setOf_0 6 rfl rfl)
theorem dX9_setOf_7 : decode cX9_setOf 7 = .ok (.iaload, 1) := dk_46 (dk_at dksX9_setOf_0 7 rfl rfl)
theorem dX9_setOf_8 : decode cX9_setOf 8 = .ok (.if_icmp .ge 30, 3) := dk_162 0 30 (dk_at dksX9_setOf_0 8 rfl rfl)
theorem dX9_setOf_11 : decode cX9_setOf 11 = .ok (.iload_n 2, 1) := dk_28 (dk_at dksX9_setOf_0 11 rfl rfl)
theorem dX9_setOf_12 : decode cX9_setOf 12 = .ok (.aload_n 0, 1) := dk_42 (dk_at dksX9_setOf_0 12 rfl rfl)
theorem dX9_setOf_13 : decode cX9_setOf 13 = .ok (.iload_n 3, 1) := dk_29 (dk_at dksX9_setOf_0 13 rfl rfl)
theorem dX9_setOf_14 : decode cX9_setOf 14 = .ok (.iconst 3, 1) := dk_6 (dk_at dksX9_setOf_0 14 rfl rfl)
theorem dX9_setOf_15 : decode cX9_setOf 15 = .ok (.invokestatic 44, 3) := dk_184 0 44 (dk_at dksX9_setOf_0 15 rfl rfl)
theorem dX9_setOf_18 : decode cX9_setOf 18 = .ok (.iaload, 1) := dk_46 (dk_at dksX9_setOf_0 18 rfl rfl)
theorem dX9_setOf_19 : decode cX9_setOf 19 = .ok (.iload_n 1, 1) := dk_27 (dk_at dksX9_setOf_0 19 rfl rfl)
theorem dX9_setOf_20 : decode cX9_setOf 20 = .ok (.if_icmp .ne 9, 3) := dk_160 0 9 (dk_at dksX9_setOf_0 20 rfl rfl)
theorem dX9_setOf_23 : decode cX9_setOf 23 = .ok (.iconst 1, 1) := dk_4 (dk_at dksX9_setOf_0 23 rfl rfl)
theorem dX9_setOf_24 : decode cX9_setOf 24 = .ok (.iload_n 3, 1) := dk_29 (dk_at dksX9_setOf_1 0 rfl rfl)
theorem dX9_setOf_25 : decode cX9_setOf 25 = .ok (.ishl, 1) := dk_120 (dk_at dksX9_setOf_1 1 rfl rfl)
theorem dX9_setOf_26 : decode cX9_setOf 26 = .ok (.goto 4, 3) := dk_167 0 4 (dk_at dksX9_setOf_1 2 rfl rfl)
theorem dX9_setOf_29 : decode cX9_setOf 29 = .ok (.iconst 0, 1) := dk_3 (dk_at dksX9_setOf_1 5 rfl rfl)
theorem dX9_setOf_30 : decode cX9_setOf 30 = .ok (.ior, 1) := dk_128 (dk_at dksX9_setOf_1 6 rfl rfl)
theorem dX9_setOf_31 : decode cX9_setOf 31 = .ok (.istore_n 2, 1) := dk_61 (dk_at dksX9_setOf_1 7 rfl rfl)
theorem dX9_setOf_32 : decode cX9_setOf 32 = .ok (.iinc 3 1, 3) := dk_132 3 1 (dk_at dksX9_setOf_1 8 rfl rfl)
theorem dX9_setOf_35 : decode cX9_setOf 35 = .ok (.goto (-31), 3) := dk_167 255 225 (dk_at dksX9_setOf_1 11 rfl rfl)
theorem dX9_setOf_38 : decode cX9_setOf 38 = .ok (.iload_n 2, 1) := dk_28 (dk_at dksX9_setOf_1 14 rfl rfl)
theorem dX9_setOf_39 : decode cX9_setOf 39 = .ok (.ireturn, 1) := dk_172 (dk_at dksX9_setOf_1 15 rfl rfl)
abbrev cX9_habit : ByteArray := prog_22_method_14_code
def yX9_habit : MethodName := ⟨RX9, "habit", "([IIZ)I"⟩
def dkwX9_habit_4 : List UInt8 := [5, 96, 172, 29, 6, 108, 172]
abbrev dktX9_habit_4 : List UInt8 := dkwX9_habit_4 ++ []
def dkwX9_habit_3 : List UInt8 := [172, 28, 153, 0, 7, 3, 167, 0, 8, 29, 6, 108, 29, 96, 172, 3, 29, 6, 108, 4, 100, 184, 0, 48]
abbrev dktX9_habit_3 : List UInt8 := dkwX9_habit_3 ++ dktX9_habit_4
def dkwX9_habit_2 : List UInt8 := [3, 29, 6, 108, 4, 100, 184, 0, 48, 172, 29, 6, 108, 29, 96, 172, 29, 6, 108, 29, 96, 16, 20, 96]
abbrev dktX9_habit_2 : List UInt8 := dkwX9_habit_2 ++ dktX9_habit_3
def dkwX9_habit_1 : List UInt8 := [170, 0, 0, 0, 84, 0, 0, 0, 1, 0, 0, 0, 5, 0, 0, 0, 33, 0, 0, 0, 43, 0, 0, 0, 49, 0, 0, 0, 58, 0, 0, 0, 72]
abbrev dktX9_habit_1 : List UInt8 := dkwX9_habit_1 ++ dktX9_habit_2
def dkwX9_habit_0 : List UInt8 := [42, 27, 4, 184, 0, 44, 46, 62, 42, 27, 3, 184, 0, 44, 46]
abbrev dktX9_habit_0 : List UInt8 := dkwX9_habit_0 ++ dktX9_habit_1
theorem dksX9_habit_0 : cX9_habit.data.toList.drop 0 = dktX9_habit_0 := by decide +kernel
theorem dksX9_habit_1 : cX9_habit.data.toList.drop 15 = dktX9_habit_1 := dk_seg dksX9_habit_0 15 rfl rfl
theorem dksX9_habit_2 : cX9_habit.data.toList.drop 48 = dktX9_habit_2 := dk_seg dksX9_habit_1 33 rfl rfl
theorem dksX9_habit_3 : cX9_habit.data.toList.drop 72 = dktX9_habit_3 := dk_seg dksX9_habit_2 24 rfl rfl
theorem dksX9_habit_4 : cX9_habit.data.toList.drop 96 = dktX9_habit_4 := dk_seg dksX9_habit_3 24 rfl rfl
theorem dX9_habit_0 : decode cX9_habit 0 = .ok (.aload_n 0, 1) := dk_42 (dk_at dksX9_habit_0 0 rfl rfl)
theorem dX9_habit_1 : decode cX9_habit 1 = .ok (.iload_n 1, 1) := dk_27 (dk_at dksX9_habit_0 1 rfl rfl)
theorem dX9_habit_2 : decode cX9_habit 2 = .ok (.iconst 1, 1) := dk_4 (dk_at dksX9_habit_0 2 rfl rfl)
theorem dX9_habit_3 : decode cX9_habit 3 = .ok (.invokestatic 44, 3) := dk_184 0 44 (dk_at dksX9_habit_0 3 rfl rfl)
theorem dX9_habit_6 : decode cX9_habit 6 = .ok (.iaload, 1) := dk_46 (dk_at dksX9_habit_0 6 rfl rfl)
theorem dX9_habit_7 : decode cX9_habit 7 = .ok (.istore_n 3, 1) := dk_62 (dk_at dksX9_habit_0 7 rfl rfl)
theorem dX9_habit_8 : decode cX9_habit 8 = .ok (.aload_n 0, 1) := dk_42 (dk_at dksX9_habit_0 8 rfl rfl)
theorem dX9_habit_9 : decode cX9_habit 9 = .ok (.iload_n 1, 1) := dk_27 (dk_at dksX9_habit_0 9 rfl rfl)
theorem dX9_habit_10 : decode cX9_habit 10 = .ok (.iconst 0, 1) := dk_3 (dk_at dksX9_habit_0 10 rfl rfl)
theorem dX9_habit_11 : decode cX9_habit 11 = .ok (.invokestatic 44, 3) := dk_184 0 44 (dk_at dksX9_habit_0 11 rfl rfl)
theorem dX9_habit_14 : decode cX9_habit 14 = .ok (.iaload, 1) := dk_46 (dk_at dksX9_habit_0 14 rfl rfl)
theorem dX9_habit_15 : decode cX9_habit 15 = .ok (.tableswitch 84 1 5 #[33, 43, 49, 58, 72], 33) := by decide +kernel
theorem dX9_habit_48 : decode cX9_habit 48 = .ok (.iconst 0, 1) := dk_3 (dk_at dksX9_habit_2 0 rfl rfl)
theorem dX9_habit_49 : decode cX9_habit 49 = .ok (.iload_n 3, 1) := dk_29 (dk_at dksX9_habit_2 1 rfl rfl)
theorem dX9_habit_50 : decode cX9_habit 50 = .ok (.iconst 3, 1) := dk_6 (dk_at dksX9_habit_2 2 rfl rfl)
theorem dX9_habit_51 : decode cX9_habit 51 = .ok (.idiv, 1) := dk_108 (dk_at dksX9_habit_2 3 rfl rfl)
theorem dX9_habit_52 : decode cX9_habit 52 = .ok (.iconst 1, 1) := dk_4 (dk_at dksX9_habit_2 4 rfl rfl)
theorem dX9_habit_53 : decode cX9_habit 53 = .ok (.isub, 1) := dk_100 (dk_at dksX9_habit_2 5 rfl rfl)
theorem dX9_habit_54 : decode cX9_habit 54 = .ok (.invokestatic 48, 3) := dk_184 0 48 (dk_at dksX9_habit_2 6 rfl rfl)
theorem dX9_habit_57 : decode cX9_habit 57 = .ok (.ireturn, 1) := dk_172 (dk_at dksX9_habit_2 9 rfl rfl)
theorem dX9_habit_58 : decode cX9_habit 58 = .ok (.iload_n 3, 1) := dk_29 (dk_at dksX9_habit_2 10 rfl rfl)
theorem dX9_habit_59 : decode cX9_habit 59 = .ok (.iconst 3, 1) := dk_6 (dk_at dksX9_habit_2 11 rfl rfl)
theorem dX9_habit_60 : decode cX9_habit 60 = .ok (.idiv, 1) := dk_108 (dk_at dksX9_habit_2 12 rfl rfl)
theorem dX9_habit_61 : decode cX9_habit 61 = .ok (.iload_n 3, 1) := dk_29 (dk_at dksX9_habit_2 13 rfl rfl)
theorem dX9_habit_62 : decode cX9_habit 62 = .ok (.iadd, 1) := dk_96 (dk_at dksX9_habit_2 14 rfl rfl)
theorem dX9_habit_63 : decode cX9_habit 63 = .ok (.ireturn, 1) := dk_172 (dk_at dksX9_habit_2 15 rfl rfl)
theorem dX9_habit_64 : decode cX9_habit 64 = .ok (.iload_n 3, 1) := dk_29 (dk_at dksX9_habit_2 16 rfl rfl)
theorem dX9_habit_65 : decode cX9_habit 65 = .ok (.iconst 3, 1) := dk_6 (dk_at dksX9_habit_2 17 rfl rfl)
theorem dX9_habit_66 : decode cX9_habit 66 = .ok (.idiv, 1) := dk_108 (dk_at dksX9_habit_2 18 rfl rfl)
theorem dX9_habit_67 : decode cX9_habit 67 = .ok (.iload_n 3, 1) := dk_29 (dk_at dksX9_habit_2 19 rfl rfl)
theorem dX9_habit_68 : decode cX9_habit 68 = .ok (.iadd, 1) := dk_96 (dk_at dksX9_habit_2 20 rfl rfl)
theorem dX9_habit_69 : decode cX9_habit 69 = .ok (.bipush 20, 2) := dk_16 20 (dk_at dksX9_habit_2 21 rfl rfl)
theorem dX9_habit_71 : decode cX9_habit 71 = .ok (.iadd, 1) := dk_96 (dk_at dksX9_habit_2 23 rfl rfl)
theorem dX9_habit_72 : decode cX9_habit 72 = .ok (.ireturn, 1) := dk_172 (dk_at dksX9_habit_3 0 rfl rfl)
theorem dX9_habit_73 : decode cX9_habit 73 = .ok (.iload_n 2, 1) := dk_28 (dk_at dksX9_habit_3 1 rfl rfl)
theorem dX9_habit_74 : decode cX9_habit 74 = .ok (.ifCond .eq 7, 3) := dk_153 0 7 (dk_at dksX9_habit_3 2 rfl rfl)
theorem dX9_habit_77 : decode cX9_habit 77 = .ok (.iconst 0, 1) := dk_3 (dk_at dksX9_habit_3 5 rfl rfl)
theorem dX9_habit_78 : decode cX9_habit 78 = .ok (.goto 8, 3) := dk_167 0 8 (dk_at dksX9_habit_3 6 rfl rfl)
theorem dX9_habit_81 : decode cX9_habit 81 = .ok (.iload_n 3, 1) := dk_29 (dk_at dksX9_habit_3 9 rfl rfl)
theorem dX9_habit_82 : decode cX9_habit 82 = .ok (.iconst 3, 1) := dk_6 (dk_at dksX9_habit_3 10 rfl rfl)
theorem dX9_habit_83 : decode cX9_habit 83 = .ok (.idiv, 1) := dk_108 (dk_at dksX9_habit_3 11 rfl rfl)
theorem dX9_habit_84 : decode cX9_habit 84 = .ok (.iload_n 3, 1) := dk_29 (dk_at dksX9_habit_3 12 rfl rfl)
theorem dX9_habit_85 : decode cX9_habit 85 = .ok (.iadd, 1) := dk_96 (dk_at dksX9_habit_3 13 rfl rfl)
theorem dX9_habit_86 : decode cX9_habit 86 = .ok (.ireturn, 1) := dk_172 (dk_at dksX9_habit_3 14 rfl rfl)
theorem dX9_habit_87 : decode cX9_habit 87 = .ok (.iconst 0, 1) := dk_3 (dk_at dksX9_habit_3 15 rfl rfl)
theorem dX9_habit_88 : decode cX9_habit 88 = .ok (.iload_n 3, 1) := dk_29 (dk_at dksX9_habit_3 16 rfl rfl)
theorem dX9_habit_89 : decode cX9_habit 89 = .ok (.iconst 3, 1) := dk_6 (dk_at dksX9_habit_3 17 rfl rfl)
theorem dX9_habit_90 : decode cX9_habit 90 = .ok (.idiv, 1) := dk_108 (dk_at dksX9_habit_3 18 rfl rfl)
theorem dX9_habit_91 : decode cX9_habit 91 = .ok (.iconst 1, 1) := dk_4 (dk_at dksX9_habit_3 19 rfl rfl)
theorem dX9_habit_92 : decode cX9_habit 92 = .ok (.isub, 1) := dk_100 (dk_at dksX9_habit_3 20 rfl rfl)
theorem dX9_habit_93 : decode cX9_habit 93 = .ok (.invokestatic 48, 3) := dk_184 0 48 (dk_at dksX9_habit_3 21 rfl rfl)
theorem dX9_habit_96 : decode cX9_habit 96 = .ok (.iconst 2, 1) := dk_5 (dk_at dksX9_habit_4 0 rfl rfl)
theorem dX9_habit_97 : decode cX9_habit 97 = .ok (.iadd, 1) := dk_96 (dk_at dksX9_habit_4 1 rfl rfl)
theorem dX9_habit_98 : decode cX9_habit 98 = .ok (.ireturn, 1) := dk_172 (dk_at dksX9_habit_4 2 rfl rfl)
theorem dX9_habit_99 : decode cX9_habit 99 = .ok (.iload_n 3, 1) := dk_29 (dk_at dksX9_habit_4 3 rfl rfl)
theorem dX9_habit_100 : decode cX9_habit 100 = .ok (.iconst 3, 1) := dk_6 (dk_at dksX9_habit_4 4 rfl rfl)
theorem dX9_habit_101 : decode cX9_habit 101 = .ok (.idiv, 1) := dk_108 (dk_at dksX9_habit_4 5 rfl rfl)
theorem dX9_habit_102 : decode cX9_habit 102 = .ok (.ireturn, 1) := dk_172 (dk_at dksX9_habit_4 6 rfl rfl)
abbrev cX9_most : ByteArray := prog_22_method_3_code
def yX9_most : MethodName := ⟨RX9, "most", "(II)I"⟩
def dkwX9_most_0 : List UInt8 := [26, 27, 164, 0, 7, 26, 167, 0, 4, 27, 172]
abbrev dktX9_most_0 : List UInt8 := dkwX9_most_0 ++ []
theorem dksX9_most_0 : cX9_most.data.toList.drop 0 = dktX9_most_0 := by decide +kernel
theorem dX9_most_0 : decode cX9_most 0 = .ok (.iload_n 0, 1) := dk_26 (dk_at dksX9_most_0 0 rfl rfl)
theorem dX9_most_1 : decode cX9_most 1 = .ok (.iload_n 1, 1) := dk_27 (dk_at dksX9_most_0 1 rfl rfl)
theorem dX9_most_2 : decode cX9_most 2 = .ok (.if_icmp .le 7, 3) := dk_164 0 7 (dk_at dksX9_most_0 2 rfl rfl)
theorem dX9_most_5 : decode cX9_most 5 = .ok (.iload_n 0, 1) := dk_26 (dk_at dksX9_most_0 5 rfl rfl)
theorem dX9_most_6 : decode cX9_most 6 = .ok (.goto 4, 3) := dk_167 0 4 (dk_at dksX9_most_0 6 rfl rfl)
theorem dX9_most_9 : decode cX9_most 9 = .ok (.iload_n 1, 1) := dk_27 (dk_at dksX9_most_0 9 rfl rfl)
theorem dX9_most_10 : decode cX9_most 10 = .ok (.ireturn, 1) := dk_172 (dk_at dksX9_most_0 10 rfl rfl)
abbrev cX9_thing : ByteArray := prog_22_method_29_code
def yX9_thing : MethodName := ⟨RX9, "thing", "(II)I"⟩
def dkwX9_thing_6 : List UInt8 := [16, 254, 182, 0, 36, 172]
abbrev dktX9_thing_6 : List UInt8 := dkwX9_thing_6 ++ []
def dkwX9_thing_5 : List UInt8 := [184, 0, 55, 153, 0, 18, 42, 180, 0, 9, 27, 184, 0, 70, 153, 0, 7, 4, 167, 0, 4, 3, 172, 42]
abbrev dktX9_thing_5 : List UInt8 := dkwX9_thing_5 ++ dktX9_thing_6
def dkwX9_thing_4 : List UInt8 := [167, 0, 4, 3, 184, 0, 76, 172, 42, 180, 0, 9, 27, 184, 0, 59, 172, 42, 180, 0, 9, 27]
abbrev dktX9_thing_4 : List UInt8 := dkwX9_thing_4 ++ dktX9_thing_5
def dkwX9_thing_3 : List UInt8 := [42, 180, 0, 9, 27, 42, 180, 0, 9, 4, 184, 0, 73, 4, 27, 120, 2, 130, 126, 153, 0, 7, 4]
abbrev dktX9_thing_3 : List UInt8 := dkwX9_thing_3 ++ dktX9_thing_4
def dkwX9_thing_2 : List UInt8 := [170, 0, 0, 0, 93, 0, 0, 0, 5, 0, 0, 0, 7, 0, 0, 0, 25, 0, 0, 0, 56, 0, 0, 0, 65]
abbrev dktX9_thing_2 : List UInt8 := dkwX9_thing_2 ++ dktX9_thing_3
def dkwX9_thing_1 : List UInt8 := [180, 0, 9, 27, 28, 184, 0, 44, 46, 172, 28]
abbrev dktX9_thing_1 : List UInt8 := dkwX9_thing_1 ++ dktX9_thing_2
def dkwX9_thing_0 : List UInt8 := [42, 27, 182, 0, 105, 154, 0, 9, 42, 2, 182, 0, 36, 172, 28, 3, 7, 184, 0, 40, 153, 0, 14, 42]
abbrev dktX9_thing_0 : List UInt8 := dkwX9_thing_0 ++ dktX9_thing_1
theorem dksX9_thing_0 : cX9_thing.data.toList.drop 0 = dktX9_thing_0 := by decide +kernel
theorem dksX9_thing_1 : cX9_thing.data.toList.drop 24 = dktX9_thing_1 := dk_seg dksX9_thing_0 24 rfl rfl
theorem dksX9_thing_2 : cX9_thing.data.toList.drop 35 = dktX9_thing_2 := dk_seg dksX9_thing_1 11 rfl rfl
theorem dksX9_thing_3 : cX9_thing.data.toList.drop 60 = dktX9_thing_3 := dk_seg dksX9_thing_2 25 rfl rfl
theorem dksX9_thing_4 : cX9_thing.data.toList.drop 83 = dktX9_thing_4 := dk_seg dksX9_thing_3 23 rfl rfl
theorem dksX9_thing_5 : cX9_thing.data.toList.drop 105 = dktX9_thing_5 := dk_seg dksX9_thing_4 22 rfl rfl
theorem dksX9_thing_6 : cX9_thing.data.toList.drop 129 = dktX9_thing_6 := dk_seg dksX9_thing_5 24 rfl rfl
theorem dX9_thing_0 : decode cX9_thing 0 = .ok (.aload_n 0, 1) := dk_42 (dk_at dksX9_thing_0 0 rfl rfl)
theorem dX9_thing_1 : decode cX9_thing 1 = .ok (.iload_n 1, 1) := dk_27 (dk_at dksX9_thing_0 1 rfl rfl)
theorem dX9_thing_2 : decode cX9_thing 2 = .ok (.invokevirtual 105, 3) := dk_182 0 105 (dk_at dksX9_thing_0 2 rfl rfl)
theorem dX9_thing_5 : decode cX9_thing 5 = .ok (.ifCond .ne 9, 3) := dk_154 0 9 (dk_at dksX9_thing_0 5 rfl rfl)
theorem dX9_thing_8 : decode cX9_thing 8 = .ok (.aload_n 0, 1) := dk_42 (dk_at dksX9_thing_0 8 rfl rfl)
theorem dX9_thing_9 : decode cX9_thing 9 = .ok (.iconst (-1), 1) := dk_2 (dk_at dksX9_thing_0 9 rfl rfl)
theorem dX9_thing_10 : decode cX9_thing 10 = .ok (.invokevirtual 36, 3) := dk_182 0 36 (dk_at dksX9_thing_0 10 rfl rfl)
theorem dX9_thing_13 : decode cX9_thing 13 = .ok (.ireturn, 1) := dk_172 (dk_at dksX9_thing_0 13 rfl rfl)
theorem dX9_thing_14 : decode cX9_thing 14 = .ok (.iload_n 2, 1) := dk_28 (dk_at dksX9_thing_0 14 rfl rfl)
theorem dX9_thing_15 : decode cX9_thing 15 = .ok (.iconst 0, 1) := dk_3 (dk_at dksX9_thing_0 15 rfl rfl)
theorem dX9_thing_16 : decode cX9_thing 16 = .ok (.iconst 4, 1) := dk_7 (dk_at dksX9_thing_0 16 rfl rfl)
theorem dX9_thing_17 : decode cX9_thing 17 = .ok (.invokestatic 40, 3) := dk_184 0 40 (dk_at dksX9_thing_0 17 rfl rfl)
theorem dX9_thing_20 : decode cX9_thing 20 = .ok (.ifCond .eq 14, 3) := dk_153 0 14 (dk_at dksX9_thing_0 20 rfl rfl)
theorem dX9_thing_23 : decode cX9_thing 23 = .ok (.aload_n 0, 1) := dk_42 (dk_at dksX9_thing_0 23 rfl rfl)
theorem dX9_thing_24 : decode cX9_thing 24 = .ok (.getfield 9, 3) := dk_180 0 9 (dk_at dksX9_thing_1 0 rfl rfl)
theorem dX9_thing_27 : decode cX9_thing 27 = .ok (.iload_n 1, 1) := dk_27 (dk_at dksX9_thing_1 3 rfl rfl)
theorem dX9_thing_28 : decode cX9_thing 28 = .ok (.iload_n 2, 1) := dk_28 (dk_at dksX9_thing_1 4 rfl rfl)
theorem dX9_thing_29 : decode cX9_thing 29 = .ok (.invokestatic 44, 3) := dk_184 0 44 (dk_at dksX9_thing_1 5 rfl rfl)
theorem dX9_thing_32 : decode cX9_thing 32 = .ok (.iaload, 1) := dk_46 (dk_at dksX9_thing_1 8 rfl rfl)
theorem dX9_thing_33 : decode cX9_thing 33 = .ok (.ireturn, 1) := dk_172 (dk_at dksX9_thing_1 9 rfl rfl)
theorem dX9_thing_34 : decode cX9_thing 34 = .ok (.iload_n 2, 1) := dk_28 (dk_at dksX9_thing_1 10 rfl rfl)
theorem dX9_thing_35 : decode cX9_thing 35 = .ok (.tableswitch 93 5 7 #[25, 56, 65], 25) := by decide +kernel
theorem dX9_thing_60 : decode cX9_thing 60 = .ok (.aload_n 0, 1) := dk_42 (dk_at dksX9_thing_3 0 rfl rfl)
theorem dX9_thing_61 : decode cX9_thing 61 = .ok (.getfield 9, 3) := dk_180 0 9 (dk_at dksX9_thing_3 1 rfl rfl)
theorem dX9_thing_64 : decode cX9_thing 64 = .ok (.iload_n 1, 1) := dk_27 (dk_at dksX9_thing_3 4 rfl rfl)
theorem dX9_thing_65 : decode cX9_thing 65 = .ok (.aload_n 0, 1) := dk_42 (dk_at dksX9_thing_3 5 rfl rfl)
theorem dX9_thing_66 : decode cX9_thing 66 = .ok (.getfield 9, 3) := dk_180 0 9 (dk_at dksX9_thing_3 6 rfl rfl)
theorem dX9_thing_69 : decode cX9_thing 69 = .ok (.iconst 1, 1) := dk_4 (dk_at dksX9_thing_3 9 rfl rfl)
theorem dX9_thing_70 : decode cX9_thing 70 = .ok (.invokestatic 73, 3) := dk_184 0 73 (dk_at dksX9_thing_3 10 rfl rfl)
theorem dX9_thing_73 : decode cX9_thing 73 = .ok (.iconst 1, 1) := dk_4 (dk_at dksX9_thing_3 13 rfl rfl)
theorem dX9_thing_74 : decode cX9_thing 74 = .ok (.iload_n 1, 1) := dk_27 (dk_at dksX9_thing_3 14 rfl rfl)
theorem dX9_thing_75 : decode cX9_thing 75 = .ok (.ishl, 1) := dk_120 (dk_at dksX9_thing_3 15 rfl rfl)
theorem dX9_thing_76 : decode cX9_thing 76 = .ok (.iconst (-1), 1) := dk_2 (dk_at dksX9_thing_3 16 rfl rfl)
theorem dX9_thing_77 : decode cX9_thing 77 = .ok (.ixor, 1) := dk_130 (dk_at dksX9_thing_3 17 rfl rfl)
theorem dX9_thing_78 : decode cX9_thing 78 = .ok (.iand, 1) := dk_126 (dk_at dksX9_thing_3 18 rfl rfl)
theorem dX9_thing_79 : decode cX9_thing 79 = .ok (.ifCond .eq 7, 3) := dk_153 0 7 (dk_at dksX9_thing_3 19 rfl rfl)
theorem dX9_thing_82 : decode cX9_thing 82 = .ok (.iconst 1, 1) := dk_4 (dk_at dksX9_thing_3 22 rfl rfl)
theorem dX9_thing_83 : decode cX9_thing 83 = .ok (.goto 4, 3) := dk_167 0 4 (dk_at dksX9_thing_4 0 rfl rfl)
theorem dX9_thing_86 : decode cX9_thing 86 = .ok (.iconst 0, 1) := dk_3 (dk_at dksX9_thing_4 3 rfl rfl)
theorem dX9_thing_87 : decode cX9_thing 87 = .ok (.invokestatic 76, 3) := dk_184 0 76 (dk_at dksX9_thing_4 4 rfl rfl)
theorem dX9_thing_90 : decode cX9_thing 90 = .ok (.ireturn, 1) := dk_172 (dk_at dksX9_thing_4 7 rfl rfl)
theorem dX9_thing_91 : decode cX9_thing 91 = .ok (.aload_n 0, 1) := dk_42 (dk_at dksX9_thing_4 8 rfl rfl)
theorem dX9_thing_92 : decode cX9_thing 92 = .ok (.getfield 9, 3) := dk_180 0 9 (dk_at dksX9_thing_4 9 rfl rfl)
theorem dX9_thing_95 : decode cX9_thing 95 = .ok (.iload_n 1, 1) := dk_27 (dk_at dksX9_thing_4 12 rfl rfl)
theorem dX9_thing_96 : decode cX9_thing 96 = .ok (.invokestatic 59, 3) := dk_184 0 59 (dk_at dksX9_thing_4 13 rfl rfl)
theorem dX9_thing_99 : decode cX9_thing 99 = .ok (.ireturn, 1) := dk_172 (dk_at dksX9_thing_4 16 rfl rfl)
theorem dX9_thing_100 : decode cX9_thing 100 = .ok (.aload_n 0, 1) := dk_42 (dk_at dksX9_thing_4 17 rfl rfl)
theorem dX9_thing_101 : decode cX9_thing 101 = .ok (.getfield 9, 3) := dk_180 0 9 (dk_at dksX9_thing_4 18 rfl rfl)
theorem dX9_thing_104 : decode cX9_thing 104 = .ok (.iload_n 1, 1) := dk_27 (dk_at dksX9_thing_4 21 rfl rfl)
theorem dX9_thing_105 : decode cX9_thing 105 = .ok (.invokestatic 55, 3) := dk_184 0 55 (dk_at dksX9_thing_5 0 rfl rfl)
theorem dX9_thing_108 : decode cX9_thing 108 = .ok (.ifCond .eq 18, 3) := dk_153 0 18 (dk_at dksX9_thing_5 3 rfl rfl)
theorem dX9_thing_111 : decode cX9_thing 111 = .ok (.aload_n 0, 1) := dk_42 (dk_at dksX9_thing_5 6 rfl rfl)
theorem dX9_thing_112 : decode cX9_thing 112 = .ok (.getfield 9, 3) := dk_180 0 9 (dk_at dksX9_thing_5 7 rfl rfl)
theorem dX9_thing_115 : decode cX9_thing 115 = .ok (.iload_n 1, 1) := dk_27 (dk_at dksX9_thing_5 10 rfl rfl)
theorem dX9_thing_116 : decode cX9_thing 116 = .ok (.invokestatic 70, 3) := dk_184 0 70 (dk_at dksX9_thing_5 11 rfl rfl)
theorem dX9_thing_119 : decode cX9_thing 119 = .ok (.ifCond .eq 7, 3) := dk_153 0 7 (dk_at dksX9_thing_5 14 rfl rfl)
theorem dX9_thing_122 : decode cX9_thing 122 = .ok (.iconst 1, 1) := dk_4 (dk_at dksX9_thing_5 17 rfl rfl)
theorem dX9_thing_123 : decode cX9_thing 123 = .ok (.goto 4, 3) := dk_167 0 4 (dk_at dksX9_thing_5 18 rfl rfl)
theorem dX9_thing_126 : decode cX9_thing 126 = .ok (.iconst 0, 1) := dk_3 (dk_at dksX9_thing_5 21 rfl rfl)
theorem dX9_thing_127 : decode cX9_thing 127 = .ok (.ireturn, 1) := dk_172 (dk_at dksX9_thing_5 22 rfl rfl)
theorem dX9_thing_128 : decode cX9_thing 128 = .ok (.aload_n 0, 1) := dk_42 (dk_at dksX9_thing_5 23 rfl rfl)
theorem dX9_thing_129 : decode cX9_thing 129 = .ok (.bipush (-2), 2) := dk_16 254 (dk_at dksX9_thing_6 0 rfl rfl)
theorem dX9_thing_131 : decode cX9_thing 131 = .ok (.invokevirtual 36, 3) := dk_182 0 36 (dk_at dksX9_thing_6 2 rfl rfl)
theorem dX9_thing_134 : decode cX9_thing 134 = .ok (.ireturn, 1) := dk_172 (dk_at dksX9_thing_6 5 rfl rfl)
abbrev cX9_pulls : ByteArray := prog_22_method_32_code
def yX9_pulls : MethodName := ⟨RX9, "pulls", "(II)I"⟩
def dkwX9_pulls_1 : List UInt8 := [28, 184, 0, 112, 172]
abbrev dktX9_pulls_1 : List UInt8 := dkwX9_pulls_1 ++ []
def dkwX9_pulls_0 : List UInt8 := [42, 27, 28, 182, 0, 131, 62, 29, 153, 0, 11, 42, 29, 182, 0, 36, 167, 0, 12, 42, 180, 0, 9, 27]
abbrev dktX9_pulls_0 : List UInt8 := dkwX9_pulls_0 ++ dktX9_pulls_1
theorem dksX9_pulls_0 : cX9_pulls.data.toList.drop 0 = dktX9_pulls_0 := by decide +kernel
theorem dksX9_pulls_1 : cX9_pulls.data.toList.drop 24 = dktX9_pulls_1 := dk_seg dksX9_pulls_0 24 rfl rfl
theorem dX9_pulls_0 : decode cX9_pulls 0 = .ok (.aload_n 0, 1) := dk_42 (dk_at dksX9_pulls_0 0 rfl rfl)
theorem dX9_pulls_1 : decode cX9_pulls 1 = .ok (.iload_n 1, 1) := dk_27 (dk_at dksX9_pulls_0 1 rfl rfl)
theorem dX9_pulls_2 : decode cX9_pulls 2 = .ok (.iload_n 2, 1) := dk_28 (dk_at dksX9_pulls_0 2 rfl rfl)
theorem dX9_pulls_3 : decode cX9_pulls 3 = .ok (.invokevirtual 131, 3) := dk_182 0 131 (dk_at dksX9_pulls_0 3 rfl rfl)
theorem dX9_pulls_6 : decode cX9_pulls 6 = .ok (.istore_n 3, 1) := dk_62 (dk_at dksX9_pulls_0 6 rfl rfl)
theorem dX9_pulls_7 : decode cX9_pulls 7 = .ok (.iload_n 3, 1) := dk_29 (dk_at dksX9_pulls_0 7 rfl rfl)
theorem dX9_pulls_8 : decode cX9_pulls 8 = .ok (.ifCond .eq 11, 3) := dk_153 0 11 (dk_at dksX9_pulls_0 8 rfl rfl)
theorem dX9_pulls_11 : decode cX9_pulls 11 = .ok (.aload_n 0, 1) := dk_42 (dk_at dksX9_pulls_0 11 rfl rfl)
theorem dX9_pulls_12 : decode cX9_pulls 12 = .ok (.iload_n 3, 1) := dk_29 (dk_at dksX9_pulls_0 12 rfl rfl)
theorem dX9_pulls_13 : decode cX9_pulls 13 = .ok (.invokevirtual 36, 3) := dk_182 0 36 (dk_at dksX9_pulls_0 13 rfl rfl)
theorem dX9_pulls_16 : decode cX9_pulls 16 = .ok (.goto 12, 3) := dk_167 0 12 (dk_at dksX9_pulls_0 16 rfl rfl)
theorem dX9_pulls_19 : decode cX9_pulls 19 = .ok (.aload_n 0, 1) := dk_42 (dk_at dksX9_pulls_0 19 rfl rfl)
theorem dX9_pulls_20 : decode cX9_pulls 20 = .ok (.getfield 9, 3) := dk_180 0 9 (dk_at dksX9_pulls_0 20 rfl rfl)
theorem dX9_pulls_23 : decode cX9_pulls 23 = .ok (.iload_n 1, 1) := dk_27 (dk_at dksX9_pulls_0 23 rfl rfl)
theorem dX9_pulls_24 : decode cX9_pulls 24 = .ok (.iload_n 2, 1) := dk_28 (dk_at dksX9_pulls_1 0 rfl rfl)
theorem dX9_pulls_25 : decode cX9_pulls 25 = .ok (.invokestatic 112, 3) := dk_184 0 112 (dk_at dksX9_pulls_1 1 rfl rfl)
theorem dX9_pulls_28 : decode cX9_pulls 28 = .ok (.ireturn, 1) := dk_172 (dk_at dksX9_pulls_1 4 rfl rfl)
abbrev cX9_wrongPull : ByteArray := prog_22_method_31_code
def yX9_wrongPull : MethodName := ⟨RX9, "wrongPull", "(II)I"⟩
def dkwX9_wrongPull_1 : List UInt8 := [180, 0, 9, 27, 184, 0, 55, 154, 0, 8, 16, 253, 167, 0, 4, 29, 172]
abbrev dktX9_wrongPull_1 : List UInt8 := dkwX9_wrongPull_1 ++ []
def dkwX9_wrongPull_0 : List UInt8 := [42, 27, 182, 0, 105, 153, 0, 12, 28, 16, 9, 184, 0, 128, 167, 0, 4, 2, 62, 29, 154, 0, 19, 42]
abbrev dktX9_wrongPull_0 : List UInt8 := dkwX9_wrongPull_0 ++ dktX9_wrongPull_1
theorem dksX9_wrongPull_0 : cX9_wrongPull.data.toList.drop 0 = dktX9_wrongPull_0 := by decide +kernel
theorem dksX9_wrongPull_1 : cX9_wrongPull.data.toList.drop 24 = dktX9_wrongPull_1 := dk_seg dksX9_wrongPull_0 24 rfl rfl
theorem dX9_wrongPull_0 : decode cX9_wrongPull 0 = .ok (.aload_n 0, 1) := dk_42 (dk_at dksX9_wrongPull_0 0 rfl rfl)
theorem dX9_wrongPull_1 : decode cX9_wrongPull 1 = .ok (.iload_n 1, 1) := dk_27 (dk_at dksX9_wrongPull_0 1 rfl rfl)
theorem dX9_wrongPull_2 : decode cX9_wrongPull 2 = .ok (.invokevirtual 105, 3) := dk_182 0 105 (dk_at dksX9_wrongPull_0 2 rfl rfl)
theorem dX9_wrongPull_5 : decode cX9_wrongPull 5 = .ok (.ifCond .eq 12, 3) := dk_153 0 12 (dk_at dksX9_wrongPull_0 5 rfl rfl)
theorem dX9_wrongPull_8 : decode cX9_wrongPull 8 = .ok (.iload_n 2, 1) := dk_28 (dk_at dksX9_wrongPull_0 8 rfl rfl)
theorem dX9_wrongPull_9 : decode cX9_wrongPull 9 = .ok (.bipush 9, 2) := dk_16 9 (dk_at dksX9_wrongPull_0 9 rfl rfl)
theorem dX9_wrongPull_11 : decode cX9_wrongPull 11 = .ok (.invokestatic 128, 3) := dk_184 0 128 (dk_at dksX9_wrongPull_0 11 rfl rfl)
theorem dX9_wrongPull_14 : decode cX9_wrongPull 14 = .ok (.goto 4, 3) := dk_167 0 4 (dk_at dksX9_wrongPull_0 14 rfl rfl)
theorem dX9_wrongPull_17 : decode cX9_wrongPull 17 = .ok (.iconst (-1), 1) := dk_2 (dk_at dksX9_wrongPull_0 17 rfl rfl)
theorem dX9_wrongPull_18 : decode cX9_wrongPull 18 = .ok (.istore_n 3, 1) := dk_62 (dk_at dksX9_wrongPull_0 18 rfl rfl)
theorem dX9_wrongPull_19 : decode cX9_wrongPull 19 = .ok (.iload_n 3, 1) := dk_29 (dk_at dksX9_wrongPull_0 19 rfl rfl)
theorem dX9_wrongPull_20 : decode cX9_wrongPull 20 = .ok (.ifCond .ne 19, 3) := dk_154 0 19 (dk_at dksX9_wrongPull_0 20 rfl rfl)
theorem dX9_wrongPull_23 : decode cX9_wrongPull 23 = .ok (.aload_n 0, 1) := dk_42 (dk_at dksX9_wrongPull_0 23 rfl rfl)
theorem dX9_wrongPull_24 : decode cX9_wrongPull 24 = .ok (.getfield 9, 3) := dk_180 0 9 (dk_at dksX9_wrongPull_1 0 rfl rfl)
theorem dX9_wrongPull_27 : decode cX9_wrongPull 27 = .ok (.iload_n 1, 1) := dk_27 (dk_at dksX9_wrongPull_1 3 rfl rfl)
theorem dX9_wrongPull_28 : decode cX9_wrongPull 28 = .ok (.invokestatic 55, 3) := dk_184 0 55 (dk_at dksX9_wrongPull_1 4 rfl rfl)
theorem dX9_wrongPull_31 : decode cX9_wrongPull 31 = .ok (.ifCond .ne 8, 3) := dk_154 0 8 (dk_at dksX9_wrongPull_1 7 rfl rfl)
theorem dX9_wrongPull_34 : decode cX9_wrongPull 34 = .ok (.bipush (-3), 2) := dk_16 253 (dk_at dksX9_wrongPull_1 10 rfl rfl)
theorem dX9_wrongPull_36 : decode cX9_wrongPull 36 = .ok (.goto 4, 3) := dk_167 0 4 (dk_at dksX9_wrongPull_1 12 rfl rfl)
theorem dX9_wrongPull_39 : decode cX9_wrongPull 39 = .ok (.iload_n 3, 1) := dk_29 (dk_at dksX9_wrongPull_1 15 rfl rfl)
theorem dX9_wrongPull_40 : decode cX9_wrongPull 40 = .ok (.ireturn, 1) := dk_172 (dk_at dksX9_wrongPull_1 16 rfl rfl)
abbrev cX9_wrongBy : ByteArray := prog_22_method_30_code
def yX9_wrongBy : MethodName := ⟨RX9, "wrongBy", "(II)I"⟩
def dkwX9_wrongBy_0 : List UInt8 := [26, 156, 0, 8, 16, 252, 167, 0, 14, 26, 27, 164, 0, 8, 16, 250, 167, 0, 4, 3, 172]
abbrev dktX9_wrongBy_0 : List UInt8 := dkwX9_wrongBy_0 ++ []
theorem dksX9_wrongBy_0 : cX9_wrongBy.data.toList.drop 0 = dktX9_wrongBy_0 := by decide +kernel
theorem dX9_wrongBy_0 : decode cX9_wrongBy 0 = .ok (.iload_n 0, 1) := dk_26 (dk_at dksX9_wrongBy_0 0 rfl rfl)
theorem dX9_wrongBy_1 : decode cX9_wrongBy 1 = .ok (.ifCond .ge 8, 3) := dk_156 0 8 (dk_at dksX9_wrongBy_0 1 rfl rfl)
theorem dX9_wrongBy_4 : decode cX9_wrongBy 4 = .ok (.bipush (-4), 2) := dk_16 252 (dk_at dksX9_wrongBy_0 4 rfl rfl)
theorem dX9_wrongBy_6 : decode cX9_wrongBy 6 = .ok (.goto 14, 3) := dk_167 0 14 (dk_at dksX9_wrongBy_0 6 rfl rfl)
theorem dX9_wrongBy_9 : decode cX9_wrongBy 9 = .ok (.iload_n 0, 1) := dk_26 (dk_at dksX9_wrongBy_0 9 rfl rfl)
theorem dX9_wrongBy_10 : decode cX9_wrongBy 10 = .ok (.iload_n 1, 1) := dk_27 (dk_at dksX9_wrongBy_0 10 rfl rfl)
theorem dX9_wrongBy_11 : decode cX9_wrongBy 11 = .ok (.if_icmp .le 8, 3) := dk_164 0 8 (dk_at dksX9_wrongBy_0 11 rfl rfl)
theorem dX9_wrongBy_14 : decode cX9_wrongBy 14 = .ok (.bipush (-6), 2) := dk_16 250 (dk_at dksX9_wrongBy_0 14 rfl rfl)
theorem dX9_wrongBy_16 : decode cX9_wrongBy 16 = .ok (.goto 4, 3) := dk_167 0 4 (dk_at dksX9_wrongBy_0 16 rfl rfl)
theorem dX9_wrongBy_19 : decode cX9_wrongBy 19 = .ok (.iconst 0, 1) := dk_3 (dk_at dksX9_wrongBy_0 19 rfl rfl)
theorem dX9_wrongBy_20 : decode cX9_wrongBy 20 = .ok (.ireturn, 1) := dk_172 (dk_at dksX9_wrongBy_0 20 rfl rfl)
abbrev cX9_floor : ByteArray := prog_22_method_33_code
def yX9_floor : MethodName := ⟨RX9, "floor", "(I)I"⟩
def dkwX9_floor_1 : List UInt8 := [153, 0, 11, 42, 28, 182, 0, 36, 167, 0, 13, 42, 180, 0, 9, 16, 247, 27, 184, 0, 112, 172]
abbrev dktX9_floor_1 : List UInt8 := dkwX9_floor_1 ++ []
def dkwX9_floor_0 : List UInt8 := [27, 16, 9, 184, 0, 128, 61, 28, 154, 0, 15, 42, 180, 0, 9, 5, 46, 154, 0, 6, 16, 253, 61, 28]
abbrev dktX9_floor_0 : List UInt8 := dkwX9_floor_0 ++ dktX9_floor_1
theorem dksX9_floor_0 : cX9_floor.data.toList.drop 0 = dktX9_floor_0 := by decide +kernel
theorem dksX9_floor_1 : cX9_floor.data.toList.drop 24 = dktX9_floor_1 := dk_seg dksX9_floor_0 24 rfl rfl
theorem dX9_floor_0 : decode cX9_floor 0 = .ok (.iload_n 1, 1) := dk_27 (dk_at dksX9_floor_0 0 rfl rfl)
theorem dX9_floor_1 : decode cX9_floor 1 = .ok (.bipush 9, 2) := dk_16 9 (dk_at dksX9_floor_0 1 rfl rfl)
theorem dX9_floor_3 : decode cX9_floor 3 = .ok (.invokestatic 128, 3) := dk_184 0 128 (dk_at dksX9_floor_0 3 rfl rfl)
theorem dX9_floor_6 : decode cX9_floor 6 = .ok (.istore_n 2, 1) := dk_61 (dk_at dksX9_floor_0 6 rfl rfl)
theorem dX9_floor_7 : decode cX9_floor 7 = .ok (.iload_n 2, 1) := dk_28 (dk_at dksX9_floor_0 7 rfl rfl)
theorem dX9_floor_8 : decode cX9_floor 8 = .ok (.ifCond .ne 15, 3) := dk_154 0 15 (dk_at dksX9_floor_0 8 rfl rfl)
theorem dX9_floor_11 : decode cX9_floor 11 = .ok (.aload_n 0, 1) := dk_42 (dk_at dksX9_floor_0 11 rfl rfl)
theorem dX9_floor_12 : decode cX9_floor 12 = .ok (.getfield 9, 3) := dk_180 0 9 (dk_at dksX9_floor_0 12 rfl rfl)
theorem dX9_floor_15 : decode cX9_floor 15 = .ok (.iconst 2, 1) := dk_5 (dk_at dksX9_floor_0 15 rfl rfl)
theorem dX9_floor_16 : decode cX9_floor 16 = .ok (.iaload, 1) := dk_46 (dk_at dksX9_floor_0 16 rfl rfl)
theorem dX9_floor_17 : decode cX9_floor 17 = .ok (.ifCond .ne 6, 3) := dk_154 0 6 (dk_at dksX9_floor_0 17 rfl rfl)
theorem dX9_floor_20 : decode cX9_floor 20 = .ok (.bipush (-3), 2) := dk_16 253 (dk_at dksX9_floor_0 20 rfl rfl)
theorem dX9_floor_22 : decode cX9_floor 22 = .ok (.istore_n 2, 1) := dk_61 (dk_at dksX9_floor_0 22 rfl rfl)
theorem dX9_floor_23 : decode cX9_floor 23 = .ok (.iload_n 2, 1) := dk_28 (dk_at dksX9_floor_0 23 rfl rfl)
theorem dX9_floor_24 : decode cX9_floor 24 = .ok (.ifCond .eq 11, 3) := dk_153 0 11 (dk_at dksX9_floor_1 0 rfl rfl)
theorem dX9_floor_27 : decode cX9_floor 27 = .ok (.aload_n 0, 1) := dk_42 (dk_at dksX9_floor_1 3 rfl rfl)
theorem dX9_floor_28 : decode cX9_floor 28 = .ok (.iload_n 2, 1) := dk_28 (dk_at dksX9_floor_1 4 rfl rfl)
theorem dX9_floor_29 : decode cX9_floor 29 = .ok (.invokevirtual 36, 3) := dk_182 0 36 (dk_at dksX9_floor_1 5 rfl rfl)
theorem dX9_floor_32 : decode cX9_floor 32 = .ok (.goto 13, 3) := dk_167 0 13 (dk_at dksX9_floor_1 8 rfl rfl)
theorem dX9_floor_35 : decode cX9_floor 35 = .ok (.aload_n 0, 1) := dk_42 (dk_at dksX9_floor_1 11 rfl rfl)
theorem dX9_floor_36 : decode cX9_floor 36 = .ok (.getfield 9, 3) := dk_180 0 9 (dk_at dksX9_floor_1 12 rfl rfl)
theorem dX9_floor_39 : decode cX9_floor 39 = .ok (.bipush (-9), 2) := dk_16 247 (dk_at dksX9_floor_1 15 rfl rfl)
theorem dX9_floor_41 : decode cX9_floor 41 = .ok (.iload_n 1, 1) := dk_27 (dk_at dksX9_floor_1 17 rfl rfl)
theorem dX9_floor_42 : decode cX9_floor 42 = .ok (.invokestatic 112, 3) := dk_184 0 112 (dk_at dksX9_floor_1 18 rfl rfl)
theorem dX9_floor_45 : decode cX9_floor 45 = .ok (.ireturn, 1) := dk_172 (dk_at dksX9_floor_1 21 rfl rfl)
abbrev cX9_lays : ByteArray := prog_22_method_34_code
def yX9_lays : MethodName := ⟨RX9, "lays", "()I"⟩
def dkwX9_lays_3 : List UInt8 := [132, 2, 1, 167, 255, 211, 27, 172]
abbrev dktX9_lays_3 : List UInt8 := dkwX9_lays_3 ++ []
def dkwX9_lays_2 : List UInt8 := [153, 0, 20, 42, 180, 0, 9, 28, 5, 184, 0, 44, 46, 156, 0, 7, 4, 167, 0, 4, 3, 96, 60]
abbrev dktX9_lays_2 : List UInt8 := dkwX9_lays_2 ++ dktX9_lays_3
def dkwX9_lays_1 : List UInt8 := [3, 60, 3, 61, 28, 42, 180, 0, 9, 3, 46, 162, 0, 41, 27, 42, 180, 0, 9, 28, 184, 0, 55]
abbrev dktX9_lays_1 : List UInt8 := dkwX9_lays_1 ++ dktX9_lays_2
def dkwX9_lays_0 : List UInt8 := [42, 180, 0, 9, 5, 46, 4, 160, 0, 10, 42, 16, 253, 182, 0, 36, 172, 42, 180, 0, 9, 5, 4, 79]
abbrev dktX9_lays_0 : List UInt8 := dkwX9_lays_0 ++ dktX9_lays_1
theorem dksX9_lays_0 : cX9_lays.data.toList.drop 0 = dktX9_lays_0 := by decide +kernel
theorem dksX9_lays_1 : cX9_lays.data.toList.drop 24 = dktX9_lays_1 := dk_seg dksX9_lays_0 24 rfl rfl
theorem dksX9_lays_2 : cX9_lays.data.toList.drop 47 = dktX9_lays_2 := dk_seg dksX9_lays_1 23 rfl rfl
theorem dksX9_lays_3 : cX9_lays.data.toList.drop 70 = dktX9_lays_3 := dk_seg dksX9_lays_2 23 rfl rfl
theorem dX9_lays_0 : decode cX9_lays 0 = .ok (.aload_n 0, 1) := dk_42 (dk_at dksX9_lays_0 0 rfl rfl)
theorem dX9_lays_1 : decode cX9_lays 1 = .ok (.getfield 9, 3) := dk_180 0 9 (dk_at dksX9_lays_0 1 rfl rfl)
theorem dX9_lays_4 : decode cX9_lays 4 = .ok (.iconst 2, 1) := dk_5 (dk_at dksX9_lays_0 4 rfl rfl)
theorem dX9_lays_5 : decode cX9_lays 5 = .ok (.iaload, 1) := dk_46 (dk_at dksX9_lays_0 5 rfl rfl)
theorem dX9_lays_6 : decode cX9_lays 6 = .ok (.iconst 1, 1) := dk_4 (dk_at dksX9_lays_0 6 rfl rfl)
theorem dX9_lays_7 : decode cX9_lays 7 = .ok (.if_icmp .ne 10, 3) := dk_160 0 10 (dk_at dksX9_lays_0 7 rfl rfl)
theorem dX9_lays_10 : decode cX9_lays 10 = .ok (.aload_n 0, 1) := dk_42 (dk_at dksX9_lays_0 10 rfl rfl)
theorem dX9_lays_11 : decode cX9_lays 11 = .ok (.bipush (-3), 2) := dk_16 253 (dk_at dksX9_lays_0 11 rfl rfl)
theorem dX9_lays_13 : decode cX9_lays 13 = .ok (.invokevirtual 36, 3) := dk_182 0 36 (dk_at dksX9_lays_0 13 rfl rfl)
theorem dX9_lays_16 : decode cX9_lays 16 = .ok (.ireturn, 1) := dk_172 (dk_at dksX9_lays_0 16 rfl rfl)
theorem dX9_lays_17 : decode cX9_lays 17 = .ok (.aload_n 0, 1) := dk_42 (dk_at dksX9_lays_0 17 rfl rfl)
theorem dX9_lays_18 : decode cX9_lays 18 = .ok (.getfield 9, 3) := dk_180 0 9 (dk_at dksX9_lays_0 18 rfl rfl)
theorem dX9_lays_21 : decode cX9_lays 21 = .ok (.iconst 2, 1) := dk_5 (dk_at dksX9_lays_0 21 rfl rfl)
theorem dX9_lays_22 : decode cX9_lays 22 = .ok (.iconst 1, 1) := dk_4 (dk_at dksX9_lays_0 22 rfl rfl)
theorem dX9_lays_23 : decode cX9_lays 23 = .ok (.iastore, 1) := dk_79 (dk_at dksX9_lays_0 23 rfl rfl)
theorem dX9_lays_24 : decode cX9_lays 24 = .ok (.iconst 0, 1) := dk_3 (dk_at dksX9_lays_1 0 rfl rfl)
theorem dX9_lays_25 : decode cX9_lays 25 = .ok (.istore_n 1, 1) := dk_60 (dk_at dksX9_lays_1 1 rfl rfl)
theorem dX9_lays_26 : decode cX9_lays 26 = .ok (.iconst 0, 1) := dk_3 (dk_at dksX9_lays_1 2 rfl rfl)
theorem dX9_lays_27 : decode cX9_lays 27 = .ok (.istore_n 2, 1) := dk_61 (dk_at dksX9_lays_1 3 rfl rfl)
theorem dX9_lays_28 : decode cX9_lays 28 = .ok (.iload_n 2, 1) := dk_28 (dk_at dksX9_lays_1 4 rfl rfl)
theorem dX9_lays_29 : decode cX9_lays 29 = .ok (.aload_n 0, 1) := dk_42 (dk_at dksX9_lays_1 5 rfl rfl)
theorem dX9_lays_30 : decode cX9_lays 30 = .ok (.getfield 9, 3) := dk_180 0 9 (dk_at dksX9_lays_1 6 rfl rfl)
theorem dX9_lays_33 : decode cX9_lays 33 = .ok (.iconst 0, 1) := dk_3 (dk_at dksX9_lays_1 9 rfl rfl)
theorem dX9_lays_34 : decode cX9_lays 34 = .ok (.iaload, 1) := dk_46 (dk_at dksX9_lays_1 10 rfl rfl)
theorem dX9_lays_35 : decode cX9_lays 35 = .ok (.if_icmp .ge 41, 3) := dk_162 0 41 (dk_at dksX9_lays_1 11 rfl rfl)
theorem dX9_lays_38 : decode cX9_lays 38 = .ok (.iload_n 1, 1) := dk_27 (dk_at dksX9_lays_1 14 rfl rfl)
theorem dX9_lays_39 : decode cX9_lays 39 = .ok (.aload_n 0, 1) := dk_42 (dk_at dksX9_lays_1 15 rfl rfl)
theorem dX9_lays_40 : decode cX9_lays 40 = .ok (.getfield 9, 3) := dk_180 0 9 (dk_at dksX9_lays_1 16 rfl rfl)
theorem dX9_lays_43 : decode cX9_lays 43 = .ok (.iload_n 2, 1) := dk_28 (dk_at dksX9_lays_1 19 rfl rfl)
theorem dX9_lays_44 : decode cX9_lays 44 = .ok (.invokestatic 55, 3) := dk_184 0 55 (dk_at dksX9_lays_1 20 rfl rfl)
theorem dX9_lays_47 : decode cX9_lays 47 = .ok (.ifCond .eq 20, 3) := dk_153 0 20 (dk_at dksX9_lays_2 0 rfl rfl)
theorem dX9_lays_50 : decode cX9_lays 50 = .ok (.aload_n 0, 1) := dk_42 (dk_at dksX9_lays_2 3 rfl rfl)
theorem dX9_lays_51 : decode cX9_lays 51 = .ok (.getfield 9, 3) := dk_180 0 9 (dk_at dksX9_lays_2 4 rfl rfl)
theorem dX9_lays_54 : decode cX9_lays 54 = .ok (.iload_n 2, 1) := dk_28 (dk_at dksX9_lays_2 7 rfl rfl)
theorem dX9_lays_55 : decode cX9_lays 55 = .ok (.iconst 2, 1) := dk_5 (dk_at dksX9_lays_2 8 rfl rfl)
theorem dX9_lays_56 : decode cX9_lays 56 = .ok (.invokestatic 44, 3) := dk_184 0 44 (dk_at dksX9_lays_2 9 rfl rfl)
theorem dX9_lays_59 : decode cX9_lays 59 = .ok (.iaload, 1) := dk_46 (dk_at dksX9_lays_2 12 rfl rfl)
theorem dX9_lays_60 : decode cX9_lays 60 = .ok (.ifCond .ge 7, 3) := dk_156 0 7 (dk_at dksX9_lays_2 13 rfl rfl)
theorem dX9_lays_63 : decode cX9_lays 63 = .ok (.iconst 1, 1) := dk_4 (dk_at dksX9_lays_2 16 rfl rfl)
theorem dX9_lays_64 : decode cX9_lays 64 = .ok (.goto 4, 3) := dk_167 0 4 (dk_at dksX9_lays_2 17 rfl rfl)
theorem dX9_lays_67 : decode cX9_lays 67 = .ok (.iconst 0, 1) := dk_3 (dk_at dksX9_lays_2 20 rfl rfl)
theorem dX9_lays_68 : decode cX9_lays 68 = .ok (.iadd, 1) := dk_96 (dk_at dksX9_lays_2 21 rfl rfl)
theorem dX9_lays_69 : decode cX9_lays 69 = .ok (.istore_n 1, 1) := dk_60 (dk_at dksX9_lays_2 22 rfl rfl)
theorem dX9_lays_70 : decode cX9_lays 70 = .ok (.iinc 2 1, 3) := dk_132 2 1 (dk_at dksX9_lays_3 0 rfl rfl)
theorem dX9_lays_73 : decode cX9_lays 73 = .ok (.goto (-45), 3) := dk_167 255 211 (dk_at dksX9_lays_3 3 rfl rfl)
theorem dX9_lays_76 : decode cX9_lays 76 = .ok (.iload_n 1, 1) := dk_27 (dk_at dksX9_lays_3 6 rfl rfl)
theorem dX9_lays_77 : decode cX9_lays 77 = .ok (.ireturn, 1) := dk_172 (dk_at dksX9_lays_3 7 rfl rfl)
abbrev cX9_setsUp : ByteArray := prog_22_method_35_code
def yX9_setsUp : MethodName := ⟨RX9, "setsUp", "(I)I"⟩
def dkwX9_setsUp_3 : List UInt8 := [167, 0, 4, 3, 172]
abbrev dktX9_setsUp_3 : List UInt8 := dkwX9_setsUp_3 ++ []
def dkwX9_setsUp_2 : List UInt8 := [180, 0, 9, 27, 7, 184, 0, 44, 3, 79, 42, 180, 0, 9, 27, 184, 0, 70, 153, 0, 7, 4]
abbrev dktX9_setsUp_2 : List UInt8 := dkwX9_setsUp_2 ++ dktX9_setsUp_3
def dkwX9_setsUp_1 : List UInt8 := [4, 159, 0, 10, 42, 16, 253, 182, 0, 36, 172, 42, 180, 0, 9, 27, 6, 184, 0, 44, 3, 79, 42]
abbrev dktX9_setsUp_1 : List UInt8 := dkwX9_setsUp_1 ++ dktX9_setsUp_2
def dkwX9_setsUp_0 : List UInt8 := [42, 27, 182, 0, 105, 154, 0, 9, 42, 2, 182, 0, 36, 172, 42, 180, 0, 9, 27, 6, 184, 0, 44, 46]
abbrev dktX9_setsUp_0 : List UInt8 := dkwX9_setsUp_0 ++ dktX9_setsUp_1
theorem dksX9_setsUp_0 : cX9_setsUp.data.toList.drop 0 = dktX9_setsUp_0 := by decide +kernel
theorem dksX9_setsUp_1 : cX9_setsUp.data.toList.drop 24 = dktX9_setsUp_1 := dk_seg dksX9_setsUp_0 24 rfl rfl
theorem dksX9_setsUp_2 : cX9_setsUp.data.toList.drop 47 = dktX9_setsUp_2 := dk_seg dksX9_setsUp_1 23 rfl rfl
theorem dksX9_setsUp_3 : cX9_setsUp.data.toList.drop 69 = dktX9_setsUp_3 := dk_seg dksX9_setsUp_2 22 rfl rfl
theorem dX9_setsUp_0 : decode cX9_setsUp 0 = .ok (.aload_n 0, 1) := dk_42 (dk_at dksX9_setsUp_0 0 rfl rfl)
theorem dX9_setsUp_1 : decode cX9_setsUp 1 = .ok (.iload_n 1, 1) := dk_27 (dk_at dksX9_setsUp_0 1 rfl rfl)
theorem dX9_setsUp_2 : decode cX9_setsUp 2 = .ok (.invokevirtual 105, 3) := dk_182 0 105 (dk_at dksX9_setsUp_0 2 rfl rfl)
theorem dX9_setsUp_5 : decode cX9_setsUp 5 = .ok (.ifCond .ne 9, 3) := dk_154 0 9 (dk_at dksX9_setsUp_0 5 rfl rfl)
theorem dX9_setsUp_8 : decode cX9_setsUp 8 = .ok (.aload_n 0, 1) := dk_42 (dk_at dksX9_setsUp_0 8 rfl rfl)
theorem dX9_setsUp_9 : decode cX9_setsUp 9 = .ok (.iconst (-1), 1) := dk_2 (dk_at dksX9_setsUp_0 9 rfl rfl)
theorem dX9_setsUp_10 : decode cX9_setsUp 10 = .ok (.invokevirtual 36, 3) := dk_182 0 36 (dk_at dksX9_setsUp_0 10 rfl rfl)
theorem dX9_setsUp_13 : decode cX9_setsUp 13 = .ok (.ireturn, 1) := dk_172 (dk_at dksX9_setsUp_0 13 rfl rfl)
theorem dX9_setsUp_14 : decode cX9_setsUp 14 = .ok (.aload_n 0, 1) := dk_42 (dk_at dksX9_setsUp_0 14 rfl rfl)
theorem dX9_setsUp_15 : decode cX9_setsUp 15 = .ok (.getfield 9, 3) := dk_180 0 9 (dk_at dksX9_setsUp_0 15 rfl rfl)
theorem dX9_setsUp_18 : decode cX9_setsUp 18 = .ok (.iload_n 1, 1) := dk_27 (dk_at dksX9_setsUp_0 18 rfl rfl)
theorem dX9_setsUp_19 : decode cX9_setsUp 19 = .ok (.iconst 3, 1) := dk_6 (dk_at dksX9_setsUp_0 19 rfl rfl)
theorem dX9_setsUp_20 : decode cX9_setsUp 20 = .ok (.invokestatic 44, 3) := dk_184 0 44 (dk_at dksX9_setsUp_0 20 rfl rfl)
theorem dX9_setsUp_23 : decode cX9_setsUp 23 = .ok (.iaload, 1) := dk_46 (dk_at dksX9_setsUp_0 23 rfl rfl)
theorem dX9_setsUp_24 : decode cX9_setsUp 24 = .ok (.iconst 1, 1) := dk_4 (dk_at dksX9_setsUp_1 0 rfl rfl)
theorem dX9_setsUp_25 : decode cX9_setsUp 25 = .ok (.if_icmp .eq 10, 3) := dk_159 0 10 (dk_at dksX9_setsUp_1 1 rfl rfl)
theorem dX9_setsUp_28 : decode cX9_setsUp 28 = .ok (.aload_n 0, 1) := dk_42 (dk_at dksX9_setsUp_1 4 rfl rfl)
theorem dX9_setsUp_29 : decode cX9_setsUp 29 = .ok (.bipush (-3), 2) := dk_16 253 (dk_at dksX9_setsUp_1 5 rfl rfl)
theorem dX9_setsUp_31 : decode cX9_setsUp 31 = .ok (.invokevirtual 36, 3) := dk_182 0 36 (dk_at dksX9_setsUp_1 7 rfl rfl)
theorem dX9_setsUp_34 : decode cX9_setsUp 34 = .ok (.ireturn, 1) := dk_172 (dk_at dksX9_setsUp_1 10 rfl rfl)
theorem dX9_setsUp_35 : decode cX9_setsUp 35 = .ok (.aload_n 0, 1) := dk_42 (dk_at dksX9_setsUp_1 11 rfl rfl)
theorem dX9_setsUp_36 : decode cX9_setsUp 36 = .ok (.getfield 9, 3) := dk_180 0 9 (dk_at dksX9_setsUp_1 12 rfl rfl)
theorem dX9_setsUp_39 : decode cX9_setsUp 39 = .ok (.iload_n 1, 1) := dk_27 (dk_at dksX9_setsUp_1 15 rfl rfl)
theorem dX9_setsUp_40 : decode cX9_setsUp 40 = .ok (.iconst 3, 1) := dk_6 (dk_at dksX9_setsUp_1 16 rfl rfl)
theorem dX9_setsUp_41 : decode cX9_setsUp 41 = .ok (.invokestatic 44, 3) := dk_184 0 44 (dk_at dksX9_setsUp_1 17 rfl rfl)
theorem dX9_setsUp_44 : decode cX9_setsUp 44 = .ok (.iconst 0, 1) := dk_3 (dk_at dksX9_setsUp_1 20 rfl rfl)
theorem dX9_setsUp_45 : decode cX9_setsUp 45 = .ok (.iastore, 1) := dk_79 (dk_at dksX9_setsUp_1 21 rfl rfl)
theorem dX9_setsUp_46 : decode cX9_setsUp 46 = .ok (.aload_n 0, 1) := dk_42 (dk_at dksX9_setsUp_1 22 rfl rfl)
theorem dX9_setsUp_47 : decode cX9_setsUp 47 = .ok (.getfield 9, 3) := dk_180 0 9 (dk_at dksX9_setsUp_2 0 rfl rfl)
theorem dX9_setsUp_50 : decode cX9_setsUp 50 = .ok (.iload_n 1, 1) := dk_27 (dk_at dksX9_setsUp_2 3 rfl rfl)
theorem dX9_setsUp_51 : decode cX9_setsUp 51 = .ok (.iconst 4, 1) := dk_7 (dk_at dksX9_setsUp_2 4 rfl rfl)
theorem dX9_setsUp_52 : decode cX9_setsUp 52 = .ok (.invokestatic 44, 3) := dk_184 0 44 (dk_at dksX9_setsUp_2 5 rfl rfl)
theorem dX9_setsUp_55 : decode cX9_setsUp 55 = .ok (.iconst 0, 1) := dk_3 (dk_at dksX9_setsUp_2 8 rfl rfl)
theorem dX9_setsUp_56 : decode cX9_setsUp 56 = .ok (.iastore, 1) := dk_79 (dk_at dksX9_setsUp_2 9 rfl rfl)
theorem dX9_setsUp_57 : decode cX9_setsUp 57 = .ok (.aload_n 0, 1) := dk_42 (dk_at dksX9_setsUp_2 10 rfl rfl)
theorem dX9_setsUp_58 : decode cX9_setsUp 58 = .ok (.getfield 9, 3) := dk_180 0 9 (dk_at dksX9_setsUp_2 11 rfl rfl)
theorem dX9_setsUp_61 : decode cX9_setsUp 61 = .ok (.iload_n 1, 1) := dk_27 (dk_at dksX9_setsUp_2 14 rfl rfl)
theorem dX9_setsUp_62 : decode cX9_setsUp 62 = .ok (.invokestatic 70, 3) := dk_184 0 70 (dk_at dksX9_setsUp_2 15 rfl rfl)
theorem dX9_setsUp_65 : decode cX9_setsUp 65 = .ok (.ifCond .eq 7, 3) := dk_153 0 7 (dk_at dksX9_setsUp_2 18 rfl rfl)
theorem dX9_setsUp_68 : decode cX9_setsUp 68 = .ok (.iconst 1, 1) := dk_4 (dk_at dksX9_setsUp_2 21 rfl rfl)
theorem dX9_setsUp_69 : decode cX9_setsUp 69 = .ok (.goto 4, 3) := dk_167 0 4 (dk_at dksX9_setsUp_3 0 rfl rfl)
theorem dX9_setsUp_72 : decode cX9_setsUp 72 = .ok (.iconst 0, 1) := dk_3 (dk_at dksX9_setsUp_3 3 rfl rfl)
theorem dX9_setsUp_73 : decode cX9_setsUp 73 = .ok (.ireturn, 1) := dk_172 (dk_at dksX9_setsUp_3 4 rfl rfl)
abbrev cX9_turn : ByteArray := prog_22_method_36_code
def yX9_turn : MethodName := ⟨RX9, "turn", "(III)I"⟩
def dkwX9_turn_4 : List UInt8 := [21, 5, 172]
abbrev dktX9_turn_4 : List UInt8 := dkwX9_turn_4 ++ []
def dkwX9_turn_3 : List UInt8 := [54, 5, 42, 180, 0, 9, 27, 3, 184, 0, 44, 28, 79, 42, 180, 0, 9, 27, 4, 184, 0, 44, 29, 79]
abbrev dktX9_turn_3 : List UInt8 := dkwX9_turn_3 ++ dktX9_turn_4
def dkwX9_turn_2 : List UInt8 := [16, 10, 42, 180, 0, 9, 27, 3, 184, 0, 44, 46, 104, 42, 180, 0, 9, 27, 4, 184, 0, 44, 46, 96]
abbrev dktX9_turn_2 : List UInt8 := dkwX9_turn_2 ++ dktX9_turn_3
def dkwX9_turn_1 : List UInt8 := [167, 0, 9, 29, 16, 9, 184, 0, 128, 54, 4, 21, 4, 153, 0, 10, 42, 21, 4, 182, 0, 36, 172]
abbrev dktX9_turn_1 : List UInt8 := dkwX9_turn_1 ++ dktX9_turn_2
def dkwX9_turn_0 : List UInt8 := [42, 27, 182, 0, 105, 154, 0, 7, 2, 167, 0, 23, 28, 3, 8, 184, 0, 40, 154, 0, 8, 16, 254]
abbrev dktX9_turn_0 : List UInt8 := dkwX9_turn_0 ++ dktX9_turn_1
theorem dksX9_turn_0 : cX9_turn.data.toList.drop 0 = dktX9_turn_0 := by decide +kernel
theorem dksX9_turn_1 : cX9_turn.data.toList.drop 23 = dktX9_turn_1 := dk_seg dksX9_turn_0 23 rfl rfl
theorem dksX9_turn_2 : cX9_turn.data.toList.drop 46 = dktX9_turn_2 := dk_seg dksX9_turn_1 23 rfl rfl
theorem dksX9_turn_3 : cX9_turn.data.toList.drop 70 = dktX9_turn_3 := dk_seg dksX9_turn_2 24 rfl rfl
theorem dksX9_turn_4 : cX9_turn.data.toList.drop 94 = dktX9_turn_4 := dk_seg dksX9_turn_3 24 rfl rfl
theorem dX9_turn_0 : decode cX9_turn 0 = .ok (.aload_n 0, 1) := dk_42 (dk_at dksX9_turn_0 0 rfl rfl)
theorem dX9_turn_1 : decode cX9_turn 1 = .ok (.iload_n 1, 1) := dk_27 (dk_at dksX9_turn_0 1 rfl rfl)
theorem dX9_turn_2 : decode cX9_turn 2 = .ok (.invokevirtual 105, 3) := dk_182 0 105 (dk_at dksX9_turn_0 2 rfl rfl)
theorem dX9_turn_5 : decode cX9_turn 5 = .ok (.ifCond .ne 7, 3) := dk_154 0 7 (dk_at dksX9_turn_0 5 rfl rfl)
theorem dX9_turn_8 : decode cX9_turn 8 = .ok (.iconst (-1), 1) := dk_2 (dk_at dksX9_turn_0 8 rfl rfl)
theorem dX9_turn_9 : decode cX9_turn 9 = .ok (.goto 23, 3) := dk_167 0 23 (dk_at dksX9_turn_0 9 rfl rfl)
theorem dX9_turn_12 : decode cX9_turn 12 = .ok (.iload_n 2, 1) := dk_28 (dk_at dksX9_turn_0 12 rfl rfl)
theorem dX9_turn_13 : decode cX9_turn 13 = .ok (.iconst 0, 1) := dk_3 (dk_at dksX9_turn_0 13 rfl rfl)
theorem dX9_turn_14 : decode cX9_turn 14 = .ok (.iconst 5, 1) := dk_8 (dk_at dksX9_turn_0 14 rfl rfl)
theorem dX9_turn_15 : decode cX9_turn 15 = .ok (.invokestatic 40, 3) := dk_184 0 40 (dk_at dksX9_turn_0 15 rfl rfl)
theorem dX9_turn_18 : decode cX9_turn 18 = .ok (.ifCond .ne 8, 3) := dk_154 0 8 (dk_at dksX9_turn_0 18 rfl rfl)
theorem dX9_turn_21 : decode cX9_turn 21 = .ok (.bipush (-2), 2) := dk_16 254 (dk_at dksX9_turn_0 21 rfl rfl)
theorem dX9_turn_23 : decode cX9_turn 23 = .ok (.goto 9, 3) := dk_167 0 9 (dk_at dksX9_turn_1 0 rfl rfl)
theorem dX9_turn_26 : decode cX9_turn 26 = .ok (.iload_n 3, 1) := dk_29 (dk_at dksX9_turn_1 3 rfl rfl)
theorem dX9_turn_27 : decode cX9_turn 27 = .ok (.bipush 9, 2) := dk_16 9 (dk_at dksX9_turn_1 4 rfl rfl)
theorem dX9_turn_29 : decode cX9_turn 29 = .ok (.invokestatic 128, 3) := dk_184 0 128 (dk_at dksX9_turn_1 6 rfl rfl)
theorem dX9_turn_32 : decode cX9_turn 32 = .ok (.istore 4, 2) := dk_54 4 (dk_at dksX9_turn_1 9 rfl rfl)
theorem dX9_turn_34 : decode cX9_turn 34 = .ok (.iload 4, 2) := dk_21 4 (dk_at dksX9_turn_1 11 rfl rfl)
theorem dX9_turn_36 : decode cX9_turn 36 = .ok (.ifCond .eq 10, 3) := dk_153 0 10 (dk_at dksX9_turn_1 13 rfl rfl)
theorem dX9_turn_39 : decode cX9_turn 39 = .ok (.aload_n 0, 1) := dk_42 (dk_at dksX9_turn_1 16 rfl rfl)
theorem dX9_turn_40 : decode cX9_turn 40 = .ok (.iload 4, 2) := dk_21 4 (dk_at dksX9_turn_1 17 rfl rfl)
theorem dX9_turn_42 : decode cX9_turn 42 = .ok (.invokevirtual 36, 3) := dk_182 0 36 (dk_at dksX9_turn_1 19 rfl rfl)
theorem dX9_turn_45 : decode cX9_turn 45 = .ok (.ireturn, 1) := dk_172 (dk_at dksX9_turn_1 22 rfl rfl)
theorem dX9_turn_46 : decode cX9_turn 46 = .ok (.bipush 10, 2) := dk_16 10 (dk_at dksX9_turn_2 0 rfl rfl)
theorem dX9_turn_48 : decode cX9_turn 48 = .ok (.aload_n 0, 1) := dk_42 (dk_at dksX9_turn_2 2 rfl rfl)
theorem dX9_turn_49 : decode cX9_turn 49 = .ok (.getfield 9, 3) := dk_180 0 9 (dk_at dksX9_turn_2 3 rfl rfl)
theorem dX9_turn_52 : decode cX9_turn 52 = .ok (.iload_n 1, 1) := dk_27 (dk_at dksX9_turn_2 6 rfl rfl)
theorem dX9_turn_53 : decode cX9_turn 53 = .ok (.iconst 0, 1) := dk_3 (dk_at dksX9_turn_2 7 rfl rfl)
theorem dX9_turn_54 : decode cX9_turn 54 = .ok (.invokestatic 44, 3) := dk_184 0 44 (dk_at dksX9_turn_2 8 rfl rfl)
theorem dX9_turn_57 : decode cX9_turn 57 = .ok (.iaload, 1) := dk_46 (dk_at dksX9_turn_2 11 rfl rfl)
theorem dX9_turn_58 : decode cX9_turn 58 = .ok (.imul, 1) := dk_104 (dk_at dksX9_turn_2 12 rfl rfl)
theorem dX9_turn_59 : decode cX9_turn 59 = .ok (.aload_n 0, 1) := dk_42 (dk_at dksX9_turn_2 13 rfl rfl)
theorem dX9_turn_60 : decode cX9_turn 60 = .ok (.getfield 9, 3) := dk_180 0 9 (dk_at dksX9_turn_2 14 rfl rfl)
theorem dX9_turn_63 : decode cX9_turn 63 = .ok (.iload_n 1, 1) := dk_27 (dk_at dksX9_turn_2 17 rfl rfl)
theorem dX9_turn_64 : decode cX9_turn 64 = .ok (.iconst 1, 1) := dk_4 (dk_at dksX9_turn_2 18 rfl rfl)
theorem dX9_turn_65 : decode cX9_turn 65 = .ok (.invokestatic 44, 3) := dk_184 0 44 (dk_at dksX9_turn_2 19 rfl rfl)
theorem dX9_turn_68 : decode cX9_turn 68 = .ok (.iaload, 1) := dk_46 (dk_at dksX9_turn_2 22 rfl rfl)
theorem dX9_turn_69 : decode cX9_turn 69 = .ok (.iadd, 1) := dk_96 (dk_at dksX9_turn_2 23 rfl rfl)
theorem dX9_turn_70 : decode cX9_turn 70 = .ok (.istore 5, 2) := dk_54 5 (dk_at dksX9_turn_3 0 rfl rfl)
theorem dX9_turn_72 : decode cX9_turn 72 = .ok (.aload_n 0, 1) := dk_42 (dk_at dksX9_turn_3 2 rfl rfl)
theorem dX9_turn_73 : decode cX9_turn 73 = .ok (.getfield 9, 3) := dk_180 0 9 (dk_at dksX9_turn_3 3 rfl rfl)
theorem dX9_turn_76 : decode cX9_turn 76 = .ok (.iload_n 1, 1) := dk_27 (dk_at dksX9_turn_3 6 rfl rfl)
theorem dX9_turn_77 : decode cX9_turn 77 = .ok (.iconst 0, 1) := dk_3 (dk_at dksX9_turn_3 7 rfl rfl)
theorem dX9_turn_78 : decode cX9_turn 78 = .ok (.invokestatic 44, 3) := dk_184 0 44 (dk_at dksX9_turn_3 8 rfl rfl)
theorem dX9_turn_81 : decode cX9_turn 81 = .ok (.iload_n 2, 1) := dk_28 (dk_at dksX9_turn_3 11 rfl rfl)
theorem dX9_turn_82 : decode cX9_turn 82 = .ok (.iastore, 1) := dk_79 (dk_at dksX9_turn_3 12 rfl rfl)
theorem dX9_turn_83 : decode cX9_turn 83 = .ok (.aload_n 0, 1) := dk_42 (dk_at dksX9_turn_3 13 rfl rfl)
theorem dX9_turn_84 : decode cX9_turn 84 = .ok (.getfield 9, 3) := dk_180 0 9 (dk_at dksX9_turn_3 14 rfl rfl)
theorem dX9_turn_87 : decode cX9_turn 87 = .ok (.iload_n 1, 1) := dk_27 (dk_at dksX9_turn_3 17 rfl rfl)
theorem dX9_turn_88 : decode cX9_turn 88 = .ok (.iconst 1, 1) := dk_4 (dk_at dksX9_turn_3 18 rfl rfl)
theorem dX9_turn_89 : decode cX9_turn 89 = .ok (.invokestatic 44, 3) := dk_184 0 44 (dk_at dksX9_turn_3 19 rfl rfl)
theorem dX9_turn_92 : decode cX9_turn 92 = .ok (.iload_n 3, 1) := dk_29 (dk_at dksX9_turn_3 22 rfl rfl)
theorem dX9_turn_93 : decode cX9_turn 93 = .ok (.iastore, 1) := dk_79 (dk_at dksX9_turn_3 23 rfl rfl)
theorem dX9_turn_94 : decode cX9_turn 94 = .ok (.iload 5, 2) := dk_21 5 (dk_at dksX9_turn_4 0 rfl rfl)
theorem dX9_turn_96 : decode cX9_turn 96 = .ok (.ireturn, 1) := dk_172 (dk_at dksX9_turn_4 2 rfl rfl)
abbrev cX9_minutes : ByteArray := prog_22_method_37_code
def yX9_minutes : MethodName := ⟨RX9, "minutes", "(I)I"⟩
def dkwX9_minutes_2 : List UInt8 := [180, 0, 9, 3, 184, 0, 73, 184, 0, 67, 172]
abbrev dktX9_minutes_2 : List UInt8 := dkwX9_minutes_2 ++ []
def dkwX9_minutes_1 : List UInt8 := [27, 96, 17, 3, 231, 164, 0, 10, 42, 16, 250, 182, 0, 36, 172, 42, 180, 0, 9, 27, 184, 0, 115, 42]
abbrev dktX9_minutes_1 : List UInt8 := dkwX9_minutes_1 ++ dktX9_minutes_2
def dkwX9_minutes_0 : List UInt8 := [27, 4, 162, 0, 10, 42, 16, 252, 182, 0, 36, 172, 27, 16, 60, 163, 0, 17, 42, 180, 0, 9, 4, 46]
abbrev dktX9_minutes_0 : List UInt8 := dkwX9_minutes_0 ++ dktX9_minutes_1
theorem dksX9_minutes_0 : cX9_minutes.data.toList.drop 0 = dktX9_minutes_0 := by decide +kernel
theorem dksX9_minutes_1 : cX9_minutes.data.toList.drop 24 = dktX9_minutes_1 := dk_seg dksX9_minutes_0 24 rfl rfl
theorem dksX9_minutes_2 : cX9_minutes.data.toList.drop 48 = dktX9_minutes_2 := dk_seg dksX9_minutes_1 24 rfl rfl
theorem dX9_minutes_0 : decode cX9_minutes 0 = .ok (.iload_n 1, 1) := dk_27 (dk_at dksX9_minutes_0 0 rfl rfl)
theorem dX9_minutes_1 : decode cX9_minutes 1 = .ok (.iconst 1, 1) := dk_4 (dk_at dksX9_minutes_0 1 rfl rfl)
theorem dX9_minutes_2 : decode cX9_minutes 2 = .ok (.if_icmp .ge 10, 3) := dk_162 0 10 (dk_at dksX9_minutes_0 2 rfl rfl)
theorem dX9_minutes_5 : decode cX9_minutes 5 = .ok (.aload_n 0, 1) := dk_42 (dk_at dksX9_minutes_0 5 rfl rfl)
theorem dX9_minutes_6 : decode cX9_minutes 6 = .ok (.bipush (-4), 2) := dk_16 252 (dk_at dksX9_minutes_0 6 rfl rfl)
theorem dX9_minutes_8 : decode cX9_minutes 8 = .ok (.invokevirtual 36, 3) := dk_182 0 36 (dk_at dksX9_minutes_0 8 rfl rfl)
theorem dX9_minutes_11 : decode cX9_minutes 11 = .ok (.ireturn, 1) := dk_172 (dk_at dksX9_minutes_0 11 rfl rfl)
theorem dX9_minutes_12 : decode cX9_minutes 12 = .ok (.iload_n 1, 1) := dk_27 (dk_at dksX9_minutes_0 12 rfl rfl)
theorem dX9_minutes_13 : decode cX9_minutes 13 = .ok (.bipush 60, 2) := dk_16 60 (dk_at dksX9_minutes_0 13 rfl rfl)
theorem dX9_minutes_15 : decode cX9_minutes 15 = .ok (.if_icmp .gt 17, 3) := dk_163 0 17 (dk_at dksX9_minutes_0 15 rfl rfl)
theorem dX9_minutes_18 : decode cX9_minutes 18 = .ok (.aload_n 0, 1) := dk_42 (dk_at dksX9_minutes_0 18 rfl rfl)
theorem dX9_minutes_19 : decode cX9_minutes 19 = .ok (.getfield 9, 3) := dk_180 0 9 (dk_at dksX9_minutes_0 19 rfl rfl)
theorem dX9_minutes_22 : decode cX9_minutes 22 = .ok (.iconst 1, 1) := dk_4 (dk_at dksX9_minutes_0 22 rfl rfl)
theorem dX9_minutes_23 : decode cX9_minutes 23 = .ok (.iaload, 1) := dk_46 (dk_at dksX9_minutes_0 23 rfl rfl)
theorem dX9_minutes_24 : decode cX9_minutes 24 = .ok (.iload_n 1, 1) := dk_27 (dk_at dksX9_minutes_1 0 rfl rfl)
theorem dX9_minutes_25 : decode cX9_minutes 25 = .ok (.iadd, 1) := dk_96 (dk_at dksX9_minutes_1 1 rfl rfl)
theorem dX9_minutes_26 : decode cX9_minutes 26 = .ok (.sipush 999, 3) := dk_17 3 231 (dk_at dksX9_minutes_1 2 rfl rfl)
theorem dX9_minutes_29 : decode cX9_minutes 29 = .ok (.if_icmp .le 10, 3) := dk_164 0 10 (dk_at dksX9_minutes_1 5 rfl rfl)
theorem dX9_minutes_32 : decode cX9_minutes 32 = .ok (.aload_n 0, 1) := dk_42 (dk_at dksX9_minutes_1 8 rfl rfl)
theorem dX9_minutes_33 : decode cX9_minutes 33 = .ok (.bipush (-6), 2) := dk_16 250 (dk_at dksX9_minutes_1 9 rfl rfl)
theorem dX9_minutes_35 : decode cX9_minutes 35 = .ok (.invokevirtual 36, 3) := dk_182 0 36 (dk_at dksX9_minutes_1 11 rfl rfl)
theorem dX9_minutes_38 : decode cX9_minutes 38 = .ok (.ireturn, 1) := dk_172 (dk_at dksX9_minutes_1 14 rfl rfl)
theorem dX9_minutes_39 : decode cX9_minutes 39 = .ok (.aload_n 0, 1) := dk_42 (dk_at dksX9_minutes_1 15 rfl rfl)
theorem dX9_minutes_40 : decode cX9_minutes 40 = .ok (.getfield 9, 3) := dk_180 0 9 (dk_at dksX9_minutes_1 16 rfl rfl)
theorem dX9_minutes_43 : decode cX9_minutes 43 = .ok (.iload_n 1, 1) := dk_27 (dk_at dksX9_minutes_1 19 rfl rfl)
theorem dX9_minutes_44 : decode cX9_minutes 44 = .ok (.invokestatic 115, 3) := dk_184 0 115 (dk_at dksX9_minutes_1 20 rfl rfl)
theorem dX9_minutes_47 : decode cX9_minutes 47 = .ok (.aload_n 0, 1) := dk_42 (dk_at dksX9_minutes_1 23 rfl rfl)
theorem dX9_minutes_48 : decode cX9_minutes 48 = .ok (.getfield 9, 3) := dk_180 0 9 (dk_at dksX9_minutes_2 0 rfl rfl)
theorem dX9_minutes_51 : decode cX9_minutes 51 = .ok (.iconst 0, 1) := dk_3 (dk_at dksX9_minutes_2 3 rfl rfl)
theorem dX9_minutes_52 : decode cX9_minutes 52 = .ok (.invokestatic 73, 3) := dk_184 0 73 (dk_at dksX9_minutes_2 4 rfl rfl)
theorem dX9_minutes_55 : decode cX9_minutes 55 = .ok (.invokestatic 67, 3) := dk_184 0 67 (dk_at dksX9_minutes_2 7 rfl rfl)
theorem dX9_minutes_58 : decode cX9_minutes 58 = .ok (.ireturn, 1) := dk_172 (dk_at dksX9_minutes_2 10 rfl rfl)
abbrev cX9_behind : ByteArray := prog_22_method_40_code
def yX9_behind : MethodName := ⟨RX9, "behind", "(III)I"⟩
def dkwX9_behind_4 : List UInt8 := [182, 0, 138, 172]
abbrev dktX9_behind_4 : List UInt8 := dkwX9_behind_4 ++ []
def dkwX9_behind_3 : List UInt8 := [167, 0, 25, 29, 4, 160, 0, 16, 42, 180, 0, 13, 27, 7, 184, 0, 44, 46, 167, 0, 7, 42]
abbrev dktX9_behind_3 : List UInt8 := dkwX9_behind_3 ++ dktX9_behind_4
def dkwX9_behind_2 : List UInt8 := [182, 0, 36, 172, 42, 28, 182, 0, 134, 29, 154, 0, 16, 42, 180, 0, 13, 27, 6, 184, 0, 44, 46]
abbrev dktX9_behind_2 : List UInt8 := dkwX9_behind_2 ++ dktX9_behind_3
def dkwX9_behind_1 : List UInt8 := [154, 0, 16, 29, 3, 5, 184, 0, 40, 154, 0, 7, 16, 254, 54, 4, 21, 4, 153, 0, 10, 42, 21, 4]
abbrev dktX9_behind_1 : List UInt8 := dkwX9_behind_1 ++ dktX9_behind_2
def dkwX9_behind_0 : List UInt8 := [42, 27, 182, 0, 105, 153, 0, 12, 28, 16, 99, 184, 0, 128, 167, 0, 4, 2, 54, 4, 21, 4]
abbrev dktX9_behind_0 : List UInt8 := dkwX9_behind_0 ++ dktX9_behind_1
theorem dksX9_behind_0 : cX9_behind.data.toList.drop 0 = dktX9_behind_0 := by decide +kernel
theorem dksX9_behind_1 : cX9_behind.data.toList.drop 22 = dktX9_behind_1 := dk_seg dksX9_behind_0 22 rfl rfl
theorem dksX9_behind_2 : cX9_behind.data.toList.drop 46 = dktX9_behind_2 := dk_seg dksX9_behind_1 24 rfl rfl
theorem dksX9_behind_3 : cX9_behind.data.toList.drop 69 = dktX9_behind_3 := dk_seg dksX9_behind_2 23 rfl rfl
theorem dksX9_behind_4 : cX9_behind.data.toList.drop 91 = dktX9_behind_4 := dk_seg dksX9_behind_3 22 rfl rfl
theorem dX9_behind_0 : decode cX9_behind 0 = .ok (.aload_n 0, 1) := dk_42 (dk_at dksX9_behind_0 0 rfl rfl)
theorem dX9_behind_1 : decode cX9_behind 1 = .ok (.iload_n 1, 1) := dk_27 (dk_at dksX9_behind_0 1 rfl rfl)
theorem dX9_behind_2 : decode cX9_behind 2 = .ok (.invokevirtual 105, 3) := dk_182 0 105 (dk_at dksX9_behind_0 2 rfl rfl)
theorem dX9_behind_5 : decode cX9_behind 5 = .ok (.ifCond .eq 12, 3) := dk_153 0 12 (dk_at dksX9_behind_0 5 rfl rfl)
theorem dX9_behind_8 : decode cX9_behind 8 = .ok (.iload_n 2, 1) := dk_28 (dk_at dksX9_behind_0 8 rfl rfl)
theorem dX9_behind_9 : decode cX9_behind 9 = .ok (.bipush 99, 2) := dk_16 99 (dk_at dksX9_behind_0 9 rfl rfl)
theorem dX9_behind_11 : decode cX9_behind 11 = .ok (.invokestatic 128, 3) := dk_184 0 128 (dk_at dksX9_behind_0 11 rfl rfl)
theorem dX9_behind_14 : decode cX9_behind 14 = .ok (.goto 4, 3) := dk_167 0 4 (dk_at dksX9_behind_0 14 rfl rfl)
theorem dX9_behind_17 : decode cX9_behind 17 = .ok (.iconst (-1), 1) := dk_2 (dk_at dksX9_behind_0 17 rfl rfl)
theorem dX9_behind_18 : decode cX9_behind 18 = .ok (.istore 4, 2) := dk_54 4 (dk_at dksX9_behind_0 18 rfl rfl)
theorem dX9_behind_20 : decode cX9_behind 20 = .ok (.iload 4, 2) := dk_21 4 (dk_at dksX9_behind_0 20 rfl rfl)
theorem dX9_behind_22 : decode cX9_behind 22 = .ok (.ifCond .ne 16, 3) := dk_154 0 16 (dk_at dksX9_behind_1 0 rfl rfl)
theorem dX9_behind_25 : decode cX9_behind 25 = .ok (.iload_n 3, 1) := dk_29 (dk_at dksX9_behind_1 3 rfl rfl)
theorem dX9_behind_26 : decode cX9_behind 26 = .ok (.iconst 0, 1) := dk_3 (dk_at dksX9_behind_1 4 rfl rfl)
theorem dX9_behind_27 : decode cX9_behind 27 = .ok (.iconst 2, 1) := dk_5 (dk_at dksX9_behind_1 5 rfl rfl)
theorem dX9_behind_28 : decode cX9_behind 28 = .ok (.invokestatic 40, 3) := dk_184 0 40 (dk_at dksX9_behind_1 6 rfl rfl)
theorem dX9_behind_31 : decode cX9_behind 31 = .ok (.ifCond .ne 7, 3) := dk_154 0 7 (dk_at dksX9_behind_1 9 rfl rfl)
theorem dX9_behind_34 : decode cX9_behind 34 = .ok (.bipush (-2), 2) := dk_16 254 (dk_at dksX9_behind_1 12 rfl rfl)
theorem dX9_behind_36 : decode cX9_behind 36 = .ok (.istore 4, 2) := dk_54 4 (dk_at dksX9_behind_1 14 rfl rfl)
theorem dX9_behind_38 : decode cX9_behind 38 = .ok (.iload 4, 2) := dk_21 4 (dk_at dksX9_behind_1 16 rfl rfl)
theorem dX9_behind_40 : decode cX9_behind 40 = .ok (.ifCond .eq 10, 3) := dk_153 0 10 (dk_at dksX9_behind_1 18 rfl rfl)
theorem dX9_behind_43 : decode cX9_behind 43 = .ok (.aload_n 0, 1) := dk_42 (dk_at dksX9_behind_1 21 rfl rfl)
theorem dX9_behind_44 : decode cX9_behind 44 = .ok (.iload 4, 2) := dk_21 4 (dk_at dksX9_behind_1 22 rfl rfl)
theorem dX9_behind_46 : decode cX9_behind 46 = .ok (.invokevirtual 36, 3) := dk_182 0 36 (dk_at dksX9_behind_2 0 rfl rfl)
theorem dX9_behind_49 : decode cX9_behind 49 = .ok (.ireturn, 1) := dk_172 (dk_at dksX9_behind_2 3 rfl rfl)
theorem dX9_behind_50 : decode cX9_behind 50 = .ok (.aload_n 0, 1) := dk_42 (dk_at dksX9_behind_2 4 rfl rfl)
theorem dX9_behind_51 : decode cX9_behind 51 = .ok (.iload_n 2, 1) := dk_28 (dk_at dksX9_behind_2 5 rfl rfl)
theorem dX9_behind_52 : decode cX9_behind 52 = .ok (.invokevirtual 134, 3) := dk_182 0 134 (dk_at dksX9_behind_2 6 rfl rfl)
theorem dX9_behind_55 : decode cX9_behind 55 = .ok (.iload_n 3, 1) := dk_29 (dk_at dksX9_behind_2 9 rfl rfl)
theorem dX9_behind_56 : decode cX9_behind 56 = .ok (.ifCond .ne 16, 3) := dk_154 0 16 (dk_at dksX9_behind_2 10 rfl rfl)
theorem dX9_behind_59 : decode cX9_behind 59 = .ok (.aload_n 0, 1) := dk_42 (dk_at dksX9_behind_2 13 rfl rfl)
theorem dX9_behind_60 : decode cX9_behind 60 = .ok (.getfield 13, 3) := dk_180 0 13 (dk_at dksX9_behind_2 14 rfl rfl)
theorem dX9_behind_63 : decode cX9_behind 63 = .ok (.iload_n 1, 1) := dk_27 (dk_at dksX9_behind_2 17 rfl rfl)
theorem dX9_behind_64 : decode cX9_behind 64 = .ok (.iconst 3, 1) := dk_6 (dk_at dksX9_behind_2 18 rfl rfl)
theorem dX9_behind_65 : decode cX9_behind 65 = .ok (.invokestatic 44, 3) := dk_184 0 44 (dk_at dksX9_behind_2 19 rfl rfl)
theorem dX9_behind_68 : decode cX9_behind 68 = .ok (.iaload, 1) := dk_46 (dk_at dksX9_behind_2 22 rfl rfl)
theorem dX9_behind_69 : decode cX9_behind 69 = .ok (.goto 25, 3) := dk_167 0 25 (dk_at dksX9_behind_3 0 rfl rfl)
theorem dX9_behind_72 : decode cX9_behind 72 = .ok (.iload_n 3, 1) := dk_29 (dk_at dksX9_behind_3 3 rfl rfl)
theorem dX9_behind_73 : decode cX9_behind 73 = .ok (.iconst 1, 1) := dk_4 (dk_at dksX9_behind_3 4 rfl rfl)
theorem dX9_behind_74 : decode cX9_behind 74 = .ok (.if_icmp .ne 16, 3) := dk_160 0 16 (dk_at dksX9_behind_3 5 rfl rfl)
theorem dX9_behind_77 : decode cX9_behind 77 = .ok (.aload_n 0, 1) := dk_42 (dk_at dksX9_behind_3 8 rfl rfl)
theorem dX9_behind_78 : decode cX9_behind 78 = .ok (.getfield 13, 3) := dk_180 0 13 (dk_at dksX9_behind_3 9 rfl rfl)
theorem dX9_behind_81 : decode cX9_behind 81 = .ok (.iload_n 1, 1) := dk_27 (dk_at dksX9_behind_3 12 rfl rfl)
theorem dX9_behind_82 : decode cX9_behind 82 = .ok (.iconst 4, 1) := dk_7 (dk_at dksX9_behind_3 13 rfl rfl)
theorem dX9_behind_83 : decode cX9_behind 83 = .ok (.invokestatic 44, 3) := dk_184 0 44 (dk_at dksX9_behind_3 14 rfl rfl)
theorem dX9_behind_86 : decode cX9_behind 86 = .ok (.iaload, 1) := dk_46 (dk_at dksX9_behind_3 17 rfl rfl)
theorem dX9_behind_87 : decode cX9_behind 87 = .ok (.goto 7, 3) := dk_167 0 7 (dk_at dksX9_behind_3 18 rfl rfl)
theorem dX9_behind_90 : decode cX9_behind 90 = .ok (.aload_n 0, 1) := dk_42 (dk_at dksX9_behind_3 21 rfl rfl)
theorem dX9_behind_91 : decode cX9_behind 91 = .ok (.invokevirtual 138, 3) := dk_182 0 138 (dk_at dksX9_behind_4 0 rfl rfl)
theorem dX9_behind_94 : decode cX9_behind 94 = .ok (.ireturn, 1) := dk_172 (dk_at dksX9_behind_4 3 rfl rfl)
abbrev cX9_takes : ByteArray := prog_22_method_38_code
def yX9_takes : MethodName := ⟨RX9, "takes", "(I)V"⟩
def dkwX9_takes_0 : List UInt8 := [42, 180, 0, 9, 42, 180, 0, 13, 184, 0, 121, 42, 180, 0, 13, 27, 184, 0, 115, 177]
abbrev dktX9_takes_0 : List UInt8 := dkwX9_takes_0 ++ []
theorem dksX9_takes_0 : cX9_takes.data.toList.drop 0 = dktX9_takes_0 := by decide +kernel
theorem dX9_takes_0 : decode cX9_takes 0 = .ok (.aload_n 0, 1) := dk_42 (dk_at dksX9_takes_0 0 rfl rfl)
theorem dX9_takes_1 : decode cX9_takes 1 = .ok (.getfield 9, 3) := dk_180 0 9 (dk_at dksX9_takes_0 1 rfl rfl)
theorem dX9_takes_4 : decode cX9_takes 4 = .ok (.aload_n 0, 1) := dk_42 (dk_at dksX9_takes_0 4 rfl rfl)
theorem dX9_takes_5 : decode cX9_takes 5 = .ok (.getfield 13, 3) := dk_180 0 13 (dk_at dksX9_takes_0 5 rfl rfl)
theorem dX9_takes_8 : decode cX9_takes 8 = .ok (.invokestatic 121, 3) := dk_184 0 121 (dk_at dksX9_takes_0 8 rfl rfl)
theorem dX9_takes_11 : decode cX9_takes 11 = .ok (.aload_n 0, 1) := dk_42 (dk_at dksX9_takes_0 11 rfl rfl)
theorem dX9_takes_12 : decode cX9_takes 12 = .ok (.getfield 13, 3) := dk_180 0 13 (dk_at dksX9_takes_0 12 rfl rfl)
theorem dX9_takes_15 : decode cX9_takes 15 = .ok (.iload_n 1, 1) := dk_27 (dk_at dksX9_takes_0 15 rfl rfl)
theorem dX9_takes_16 : decode cX9_takes 16 = .ok (.invokestatic 115, 3) := dk_184 0 115 (dk_at dksX9_takes_0 16 rfl rfl)
theorem dX9_takes_19 : decode cX9_takes 19 = .ok (.return_, 1) := dk_177 (dk_at dksX9_takes_0 19 rfl rfl)
abbrev cX9_standingIn : ByteArray := prog_22_method_39_code
def yX9_standingIn : MethodName := ⟨RX9, "standingIn", "()I"⟩
def dkwX9_standingIn_0 : List UInt8 := [42, 180, 0, 13, 3, 184, 0, 73, 184, 0, 67, 172]
abbrev dktX9_standingIn_0 : List UInt8 := dkwX9_standingIn_0 ++ []
theorem dksX9_standingIn_0 : cX9_standingIn.data.toList.drop 0 = dktX9_standingIn_0 := by decide +kernel
theorem dX9_standingIn_0 : decode cX9_standingIn 0 = .ok (.aload_n 0, 1) := dk_42 (dk_at dksX9_standingIn_0 0 rfl rfl)
theorem dX9_standingIn_1 : decode cX9_standingIn 1 = .ok (.getfield 13, 3) := dk_180 0 13 (dk_at dksX9_standingIn_0 1 rfl rfl)
theorem dX9_standingIn_4 : decode cX9_standingIn 4 = .ok (.iconst 0, 1) := dk_3 (dk_at dksX9_standingIn_0 4 rfl rfl)
theorem dX9_standingIn_5 : decode cX9_standingIn 5 = .ok (.invokestatic 73, 3) := dk_184 0 73 (dk_at dksX9_standingIn_0 5 rfl rfl)
theorem dX9_standingIn_8 : decode cX9_standingIn 8 = .ok (.invokestatic 67, 3) := dk_184 0 67 (dk_at dksX9_standingIn_0 8 rfl rfl)
theorem dX9_standingIn_11 : decode cX9_standingIn 11 = .ok (.ireturn, 1) := dk_172 (dk_at dksX9_standingIn_0 11 rfl rfl)
abbrev cX9_falls : ByteArray := prog_22_method_43_code
def yX9_falls : MethodName := ⟨RX9, "falls", "(I)I"⟩
def dkwX9_falls_0 : List UInt8 := [42, 27, 182, 0, 105, 153, 0, 11, 42, 27, 182, 0, 144, 167, 0, 8, 42, 2, 182, 0, 36, 172]
abbrev dktX9_falls_0 : List UInt8 := dkwX9_falls_0 ++ []
theorem dksX9_falls_0 : cX9_falls.data.toList.drop 0 = dktX9_falls_0 := by decide +kernel
theorem dX9_falls_0 : decode cX9_falls 0 = .ok (.aload_n 0, 1) := dk_42 (dk_at dksX9_falls_0 0 rfl rfl)
theorem dX9_falls_1 : decode cX9_falls 1 = .ok (.iload_n 1, 1) := dk_27 (dk_at dksX9_falls_0 1 rfl rfl)
theorem dX9_falls_2 : decode cX9_falls 2 = .ok (.invokevirtual 105, 3) := dk_182 0 105 (dk_at dksX9_falls_0 2 rfl rfl)
theorem dX9_falls_5 : decode cX9_falls 5 = .ok (.ifCond .eq 11, 3) := dk_153 0 11 (dk_at dksX9_falls_0 5 rfl rfl)
theorem dX9_falls_8 : decode cX9_falls 8 = .ok (.aload_n 0, 1) := dk_42 (dk_at dksX9_falls_0 8 rfl rfl)
theorem dX9_falls_9 : decode cX9_falls 9 = .ok (.iload_n 1, 1) := dk_27 (dk_at dksX9_falls_0 9 rfl rfl)
theorem dX9_falls_10 : decode cX9_falls 10 = .ok (.invokevirtual 144, 3) := dk_182 0 144 (dk_at dksX9_falls_0 10 rfl rfl)
theorem dX9_falls_13 : decode cX9_falls 13 = .ok (.goto 8, 3) := dk_167 0 8 (dk_at dksX9_falls_0 13 rfl rfl)
theorem dX9_falls_16 : decode cX9_falls 16 = .ok (.aload_n 0, 1) := dk_42 (dk_at dksX9_falls_0 16 rfl rfl)
theorem dX9_falls_17 : decode cX9_falls 17 = .ok (.iconst (-1), 1) := dk_2 (dk_at dksX9_falls_0 17 rfl rfl)
theorem dX9_falls_18 : decode cX9_falls 18 = .ok (.invokevirtual 36, 3) := dk_182 0 36 (dk_at dksX9_falls_0 18 rfl rfl)
theorem dX9_falls_21 : decode cX9_falls 21 = .ok (.ireturn, 1) := dk_172 (dk_at dksX9_falls_0 21 rfl rfl)
abbrev cX9_fallsOf : ByteArray := prog_22_method_42_code
def yX9_fallsOf : MethodName := ⟨RX9, "fallsOf", "(I)I"⟩
def dkwX9_fallsOf_0 : List UInt8 := [42, 180, 0, 9, 42, 180, 0, 13, 184, 0, 121, 42, 27, 182, 0, 141, 172]
abbrev dktX9_fallsOf_0 : List UInt8 := dkwX9_fallsOf_0 ++ []
theorem dksX9_fallsOf_0 : cX9_fallsOf.data.toList.drop 0 = dktX9_fallsOf_0 := by decide +kernel
theorem dX9_fallsOf_0 : decode cX9_fallsOf 0 = .ok (.aload_n 0, 1) := dk_42 (dk_at dksX9_fallsOf_0 0 rfl rfl)
theorem dX9_fallsOf_1 : decode cX9_fallsOf 1 = .ok (.getfield 9, 3) := dk_180 0 9 (dk_at dksX9_fallsOf_0 1 rfl rfl)
theorem dX9_fallsOf_4 : decode cX9_fallsOf 4 = .ok (.aload_n 0, 1) := dk_42 (dk_at dksX9_fallsOf_0 4 rfl rfl)
theorem dX9_fallsOf_5 : decode cX9_fallsOf 5 = .ok (.getfield 13, 3) := dk_180 0 13 (dk_at dksX9_fallsOf_0 5 rfl rfl)
theorem dX9_fallsOf_8 : decode cX9_fallsOf 8 = .ok (.invokestatic 121, 3) := dk_184 0 121 (dk_at dksX9_fallsOf_0 8 rfl rfl)
theorem dX9_fallsOf_11 : decode cX9_fallsOf 11 = .ok (.aload_n 0, 1) := dk_42 (dk_at dksX9_fallsOf_0 11 rfl rfl)
theorem dX9_fallsOf_12 : decode cX9_fallsOf 12 = .ok (.iload_n 1, 1) := dk_27 (dk_at dksX9_fallsOf_0 12 rfl rfl)
theorem dX9_fallsOf_13 : decode cX9_fallsOf 13 = .ok (.invokevirtual 141, 3) := dk_182 0 141 (dk_at dksX9_fallsOf_0 13 rfl rfl)
theorem dX9_fallsOf_16 : decode cX9_fallsOf 16 = .ok (.ireturn, 1) := dk_172 (dk_at dksX9_fallsOf_0 16 rfl rfl)
abbrev cX9_fallsIn : ByteArray := prog_22_method_41_code
def yX9_fallsIn : MethodName := ⟨RX9, "fallsIn", "(I)I"⟩
def dkwX9_fallsIn_1 : List UInt8 := [42, 180, 0, 13, 3, 184, 0, 80, 132, 2, 1, 167, 255, 223, 16, 247, 172]
abbrev dktX9_fallsIn_1 : List UInt8 := dkwX9_fallsIn_1 ++ []
def dkwX9_fallsIn_0 : List UInt8 := [3, 61, 28, 16, 99, 163, 0, 33, 42, 180, 0, 13, 27, 6, 184, 0, 44, 46, 4, 160, 0, 5, 28, 172]
abbrev dktX9_fallsIn_0 : List UInt8 := dkwX9_fallsIn_0 ++ dktX9_fallsIn_1
theorem dksX9_fallsIn_0 : cX9_fallsIn.data.toList.drop 0 = dktX9_fallsIn_0 := by decide +kernel
theorem dksX9_fallsIn_1 : cX9_fallsIn.data.toList.drop 24 = dktX9_fallsIn_1 := dk_seg dksX9_fallsIn_0 24 rfl rfl
theorem dX9_fallsIn_0 : decode cX9_fallsIn 0 = .ok (.iconst 0, 1) := dk_3 (dk_at dksX9_fallsIn_0 0 rfl rfl)
theorem dX9_fallsIn_1 : decode cX9_fallsIn 1 = .ok (.istore_n 2, 1) := dk_61 (dk_at dksX9_fallsIn_0 1 rfl rfl)
theorem dX9_fallsIn_2 : decode cX9_fallsIn 2 = .ok (.iload_n 2, 1) := dk_28 (dk_at dksX9_fallsIn_0 2 rfl rfl)
theorem dX9_fallsIn_3 : decode cX9_fallsIn 3 = .ok (.bipush 99, 2) := dk_16 99 (dk_at dksX9_fallsIn_0 3 rfl rfl)
theorem dX9_fallsIn_5 : decode cX9_fallsIn 5 = .ok (.if_icmp .gt 33, 3) := dk_163 0 33 (dk_at dksX9_fallsIn_0 5 rfl rfl)
theorem dX9_fallsIn_8 : decode cX9_fallsIn 8 = .ok (.aload_n 0, 1) := dk_42 (dk_at dksX9_fallsIn_0 8 rfl rfl)
theorem dX9_fallsIn_9 : decode cX9_fallsIn 9 = .ok (.getfield 13, 3) := dk_180 0 13 (dk_at dksX9_fallsIn_0 9 rfl rfl)
theorem dX9_fallsIn_12 : decode cX9_fallsIn 12 = .ok (.iload_n 1, 1) := dk_27 (dk_at dksX9_fallsIn_0 12 rfl rfl)
theorem dX9_fallsIn_13 : decode cX9_fallsIn 13 = .ok (.iconst 3, 1) := dk_6 (dk_at dksX9_fallsIn_0 13 rfl rfl)
theorem dX9_fallsIn_14 : decode cX9_fallsIn 14 = .ok (.invokestatic 44, 3) := dk_184 0 44 (dk_at dksX9_fallsIn_0 14 rfl rfl)
theorem dX9_fallsIn_17 : decode cX9_fallsIn 17 = .ok (.iaload, 1) := dk_46 (dk_at dksX9_fallsIn_0 17 rfl rfl)
theorem dX9_fallsIn_18 : decode cX9_fallsIn 18 = .ok (.iconst 1, 1) := dk_4 (dk_at dksX9_fallsIn_0 18 rfl rfl)
theorem dX9_fallsIn_19 : decode cX9_fallsIn 19 = .ok (.if_icmp .ne 5, 3) := dk_160 0 5 (dk_at dksX9_fallsIn_0 19 rfl rfl)
theorem dX9_fallsIn_22 : decode cX9_fallsIn 22 = .ok (.iload_n 2, 1) := dk_28 (dk_at dksX9_fallsIn_0 22 rfl rfl)
theorem dX9_fallsIn_23 : decode cX9_fallsIn 23 = .ok (.ireturn, 1) := dk_172 (dk_at dksX9_fallsIn_0 23 rfl rfl)
theorem dX9_fallsIn_24 : decode cX9_fallsIn 24 = .ok (.aload_n 0, 1) := dk_42 (dk_at dksX9_fallsIn_1 0 rfl rfl)
theorem dX9_fallsIn_25 : decode cX9_fallsIn 25 = .ok (.getfield 13, 3) := dk_180 0 13 (dk_at dksX9_fallsIn_1 1 rfl rfl)
theorem dX9_fallsIn_28 : decode cX9_fallsIn 28 = .ok (.iconst 0, 1) := dk_3 (dk_at dksX9_fallsIn_1 4 rfl rfl)
theorem dX9_fallsIn_29 : decode cX9_fallsIn 29 = .ok (.invokestatic 80, 3) := dk_184 0 80 (dk_at dksX9_fallsIn_1 5 rfl rfl)
theorem dX9_fallsIn_32 : decode cX9_fallsIn 32 = .ok (.iinc 2 1, 3) := dk_132 2 1 (dk_at dksX9_fallsIn_1 8 rfl rfl)
theorem dX9_fallsIn_35 : decode cX9_fallsIn 35 = .ok (.goto (-33), 3) := dk_167 255 223 (dk_at dksX9_fallsIn_1 11 rfl rfl)
theorem dX9_fallsIn_38 : decode cX9_fallsIn 38 = .ok (.bipush (-9), 2) := dk_16 247 (dk_at dksX9_fallsIn_1 14 rfl rfl)
theorem dX9_fallsIn_40 : decode cX9_fallsIn 40 = .ok (.ireturn, 1) := dk_172 (dk_at dksX9_fallsIn_1 16 rfl rfl)
abbrev cX9_first : ByteArray := prog_22_method_44_code
def yX9_first : MethodName := ⟨RX9, "first", "(I)I"⟩
def dkwX9_first_4 : List UInt8 := [154, 0, 7, 28, 167, 0, 4, 29, 172]
abbrev dktX9_first_4 : List UInt8 := dkwX9_first_4 ++ []
def dkwX9_first_3 : List UInt8 := [161, 0, 6, 167, 0, 9, 21, 4, 61, 21, 5, 62, 132, 4, 1, 167, 255, 197, 28, 155, 0, 7, 27]
abbrev dktX9_first_3 : List UInt8 := dkwX9_first_3 ++ dktX9_first_4
def dkwX9_first_2 : List UInt8 := [153, 0, 12, 42, 21, 4, 182, 0, 144, 167, 0, 5, 16, 247, 54, 5, 21, 5, 155, 0, 18, 21, 5, 29]
abbrev dktX9_first_2 : List UInt8 := dkwX9_first_2 ++ dktX9_first_3
def dkwX9_first_1 : List UInt8 := [54, 4, 21, 4, 42, 180, 0, 9, 3, 46, 162, 0, 54, 42, 180, 0, 9, 21, 4, 184, 0, 55]
abbrev dktX9_first_1 : List UInt8 := dkwX9_first_1 ++ dktX9_first_2
def dkwX9_first_0 : List UInt8 := [27, 3, 4, 184, 0, 40, 154, 0, 10, 42, 16, 254, 182, 0, 36, 172, 16, 247, 61, 18, 147, 62, 3]
abbrev dktX9_first_0 : List UInt8 := dkwX9_first_0 ++ dktX9_first_1
theorem dksX9_first_0 : cX9_first.data.toList.drop 0 = dktX9_first_0 := by decide +kernel
theorem dksX9_first_1 : cX9_first.data.toList.drop 23 = dktX9_first_1 := dk_seg dksX9_first_0 23 rfl rfl
theorem dksX9_first_2 : cX9_first.data.toList.drop 45 = dktX9_first_2 := dk_seg dksX9_first_1 22 rfl rfl
theorem dksX9_first_3 : cX9_first.data.toList.drop 69 = dktX9_first_3 := dk_seg dksX9_first_2 24 rfl rfl
theorem dksX9_first_4 : cX9_first.data.toList.drop 92 = dktX9_first_4 := dk_seg dksX9_first_3 23 rfl rfl
theorem dX9_first_0 : decode cX9_first 0 = .ok (.iload_n 1, 1) := dk_27 (dk_at dksX9_first_0 0 rfl rfl)
theorem dX9_first_1 : decode cX9_first 1 = .ok (.iconst 0, 1) := dk_3 (dk_at dksX9_first_0 1 rfl rfl)
theorem dX9_first_2 : decode cX9_first 2 = .ok (.iconst 1, 1) := dk_4 (dk_at dksX9_first_0 2 rfl rfl)
theorem dX9_first_3 : decode cX9_first 3 = .ok (.invokestatic 40, 3) := dk_184 0 40 (dk_at dksX9_first_0 3 rfl rfl)
theorem dX9_first_6 : decode cX9_first 6 = .ok (.ifCond .ne 10, 3) := dk_154 0 10 (dk_at dksX9_first_0 6 rfl rfl)
theorem dX9_first_9 : decode cX9_first 9 = .ok (.aload_n 0, 1) := dk_42 (dk_at dksX9_first_0 9 rfl rfl)
theorem dX9_first_10 : decode cX9_first 10 = .ok (.bipush (-2), 2) := dk_16 254 (dk_at dksX9_first_0 10 rfl rfl)
theorem dX9_first_12 : decode cX9_first 12 = .ok (.invokevirtual 36, 3) := dk_182 0 36 (dk_at dksX9_first_0 12 rfl rfl)
theorem dX9_first_15 : decode cX9_first 15 = .ok (.ireturn, 1) := dk_172 (dk_at dksX9_first_0 15 rfl rfl)
theorem dX9_first_16 : decode cX9_first 16 = .ok (.bipush (-9), 2) := dk_16 247 (dk_at dksX9_first_0 16 rfl rfl)
theorem dX9_first_18 : decode cX9_first 18 = .ok (.istore_n 2, 1) := dk_61 (dk_at dksX9_first_0 18 rfl rfl)
theorem dX9_first_19 : decode cX9_first 19 = .ok (.ldc 147, 2) := dk_18 147 (dk_at dksX9_first_0 19 rfl rfl)
theorem dX9_first_21 : decode cX9_first 21 = .ok (.istore_n 3, 1) := dk_62 (dk_at dksX9_first_0 21 rfl rfl)
theorem dX9_first_22 : decode cX9_first 22 = .ok (.iconst 0, 1) := dk_3 (dk_at dksX9_first_0 22 rfl rfl)
theorem dX9_first_23 : decode cX9_first 23 = .ok (.istore 4, 2) := dk_54 4 (dk_at dksX9_first_1 0 rfl rfl)
theorem dX9_first_25 : decode cX9_first 25 = .ok (.iload 4, 2) := dk_21 4 (dk_at dksX9_first_1 2 rfl rfl)
theorem dX9_first_27 : decode cX9_first 27 = .ok (.aload_n 0, 1) := dk_42 (dk_at dksX9_first_1 4 rfl rfl)
theorem dX9_first_28 : decode cX9_first 28 = .ok (.getfield 9, 3) := dk_180 0 9 (dk_at dksX9_first_1 5 rfl rfl)
theorem dX9_first_31 : decode cX9_first 31 = .ok (.iconst 0, 1) := dk_3 (dk_at dksX9_first_1 8 rfl rfl)
theorem dX9_first_32 : decode cX9_first 32 = .ok (.iaload, 1) := dk_46 (dk_at dksX9_first_1 9 rfl rfl)
theorem dX9_first_33 : decode cX9_first 33 = .ok (.if_icmp .ge 54, 3) := dk_162 0 54 (dk_at dksX9_first_1 10 rfl rfl)
theorem dX9_first_36 : decode cX9_first 36 = .ok (.aload_n 0, 1) := dk_42 (dk_at dksX9_first_1 13 rfl rfl)
theorem dX9_first_37 : decode cX9_first 37 = .ok (.getfield 9, 3) := dk_180 0 9 (dk_at dksX9_first_1 14 rfl rfl)
theorem dX9_first_40 : decode cX9_first 40 = .ok (.iload 4, 2) := dk_21 4 (dk_at dksX9_first_1 17 rfl rfl)
theorem dX9_first_42 : decode cX9_first 42 = .ok (.invokestatic 55, 3) := dk_184 0 55 (dk_at dksX9_first_1 19 rfl rfl)
theorem dX9_first_45 : decode cX9_first 45 = .ok (.ifCond .eq 12, 3) := dk_153 0 12 (dk_at dksX9_first_2 0 rfl rfl)
theorem dX9_first_48 : decode cX9_first 48 = .ok (.aload_n 0, 1) := dk_42 (dk_at dksX9_first_2 3 rfl rfl)
theorem dX9_first_49 : decode cX9_first 49 = .ok (.iload 4, 2) := dk_21 4 (dk_at dksX9_first_2 4 rfl rfl)
theorem dX9_first_51 : decode cX9_first 51 = .ok (.invokevirtual 144, 3) := dk_182 0 144 (dk_at dksX9_first_2 6 rfl rfl)
theorem dX9_first_54 : decode cX9_first 54 = .ok (.goto 5, 3) := dk_167 0 5 (dk_at dksX9_first_2 9 rfl rfl)
theorem dX9_first_57 : decode cX9_first 57 = .ok (.bipush (-9), 2) := dk_16 247 (dk_at dksX9_first_2 12 rfl rfl)
theorem dX9_first_59 : decode cX9_first 59 = .ok (.istore 5, 2) := dk_54 5 (dk_at dksX9_first_2 14 rfl rfl)
theorem dX9_first_61 : decode cX9_first 61 = .ok (.iload 5, 2) := dk_21 5 (dk_at dksX9_first_2 16 rfl rfl)
theorem dX9_first_63 : decode cX9_first 63 = .ok (.ifCond .lt 18, 3) := dk_155 0 18 (dk_at dksX9_first_2 18 rfl rfl)
theorem dX9_first_66 : decode cX9_first 66 = .ok (.iload 5, 2) := dk_21 5 (dk_at dksX9_first_2 21 rfl rfl)
theorem dX9_first_68 : decode cX9_first 68 = .ok (.iload_n 3, 1) := dk_29 (dk_at dksX9_first_2 23 rfl rfl)
theorem dX9_first_69 : decode cX9_first 69 = .ok (.if_icmp .lt 6, 3) := dk_161 0 6 (dk_at dksX9_first_3 0 rfl rfl)
theorem dX9_first_72 : decode cX9_first 72 = .ok (.goto 9, 3) := dk_167 0 9 (dk_at dksX9_first_3 3 rfl rfl)
theorem dX9_first_75 : decode cX9_first 75 = .ok (.iload 4, 2) := dk_21 4 (dk_at dksX9_first_3 6 rfl rfl)
theorem dX9_first_77 : decode cX9_first 77 = .ok (.istore_n 2, 1) := dk_61 (dk_at dksX9_first_3 8 rfl rfl)
theorem dX9_first_78 : decode cX9_first 78 = .ok (.iload 5, 2) := dk_21 5 (dk_at dksX9_first_3 9 rfl rfl)
theorem dX9_first_80 : decode cX9_first 80 = .ok (.istore_n 3, 1) := dk_62 (dk_at dksX9_first_3 11 rfl rfl)
theorem dX9_first_81 : decode cX9_first 81 = .ok (.iinc 4 1, 3) := dk_132 4 1 (dk_at dksX9_first_3 12 rfl rfl)
theorem dX9_first_84 : decode cX9_first 84 = .ok (.goto (-59), 3) := dk_167 255 197 (dk_at dksX9_first_3 15 rfl rfl)
theorem dX9_first_87 : decode cX9_first 87 = .ok (.iload_n 2, 1) := dk_28 (dk_at dksX9_first_3 18 rfl rfl)
theorem dX9_first_88 : decode cX9_first 88 = .ok (.ifCond .lt 7, 3) := dk_155 0 7 (dk_at dksX9_first_3 19 rfl rfl)
theorem dX9_first_91 : decode cX9_first 91 = .ok (.iload_n 1, 1) := dk_27 (dk_at dksX9_first_3 22 rfl rfl)
theorem dX9_first_92 : decode cX9_first 92 = .ok (.ifCond .ne 7, 3) := dk_154 0 7 (dk_at dksX9_first_4 0 rfl rfl)
theorem dX9_first_95 : decode cX9_first 95 = .ok (.iload_n 2, 1) := dk_28 (dk_at dksX9_first_4 3 rfl rfl)
theorem dX9_first_96 : decode cX9_first 96 = .ok (.goto 4, 3) := dk_167 0 4 (dk_at dksX9_first_4 4 rfl rfl)
theorem dX9_first_99 : decode cX9_first 99 = .ok (.iload_n 3, 1) := dk_29 (dk_at dksX9_first_4 7 rfl rfl)
theorem dX9_first_100 : decode cX9_first 100 = .ok (.ireturn, 1) := dk_172 (dk_at dksX9_first_4 8 rfl rfl)
abbrev cX9_allStand : ByteArray := prog_22_method_45_code
def yX9_allStand : MethodName := ⟨RX9, "allStand", "()I"⟩
def dkwX9_allStand_2 : List UInt8 := [159, 0, 5, 28, 172, 132, 2, 1, 167, 255, 225, 16, 99, 172]
abbrev dktX9_allStand_2 : List UInt8 := dkwX9_allStand_2 ++ []
def dkwX9_allStand_1 : List UInt8 := [16, 99, 162, 0, 31, 42, 180, 0, 13, 3, 184, 0, 80, 42, 180, 0, 13, 4, 184, 0, 73, 27]
abbrev dktX9_allStand_1 : List UInt8 := dkwX9_allStand_1 ++ dktX9_allStand_2
def dkwX9_allStand_0 : List UInt8 := [42, 180, 0, 9, 42, 180, 0, 13, 184, 0, 121, 42, 180, 0, 9, 4, 184, 0, 73, 60, 3, 61, 28]
abbrev dktX9_allStand_0 : List UInt8 := dkwX9_allStand_0 ++ dktX9_allStand_1
theorem dksX9_allStand_0 : cX9_allStand.data.toList.drop 0 = dktX9_allStand_0 := by decide +kernel
theorem dksX9_allStand_1 : cX9_allStand.data.toList.drop 23 = dktX9_allStand_1 := dk_seg dksX9_allStand_0 23 rfl rfl
theorem dksX9_allStand_2 : cX9_allStand.data.toList.drop 45 = dktX9_allStand_2 := dk_seg dksX9_allStand_1 22 rfl rfl
theorem dX9_allStand_0 : decode cX9_allStand 0 = .ok (.aload_n 0, 1) := dk_42 (dk_at dksX9_allStand_0 0 rfl rfl)
theorem dX9_allStand_1 : decode cX9_allStand 1 = .ok (.getfield 9, 3) := dk_180 0 9 (dk_at dksX9_allStand_0 1 rfl rfl)
theorem dX9_allStand_4 : decode cX9_allStand 4 = .ok (.aload_n 0, 1) := dk_42 (dk_at dksX9_allStand_0 4 rfl rfl)
theorem dX9_allStand_5 : decode cX9_allStand 5 = .ok (.getfield 13, 3) := dk_180 0 13 (dk_at dksX9_allStand_0 5 rfl rfl)
theorem dX9_allStand_8 : decode cX9_allStand 8 = .ok (.invokestatic 121, 3) := dk_184 0 121 (dk_at dksX9_allStand_0 8 rfl rfl)
theorem dX9_allStand_11 : decode cX9_allStand 11 = .ok (.aload_n 0, 1) := dk_42 (dk_at dksX9_allStand_0 11 rfl rfl)
theorem dX9_allStand_12 : decode cX9_allStand 12 = .ok (.getfield 9, 3) := dk_180 0 9 (dk_at dksX9_allStand_0 12 rfl rfl)
theorem dX9_allStand_15 : decode cX9_allStand 15 = .ok (.iconst 1, 1) := dk_4 (dk_at dksX9_allStand_0 15 rfl rfl)
theorem dX9_allStand_16 : decode cX9_allStand 16 = .ok (.invokestatic 73, 3) := dk_184 0 73 (dk_at dksX9_allStand_0 16 rfl rfl)
theorem dX9_allStand_19 : decode cX9_allStand 19 = .ok (.istore_n 1, 1) := dk_60 (dk_at dksX9_allStand_0 19 rfl rfl)
theorem dX9_allStand_20 : decode cX9_allStand 20 = .ok (.iconst 0, 1) := dk_3 (dk_at dksX9_allStand_0 20 rfl rfl)
theorem dX9_allStand_21 : decode cX9_allStand 21 = .ok (.istore_n 2, 1) := dk_61 (dk_at dksX9_allStand_0 21 rfl rfl)
theorem dX9_allStand_22 : decode cX9_allStand 22 = .ok (.iload_n 2, 1) := dk_28 (dk_at dksX9_allStand_0 22 rfl rfl)
theorem dX9_allStand_23 : decode cX9_allStand 23 = .ok (.bipush 99, 2) := dk_16 99 (dk_at dksX9_allStand_1 0 rfl rfl)
theorem dX9_allStand_25 : decode cX9_allStand 25 = .ok (.if_icmp .ge 31, 3) := dk_162 0 31 (dk_at dksX9_allStand_1 2 rfl rfl)
theorem dX9_allStand_28 : decode cX9_allStand 28 = .ok (.aload_n 0, 1) := dk_42 (dk_at dksX9_allStand_1 5 rfl rfl)
theorem dX9_allStand_29 : decode cX9_allStand 29 = .ok (.getfield 13, 3) := dk_180 0 13 (dk_at dksX9_allStand_1 6 rfl rfl)
theorem dX9_allStand_32 : decode cX9_allStand 32 = .ok (.iconst 0, 1) := dk_3 (dk_at dksX9_allStand_1 9 rfl rfl)
theorem dX9_allStand_33 : decode cX9_allStand 33 = .ok (.invokestatic 80, 3) := dk_184 0 80 (dk_at dksX9_allStand_1 10 rfl rfl)
theorem dX9_allStand_36 : decode cX9_allStand 36 = .ok (.aload_n 0, 1) := dk_42 (dk_at dksX9_allStand_1 13 rfl rfl)
theorem dX9_allStand_37 : decode cX9_allStand 37 = .ok (.getfield 13, 3) := dk_180 0 13 (dk_at dksX9_allStand_1 14 rfl rfl)
theorem dX9_allStand_40 : decode cX9_allStand 40 = .ok (.iconst 1, 1) := dk_4 (dk_at dksX9_allStand_1 17 rfl rfl)
theorem dX9_allStand_41 : decode cX9_allStand 41 = .ok (.invokestatic 73, 3) := dk_184 0 73 (dk_at dksX9_allStand_1 18 rfl rfl)
theorem dX9_allStand_44 : decode cX9_allStand 44 = .ok (.iload_n 1, 1) := dk_27 (dk_at dksX9_allStand_1 21 rfl rfl)
theorem dX9_allStand_45 : decode cX9_allStand 45 = .ok (.if_icmp .eq 5, 3) := dk_159 0 5 (dk_at dksX9_allStand_2 0 rfl rfl)
theorem dX9_allStand_48 : decode cX9_allStand 48 = .ok (.iload_n 2, 1) := dk_28 (dk_at dksX9_allStand_2 3 rfl rfl)
theorem dX9_allStand_49 : decode cX9_allStand 49 = .ok (.ireturn, 1) := dk_172 (dk_at dksX9_allStand_2 4 rfl rfl)
theorem dX9_allStand_50 : decode cX9_allStand 50 = .ok (.iinc 2 1, 3) := dk_132 2 1 (dk_at dksX9_allStand_2 5 rfl rfl)
theorem dX9_allStand_53 : decode cX9_allStand 53 = .ok (.goto (-31), 3) := dk_167 255 225 (dk_at dksX9_allStand_2 8 rfl rfl)
theorem dX9_allStand_56 : decode cX9_allStand 56 = .ok (.bipush 99, 2) := dk_16 99 (dk_at dksX9_allStand_2 11 rfl rfl)
theorem dX9_allStand_58 : decode cX9_allStand 58 = .ok (.ireturn, 1) := dk_172 (dk_at dksX9_allStand_2 13 rfl rfl)
abbrev cX9_tower : ByteArray := prog_22_method_47_code
def yX9_tower : MethodName := ⟨RX9, "tower", "(II)I"⟩
def dkwX9_tower_5 : List UInt8 := [167, 0, 14, 28, 4, 160, 0, 7, 29, 167, 0, 5, 21, 5, 172]
abbrev dktX9_tower_5 : List UInt8 := dkwX9_tower_5 ++ []
def dkwX9_tower_4 : List UInt8 := [180, 0, 9, 21, 5, 5, 184, 0, 44, 46, 54, 5, 132, 4, 1, 167, 255, 226, 28, 154, 0, 8, 21, 4]
abbrev dktX9_tower_4 : List UInt8 := dkwX9_tower_4 ++ dktX9_tower_5
def dkwX9_tower_3 : List UInt8 := [62, 132, 6, 1, 167, 255, 221, 42, 180, 0, 9, 21, 5, 5, 184, 0, 44, 46, 155, 0, 22, 42]
abbrev dktX9_tower_3 : List UInt8 := dkwX9_tower_3 ++ dktX9_tower_4
def dkwX9_tower_2 : List UInt8 := [46, 162, 0, 30, 29, 42, 21, 6, 27, 182, 0, 148, 153, 0, 10, 4, 21, 6, 120, 167, 0, 4, 3, 128]
abbrev dktX9_tower_2 : List UInt8 := dkwX9_tower_2 ++ dktX9_tower_3
def dkwX9_tower_1 : List UInt8 := [16, 254, 182, 0, 36, 172, 3, 62, 3, 54, 4, 27, 54, 5, 3, 54, 6, 21, 6, 42, 180, 0, 9, 3]
abbrev dktX9_tower_1 : List UInt8 := dkwX9_tower_1 ++ dktX9_tower_2
def dkwX9_tower_0 : List UInt8 := [42, 27, 182, 0, 105, 154, 0, 9, 42, 2, 182, 0, 36, 172, 28, 3, 5, 184, 0, 40, 154, 0, 10, 42]
abbrev dktX9_tower_0 : List UInt8 := dkwX9_tower_0 ++ dktX9_tower_1
theorem dksX9_tower_0 : cX9_tower.data.toList.drop 0 = dktX9_tower_0 := by decide +kernel
theorem dksX9_tower_1 : cX9_tower.data.toList.drop 24 = dktX9_tower_1 := dk_seg dksX9_tower_0 24 rfl rfl
theorem dksX9_tower_2 : cX9_tower.data.toList.drop 48 = dktX9_tower_2 := dk_seg dksX9_tower_1 24 rfl rfl
theorem dksX9_tower_3 : cX9_tower.data.toList.drop 72 = dktX9_tower_3 := dk_seg dksX9_tower_2 24 rfl rfl
theorem dksX9_tower_4 : cX9_tower.data.toList.drop 94 = dktX9_tower_4 := dk_seg dksX9_tower_3 22 rfl rfl
theorem dksX9_tower_5 : cX9_tower.data.toList.drop 118 = dktX9_tower_5 := dk_seg dksX9_tower_4 24 rfl rfl
theorem dX9_tower_0 : decode cX9_tower 0 = .ok (.aload_n 0, 1) := dk_42 (dk_at dksX9_tower_0 0 rfl rfl)
theorem dX9_tower_1 : decode cX9_tower 1 = .ok (.iload_n 1, 1) := dk_27 (dk_at dksX9_tower_0 1 rfl rfl)
theorem dX9_tower_2 : decode cX9_tower 2 = .ok (.invokevirtual 105, 3) := dk_182 0 105 (dk_at dksX9_tower_0 2 rfl rfl)
theorem dX9_tower_5 : decode cX9_tower 5 = .ok (.ifCond .ne 9, 3) := dk_154 0 9 (dk_at dksX9_tower_0 5 rfl rfl)
theorem dX9_tower_8 : decode cX9_tower 8 = .ok (.aload_n 0, 1) := dk_42 (dk_at dksX9_tower_0 8 rfl rfl)
theorem dX9_tower_9 : decode cX9_tower 9 = .ok (.iconst (-1), 1) := dk_2 (dk_at dksX9_tower_0 9 rfl rfl)
theorem dX9_tower_10 : decode cX9_tower 10 = .ok (.invokevirtual 36, 3) := dk_182 0 36 (dk_at dksX9_tower_0 10 rfl rfl)
theorem dX9_tower_13 : decode cX9_tower 13 = .ok (.ireturn, 1) := dk_172 (dk_at dksX9_tower_0 13 rfl rfl)
theorem dX9_tower_14 : decode cX9_tower 14 = .ok (.iload_n 2, 1) := dk_28 (dk_at dksX9_tower_0 14 rfl rfl)
theorem dX9_tower_15 : decode cX9_tower 15 = .ok (.iconst 0, 1) := dk_3 (dk_at dksX9_tower_0 15 rfl rfl)
theorem dX9_tower_16 : decode cX9_tower 16 = .ok (.iconst 2, 1) := dk_5 (dk_at dksX9_tower_0 16 rfl rfl)
theorem dX9_tower_17 : decode cX9_tower 17 = .ok (.invokestatic 40, 3) := dk_184 0 40 (dk_at dksX9_tower_0 17 rfl rfl)
theorem dX9_tower_20 : decode cX9_tower 20 = .ok (.ifCond .ne 10, 3) := dk_154 0 10 (dk_at dksX9_tower_0 20 rfl rfl)
theorem dX9_tower_23 : decode cX9_tower 23 = .ok (.aload_n 0, 1) := dk_42 (dk_at dksX9_tower_0 23 rfl rfl)
theorem dX9_tower_24 : decode cX9_tower 24 = .ok (.bipush (-2), 2) := dk_16 254 (dk_at dksX9_tower_1 0 rfl rfl)
theorem dX9_tower_26 : decode cX9_tower 26 = .ok (.invokevirtual 36, 3) := dk_182 0 36 (dk_at dksX9_tower_1 2 rfl rfl)
theorem dX9_tower_29 : decode cX9_tower 29 = .ok (.ireturn, 1) := dk_172 (dk_at dksX9_tower_1 5 rfl rfl)
theorem dX9_tower_30 : decode cX9_tower 30 = .ok (.iconst 0, 1) := dk_3 (dk_at dksX9_tower_1 6 rfl rfl)
theorem dX9_tower_31 : decode cX9_tower 31 = .ok (.istore_n 3, 1) := dk_62 (dk_at dksX9_tower_1 7 rfl rfl)
theorem dX9_tower_32 : decode cX9_tower 32 = .ok (.iconst 0, 1) := dk_3 (dk_at dksX9_tower_1 8 rfl rfl)
theorem dX9_tower_33 : decode cX9_tower 33 = .ok (.istore 4, 2) := dk_54 4 (dk_at dksX9_tower_1 9 rfl rfl)
theorem dX9_tower_35 : decode cX9_tower 35 = .ok (.iload_n 1, 1) := dk_27 (dk_at dksX9_tower_1 11 rfl rfl)
theorem dX9_tower_36 : decode cX9_tower 36 = .ok (.istore 5, 2) := dk_54 5 (dk_at dksX9_tower_1 12 rfl rfl)
theorem dX9_tower_38 : decode cX9_tower 38 = .ok (.iconst 0, 1) := dk_3 (dk_at dksX9_tower_1 14 rfl rfl)
theorem dX9_tower_39 : decode cX9_tower 39 = .ok (.istore 6, 2) := dk_54 6 (dk_at dksX9_tower_1 15 rfl rfl)
theorem dX9_tower_41 : decode cX9_tower 41 = .ok (.iload 6, 2) := dk_21 6 (dk_at dksX9_tower_1 17 rfl rfl)
theorem dX9_tower_43 : decode cX9_tower 43 = .ok (.aload_n 0, 1) := dk_42 (dk_at dksX9_tower_1 19 rfl rfl)
theorem dX9_tower_44 : decode cX9_tower 44 = .ok (.getfield 9, 3) := dk_180 0 9 (dk_at dksX9_tower_1 20 rfl rfl)
theorem dX9_tower_47 : decode cX9_tower 47 = .ok (.iconst 0, 1) := dk_3 (dk_at dksX9_tower_1 23 rfl rfl)
theorem dX9_tower_48 : decode cX9_tower 48 = .ok (.iaload, 1) := dk_46 (dk_at dksX9_tower_2 0 rfl rfl)
theorem dX9_tower_49 : decode cX9_tower 49 = .ok (.if_icmp .ge 30, 3) := dk_162 0 30 (dk_at dksX9_tower_2 1 rfl rfl)
theorem dX9_tower_52 : decode cX9_tower 52 = .ok (.iload_n 3, 1) := dk_29 (dk_at dksX9_tower_2 4 rfl rfl)
theorem dX9_tower_53 : decode cX9_tower 53 = .ok (.aload_n 0, 1) := dk_42 (dk_at dksX9_tower_2 5 rfl rfl)
theorem dX9_tower_54 : decode cX9_tower 54 = .ok (.iload 6, 2) := dk_21 6 (dk_at dksX9_tower_2 6 rfl rfl)
theorem dX9_tower_56 : decode cX9_tower 56 = .ok (.iload_n 1, 1) := dk_27 (dk_at dksX9_tower_2 8 rfl rfl)
theorem dX9_tower_57 : decode cX9_tower 57 = .ok (.invokevirtual 148, 3) := dk_182 0 148 (dk_at dksX9_tower_2 9 rfl rfl)
theorem dX9_tower_60 : decode cX9_tower 60 = .ok (.ifCond .eq 10, 3) := dk_153 0 10 (dk_at dksX9_tower_2 12 rfl rfl)
theorem dX9_tower_63 : decode cX9_tower 63 = .ok (.iconst 1, 1) := dk_4 (dk_at dksX9_tower_2 15 rfl rfl)
theorem dX9_tower_64 : decode cX9_tower 64 = .ok (.iload 6, 2) := dk_21 6 (dk_at dksX9_tower_2 16 rfl rfl)
theorem dX9_tower_66 : decode cX9_tower 66 = .ok (.ishl, 1) := dk_120 (dk_at dksX9_tower_2 18 rfl rfl)
theorem dX9_tower_67 : decode cX9_tower 67 = .ok (.goto 4, 3) := dk_167 0 4 (dk_at dksX9_tower_2 19 rfl rfl)
theorem dX9_tower_70 : decode cX9_tower 70 = .ok (.iconst 0, 1) := dk_3 (dk_at dksX9_tower_2 22 rfl rfl)
theorem dX9_tower_71 : decode cX9_tower 71 = .ok (.ior, 1) := dk_128 (dk_at dksX9_tower_2 23 rfl rfl)
theorem dX9_tower_72 : decode cX9_tower 72 = .ok (.istore_n 3, 1) := dk_62 (dk_at dksX9_tower_3 0 rfl rfl)
theorem dX9_tower_73 : decode cX9_tower 73 = .ok (.iinc 6 1, 3) := dk_132 6 1 (dk_at dksX9_tower_3 1 rfl rfl)
theorem dX9_tower_76 : decode cX9_tower 76 = .ok (.goto (-35), 3) := dk_167 255 221 (dk_at dksX9_tower_3 4 rfl rfl)
theorem dX9_tower_79 : decode cX9_tower 79 = .ok (.aload_n 0, 1) := dk_42 (dk_at dksX9_tower_3 7 rfl rfl)
theorem dX9_tower_80 : decode cX9_tower 80 = .ok (.getfield 9, 3) := dk_180 0 9 (dk_at dksX9_tower_3 8 rfl rfl)
theorem dX9_tower_83 : decode cX9_tower 83 = .ok (.iload 5, 2) := dk_21 5 (dk_at dksX9_tower_3 11 rfl rfl)
theorem dX9_tower_85 : decode cX9_tower 85 = .ok (.iconst 2, 1) := dk_5 (dk_at dksX9_tower_3 13 rfl rfl)
theorem dX9_tower_86 : decode cX9_tower 86 = .ok (.invokestatic 44, 3) := dk_184 0 44 (dk_at dksX9_tower_3 14 rfl rfl)
theorem dX9_tower_89 : decode cX9_tower 89 = .ok (.iaload, 1) := dk_46 (dk_at dksX9_tower_3 17 rfl rfl)
theorem dX9_tower_90 : decode cX9_tower 90 = .ok (.ifCond .lt 22, 3) := dk_155 0 22 (dk_at dksX9_tower_3 18 rfl rfl)
theorem dX9_tower_93 : decode cX9_tower 93 = .ok (.aload_n 0, 1) := dk_42 (dk_at dksX9_tower_3 21 rfl rfl)
theorem dX9_tower_94 : decode cX9_tower 94 = .ok (.getfield 9, 3) := dk_180 0 9 (dk_at dksX9_tower_4 0 rfl rfl)
theorem dX9_tower_97 : decode cX9_tower 97 = .ok (.iload 5, 2) := dk_21 5 (dk_at dksX9_tower_4 3 rfl rfl)
theorem dX9_tower_99 : decode cX9_tower 99 = .ok (.iconst 2, 1) := dk_5 (dk_at dksX9_tower_4 5 rfl rfl)
theorem dX9_tower_100 : decode cX9_tower 100 = .ok (.invokestatic 44, 3) := dk_184 0 44 (dk_at dksX9_tower_4 6 rfl rfl)
theorem dX9_tower_103 : decode cX9_tower 103 = .ok (.iaload, 1) := dk_46 (dk_at dksX9_tower_4 9 rfl rfl)
theorem dX9_tower_104 : decode cX9_tower 104 = .ok (.istore 5, 2) := dk_54 5 (dk_at dksX9_tower_4 10 rfl rfl)
theorem dX9_tower_106 : decode cX9_tower 106 = .ok (.iinc 4 1, 3) := dk_132 4 1 (dk_at dksX9_tower_4 12 rfl rfl)
theorem dX9_tower_109 : decode cX9_tower 109 = .ok (.goto (-30), 3) := dk_167 255 226 (dk_at dksX9_tower_4 15 rfl rfl)
theorem dX9_tower_112 : decode cX9_tower 112 = .ok (.iload_n 2, 1) := dk_28 (dk_at dksX9_tower_4 18 rfl rfl)
theorem dX9_tower_113 : decode cX9_tower 113 = .ok (.ifCond .ne 8, 3) := dk_154 0 8 (dk_at dksX9_tower_4 19 rfl rfl)
theorem dX9_tower_116 : decode cX9_tower 116 = .ok (.iload 4, 2) := dk_21 4 (dk_at dksX9_tower_4 22 rfl rfl)
theorem dX9_tower_118 : decode cX9_tower 118 = .ok (.goto 14, 3) := dk_167 0 14 (dk_at dksX9_tower_5 0 rfl rfl)
theorem dX9_tower_121 : decode cX9_tower 121 = .ok (.iload_n 2, 1) := dk_28 (dk_at dksX9_tower_5 3 rfl rfl)
theorem dX9_tower_122 : decode cX9_tower 122 = .ok (.iconst 1, 1) := dk_4 (dk_at dksX9_tower_5 4 rfl rfl)
theorem dX9_tower_123 : decode cX9_tower 123 = .ok (.if_icmp .ne 7, 3) := dk_160 0 7 (dk_at dksX9_tower_5 5 rfl rfl)
theorem dX9_tower_126 : decode cX9_tower 126 = .ok (.iload_n 3, 1) := dk_29 (dk_at dksX9_tower_5 8 rfl rfl)
theorem dX9_tower_127 : decode cX9_tower 127 = .ok (.goto 5, 3) := dk_167 0 5 (dk_at dksX9_tower_5 9 rfl rfl)
theorem dX9_tower_130 : decode cX9_tower 130 = .ok (.iload 5, 2) := dk_21 5 (dk_at dksX9_tower_5 12 rfl rfl)
theorem dX9_tower_132 : decode cX9_tower 132 = .ok (.ireturn, 1) := dk_172 (dk_at dksX9_tower_5 14 rfl rfl)
abbrev cX9_isAbove : ByteArray := prog_22_method_46_code
def yX9_isAbove : MethodName := ⟨RX9, "isAbove", "(II)Z"⟩
def dkwX9_isAbove_1 : List UInt8 := [29, 5, 184, 0, 44, 46, 62, 167, 255, 236, 29, 28, 160, 0, 7, 4, 167, 0, 4, 3, 172]
abbrev dktX9_isAbove_1 : List UInt8 := dkwX9_isAbove_1 ++ []
def dkwX9_isAbove_0 : List UInt8 := [42, 180, 0, 9, 27, 5, 184, 0, 44, 46, 62, 29, 155, 0, 22, 29, 28, 159, 0, 17, 42, 180, 0, 9]
abbrev dktX9_isAbove_0 : List UInt8 := dkwX9_isAbove_0 ++ dktX9_isAbove_1
theorem dksX9_isAbove_0 : cX9_isAbove.data.toList.drop 0 = dktX9_isAbove_0 := by decide +kernel
theorem dksX9_isAbove_1 : cX9_isAbove.data.toList.drop 24 = dktX9_isAbove_1 := dk_seg dksX9_isAbove_0 24 rfl rfl
theorem dX9_isAbove_0 : decode cX9_isAbove 0 = .ok (.aload_n 0, 1) := dk_42 (dk_at dksX9_isAbove_0 0 rfl rfl)
theorem dX9_isAbove_1 : decode cX9_isAbove 1 = .ok (.getfield 9, 3) := dk_180 0 9 (dk_at dksX9_isAbove_0 1 rfl rfl)
theorem dX9_isAbove_4 : decode cX9_isAbove 4 = .ok (.iload_n 1, 1) := dk_27 (dk_at dksX9_isAbove_0 4 rfl rfl)
theorem dX9_isAbove_5 : decode cX9_isAbove 5 = .ok (.iconst 2, 1) := dk_5 (dk_at dksX9_isAbove_0 5 rfl rfl)
theorem dX9_isAbove_6 : decode cX9_isAbove 6 = .ok (.invokestatic 44, 3) := dk_184 0 44 (dk_at dksX9_isAbove_0 6 rfl rfl)
theorem dX9_isAbove_9 : decode cX9_isAbove 9 = .ok (.iaload, 1) := dk_46 (dk_at dksX9_isAbove_0 9 rfl rfl)
theorem dX9_isAbove_10 : decode cX9_isAbove 10 = .ok (.istore_n 3, 1) := dk_62 (dk_at dksX9_isAbove_0 10 rfl rfl)
theorem dX9_isAbove_11 : decode cX9_isAbove 11 = .ok (.iload_n 3, 1) := dk_29 (dk_at dksX9_isAbove_0 11 rfl rfl)
theorem dX9_isAbove_12 : decode cX9_isAbove 12 = .ok (.ifCond .lt 22, 3) := dk_155 0 22 (dk_at dksX9_isAbove_0 12 rfl rfl)
theorem dX9_isAbove_15 : decode cX9_isAbove 15 = .ok (.iload_n 3, 1) := dk_29 (dk_at dksX9_isAbove_0 15 rfl rfl)
theorem dX9_isAbove_16 : decode cX9_isAbove 16 = .ok (.iload_n 2, 1) := dk_28 (dk_at dksX9_isAbove_0 16 rfl rfl)
theorem dX9_isAbove_17 : decode cX9_isAbove 17 = .ok (.if_icmp .eq 17, 3) := dk_159 0 17 (dk_at dksX9_isAbove_0 17 rfl rfl)
theorem dX9_isAbove_20 : decode cX9_isAbove 20 = .ok (.aload_n 0, 1) := dk_42 (dk_at dksX9_isAbove_0 20 rfl rfl)
theorem dX9_isAbove_21 : decode cX9_isAbove 21 = .ok (.getfield 9, 3) := dk_180 0 9 (dk_at dksX9_isAbove_0 21 rfl rfl)
theorem dX9_isAbove_24 : decode cX9_isAbove 24 = .ok (.iload_n 3, 1) := dk_29 (dk_at dksX9_isAbove_1 0 rfl rfl)
theorem dX9_isAbove_25 : decode cX9_isAbove 25 = .ok (.iconst 2, 1) := dk_5 (dk_at dksX9_isAbove_1 1 rfl rfl)
theorem dX9_isAbove_26 : decode cX9_isAbove 26 = .ok (.invokestatic 44, 3) := dk_184 0 44 (dk_at dksX9_isAbove_1 2 rfl rfl)
theorem dX9_isAbove_29 : decode cX9_isAbove 29 = .ok (.iaload, 1) := dk_46 (dk_at dksX9_isAbove_1 5 rfl rfl)
theorem dX9_isAbove_30 : decode cX9_isAbove 30 = .ok (.istore_n 3, 1) := dk_62 (dk_at dksX9_isAbove_1 6 rfl rfl)
theorem dX9_isAbove_31 : decode cX9_isAbove 31 = .ok (.goto (-20), 3) := dk_167 255 236 (dk_at dksX9_isAbove_1 7 rfl rfl)
theorem dX9_isAbove_34 : decode cX9_isAbove 34 = .ok (.iload_n 3, 1) := dk_29 (dk_at dksX9_isAbove_1 10 rfl rfl)
theorem dX9_isAbove_35 : decode cX9_isAbove 35 = .ok (.iload_n 2, 1) := dk_28 (dk_at dksX9_isAbove_1 11 rfl rfl)
theorem dX9_isAbove_36 : decode cX9_isAbove 36 = .ok (.if_icmp .ne 7, 3) := dk_160 0 7 (dk_at dksX9_isAbove_1 12 rfl rfl)
theorem dX9_isAbove_39 : decode cX9_isAbove 39 = .ok (.iconst 1, 1) := dk_4 (dk_at dksX9_isAbove_1 15 rfl rfl)
theorem dX9_isAbove_40 : decode cX9_isAbove 40 = .ok (.goto 4, 3) := dk_167 0 4 (dk_at dksX9_isAbove_1 16 rfl rfl)
theorem dX9_isAbove_43 : decode cX9_isAbove 43 = .ok (.iconst 0, 1) := dk_3 (dk_at dksX9_isAbove_1 19 rfl rfl)
theorem dX9_isAbove_44 : decode cX9_isAbove 44 = .ok (.ireturn, 1) := dk_172 (dk_at dksX9_isAbove_1 20 rfl rfl)
abbrev cX9_leastSpeed : ByteArray := prog_22_method_48_code
def yX9_leastSpeed : MethodName := ⟨RX9, "leastSpeed", "(I)I"⟩
def dkwX9_leastSpeed_2 : List UInt8 := [16, 247, 172]
abbrev dktX9_leastSpeed_2 : List UInt8 := dkwX9_leastSpeed_2 ++ []
def dkwX9_leastSpeed_1 : List UInt8 := [162, 0, 23, 42, 180, 0, 9, 27, 29, 184, 0, 63, 154, 0, 5, 29, 172, 132, 3, 1, 167, 255, 233]
abbrev dktX9_leastSpeed_1 : List UInt8 := dkwX9_leastSpeed_1 ++ dktX9_leastSpeed_2
def dkwX9_leastSpeed_0 : List UInt8 := [42, 27, 3, 182, 0, 131, 61, 28, 153, 0, 9, 42, 28, 182, 0, 36, 172, 3, 62, 29, 16, 10]
abbrev dktX9_leastSpeed_0 : List UInt8 := dkwX9_leastSpeed_0 ++ dktX9_leastSpeed_1
theorem dksX9_leastSpeed_0 : cX9_leastSpeed.data.toList.drop 0 = dktX9_leastSpeed_0 := by decide +kernel
theorem dksX9_leastSpeed_1 : cX9_leastSpeed.data.toList.drop 22 = dktX9_leastSpeed_1 := dk_seg dksX9_leastSpeed_0 22 rfl rfl
theorem dksX9_leastSpeed_2 : cX9_leastSpeed.data.toList.drop 45 = dktX9_leastSpeed_2 := dk_seg dksX9_leastSpeed_1 23 rfl rfl
theorem dX9_leastSpeed_0 : decode cX9_leastSpeed 0 = .ok (.aload_n 0, 1) := dk_42 (dk_at dksX9_leastSpeed_0 0 rfl rfl)
theorem dX9_leastSpeed_1 : decode cX9_leastSpeed 1 = .ok (.iload_n 1, 1) := dk_27 (dk_at dksX9_leastSpeed_0 1 rfl rfl)
theorem dX9_leastSpeed_2 : decode cX9_leastSpeed 2 = .ok (.iconst 0, 1) := dk_3 (dk_at dksX9_leastSpeed_0 2 rfl rfl)
theorem dX9_leastSpeed_3 : decode cX9_leastSpeed 3 = .ok (.invokevirtual 131, 3) := dk_182 0 131 (dk_at dksX9_leastSpeed_0 3 rfl rfl)
theorem dX9_leastSpeed_6 : decode cX9_leastSpeed 6 = .ok (.istore_n 2, 1) := dk_61 (dk_at dksX9_leastSpeed_0 6 rfl rfl)
theorem dX9_leastSpeed_7 : decode cX9_leastSpeed 7 = .ok (.iload_n 2, 1) := dk_28 (dk_at dksX9_leastSpeed_0 7 rfl rfl)
theorem dX9_leastSpeed_8 : decode cX9_leastSpeed 8 = .ok (.ifCond .eq 9, 3) := dk_153 0 9 (dk_at dksX9_leastSpeed_0 8 rfl rfl)
theorem dX9_leastSpeed_11 : decode cX9_leastSpeed 11 = .ok (.aload_n 0, 1) := dk_42 (dk_at dksX9_leastSpeed_0 11 rfl rfl)
theorem dX9_leastSpeed_12 : decode cX9_leastSpeed 12 = .ok (.iload_n 2, 1) := dk_28 (dk_at dksX9_leastSpeed_0 12 rfl rfl)
theorem dX9_leastSpeed_13 : decode cX9_leastSpeed 13 = .ok (.invokevirtual 36, 3) := dk_182 0 36 (dk_at dksX9_leastSpeed_0 13 rfl rfl)
theorem dX9_leastSpeed_16 : decode cX9_leastSpeed 16 = .ok (.ireturn, 1) := dk_172 (dk_at dksX9_leastSpeed_0 16 rfl rfl)
theorem dX9_leastSpeed_17 : decode cX9_leastSpeed 17 = .ok (.iconst 0, 1) := dk_3 (dk_at dksX9_leastSpeed_0 17 rfl rfl)
theorem dX9_leastSpeed_18 : decode cX9_leastSpeed 18 = .ok (.istore_n 3, 1) := dk_62 (dk_at dksX9_leastSpeed_0 18 rfl rfl)
theorem dX9_leastSpeed_19 : decode cX9_leastSpeed 19 = .ok (.iload_n 3, 1) := dk_29 (dk_at dksX9_leastSpeed_0 19 rfl rfl)
theorem dX9_leastSpeed_20 : decode cX9_leastSpeed 20 = .ok (.bipush 10, 2) := dk_16 10 (dk_at dksX9_leastSpeed_0 20 rfl rfl)
theorem dX9_leastSpeed_22 : decode cX9_leastSpeed 22 = .ok (.if_icmp .ge 23, 3) := dk_162 0 23 (dk_at dksX9_leastSpeed_1 0 rfl rfl)
theorem dX9_leastSpeed_25 : decode cX9_leastSpeed 25 = .ok (.aload_n 0, 1) := dk_42 (dk_at dksX9_leastSpeed_1 3 rfl rfl)
theorem dX9_leastSpeed_26 : decode cX9_leastSpeed 26 = .ok (.getfield 9, 3) := dk_180 0 9 (dk_at dksX9_leastSpeed_1 4 rfl rfl)
theorem dX9_leastSpeed_29 : decode cX9_leastSpeed 29 = .ok (.iload_n 1, 1) := dk_27 (dk_at dksX9_leastSpeed_1 7 rfl rfl)
theorem dX9_leastSpeed_30 : decode cX9_leastSpeed 30 = .ok (.iload_n 3, 1) := dk_29 (dk_at dksX9_leastSpeed_1 8 rfl rfl)
theorem dX9_leastSpeed_31 : decode cX9_leastSpeed 31 = .ok (.invokestatic 63, 3) := dk_184 0 63 (dk_at dksX9_leastSpeed_1 9 rfl rfl)
theorem dX9_leastSpeed_34 : decode cX9_leastSpeed 34 = .ok (.ifCond .ne 5, 3) := dk_154 0 5 (dk_at dksX9_leastSpeed_1 12 rfl rfl)
theorem dX9_leastSpeed_37 : decode cX9_leastSpeed 37 = .ok (.iload_n 3, 1) := dk_29 (dk_at dksX9_leastSpeed_1 15 rfl rfl)
theorem dX9_leastSpeed_38 : decode cX9_leastSpeed 38 = .ok (.ireturn, 1) := dk_172 (dk_at dksX9_leastSpeed_1 16 rfl rfl)
theorem dX9_leastSpeed_39 : decode cX9_leastSpeed 39 = .ok (.iinc 3 1, 3) := dk_132 3 1 (dk_at dksX9_leastSpeed_1 17 rfl rfl)
theorem dX9_leastSpeed_42 : decode cX9_leastSpeed 42 = .ok (.goto (-23), 3) := dk_167 255 233 (dk_at dksX9_leastSpeed_1 20 rfl rfl)
theorem dX9_leastSpeed_45 : decode cX9_leastSpeed 45 = .ok (.bipush (-9), 2) := dk_16 247 (dk_at dksX9_leastSpeed_2 0 rfl rfl)
theorem dX9_leastSpeed_47 : decode cX9_leastSpeed 47 = .ok (.ireturn, 1) := dk_172 (dk_at dksX9_leastSpeed_2 2 rfl rfl)
abbrev cX9_atOnce : ByteArray := prog_22_method_49_code
def yX9_atOnce : MethodName := ⟨RX9, "atOnce", "(II)I"⟩
def dkwX9_atOnce_1 : List UInt8 := [28, 184, 0, 63, 172]
abbrev dktX9_atOnce_1 : List UInt8 := dkwX9_atOnce_1 ++ []
def dkwX9_atOnce_0 : List UInt8 := [42, 27, 28, 182, 0, 131, 62, 29, 153, 0, 11, 42, 29, 182, 0, 36, 167, 0, 12, 42, 180, 0, 9, 27]
abbrev dktX9_atOnce_0 : List UInt8 := dkwX9_atOnce_0 ++ dktX9_atOnce_1
theorem dksX9_atOnce_0 : cX9_atOnce.data.toList.drop 0 = dktX9_atOnce_0 := by decide +kernel
theorem dksX9_atOnce_1 : cX9_atOnce.data.toList.drop 24 = dktX9_atOnce_1 := dk_seg dksX9_atOnce_0 24 rfl rfl
theorem dX9_atOnce_0 : decode cX9_atOnce 0 = .ok (.aload_n 0, 1) := dk_42 (dk_at dksX9_atOnce_0 0 rfl rfl)
theorem dX9_atOnce_1 : decode cX9_atOnce 1 = .ok (.iload_n 1, 1) := dk_27 (dk_at dksX9_atOnce_0 1 rfl rfl)
theorem dX9_atOnce_2 : decode cX9_atOnce 2 = .ok (.iload_n 2, 1) := dk_28 (dk_at dksX9_atOnce_0 2 rfl rfl)
theorem dX9_atOnce_3 : decode cX9_atOnce 3 = .ok (.invokevirtual 131, 3) := dk_182 0 131 (dk_at dksX9_atOnce_0 3 rfl rfl)
theorem dX9_atOnce_6 : decode cX9_atOnce 6 = .ok (.istore_n 3, 1) := dk_62 (dk_at dksX9_atOnce_0 6 rfl rfl)
theorem dX9_atOnce_7 : decode cX9_atOnce 7 = .ok (.iload_n 3, 1) := dk_29 (dk_at dksX9_atOnce_0 7 rfl rfl)
theorem dX9_atOnce_8 : decode cX9_atOnce 8 = .ok (.ifCond .eq 11, 3) := dk_153 0 11 (dk_at dksX9_atOnce_0 8 rfl rfl)
theorem dX9_atOnce_11 : decode cX9_atOnce 11 = .ok (.aload_n 0, 1) := dk_42 (dk_at dksX9_atOnce_0 11 rfl rfl)
theorem dX9_atOnce_12 : decode cX9_atOnce 12 = .ok (.iload_n 3, 1) := dk_29 (dk_at dksX9_atOnce_0 12 rfl rfl)
theorem dX9_atOnce_13 : decode cX9_atOnce 13 = .ok (.invokevirtual 36, 3) := dk_182 0 36 (dk_at dksX9_atOnce_0 13 rfl rfl)
theorem dX9_atOnce_16 : decode cX9_atOnce 16 = .ok (.goto 12, 3) := dk_167 0 12 (dk_at dksX9_atOnce_0 16 rfl rfl)
theorem dX9_atOnce_19 : decode cX9_atOnce 19 = .ok (.aload_n 0, 1) := dk_42 (dk_at dksX9_atOnce_0 19 rfl rfl)
theorem dX9_atOnce_20 : decode cX9_atOnce 20 = .ok (.getfield 9, 3) := dk_180 0 9 (dk_at dksX9_atOnce_0 20 rfl rfl)
theorem dX9_atOnce_23 : decode cX9_atOnce 23 = .ok (.iload_n 1, 1) := dk_27 (dk_at dksX9_atOnce_0 23 rfl rfl)
theorem dX9_atOnce_24 : decode cX9_atOnce 24 = .ok (.iload_n 2, 1) := dk_28 (dk_at dksX9_atOnce_1 0 rfl rfl)
theorem dX9_atOnce_25 : decode cX9_atOnce 25 = .ok (.invokestatic 63, 3) := dk_184 0 63 (dk_at dksX9_atOnce_1 1 rfl rfl)
theorem dX9_atOnce_28 : decode cX9_atOnce 28 = .ok (.ireturn, 1) := dk_172 (dk_at dksX9_atOnce_1 4 rfl rfl)
abbrev cX9_later : ByteArray := prog_22_method_50_code
def yX9_later : MethodName := ⟨RX9, "later", "(III)I"⟩
def dkwX9_later_6 : List UInt8 := [130, 126, 21, 5, 2, 130, 126, 172]
abbrev dktX9_later_6 : List UInt8 := dkwX9_later_6 ++ []
def dkwX9_later_5 : List UInt8 := [184, 0, 112, 54, 7, 42, 180, 0, 13, 29, 184, 0, 115, 42, 180, 0, 13, 4, 184, 0, 73, 21, 6, 2]
abbrev dktX9_later_5 : List UInt8 := dkwX9_later_5 ++ dktX9_later_6
def dkwX9_later_4 : List UInt8 := [180, 0, 13, 184, 0, 121, 42, 180, 0, 9, 27, 28, 184, 0, 63, 54, 6, 42, 180, 0, 13, 27, 28]
abbrev dktX9_later_4 : List UInt8 := dkwX9_later_4 ++ dktX9_later_5
def dkwX9_later_3 : List UInt8 := [182, 0, 36, 172, 42, 29, 182, 0, 134, 42, 180, 0, 13, 4, 184, 0, 73, 54, 5, 42, 180, 0, 9, 42]
abbrev dktX9_later_3 : List UInt8 := dkwX9_later_3 ++ dktX9_later_4
def dkwX9_later_2 : List UInt8 := [27, 184, 0, 55, 153, 0, 7, 3, 167, 0, 5, 16, 253, 54, 4, 21, 4, 153, 0, 10, 42, 21, 4]
abbrev dktX9_later_2 : List UInt8 := dkwX9_later_2 ++ dktX9_later_3
def dkwX9_later_1 : List UInt8 := [167, 0, 37, 28, 16, 9, 163, 0, 9, 29, 16, 99, 164, 0, 8, 16, 250, 167, 0, 20, 42, 180, 0, 9]
abbrev dktX9_later_1 : List UInt8 := dkwX9_later_1 ++ dktX9_later_2
def dkwX9_later_0 : List UInt8 := [42, 27, 182, 0, 105, 154, 0, 7, 2, 167, 0, 50, 28, 155, 0, 7, 29, 156, 0, 8, 16, 252]
abbrev dktX9_later_0 : List UInt8 := dkwX9_later_0 ++ dktX9_later_1
theorem dksX9_later_0 : cX9_later.data.toList.drop 0 = dktX9_later_0 := by decide +kernel
theorem dksX9_later_1 : cX9_later.data.toList.drop 22 = dktX9_later_1 := dk_seg dksX9_later_0 22 rfl rfl
theorem dksX9_later_2 : cX9_later.data.toList.drop 46 = dktX9_later_2 := dk_seg dksX9_later_1 24 rfl rfl
theorem dksX9_later_3 : cX9_later.data.toList.drop 69 = dktX9_later_3 := dk_seg dksX9_later_2 23 rfl rfl
theorem dksX9_later_4 : cX9_later.data.toList.drop 93 = dktX9_later_4 := dk_seg dksX9_later_3 24 rfl rfl
theorem dksX9_later_5 : cX9_later.data.toList.drop 116 = dktX9_later_5 := dk_seg dksX9_later_4 23 rfl rfl
theorem dksX9_later_6 : cX9_later.data.toList.drop 140 = dktX9_later_6 := dk_seg dksX9_later_5 24 rfl rfl
theorem dX9_later_0 : decode cX9_later 0 = .ok (.aload_n 0, 1) := dk_42 (dk_at dksX9_later_0 0 rfl rfl)
theorem dX9_later_1 : decode cX9_later 1 = .ok (.iload_n 1, 1) := dk_27 (dk_at dksX9_later_0 1 rfl rfl)
theorem dX9_later_2 : decode cX9_later 2 = .ok (.invokevirtual 105, 3) := dk_182 0 105 (dk_at dksX9_later_0 2 rfl rfl)
theorem dX9_later_5 : decode cX9_later 5 = .ok (.ifCond .ne 7, 3) := dk_154 0 7 (dk_at dksX9_later_0 5 rfl rfl)
theorem dX9_later_8 : decode cX9_later 8 = .ok (.iconst (-1), 1) := dk_2 (dk_at dksX9_later_0 8 rfl rfl)
theorem dX9_later_9 : decode cX9_later 9 = .ok (.goto 50, 3) := dk_167 0 50 (dk_at dksX9_later_0 9 rfl rfl)
theorem dX9_later_12 : decode cX9_later 12 = .ok (.iload_n 2, 1) := dk_28 (dk_at dksX9_later_0 12 rfl rfl)
theorem dX9_later_13 : decode cX9_later 13 = .ok (.ifCond .lt 7, 3) := dk_155 0 7 (dk_at dksX9_later_0 13 rfl rfl)
theorem dX9_later_16 : decode cX9_later 16 = .ok (.iload_n 3, 1) := dk_29 (dk_at dksX9_later_0 16 rfl rfl)
theorem dX9_later_17 : decode cX9_later 17 = .ok (.ifCond .ge 8, 3) := dk_156 0 8 (dk_at dksX9_later_0 17 rfl rfl)
theorem dX9_later_20 : decode cX9_later 20 = .ok (.bipush (-4), 2) := dk_16 252 (dk_at dksX9_later_0 20 rfl rfl)
theorem dX9_later_22 : decode cX9_later 22 = .ok (.goto 37, 3) := dk_167 0 37 (dk_at dksX9_later_1 0 rfl rfl)
theorem dX9_later_25 : decode cX9_later 25 = .ok (.iload_n 2, 1) := dk_28 (dk_at dksX9_later_1 3 rfl rfl)
theorem dX9_later_26 : decode cX9_later 26 = .ok (.bipush 9, 2) := dk_16 9 (dk_at dksX9_later_1 4 rfl rfl)
theorem dX9_later_28 : decode cX9_later 28 = .ok (.if_icmp .gt 9, 3) := dk_163 0 9 (dk_at dksX9_later_1 6 rfl rfl)
theorem dX9_later_31 : decode cX9_later 31 = .ok (.iload_n 3, 1) := dk_29 (dk_at dksX9_later_1 9 rfl rfl)
theorem dX9_later_32 : decode cX9_later 32 = .ok (.bipush 99, 2) := dk_16 99 (dk_at dksX9_later_1 10 rfl rfl)
theorem dX9_later_34 : decode cX9_later 34 = .ok (.if_icmp .le 8, 3) := dk_164 0 8 (dk_at dksX9_later_1 12 rfl rfl)
theorem dX9_later_37 : decode cX9_later 37 = .ok (.bipush (-6), 2) := dk_16 250 (dk_at dksX9_later_1 15 rfl rfl)
theorem dX9_later_39 : decode cX9_later 39 = .ok (.goto 20, 3) := dk_167 0 20 (dk_at dksX9_later_1 17 rfl rfl)
theorem dX9_later_42 : decode cX9_later 42 = .ok (.aload_n 0, 1) := dk_42 (dk_at dksX9_later_1 20 rfl rfl)
theorem dX9_later_43 : decode cX9_later 43 = .ok (.getfield 9, 3) := dk_180 0 9 (dk_at dksX9_later_1 21 rfl rfl)
theorem dX9_later_46 : decode cX9_later 46 = .ok (.iload_n 1, 1) := dk_27 (dk_at dksX9_later_2 0 rfl rfl)
theorem dX9_later_47 : decode cX9_later 47 = .ok (.invokestatic 55, 3) := dk_184 0 55 (dk_at dksX9_later_2 1 rfl rfl)
theorem dX9_later_50 : decode cX9_later 50 = .ok (.ifCond .eq 7, 3) := dk_153 0 7 (dk_at dksX9_later_2 4 rfl rfl)
theorem dX9_later_53 : decode cX9_later 53 = .ok (.iconst 0, 1) := dk_3 (dk_at dksX9_later_2 7 rfl rfl)
theorem dX9_later_54 : decode cX9_later 54 = .ok (.goto 5, 3) := dk_167 0 5 (dk_at dksX9_later_2 8 rfl rfl)
theorem dX9_later_57 : decode cX9_later 57 = .ok (.bipush (-3), 2) := dk_16 253 (dk_at dksX9_later_2 11 rfl rfl)
theorem dX9_later_59 : decode cX9_later 59 = .ok (.istore 4, 2) := dk_54 4 (dk_at dksX9_later_2 13 rfl rfl)
theorem dX9_later_61 : decode cX9_later 61 = .ok (.iload 4, 2) := dk_21 4 (dk_at dksX9_later_2 15 rfl rfl)
theorem dX9_later_63 : decode cX9_later 63 = .ok (.ifCond .eq 10, 3) := dk_153 0 10 (dk_at dksX9_later_2 17 rfl rfl)
theorem dX9_later_66 : decode cX9_later 66 = .ok (.aload_n 0, 1) := dk_42 (dk_at dksX9_later_2 20 rfl rfl)
theorem dX9_later_67 : decode cX9_later 67 = .ok (.iload 4, 2) := dk_21 4 (dk_at dksX9_later_2 21 rfl rfl)
theorem dX9_later_69 : decode cX9_later 69 = .ok (.invokevirtual 36, 3) := dk_182 0 36 (dk_at dksX9_later_3 0 rfl rfl)
theorem dX9_later_72 : decode cX9_later 72 = .ok (.ireturn, 1) := dk_172 (dk_at dksX9_later_3 3 rfl rfl)
theorem dX9_later_73 : decode cX9_later 73 = .ok (.aload_n 0, 1) := dk_42 (dk_at dksX9_later_3 4 rfl rfl)
theorem dX9_later_74 : decode cX9_later 74 = .ok (.iload_n 3, 1) := dk_29 (dk_at dksX9_later_3 5 rfl rfl)
theorem dX9_later_75 : decode cX9_later 75 = .ok (.invokevirtual 134, 3) := dk_182 0 134 (dk_at dksX9_later_3 6 rfl rfl)
theorem dX9_later_78 : decode cX9_later 78 = .ok (.aload_n 0, 1) := dk_42 (dk_at dksX9_later_3 9 rfl rfl)
theorem dX9_later_79 : decode cX9_later 79 = .ok (.getfield 13, 3) := dk_180 0 13 (dk_at dksX9_later_3 10 rfl rfl)
theorem dX9_later_82 : decode cX9_later 82 = .ok (.iconst 1, 1) := dk_4 (dk_at dksX9_later_3 13 rfl rfl)
theorem dX9_later_83 : decode cX9_later 83 = .ok (.invokestatic 73, 3) := dk_184 0 73 (dk_at dksX9_later_3 14 rfl rfl)
theorem dX9_later_86 : decode cX9_later 86 = .ok (.istore 5, 2) := dk_54 5 (dk_at dksX9_later_3 17 rfl rfl)
theorem dX9_later_88 : decode cX9_later 88 = .ok (.aload_n 0, 1) := dk_42 (dk_at dksX9_later_3 19 rfl rfl)
theorem dX9_later_89 : decode cX9_later 89 = .ok (.getfield 9, 3) := dk_180 0 9 (dk_at dksX9_later_3 20 rfl rfl)
theorem dX9_later_92 : decode cX9_later 92 = .ok (.aload_n 0, 1) := dk_42 (dk_at dksX9_later_3 23 rfl rfl)
theorem dX9_later_93 : decode cX9_later 93 = .ok (.getfield 13, 3) := dk_180 0 13 (dk_at dksX9_later_4 0 rfl rfl)
theorem dX9_later_96 : decode cX9_later 96 = .ok (.invokestatic 121, 3) := dk_184 0 121 (dk_at dksX9_later_4 3 rfl rfl)
theorem dX9_later_99 : decode cX9_later 99 = .ok (.aload_n 0, 1) := dk_42 (dk_at dksX9_later_4 6 rfl rfl)
theorem dX9_later_100 : decode cX9_later 100 = .ok (.getfield 9, 3) := dk_180 0 9 (dk_at dksX9_later_4 7 rfl rfl)
theorem dX9_later_103 : decode cX9_later 103 = .ok (.iload_n 1, 1) := dk_27 (dk_at dksX9_later_4 10 rfl rfl)
theorem dX9_later_104 : decode cX9_later 104 = .ok (.iload_n 2, 1) := dk_28 (dk_at dksX9_later_4 11 rfl rfl)
theorem dX9_later_105 : decode cX9_later 105 = .ok (.invokestatic 63, 3) := dk_184 0 63 (dk_at dksX9_later_4 12 rfl rfl)
theorem dX9_later_108 : decode cX9_later 108 = .ok (.istore 6, 2) := dk_54 6 (dk_at dksX9_later_4 15 rfl rfl)
theorem dX9_later_110 : decode cX9_later 110 = .ok (.aload_n 0, 1) := dk_42 (dk_at dksX9_later_4 17 rfl rfl)
theorem dX9_later_111 : decode cX9_later 111 = .ok (.getfield 13, 3) := dk_180 0 13 (dk_at dksX9_later_4 18 rfl rfl)
theorem dX9_later_114 : decode cX9_later 114 = .ok (.iload_n 1, 1) := dk_27 (dk_at dksX9_later_4 21 rfl rfl)
theorem dX9_later_115 : decode cX9_later 115 = .ok (.iload_n 2, 1) := dk_28 (dk_at dksX9_later_4 22 rfl rfl)
theorem dX9_later_116 : decode cX9_later 116 = .ok (.invokestatic 112, 3) := dk_184 0 112 (dk_at dksX9_later_5 0 rfl rfl)
theorem dX9_later_119 : decode cX9_later 119 = .ok (.istore 7, 2) := dk_54 7 (dk_at dksX9_later_5 3 rfl rfl)
theorem dX9_later_121 : decode cX9_later 121 = .ok (.aload_n 0, 1) := dk_42 (dk_at dksX9_later_5 5 rfl rfl)
theorem dX9_later_122 : decode cX9_later 122 = .ok (.getfield 13, 3) := dk_180 0 13 (dk_at dksX9_later_5 6 rfl rfl)
theorem dX9_later_125 : decode cX9_later 125 = .ok (.iload_n 3, 1) := dk_29 (dk_at dksX9_later_5 9 rfl rfl)
theorem dX9_later_126 : decode cX9_later 126 = .ok (.invokestatic 115, 3) := dk_184 0 115 (dk_at dksX9_later_5 10 rfl rfl)
theorem dX9_later_129 : decode cX9_later 129 = .ok (.aload_n 0, 1) := dk_42 (dk_at dksX9_later_5 13 rfl rfl)
theorem dX9_later_130 : decode cX9_later 130 = .ok (.getfield 13, 3) := dk_180 0 13 (dk_at dksX9_later_5 14 rfl rfl)
theorem dX9_later_133 : decode cX9_later 133 = .ok (.iconst 1, 1) := dk_4 (dk_at dksX9_later_5 17 rfl rfl)
theorem dX9_later_134 : decode cX9_later 134 = .ok (.invokestatic 73, 3) := dk_184 0 73 (dk_at dksX9_later_5 18 rfl rfl)
theorem dX9_later_137 : decode cX9_later 137 = .ok (.iload 6, 2) := dk_21 6 (dk_at dksX9_later_5 21 rfl rfl)
theorem dX9_later_139 : decode cX9_later 139 = .ok (.iconst (-1), 1) := dk_2 (dk_at dksX9_later_5 23 rfl rfl)
theorem dX9_later_140 : decode cX9_later 140 = .ok (.ixor, 1) := dk_130 (dk_at dksX9_later_6 0 rfl rfl)
theorem dX9_later_141 : decode cX9_later 141 = .ok (.iand, 1) := dk_126 (dk_at dksX9_later_6 1 rfl rfl)
theorem dX9_later_142 : decode cX9_later 142 = .ok (.iload 5, 2) := dk_21 5 (dk_at dksX9_later_6 2 rfl rfl)
theorem dX9_later_144 : decode cX9_later 144 = .ok (.iconst (-1), 1) := dk_2 (dk_at dksX9_later_6 4 rfl rfl)
theorem dX9_later_145 : decode cX9_later 145 = .ok (.ixor, 1) := dk_130 (dk_at dksX9_later_6 5 rfl rfl)
theorem dX9_later_146 : decode cX9_later 146 = .ok (.iand, 1) := dk_126 (dk_at dksX9_later_6 6 rfl rfl)
theorem dX9_later_147 : decode cX9_later 147 = .ok (.ireturn, 1) := dk_172 (dk_at dksX9_later_6 7 rfl rfl)
abbrev cX9_pullMost : ByteArray := prog_22_method_52_code
def yX9_pullMost : MethodName := ⟨RX9, "pullMost", "(III)I"⟩
def dkwX9_pullMost_6 : List UInt8 := [155, 0, 8, 29, 4, 160, 0, 8, 21, 5, 167, 0, 8, 21, 5, 184, 0, 67, 172]
abbrev dktX9_pullMost_6 : List UInt8 := dkwX9_pullMost_6 ++ []
def dkwX9_pullMost_5 : List UInt8 := [180, 0, 13, 27, 184, 0, 55, 153, 0, 7, 21, 6, 54, 5, 132, 6, 1, 167, 255, 178, 21, 5]
abbrev dktX9_pullMost_5 : List UInt8 := dkwX9_pullMost_5 ++ dktX9_pullMost_6
def dkwX9_pullMost_4 : List UInt8 := [164, 0, 38, 42, 21, 6, 182, 0, 151, 154, 0, 6, 167, 0, 26, 42, 180, 0, 13, 28, 184, 0, 115, 42]
abbrev dktX9_pullMost_4 : List UInt8 := dkwX9_pullMost_4 ++ dktX9_pullMost_5
def dkwX9_pullMost_3 : List UInt8 := [21, 6, 27, 184, 0, 51, 154, 0, 56, 21, 5, 155, 0, 16, 21, 6, 184, 0, 67, 21, 5, 184, 0, 67]
abbrev dktX9_pullMost_3 : List UInt8 := dkwX9_pullMost_3 ++ dktX9_pullMost_4
def dkwX9_pullMost_2 : List UInt8 := [182, 0, 36, 172, 16, 247, 54, 5, 3, 54, 6, 21, 6, 4, 42, 180, 0, 9, 3, 46, 120, 162, 0, 71]
abbrev dktX9_pullMost_2 : List UInt8 := dkwX9_pullMost_2 ++ dktX9_pullMost_3
def dkwX9_pullMost_1 : List UInt8 := [154, 0, 16, 29, 3, 4, 184, 0, 40, 154, 0, 7, 16, 254, 54, 4, 21, 4, 153, 0, 10, 42, 21, 4]
abbrev dktX9_pullMost_1 : List UInt8 := dkwX9_pullMost_1 ++ dktX9_pullMost_2
def dkwX9_pullMost_0 : List UInt8 := [42, 27, 182, 0, 105, 153, 0, 12, 28, 16, 30, 184, 0, 128, 167, 0, 4, 2, 54, 4, 21, 4]
abbrev dktX9_pullMost_0 : List UInt8 := dkwX9_pullMost_0 ++ dktX9_pullMost_1
theorem dksX9_pullMost_0 : cX9_pullMost.data.toList.drop 0 = dktX9_pullMost_0 := by decide +kernel
theorem dksX9_pullMost_1 : cX9_pullMost.data.toList.drop 22 = dktX9_pullMost_1 := dk_seg dksX9_pullMost_0 22 rfl rfl
theorem dksX9_pullMost_2 : cX9_pullMost.data.toList.drop 46 = dktX9_pullMost_2 := dk_seg dksX9_pullMost_1 24 rfl rfl
theorem dksX9_pullMost_3 : cX9_pullMost.data.toList.drop 70 = dktX9_pullMost_3 := dk_seg dksX9_pullMost_2 24 rfl rfl
theorem dksX9_pullMost_4 : cX9_pullMost.data.toList.drop 94 = dktX9_pullMost_4 := dk_seg dksX9_pullMost_3 24 rfl rfl
theorem dksX9_pullMost_5 : cX9_pullMost.data.toList.drop 118 = dktX9_pullMost_5 := dk_seg dksX9_pullMost_4 24 rfl rfl
theorem dksX9_pullMost_6 : cX9_pullMost.data.toList.drop 140 = dktX9_pullMost_6 := dk_seg dksX9_pullMost_5 22 rfl rfl
theorem dX9_pullMost_0 : decode cX9_pullMost 0 = .ok (.aload_n 0, 1) := dk_42 (dk_at dksX9_pullMost_0 0 rfl rfl)
theorem dX9_pullMost_1 : decode cX9_pullMost 1 = .ok (.iload_n 1, 1) := dk_27 (dk_at dksX9_pullMost_0 1 rfl rfl)
theorem dX9_pullMost_2 : decode cX9_pullMost 2 = .ok (.invokevirtual 105, 3) := dk_182 0 105 (dk_at dksX9_pullMost_0 2 rfl rfl)
theorem dX9_pullMost_5 : decode cX9_pullMost 5 = .ok (.ifCond .eq 12, 3) := dk_153 0 12 (dk_at dksX9_pullMost_0 5 rfl rfl)
theorem dX9_pullMost_8 : decode cX9_pullMost 8 = .ok (.iload_n 2, 1) := dk_28 (dk_at dksX9_pullMost_0 8 rfl rfl)
theorem dX9_pullMost_9 : decode cX9_pullMost 9 = .ok (.bipush 30, 2) := dk_16 30 (dk_at dksX9_pullMost_0 9 rfl rfl)
theorem dX9_pullMost_11 : decode cX9_pullMost 11 = .ok (.invokestatic 128, 3) := dk_184 0 128 (dk_at dksX9_pullMost_0 11 rfl rfl)
theorem dX9_pullMost_14 : decode cX9_pullMost 14 = .ok (.goto 4, 3) := dk_167 0 4 (dk_at dksX9_pullMost_0 14 rfl rfl)
theorem dX9_pullMost_17 : decode cX9_pullMost 17 = .ok (.iconst (-1), 1) := dk_2 (dk_at dksX9_pullMost_0 17 rfl rfl)
theorem dX9_pullMost_18 : decode cX9_pullMost 18 = .ok (.istore 4, 2) := dk_54 4 (dk_at dksX9_pullMost_0 18 rfl rfl)
theorem dX9_pullMost_20 : decode cX9_pullMost 20 = .ok (.iload 4, 2) := dk_21 4 (dk_at dksX9_pullMost_0 20 rfl rfl)
theorem dX9_pullMost_22 : decode cX9_pullMost 22 = .ok (.ifCond .ne 16, 3) := dk_154 0 16 (dk_at dksX9_pullMost_1 0 rfl rfl)
theorem dX9_pullMost_25 : decode cX9_pullMost 25 = .ok (.iload_n 3, 1) := dk_29 (dk_at dksX9_pullMost_1 3 rfl rfl)
theorem dX9_pullMost_26 : decode cX9_pullMost 26 = .ok (.iconst 0, 1) := dk_3 (dk_at dksX9_pullMost_1 4 rfl rfl)
theorem dX9_pullMost_27 : decode cX9_pullMost 27 = .ok (.iconst 1, 1) := dk_4 (dk_at dksX9_pullMost_1 5 rfl rfl)
theorem dX9_pullMost_28 : decode cX9_pullMost 28 = .ok (.invokestatic 40, 3) := dk_184 0 40 (dk_at dksX9_pullMost_1 6 rfl rfl)
theorem dX9_pullMost_31 : decode cX9_pullMost 31 = .ok (.ifCond .ne 7, 3) := dk_154 0 7 (dk_at dksX9_pullMost_1 9 rfl rfl)
theorem dX9_pullMost_34 : decode cX9_pullMost 34 = .ok (.bipush (-2), 2) := dk_16 254 (dk_at dksX9_pullMost_1 12 rfl rfl)
theorem dX9_pullMost_36 : decode cX9_pullMost 36 = .ok (.istore 4, 2) := dk_54 4 (dk_at dksX9_pullMost_1 14 rfl rfl)
theorem dX9_pullMost_38 : decode cX9_pullMost 38 = .ok (.iload 4, 2) := dk_21 4 (dk_at dksX9_pullMost_1 16 rfl rfl)
theorem dX9_pullMost_40 : decode cX9_pullMost 40 = .ok (.ifCond .eq 10, 3) := dk_153 0 10 (dk_at dksX9_pullMost_1 18 rfl rfl)
theorem dX9_pullMost_43 : decode cX9_pullMost 43 = .ok (.aload_n 0, 1) := dk_42 (dk_at dksX9_pullMost_1 21 rfl rfl)
theorem dX9_pullMost_44 : decode cX9_pullMost 44 = .ok (.iload 4, 2) := dk_21 4 (dk_at dksX9_pullMost_1 22 rfl rfl)
theorem dX9_pullMost_46 : decode cX9_pullMost 46 = .ok (.invokevirtual 36, 3) := dk_182 0 36 (dk_at dksX9_pullMost_2 0 rfl rfl)
theorem dX9_pullMost_49 : decode cX9_pullMost 49 = .ok (.ireturn, 1) := dk_172 (dk_at dksX9_pullMost_2 3 rfl rfl)
theorem dX9_pullMost_50 : decode cX9_pullMost 50 = .ok (.bipush (-9), 2) := dk_16 247 (dk_at dksX9_pullMost_2 4 rfl rfl)
theorem dX9_pullMost_52 : decode cX9_pullMost 52 = .ok (.istore 5, 2) := dk_54 5 (dk_at dksX9_pullMost_2 6 rfl rfl)
theorem dX9_pullMost_54 : decode cX9_pullMost 54 = .ok (.iconst 0, 1) := dk_3 (dk_at dksX9_pullMost_2 8 rfl rfl)
theorem dX9_pullMost_55 : decode cX9_pullMost 55 = .ok (.istore 6, 2) := dk_54 6 (dk_at dksX9_pullMost_2 9 rfl rfl)
theorem dX9_pullMost_57 : decode cX9_pullMost 57 = .ok (.iload 6, 2) := dk_21 6 (dk_at dksX9_pullMost_2 11 rfl rfl)
theorem dX9_pullMost_59 : decode cX9_pullMost 59 = .ok (.iconst 1, 1) := dk_4 (dk_at dksX9_pullMost_2 13 rfl rfl)
theorem dX9_pullMost_60 : decode cX9_pullMost 60 = .ok (.aload_n 0, 1) := dk_42 (dk_at dksX9_pullMost_2 14 rfl rfl)
theorem dX9_pullMost_61 : decode cX9_pullMost 61 = .ok (.getfield 9, 3) := dk_180 0 9 (dk_at dksX9_pullMost_2 15 rfl rfl)
theorem dX9_pullMost_64 : decode cX9_pullMost 64 = .ok (.iconst 0, 1) := dk_3 (dk_at dksX9_pullMost_2 18 rfl rfl)
theorem dX9_pullMost_65 : decode cX9_pullMost 65 = .ok (.iaload, 1) := dk_46 (dk_at dksX9_pullMost_2 19 rfl rfl)
theorem dX9_pullMost_66 : decode cX9_pullMost 66 = .ok (.ishl, 1) := dk_120 (dk_at dksX9_pullMost_2 20 rfl rfl)
theorem dX9_pullMost_67 : decode cX9_pullMost 67 = .ok (.if_icmp .ge 71, 3) := dk_162 0 71 (dk_at dksX9_pullMost_2 21 rfl rfl)
theorem dX9_pullMost_70 : decode cX9_pullMost 70 = .ok (.iload 6, 2) := dk_21 6 (dk_at dksX9_pullMost_3 0 rfl rfl)
theorem dX9_pullMost_72 : decode cX9_pullMost 72 = .ok (.iload_n 1, 1) := dk_27 (dk_at dksX9_pullMost_3 2 rfl rfl)
theorem dX9_pullMost_73 : decode cX9_pullMost 73 = .ok (.invokestatic 51, 3) := dk_184 0 51 (dk_at dksX9_pullMost_3 3 rfl rfl)
theorem dX9_pullMost_76 : decode cX9_pullMost 76 = .ok (.ifCond .ne 56, 3) := dk_154 0 56 (dk_at dksX9_pullMost_3 6 rfl rfl)
theorem dX9_pullMost_79 : decode cX9_pullMost 79 = .ok (.iload 5, 2) := dk_21 5 (dk_at dksX9_pullMost_3 9 rfl rfl)
theorem dX9_pullMost_81 : decode cX9_pullMost 81 = .ok (.ifCond .lt 16, 3) := dk_155 0 16 (dk_at dksX9_pullMost_3 11 rfl rfl)
theorem dX9_pullMost_84 : decode cX9_pullMost 84 = .ok (.iload 6, 2) := dk_21 6 (dk_at dksX9_pullMost_3 14 rfl rfl)
theorem dX9_pullMost_86 : decode cX9_pullMost 86 = .ok (.invokestatic 67, 3) := dk_184 0 67 (dk_at dksX9_pullMost_3 16 rfl rfl)
theorem dX9_pullMost_89 : decode cX9_pullMost 89 = .ok (.iload 5, 2) := dk_21 5 (dk_at dksX9_pullMost_3 19 rfl rfl)
theorem dX9_pullMost_91 : decode cX9_pullMost 91 = .ok (.invokestatic 67, 3) := dk_184 0 67 (dk_at dksX9_pullMost_3 21 rfl rfl)
theorem dX9_pullMost_94 : decode cX9_pullMost 94 = .ok (.if_icmp .le 38, 3) := dk_164 0 38 (dk_at dksX9_pullMost_4 0 rfl rfl)
theorem dX9_pullMost_97 : decode cX9_pullMost 97 = .ok (.aload_n 0, 1) := dk_42 (dk_at dksX9_pullMost_4 3 rfl rfl)
theorem dX9_pullMost_98 : decode cX9_pullMost 98 = .ok (.iload 6, 2) := dk_21 6 (dk_at dksX9_pullMost_4 4 rfl rfl)
theorem dX9_pullMost_100 : decode cX9_pullMost 100 = .ok (.invokevirtual 151, 3) := dk_182 0 151 (dk_at dksX9_pullMost_4 6 rfl rfl)
theorem dX9_pullMost_103 : decode cX9_pullMost 103 = .ok (.ifCond .ne 6, 3) := dk_154 0 6 (dk_at dksX9_pullMost_4 9 rfl rfl)
theorem dX9_pullMost_106 : decode cX9_pullMost 106 = .ok (.goto 26, 3) := dk_167 0 26 (dk_at dksX9_pullMost_4 12 rfl rfl)
theorem dX9_pullMost_109 : decode cX9_pullMost 109 = .ok (.aload_n 0, 1) := dk_42 (dk_at dksX9_pullMost_4 15 rfl rfl)
theorem dX9_pullMost_110 : decode cX9_pullMost 110 = .ok (.getfield 13, 3) := dk_180 0 13 (dk_at dksX9_pullMost_4 16 rfl rfl)
theorem dX9_pullMost_113 : decode cX9_pullMost 113 = .ok (.iload_n 2, 1) := dk_28 (dk_at dksX9_pullMost_4 19 rfl rfl)
theorem dX9_pullMost_114 : decode cX9_pullMost 114 = .ok (.invokestatic 115, 3) := dk_184 0 115 (dk_at dksX9_pullMost_4 20 rfl rfl)
theorem dX9_pullMost_117 : decode cX9_pullMost 117 = .ok (.aload_n 0, 1) := dk_42 (dk_at dksX9_pullMost_4 23 rfl rfl)
theorem dX9_pullMost_118 : decode cX9_pullMost 118 = .ok (.getfield 13, 3) := dk_180 0 13 (dk_at dksX9_pullMost_5 0 rfl rfl)
theorem dX9_pullMost_121 : decode cX9_pullMost 121 = .ok (.iload_n 1, 1) := dk_27 (dk_at dksX9_pullMost_5 3 rfl rfl)
theorem dX9_pullMost_122 : decode cX9_pullMost 122 = .ok (.invokestatic 55, 3) := dk_184 0 55 (dk_at dksX9_pullMost_5 4 rfl rfl)
theorem dX9_pullMost_125 : decode cX9_pullMost 125 = .ok (.ifCond .eq 7, 3) := dk_153 0 7 (dk_at dksX9_pullMost_5 7 rfl rfl)
theorem dX9_pullMost_128 : decode cX9_pullMost 128 = .ok (.iload 6, 2) := dk_21 6 (dk_at dksX9_pullMost_5 10 rfl rfl)
theorem dX9_pullMost_130 : decode cX9_pullMost 130 = .ok (.istore 5, 2) := dk_54 5 (dk_at dksX9_pullMost_5 12 rfl rfl)
theorem dX9_pullMost_132 : decode cX9_pullMost 132 = .ok (.iinc 6 1, 3) := dk_132 6 1 (dk_at dksX9_pullMost_5 14 rfl rfl)
theorem dX9_pullMost_135 : decode cX9_pullMost 135 = .ok (.goto (-78), 3) := dk_167 255 178 (dk_at dksX9_pullMost_5 17 rfl rfl)
theorem dX9_pullMost_138 : decode cX9_pullMost 138 = .ok (.iload 5, 2) := dk_21 5 (dk_at dksX9_pullMost_5 20 rfl rfl)
theorem dX9_pullMost_140 : decode cX9_pullMost 140 = .ok (.ifCond .lt 8, 3) := dk_155 0 8 (dk_at dksX9_pullMost_6 0 rfl rfl)
theorem dX9_pullMost_143 : decode cX9_pullMost 143 = .ok (.iload_n 3, 1) := dk_29 (dk_at dksX9_pullMost_6 3 rfl rfl)
theorem dX9_pullMost_144 : decode cX9_pullMost 144 = .ok (.iconst 1, 1) := dk_4 (dk_at dksX9_pullMost_6 4 rfl rfl)
theorem dX9_pullMost_145 : decode cX9_pullMost 145 = .ok (.if_icmp .ne 8, 3) := dk_160 0 8 (dk_at dksX9_pullMost_6 5 rfl rfl)
theorem dX9_pullMost_148 : decode cX9_pullMost 148 = .ok (.iload 5, 2) := dk_21 5 (dk_at dksX9_pullMost_6 8 rfl rfl)
theorem dX9_pullMost_150 : decode cX9_pullMost 150 = .ok (.goto 8, 3) := dk_167 0 8 (dk_at dksX9_pullMost_6 10 rfl rfl)
theorem dX9_pullMost_153 : decode cX9_pullMost 153 = .ok (.iload 5, 2) := dk_21 5 (dk_at dksX9_pullMost_6 13 rfl rfl)
theorem dX9_pullMost_155 : decode cX9_pullMost 155 = .ok (.invokestatic 67, 3) := dk_184 0 67 (dk_at dksX9_pullMost_6 15 rfl rfl)
theorem dX9_pullMost_158 : decode cX9_pullMost 158 = .ok (.ireturn, 1) := dk_172 (dk_at dksX9_pullMost_6 18 rfl rfl)
abbrev cX9_pullsSet : ByteArray := prog_22_method_51_code
def yX9_pullsSet : MethodName := ⟨RX9, "pullsSet", "(I)Z"⟩
def dkwX9_pullsSet_2 : List UInt8 := [180, 0, 13, 28, 16, 9, 184, 0, 112, 62, 132, 2, 1, 167, 255, 208, 4, 172]
abbrev dktX9_pullsSet_2 : List UInt8 := dkwX9_pullsSet_2 ++ []
def dkwX9_pullsSet_1 : List UInt8 := [28, 184, 0, 51, 154, 0, 6, 167, 0, 27, 42, 180, 0, 13, 28, 184, 0, 55, 154, 0, 5, 3, 172, 42]
abbrev dktX9_pullsSet_1 : List UInt8 := dkwX9_pullsSet_1 ++ dktX9_pullsSet_2
def dkwX9_pullsSet_0 : List UInt8 := [42, 180, 0, 9, 42, 180, 0, 13, 184, 0, 121, 3, 61, 28, 42, 180, 0, 9, 3, 46, 162, 0, 44, 27]
abbrev dktX9_pullsSet_0 : List UInt8 := dkwX9_pullsSet_0 ++ dktX9_pullsSet_1
theorem dksX9_pullsSet_0 : cX9_pullsSet.data.toList.drop 0 = dktX9_pullsSet_0 := by decide +kernel
theorem dksX9_pullsSet_1 : cX9_pullsSet.data.toList.drop 24 = dktX9_pullsSet_1 := dk_seg dksX9_pullsSet_0 24 rfl rfl
theorem dksX9_pullsSet_2 : cX9_pullsSet.data.toList.drop 48 = dktX9_pullsSet_2 := dk_seg dksX9_pullsSet_1 24 rfl rfl
theorem dX9_pullsSet_0 : decode cX9_pullsSet 0 = .ok (.aload_n 0, 1) := dk_42 (dk_at dksX9_pullsSet_0 0 rfl rfl)
theorem dX9_pullsSet_1 : decode cX9_pullsSet 1 = .ok (.getfield 9, 3) := dk_180 0 9 (dk_at dksX9_pullsSet_0 1 rfl rfl)
theorem dX9_pullsSet_4 : decode cX9_pullsSet 4 = .ok (.aload_n 0, 1) := dk_42 (dk_at dksX9_pullsSet_0 4 rfl rfl)
theorem dX9_pullsSet_5 : decode cX9_pullsSet 5 = .ok (.getfield 13, 3) := dk_180 0 13 (dk_at dksX9_pullsSet_0 5 rfl rfl)
theorem dX9_pullsSet_8 : decode cX9_pullsSet 8 = .ok (.invokestatic 121, 3) := dk_184 0 121 (dk_at dksX9_pullsSet_0 8 rfl rfl)
theorem dX9_pullsSet_11 : decode cX9_pullsSet 11 = .ok (.iconst 0, 1) := dk_3 (dk_at dksX9_pullsSet_0 11 rfl rfl)
theorem dX9_pullsSet_12 : decode cX9_pullsSet 12 = .ok (.istore_n 2, 1) := dk_61 (dk_at dksX9_pullsSet_0 12 rfl rfl)
theorem dX9_pullsSet_13 : decode cX9_pullsSet 13 = .ok (.iload_n 2, 1) := dk_28 (dk_at dksX9_pullsSet_0 13 rfl rfl)
theorem dX9_pullsSet_14 : decode cX9_pullsSet 14 = .ok (.aload_n 0, 1) := dk_42 (dk_at dksX9_pullsSet_0 14 rfl rfl)
theorem dX9_pullsSet_15 : decode cX9_pullsSet 15 = .ok (.getfield 9, 3) := dk_180 0 9 (dk_at dksX9_pullsSet_0 15 rfl rfl)
theorem dX9_pullsSet_18 : decode cX9_pullsSet 18 = .ok (.iconst 0, 1) := dk_3 (dk_at dksX9_pullsSet_0 18 rfl rfl)
theorem dX9_pullsSet_19 : decode cX9_pullsSet 19 = .ok (.iaload, 1) := dk_46 (dk_at dksX9_pullsSet_0 19 rfl rfl)
theorem dX9_pullsSet_20 : decode cX9_pullsSet 20 = .ok (.if_icmp .ge 44, 3) := dk_162 0 44 (dk_at dksX9_pullsSet_0 20 rfl rfl)
theorem dX9_pullsSet_23 : decode cX9_pullsSet 23 = .ok (.iload_n 1, 1) := dk_27 (dk_at dksX9_pullsSet_0 23 rfl rfl)
theorem dX9_pullsSet_24 : decode cX9_pullsSet 24 = .ok (.iload_n 2, 1) := dk_28 (dk_at dksX9_pullsSet_1 0 rfl rfl)
theorem dX9_pullsSet_25 : decode cX9_pullsSet 25 = .ok (.invokestatic 51, 3) := dk_184 0 51 (dk_at dksX9_pullsSet_1 1 rfl rfl)
theorem dX9_pullsSet_28 : decode cX9_pullsSet 28 = .ok (.ifCond .ne 6, 3) := dk_154 0 6 (dk_at dksX9_pullsSet_1 4 rfl rfl)
theorem dX9_pullsSet_31 : decode cX9_pullsSet 31 = .ok (.goto 27, 3) := dk_167 0 27 (dk_at dksX9_pullsSet_1 7 rfl rfl)
theorem dX9_pullsSet_34 : decode cX9_pullsSet 34 = .ok (.aload_n 0, 1) := dk_42 (dk_at dksX9_pullsSet_1 10 rfl rfl)
theorem dX9_pullsSet_35 : decode cX9_pullsSet 35 = .ok (.getfield 13, 3) := dk_180 0 13 (dk_at dksX9_pullsSet_1 11 rfl rfl)
theorem dX9_pullsSet_38 : decode cX9_pullsSet 38 = .ok (.iload_n 2, 1) := dk_28 (dk_at dksX9_pullsSet_1 14 rfl rfl)
theorem dX9_pullsSet_39 : decode cX9_pullsSet 39 = .ok (.invokestatic 55, 3) := dk_184 0 55 (dk_at dksX9_pullsSet_1 15 rfl rfl)
theorem dX9_pullsSet_42 : decode cX9_pullsSet 42 = .ok (.ifCond .ne 5, 3) := dk_154 0 5 (dk_at dksX9_pullsSet_1 18 rfl rfl)
theorem dX9_pullsSet_45 : decode cX9_pullsSet 45 = .ok (.iconst 0, 1) := dk_3 (dk_at dksX9_pullsSet_1 21 rfl rfl)
theorem dX9_pullsSet_46 : decode cX9_pullsSet 46 = .ok (.ireturn, 1) := dk_172 (dk_at dksX9_pullsSet_1 22 rfl rfl)
theorem dX9_pullsSet_47 : decode cX9_pullsSet 47 = .ok (.aload_n 0, 1) := dk_42 (dk_at dksX9_pullsSet_1 23 rfl rfl)
theorem dX9_pullsSet_48 : decode cX9_pullsSet 48 = .ok (.getfield 13, 3) := dk_180 0 13 (dk_at dksX9_pullsSet_2 0 rfl rfl)
theorem dX9_pullsSet_51 : decode cX9_pullsSet 51 = .ok (.iload_n 2, 1) := dk_28 (dk_at dksX9_pullsSet_2 3 rfl rfl)
theorem dX9_pullsSet_52 : decode cX9_pullsSet 52 = .ok (.bipush 9, 2) := dk_16 9 (dk_at dksX9_pullsSet_2 4 rfl rfl)
theorem dX9_pullsSet_54 : decode cX9_pullsSet 54 = .ok (.invokestatic 112, 3) := dk_184 0 112 (dk_at dksX9_pullsSet_2 6 rfl rfl)
theorem dX9_pullsSet_57 : decode cX9_pullsSet 57 = .ok (.istore_n 3, 1) := dk_62 (dk_at dksX9_pullsSet_2 9 rfl rfl)
theorem dX9_pullsSet_58 : decode cX9_pullsSet 58 = .ok (.iinc 2 1, 3) := dk_132 2 1 (dk_at dksX9_pullsSet_2 10 rfl rfl)
theorem dX9_pullsSet_61 : decode cX9_pullsSet 61 = .ok (.goto (-48), 3) := dk_167 255 208 (dk_at dksX9_pullsSet_2 13 rfl rfl)
theorem dX9_pullsSet_64 : decode cX9_pullsSet 64 = .ok (.iconst 1, 1) := dk_4 (dk_at dksX9_pullsSet_2 16 rfl rfl)
theorem dX9_pullsSet_65 : decode cX9_pullsSet 65 = .ok (.ireturn, 1) := dk_172 (dk_at dksX9_pullsSet_2 17 rfl rfl)
abbrev cX9_key : ByteArray := prog_22_method_53_code
def yX9_key : MethodName := ⟨RX9, "key", "(I)I"⟩
def dkwX9_key_3 : List UInt8 := [167, 0, 12, 21, 5, 62, 42, 182, 0, 138, 54, 4, 132, 5, 1, 167, 255, 199, 29, 172]
abbrev dktX9_key_3 : List UInt8 := dkwX9_key_3 ++ []
def dkwX9_key_2 : List UInt8 := [154, 0, 6, 167, 0, 32, 42, 180, 0, 13, 27, 184, 0, 115, 42, 182, 0, 138, 21, 4, 161, 0, 6]
abbrev dktX9_key_2 : List UInt8 := dkwX9_key_2 ++ dktX9_key_3
def dkwX9_key_1 : List UInt8 := [3, 54, 5, 21, 5, 42, 180, 0, 9, 3, 46, 162, 0, 52, 42, 4, 21, 5, 120, 182, 0, 151]
abbrev dktX9_key_1 : List UInt8 := dkwX9_key_1 ++ dktX9_key_2
def dkwX9_key_0 : List UInt8 := [27, 16, 99, 184, 0, 128, 61, 28, 153, 0, 9, 42, 28, 182, 0, 36, 172, 16, 247, 62, 18, 147, 54, 4]
abbrev dktX9_key_0 : List UInt8 := dkwX9_key_0 ++ dktX9_key_1
theorem dksX9_key_0 : cX9_key.data.toList.drop 0 = dktX9_key_0 := by decide +kernel
theorem dksX9_key_1 : cX9_key.data.toList.drop 24 = dktX9_key_1 := dk_seg dksX9_key_0 24 rfl rfl
theorem dksX9_key_2 : cX9_key.data.toList.drop 46 = dktX9_key_2 := dk_seg dksX9_key_1 22 rfl rfl
theorem dksX9_key_3 : cX9_key.data.toList.drop 69 = dktX9_key_3 := dk_seg dksX9_key_2 23 rfl rfl
theorem dX9_key_0 : decode cX9_key 0 = .ok (.iload_n 1, 1) := dk_27 (dk_at dksX9_key_0 0 rfl rfl)
theorem dX9_key_1 : decode cX9_key 1 = .ok (.bipush 99, 2) := dk_16 99 (dk_at dksX9_key_0 1 rfl rfl)
theorem dX9_key_3 : decode cX9_key 3 = .ok (.invokestatic 128, 3) := dk_184 0 128 (dk_at dksX9_key_0 3 rfl rfl)
theorem dX9_key_6 : decode cX9_key 6 = .ok (.istore_n 2, 1) := dk_61 (dk_at dksX9_key_0 6 rfl rfl)
theorem dX9_key_7 : decode cX9_key 7 = .ok (.iload_n 2, 1) := dk_28 (dk_at dksX9_key_0 7 rfl rfl)
theorem dX9_key_8 : decode cX9_key 8 = .ok (.ifCond .eq 9, 3) := dk_153 0 9 (dk_at dksX9_key_0 8 rfl rfl)
theorem dX9_key_11 : decode cX9_key 11 = .ok (.aload_n 0, 1) := dk_42 (dk_at dksX9_key_0 11 rfl rfl)
theorem dX9_key_12 : decode cX9_key 12 = .ok (.iload_n 2, 1) := dk_28 (dk_at dksX9_key_0 12 rfl rfl)
theorem dX9_key_13 : decode cX9_key 13 = .ok (.invokevirtual 36, 3) := dk_182 0 36 (dk_at dksX9_key_0 13 rfl rfl)
theorem dX9_key_16 : decode cX9_key 16 = .ok (.ireturn, 1) := dk_172 (dk_at dksX9_key_0 16 rfl rfl)
theorem dX9_key_17 : decode cX9_key 17 = .ok (.bipush (-9), 2) := dk_16 247 (dk_at dksX9_key_0 17 rfl rfl)
theorem dX9_key_19 : decode cX9_key 19 = .ok (.istore_n 3, 1) := dk_62 (dk_at dksX9_key_0 19 rfl rfl)
theorem dX9_key_20 : decode cX9_key 20 = .ok (.ldc 147, 2) := dk_18 147 (dk_at dksX9_key_0 20 rfl rfl)
theorem dX9_key_22 : decode cX9_key 22 = .ok (.istore 4, 2) := dk_54 4 (dk_at dksX9_key_0 22 rfl rfl)
theorem dX9_key_24 : decode cX9_key 24 = .ok (.iconst 0, 1) := dk_3 (dk_at dksX9_key_1 0 rfl rfl)
theorem dX9_key_25 : decode cX9_key 25 = .ok (.istore 5, 2) := dk_54 5 (dk_at dksX9_key_1 1 rfl rfl)
theorem dX9_key_27 : decode cX9_key 27 = .ok (.iload 5, 2) := dk_21 5 (dk_at dksX9_key_1 3 rfl rfl)
theorem dX9_key_29 : decode cX9_key 29 = .ok (.aload_n 0, 1) := dk_42 (dk_at dksX9_key_1 5 rfl rfl)
theorem dX9_key_30 : decode cX9_key 30 = .ok (.getfield 9, 3) := dk_180 0 9 (dk_at dksX9_key_1 6 rfl rfl)
theorem dX9_key_33 : decode cX9_key 33 = .ok (.iconst 0, 1) := dk_3 (dk_at dksX9_key_1 9 rfl rfl)
theorem dX9_key_34 : decode cX9_key 34 = .ok (.iaload, 1) := dk_46 (dk_at dksX9_key_1 10 rfl rfl)
theorem dX9_key_35 : decode cX9_key 35 = .ok (.if_icmp .ge 52, 3) := dk_162 0 52 (dk_at dksX9_key_1 11 rfl rfl)
theorem dX9_key_38 : decode cX9_key 38 = .ok (.aload_n 0, 1) := dk_42 (dk_at dksX9_key_1 14 rfl rfl)
theorem dX9_key_39 : decode cX9_key 39 = .ok (.iconst 1, 1) := dk_4 (dk_at dksX9_key_1 15 rfl rfl)
theorem dX9_key_40 : decode cX9_key 40 = .ok (.iload 5, 2) := dk_21 5 (dk_at dksX9_key_1 16 rfl rfl)
theorem dX9_key_42 : decode cX9_key 42 = .ok (.ishl, 1) := dk_120 (dk_at dksX9_key_1 18 rfl rfl)
theorem dX9_key_43 : decode cX9_key 43 = .ok (.invokevirtual 151, 3) := dk_182 0 151 (dk_at dksX9_key_1 19 rfl rfl)
theorem dX9_key_46 : decode cX9_key 46 = .ok (.ifCond .ne 6, 3) := dk_154 0 6 (dk_at dksX9_key_2 0 rfl rfl)
theorem dX9_key_49 : decode cX9_key 49 = .ok (.goto 32, 3) := dk_167 0 32 (dk_at dksX9_key_2 3 rfl rfl)
theorem dX9_key_52 : decode cX9_key 52 = .ok (.aload_n 0, 1) := dk_42 (dk_at dksX9_key_2 6 rfl rfl)
theorem dX9_key_53 : decode cX9_key 53 = .ok (.getfield 13, 3) := dk_180 0 13 (dk_at dksX9_key_2 7 rfl rfl)
theorem dX9_key_56 : decode cX9_key 56 = .ok (.iload_n 1, 1) := dk_27 (dk_at dksX9_key_2 10 rfl rfl)
theorem dX9_key_57 : decode cX9_key 57 = .ok (.invokestatic 115, 3) := dk_184 0 115 (dk_at dksX9_key_2 11 rfl rfl)
theorem dX9_key_60 : decode cX9_key 60 = .ok (.aload_n 0, 1) := dk_42 (dk_at dksX9_key_2 14 rfl rfl)
theorem dX9_key_61 : decode cX9_key 61 = .ok (.invokevirtual 138, 3) := dk_182 0 138 (dk_at dksX9_key_2 15 rfl rfl)
theorem dX9_key_64 : decode cX9_key 64 = .ok (.iload 4, 2) := dk_21 4 (dk_at dksX9_key_2 18 rfl rfl)
theorem dX9_key_66 : decode cX9_key 66 = .ok (.if_icmp .lt 6, 3) := dk_161 0 6 (dk_at dksX9_key_2 20 rfl rfl)
theorem dX9_key_69 : decode cX9_key 69 = .ok (.goto 12, 3) := dk_167 0 12 (dk_at dksX9_key_3 0 rfl rfl)
theorem dX9_key_72 : decode cX9_key 72 = .ok (.iload 5, 2) := dk_21 5 (dk_at dksX9_key_3 3 rfl rfl)
theorem dX9_key_74 : decode cX9_key 74 = .ok (.istore_n 3, 1) := dk_62 (dk_at dksX9_key_3 5 rfl rfl)
theorem dX9_key_75 : decode cX9_key 75 = .ok (.aload_n 0, 1) := dk_42 (dk_at dksX9_key_3 6 rfl rfl)
theorem dX9_key_76 : decode cX9_key 76 = .ok (.invokevirtual 138, 3) := dk_182 0 138 (dk_at dksX9_key_3 7 rfl rfl)
theorem dX9_key_79 : decode cX9_key 79 = .ok (.istore 4, 2) := dk_54 4 (dk_at dksX9_key_3 10 rfl rfl)
theorem dX9_key_81 : decode cX9_key 81 = .ok (.iinc 5 1, 3) := dk_132 5 1 (dk_at dksX9_key_3 12 rfl rfl)
theorem dX9_key_84 : decode cX9_key 84 = .ok (.goto (-57), 3) := dk_167 255 199 (dk_at dksX9_key_3 15 rfl rfl)
theorem dX9_key_87 : decode cX9_key 87 = .ok (.iload_n 3, 1) := dk_29 (dk_at dksX9_key_3 18 rfl rfl)
theorem dX9_key_88 : decode cX9_key 88 = .ok (.ireturn, 1) := dk_172 (dk_at dksX9_key_3 19 rfl rfl)
abbrev cX9_prop : ByteArray := prog_22_method_54_code
def yX9_prop : MethodName := ⟨RX9, "prop", "(I)I"⟩
def dkwX9_prop_4 : List UInt8 := [180, 0, 13, 3, 184, 0, 73, 29, 160, 0, 7, 21, 5, 54, 4, 132, 5, 1, 167, 255, 179, 21, 4, 172]
abbrev dktX9_prop_4 : List UInt8 := dkwX9_prop_4 ++ []
def dkwX9_prop_3 : List UInt8 := [180, 0, 13, 184, 0, 121, 42, 180, 0, 13, 6, 21, 5, 79, 42, 180, 0, 13, 27, 184, 0, 115, 42]
abbrev dktX9_prop_3 : List UInt8 := dkwX9_prop_3 ++ dktX9_prop_4
def dkwX9_prop_2 : List UInt8 := [154, 0, 62, 21, 5, 184, 0, 67, 21, 4, 184, 0, 67, 161, 0, 6, 167, 0, 46, 42, 180, 0, 9, 42]
abbrev dktX9_prop_2 : List UInt8 := dkwX9_prop_2 ++ dktX9_prop_3
def dkwX9_prop_1 : List UInt8 := [184, 0, 73, 62, 29, 54, 4, 3, 54, 5, 21, 5, 29, 162, 0, 77, 21, 5, 29, 2, 130, 126]
abbrev dktX9_prop_1 : List UInt8 := dkwX9_prop_1 ++ dktX9_prop_2
def dkwX9_prop_0 : List UInt8 := [27, 16, 99, 184, 0, 128, 61, 28, 153, 0, 9, 42, 28, 182, 0, 36, 172, 42, 180, 0, 9, 3]
abbrev dktX9_prop_0 : List UInt8 := dkwX9_prop_0 ++ dktX9_prop_1
theorem dksX9_prop_0 : cX9_prop.data.toList.drop 0 = dktX9_prop_0 := by decide +kernel
theorem dksX9_prop_1 : cX9_prop.data.toList.drop 22 = dktX9_prop_1 := dk_seg dksX9_prop_0 22 rfl rfl
theorem dksX9_prop_2 : cX9_prop.data.toList.drop 44 = dktX9_prop_2 := dk_seg dksX9_prop_1 22 rfl rfl
theorem dksX9_prop_3 : cX9_prop.data.toList.drop 68 = dktX9_prop_3 := dk_seg dksX9_prop_2 24 rfl rfl
theorem dksX9_prop_4 : cX9_prop.data.toList.drop 91 = dktX9_prop_4 := dk_seg dksX9_prop_3 23 rfl rfl
theorem dX9_prop_0 : decode cX9_prop 0 = .ok (.iload_n 1, 1) := dk_27 (dk_at dksX9_prop_0 0 rfl rfl)
theorem dX9_prop_1 : decode cX9_prop 1 = .ok (.bipush 99, 2) := dk_16 99 (dk_at dksX9_prop_0 1 rfl rfl)
theorem dX9_prop_3 : decode cX9_prop 3 = .ok (.invokestatic 128, 3) := dk_184 0 128 (dk_at dksX9_prop_0 3 rfl rfl)
theorem dX9_prop_6 : decode cX9_prop 6 = .ok (.istore_n 2, 1) := dk_61 (dk_at dksX9_prop_0 6 rfl rfl)
theorem dX9_prop_7 : decode cX9_prop 7 = .ok (.iload_n 2, 1) := dk_28 (dk_at dksX9_prop_0 7 rfl rfl)
theorem dX9_prop_8 : decode cX9_prop 8 = .ok (.ifCond .eq 9, 3) := dk_153 0 9 (dk_at dksX9_prop_0 8 rfl rfl)
theorem dX9_prop_11 : decode cX9_prop 11 = .ok (.aload_n 0, 1) := dk_42 (dk_at dksX9_prop_0 11 rfl rfl)
theorem dX9_prop_12 : decode cX9_prop 12 = .ok (.iload_n 2, 1) := dk_28 (dk_at dksX9_prop_0 12 rfl rfl)
theorem dX9_prop_13 : decode cX9_prop 13 = .ok (.invokevirtual 36, 3) := dk_182 0 36 (dk_at dksX9_prop_0 13 rfl rfl)
theorem dX9_prop_16 : decode cX9_prop 16 = .ok (.ireturn, 1) := dk_172 (dk_at dksX9_prop_0 16 rfl rfl)
theorem dX9_prop_17 : decode cX9_prop 17 = .ok (.aload_n 0, 1) := dk_42 (dk_at dksX9_prop_0 17 rfl rfl)
theorem dX9_prop_18 : decode cX9_prop 18 = .ok (.getfield 9, 3) := dk_180 0 9 (dk_at dksX9_prop_0 18 rfl rfl)
theorem dX9_prop_21 : decode cX9_prop 21 = .ok (.iconst 0, 1) := dk_3 (dk_at dksX9_prop_0 21 rfl rfl)
theorem dX9_prop_22 : decode cX9_prop 22 = .ok (.invokestatic 73, 3) := dk_184 0 73 (dk_at dksX9_prop_1 0 rfl rfl)
theorem dX9_prop_25 : decode cX9_prop 25 = .ok (.istore_n 3, 1) := dk_62 (dk_at dksX9_prop_1 3 rfl rfl)
theorem dX9_prop_26 : decode cX9_prop 26 = .ok (.iload_n 3, 1) := dk_29 (dk_at dksX9_prop_1 4 rfl rfl)
theorem dX9_prop_27 : decode cX9_prop 27 = .ok (.istore 4, 2) := dk_54 4 (dk_at dksX9_prop_1 5 rfl rfl)
theorem dX9_prop_29 : decode cX9_prop 29 = .ok (.iconst 0, 1) := dk_3 (dk_at dksX9_prop_1 7 rfl rfl)
theorem dX9_prop_30 : decode cX9_prop 30 = .ok (.istore 5, 2) := dk_54 5 (dk_at dksX9_prop_1 8 rfl rfl)
theorem dX9_prop_32 : decode cX9_prop 32 = .ok (.iload 5, 2) := dk_21 5 (dk_at dksX9_prop_1 10 rfl rfl)
theorem dX9_prop_34 : decode cX9_prop 34 = .ok (.iload_n 3, 1) := dk_29 (dk_at dksX9_prop_1 12 rfl rfl)
theorem dX9_prop_35 : decode cX9_prop 35 = .ok (.if_icmp .ge 77, 3) := dk_162 0 77 (dk_at dksX9_prop_1 13 rfl rfl)
theorem dX9_prop_38 : decode cX9_prop 38 = .ok (.iload 5, 2) := dk_21 5 (dk_at dksX9_prop_1 16 rfl rfl)
theorem dX9_prop_40 : decode cX9_prop 40 = .ok (.iload_n 3, 1) := dk_29 (dk_at dksX9_prop_1 18 rfl rfl)
theorem dX9_prop_41 : decode cX9_prop 41 = .ok (.iconst (-1), 1) := dk_2 (dk_at dksX9_prop_1 19 rfl rfl)
theorem dX9_prop_42 : decode cX9_prop 42 = .ok (.ixor, 1) := dk_130 (dk_at dksX9_prop_1 20 rfl rfl)
theorem dX9_prop_43 : decode cX9_prop 43 = .ok (.iand, 1) := dk_126 (dk_at dksX9_prop_1 21 rfl rfl)
theorem dX9_prop_44 : decode cX9_prop 44 = .ok (.ifCond .ne 62, 3) := dk_154 0 62 (dk_at dksX9_prop_2 0 rfl rfl)
theorem dX9_prop_47 : decode cX9_prop 47 = .ok (.iload 5, 2) := dk_21 5 (dk_at dksX9_prop_2 3 rfl rfl)
theorem dX9_prop_49 : decode cX9_prop 49 = .ok (.invokestatic 67, 3) := dk_184 0 67 (dk_at dksX9_prop_2 5 rfl rfl)
theorem dX9_prop_52 : decode cX9_prop 52 = .ok (.iload 4, 2) := dk_21 4 (dk_at dksX9_prop_2 8 rfl rfl)
theorem dX9_prop_54 : decode cX9_prop 54 = .ok (.invokestatic 67, 3) := dk_184 0 67 (dk_at dksX9_prop_2 10 rfl rfl)
theorem dX9_prop_57 : decode cX9_prop 57 = .ok (.if_icmp .lt 6, 3) := dk_161 0 6 (dk_at dksX9_prop_2 13 rfl rfl)
theorem dX9_prop_60 : decode cX9_prop 60 = .ok (.goto 46, 3) := dk_167 0 46 (dk_at dksX9_prop_2 16 rfl rfl)
theorem dX9_prop_63 : decode cX9_prop 63 = .ok (.aload_n 0, 1) := dk_42 (dk_at dksX9_prop_2 19 rfl rfl)
theorem dX9_prop_64 : decode cX9_prop 64 = .ok (.getfield 9, 3) := dk_180 0 9 (dk_at dksX9_prop_2 20 rfl rfl)
theorem dX9_prop_67 : decode cX9_prop 67 = .ok (.aload_n 0, 1) := dk_42 (dk_at dksX9_prop_2 23 rfl rfl)
theorem dX9_prop_68 : decode cX9_prop 68 = .ok (.getfield 13, 3) := dk_180 0 13 (dk_at dksX9_prop_3 0 rfl rfl)
theorem dX9_prop_71 : decode cX9_prop 71 = .ok (.invokestatic 121, 3) := dk_184 0 121 (dk_at dksX9_prop_3 3 rfl rfl)
theorem dX9_prop_74 : decode cX9_prop 74 = .ok (.aload_n 0, 1) := dk_42 (dk_at dksX9_prop_3 6 rfl rfl)
theorem dX9_prop_75 : decode cX9_prop 75 = .ok (.getfield 13, 3) := dk_180 0 13 (dk_at dksX9_prop_3 7 rfl rfl)
theorem dX9_prop_78 : decode cX9_prop 78 = .ok (.iconst 3, 1) := dk_6 (dk_at dksX9_prop_3 10 rfl rfl)
theorem dX9_prop_79 : decode cX9_prop 79 = .ok (.iload 5, 2) := dk_21 5 (dk_at dksX9_prop_3 11 rfl rfl)
theorem dX9_prop_81 : decode cX9_prop 81 = .ok (.iastore, 1) := dk_79 (dk_at dksX9_prop_3 13 rfl rfl)
theorem dX9_prop_82 : decode cX9_prop 82 = .ok (.aload_n 0, 1) := dk_42 (dk_at dksX9_prop_3 14 rfl rfl)
theorem dX9_prop_83 : decode cX9_prop 83 = .ok (.getfield 13, 3) := dk_180 0 13 (dk_at dksX9_prop_3 15 rfl rfl)
theorem dX9_prop_86 : decode cX9_prop 86 = .ok (.iload_n 1, 1) := dk_27 (dk_at dksX9_prop_3 18 rfl rfl)
theorem dX9_prop_87 : decode cX9_prop 87 = .ok (.invokestatic 115, 3) := dk_184 0 115 (dk_at dksX9_prop_3 19 rfl rfl)
theorem dX9_prop_90 : decode cX9_prop 90 = .ok (.aload_n 0, 1) := dk_42 (dk_at dksX9_prop_3 22 rfl rfl)
theorem dX9_prop_91 : decode cX9_prop 91 = .ok (.getfield 13, 3) := dk_180 0 13 (dk_at dksX9_prop_4 0 rfl rfl)
theorem dX9_prop_94 : decode cX9_prop 94 = .ok (.iconst 0, 1) := dk_3 (dk_at dksX9_prop_4 3 rfl rfl)
theorem dX9_prop_95 : decode cX9_prop 95 = .ok (.invokestatic 73, 3) := dk_184 0 73 (dk_at dksX9_prop_4 4 rfl rfl)
theorem dX9_prop_98 : decode cX9_prop 98 = .ok (.iload_n 3, 1) := dk_29 (dk_at dksX9_prop_4 7 rfl rfl)
theorem dX9_prop_99 : decode cX9_prop 99 = .ok (.if_icmp .ne 7, 3) := dk_160 0 7 (dk_at dksX9_prop_4 8 rfl rfl)
theorem dX9_prop_102 : decode cX9_prop 102 = .ok (.iload 5, 2) := dk_21 5 (dk_at dksX9_prop_4 11 rfl rfl)
theorem dX9_prop_104 : decode cX9_prop 104 = .ok (.istore 4, 2) := dk_54 4 (dk_at dksX9_prop_4 13 rfl rfl)
theorem dX9_prop_106 : decode cX9_prop 106 = .ok (.iinc 5 1, 3) := dk_132 5 1 (dk_at dksX9_prop_4 15 rfl rfl)
theorem dX9_prop_109 : decode cX9_prop 109 = .ok (.goto (-77), 3) := dk_167 255 179 (dk_at dksX9_prop_4 18 rfl rfl)
theorem dX9_prop_112 : decode cX9_prop 112 = .ok (.iload 4, 2) := dk_21 4 (dk_at dksX9_prop_4 21 rfl rfl)
theorem dX9_prop_114 : decode cX9_prop 114 = .ok (.ireturn, 1) := dk_172 (dk_at dksX9_prop_4 23 rfl rfl)
abbrev cX9_order : ByteArray := prog_22_method_57_code
def yX9_order : MethodName := ⟨RX9, "order", "(IIIII)I"⟩
def dkwX9_order_9 : List UInt8 := [21, 8, 172]
abbrev dktX9_order_9 : List UInt8 := dkwX9_order_9 ++ []
def dkwX9_order_8 : List UInt8 := [54, 8, 132, 10, 1, 167, 255, 165, 132, 9, 1, 167, 255, 150, 21, 5, 154, 0, 8, 21, 7, 167, 0, 5]
abbrev dktX9_order_8 : List UInt8 := dkwX9_order_8 ++ dktX9_order_9
def dkwX9_order_7 : List UInt8 := [163, 0, 6, 167, 0, 23, 16, 100, 21, 9, 104, 16, 10, 21, 10, 104, 96, 21, 11, 96, 54, 7, 21, 12]
abbrev dktX9_order_7 : List UInt8 := dkwX9_order_7 ++ dktX9_order_8
def dkwX9_order_6 : List UInt8 := [184, 0, 154, 27, 28, 29, 21, 11, 184, 0, 154, 21, 4, 182, 0, 158, 54, 12, 21, 12, 21, 8]
abbrev dktX9_order_6 : List UInt8 := dkwX9_order_6 ++ dktX9_order_7
def dkwX9_order_5 : List UInt8 := [21, 10, 160, 0, 7, 2, 167, 0, 33, 42, 27, 28, 29, 21, 9, 184, 0, 154, 27, 28, 29, 21, 10]
abbrev dktX9_order_5 : List UInt8 := dkwX9_order_5 ++ dktX9_order_6
def dkwX9_order_4 : List UInt8 := [162, 0, 106, 3, 54, 10, 21, 10, 6, 162, 0, 91, 6, 21, 9, 100, 21, 10, 100, 54, 11, 21, 9]
abbrev dktX9_order_4 : List UInt8 := dkwX9_order_4 ++ dktX9_order_5
def dkwX9_order_3 : List UInt8 := [21, 6, 153, 0, 10, 42, 21, 6, 182, 0, 36, 172, 3, 54, 7, 2, 54, 8, 3, 54, 9, 21, 9, 6]
abbrev dktX9_order_3 : List UInt8 := dkwX9_order_3 ++ dktX9_order_4
def dkwX9_order_2 : List UInt8 := [184, 0, 128, 54, 6, 21, 6, 154, 0, 17, 21, 5, 3, 4, 184, 0, 40, 154, 0, 7, 16, 254, 54, 6]
abbrev dktX9_order_2 : List UInt8 := dkwX9_order_2 ++ dktX9_order_3
def dkwX9_order_1 : List UInt8 := [27, 28, 159, 0, 13, 27, 29, 159, 0, 8, 28, 29, 160, 0, 7, 2, 167, 0, 10, 21, 4, 16, 9]
abbrev dktX9_order_1 : List UInt8 := dkwX9_order_1 ++ dktX9_order_2
def dkwX9_order_0 : List UInt8 := [42, 27, 182, 0, 105, 153, 0, 34, 42, 28, 182, 0, 105, 153, 0, 26, 42, 29, 182, 0, 105, 153, 0, 18]
abbrev dktX9_order_0 : List UInt8 := dkwX9_order_0 ++ dktX9_order_1
theorem dksX9_order_0 : cX9_order.data.toList.drop 0 = dktX9_order_0 := by decide +kernel
theorem dksX9_order_1 : cX9_order.data.toList.drop 24 = dktX9_order_1 := dk_seg dksX9_order_0 24 rfl rfl
theorem dksX9_order_2 : cX9_order.data.toList.drop 47 = dktX9_order_2 := dk_seg dksX9_order_1 23 rfl rfl
theorem dksX9_order_3 : cX9_order.data.toList.drop 71 = dktX9_order_3 := dk_seg dksX9_order_2 24 rfl rfl
theorem dksX9_order_4 : cX9_order.data.toList.drop 95 = dktX9_order_4 := dk_seg dksX9_order_3 24 rfl rfl
theorem dksX9_order_5 : cX9_order.data.toList.drop 118 = dktX9_order_5 := dk_seg dksX9_order_4 23 rfl rfl
theorem dksX9_order_6 : cX9_order.data.toList.drop 141 = dktX9_order_6 := dk_seg dksX9_order_5 23 rfl rfl
theorem dksX9_order_7 : cX9_order.data.toList.drop 163 = dktX9_order_7 := dk_seg dksX9_order_6 22 rfl rfl
theorem dksX9_order_8 : cX9_order.data.toList.drop 187 = dktX9_order_8 := dk_seg dksX9_order_7 24 rfl rfl
theorem dksX9_order_9 : cX9_order.data.toList.drop 211 = dktX9_order_9 := dk_seg dksX9_order_8 24 rfl rfl
theorem dX9_order_0 : decode cX9_order 0 = .ok (.aload_n 0, 1) := dk_42 (dk_at dksX9_order_0 0 rfl rfl)
theorem dX9_order_1 : decode cX9_order 1 = .ok (.iload_n 1, 1) := dk_27 (dk_at dksX9_order_0 1 rfl rfl)
theorem dX9_order_2 : decode cX9_order 2 = .ok (.invokevirtual 105, 3) := dk_182 0 105 (dk_at dksX9_order_0 2 rfl rfl)
theorem dX9_order_5 : decode cX9_order 5 = .ok (.ifCond .eq 34, 3) := dk_153 0 34 (dk_at dksX9_order_0 5 rfl rfl)
theorem dX9_order_8 : decode cX9_order 8 = .ok (.aload_n 0, 1) := dk_42 (dk_at dksX9_order_0 8 rfl rfl)
theorem dX9_order_9 : decode cX9_order 9 = .ok (.iload_n 2, 1) := dk_28 (dk_at dksX9_order_0 9 rfl rfl)
theorem dX9_order_10 : decode cX9_order 10 = .ok (.invokevirtual 105, 3) := dk_182 0 105 (dk_at dksX9_order_0 10 rfl rfl)
theorem dX9_order_13 : decode cX9_order 13 = .ok (.ifCond .eq 26, 3) := dk_153 0 26 (dk_at dksX9_order_0 13 rfl rfl)
theorem dX9_order_16 : decode cX9_order 16 = .ok (.aload_n 0, 1) := dk_42 (dk_at dksX9_order_0 16 rfl rfl)
theorem dX9_order_17 : decode cX9_order 17 = .ok (.iload_n 3, 1) := dk_29 (dk_at dksX9_order_0 17 rfl rfl)
theorem dX9_order_18 : decode cX9_order 18 = .ok (.invokevirtual 105, 3) := dk_182 0 105 (dk_at dksX9_order_0 18 rfl rfl)
theorem dX9_order_21 : decode cX9_order 21 = .ok (.ifCond .eq 18, 3) := dk_153 0 18 (dk_at dksX9_order_0 21 rfl rfl)
theorem dX9_order_24 : decode cX9_order 24 = .ok (.iload_n 1, 1) := dk_27 (dk_at dksX9_order_1 0 rfl rfl)
theorem dX9_order_25 : decode cX9_order 25 = .ok (.iload_n 2, 1) := dk_28 (dk_at dksX9_order_1 1 rfl rfl)
theorem dX9_order_26 : decode cX9_order 26 = .ok (.if_icmp .eq 13, 3) := dk_159 0 13 (dk_at dksX9_order_1 2 rfl rfl)
theorem dX9_order_29 : decode cX9_order 29 = .ok (.iload_n 1, 1) := dk_27 (dk_at dksX9_order_1 5 rfl rfl)
theorem dX9_order_30 : decode cX9_order 30 = .ok (.iload_n 3, 1) := dk_29 (dk_at dksX9_order_1 6 rfl rfl)
theorem dX9_order_31 : decode cX9_order 31 = .ok (.if_icmp .eq 8, 3) := dk_159 0 8 (dk_at dksX9_order_1 7 rfl rfl)
theorem dX9_order_34 : decode cX9_order 34 = .ok (.iload_n 2, 1) := dk_28 (dk_at dksX9_order_1 10 rfl rfl)
theorem dX9_order_35 : decode cX9_order 35 = .ok (.iload_n 3, 1) := dk_29 (dk_at dksX9_order_1 11 rfl rfl)
theorem dX9_order_36 : decode cX9_order 36 = .ok (.if_icmp .ne 7, 3) := dk_160 0 7 (dk_at dksX9_order_1 12 rfl rfl)
theorem dX9_order_39 : decode cX9_order 39 = .ok (.iconst (-1), 1) := dk_2 (dk_at dksX9_order_1 15 rfl rfl)
theorem dX9_order_40 : decode cX9_order 40 = .ok (.goto 10, 3) := dk_167 0 10 (dk_at dksX9_order_1 16 rfl rfl)
theorem dX9_order_43 : decode cX9_order 43 = .ok (.iload 4, 2) := dk_21 4 (dk_at dksX9_order_1 19 rfl rfl)
theorem dX9_order_45 : decode cX9_order 45 = .ok (.bipush 9, 2) := dk_16 9 (dk_at dksX9_order_1 21 rfl rfl)
theorem dX9_order_47 : decode cX9_order 47 = .ok (.invokestatic 128, 3) := dk_184 0 128 (dk_at dksX9_order_2 0 rfl rfl)
theorem dX9_order_50 : decode cX9_order 50 = .ok (.istore 6, 2) := dk_54 6 (dk_at dksX9_order_2 3 rfl rfl)
theorem dX9_order_52 : decode cX9_order 52 = .ok (.iload 6, 2) := dk_21 6 (dk_at dksX9_order_2 5 rfl rfl)
theorem dX9_order_54 : decode cX9_order 54 = .ok (.ifCond .ne 17, 3) := dk_154 0 17 (dk_at dksX9_order_2 7 rfl rfl)
theorem dX9_order_57 : decode cX9_order 57 = .ok (.iload 5, 2) := dk_21 5 (dk_at dksX9_order_2 10 rfl rfl)
theorem dX9_order_59 : decode cX9_order 59 = .ok (.iconst 0, 1) := dk_3 (dk_at dksX9_order_2 12 rfl rfl)
theorem dX9_order_60 : decode cX9_order 60 = .ok (.iconst 1, 1) := dk_4 (dk_at dksX9_order_2 13 rfl rfl)
theorem dX9_order_61 : decode cX9_order 61 = .ok (.invokestatic 40, 3) := dk_184 0 40 (dk_at dksX9_order_2 14 rfl rfl)
theorem dX9_order_64 : decode cX9_order 64 = .ok (.ifCond .ne 7, 3) := dk_154 0 7 (dk_at dksX9_order_2 17 rfl rfl)
theorem dX9_order_67 : decode cX9_order 67 = .ok (.bipush (-2), 2) := dk_16 254 (dk_at dksX9_order_2 20 rfl rfl)
theorem dX9_order_69 : decode cX9_order 69 = .ok (.istore 6, 2) := dk_54 6 (dk_at dksX9_order_2 22 rfl rfl)
theorem dX9_order_71 : decode cX9_order 71 = .ok (.iload 6, 2) := dk_21 6 (dk_at dksX9_order_3 0 rfl rfl)
theorem dX9_order_73 : decode cX9_order 73 = .ok (.ifCond .eq 10, 3) := dk_153 0 10 (dk_at dksX9_order_3 2 rfl rfl)
theorem dX9_order_76 : decode cX9_order 76 = .ok (.aload_n 0, 1) := dk_42 (dk_at dksX9_order_3 5 rfl rfl)
theorem dX9_order_77 : decode cX9_order 77 = .ok (.iload 6, 2) := dk_21 6 (dk_at dksX9_order_3 6 rfl rfl)
theorem dX9_order_79 : decode cX9_order 79 = .ok (.invokevirtual 36, 3) := dk_182 0 36 (dk_at dksX9_order_3 8 rfl rfl)
theorem dX9_order_82 : decode cX9_order 82 = .ok (.ireturn, 1) := dk_172 (dk_at dksX9_order_3 11 rfl rfl)
theorem dX9_order_83 : decode cX9_order 83 = .ok (.iconst 0, 1) := dk_3 (dk_at dksX9_order_3 12 rfl rfl)
theorem dX9_order_84 : decode cX9_order 84 = .ok (.istore 7, 2) := dk_54 7 (dk_at dksX9_order_3 13 rfl rfl)
theorem dX9_order_86 : decode cX9_order 86 = .ok (.iconst (-1), 1) := dk_2 (dk_at dksX9_order_3 15 rfl rfl)
theorem dX9_order_87 : decode cX9_order 87 = .ok (.istore 8, 2) := dk_54 8 (dk_at dksX9_order_3 16 rfl rfl)
theorem dX9_order_89 : decode cX9_order 89 = .ok (.iconst 0, 1) := dk_3 (dk_at dksX9_order_3 18 rfl rfl)
theorem dX9_order_90 : decode cX9_order 90 = .ok (.istore 9, 2) := dk_54 9 (dk_at dksX9_order_3 19 rfl rfl)
theorem dX9_order_92 : decode cX9_order 92 = .ok (.iload 9, 2) := dk_21 9 (dk_at dksX9_order_3 21 rfl rfl)
theorem dX9_order_94 : decode cX9_order 94 = .ok (.iconst 3, 1) := dk_6 (dk_at dksX9_order_3 23 rfl rfl)
theorem dX9_order_95 : decode cX9_order 95 = .ok (.if_icmp .ge 106, 3) := dk_162 0 106 (dk_at dksX9_order_4 0 rfl rfl)
theorem dX9_order_98 : decode cX9_order 98 = .ok (.iconst 0, 1) := dk_3 (dk_at dksX9_order_4 3 rfl rfl)
theorem dX9_order_99 : decode cX9_order 99 = .ok (.istore 10, 2) := dk_54 10 (dk_at dksX9_order_4 4 rfl rfl)
theorem dX9_order_101 : decode cX9_order 101 = .ok (.iload 10, 2) := dk_21 10 (dk_at dksX9_order_4 6 rfl rfl)
theorem dX9_order_103 : decode cX9_order 103 = .ok (.iconst 3, 1) := dk_6 (dk_at dksX9_order_4 8 rfl rfl)
theorem dX9_order_104 : decode cX9_order 104 = .ok (.if_icmp .ge 91, 3) := dk_162 0 91 (dk_at dksX9_order_4 9 rfl rfl)
theorem dX9_order_107 : decode cX9_order 107 = .ok (.iconst 3, 1) := dk_6 (dk_at dksX9_order_4 12 rfl rfl)
theorem dX9_order_108 : decode cX9_order 108 = .ok (.iload 9, 2) := dk_21 9 (dk_at dksX9_order_4 13 rfl rfl)
theorem dX9_order_110 : decode cX9_order 110 = .ok (.isub, 1) := dk_100 (dk_at dksX9_order_4 15 rfl rfl)
theorem dX9_order_111 : decode cX9_order 111 = .ok (.iload 10, 2) := dk_21 10 (dk_at dksX9_order_4 16 rfl rfl)
theorem dX9_order_113 : decode cX9_order 113 = .ok (.isub, 1) := dk_100 (dk_at dksX9_order_4 18 rfl rfl)
theorem dX9_order_114 : decode cX9_order 114 = .ok (.istore 11, 2) := dk_54 11 (dk_at dksX9_order_4 19 rfl rfl)
theorem dX9_order_116 : decode cX9_order 116 = .ok (.iload 9, 2) := dk_21 9 (dk_at dksX9_order_4 21 rfl rfl)
theorem dX9_order_118 : decode cX9_order 118 = .ok (.iload 10, 2) := dk_21 10 (dk_at dksX9_order_5 0 rfl rfl)
theorem dX9_order_120 : decode cX9_order 120 = .ok (.if_icmp .ne 7, 3) := dk_160 0 7 (dk_at dksX9_order_5 2 rfl rfl)
theorem dX9_order_123 : decode cX9_order 123 = .ok (.iconst (-1), 1) := dk_2 (dk_at dksX9_order_5 5 rfl rfl)
theorem dX9_order_124 : decode cX9_order 124 = .ok (.goto 33, 3) := dk_167 0 33 (dk_at dksX9_order_5 6 rfl rfl)
theorem dX9_order_127 : decode cX9_order 127 = .ok (.aload_n 0, 1) := dk_42 (dk_at dksX9_order_5 9 rfl rfl)
theorem dX9_order_128 : decode cX9_order 128 = .ok (.iload_n 1, 1) := dk_27 (dk_at dksX9_order_5 10 rfl rfl)
theorem dX9_order_129 : decode cX9_order 129 = .ok (.iload_n 2, 1) := dk_28 (dk_at dksX9_order_5 11 rfl rfl)
theorem dX9_order_130 : decode cX9_order 130 = .ok (.iload_n 3, 1) := dk_29 (dk_at dksX9_order_5 12 rfl rfl)
theorem dX9_order_131 : decode cX9_order 131 = .ok (.iload 9, 2) := dk_21 9 (dk_at dksX9_order_5 13 rfl rfl)
theorem dX9_order_133 : decode cX9_order 133 = .ok (.invokestatic 154, 3) := dk_184 0 154 (dk_at dksX9_order_5 15 rfl rfl)
theorem dX9_order_136 : decode cX9_order 136 = .ok (.iload_n 1, 1) := dk_27 (dk_at dksX9_order_5 18 rfl rfl)
theorem dX9_order_137 : decode cX9_order 137 = .ok (.iload_n 2, 1) := dk_28 (dk_at dksX9_order_5 19 rfl rfl)
theorem dX9_order_138 : decode cX9_order 138 = .ok (.iload_n 3, 1) := dk_29 (dk_at dksX9_order_5 20 rfl rfl)
theorem dX9_order_139 : decode cX9_order 139 = .ok (.iload 10, 2) := dk_21 10 (dk_at dksX9_order_5 21 rfl rfl)
theorem dX9_order_141 : decode cX9_order 141 = .ok (.invokestatic 154, 3) := dk_184 0 154 (dk_at dksX9_order_6 0 rfl rfl)
theorem dX9_order_144 : decode cX9_order 144 = .ok (.iload_n 1, 1) := dk_27 (dk_at dksX9_order_6 3 rfl rfl)
theorem dX9_order_145 : decode cX9_order 145 = .ok (.iload_n 2, 1) := dk_28 (dk_at dksX9_order_6 4 rfl rfl)
theorem dX9_order_146 : decode cX9_order 146 = .ok (.iload_n 3, 1) := dk_29 (dk_at dksX9_order_6 5 rfl rfl)
theorem dX9_order_147 : decode cX9_order 147 = .ok (.iload 11, 2) := dk_21 11 (dk_at dksX9_order_6 6 rfl rfl)
theorem dX9_order_149 : decode cX9_order 149 = .ok (.invokestatic 154, 3) := dk_184 0 154 (dk_at dksX9_order_6 8 rfl rfl)
theorem dX9_order_152 : decode cX9_order 152 = .ok (.iload 4, 2) := dk_21 4 (dk_at dksX9_order_6 11 rfl rfl)
theorem dX9_order_154 : decode cX9_order 154 = .ok (.invokevirtual 158, 3) := dk_182 0 158 (dk_at dksX9_order_6 13 rfl rfl)
theorem dX9_order_157 : decode cX9_order 157 = .ok (.istore 12, 2) := dk_54 12 (dk_at dksX9_order_6 16 rfl rfl)
theorem dX9_order_159 : decode cX9_order 159 = .ok (.iload 12, 2) := dk_21 12 (dk_at dksX9_order_6 18 rfl rfl)
theorem dX9_order_161 : decode cX9_order 161 = .ok (.iload 8, 2) := dk_21 8 (dk_at dksX9_order_6 20 rfl rfl)
theorem dX9_order_163 : decode cX9_order 163 = .ok (.if_icmp .gt 6, 3) := dk_163 0 6 (dk_at dksX9_order_7 0 rfl rfl)
theorem dX9_order_166 : decode cX9_order 166 = .ok (.goto 23, 3) := dk_167 0 23 (dk_at dksX9_order_7 3 rfl rfl)
theorem dX9_order_169 : decode cX9_order 169 = .ok (.bipush 100, 2) := dk_16 100 (dk_at dksX9_order_7 6 rfl rfl)
theorem dX9_order_171 : decode cX9_order 171 = .ok (.iload 9, 2) := dk_21 9 (dk_at dksX9_order_7 8 rfl rfl)
theorem dX9_order_173 : decode cX9_order 173 = .ok (.imul, 1) := dk_104 (dk_at dksX9_order_7 10 rfl rfl)
theorem dX9_order_174 : decode cX9_order 174 = .ok (.bipush 10, 2) := dk_16 10 (dk_at dksX9_order_7 11 rfl rfl)
theorem dX9_order_176 : decode cX9_order 176 = .ok (.iload 10, 2) := dk_21 10 (dk_at dksX9_order_7 13 rfl rfl)
theorem dX9_order_178 : decode cX9_order 178 = .ok (.imul, 1) := dk_104 (dk_at dksX9_order_7 15 rfl rfl)
theorem dX9_order_179 : decode cX9_order 179 = .ok (.iadd, 1) := dk_96 (dk_at dksX9_order_7 16 rfl rfl)
theorem dX9_order_180 : decode cX9_order 180 = .ok (.iload 11, 2) := dk_21 11 (dk_at dksX9_order_7 17 rfl rfl)
theorem dX9_order_182 : decode cX9_order 182 = .ok (.iadd, 1) := dk_96 (dk_at dksX9_order_7 19 rfl rfl)
theorem dX9_order_183 : decode cX9_order 183 = .ok (.istore 7, 2) := dk_54 7 (dk_at dksX9_order_7 20 rfl rfl)
theorem dX9_order_185 : decode cX9_order 185 = .ok (.iload 12, 2) := dk_21 12 (dk_at dksX9_order_7 22 rfl rfl)
theorem dX9_order_187 : decode cX9_order 187 = .ok (.istore 8, 2) := dk_54 8 (dk_at dksX9_order_8 0 rfl rfl)
theorem dX9_order_189 : decode cX9_order 189 = .ok (.iinc 10 1, 3) := dk_132 10 1 (dk_at dksX9_order_8 2 rfl rfl)
theorem dX9_order_192 : decode cX9_order 192 = .ok (.goto (-91), 3) := dk_167 255 165 (dk_at dksX9_order_8 5 rfl rfl)
theorem dX9_order_195 : decode cX9_order 195 = .ok (.iinc 9 1, 3) := dk_132 9 1 (dk_at dksX9_order_8 8 rfl rfl)
theorem dX9_order_198 : decode cX9_order 198 = .ok (.goto (-106), 3) := dk_167 255 150 (dk_at dksX9_order_8 11 rfl rfl)
theorem dX9_order_201 : decode cX9_order 201 = .ok (.iload 5, 2) := dk_21 5 (dk_at dksX9_order_8 14 rfl rfl)
theorem dX9_order_203 : decode cX9_order 203 = .ok (.ifCond .ne 8, 3) := dk_154 0 8 (dk_at dksX9_order_8 16 rfl rfl)
theorem dX9_order_206 : decode cX9_order 206 = .ok (.iload 7, 2) := dk_21 7 (dk_at dksX9_order_8 19 rfl rfl)
theorem dX9_order_208 : decode cX9_order 208 = .ok (.goto 5, 3) := dk_167 0 5 (dk_at dksX9_order_8 21 rfl rfl)
theorem dX9_order_211 : decode cX9_order 211 = .ok (.iload 8, 2) := dk_21 8 (dk_at dksX9_order_9 0 rfl rfl)
theorem dX9_order_213 : decode cX9_order 213 = .ok (.ireturn, 1) := dk_172 (dk_at dksX9_order_9 2 rfl rfl)
abbrev cX9_placed : ByteArray := prog_22_method_56_code
def yX9_placed : MethodName := ⟨RX9, "placed", "(IIII)I"⟩
def dkwX9_placed_0 : List UInt8 := [29, 154, 0, 7, 26, 167, 0, 13, 29, 4, 160, 0, 7, 27, 167, 0, 4, 28, 172]
abbrev dktX9_placed_0 : List UInt8 := dkwX9_placed_0 ++ []
theorem dksX9_placed_0 : cX9_placed.data.toList.drop 0 = dktX9_placed_0 := by decide +kernel
theorem dX9_placed_0 : decode cX9_placed 0 = .ok (.iload_n 3, 1) := dk_29 (dk_at dksX9_placed_0 0 rfl rfl)
theorem dX9_placed_1 : decode cX9_placed 1 = .ok (.ifCond .ne 7, 3) := dk_154 0 7 (dk_at dksX9_placed_0 1 rfl rfl)
theorem dX9_placed_4 : decode cX9_placed 4 = .ok (.iload_n 0, 1) := dk_26 (dk_at dksX9_placed_0 4 rfl rfl)
theorem dX9_placed_5 : decode cX9_placed 5 = .ok (.goto 13, 3) := dk_167 0 13 (dk_at dksX9_placed_0 5 rfl rfl)
theorem dX9_placed_8 : decode cX9_placed 8 = .ok (.iload_n 3, 1) := dk_29 (dk_at dksX9_placed_0 8 rfl rfl)
theorem dX9_placed_9 : decode cX9_placed 9 = .ok (.iconst 1, 1) := dk_4 (dk_at dksX9_placed_0 9 rfl rfl)
theorem dX9_placed_10 : decode cX9_placed 10 = .ok (.if_icmp .ne 7, 3) := dk_160 0 7 (dk_at dksX9_placed_0 10 rfl rfl)
theorem dX9_placed_13 : decode cX9_placed 13 = .ok (.iload_n 1, 1) := dk_27 (dk_at dksX9_placed_0 13 rfl rfl)
theorem dX9_placed_14 : decode cX9_placed 14 = .ok (.goto 4, 3) := dk_167 0 4 (dk_at dksX9_placed_0 14 rfl rfl)
theorem dX9_placed_17 : decode cX9_placed 17 = .ok (.iload_n 2, 1) := dk_28 (dk_at dksX9_placed_0 17 rfl rfl)
theorem dX9_placed_18 : decode cX9_placed 18 = .ok (.ireturn, 1) := dk_172 (dk_at dksX9_placed_0 18 rfl rfl)
abbrev cX9_standingBy : ByteArray := prog_22_method_55_code
def yX9_standingBy : MethodName := ⟨RX9, "standingBy", "(IIII)I"⟩
def dkwX9_standingBy_4 : List UInt8 := [184, 0, 80, 132, 5, 1, 167, 255, 171, 42, 182, 0, 138, 172]
abbrev dktX9_standingBy_4 : List UInt8 := dkwX9_standingBy_4 ++ []
def dkwX9_standingBy_3 : List UInt8 := [42, 180, 0, 13, 21, 6, 21, 4, 184, 0, 112, 167, 0, 4, 3, 54, 7, 42, 180, 0, 13, 3]
abbrev dktX9_standingBy_3 : List UInt8 := dkwX9_standingBy_3 ++ dktX9_standingBy_4
def dkwX9_standingBy_2 : List UInt8 := [167, 0, 5, 16, 247, 54, 6, 21, 6, 155, 0, 29, 42, 180, 0, 13, 21, 6, 184, 0, 55, 153, 0, 17]
abbrev dktX9_standingBy_2 : List UInt8 := dkwX9_standingBy_2 ++ dktX9_standingBy_3
def dkwX9_standingBy_1 : List UInt8 := [154, 0, 7, 27, 167, 0, 25, 21, 5, 4, 160, 0, 7, 28, 167, 0, 15, 21, 5, 5, 160, 0, 7, 29]
abbrev dktX9_standingBy_1 : List UInt8 := dkwX9_standingBy_1 ++ dktX9_standingBy_2
def dkwX9_standingBy_0 : List UInt8 := [42, 180, 0, 9, 42, 180, 0, 13, 184, 0, 121, 3, 54, 5, 21, 5, 16, 10, 162, 0, 84, 21, 5]
abbrev dktX9_standingBy_0 : List UInt8 := dkwX9_standingBy_0 ++ dktX9_standingBy_1
theorem dksX9_standingBy_0 : cX9_standingBy.data.toList.drop 0 = dktX9_standingBy_0 := by decide +kernel
theorem dksX9_standingBy_1 : cX9_standingBy.data.toList.drop 23 = dktX9_standingBy_1 := dk_seg dksX9_standingBy_0 23 rfl rfl
theorem dksX9_standingBy_2 : cX9_standingBy.data.toList.drop 47 = dktX9_standingBy_2 := dk_seg dksX9_standingBy_1 24 rfl rfl
theorem dksX9_standingBy_3 : cX9_standingBy.data.toList.drop 71 = dktX9_standingBy_3 := dk_seg dksX9_standingBy_2 24 rfl rfl
theorem dksX9_standingBy_4 : cX9_standingBy.data.toList.drop 93 = dktX9_standingBy_4 := dk_seg dksX9_standingBy_3 22 rfl rfl
theorem dX9_standingBy_0 : decode cX9_standingBy 0 = .ok (.aload_n 0, 1) := dk_42 (dk_at dksX9_standingBy_0 0 rfl rfl)
theorem dX9_standingBy_1 : decode cX9_standingBy 1 = .ok (.getfield 9, 3) := dk_180 0 9 (dk_at dksX9_standingBy_0 1 rfl rfl)
theorem dX9_standingBy_4 : decode cX9_standingBy 4 = .ok (.aload_n 0, 1) := dk_42 (dk_at dksX9_standingBy_0 4 rfl rfl)
theorem dX9_standingBy_5 : decode cX9_standingBy 5 = .ok (.getfield 13, 3) := dk_180 0 13 (dk_at dksX9_standingBy_0 5 rfl rfl)
theorem dX9_standingBy_8 : decode cX9_standingBy 8 = .ok (.invokestatic 121, 3) := dk_184 0 121 (dk_at dksX9_standingBy_0 8 rfl rfl)
theorem dX9_standingBy_11 : decode cX9_standingBy 11 = .ok (.iconst 0, 1) := dk_3 (dk_at dksX9_standingBy_0 11 rfl rfl)
theorem dX9_standingBy_12 : decode cX9_standingBy 12 = .ok (.istore 5, 2) := dk_54 5 (dk_at dksX9_standingBy_0 12 rfl rfl)
theorem dX9_standingBy_14 : decode cX9_standingBy 14 = .ok (.iload 5, 2) := dk_21 5 (dk_at dksX9_standingBy_0 14 rfl rfl)
theorem dX9_standingBy_16 : decode cX9_standingBy 16 = .ok (.bipush 10, 2) := dk_16 10 (dk_at dksX9_standingBy_0 16 rfl rfl)
theorem dX9_standingBy_18 : decode cX9_standingBy 18 = .ok (.if_icmp .ge 84, 3) := dk_162 0 84 (dk_at dksX9_standingBy_0 18 rfl rfl)
theorem dX9_standingBy_21 : decode cX9_standingBy 21 = .ok (.iload 5, 2) := dk_21 5 (dk_at dksX9_standingBy_0 21 rfl rfl)
theorem dX9_standingBy_23 : decode cX9_standingBy 23 = .ok (.ifCond .ne 7, 3) := dk_154 0 7 (dk_at dksX9_standingBy_1 0 rfl rfl)
theorem dX9_standingBy_26 : decode cX9_standingBy 26 = .ok (.iload_n 1, 1) := dk_27 (dk_at dksX9_standingBy_1 3 rfl rfl)
theorem dX9_standingBy_27 : decode cX9_standingBy 27 = .ok (.goto 25, 3) := dk_167 0 25 (dk_at dksX9_standingBy_1 4 rfl rfl)
theorem dX9_standingBy_30 : decode cX9_standingBy 30 = .ok (.iload 5, 2) := dk_21 5 (dk_at dksX9_standingBy_1 7 rfl rfl)
theorem dX9_standingBy_32 : decode cX9_standingBy 32 = .ok (.iconst 1, 1) := dk_4 (dk_at dksX9_standingBy_1 9 rfl rfl)
theorem dX9_standingBy_33 : decode cX9_standingBy 33 = .ok (.if_icmp .ne 7, 3) := dk_160 0 7 (dk_at dksX9_standingBy_1 10 rfl rfl)
theorem dX9_standingBy_36 : decode cX9_standingBy 36 = .ok (.iload_n 2, 1) := dk_28 (dk_at dksX9_standingBy_1 13 rfl rfl)
theorem dX9_standingBy_37 : decode cX9_standingBy 37 = .ok (.goto 15, 3) := dk_167 0 15 (dk_at dksX9_standingBy_1 14 rfl rfl)
theorem dX9_standingBy_40 : decode cX9_standingBy 40 = .ok (.iload 5, 2) := dk_21 5 (dk_at dksX9_standingBy_1 17 rfl rfl)
theorem dX9_standingBy_42 : decode cX9_standingBy 42 = .ok (.iconst 2, 1) := dk_5 (dk_at dksX9_standingBy_1 19 rfl rfl)
theorem dX9_standingBy_43 : decode cX9_standingBy 43 = .ok (.if_icmp .ne 7, 3) := dk_160 0 7 (dk_at dksX9_standingBy_1 20 rfl rfl)
theorem dX9_standingBy_46 : decode cX9_standingBy 46 = .ok (.iload_n 3, 1) := dk_29 (dk_at dksX9_standingBy_1 23 rfl rfl)
theorem dX9_standingBy_47 : decode cX9_standingBy 47 = .ok (.goto 5, 3) := dk_167 0 5 (dk_at dksX9_standingBy_2 0 rfl rfl)
theorem dX9_standingBy_50 : decode cX9_standingBy 50 = .ok (.bipush (-9), 2) := dk_16 247 (dk_at dksX9_standingBy_2 3 rfl rfl)
theorem dX9_standingBy_52 : decode cX9_standingBy 52 = .ok (.istore 6, 2) := dk_54 6 (dk_at dksX9_standingBy_2 5 rfl rfl)
theorem dX9_standingBy_54 : decode cX9_standingBy 54 = .ok (.iload 6, 2) := dk_21 6 (dk_at dksX9_standingBy_2 7 rfl rfl)
theorem dX9_standingBy_56 : decode cX9_standingBy 56 = .ok (.ifCond .lt 29, 3) := dk_155 0 29 (dk_at dksX9_standingBy_2 9 rfl rfl)
theorem dX9_standingBy_59 : decode cX9_standingBy 59 = .ok (.aload_n 0, 1) := dk_42 (dk_at dksX9_standingBy_2 12 rfl rfl)
theorem dX9_standingBy_60 : decode cX9_standingBy 60 = .ok (.getfield 13, 3) := dk_180 0 13 (dk_at dksX9_standingBy_2 13 rfl rfl)
theorem dX9_standingBy_63 : decode cX9_standingBy 63 = .ok (.iload 6, 2) := dk_21 6 (dk_at dksX9_standingBy_2 16 rfl rfl)
theorem dX9_standingBy_65 : decode cX9_standingBy 65 = .ok (.invokestatic 55, 3) := dk_184 0 55 (dk_at dksX9_standingBy_2 18 rfl rfl)
theorem dX9_standingBy_68 : decode cX9_standingBy 68 = .ok (.ifCond .eq 17, 3) := dk_153 0 17 (dk_at dksX9_standingBy_2 21 rfl rfl)
theorem dX9_standingBy_71 : decode cX9_standingBy 71 = .ok (.aload_n 0, 1) := dk_42 (dk_at dksX9_standingBy_3 0 rfl rfl)
theorem dX9_standingBy_72 : decode cX9_standingBy 72 = .ok (.getfield 13, 3) := dk_180 0 13 (dk_at dksX9_standingBy_3 1 rfl rfl)
theorem dX9_standingBy_75 : decode cX9_standingBy 75 = .ok (.iload 6, 2) := dk_21 6 (dk_at dksX9_standingBy_3 4 rfl rfl)
theorem dX9_standingBy_77 : decode cX9_standingBy 77 = .ok (.iload 4, 2) := dk_21 4 (dk_at dksX9_standingBy_3 6 rfl rfl)
theorem dX9_standingBy_79 : decode cX9_standingBy 79 = .ok (.invokestatic 112, 3) := dk_184 0 112 (dk_at dksX9_standingBy_3 8 rfl rfl)
theorem dX9_standingBy_82 : decode cX9_standingBy 82 = .ok (.goto 4, 3) := dk_167 0 4 (dk_at dksX9_standingBy_3 11 rfl rfl)
theorem dX9_standingBy_85 : decode cX9_standingBy 85 = .ok (.iconst 0, 1) := dk_3 (dk_at dksX9_standingBy_3 14 rfl rfl)
theorem dX9_standingBy_86 : decode cX9_standingBy 86 = .ok (.istore 7, 2) := dk_54 7 (dk_at dksX9_standingBy_3 15 rfl rfl)
theorem dX9_standingBy_88 : decode cX9_standingBy 88 = .ok (.aload_n 0, 1) := dk_42 (dk_at dksX9_standingBy_3 17 rfl rfl)
theorem dX9_standingBy_89 : decode cX9_standingBy 89 = .ok (.getfield 13, 3) := dk_180 0 13 (dk_at dksX9_standingBy_3 18 rfl rfl)
theorem dX9_standingBy_92 : decode cX9_standingBy 92 = .ok (.iconst 0, 1) := dk_3 (dk_at dksX9_standingBy_3 21 rfl rfl)
theorem dX9_standingBy_93 : decode cX9_standingBy 93 = .ok (.invokestatic 80, 3) := dk_184 0 80 (dk_at dksX9_standingBy_4 0 rfl rfl)
theorem dX9_standingBy_96 : decode cX9_standingBy 96 = .ok (.iinc 5 1, 3) := dk_132 5 1 (dk_at dksX9_standingBy_4 3 rfl rfl)
theorem dX9_standingBy_99 : decode cX9_standingBy 99 = .ok (.goto (-85), 3) := dk_167 255 171 (dk_at dksX9_standingBy_4 6 rfl rfl)
theorem dX9_standingBy_102 : decode cX9_standingBy 102 = .ok (.aload_n 0, 1) := dk_42 (dk_at dksX9_standingBy_4 9 rfl rfl)
theorem dX9_standingBy_103 : decode cX9_standingBy 103 = .ok (.invokevirtual 138, 3) := dk_182 0 138 (dk_at dksX9_standingBy_4 10 rfl rfl)
theorem dX9_standingBy_106 : decode cX9_standingBy 106 = .ok (.ireturn, 1) := dk_172 (dk_at dksX9_standingBy_4 13 rfl rfl)
abbrev cX9_floorFalls : ByteArray := prog_22_method_58_code
def yX9_floorFalls : MethodName := ⟨RX9, "floorFalls", "(I)I"⟩
def dkwX9_floorFalls_1 : List UInt8 := [154, 0, 8, 16, 247, 167, 0, 16, 42, 180, 0, 9, 16, 247, 27, 184, 0, 63, 184, 0, 67, 172]
abbrev dktX9_floorFalls_1 : List UInt8 := dkwX9_floorFalls_1 ++ []
def dkwX9_floorFalls_0 : List UInt8 := [27, 16, 9, 184, 0, 128, 61, 28, 153, 0, 9, 42, 28, 182, 0, 36, 172, 42, 180, 0, 9, 5, 46]
abbrev dktX9_floorFalls_0 : List UInt8 := dkwX9_floorFalls_0 ++ dktX9_floorFalls_1
theorem dksX9_floorFalls_0 : cX9_floorFalls.data.toList.drop 0 = dktX9_floorFalls_0 := by decide +kernel
theorem dksX9_floorFalls_1 : cX9_floorFalls.data.toList.drop 23 = dktX9_floorFalls_1 := dk_seg dksX9_floorFalls_0 23 rfl rfl
theorem dX9_floorFalls_0 : decode cX9_floorFalls 0 = .ok (.iload_n 1, 1) := dk_27 (dk_at dksX9_floorFalls_0 0 rfl rfl)
theorem dX9_floorFalls_1 : decode cX9_floorFalls 1 = .ok (.bipush 9, 2) := dk_16 9 (dk_at dksX9_floorFalls_0 1 rfl rfl)
theorem dX9_floorFalls_3 : decode cX9_floorFalls 3 = .ok (.invokestatic 128, 3) := dk_184 0 128 (dk_at dksX9_floorFalls_0 3 rfl rfl)
theorem dX9_floorFalls_6 : decode cX9_floorFalls 6 = .ok (.istore_n 2, 1) := dk_61 (dk_at dksX9_floorFalls_0 6 rfl rfl)
theorem dX9_floorFalls_7 : decode cX9_floorFalls 7 = .ok (.iload_n 2, 1) := dk_28 (dk_at dksX9_floorFalls_0 7 rfl rfl)
theorem dX9_floorFalls_8 : decode cX9_floorFalls 8 = .ok (.ifCond .eq 9, 3) := dk_153 0 9 (dk_at dksX9_floorFalls_0 8 rfl rfl)
theorem dX9_floorFalls_11 : decode cX9_floorFalls 11 = .ok (.aload_n 0, 1) := dk_42 (dk_at dksX9_floorFalls_0 11 rfl rfl)
theorem dX9_floorFalls_12 : decode cX9_floorFalls 12 = .ok (.iload_n 2, 1) := dk_28 (dk_at dksX9_floorFalls_0 12 rfl rfl)
theorem dX9_floorFalls_13 : decode cX9_floorFalls 13 = .ok (.invokevirtual 36, 3) := dk_182 0 36 (dk_at dksX9_floorFalls_0 13 rfl rfl)
theorem dX9_floorFalls_16 : decode cX9_floorFalls 16 = .ok (.ireturn, 1) := dk_172 (dk_at dksX9_floorFalls_0 16 rfl rfl)
theorem dX9_floorFalls_17 : decode cX9_floorFalls 17 = .ok (.aload_n 0, 1) := dk_42 (dk_at dksX9_floorFalls_0 17 rfl rfl)
theorem dX9_floorFalls_18 : decode cX9_floorFalls 18 = .ok (.getfield 9, 3) := dk_180 0 9 (dk_at dksX9_floorFalls_0 18 rfl rfl)
theorem dX9_floorFalls_21 : decode cX9_floorFalls 21 = .ok (.iconst 2, 1) := dk_5 (dk_at dksX9_floorFalls_0 21 rfl rfl)
theorem dX9_floorFalls_22 : decode cX9_floorFalls 22 = .ok (.iaload, 1) := dk_46 (dk_at dksX9_floorFalls_0 22 rfl rfl)
theorem dX9_floorFalls_23 : decode cX9_floorFalls 23 = .ok (.ifCond .ne 8, 3) := dk_154 0 8 (dk_at dksX9_floorFalls_1 0 rfl rfl)
theorem dX9_floorFalls_26 : decode cX9_floorFalls 26 = .ok (.bipush (-9), 2) := dk_16 247 (dk_at dksX9_floorFalls_1 3 rfl rfl)
theorem dX9_floorFalls_28 : decode cX9_floorFalls 28 = .ok (.goto 16, 3) := dk_167 0 16 (dk_at dksX9_floorFalls_1 5 rfl rfl)
theorem dX9_floorFalls_31 : decode cX9_floorFalls 31 = .ok (.aload_n 0, 1) := dk_42 (dk_at dksX9_floorFalls_1 8 rfl rfl)
theorem dX9_floorFalls_32 : decode cX9_floorFalls 32 = .ok (.getfield 9, 3) := dk_180 0 9 (dk_at dksX9_floorFalls_1 9 rfl rfl)
theorem dX9_floorFalls_35 : decode cX9_floorFalls 35 = .ok (.bipush (-9), 2) := dk_16 247 (dk_at dksX9_floorFalls_1 12 rfl rfl)
theorem dX9_floorFalls_37 : decode cX9_floorFalls 37 = .ok (.iload_n 1, 1) := dk_27 (dk_at dksX9_floorFalls_1 14 rfl rfl)
theorem dX9_floorFalls_38 : decode cX9_floorFalls 38 = .ok (.invokestatic 63, 3) := dk_184 0 63 (dk_at dksX9_floorFalls_1 15 rfl rfl)
theorem dX9_floorFalls_41 : decode cX9_floorFalls 41 = .ok (.invokestatic 67, 3) := dk_184 0 67 (dk_at dksX9_floorFalls_1 18 rfl rfl)
theorem dX9_floorFalls_44 : decode cX9_floorFalls 44 = .ok (.ireturn, 1) := dk_172 (dk_at dksX9_floorFalls_1 21 rfl rfl)
abbrev cX9_watched : ByteArray := prog_22_method_59_code
def yX9_watched : MethodName := ⟨RX9, "watched", "(I)I"⟩
def dkwX9_watched_5 : List UInt8 := [172]
abbrev dktX9_watched_5 : List UInt8 := dkwX9_watched_5 ++ []
def dkwX9_watched_4 : List UInt8 := [153, 0, 7, 29, 167, 0, 4, 3, 62, 132, 4, 1, 167, 255, 175, 27, 154, 0, 7, 28, 167, 0, 4, 29]
abbrev dktX9_watched_4 : List UInt8 := dkwX9_watched_4 ++ dktX9_watched_5
def dkwX9_watched_3 : List UInt8 := [184, 0, 73, 153, 0, 7, 4, 167, 0, 4, 3, 96, 61, 42, 180, 0, 9, 21, 4, 184, 0, 70]
abbrev dktX9_watched_3 : List UInt8 := dkwX9_watched_3 ++ dktX9_watched_4
def dkwX9_watched_2 : List UInt8 := [167, 0, 55, 28, 42, 180, 0, 9, 21, 4, 3, 184, 0, 44, 46, 7, 160, 0, 18, 42, 180, 0, 9, 4]
abbrev dktX9_watched_2 : List UInt8 := dkwX9_watched_2 ++ dktX9_watched_3
def dkwX9_watched_1 : List UInt8 := [21, 4, 42, 180, 0, 9, 3, 46, 162, 0, 76, 42, 180, 0, 9, 21, 4, 184, 0, 55, 154, 0, 6]
abbrev dktX9_watched_1 : List UInt8 := dkwX9_watched_1 ++ dktX9_watched_2
def dkwX9_watched_0 : List UInt8 := [27, 3, 4, 184, 0, 40, 154, 0, 10, 42, 16, 254, 182, 0, 36, 172, 3, 61, 4, 62, 3, 54, 4]
abbrev dktX9_watched_0 : List UInt8 := dkwX9_watched_0 ++ dktX9_watched_1
theorem dksX9_watched_0 : cX9_watched.data.toList.drop 0 = dktX9_watched_0 := by decide +kernel
theorem dksX9_watched_1 : cX9_watched.data.toList.drop 23 = dktX9_watched_1 := dk_seg dksX9_watched_0 23 rfl rfl
theorem dksX9_watched_2 : cX9_watched.data.toList.drop 46 = dktX9_watched_2 := dk_seg dksX9_watched_1 23 rfl rfl
theorem dksX9_watched_3 : cX9_watched.data.toList.drop 70 = dktX9_watched_3 := dk_seg dksX9_watched_2 24 rfl rfl
theorem dksX9_watched_4 : cX9_watched.data.toList.drop 92 = dktX9_watched_4 := dk_seg dksX9_watched_3 22 rfl rfl
theorem dksX9_watched_5 : cX9_watched.data.toList.drop 116 = dktX9_watched_5 := dk_seg dksX9_watched_4 24 rfl rfl
theorem dX9_watched_0 : decode cX9_watched 0 = .ok (.iload_n 1, 1) := dk_27 (dk_at dksX9_watched_0 0 rfl rfl)
theorem dX9_watched_1 : decode cX9_watched 1 = .ok (.iconst 0, 1) := dk_3 (dk_at dksX9_watched_0 1 rfl rfl)
theorem dX9_watched_2 : decode cX9_watched 2 = .ok (.iconst 1, 1) := dk_4 (dk_at dksX9_watched_0 2 rfl rfl)
theorem dX9_watched_3 : decode cX9_watched 3 = .ok (.invokestatic 40, 3) := dk_184 0 40 (dk_at dksX9_watched_0 3 rfl rfl)
theorem dX9_watched_6 : decode cX9_watched 6 = .ok (.ifCond .ne 10, 3) := dk_154 0 10 (dk_at dksX9_watched_0 6 rfl rfl)
theorem dX9_watched_9 : decode cX9_watched 9 = .ok (.aload_n 0, 1) := dk_42 (dk_at dksX9_watched_0 9 rfl rfl)
theorem dX9_watched_10 : decode cX9_watched 10 = .ok (.bipush (-2), 2) := dk_16 254 (dk_at dksX9_watched_0 10 rfl rfl)
theorem dX9_watched_12 : decode cX9_watched 12 = .ok (.invokevirtual 36, 3) := dk_182 0 36 (dk_at dksX9_watched_0 12 rfl rfl)
theorem dX9_watched_15 : decode cX9_watched 15 = .ok (.ireturn, 1) := dk_172 (dk_at dksX9_watched_0 15 rfl rfl)
theorem dX9_watched_16 : decode cX9_watched 16 = .ok (.iconst 0, 1) := dk_3 (dk_at dksX9_watched_0 16 rfl rfl)
theorem dX9_watched_17 : decode cX9_watched 17 = .ok (.istore_n 2, 1) := dk_61 (dk_at dksX9_watched_0 17 rfl rfl)
theorem dX9_watched_18 : decode cX9_watched 18 = .ok (.iconst 1, 1) := dk_4 (dk_at dksX9_watched_0 18 rfl rfl)
theorem dX9_watched_19 : decode cX9_watched 19 = .ok (.istore_n 3, 1) := dk_62 (dk_at dksX9_watched_0 19 rfl rfl)
theorem dX9_watched_20 : decode cX9_watched 20 = .ok (.iconst 0, 1) := dk_3 (dk_at dksX9_watched_0 20 rfl rfl)
theorem dX9_watched_21 : decode cX9_watched 21 = .ok (.istore 4, 2) := dk_54 4 (dk_at dksX9_watched_0 21 rfl rfl)
theorem dX9_watched_23 : decode cX9_watched 23 = .ok (.iload 4, 2) := dk_21 4 (dk_at dksX9_watched_1 0 rfl rfl)
theorem dX9_watched_25 : decode cX9_watched 25 = .ok (.aload_n 0, 1) := dk_42 (dk_at dksX9_watched_1 2 rfl rfl)
theorem dX9_watched_26 : decode cX9_watched 26 = .ok (.getfield 9, 3) := dk_180 0 9 (dk_at dksX9_watched_1 3 rfl rfl)
theorem dX9_watched_29 : decode cX9_watched 29 = .ok (.iconst 0, 1) := dk_3 (dk_at dksX9_watched_1 6 rfl rfl)
theorem dX9_watched_30 : decode cX9_watched 30 = .ok (.iaload, 1) := dk_46 (dk_at dksX9_watched_1 7 rfl rfl)
theorem dX9_watched_31 : decode cX9_watched 31 = .ok (.if_icmp .ge 76, 3) := dk_162 0 76 (dk_at dksX9_watched_1 8 rfl rfl)
theorem dX9_watched_34 : decode cX9_watched 34 = .ok (.aload_n 0, 1) := dk_42 (dk_at dksX9_watched_1 11 rfl rfl)
theorem dX9_watched_35 : decode cX9_watched 35 = .ok (.getfield 9, 3) := dk_180 0 9 (dk_at dksX9_watched_1 12 rfl rfl)
theorem dX9_watched_38 : decode cX9_watched 38 = .ok (.iload 4, 2) := dk_21 4 (dk_at dksX9_watched_1 15 rfl rfl)
theorem dX9_watched_40 : decode cX9_watched 40 = .ok (.invokestatic 55, 3) := dk_184 0 55 (dk_at dksX9_watched_1 17 rfl rfl)
theorem dX9_watched_43 : decode cX9_watched 43 = .ok (.ifCond .ne 6, 3) := dk_154 0 6 (dk_at dksX9_watched_1 20 rfl rfl)
theorem dX9_watched_46 : decode cX9_watched 46 = .ok (.goto 55, 3) := dk_167 0 55 (dk_at dksX9_watched_2 0 rfl rfl)
theorem dX9_watched_49 : decode cX9_watched 49 = .ok (.iload_n 2, 1) := dk_28 (dk_at dksX9_watched_2 3 rfl rfl)
theorem dX9_watched_50 : decode cX9_watched 50 = .ok (.aload_n 0, 1) := dk_42 (dk_at dksX9_watched_2 4 rfl rfl)
theorem dX9_watched_51 : decode cX9_watched 51 = .ok (.getfield 9, 3) := dk_180 0 9 (dk_at dksX9_watched_2 5 rfl rfl)
theorem dX9_watched_54 : decode cX9_watched 54 = .ok (.iload 4, 2) := dk_21 4 (dk_at dksX9_watched_2 8 rfl rfl)
theorem dX9_watched_56 : decode cX9_watched 56 = .ok (.iconst 0, 1) := dk_3 (dk_at dksX9_watched_2 10 rfl rfl)
theorem dX9_watched_57 : decode cX9_watched 57 = .ok (.invokestatic 44, 3) := dk_184 0 44 (dk_at dksX9_watched_2 11 rfl rfl)
theorem dX9_watched_60 : decode cX9_watched 60 = .ok (.iaload, 1) := dk_46 (dk_at dksX9_watched_2 14 rfl rfl)
theorem dX9_watched_61 : decode cX9_watched 61 = .ok (.iconst 4, 1) := dk_7 (dk_at dksX9_watched_2 15 rfl rfl)
theorem dX9_watched_62 : decode cX9_watched 62 = .ok (.if_icmp .ne 18, 3) := dk_160 0 18 (dk_at dksX9_watched_2 16 rfl rfl)
theorem dX9_watched_65 : decode cX9_watched 65 = .ok (.aload_n 0, 1) := dk_42 (dk_at dksX9_watched_2 19 rfl rfl)
theorem dX9_watched_66 : decode cX9_watched 66 = .ok (.getfield 9, 3) := dk_180 0 9 (dk_at dksX9_watched_2 20 rfl rfl)
theorem dX9_watched_69 : decode cX9_watched 69 = .ok (.iconst 1, 1) := dk_4 (dk_at dksX9_watched_2 23 rfl rfl)
theorem dX9_watched_70 : decode cX9_watched 70 = .ok (.invokestatic 73, 3) := dk_184 0 73 (dk_at dksX9_watched_3 0 rfl rfl)
theorem dX9_watched_73 : decode cX9_watched 73 = .ok (.ifCond .eq 7, 3) := dk_153 0 7 (dk_at dksX9_watched_3 3 rfl rfl)
theorem dX9_watched_76 : decode cX9_watched 76 = .ok (.iconst 1, 1) := dk_4 (dk_at dksX9_watched_3 6 rfl rfl)
theorem dX9_watched_77 : decode cX9_watched 77 = .ok (.goto 4, 3) := dk_167 0 4 (dk_at dksX9_watched_3 7 rfl rfl)
theorem dX9_watched_80 : decode cX9_watched 80 = .ok (.iconst 0, 1) := dk_3 (dk_at dksX9_watched_3 10 rfl rfl)
theorem dX9_watched_81 : decode cX9_watched 81 = .ok (.iadd, 1) := dk_96 (dk_at dksX9_watched_3 11 rfl rfl)
theorem dX9_watched_82 : decode cX9_watched 82 = .ok (.istore_n 2, 1) := dk_61 (dk_at dksX9_watched_3 12 rfl rfl)
theorem dX9_watched_83 : decode cX9_watched 83 = .ok (.aload_n 0, 1) := dk_42 (dk_at dksX9_watched_3 13 rfl rfl)
theorem dX9_watched_84 : decode cX9_watched 84 = .ok (.getfield 9, 3) := dk_180 0 9 (dk_at dksX9_watched_3 14 rfl rfl)
theorem dX9_watched_87 : decode cX9_watched 87 = .ok (.iload 4, 2) := dk_21 4 (dk_at dksX9_watched_3 17 rfl rfl)
theorem dX9_watched_89 : decode cX9_watched 89 = .ok (.invokestatic 70, 3) := dk_184 0 70 (dk_at dksX9_watched_3 19 rfl rfl)
theorem dX9_watched_92 : decode cX9_watched 92 = .ok (.ifCond .eq 7, 3) := dk_153 0 7 (dk_at dksX9_watched_4 0 rfl rfl)
theorem dX9_watched_95 : decode cX9_watched 95 = .ok (.iload_n 3, 1) := dk_29 (dk_at dksX9_watched_4 3 rfl rfl)
theorem dX9_watched_96 : decode cX9_watched 96 = .ok (.goto 4, 3) := dk_167 0 4 (dk_at dksX9_watched_4 4 rfl rfl)
theorem dX9_watched_99 : decode cX9_watched 99 = .ok (.iconst 0, 1) := dk_3 (dk_at dksX9_watched_4 7 rfl rfl)
theorem dX9_watched_100 : decode cX9_watched 100 = .ok (.istore_n 3, 1) := dk_62 (dk_at dksX9_watched_4 8 rfl rfl)
theorem dX9_watched_101 : decode cX9_watched 101 = .ok (.iinc 4 1, 3) := dk_132 4 1 (dk_at dksX9_watched_4 9 rfl rfl)
theorem dX9_watched_104 : decode cX9_watched 104 = .ok (.goto (-81), 3) := dk_167 255 175 (dk_at dksX9_watched_4 12 rfl rfl)
theorem dX9_watched_107 : decode cX9_watched 107 = .ok (.iload_n 1, 1) := dk_27 (dk_at dksX9_watched_4 15 rfl rfl)
theorem dX9_watched_108 : decode cX9_watched 108 = .ok (.ifCond .ne 7, 3) := dk_154 0 7 (dk_at dksX9_watched_4 16 rfl rfl)
theorem dX9_watched_111 : decode cX9_watched 111 = .ok (.iload_n 2, 1) := dk_28 (dk_at dksX9_watched_4 19 rfl rfl)
theorem dX9_watched_112 : decode cX9_watched 112 = .ok (.goto 4, 3) := dk_167 0 4 (dk_at dksX9_watched_4 20 rfl rfl)
theorem dX9_watched_115 : decode cX9_watched 115 = .ok (.iload_n 3, 1) := dk_29 (dk_at dksX9_watched_4 23 rfl rfl)
theorem dX9_watched_116 : decode cX9_watched 116 = .ok (.ireturn, 1) := dk_172 (dk_at dksX9_watched_5 0 rfl rfl)
abbrev cX9_rebuild : ByteArray := prog_22_method_61_code
def yX9_rebuild : MethodName := ⟨RX9, "rebuild", "(I)I"⟩
def dkwX9_rebuild_3 : List UInt8 := [184, 0, 161, 62, 167, 255, 230, 28, 172]
abbrev dktX9_rebuild_3 : List UInt8 := dkwX9_rebuild_3 ++ []
def dkwX9_rebuild_2 : List UInt8 := [62, 29, 155, 0, 28, 42, 180, 0, 13, 29, 6, 184, 0, 44, 3, 79, 132, 2, 1, 42, 180, 0, 13]
abbrev dktX9_rebuild_2 : List UInt8 := dkwX9_rebuild_2 ++ dktX9_rebuild_3
def dkwX9_rebuild_1 : List UInt8 := [184, 0, 161, 172, 42, 180, 0, 9, 42, 180, 0, 13, 184, 0, 121, 3, 61, 42, 180, 0, 13, 184, 0, 161]
abbrev dktX9_rebuild_1 : List UInt8 := dkwX9_rebuild_1 ++ dktX9_rebuild_2
def dkwX9_rebuild_0 : List UInt8 := [27, 3, 4, 184, 0, 40, 154, 0, 10, 42, 16, 254, 182, 0, 36, 172, 27, 154, 0, 11, 42, 180, 0, 9]
abbrev dktX9_rebuild_0 : List UInt8 := dkwX9_rebuild_0 ++ dktX9_rebuild_1
theorem dksX9_rebuild_0 : cX9_rebuild.data.toList.drop 0 = dktX9_rebuild_0 := by decide +kernel
theorem dksX9_rebuild_1 : cX9_rebuild.data.toList.drop 24 = dktX9_rebuild_1 := dk_seg dksX9_rebuild_0 24 rfl rfl
theorem dksX9_rebuild_2 : cX9_rebuild.data.toList.drop 48 = dktX9_rebuild_2 := dk_seg dksX9_rebuild_1 24 rfl rfl
theorem dksX9_rebuild_3 : cX9_rebuild.data.toList.drop 71 = dktX9_rebuild_3 := dk_seg dksX9_rebuild_2 23 rfl rfl
theorem dX9_rebuild_0 : decode cX9_rebuild 0 = .ok (.iload_n 1, 1) := dk_27 (dk_at dksX9_rebuild_0 0 rfl rfl)
theorem dX9_rebuild_1 : decode cX9_rebuild 1 = .ok (.iconst 0, 1) := dk_3 (dk_at dksX9_rebuild_0 1 rfl rfl)
theorem dX9_rebuild_2 : decode cX9_rebuild 2 = .ok (.iconst 1, 1) := dk_4 (dk_at dksX9_rebuild_0 2 rfl rfl)
theorem dX9_rebuild_3 : decode cX9_rebuild 3 = .ok (.invokestatic 40, 3) := dk_184 0 40 (dk_at dksX9_rebuild_0 3 rfl rfl)
theorem dX9_rebuild_6 : decode cX9_rebuild 6 = .ok (.ifCond .ne 10, 3) := dk_154 0 10 (dk_at dksX9_rebuild_0 6 rfl rfl)
theorem dX9_rebuild_9 : decode cX9_rebuild 9 = .ok (.aload_n 0, 1) := dk_42 (dk_at dksX9_rebuild_0 9 rfl rfl)
theorem dX9_rebuild_10 : decode cX9_rebuild 10 = .ok (.bipush (-2), 2) := dk_16 254 (dk_at dksX9_rebuild_0 10 rfl rfl)
theorem dX9_rebuild_12 : decode cX9_rebuild 12 = .ok (.invokevirtual 36, 3) := dk_182 0 36 (dk_at dksX9_rebuild_0 12 rfl rfl)
theorem dX9_rebuild_15 : decode cX9_rebuild 15 = .ok (.ireturn, 1) := dk_172 (dk_at dksX9_rebuild_0 15 rfl rfl)
theorem dX9_rebuild_16 : decode cX9_rebuild 16 = .ok (.iload_n 1, 1) := dk_27 (dk_at dksX9_rebuild_0 16 rfl rfl)
theorem dX9_rebuild_17 : decode cX9_rebuild 17 = .ok (.ifCond .ne 11, 3) := dk_154 0 11 (dk_at dksX9_rebuild_0 17 rfl rfl)
theorem dX9_rebuild_20 : decode cX9_rebuild 20 = .ok (.aload_n 0, 1) := dk_42 (dk_at dksX9_rebuild_0 20 rfl rfl)
theorem dX9_rebuild_21 : decode cX9_rebuild 21 = .ok (.getfield 9, 3) := dk_180 0 9 (dk_at dksX9_rebuild_0 21 rfl rfl)
theorem dX9_rebuild_24 : decode cX9_rebuild 24 = .ok (.invokestatic 161, 3) := dk_184 0 161 (dk_at dksX9_rebuild_1 0 rfl rfl)
theorem dX9_rebuild_27 : decode cX9_rebuild 27 = .ok (.ireturn, 1) := dk_172 (dk_at dksX9_rebuild_1 3 rfl rfl)
theorem dX9_rebuild_28 : decode cX9_rebuild 28 = .ok (.aload_n 0, 1) := dk_42 (dk_at dksX9_rebuild_1 4 rfl rfl)
theorem dX9_rebuild_29 : decode cX9_rebuild 29 = .ok (.getfield 9, 3) := dk_180 0 9 (dk_at dksX9_rebuild_1 5 rfl rfl)
theorem dX9_rebuild_32 : decode cX9_rebuild 32 = .ok (.aload_n 0, 1) := dk_42 (dk_at dksX9_rebuild_1 8 rfl rfl)
theorem dX9_rebuild_33 : decode cX9_rebuild 33 = .ok (.getfield 13, 3) := dk_180 0 13 (dk_at dksX9_rebuild_1 9 rfl rfl)
theorem dX9_rebuild_36 : decode cX9_rebuild 36 = .ok (.invokestatic 121, 3) := dk_184 0 121 (dk_at dksX9_rebuild_1 12 rfl rfl)
theorem dX9_rebuild_39 : decode cX9_rebuild 39 = .ok (.iconst 0, 1) := dk_3 (dk_at dksX9_rebuild_1 15 rfl rfl)
theorem dX9_rebuild_40 : decode cX9_rebuild 40 = .ok (.istore_n 2, 1) := dk_61 (dk_at dksX9_rebuild_1 16 rfl rfl)
theorem dX9_rebuild_41 : decode cX9_rebuild 41 = .ok (.aload_n 0, 1) := dk_42 (dk_at dksX9_rebuild_1 17 rfl rfl)
theorem dX9_rebuild_42 : decode cX9_rebuild 42 = .ok (.getfield 13, 3) := dk_180 0 13 (dk_at dksX9_rebuild_1 18 rfl rfl)
theorem dX9_rebuild_45 : decode cX9_rebuild 45 = .ok (.invokestatic 161, 3) := dk_184 0 161 (dk_at dksX9_rebuild_1 21 rfl rfl)
theorem dX9_rebuild_48 : decode cX9_rebuild 48 = .ok (.istore_n 3, 1) := dk_62 (dk_at dksX9_rebuild_2 0 rfl rfl)
theorem dX9_rebuild_49 : decode cX9_rebuild 49 = .ok (.iload_n 3, 1) := dk_29 (dk_at dksX9_rebuild_2 1 rfl rfl)
theorem dX9_rebuild_50 : decode cX9_rebuild 50 = .ok (.ifCond .lt 28, 3) := dk_155 0 28 (dk_at dksX9_rebuild_2 2 rfl rfl)
theorem dX9_rebuild_53 : decode cX9_rebuild 53 = .ok (.aload_n 0, 1) := dk_42 (dk_at dksX9_rebuild_2 5 rfl rfl)
theorem dX9_rebuild_54 : decode cX9_rebuild 54 = .ok (.getfield 13, 3) := dk_180 0 13 (dk_at dksX9_rebuild_2 6 rfl rfl)
theorem dX9_rebuild_57 : decode cX9_rebuild 57 = .ok (.iload_n 3, 1) := dk_29 (dk_at dksX9_rebuild_2 9 rfl rfl)
theorem dX9_rebuild_58 : decode cX9_rebuild 58 = .ok (.iconst 3, 1) := dk_6 (dk_at dksX9_rebuild_2 10 rfl rfl)
theorem dX9_rebuild_59 : decode cX9_rebuild 59 = .ok (.invokestatic 44, 3) := dk_184 0 44 (dk_at dksX9_rebuild_2 11 rfl rfl)
theorem dX9_rebuild_62 : decode cX9_rebuild 62 = .ok (.iconst 0, 1) := dk_3 (dk_at dksX9_rebuild_2 14 rfl rfl)
theorem dX9_rebuild_63 : decode cX9_rebuild 63 = .ok (.iastore, 1) := dk_79 (dk_at dksX9_rebuild_2 15 rfl rfl)
theorem dX9_rebuild_64 : decode cX9_rebuild 64 = .ok (.iinc 2 1, 3) := dk_132 2 1 (dk_at dksX9_rebuild_2 16 rfl rfl)
theorem dX9_rebuild_67 : decode cX9_rebuild 67 = .ok (.aload_n 0, 1) := dk_42 (dk_at dksX9_rebuild_2 19 rfl rfl)
theorem dX9_rebuild_68 : decode cX9_rebuild 68 = .ok (.getfield 13, 3) := dk_180 0 13 (dk_at dksX9_rebuild_2 20 rfl rfl)
theorem dX9_rebuild_71 : decode cX9_rebuild 71 = .ok (.invokestatic 161, 3) := dk_184 0 161 (dk_at dksX9_rebuild_3 0 rfl rfl)
theorem dX9_rebuild_74 : decode cX9_rebuild 74 = .ok (.istore_n 3, 1) := dk_62 (dk_at dksX9_rebuild_3 3 rfl rfl)
theorem dX9_rebuild_75 : decode cX9_rebuild 75 = .ok (.goto (-26), 3) := dk_167 255 230 (dk_at dksX9_rebuild_3 4 rfl rfl)
theorem dX9_rebuild_78 : decode cX9_rebuild 78 = .ok (.iload_n 2, 1) := dk_28 (dk_at dksX9_rebuild_3 7 rfl rfl)
theorem dX9_rebuild_79 : decode cX9_rebuild 79 = .ok (.ireturn, 1) := dk_172 (dk_at dksX9_rebuild_3 8 rfl rfl)
abbrev cX9_rebuilt : ByteArray := prog_22_method_60_code
def yX9_rebuilt : MethodName := ⟨RX9, "rebuilt", "([I)I"⟩
def dkwX9_rebuilt_1 : List UInt8 := [184, 0, 70, 153, 0, 5, 27, 172, 132, 1, 1, 167, 255, 225, 16, 247, 172]
abbrev dktX9_rebuilt_1 : List UInt8 := dkwX9_rebuilt_1 ++ []
def dkwX9_rebuilt_0 : List UInt8 := [3, 60, 27, 42, 3, 46, 162, 0, 30, 42, 27, 6, 184, 0, 44, 46, 4, 160, 0, 13, 42, 27]
abbrev dktX9_rebuilt_0 : List UInt8 := dkwX9_rebuilt_0 ++ dktX9_rebuilt_1
theorem dksX9_rebuilt_0 : cX9_rebuilt.data.toList.drop 0 = dktX9_rebuilt_0 := by decide +kernel
theorem dksX9_rebuilt_1 : cX9_rebuilt.data.toList.drop 22 = dktX9_rebuilt_1 := dk_seg dksX9_rebuilt_0 22 rfl rfl
theorem dX9_rebuilt_0 : decode cX9_rebuilt 0 = .ok (.iconst 0, 1) := dk_3 (dk_at dksX9_rebuilt_0 0 rfl rfl)
theorem dX9_rebuilt_1 : decode cX9_rebuilt 1 = .ok (.istore_n 1, 1) := dk_60 (dk_at dksX9_rebuilt_0 1 rfl rfl)
theorem dX9_rebuilt_2 : decode cX9_rebuilt 2 = .ok (.iload_n 1, 1) := dk_27 (dk_at dksX9_rebuilt_0 2 rfl rfl)
theorem dX9_rebuilt_3 : decode cX9_rebuilt 3 = .ok (.aload_n 0, 1) := dk_42 (dk_at dksX9_rebuilt_0 3 rfl rfl)
theorem dX9_rebuilt_4 : decode cX9_rebuilt 4 = .ok (.iconst 0, 1) := dk_3 (dk_at dksX9_rebuilt_0 4 rfl rfl)
theorem dX9_rebuilt_5 : decode cX9_rebuilt 5 = .ok (.iaload, 1) := dk_46 (dk_at dksX9_rebuilt_0 5 rfl rfl)
theorem dX9_rebuilt_6 : decode cX9_rebuilt 6 = .ok (.if_icmp .ge 30, 3) := dk_162 0 30 (dk_at dksX9_rebuilt_0 6 rfl rfl)
theorem dX9_rebuilt_9 : decode cX9_rebuilt 9 = .ok (.aload_n 0, 1) := dk_42 (dk_at dksX9_rebuilt_0 9 rfl rfl)
theorem dX9_rebuilt_10 : decode cX9_rebuilt 10 = .ok (.iload_n 1, 1) := dk_27 (dk_at dksX9_rebuilt_0 10 rfl rfl)
theorem dX9_rebuilt_11 : decode cX9_rebuilt 11 = .ok (.iconst 3, 1) := dk_6 (dk_at dksX9_rebuilt_0 11 rfl rfl)
theorem dX9_rebuilt_12 : decode cX9_rebuilt 12 = .ok (.invokestatic 44, 3) := dk_184 0 44 (dk_at dksX9_rebuilt_0 12 rfl rfl)
theorem dX9_rebuilt_15 : decode cX9_rebuilt 15 = .ok (.iaload, 1) := dk_46 (dk_at dksX9_rebuilt_0 15 rfl rfl)
theorem dX9_rebuilt_16 : decode cX9_rebuilt 16 = .ok (.iconst 1, 1) := dk_4 (dk_at dksX9_rebuilt_0 16 rfl rfl)
theorem dX9_rebuilt_17 : decode cX9_rebuilt 17 = .ok (.if_icmp .ne 13, 3) := dk_160 0 13 (dk_at dksX9_rebuilt_0 17 rfl rfl)
theorem dX9_rebuilt_20 : decode cX9_rebuilt 20 = .ok (.aload_n 0, 1) := dk_42 (dk_at dksX9_rebuilt_0 20 rfl rfl)
theorem dX9_rebuilt_21 : decode cX9_rebuilt 21 = .ok (.iload_n 1, 1) := dk_27 (dk_at dksX9_rebuilt_0 21 rfl rfl)
theorem dX9_rebuilt_22 : decode cX9_rebuilt 22 = .ok (.invokestatic 70, 3) := dk_184 0 70 (dk_at dksX9_rebuilt_1 0 rfl rfl)
theorem dX9_rebuilt_25 : decode cX9_rebuilt 25 = .ok (.ifCond .eq 5, 3) := dk_153 0 5 (dk_at dksX9_rebuilt_1 3 rfl rfl)
theorem dX9_rebuilt_28 : decode cX9_rebuilt 28 = .ok (.iload_n 1, 1) := dk_27 (dk_at dksX9_rebuilt_1 6 rfl rfl)
theorem dX9_rebuilt_29 : decode cX9_rebuilt 29 = .ok (.ireturn, 1) := dk_172 (dk_at dksX9_rebuilt_1 7 rfl rfl)
theorem dX9_rebuilt_30 : decode cX9_rebuilt 30 = .ok (.iinc 1 1, 3) := dk_132 1 1 (dk_at dksX9_rebuilt_1 8 rfl rfl)
theorem dX9_rebuilt_33 : decode cX9_rebuilt 33 = .ok (.goto (-31), 3) := dk_167 255 225 (dk_at dksX9_rebuilt_1 11 rfl rfl)
theorem dX9_rebuilt_36 : decode cX9_rebuilt 36 = .ok (.bipush (-9), 2) := dk_16 247 (dk_at dksX9_rebuilt_1 14 rfl rfl)
theorem dX9_rebuilt_38 : decode cX9_rebuilt 38 = .ok (.ireturn, 1) := dk_172 (dk_at dksX9_rebuilt_1 16 rfl rfl)
abbrev cX9_draught : ByteArray := prog_22_method_64_code
def yX9_draught : MethodName := ⟨RX9, "draught", "(IIII)J"⟩
def dkwX9_draught_8 : List UInt8 := [9, 97, 55, 5, 132, 9, 1, 167, 255, 157, 22, 5, 22, 7, 21, 4, 184, 0, 173, 173]
abbrev dktX9_draught_8 : List UInt8 := dkwX9_draught_8 ++ []
def dkwX9_draught_7 : List UInt8 := [132, 12, 1, 167, 255, 210, 22, 5, 42, 180, 0, 13, 27, 184, 0, 55, 153, 0, 8, 22, 10, 167, 0, 4]
abbrev dktX9_draught_7 : List UInt8 := dkwX9_draught_7 ++ dktX9_draught_8
def dkwX9_draught_6 : List UInt8 := [167, 0, 7, 29, 4, 100, 133, 105, 55, 10, 42, 180, 0, 13, 21, 9, 21, 12, 122, 4, 126, 184, 0, 80]
abbrev dktX9_draught_6 : List UInt8 := dkwX9_draught_6 ++ dktX9_draught_7
def dkwX9_draught_5 : List UInt8 := [3, 54, 12, 21, 12, 28, 162, 0, 46, 22, 10, 21, 9, 21, 12, 184, 0, 51, 153, 0, 7, 10]
abbrev dktX9_draught_5 : List UInt8 := dkwX9_draught_5 ++ dktX9_draught_6
def dkwX9_draught_4 : List UInt8 := [54, 9, 21, 9, 4, 28, 120, 162, 0, 97, 10, 55, 10, 42, 180, 0, 9, 42, 180, 0, 13, 184, 0, 121]
abbrev dktX9_draught_4 : List UInt8 := dkwX9_draught_4 ++ dktX9_draught_5
def dkwX9_draught_3 : List UInt8 := [3, 54, 9, 21, 9, 28, 162, 0, 16, 22, 7, 29, 133, 105, 55, 7, 132, 9, 1, 167, 255, 240, 3]
abbrev dktX9_draught_3 : List UInt8 := dkwX9_draught_3 ++ dktX9_draught_4
def dkwX9_draught_2 : List UInt8 := [173, 21, 4, 3, 4, 184, 0, 40, 154, 0, 10, 42, 16, 254, 182, 0, 169, 173, 9, 55, 5, 10, 55, 7]
abbrev dktX9_draught_2 : List UInt8 := dkwX9_draught_2 ++ dktX9_draught_3
def dkwX9_draught_1 : List UInt8 := [16, 252, 182, 0, 169, 173, 28, 16, 7, 163, 0, 9, 29, 16, 20, 164, 0, 10, 42, 16, 250, 182, 0, 169]
abbrev dktX9_draught_1 : List UInt8 := dkwX9_draught_1 ++ dktX9_draught_2
def dkwX9_draught_0 : List UInt8 := [42, 27, 182, 0, 105, 154, 0, 9, 42, 2, 182, 0, 169, 173, 28, 155, 0, 8, 29, 5, 162, 0, 10, 42]
abbrev dktX9_draught_0 : List UInt8 := dkwX9_draught_0 ++ dktX9_draught_1
theorem dksX9_draught_0 : cX9_draught.data.toList.drop 0 = dktX9_draught_0 := by decide +kernel
theorem dksX9_draught_1 : cX9_draught.data.toList.drop 24 = dktX9_draught_1 := dk_seg dksX9_draught_0 24 rfl rfl
theorem dksX9_draught_2 : cX9_draught.data.toList.drop 48 = dktX9_draught_2 := dk_seg dksX9_draught_1 24 rfl rfl
theorem dksX9_draught_3 : cX9_draught.data.toList.drop 72 = dktX9_draught_3 := dk_seg dksX9_draught_2 24 rfl rfl
theorem dksX9_draught_4 : cX9_draught.data.toList.drop 95 = dktX9_draught_4 := dk_seg dksX9_draught_3 23 rfl rfl
theorem dksX9_draught_5 : cX9_draught.data.toList.drop 119 = dktX9_draught_5 := dk_seg dksX9_draught_4 24 rfl rfl
theorem dksX9_draught_6 : cX9_draught.data.toList.drop 141 = dktX9_draught_6 := dk_seg dksX9_draught_5 22 rfl rfl
theorem dksX9_draught_7 : cX9_draught.data.toList.drop 165 = dktX9_draught_7 := dk_seg dksX9_draught_6 24 rfl rfl
theorem dksX9_draught_8 : cX9_draught.data.toList.drop 189 = dktX9_draught_8 := dk_seg dksX9_draught_7 24 rfl rfl
theorem dX9_draught_0 : decode cX9_draught 0 = .ok (.aload_n 0, 1) := dk_42 (dk_at dksX9_draught_0 0 rfl rfl)
theorem dX9_draught_1 : decode cX9_draught 1 = .ok (.iload_n 1, 1) := dk_27 (dk_at dksX9_draught_0 1 rfl rfl)
theorem dX9_draught_2 : decode cX9_draught 2 = .ok (.invokevirtual 105, 3) := dk_182 0 105 (dk_at dksX9_draught_0 2 rfl rfl)
theorem dX9_draught_5 : decode cX9_draught 5 = .ok (.ifCond .ne 9, 3) := dk_154 0 9 (dk_at dksX9_draught_0 5 rfl rfl)
theorem dX9_draught_8 : decode cX9_draught 8 = .ok (.aload_n 0, 1) := dk_42 (dk_at dksX9_draught_0 8 rfl rfl)
theorem dX9_draught_9 : decode cX9_draught 9 = .ok (.iconst (-1), 1) := dk_2 (dk_at dksX9_draught_0 9 rfl rfl)
theorem dX9_draught_10 : decode cX9_draught 10 = .ok (.invokevirtual 169, 3) := dk_182 0 169 (dk_at dksX9_draught_0 10 rfl rfl)
theorem dX9_draught_13 : decode cX9_draught 13 = .ok (.lreturn, 1) := dk_173 (dk_at dksX9_draught_0 13 rfl rfl)
theorem dX9_draught_14 : decode cX9_draught 14 = .ok (.iload_n 2, 1) := dk_28 (dk_at dksX9_draught_0 14 rfl rfl)
theorem dX9_draught_15 : decode cX9_draught 15 = .ok (.ifCond .lt 8, 3) := dk_155 0 8 (dk_at dksX9_draught_0 15 rfl rfl)
theorem dX9_draught_18 : decode cX9_draught 18 = .ok (.iload_n 3, 1) := dk_29 (dk_at dksX9_draught_0 18 rfl rfl)
theorem dX9_draught_19 : decode cX9_draught 19 = .ok (.iconst 2, 1) := dk_5 (dk_at dksX9_draught_0 19 rfl rfl)
theorem dX9_draught_20 : decode cX9_draught 20 = .ok (.if_icmp .ge 10, 3) := dk_162 0 10 (dk_at dksX9_draught_0 20 rfl rfl)
theorem dX9_draught_23 : decode cX9_draught 23 = .ok (.aload_n 0, 1) := dk_42 (dk_at dksX9_draught_0 23 rfl rfl)
theorem dX9_draught_24 : decode cX9_draught 24 = .ok (.bipush (-4), 2) := dk_16 252 (dk_at dksX9_draught_1 0 rfl rfl)
theorem dX9_draught_26 : decode cX9_draught 26 = .ok (.invokevirtual 169, 3) := dk_182 0 169 (dk_at dksX9_draught_1 2 rfl rfl)
theorem dX9_draught_29 : decode cX9_draught 29 = .ok (.lreturn, 1) := dk_173 (dk_at dksX9_draught_1 5 rfl rfl)
theorem dX9_draught_30 : decode cX9_draught 30 = .ok (.iload_n 2, 1) := dk_28 (dk_at dksX9_draught_1 6 rfl rfl)
theorem dX9_draught_31 : decode cX9_draught 31 = .ok (.bipush 7, 2) := dk_16 7 (dk_at dksX9_draught_1 7 rfl rfl)
theorem dX9_draught_33 : decode cX9_draught 33 = .ok (.if_icmp .gt 9, 3) := dk_163 0 9 (dk_at dksX9_draught_1 9 rfl rfl)
theorem dX9_draught_36 : decode cX9_draught 36 = .ok (.iload_n 3, 1) := dk_29 (dk_at dksX9_draught_1 12 rfl rfl)
theorem dX9_draught_37 : decode cX9_draught 37 = .ok (.bipush 20, 2) := dk_16 20 (dk_at dksX9_draught_1 13 rfl rfl)
theorem dX9_draught_39 : decode cX9_draught 39 = .ok (.if_icmp .le 10, 3) := dk_164 0 10 (dk_at dksX9_draught_1 15 rfl rfl)
theorem dX9_draught_42 : decode cX9_draught 42 = .ok (.aload_n 0, 1) := dk_42 (dk_at dksX9_draught_1 18 rfl rfl)
theorem dX9_draught_43 : decode cX9_draught 43 = .ok (.bipush (-6), 2) := dk_16 250 (dk_at dksX9_draught_1 19 rfl rfl)
theorem dX9_draught_45 : decode cX9_draught 45 = .ok (.invokevirtual 169, 3) := dk_182 0 169 (dk_at dksX9_draught_1 21 rfl rfl)
theorem dX9_draught_48 : decode cX9_draught 48 = .ok (.lreturn, 1) := dk_173 (dk_at dksX9_draught_2 0 rfl rfl)
theorem dX9_draught_49 : decode cX9_draught 49 = .ok (.iload 4, 2) := dk_21 4 (dk_at dksX9_draught_2 1 rfl rfl)
theorem dX9_draught_51 : decode cX9_draught 51 = .ok (.iconst 0, 1) := dk_3 (dk_at dksX9_draught_2 3 rfl rfl)
theorem dX9_draught_52 : decode cX9_draught 52 = .ok (.iconst 1, 1) := dk_4 (dk_at dksX9_draught_2 4 rfl rfl)
theorem dX9_draught_53 : decode cX9_draught 53 = .ok (.invokestatic 40, 3) := dk_184 0 40 (dk_at dksX9_draught_2 5 rfl rfl)
theorem dX9_draught_56 : decode cX9_draught 56 = .ok (.ifCond .ne 10, 3) := dk_154 0 10 (dk_at dksX9_draught_2 8 rfl rfl)
theorem dX9_draught_59 : decode cX9_draught 59 = .ok (.aload_n 0, 1) := dk_42 (dk_at dksX9_draught_2 11 rfl rfl)
theorem dX9_draught_60 : decode cX9_draught 60 = .ok (.bipush (-2), 2) := dk_16 254 (dk_at dksX9_draught_2 12 rfl rfl)
theorem dX9_draught_62 : decode cX9_draught 62 = .ok (.invokevirtual 169, 3) := dk_182 0 169 (dk_at dksX9_draught_2 14 rfl rfl)
theorem dX9_draught_65 : decode cX9_draught 65 = .ok (.lreturn, 1) := dk_173 (dk_at dksX9_draught_2 17 rfl rfl)
theorem dX9_draught_66 : decode cX9_draught 66 = .ok (.lconst 0, 1) := dk_9 (dk_at dksX9_draught_2 18 rfl rfl)
theorem dX9_draught_67 : decode cX9_draught 67 = .ok (.lstore 5, 2) := dk_55 5 (dk_at dksX9_draught_2 19 rfl rfl)
theorem dX9_draught_69 : decode cX9_draught 69 = .ok (.lconst 1, 1) := dk_10 (dk_at dksX9_draught_2 21 rfl rfl)
theorem dX9_draught_70 : decode cX9_draught 70 = .ok (.lstore 7, 2) := dk_55 7 (dk_at dksX9_draught_2 22 rfl rfl)
theorem dX9_draught_72 : decode cX9_draught 72 = .ok (.iconst 0, 1) := dk_3 (dk_at dksX9_draught_3 0 rfl rfl)
theorem dX9_draught_73 : decode cX9_draught 73 = .ok (.istore 9, 2) := dk_54 9 (dk_at dksX9_draught_3 1 rfl rfl)
theorem dX9_draught_75 : decode cX9_draught 75 = .ok (.iload 9, 2) := dk_21 9 (dk_at dksX9_draught_3 3 rfl rfl)
theorem dX9_draught_77 : decode cX9_draught 77 = .ok (.iload_n 2, 1) := dk_28 (dk_at dksX9_draught_3 5 rfl rfl)
theorem dX9_draught_78 : decode cX9_draught 78 = .ok (.if_icmp .ge 16, 3) := dk_162 0 16 (dk_at dksX9_draught_3 6 rfl rfl)
theorem dX9_draught_81 : decode cX9_draught 81 = .ok (.lload 7, 2) := dk_22 7 (dk_at dksX9_draught_3 9 rfl rfl)
theorem dX9_draught_83 : decode cX9_draught 83 = .ok (.iload_n 3, 1) := dk_29 (dk_at dksX9_draught_3 11 rfl rfl)
theorem dX9_draught_84 : decode cX9_draught 84 = .ok (.i2l, 1) := dk_133 (dk_at dksX9_draught_3 12 rfl rfl)
theorem dX9_draught_85 : decode cX9_draught 85 = .ok (.lmul, 1) := dk_105 (dk_at dksX9_draught_3 13 rfl rfl)
theorem dX9_draught_86 : decode cX9_draught 86 = .ok (.lstore 7, 2) := dk_55 7 (dk_at dksX9_draught_3 14 rfl rfl)
theorem dX9_draught_88 : decode cX9_draught 88 = .ok (.iinc 9 1, 3) := dk_132 9 1 (dk_at dksX9_draught_3 16 rfl rfl)
theorem dX9_draught_91 : decode cX9_draught 91 = .ok (.goto (-16), 3) := dk_167 255 240 (dk_at dksX9_draught_3 19 rfl rfl)
theorem dX9_draught_94 : decode cX9_draught 94 = .ok (.iconst 0, 1) := dk_3 (dk_at dksX9_draught_3 22 rfl rfl)
theorem dX9_draught_95 : decode cX9_draught 95 = .ok (.istore 9, 2) := dk_54 9 (dk_at dksX9_draught_4 0 rfl rfl)
theorem dX9_draught_97 : decode cX9_draught 97 = .ok (.iload 9, 2) := dk_21 9 (dk_at dksX9_draught_4 2 rfl rfl)
theorem dX9_draught_99 : decode cX9_draught 99 = .ok (.iconst 1, 1) := dk_4 (dk_at dksX9_draught_4 4 rfl rfl)
theorem dX9_draught_100 : decode cX9_draught 100 = .ok (.iload_n 2, 1) := dk_28 (dk_at dksX9_draught_4 5 rfl rfl)
theorem dX9_draught_101 : decode cX9_draught 101 = .ok (.ishl, 1) := dk_120 (dk_at dksX9_draught_4 6 rfl rfl)
theorem dX9_draught_102 : decode cX9_draught 102 = .ok (.if_icmp .ge 97, 3) := dk_162 0 97 (dk_at dksX9_draught_4 7 rfl rfl)
theorem dX9_draught_105 : decode cX9_draught 105 = .ok (.lconst 1, 1) := dk_10 (dk_at dksX9_draught_4 10 rfl rfl)
theorem dX9_draught_106 : decode cX9_draught 106 = .ok (.lstore 10, 2) := dk_55 10 (dk_at dksX9_draught_4 11 rfl rfl)
theorem dX9_draught_108 : decode cX9_draught 108 = .ok (.aload_n 0, 1) := dk_42 (dk_at dksX9_draught_4 13 rfl rfl)
theorem dX9_draught_109 : decode cX9_draught 109 = .ok (.getfield 9, 3) := dk_180 0 9 (dk_at dksX9_draught_4 14 rfl rfl)
theorem dX9_draught_112 : decode cX9_draught 112 = .ok (.aload_n 0, 1) := dk_42 (dk_at dksX9_draught_4 17 rfl rfl)
theorem dX9_draught_113 : decode cX9_draught 113 = .ok (.getfield 13, 3) := dk_180 0 13 (dk_at dksX9_draught_4 18 rfl rfl)
theorem dX9_draught_116 : decode cX9_draught 116 = .ok (.invokestatic 121, 3) := dk_184 0 121 (dk_at dksX9_draught_4 21 rfl rfl)
theorem dX9_draught_119 : decode cX9_draught 119 = .ok (.iconst 0, 1) := dk_3 (dk_at dksX9_draught_5 0 rfl rfl)
theorem dX9_draught_120 : decode cX9_draught 120 = .ok (.istore 12, 2) := dk_54 12 (dk_at dksX9_draught_5 1 rfl rfl)
theorem dX9_draught_122 : decode cX9_draught 122 = .ok (.iload 12, 2) := dk_21 12 (dk_at dksX9_draught_5 3 rfl rfl)
theorem dX9_draught_124 : decode cX9_draught 124 = .ok (.iload_n 2, 1) := dk_28 (dk_at dksX9_draught_5 5 rfl rfl)
theorem dX9_draught_125 : decode cX9_draught 125 = .ok (.if_icmp .ge 46, 3) := dk_162 0 46 (dk_at dksX9_draught_5 6 rfl rfl)
theorem dX9_draught_128 : decode cX9_draught 128 = .ok (.lload 10, 2) := dk_22 10 (dk_at dksX9_draught_5 9 rfl rfl)
theorem dX9_draught_130 : decode cX9_draught 130 = .ok (.iload 9, 2) := dk_21 9 (dk_at dksX9_draught_5 11 rfl rfl)
theorem dX9_draught_132 : decode cX9_draught 132 = .ok (.iload 12, 2) := dk_21 12 (dk_at dksX9_draught_5 13 rfl rfl)
theorem dX9_draught_134 : decode cX9_draught 134 = .ok (.invokestatic 51, 3) := dk_184 0 51 (dk_at dksX9_draught_5 15 rfl rfl)
theorem dX9_draught_137 : decode cX9_draught 137 = .ok (.ifCond .eq 7, 3) := dk_153 0 7 (dk_at dksX9_draught_5 18 rfl rfl)
theorem dX9_draught_140 : decode cX9_draught 140 = .ok (.lconst 1, 1) := dk_10 (dk_at dksX9_draught_5 21 rfl rfl)
theorem dX9_draught_141 : decode cX9_draught 141 = .ok (.goto 7, 3) := dk_167 0 7 (dk_at dksX9_draught_6 0 rfl rfl)
theorem dX9_draught_144 : decode cX9_draught 144 = .ok (.iload_n 3, 1) := dk_29 (dk_at dksX9_draught_6 3 rfl rfl)
theorem dX9_draught_145 : decode cX9_draught 145 = .ok (.iconst 1, 1) := dk_4 (dk_at dksX9_draught_6 4 rfl rfl)
theorem dX9_draught_146 : decode cX9_draught 146 = .ok (.isub, 1) := dk_100 (dk_at dksX9_draught_6 5 rfl rfl)
theorem dX9_draught_147 : decode cX9_draught 147 = .ok (.i2l, 1) := dk_133 (dk_at dksX9_draught_6 6 rfl rfl)
theorem dX9_draught_148 : decode cX9_draught 148 = .ok (.lmul, 1) := dk_105 (dk_at dksX9_draught_6 7 rfl rfl)
theorem dX9_draught_149 : decode cX9_draught 149 = .ok (.lstore 10, 2) := dk_55 10 (dk_at dksX9_draught_6 8 rfl rfl)
theorem dX9_draught_151 : decode cX9_draught 151 = .ok (.aload_n 0, 1) := dk_42 (dk_at dksX9_draught_6 10 rfl rfl)
theorem dX9_draught_152 : decode cX9_draught 152 = .ok (.getfield 13, 3) := dk_180 0 13 (dk_at dksX9_draught_6 11 rfl rfl)
theorem dX9_draught_155 : decode cX9_draught 155 = .ok (.iload 9, 2) := dk_21 9 (dk_at dksX9_draught_6 14 rfl rfl)
theorem dX9_draught_157 : decode cX9_draught 157 = .ok (.iload 12, 2) := dk_21 12 (dk_at dksX9_draught_6 16 rfl rfl)
theorem dX9_draught_159 : decode cX9_draught 159 = .ok (.ishr, 1) := dk_122 (dk_at dksX9_draught_6 18 rfl rfl)
theorem dX9_draught_160 : decode cX9_draught 160 = .ok (.iconst 1, 1) := dk_4 (dk_at dksX9_draught_6 19 rfl rfl)
theorem dX9_draught_161 : decode cX9_draught 161 = .ok (.iand, 1) := dk_126 (dk_at dksX9_draught_6 20 rfl rfl)
theorem dX9_draught_162 : decode cX9_draught 162 = .ok (.invokestatic 80, 3) := dk_184 0 80 (dk_at dksX9_draught_6 21 rfl rfl)
theorem dX9_draught_165 : decode cX9_draught 165 = .ok (.iinc 12 1, 3) := dk_132 12 1 (dk_at dksX9_draught_7 0 rfl rfl)
theorem dX9_draught_168 : decode cX9_draught 168 = .ok (.goto (-46), 3) := dk_167 255 210 (dk_at dksX9_draught_7 3 rfl rfl)
theorem dX9_draught_171 : decode cX9_draught 171 = .ok (.lload 5, 2) := dk_22 5 (dk_at dksX9_draught_7 6 rfl rfl)
theorem dX9_draught_173 : decode cX9_draught 173 = .ok (.aload_n 0, 1) := dk_42 (dk_at dksX9_draught_7 8 rfl rfl)
theorem dX9_draught_174 : decode cX9_draught 174 = .ok (.getfield 13, 3) := dk_180 0 13 (dk_at dksX9_draught_7 9 rfl rfl)
theorem dX9_draught_177 : decode cX9_draught 177 = .ok (.iload_n 1, 1) := dk_27 (dk_at dksX9_draught_7 12 rfl rfl)
theorem dX9_draught_178 : decode cX9_draught 178 = .ok (.invokestatic 55, 3) := dk_184 0 55 (dk_at dksX9_draught_7 13 rfl rfl)
theorem dX9_draught_181 : decode cX9_draught 181 = .ok (.ifCond .eq 8, 3) := dk_153 0 8 (dk_at dksX9_draught_7 16 rfl rfl)
theorem dX9_draught_184 : decode cX9_draught 184 = .ok (.lload 10, 2) := dk_22 10 (dk_at dksX9_draught_7 19 rfl rfl)
theorem dX9_draught_186 : decode cX9_draught 186 = .ok (.goto 4, 3) := dk_167 0 4 (dk_at dksX9_draught_7 21 rfl rfl)
theorem dX9_draught_189 : decode cX9_draught 189 = .ok (.lconst 0, 1) := dk_9 (dk_at dksX9_draught_8 0 rfl rfl)
theorem dX9_draught_190 : decode cX9_draught 190 = .ok (.ladd, 1) := dk_97 (dk_at dksX9_draught_8 1 rfl rfl)
theorem dX9_draught_191 : decode cX9_draught 191 = .ok (.lstore 5, 2) := dk_55 5 (dk_at dksX9_draught_8 2 rfl rfl)
theorem dX9_draught_193 : decode cX9_draught 193 = .ok (.iinc 9 1, 3) := dk_132 9 1 (dk_at dksX9_draught_8 4 rfl rfl)
theorem dX9_draught_196 : decode cX9_draught 196 = .ok (.goto (-99), 3) := dk_167 255 157 (dk_at dksX9_draught_8 7 rfl rfl)
theorem dX9_draught_199 : decode cX9_draught 199 = .ok (.lload 5, 2) := dk_22 5 (dk_at dksX9_draught_8 10 rfl rfl)
theorem dX9_draught_201 : decode cX9_draught 201 = .ok (.lload 7, 2) := dk_22 7 (dk_at dksX9_draught_8 12 rfl rfl)
theorem dX9_draught_203 : decode cX9_draught 203 = .ok (.iload 4, 2) := dk_21 4 (dk_at dksX9_draught_8 14 rfl rfl)
theorem dX9_draught_205 : decode cX9_draught 205 = .ok (.invokestatic 173, 3) := dk_184 0 173 (dk_at dksX9_draught_8 16 rfl rfl)
theorem dX9_draught_208 : decode cX9_draught 208 = .ok (.lreturn, 1) := dk_173 (dk_at dksX9_draught_8 19 rfl rfl)
abbrev cX9_noWide : ByteArray := prog_22_method_6_code
def yX9_noWide : MethodName := ⟨RX9, "noWide", "(I)J"⟩
def dkwX9_noWide_0 : List UInt8 := [20, 0, 34, 42, 27, 182, 0, 36, 133, 101, 173]
abbrev dktX9_noWide_0 : List UInt8 := dkwX9_noWide_0 ++ []
theorem dksX9_noWide_0 : cX9_noWide.data.toList.drop 0 = dktX9_noWide_0 := by decide +kernel
theorem dX9_noWide_0 : decode cX9_noWide 0 = .ok (.ldc2_w 34, 3) := dk_20 0 34 (dk_at dksX9_noWide_0 0 rfl rfl)
theorem dX9_noWide_3 : decode cX9_noWide 3 = .ok (.aload_n 0, 1) := dk_42 (dk_at dksX9_noWide_0 3 rfl rfl)
theorem dX9_noWide_4 : decode cX9_noWide 4 = .ok (.iload_n 1, 1) := dk_27 (dk_at dksX9_noWide_0 4 rfl rfl)
theorem dX9_noWide_5 : decode cX9_noWide 5 = .ok (.invokevirtual 36, 3) := dk_182 0 36 (dk_at dksX9_noWide_0 5 rfl rfl)
theorem dX9_noWide_8 : decode cX9_noWide 8 = .ok (.i2l, 1) := dk_133 (dk_at dksX9_noWide_0 8 rfl rfl)
theorem dX9_noWide_9 : decode cX9_noWide 9 = .ok (.lsub, 1) := dk_101 (dk_at dksX9_noWide_0 9 rfl rfl)
theorem dX9_noWide_10 : decode cX9_noWide 10 = .ok (.lreturn, 1) := dk_173 (dk_at dksX9_noWide_0 10 rfl rfl)
abbrev cX9_partOf : ByteArray := prog_22_method_63_code
def yX9_partOf : MethodName := ⟨RX9, "partOf", "(JJI)J"⟩
def dkwX9_partOf_1 : List UInt8 := [184, 0, 165, 109, 173]
abbrev dktX9_partOf_1 : List UInt8 := dkwX9_partOf_1 ++ []
def dkwX9_partOf_0 : List UInt8 := [30, 9, 148, 154, 0, 7, 21, 4, 133, 173, 21, 4, 154, 0, 7, 30, 167, 0, 4, 32, 30, 32]
abbrev dktX9_partOf_0 : List UInt8 := dkwX9_partOf_0 ++ dktX9_partOf_1
theorem dksX9_partOf_0 : cX9_partOf.data.toList.drop 0 = dktX9_partOf_0 := by decide +kernel
theorem dksX9_partOf_1 : cX9_partOf.data.toList.drop 22 = dktX9_partOf_1 := dk_seg dksX9_partOf_0 22 rfl rfl
theorem dX9_partOf_0 : decode cX9_partOf 0 = .ok (.lload_n 0, 1) := dk_30 (dk_at dksX9_partOf_0 0 rfl rfl)
theorem dX9_partOf_1 : decode cX9_partOf 1 = .ok (.lconst 0, 1) := dk_9 (dk_at dksX9_partOf_0 1 rfl rfl)
theorem dX9_partOf_2 : decode cX9_partOf 2 = .ok (.lcmp, 1) := dk_148 (dk_at dksX9_partOf_0 2 rfl rfl)
theorem dX9_partOf_3 : decode cX9_partOf 3 = .ok (.ifCond .ne 7, 3) := dk_154 0 7 (dk_at dksX9_partOf_0 3 rfl rfl)
theorem dX9_partOf_6 : decode cX9_partOf 6 = .ok (.iload 4, 2) := dk_21 4 (dk_at dksX9_partOf_0 6 rfl rfl)
theorem dX9_partOf_8 : decode cX9_partOf 8 = .ok (.i2l, 1) := dk_133 (dk_at dksX9_partOf_0 8 rfl rfl)
theorem dX9_partOf_9 : decode cX9_partOf 9 = .ok (.lreturn, 1) := dk_173 (dk_at dksX9_partOf_0 9 rfl rfl)
theorem dX9_partOf_10 : decode cX9_partOf 10 = .ok (.iload 4, 2) := dk_21 4 (dk_at dksX9_partOf_0 10 rfl rfl)
theorem dX9_partOf_12 : decode cX9_partOf 12 = .ok (.ifCond .ne 7, 3) := dk_154 0 7 (dk_at dksX9_partOf_0 12 rfl rfl)
theorem dX9_partOf_15 : decode cX9_partOf 15 = .ok (.lload_n 0, 1) := dk_30 (dk_at dksX9_partOf_0 15 rfl rfl)
theorem dX9_partOf_16 : decode cX9_partOf 16 = .ok (.goto 4, 3) := dk_167 0 4 (dk_at dksX9_partOf_0 16 rfl rfl)
theorem dX9_partOf_19 : decode cX9_partOf 19 = .ok (.lload_n 2, 1) := dk_32 (dk_at dksX9_partOf_0 19 rfl rfl)
theorem dX9_partOf_20 : decode cX9_partOf 20 = .ok (.lload_n 0, 1) := dk_30 (dk_at dksX9_partOf_0 20 rfl rfl)
theorem dX9_partOf_21 : decode cX9_partOf 21 = .ok (.lload_n 2, 1) := dk_32 (dk_at dksX9_partOf_0 21 rfl rfl)
theorem dX9_partOf_22 : decode cX9_partOf 22 = .ok (.invokestatic 165, 3) := dk_184 0 165 (dk_at dksX9_partOf_1 0 rfl rfl)
theorem dX9_partOf_25 : decode cX9_partOf 25 = .ok (.ldiv, 1) := dk_109 (dk_at dksX9_partOf_1 3 rfl rfl)
theorem dX9_partOf_26 : decode cX9_partOf 26 = .ok (.lreturn, 1) := dk_173 (dk_at dksX9_partOf_1 4 rfl rfl)
abbrev cX9_gcd : ByteArray := prog_22_method_62_code
def yX9_gcd : MethodName := ⟨RX9, "gcd", "(JJ)J"⟩
def dkwX9_gcd_1 : List UInt8 := [22, 8, 55, 6, 167, 255, 234, 22, 4, 173]
abbrev dktX9_gcd_1 : List UInt8 := dkwX9_gcd_1 ++ []
def dkwX9_gcd_0 : List UInt8 := [30, 55, 4, 32, 55, 6, 22, 6, 9, 148, 153, 0, 21, 22, 4, 22, 6, 113, 55, 8, 22, 6, 55, 4]
abbrev dktX9_gcd_0 : List UInt8 := dkwX9_gcd_0 ++ dktX9_gcd_1
theorem dksX9_gcd_0 : cX9_gcd.data.toList.drop 0 = dktX9_gcd_0 := by decide +kernel
theorem dksX9_gcd_1 : cX9_gcd.data.toList.drop 24 = dktX9_gcd_1 := dk_seg dksX9_gcd_0 24 rfl rfl
theorem dX9_gcd_0 : decode cX9_gcd 0 = .ok (.lload_n 0, 1) := dk_30 (dk_at dksX9_gcd_0 0 rfl rfl)
theorem dX9_gcd_1 : decode cX9_gcd 1 = .ok (.lstore 4, 2) := dk_55 4 (dk_at dksX9_gcd_0 1 rfl rfl)
theorem dX9_gcd_3 : decode cX9_gcd 3 = .ok (.lload_n 2, 1) := dk_32 (dk_at dksX9_gcd_0 3 rfl rfl)
theorem dX9_gcd_4 : decode cX9_gcd 4 = .ok (.lstore 6, 2) := dk_55 6 (dk_at dksX9_gcd_0 4 rfl rfl)
theorem dX9_gcd_6 : decode cX9_gcd 6 = .ok (.lload 6, 2) := dk_22 6 (dk_at dksX9_gcd_0 6 rfl rfl)
theorem dX9_gcd_8 : decode cX9_gcd 8 = .ok (.lconst 0, 1) := dk_9 (dk_at dksX9_gcd_0 8 rfl rfl)
theorem dX9_gcd_9 : decode cX9_gcd 9 = .ok (.lcmp, 1) := dk_148 (dk_at dksX9_gcd_0 9 rfl rfl)
theorem dX9_gcd_10 : decode cX9_gcd 10 = .ok (.ifCond .eq 21, 3) := dk_153 0 21 (dk_at dksX9_gcd_0 10 rfl rfl)
theorem dX9_gcd_13 : decode cX9_gcd 13 = .ok (.lload 4, 2) := dk_22 4 (dk_at dksX9_gcd_0 13 rfl rfl)
theorem dX9_gcd_15 : decode cX9_gcd 15 = .ok (.lload 6, 2) := dk_22 6 (dk_at dksX9_gcd_0 15 rfl rfl)
theorem dX9_gcd_17 : decode cX9_gcd 17 = .ok (.lrem, 1) := dk_113 (dk_at dksX9_gcd_0 17 rfl rfl)
theorem dX9_gcd_18 : decode cX9_gcd 18 = .ok (.lstore 8, 2) := dk_55 8 (dk_at dksX9_gcd_0 18 rfl rfl)
theorem dX9_gcd_20 : decode cX9_gcd 20 = .ok (.lload 6, 2) := dk_22 6 (dk_at dksX9_gcd_0 20 rfl rfl)
theorem dX9_gcd_22 : decode cX9_gcd 22 = .ok (.lstore 4, 2) := dk_55 4 (dk_at dksX9_gcd_0 22 rfl rfl)
theorem dX9_gcd_24 : decode cX9_gcd 24 = .ok (.lload 8, 2) := dk_22 8 (dk_at dksX9_gcd_1 0 rfl rfl)
theorem dX9_gcd_26 : decode cX9_gcd 26 = .ok (.lstore 6, 2) := dk_55 6 (dk_at dksX9_gcd_1 2 rfl rfl)
theorem dX9_gcd_28 : decode cX9_gcd 28 = .ok (.goto (-22), 3) := dk_167 255 234 (dk_at dksX9_gcd_1 4 rfl rfl)
theorem dX9_gcd_31 : decode cX9_gcd 31 = .ok (.lload 4, 2) := dk_22 4 (dk_at dksX9_gcd_1 7 rfl rfl)
theorem dX9_gcd_33 : decode cX9_gcd 33 = .ok (.lreturn, 1) := dk_173 (dk_at dksX9_gcd_1 9 rfl rfl)
abbrev cX9_two : ByteArray := prog_22_method_66_code
def yX9_two : MethodName := ⟨RX9, "two", "(III)I"⟩
def dkwX9_two_5 : List UInt8 := [21, 6, 104, 21, 7, 96, 172, 132, 5, 1, 167, 255, 177, 16, 247, 172]
abbrev dktX9_two_5 : List UInt8 := dkwX9_two_5 ++ []
def dkwX9_two_4 : List UInt8 := [163, 0, 30, 42, 27, 21, 6, 28, 4, 21, 7, 100, 29, 182, 0, 177, 21, 8, 161, 0, 12, 16, 10]
abbrev dktX9_two_4 : List UInt8 := dkwX9_two_4 ++ dktX9_two_5
def dkwX9_two_3 : List UInt8 := [28, 21, 7, 29, 182, 0, 177, 54, 8, 42, 27, 4, 21, 6, 100, 28, 21, 7, 29, 182, 0, 177, 21, 8]
abbrev dktX9_two_3 : List UInt8 := dkwX9_two_3 ++ dktX9_two_4
def dkwX9_two_2 : List UInt8 := [54, 5, 21, 5, 7, 162, 0, 79, 21, 5, 5, 108, 54, 6, 21, 5, 5, 112, 54, 7, 42, 27, 21, 6]
abbrev dktX9_two_2 : List UInt8 := dkwX9_two_2 ++ dktX9_two_3
def dkwX9_two_1 : List UInt8 := [167, 0, 9, 29, 16, 99, 184, 0, 128, 54, 4, 21, 4, 153, 0, 10, 42, 21, 4, 182, 0, 36, 172, 3]
abbrev dktX9_two_1 : List UInt8 := dkwX9_two_1 ++ dktX9_two_2
def dkwX9_two_0 : List UInt8 := [42, 27, 182, 0, 105, 153, 0, 16, 42, 28, 182, 0, 105, 153, 0, 8, 27, 28, 160, 0, 7, 2]
abbrev dktX9_two_0 : List UInt8 := dkwX9_two_0 ++ dktX9_two_1
theorem dksX9_two_0 : cX9_two.data.toList.drop 0 = dktX9_two_0 := by decide +kernel
theorem dksX9_two_1 : cX9_two.data.toList.drop 22 = dktX9_two_1 := dk_seg dksX9_two_0 22 rfl rfl
theorem dksX9_two_2 : cX9_two.data.toList.drop 46 = dktX9_two_2 := dk_seg dksX9_two_1 24 rfl rfl
theorem dksX9_two_3 : cX9_two.data.toList.drop 70 = dktX9_two_3 := dk_seg dksX9_two_2 24 rfl rfl
theorem dksX9_two_4 : cX9_two.data.toList.drop 94 = dktX9_two_4 := dk_seg dksX9_two_3 24 rfl rfl
theorem dksX9_two_5 : cX9_two.data.toList.drop 117 = dktX9_two_5 := dk_seg dksX9_two_4 23 rfl rfl
theorem dX9_two_0 : decode cX9_two 0 = .ok (.aload_n 0, 1) := dk_42 (dk_at dksX9_two_0 0 rfl rfl)
theorem dX9_two_1 : decode cX9_two 1 = .ok (.iload_n 1, 1) := dk_27 (dk_at dksX9_two_0 1 rfl rfl)
theorem dX9_two_2 : decode cX9_two 2 = .ok (.invokevirtual 105, 3) := dk_182 0 105 (dk_at dksX9_two_0 2 rfl rfl)
theorem dX9_two_5 : decode cX9_two 5 = .ok (.ifCond .eq 16, 3) := dk_153 0 16 (dk_at dksX9_two_0 5 rfl rfl)
theorem dX9_two_8 : decode cX9_two 8 = .ok (.aload_n 0, 1) := dk_42 (dk_at dksX9_two_0 8 rfl rfl)
theorem dX9_two_9 : decode cX9_two 9 = .ok (.iload_n 2, 1) := dk_28 (dk_at dksX9_two_0 9 rfl rfl)
theorem dX9_two_10 : decode cX9_two 10 = .ok (.invokevirtual 105, 3) := dk_182 0 105 (dk_at dksX9_two_0 10 rfl rfl)
theorem dX9_two_13 : decode cX9_two 13 = .ok (.ifCond .eq 8, 3) := dk_153 0 8 (dk_at dksX9_two_0 13 rfl rfl)
theorem dX9_two_16 : decode cX9_two 16 = .ok (.iload_n 1, 1) := dk_27 (dk_at dksX9_two_0 16 rfl rfl)
theorem dX9_two_17 : decode cX9_two 17 = .ok (.iload_n 2, 1) := dk_28 (dk_at dksX9_two_0 17 rfl rfl)
theorem dX9_two_18 : decode cX9_two 18 = .ok (.if_icmp .ne 7, 3) := dk_160 0 7 (dk_at dksX9_two_0 18 rfl rfl)
theorem dX9_two_21 : decode cX9_two 21 = .ok (.iconst (-1), 1) := dk_2 (dk_at dksX9_two_0 21 rfl rfl)
theorem dX9_two_22 : decode cX9_two 22 = .ok (.goto 9, 3) := dk_167 0 9 (dk_at dksX9_two_1 0 rfl rfl)
theorem dX9_two_25 : decode cX9_two 25 = .ok (.iload_n 3, 1) := dk_29 (dk_at dksX9_two_1 3 rfl rfl)
theorem dX9_two_26 : decode cX9_two 26 = .ok (.bipush 99, 2) := dk_16 99 (dk_at dksX9_two_1 4 rfl rfl)
theorem dX9_two_28 : decode cX9_two 28 = .ok (.invokestatic 128, 3) := dk_184 0 128 (dk_at dksX9_two_1 6 rfl rfl)
theorem dX9_two_31 : decode cX9_two 31 = .ok (.istore 4, 2) := dk_54 4 (dk_at dksX9_two_1 9 rfl rfl)
theorem dX9_two_33 : decode cX9_two 33 = .ok (.iload 4, 2) := dk_21 4 (dk_at dksX9_two_1 11 rfl rfl)
theorem dX9_two_35 : decode cX9_two 35 = .ok (.ifCond .eq 10, 3) := dk_153 0 10 (dk_at dksX9_two_1 13 rfl rfl)
theorem dX9_two_38 : decode cX9_two 38 = .ok (.aload_n 0, 1) := dk_42 (dk_at dksX9_two_1 16 rfl rfl)
theorem dX9_two_39 : decode cX9_two 39 = .ok (.iload 4, 2) := dk_21 4 (dk_at dksX9_two_1 17 rfl rfl)
theorem dX9_two_41 : decode cX9_two 41 = .ok (.invokevirtual 36, 3) := dk_182 0 36 (dk_at dksX9_two_1 19 rfl rfl)
theorem dX9_two_44 : decode cX9_two 44 = .ok (.ireturn, 1) := dk_172 (dk_at dksX9_two_1 22 rfl rfl)
theorem dX9_two_45 : decode cX9_two 45 = .ok (.iconst 0, 1) := dk_3 (dk_at dksX9_two_1 23 rfl rfl)
theorem dX9_two_46 : decode cX9_two 46 = .ok (.istore 5, 2) := dk_54 5 (dk_at dksX9_two_2 0 rfl rfl)
theorem dX9_two_48 : decode cX9_two 48 = .ok (.iload 5, 2) := dk_21 5 (dk_at dksX9_two_2 2 rfl rfl)
theorem dX9_two_50 : decode cX9_two 50 = .ok (.iconst 4, 1) := dk_7 (dk_at dksX9_two_2 4 rfl rfl)
theorem dX9_two_51 : decode cX9_two 51 = .ok (.if_icmp .ge 79, 3) := dk_162 0 79 (dk_at dksX9_two_2 5 rfl rfl)
theorem dX9_two_54 : decode cX9_two 54 = .ok (.iload 5, 2) := dk_21 5 (dk_at dksX9_two_2 8 rfl rfl)
theorem dX9_two_56 : decode cX9_two 56 = .ok (.iconst 2, 1) := dk_5 (dk_at dksX9_two_2 10 rfl rfl)
theorem dX9_two_57 : decode cX9_two 57 = .ok (.idiv, 1) := dk_108 (dk_at dksX9_two_2 11 rfl rfl)
theorem dX9_two_58 : decode cX9_two 58 = .ok (.istore 6, 2) := dk_54 6 (dk_at dksX9_two_2 12 rfl rfl)
theorem dX9_two_60 : decode cX9_two 60 = .ok (.iload 5, 2) := dk_21 5 (dk_at dksX9_two_2 14 rfl rfl)
theorem dX9_two_62 : decode cX9_two 62 = .ok (.iconst 2, 1) := dk_5 (dk_at dksX9_two_2 16 rfl rfl)
theorem dX9_two_63 : decode cX9_two 63 = .ok (.irem, 1) := dk_112 (dk_at dksX9_two_2 17 rfl rfl)
theorem dX9_two_64 : decode cX9_two 64 = .ok (.istore 7, 2) := dk_54 7 (dk_at dksX9_two_2 18 rfl rfl)
theorem dX9_two_66 : decode cX9_two 66 = .ok (.aload_n 0, 1) := dk_42 (dk_at dksX9_two_2 20 rfl rfl)
theorem dX9_two_67 : decode cX9_two 67 = .ok (.iload_n 1, 1) := dk_27 (dk_at dksX9_two_2 21 rfl rfl)
theorem dX9_two_68 : decode cX9_two 68 = .ok (.iload 6, 2) := dk_21 6 (dk_at dksX9_two_2 22 rfl rfl)
theorem dX9_two_70 : decode cX9_two 70 = .ok (.iload_n 2, 1) := dk_28 (dk_at dksX9_two_3 0 rfl rfl)
theorem dX9_two_71 : decode cX9_two 71 = .ok (.iload 7, 2) := dk_21 7 (dk_at dksX9_two_3 1 rfl rfl)
theorem dX9_two_73 : decode cX9_two 73 = .ok (.iload_n 3, 1) := dk_29 (dk_at dksX9_two_3 3 rfl rfl)
theorem dX9_two_74 : decode cX9_two 74 = .ok (.invokevirtual 177, 3) := dk_182 0 177 (dk_at dksX9_two_3 4 rfl rfl)
theorem dX9_two_77 : decode cX9_two 77 = .ok (.istore 8, 2) := dk_54 8 (dk_at dksX9_two_3 7 rfl rfl)
theorem dX9_two_79 : decode cX9_two 79 = .ok (.aload_n 0, 1) := dk_42 (dk_at dksX9_two_3 9 rfl rfl)
theorem dX9_two_80 : decode cX9_two 80 = .ok (.iload_n 1, 1) := dk_27 (dk_at dksX9_two_3 10 rfl rfl)
theorem dX9_two_81 : decode cX9_two 81 = .ok (.iconst 1, 1) := dk_4 (dk_at dksX9_two_3 11 rfl rfl)
theorem dX9_two_82 : decode cX9_two 82 = .ok (.iload 6, 2) := dk_21 6 (dk_at dksX9_two_3 12 rfl rfl)
theorem dX9_two_84 : decode cX9_two 84 = .ok (.isub, 1) := dk_100 (dk_at dksX9_two_3 14 rfl rfl)
theorem dX9_two_85 : decode cX9_two 85 = .ok (.iload_n 2, 1) := dk_28 (dk_at dksX9_two_3 15 rfl rfl)
theorem dX9_two_86 : decode cX9_two 86 = .ok (.iload 7, 2) := dk_21 7 (dk_at dksX9_two_3 16 rfl rfl)
theorem dX9_two_88 : decode cX9_two 88 = .ok (.iload_n 3, 1) := dk_29 (dk_at dksX9_two_3 18 rfl rfl)
theorem dX9_two_89 : decode cX9_two 89 = .ok (.invokevirtual 177, 3) := dk_182 0 177 (dk_at dksX9_two_3 19 rfl rfl)
theorem dX9_two_92 : decode cX9_two 92 = .ok (.iload 8, 2) := dk_21 8 (dk_at dksX9_two_3 22 rfl rfl)
theorem dX9_two_94 : decode cX9_two 94 = .ok (.if_icmp .gt 30, 3) := dk_163 0 30 (dk_at dksX9_two_4 0 rfl rfl)
theorem dX9_two_97 : decode cX9_two 97 = .ok (.aload_n 0, 1) := dk_42 (dk_at dksX9_two_4 3 rfl rfl)
theorem dX9_two_98 : decode cX9_two 98 = .ok (.iload_n 1, 1) := dk_27 (dk_at dksX9_two_4 4 rfl rfl)
theorem dX9_two_99 : decode cX9_two 99 = .ok (.iload 6, 2) := dk_21 6 (dk_at dksX9_two_4 5 rfl rfl)
theorem dX9_two_101 : decode cX9_two 101 = .ok (.iload_n 2, 1) := dk_28 (dk_at dksX9_two_4 7 rfl rfl)
theorem dX9_two_102 : decode cX9_two 102 = .ok (.iconst 1, 1) := dk_4 (dk_at dksX9_two_4 8 rfl rfl)
theorem dX9_two_103 : decode cX9_two 103 = .ok (.iload 7, 2) := dk_21 7 (dk_at dksX9_two_4 9 rfl rfl)
theorem dX9_two_105 : decode cX9_two 105 = .ok (.isub, 1) := dk_100 (dk_at dksX9_two_4 11 rfl rfl)
theorem dX9_two_106 : decode cX9_two 106 = .ok (.iload_n 3, 1) := dk_29 (dk_at dksX9_two_4 12 rfl rfl)
theorem dX9_two_107 : decode cX9_two 107 = .ok (.invokevirtual 177, 3) := dk_182 0 177 (dk_at dksX9_two_4 13 rfl rfl)
theorem dX9_two_110 : decode cX9_two 110 = .ok (.iload 8, 2) := dk_21 8 (dk_at dksX9_two_4 16 rfl rfl)
theorem dX9_two_112 : decode cX9_two 112 = .ok (.if_icmp .lt 12, 3) := dk_161 0 12 (dk_at dksX9_two_4 18 rfl rfl)
theorem dX9_two_115 : decode cX9_two 115 = .ok (.bipush 10, 2) := dk_16 10 (dk_at dksX9_two_4 21 rfl rfl)
theorem dX9_two_117 : decode cX9_two 117 = .ok (.iload 6, 2) := dk_21 6 (dk_at dksX9_two_5 0 rfl rfl)
theorem dX9_two_119 : decode cX9_two 119 = .ok (.imul, 1) := dk_104 (dk_at dksX9_two_5 2 rfl rfl)
theorem dX9_two_120 : decode cX9_two 120 = .ok (.iload 7, 2) := dk_21 7 (dk_at dksX9_two_5 3 rfl rfl)
theorem dX9_two_122 : decode cX9_two 122 = .ok (.iadd, 1) := dk_96 (dk_at dksX9_two_5 5 rfl rfl)
theorem dX9_two_123 : decode cX9_two 123 = .ok (.ireturn, 1) := dk_172 (dk_at dksX9_two_5 6 rfl rfl)
theorem dX9_two_124 : decode cX9_two 124 = .ok (.iinc 5 1, 3) := dk_132 5 1 (dk_at dksX9_two_5 7 rfl rfl)
theorem dX9_two_127 : decode cX9_two 127 = .ok (.goto (-79), 3) := dk_167 255 177 (dk_at dksX9_two_5 10 rfl rfl)
theorem dX9_two_130 : decode cX9_two 130 = .ok (.bipush (-9), 2) := dk_16 247 (dk_at dksX9_two_5 13 rfl rfl)
theorem dX9_two_132 : decode cX9_two 132 = .ok (.ireturn, 1) := dk_172 (dk_at dksX9_two_5 15 rfl rfl)
abbrev cX9_standingPulled : ByteArray := prog_22_method_65_code
def yX9_standingPulled : MethodName := ⟨RX9, "standingPulled", "(IIIII)I"⟩
def dkwX9_standingPulled_3 : List UInt8 := [167, 0, 4, 3, 54, 7, 42, 180, 0, 13, 21, 5, 184, 0, 115, 42, 182, 0, 138, 172]
abbrev dktX9_standingPulled_3 : List UInt8 := dkwX9_standingPulled_3 ++ []
def dkwX9_standingPulled_2 : List UInt8 := [160, 0, 27, 42, 180, 0, 13, 29, 184, 0, 55, 153, 0, 16, 42, 180, 0, 13, 29, 16, 9, 184, 0, 112]
abbrev dktX9_standingPulled_2 : List UInt8 := dkwX9_standingPulled_2 ++ dktX9_standingPulled_3
def dkwX9_standingPulled_1 : List UInt8 := [153, 0, 16, 42, 180, 0, 13, 27, 16, 9, 184, 0, 112, 167, 0, 4, 3, 54, 6, 21, 4, 4]
abbrev dktX9_standingPulled_1 : List UInt8 := dkwX9_standingPulled_1 ++ dktX9_standingPulled_2
def dkwX9_standingPulled_0 : List UInt8 := [42, 180, 0, 9, 42, 180, 0, 13, 184, 0, 121, 28, 4, 160, 0, 27, 42, 180, 0, 13, 27, 184, 0, 55]
abbrev dktX9_standingPulled_0 : List UInt8 := dkwX9_standingPulled_0 ++ dktX9_standingPulled_1
theorem dksX9_standingPulled_0 : cX9_standingPulled.data.toList.drop 0 = dktX9_standingPulled_0 := by decide +kernel
theorem dksX9_standingPulled_1 : cX9_standingPulled.data.toList.drop 24 = dktX9_standingPulled_1 := dk_seg dksX9_standingPulled_0 24 rfl rfl
theorem dksX9_standingPulled_2 : cX9_standingPulled.data.toList.drop 46 = dktX9_standingPulled_2 := dk_seg dksX9_standingPulled_1 22 rfl rfl
theorem dksX9_standingPulled_3 : cX9_standingPulled.data.toList.drop 70 = dktX9_standingPulled_3 := dk_seg dksX9_standingPulled_2 24 rfl rfl
theorem dX9_standingPulled_0 : decode cX9_standingPulled 0 = .ok (.aload_n 0, 1) := dk_42 (dk_at dksX9_standingPulled_0 0 rfl rfl)
theorem dX9_standingPulled_1 : decode cX9_standingPulled 1 = .ok (.getfield 9, 3) := dk_180 0 9 (dk_at dksX9_standingPulled_0 1 rfl rfl)
theorem dX9_standingPulled_4 : decode cX9_standingPulled 4 = .ok (.aload_n 0, 1) := dk_42 (dk_at dksX9_standingPulled_0 4 rfl rfl)
theorem dX9_standingPulled_5 : decode cX9_standingPulled 5 = .ok (.getfield 13, 3) := dk_180 0 13 (dk_at dksX9_standingPulled_0 5 rfl rfl)
theorem dX9_standingPulled_8 : decode cX9_standingPulled 8 = .ok (.invokestatic 121, 3) := dk_184 0 121 (dk_at dksX9_standingPulled_0 8 rfl rfl)
theorem dX9_standingPulled_11 : decode cX9_standingPulled 11 = .ok (.iload_n 2, 1) := dk_28 (dk_at dksX9_standingPulled_0 11 rfl rfl)
theorem dX9_standingPulled_12 : decode cX9_standingPulled 12 = .ok (.iconst 1, 1) := dk_4 (dk_at dksX9_standingPulled_0 12 rfl rfl)
theorem dX9_standingPulled_13 : decode cX9_standingPulled 13 = .ok (.if_icmp .ne 27, 3) := dk_160 0 27 (dk_at dksX9_standingPulled_0 13 rfl rfl)
theorem dX9_standingPulled_16 : decode cX9_standingPulled 16 = .ok (.aload_n 0, 1) := dk_42 (dk_at dksX9_standingPulled_0 16 rfl rfl)
theorem dX9_standingPulled_17 : decode cX9_standingPulled 17 = .ok (.getfield 13, 3) := dk_180 0 13 (dk_at dksX9_standingPulled_0 17 rfl rfl)
theorem dX9_standingPulled_20 : decode cX9_standingPulled 20 = .ok (.iload_n 1, 1) := dk_27 (dk_at dksX9_standingPulled_0 20 rfl rfl)
theorem dX9_standingPulled_21 : decode cX9_standingPulled 21 = .ok (.invokestatic 55, 3) := dk_184 0 55 (dk_at dksX9_standingPulled_0 21 rfl rfl)
theorem dX9_standingPulled_24 : decode cX9_standingPulled 24 = .ok (.ifCond .eq 16, 3) := dk_153 0 16 (dk_at dksX9_standingPulled_1 0 rfl rfl)
theorem dX9_standingPulled_27 : decode cX9_standingPulled 27 = .ok (.aload_n 0, 1) := dk_42 (dk_at dksX9_standingPulled_1 3 rfl rfl)
theorem dX9_standingPulled_28 : decode cX9_standingPulled 28 = .ok (.getfield 13, 3) := dk_180 0 13 (dk_at dksX9_standingPulled_1 4 rfl rfl)
theorem dX9_standingPulled_31 : decode cX9_standingPulled 31 = .ok (.iload_n 1, 1) := dk_27 (dk_at dksX9_standingPulled_1 7 rfl rfl)
theorem dX9_standingPulled_32 : decode cX9_standingPulled 32 = .ok (.bipush 9, 2) := dk_16 9 (dk_at dksX9_standingPulled_1 8 rfl rfl)
theorem dX9_standingPulled_34 : decode cX9_standingPulled 34 = .ok (.invokestatic 112, 3) := dk_184 0 112 (dk_at dksX9_standingPulled_1 10 rfl rfl)
theorem dX9_standingPulled_37 : decode cX9_standingPulled 37 = .ok (.goto 4, 3) := dk_167 0 4 (dk_at dksX9_standingPulled_1 13 rfl rfl)
theorem dX9_standingPulled_40 : decode cX9_standingPulled 40 = .ok (.iconst 0, 1) := dk_3 (dk_at dksX9_standingPulled_1 16 rfl rfl)
theorem dX9_standingPulled_41 : decode cX9_standingPulled 41 = .ok (.istore 6, 2) := dk_54 6 (dk_at dksX9_standingPulled_1 17 rfl rfl)
theorem dX9_standingPulled_43 : decode cX9_standingPulled 43 = .ok (.iload 4, 2) := dk_21 4 (dk_at dksX9_standingPulled_1 19 rfl rfl)
theorem dX9_standingPulled_45 : decode cX9_standingPulled 45 = .ok (.iconst 1, 1) := dk_4 (dk_at dksX9_standingPulled_1 21 rfl rfl)
theorem dX9_standingPulled_46 : decode cX9_standingPulled 46 = .ok (.if_icmp .ne 27, 3) := dk_160 0 27 (dk_at dksX9_standingPulled_2 0 rfl rfl)
theorem dX9_standingPulled_49 : decode cX9_standingPulled 49 = .ok (.aload_n 0, 1) := dk_42 (dk_at dksX9_standingPulled_2 3 rfl rfl)
theorem dX9_standingPulled_50 : decode cX9_standingPulled 50 = .ok (.getfield 13, 3) := dk_180 0 13 (dk_at dksX9_standingPulled_2 4 rfl rfl)
theorem dX9_standingPulled_53 : decode cX9_standingPulled 53 = .ok (.iload_n 3, 1) := dk_29 (dk_at dksX9_standingPulled_2 7 rfl rfl)
theorem dX9_standingPulled_54 : decode cX9_standingPulled 54 = .ok (.invokestatic 55, 3) := dk_184 0 55 (dk_at dksX9_standingPulled_2 8 rfl rfl)
theorem dX9_standingPulled_57 : decode cX9_standingPulled 57 = .ok (.ifCond .eq 16, 3) := dk_153 0 16 (dk_at dksX9_standingPulled_2 11 rfl rfl)
theorem dX9_standingPulled_60 : decode cX9_standingPulled 60 = .ok (.aload_n 0, 1) := dk_42 (dk_at dksX9_standingPulled_2 14 rfl rfl)
theorem dX9_standingPulled_61 : decode cX9_standingPulled 61 = .ok (.getfield 13, 3) := dk_180 0 13 (dk_at dksX9_standingPulled_2 15 rfl rfl)
theorem dX9_standingPulled_64 : decode cX9_standingPulled 64 = .ok (.iload_n 3, 1) := dk_29 (dk_at dksX9_standingPulled_2 18 rfl rfl)
theorem dX9_standingPulled_65 : decode cX9_standingPulled 65 = .ok (.bipush 9, 2) := dk_16 9 (dk_at dksX9_standingPulled_2 19 rfl rfl)
theorem dX9_standingPulled_67 : decode cX9_standingPulled 67 = .ok (.invokestatic 112, 3) := dk_184 0 112 (dk_at dksX9_standingPulled_2 21 rfl rfl)
theorem dX9_standingPulled_70 : decode cX9_standingPulled 70 = .ok (.goto 4, 3) := dk_167 0 4 (dk_at dksX9_standingPulled_3 0 rfl rfl)
theorem dX9_standingPulled_73 : decode cX9_standingPulled 73 = .ok (.iconst 0, 1) := dk_3 (dk_at dksX9_standingPulled_3 3 rfl rfl)
theorem dX9_standingPulled_74 : decode cX9_standingPulled 74 = .ok (.istore 7, 2) := dk_54 7 (dk_at dksX9_standingPulled_3 4 rfl rfl)
theorem dX9_standingPulled_76 : decode cX9_standingPulled 76 = .ok (.aload_n 0, 1) := dk_42 (dk_at dksX9_standingPulled_3 6 rfl rfl)
theorem dX9_standingPulled_77 : decode cX9_standingPulled 77 = .ok (.getfield 13, 3) := dk_180 0 13 (dk_at dksX9_standingPulled_3 7 rfl rfl)
theorem dX9_standingPulled_80 : decode cX9_standingPulled 80 = .ok (.iload 5, 2) := dk_21 5 (dk_at dksX9_standingPulled_3 10 rfl rfl)
theorem dX9_standingPulled_82 : decode cX9_standingPulled 82 = .ok (.invokestatic 115, 3) := dk_184 0 115 (dk_at dksX9_standingPulled_3 12 rfl rfl)
theorem dX9_standingPulled_85 : decode cX9_standingPulled 85 = .ok (.aload_n 0, 1) := dk_42 (dk_at dksX9_standingPulled_3 15 rfl rfl)
theorem dX9_standingPulled_86 : decode cX9_standingPulled 86 = .ok (.invokevirtual 138, 3) := dk_182 0 138 (dk_at dksX9_standingPulled_3 16 rfl rfl)
theorem dX9_standingPulled_89 : decode cX9_standingPulled 89 = .ok (.ireturn, 1) := dk_172 (dk_at dksX9_standingPulled_3 19 rfl rfl)
abbrev cX9_whatWas : ByteArray := prog_22_method_67_code
def yX9_whatWas : MethodName := ⟨RX9, "whatWas", "(II)I"⟩
def dkwX9_whatWas_8 : List UInt8 := [167, 0, 4, 3, 128, 54, 4, 132, 5, 1, 167, 255, 123, 21, 4, 172]
abbrev dktX9_whatWas_8 : List UInt8 := dkwX9_whatWas_8 ++ []
def dkwX9_whatWas_7 : List UInt8 := [167, 0, 4, 3, 54, 6, 132, 7, 1, 167, 255, 169, 21, 4, 21, 6, 153, 0, 10, 4, 21, 5, 120]
abbrev dktX9_whatWas_7 : List UInt8 := dkwX9_whatWas_7 ++ dktX9_whatWas_8
def dkwX9_whatWas_6 : List UInt8 := [21, 8, 156, 0, 8, 16, 99, 167, 0, 5, 21, 8, 42, 180, 0, 25, 21, 7, 46, 160, 0, 7, 4]
abbrev dktX9_whatWas_6 : List UInt8 := dkwX9_whatWas_6 ++ dktX9_whatWas_7
def dkwX9_whatWas_5 : List UInt8 := [28, 154, 0, 7, 3, 167, 0, 4, 4, 184, 0, 44, 21, 5, 79, 42, 21, 7, 182, 0, 141, 54, 8]
abbrev dktX9_whatWas_5 : List UInt8 := dkwX9_whatWas_5 ++ dktX9_whatWas_6
def dkwX9_whatWas_4 : List UInt8 := [162, 0, 82, 21, 6, 153, 0, 77, 42, 180, 0, 9, 42, 180, 0, 13, 184, 0, 121, 42, 180, 0, 13, 27]
abbrev dktX9_whatWas_4 : List UInt8 := dkwX9_whatWas_4 ++ dktX9_whatWas_5
def dkwX9_whatWas_3 : List UInt8 := [167, 0, 5, 16, 10, 162, 0, 123, 4, 54, 6, 3, 54, 7, 21, 7, 42, 180, 0, 9, 3, 46]
abbrev dktX9_whatWas_3 : List UInt8 := dkwX9_whatWas_3 ++ dktX9_whatWas_4
def dkwX9_whatWas_2 : List UInt8 := [153, 0, 9, 42, 29, 182, 0, 36, 172, 3, 54, 4, 3, 54, 5, 21, 5, 28, 154, 0, 8, 16, 6]
abbrev dktX9_whatWas_2 : List UInt8 := dkwX9_whatWas_2 ++ dktX9_whatWas_3
def dkwX9_whatWas_1 : List UInt8 := [167, 0, 22, 42, 180, 0, 181, 42, 180, 0, 9, 3, 46, 159, 0, 8, 16, 253, 167, 0, 4, 3, 62, 29]
abbrev dktX9_whatWas_1 : List UInt8 := dkwX9_whatWas_1 ++ dktX9_whatWas_2
def dkwX9_whatWas_0 : List UInt8 := [42, 27, 182, 0, 105, 154, 0, 7, 2, 167, 0, 36, 28, 3, 4, 184, 0, 40, 154, 0, 8, 16, 254]
abbrev dktX9_whatWas_0 : List UInt8 := dkwX9_whatWas_0 ++ dktX9_whatWas_1
theorem dksX9_whatWas_0 : cX9_whatWas.data.toList.drop 0 = dktX9_whatWas_0 := by decide +kernel
theorem dksX9_whatWas_1 : cX9_whatWas.data.toList.drop 23 = dktX9_whatWas_1 := dk_seg dksX9_whatWas_0 23 rfl rfl
theorem dksX9_whatWas_2 : cX9_whatWas.data.toList.drop 47 = dktX9_whatWas_2 := dk_seg dksX9_whatWas_1 24 rfl rfl
theorem dksX9_whatWas_3 : cX9_whatWas.data.toList.drop 70 = dktX9_whatWas_3 := dk_seg dksX9_whatWas_2 23 rfl rfl
theorem dksX9_whatWas_4 : cX9_whatWas.data.toList.drop 92 = dktX9_whatWas_4 := dk_seg dksX9_whatWas_3 22 rfl rfl
theorem dksX9_whatWas_5 : cX9_whatWas.data.toList.drop 116 = dktX9_whatWas_5 := dk_seg dksX9_whatWas_4 24 rfl rfl
theorem dksX9_whatWas_6 : cX9_whatWas.data.toList.drop 139 = dktX9_whatWas_6 := dk_seg dksX9_whatWas_5 23 rfl rfl
theorem dksX9_whatWas_7 : cX9_whatWas.data.toList.drop 162 = dktX9_whatWas_7 := dk_seg dksX9_whatWas_6 23 rfl rfl
theorem dksX9_whatWas_8 : cX9_whatWas.data.toList.drop 185 = dktX9_whatWas_8 := dk_seg dksX9_whatWas_7 23 rfl rfl
theorem dX9_whatWas_0 : decode cX9_whatWas 0 = .ok (.aload_n 0, 1) := dk_42 (dk_at dksX9_whatWas_0 0 rfl rfl)
theorem dX9_whatWas_1 : decode cX9_whatWas 1 = .ok (.iload_n 1, 1) := dk_27 (dk_at dksX9_whatWas_0 1 rfl rfl)
theorem dX9_whatWas_2 : decode cX9_whatWas 2 = .ok (.invokevirtual 105, 3) := dk_182 0 105 (dk_at dksX9_whatWas_0 2 rfl rfl)
theorem dX9_whatWas_5 : decode cX9_whatWas 5 = .ok (.ifCond .ne 7, 3) := dk_154 0 7 (dk_at dksX9_whatWas_0 5 rfl rfl)
theorem dX9_whatWas_8 : decode cX9_whatWas 8 = .ok (.iconst (-1), 1) := dk_2 (dk_at dksX9_whatWas_0 8 rfl rfl)
theorem dX9_whatWas_9 : decode cX9_whatWas 9 = .ok (.goto 36, 3) := dk_167 0 36 (dk_at dksX9_whatWas_0 9 rfl rfl)
theorem dX9_whatWas_12 : decode cX9_whatWas 12 = .ok (.iload_n 2, 1) := dk_28 (dk_at dksX9_whatWas_0 12 rfl rfl)
theorem dX9_whatWas_13 : decode cX9_whatWas 13 = .ok (.iconst 0, 1) := dk_3 (dk_at dksX9_whatWas_0 13 rfl rfl)
theorem dX9_whatWas_14 : decode cX9_whatWas 14 = .ok (.iconst 1, 1) := dk_4 (dk_at dksX9_whatWas_0 14 rfl rfl)
theorem dX9_whatWas_15 : decode cX9_whatWas 15 = .ok (.invokestatic 40, 3) := dk_184 0 40 (dk_at dksX9_whatWas_0 15 rfl rfl)
theorem dX9_whatWas_18 : decode cX9_whatWas 18 = .ok (.ifCond .ne 8, 3) := dk_154 0 8 (dk_at dksX9_whatWas_0 18 rfl rfl)
theorem dX9_whatWas_21 : decode cX9_whatWas 21 = .ok (.bipush (-2), 2) := dk_16 254 (dk_at dksX9_whatWas_0 21 rfl rfl)
theorem dX9_whatWas_23 : decode cX9_whatWas 23 = .ok (.goto 22, 3) := dk_167 0 22 (dk_at dksX9_whatWas_1 0 rfl rfl)
theorem dX9_whatWas_26 : decode cX9_whatWas 26 = .ok (.aload_n 0, 1) := dk_42 (dk_at dksX9_whatWas_1 3 rfl rfl)
theorem dX9_whatWas_27 : decode cX9_whatWas 27 = .ok (.getfield 181, 3) := dk_180 0 181 (dk_at dksX9_whatWas_1 4 rfl rfl)
theorem dX9_whatWas_30 : decode cX9_whatWas 30 = .ok (.aload_n 0, 1) := dk_42 (dk_at dksX9_whatWas_1 7 rfl rfl)
theorem dX9_whatWas_31 : decode cX9_whatWas 31 = .ok (.getfield 9, 3) := dk_180 0 9 (dk_at dksX9_whatWas_1 8 rfl rfl)
theorem dX9_whatWas_34 : decode cX9_whatWas 34 = .ok (.iconst 0, 1) := dk_3 (dk_at dksX9_whatWas_1 11 rfl rfl)
theorem dX9_whatWas_35 : decode cX9_whatWas 35 = .ok (.iaload, 1) := dk_46 (dk_at dksX9_whatWas_1 12 rfl rfl)
theorem dX9_whatWas_36 : decode cX9_whatWas 36 = .ok (.if_icmp .eq 8, 3) := dk_159 0 8 (dk_at dksX9_whatWas_1 13 rfl rfl)
theorem dX9_whatWas_39 : decode cX9_whatWas 39 = .ok (.bipush (-3), 2) := dk_16 253 (dk_at dksX9_whatWas_1 16 rfl rfl)
theorem dX9_whatWas_41 : decode cX9_whatWas 41 = .ok (.goto 4, 3) := dk_167 0 4 (dk_at dksX9_whatWas_1 18 rfl rfl)
theorem dX9_whatWas_44 : decode cX9_whatWas 44 = .ok (.iconst 0, 1) := dk_3 (dk_at dksX9_whatWas_1 21 rfl rfl)
theorem dX9_whatWas_45 : decode cX9_whatWas 45 = .ok (.istore_n 3, 1) := dk_62 (dk_at dksX9_whatWas_1 22 rfl rfl)
theorem dX9_whatWas_46 : decode cX9_whatWas 46 = .ok (.iload_n 3, 1) := dk_29 (dk_at dksX9_whatWas_1 23 rfl rfl)
theorem dX9_whatWas_47 : decode cX9_whatWas 47 = .ok (.ifCond .eq 9, 3) := dk_153 0 9 (dk_at dksX9_whatWas_2 0 rfl rfl)
theorem dX9_whatWas_50 : decode cX9_whatWas 50 = .ok (.aload_n 0, 1) := dk_42 (dk_at dksX9_whatWas_2 3 rfl rfl)
theorem dX9_whatWas_51 : decode cX9_whatWas 51 = .ok (.iload_n 3, 1) := dk_29 (dk_at dksX9_whatWas_2 4 rfl rfl)
theorem dX9_whatWas_52 : decode cX9_whatWas 52 = .ok (.invokevirtual 36, 3) := dk_182 0 36 (dk_at dksX9_whatWas_2 5 rfl rfl)
theorem dX9_whatWas_55 : decode cX9_whatWas 55 = .ok (.ireturn, 1) := dk_172 (dk_at dksX9_whatWas_2 8 rfl rfl)
theorem dX9_whatWas_56 : decode cX9_whatWas 56 = .ok (.iconst 0, 1) := dk_3 (dk_at dksX9_whatWas_2 9 rfl rfl)
theorem dX9_whatWas_57 : decode cX9_whatWas 57 = .ok (.istore 4, 2) := dk_54 4 (dk_at dksX9_whatWas_2 10 rfl rfl)
theorem dX9_whatWas_59 : decode cX9_whatWas 59 = .ok (.iconst 0, 1) := dk_3 (dk_at dksX9_whatWas_2 12 rfl rfl)
theorem dX9_whatWas_60 : decode cX9_whatWas 60 = .ok (.istore 5, 2) := dk_54 5 (dk_at dksX9_whatWas_2 13 rfl rfl)
theorem dX9_whatWas_62 : decode cX9_whatWas 62 = .ok (.iload 5, 2) := dk_21 5 (dk_at dksX9_whatWas_2 15 rfl rfl)
theorem dX9_whatWas_64 : decode cX9_whatWas 64 = .ok (.iload_n 2, 1) := dk_28 (dk_at dksX9_whatWas_2 17 rfl rfl)
theorem dX9_whatWas_65 : decode cX9_whatWas 65 = .ok (.ifCond .ne 8, 3) := dk_154 0 8 (dk_at dksX9_whatWas_2 18 rfl rfl)
theorem dX9_whatWas_68 : decode cX9_whatWas 68 = .ok (.bipush 6, 2) := dk_16 6 (dk_at dksX9_whatWas_2 21 rfl rfl)
theorem dX9_whatWas_70 : decode cX9_whatWas 70 = .ok (.goto 5, 3) := dk_167 0 5 (dk_at dksX9_whatWas_3 0 rfl rfl)
theorem dX9_whatWas_73 : decode cX9_whatWas 73 = .ok (.bipush 10, 2) := dk_16 10 (dk_at dksX9_whatWas_3 3 rfl rfl)
theorem dX9_whatWas_75 : decode cX9_whatWas 75 = .ok (.if_icmp .ge 123, 3) := dk_162 0 123 (dk_at dksX9_whatWas_3 5 rfl rfl)
theorem dX9_whatWas_78 : decode cX9_whatWas 78 = .ok (.iconst 1, 1) := dk_4 (dk_at dksX9_whatWas_3 8 rfl rfl)
theorem dX9_whatWas_79 : decode cX9_whatWas 79 = .ok (.istore 6, 2) := dk_54 6 (dk_at dksX9_whatWas_3 9 rfl rfl)
theorem dX9_whatWas_81 : decode cX9_whatWas 81 = .ok (.iconst 0, 1) := dk_3 (dk_at dksX9_whatWas_3 11 rfl rfl)
theorem dX9_whatWas_82 : decode cX9_whatWas 82 = .ok (.istore 7, 2) := dk_54 7 (dk_at dksX9_whatWas_3 12 rfl rfl)
theorem dX9_whatWas_84 : decode cX9_whatWas 84 = .ok (.iload 7, 2) := dk_21 7 (dk_at dksX9_whatWas_3 14 rfl rfl)
theorem dX9_whatWas_86 : decode cX9_whatWas 86 = .ok (.aload_n 0, 1) := dk_42 (dk_at dksX9_whatWas_3 16 rfl rfl)
theorem dX9_whatWas_87 : decode cX9_whatWas 87 = .ok (.getfield 9, 3) := dk_180 0 9 (dk_at dksX9_whatWas_3 17 rfl rfl)
theorem dX9_whatWas_90 : decode cX9_whatWas 90 = .ok (.iconst 0, 1) := dk_3 (dk_at dksX9_whatWas_3 20 rfl rfl)
theorem dX9_whatWas_91 : decode cX9_whatWas 91 = .ok (.iaload, 1) := dk_46 (dk_at dksX9_whatWas_3 21 rfl rfl)
theorem dX9_whatWas_92 : decode cX9_whatWas 92 = .ok (.if_icmp .ge 82, 3) := dk_162 0 82 (dk_at dksX9_whatWas_4 0 rfl rfl)
theorem dX9_whatWas_95 : decode cX9_whatWas 95 = .ok (.iload 6, 2) := dk_21 6 (dk_at dksX9_whatWas_4 3 rfl rfl)
theorem dX9_whatWas_97 : decode cX9_whatWas 97 = .ok (.ifCond .eq 77, 3) := dk_153 0 77 (dk_at dksX9_whatWas_4 5 rfl rfl)
theorem dX9_whatWas_100 : decode cX9_whatWas 100 = .ok (.aload_n 0, 1) := dk_42 (dk_at dksX9_whatWas_4 8 rfl rfl)
theorem dX9_whatWas_101 : decode cX9_whatWas 101 = .ok (.getfield 9, 3) := dk_180 0 9 (dk_at dksX9_whatWas_4 9 rfl rfl)
theorem dX9_whatWas_104 : decode cX9_whatWas 104 = .ok (.aload_n 0, 1) := dk_42 (dk_at dksX9_whatWas_4 12 rfl rfl)
theorem dX9_whatWas_105 : decode cX9_whatWas 105 = .ok (.getfield 13, 3) := dk_180 0 13 (dk_at dksX9_whatWas_4 13 rfl rfl)
theorem dX9_whatWas_108 : decode cX9_whatWas 108 = .ok (.invokestatic 121, 3) := dk_184 0 121 (dk_at dksX9_whatWas_4 16 rfl rfl)
theorem dX9_whatWas_111 : decode cX9_whatWas 111 = .ok (.aload_n 0, 1) := dk_42 (dk_at dksX9_whatWas_4 19 rfl rfl)
theorem dX9_whatWas_112 : decode cX9_whatWas 112 = .ok (.getfield 13, 3) := dk_180 0 13 (dk_at dksX9_whatWas_4 20 rfl rfl)
theorem dX9_whatWas_115 : decode cX9_whatWas 115 = .ok (.iload_n 1, 1) := dk_27 (dk_at dksX9_whatWas_4 23 rfl rfl)
theorem dX9_whatWas_116 : decode cX9_whatWas 116 = .ok (.iload_n 2, 1) := dk_28 (dk_at dksX9_whatWas_5 0 rfl rfl)
theorem dX9_whatWas_117 : decode cX9_whatWas 117 = .ok (.ifCond .ne 7, 3) := dk_154 0 7 (dk_at dksX9_whatWas_5 1 rfl rfl)
theorem dX9_whatWas_120 : decode cX9_whatWas 120 = .ok (.iconst 0, 1) := dk_3 (dk_at dksX9_whatWas_5 4 rfl rfl)
theorem dX9_whatWas_121 : decode cX9_whatWas 121 = .ok (.goto 4, 3) := dk_167 0 4 (dk_at dksX9_whatWas_5 5 rfl rfl)
theorem dX9_whatWas_124 : decode cX9_whatWas 124 = .ok (.iconst 1, 1) := dk_4 (dk_at dksX9_whatWas_5 8 rfl rfl)
theorem dX9_whatWas_125 : decode cX9_whatWas 125 = .ok (.invokestatic 44, 3) := dk_184 0 44 (dk_at dksX9_whatWas_5 9 rfl rfl)
theorem dX9_whatWas_128 : decode cX9_whatWas 128 = .ok (.iload 5, 2) := dk_21 5 (dk_at dksX9_whatWas_5 12 rfl rfl)
theorem dX9_whatWas_130 : decode cX9_whatWas 130 = .ok (.iastore, 1) := dk_79 (dk_at dksX9_whatWas_5 14 rfl rfl)
theorem dX9_whatWas_131 : decode cX9_whatWas 131 = .ok (.aload_n 0, 1) := dk_42 (dk_at dksX9_whatWas_5 15 rfl rfl)
theorem dX9_whatWas_132 : decode cX9_whatWas 132 = .ok (.iload 7, 2) := dk_21 7 (dk_at dksX9_whatWas_5 16 rfl rfl)
theorem dX9_whatWas_134 : decode cX9_whatWas 134 = .ok (.invokevirtual 141, 3) := dk_182 0 141 (dk_at dksX9_whatWas_5 18 rfl rfl)
theorem dX9_whatWas_137 : decode cX9_whatWas 137 = .ok (.istore 8, 2) := dk_54 8 (dk_at dksX9_whatWas_5 21 rfl rfl)
theorem dX9_whatWas_139 : decode cX9_whatWas 139 = .ok (.iload 8, 2) := dk_21 8 (dk_at dksX9_whatWas_6 0 rfl rfl)
theorem dX9_whatWas_141 : decode cX9_whatWas 141 = .ok (.ifCond .ge 8, 3) := dk_156 0 8 (dk_at dksX9_whatWas_6 2 rfl rfl)
theorem dX9_whatWas_144 : decode cX9_whatWas 144 = .ok (.bipush 99, 2) := dk_16 99 (dk_at dksX9_whatWas_6 5 rfl rfl)
theorem dX9_whatWas_146 : decode cX9_whatWas 146 = .ok (.goto 5, 3) := dk_167 0 5 (dk_at dksX9_whatWas_6 7 rfl rfl)
theorem dX9_whatWas_149 : decode cX9_whatWas 149 = .ok (.iload 8, 2) := dk_21 8 (dk_at dksX9_whatWas_6 10 rfl rfl)
theorem dX9_whatWas_151 : decode cX9_whatWas 151 = .ok (.aload_n 0, 1) := dk_42 (dk_at dksX9_whatWas_6 12 rfl rfl)
theorem dX9_whatWas_152 : decode cX9_whatWas 152 = .ok (.getfield 25, 3) := dk_180 0 25 (dk_at dksX9_whatWas_6 13 rfl rfl)
theorem dX9_whatWas_155 : decode cX9_whatWas 155 = .ok (.iload 7, 2) := dk_21 7 (dk_at dksX9_whatWas_6 16 rfl rfl)
theorem dX9_whatWas_157 : decode cX9_whatWas 157 = .ok (.iaload, 1) := dk_46 (dk_at dksX9_whatWas_6 18 rfl rfl)
theorem dX9_whatWas_158 : decode cX9_whatWas 158 = .ok (.if_icmp .ne 7, 3) := dk_160 0 7 (dk_at dksX9_whatWas_6 19 rfl rfl)
theorem dX9_whatWas_161 : decode cX9_whatWas 161 = .ok (.iconst 1, 1) := dk_4 (dk_at dksX9_whatWas_6 22 rfl rfl)
theorem dX9_whatWas_162 : decode cX9_whatWas 162 = .ok (.goto 4, 3) := dk_167 0 4 (dk_at dksX9_whatWas_7 0 rfl rfl)
theorem dX9_whatWas_165 : decode cX9_whatWas 165 = .ok (.iconst 0, 1) := dk_3 (dk_at dksX9_whatWas_7 3 rfl rfl)
theorem dX9_whatWas_166 : decode cX9_whatWas 166 = .ok (.istore 6, 2) := dk_54 6 (dk_at dksX9_whatWas_7 4 rfl rfl)
theorem dX9_whatWas_168 : decode cX9_whatWas 168 = .ok (.iinc 7 1, 3) := dk_132 7 1 (dk_at dksX9_whatWas_7 6 rfl rfl)
theorem dX9_whatWas_171 : decode cX9_whatWas 171 = .ok (.goto (-87), 3) := dk_167 255 169 (dk_at dksX9_whatWas_7 9 rfl rfl)
theorem dX9_whatWas_174 : decode cX9_whatWas 174 = .ok (.iload 4, 2) := dk_21 4 (dk_at dksX9_whatWas_7 12 rfl rfl)
theorem dX9_whatWas_176 : decode cX9_whatWas 176 = .ok (.iload 6, 2) := dk_21 6 (dk_at dksX9_whatWas_7 14 rfl rfl)
theorem dX9_whatWas_178 : decode cX9_whatWas 178 = .ok (.ifCond .eq 10, 3) := dk_153 0 10 (dk_at dksX9_whatWas_7 16 rfl rfl)
theorem dX9_whatWas_181 : decode cX9_whatWas 181 = .ok (.iconst 1, 1) := dk_4 (dk_at dksX9_whatWas_7 19 rfl rfl)
theorem dX9_whatWas_182 : decode cX9_whatWas 182 = .ok (.iload 5, 2) := dk_21 5 (dk_at dksX9_whatWas_7 20 rfl rfl)
theorem dX9_whatWas_184 : decode cX9_whatWas 184 = .ok (.ishl, 1) := dk_120 (dk_at dksX9_whatWas_7 22 rfl rfl)
theorem dX9_whatWas_185 : decode cX9_whatWas 185 = .ok (.goto 4, 3) := dk_167 0 4 (dk_at dksX9_whatWas_8 0 rfl rfl)
theorem dX9_whatWas_188 : decode cX9_whatWas 188 = .ok (.iconst 0, 1) := dk_3 (dk_at dksX9_whatWas_8 3 rfl rfl)
theorem dX9_whatWas_189 : decode cX9_whatWas 189 = .ok (.ior, 1) := dk_128 (dk_at dksX9_whatWas_8 4 rfl rfl)
theorem dX9_whatWas_190 : decode cX9_whatWas 190 = .ok (.istore 4, 2) := dk_54 4 (dk_at dksX9_whatWas_8 5 rfl rfl)
theorem dX9_whatWas_192 : decode cX9_whatWas 192 = .ok (.iinc 5 1, 3) := dk_132 5 1 (dk_at dksX9_whatWas_8 7 rfl rfl)
theorem dX9_whatWas_195 : decode cX9_whatWas 195 = .ok (.goto (-133), 3) := dk_167 255 123 (dk_at dksX9_whatWas_8 10 rfl rfl)
theorem dX9_whatWas_198 : decode cX9_whatWas 198 = .ok (.iload 4, 2) := dk_21 4 (dk_at dksX9_whatWas_8 13 rfl rfl)
theorem dX9_whatWas_200 : decode cX9_whatWas 200 = .ok (.ireturn, 1) := dk_172 (dk_at dksX9_whatWas_8 15 rfl rfl)
abbrev cX9_row : ByteArray := prog_22_method_68_code
def yX9_row : MethodName := ⟨RX9, "row", "(I)I"⟩
def dkwX9_row_2 : List UInt8 := [4, 96, 181, 0, 181, 42, 180, 0, 181, 172]
abbrev dktX9_row_2 : List UInt8 := dkwX9_row_2 ++ []
def dkwX9_row_1 : List UInt8 := [153, 0, 9, 42, 28, 182, 0, 36, 172, 42, 180, 0, 25, 42, 180, 0, 181, 27, 79, 42, 89, 180, 0, 181]
abbrev dktX9_row_1 : List UInt8 := dkwX9_row_1 ++ dktX9_row_2
def dkwX9_row_0 : List UInt8 := [27, 16, 99, 184, 0, 128, 61, 28, 154, 0, 15, 42, 180, 0, 181, 16, 16, 160, 0, 6, 16, 250, 61, 28]
abbrev dktX9_row_0 : List UInt8 := dkwX9_row_0 ++ dktX9_row_1
theorem dksX9_row_0 : cX9_row.data.toList.drop 0 = dktX9_row_0 := by decide +kernel
theorem dksX9_row_1 : cX9_row.data.toList.drop 24 = dktX9_row_1 := dk_seg dksX9_row_0 24 rfl rfl
theorem dksX9_row_2 : cX9_row.data.toList.drop 48 = dktX9_row_2 := dk_seg dksX9_row_1 24 rfl rfl
theorem dX9_row_0 : decode cX9_row 0 = .ok (.iload_n 1, 1) := dk_27 (dk_at dksX9_row_0 0 rfl rfl)
theorem dX9_row_1 : decode cX9_row 1 = .ok (.bipush 99, 2) := dk_16 99 (dk_at dksX9_row_0 1 rfl rfl)
theorem dX9_row_3 : decode cX9_row 3 = .ok (.invokestatic 128, 3) := dk_184 0 128 (dk_at dksX9_row_0 3 rfl rfl)
theorem dX9_row_6 : decode cX9_row 6 = .ok (.istore_n 2, 1) := dk_61 (dk_at dksX9_row_0 6 rfl rfl)
theorem dX9_row_7 : decode cX9_row 7 = .ok (.iload_n 2, 1) := dk_28 (dk_at dksX9_row_0 7 rfl rfl)
theorem dX9_row_8 : decode cX9_row 8 = .ok (.ifCond .ne 15, 3) := dk_154 0 15 (dk_at dksX9_row_0 8 rfl rfl)
theorem dX9_row_11 : decode cX9_row 11 = .ok (.aload_n 0, 1) := dk_42 (dk_at dksX9_row_0 11 rfl rfl)
theorem dX9_row_12 : decode cX9_row 12 = .ok (.getfield 181, 3) := dk_180 0 181 (dk_at dksX9_row_0 12 rfl rfl)
theorem dX9_row_15 : decode cX9_row 15 = .ok (.bipush 16, 2) := dk_16 16 (dk_at dksX9_row_0 15 rfl rfl)
theorem dX9_row_17 : decode cX9_row 17 = .ok (.if_icmp .ne 6, 3) := dk_160 0 6 (dk_at dksX9_row_0 17 rfl rfl)
theorem dX9_row_20 : decode cX9_row 20 = .ok (.bipush (-6), 2) := dk_16 250 (dk_at dksX9_row_0 20 rfl rfl)
theorem dX9_row_22 : decode cX9_row 22 = .ok (.istore_n 2, 1) := dk_61 (dk_at dksX9_row_0 22 rfl rfl)
theorem dX9_row_23 : decode cX9_row 23 = .ok (.iload_n 2, 1) := dk_28 (dk_at dksX9_row_0 23 rfl rfl)
theorem dX9_row_24 : decode cX9_row 24 = .ok (.ifCond .eq 9, 3) := dk_153 0 9 (dk_at dksX9_row_1 0 rfl rfl)
theorem dX9_row_27 : decode cX9_row 27 = .ok (.aload_n 0, 1) := dk_42 (dk_at dksX9_row_1 3 rfl rfl)
theorem dX9_row_28 : decode cX9_row 28 = .ok (.iload_n 2, 1) := dk_28 (dk_at dksX9_row_1 4 rfl rfl)
theorem dX9_row_29 : decode cX9_row 29 = .ok (.invokevirtual 36, 3) := dk_182 0 36 (dk_at dksX9_row_1 5 rfl rfl)
theorem dX9_row_32 : decode cX9_row 32 = .ok (.ireturn, 1) := dk_172 (dk_at dksX9_row_1 8 rfl rfl)
theorem dX9_row_33 : decode cX9_row 33 = .ok (.aload_n 0, 1) := dk_42 (dk_at dksX9_row_1 9 rfl rfl)
theorem dX9_row_34 : decode cX9_row 34 = .ok (.getfield 25, 3) := dk_180 0 25 (dk_at dksX9_row_1 10 rfl rfl)
theorem dX9_row_37 : decode cX9_row 37 = .ok (.aload_n 0, 1) := dk_42 (dk_at dksX9_row_1 13 rfl rfl)
theorem dX9_row_38 : decode cX9_row 38 = .ok (.getfield 181, 3) := dk_180 0 181 (dk_at dksX9_row_1 14 rfl rfl)
theorem dX9_row_41 : decode cX9_row 41 = .ok (.iload_n 1, 1) := dk_27 (dk_at dksX9_row_1 17 rfl rfl)
theorem dX9_row_42 : decode cX9_row 42 = .ok (.iastore, 1) := dk_79 (dk_at dksX9_row_1 18 rfl rfl)
theorem dX9_row_43 : decode cX9_row 43 = .ok (.aload_n 0, 1) := dk_42 (dk_at dksX9_row_1 19 rfl rfl)
theorem dX9_row_44 : decode cX9_row 44 = .ok (.dup, 1) := dk_89 (dk_at dksX9_row_1 20 rfl rfl)
theorem dX9_row_45 : decode cX9_row 45 = .ok (.getfield 181, 3) := dk_180 0 181 (dk_at dksX9_row_1 21 rfl rfl)
theorem dX9_row_48 : decode cX9_row 48 = .ok (.iconst 1, 1) := dk_4 (dk_at dksX9_row_2 0 rfl rfl)
theorem dX9_row_49 : decode cX9_row 49 = .ok (.iadd, 1) := dk_96 (dk_at dksX9_row_2 1 rfl rfl)
theorem dX9_row_50 : decode cX9_row 50 = .ok (.putfield 181, 3) := dk_181 0 181 (dk_at dksX9_row_2 2 rfl rfl)
theorem dX9_row_53 : decode cX9_row 53 = .ok (.aload_n 0, 1) := dk_42 (dk_at dksX9_row_2 5 rfl rfl)
theorem dX9_row_54 : decode cX9_row 54 = .ok (.getfield 181, 3) := dk_180 0 181 (dk_at dksX9_row_2 6 rfl rfl)
theorem dX9_row_57 : decode cX9_row 57 = .ok (.ireturn, 1) := dk_172 (dk_at dksX9_row_2 9 rfl rfl)
abbrev cX9_judge : ByteArray := prog_22_method_69_code
def yX9_judge : MethodName := ⟨RX9, "judge", "()I"⟩
def dkwX9_judge_2 : List UInt8 := [184, 0, 80, 132, 2, 1, 167, 255, 225, 16, 247, 172]
abbrev dktX9_judge_2 : List UInt8 := dkwX9_judge_2 ++ []
def dkwX9_judge_1 : List UInt8 := [27, 162, 0, 32, 42, 182, 0, 138, 42, 180, 0, 25, 28, 46, 159, 0, 5, 28, 172, 42, 180, 0, 13, 3]
abbrev dktX9_judge_1 : List UInt8 := dkwX9_judge_1 ++ dktX9_judge_2
def dkwX9_judge_0 : List UInt8 := [42, 180, 0, 181, 60, 42, 3, 181, 0, 181, 42, 180, 0, 9, 42, 180, 0, 13, 184, 0, 121, 3, 61, 28]
abbrev dktX9_judge_0 : List UInt8 := dkwX9_judge_0 ++ dktX9_judge_1
theorem dksX9_judge_0 : cX9_judge.data.toList.drop 0 = dktX9_judge_0 := by decide +kernel
theorem dksX9_judge_1 : cX9_judge.data.toList.drop 24 = dktX9_judge_1 := dk_seg dksX9_judge_0 24 rfl rfl
theorem dksX9_judge_2 : cX9_judge.data.toList.drop 48 = dktX9_judge_2 := dk_seg dksX9_judge_1 24 rfl rfl
theorem dX9_judge_0 : decode cX9_judge 0 = .ok (.aload_n 0, 1) := dk_42 (dk_at dksX9_judge_0 0 rfl rfl)
theorem dX9_judge_1 : decode cX9_judge 1 = .ok (.getfield 181, 3) := dk_180 0 181 (dk_at dksX9_judge_0 1 rfl rfl)
theorem dX9_judge_4 : decode cX9_judge 4 = .ok (.istore_n 1, 1) := dk_60 (dk_at dksX9_judge_0 4 rfl rfl)
theorem dX9_judge_5 : decode cX9_judge 5 = .ok (.aload_n 0, 1) := dk_42 (dk_at dksX9_judge_0 5 rfl rfl)
theorem dX9_judge_6 : decode cX9_judge 6 = .ok (.iconst 0, 1) := dk_3 (dk_at dksX9_judge_0 6 rfl rfl)
theorem dX9_judge_7 : decode cX9_judge 7 = .ok (.putfield 181, 3) := dk_181 0 181 (dk_at dksX9_judge_0 7 rfl rfl)
theorem dX9_judge_10 : decode cX9_judge 10 = .ok (.aload_n 0, 1) := dk_42 (dk_at dksX9_judge_0 10 rfl rfl)
theorem dX9_judge_11 : decode cX9_judge 11 = .ok (.getfield 9, 3) := dk_180 0 9 (dk_at dksX9_judge_0 11 rfl rfl)
theorem dX9_judge_14 : decode cX9_judge 14 = .ok (.aload_n 0, 1) := dk_42 (dk_at dksX9_judge_0 14 rfl rfl)
theorem dX9_judge_15 : decode cX9_judge 15 = .ok (.getfield 13, 3) := dk_180 0 13 (dk_at dksX9_judge_0 15 rfl rfl)
theorem dX9_judge_18 : decode cX9_judge 18 = .ok (.invokestatic 121, 3) := dk_184 0 121 (dk_at dksX9_judge_0 18 rfl rfl)
theorem dX9_judge_21 : decode cX9_judge 21 = .ok (.iconst 0, 1) := dk_3 (dk_at dksX9_judge_0 21 rfl rfl)
theorem dX9_judge_22 : decode cX9_judge 22 = .ok (.istore_n 2, 1) := dk_61 (dk_at dksX9_judge_0 22 rfl rfl)
theorem dX9_judge_23 : decode cX9_judge 23 = .ok (.iload_n 2, 1) := dk_28 (dk_at dksX9_judge_0 23 rfl rfl)
theorem dX9_judge_24 : decode cX9_judge 24 = .ok (.iload_n 1, 1) := dk_27 (dk_at dksX9_judge_1 0 rfl rfl)
theorem dX9_judge_25 : decode cX9_judge 25 = .ok (.if_icmp .ge 32, 3) := dk_162 0 32 (dk_at dksX9_judge_1 1 rfl rfl)
theorem dX9_judge_28 : decode cX9_judge 28 = .ok (.aload_n 0, 1) := dk_42 (dk_at dksX9_judge_1 4 rfl rfl)
theorem dX9_judge_29 : decode cX9_judge 29 = .ok (.invokevirtual 138, 3) := dk_182 0 138 (dk_at dksX9_judge_1 5 rfl rfl)
theorem dX9_judge_32 : decode cX9_judge 32 = .ok (.aload_n 0, 1) := dk_42 (dk_at dksX9_judge_1 8 rfl rfl)
theorem dX9_judge_33 : decode cX9_judge 33 = .ok (.getfield 25, 3) := dk_180 0 25 (dk_at dksX9_judge_1 9 rfl rfl)
theorem dX9_judge_36 : decode cX9_judge 36 = .ok (.iload_n 2, 1) := dk_28 (dk_at dksX9_judge_1 12 rfl rfl)
theorem dX9_judge_37 : decode cX9_judge 37 = .ok (.iaload, 1) := dk_46 (dk_at dksX9_judge_1 13 rfl rfl)
theorem dX9_judge_38 : decode cX9_judge 38 = .ok (.if_icmp .eq 5, 3) := dk_159 0 5 (dk_at dksX9_judge_1 14 rfl rfl)
theorem dX9_judge_41 : decode cX9_judge 41 = .ok (.iload_n 2, 1) := dk_28 (dk_at dksX9_judge_1 17 rfl rfl)
theorem dX9_judge_42 : decode cX9_judge 42 = .ok (.ireturn, 1) := dk_172 (dk_at dksX9_judge_1 18 rfl rfl)
theorem dX9_judge_43 : decode cX9_judge 43 = .ok (.aload_n 0, 1) := dk_42 (dk_at dksX9_judge_1 19 rfl rfl)
theorem dX9_judge_44 : decode cX9_judge 44 = .ok (.getfield 13, 3) := dk_180 0 13 (dk_at dksX9_judge_1 20 rfl rfl)
theorem dX9_judge_47 : decode cX9_judge 47 = .ok (.iconst 0, 1) := dk_3 (dk_at dksX9_judge_1 23 rfl rfl)
theorem dX9_judge_48 : decode cX9_judge 48 = .ok (.invokestatic 80, 3) := dk_184 0 80 (dk_at dksX9_judge_2 0 rfl rfl)
theorem dX9_judge_51 : decode cX9_judge 51 = .ok (.iinc 2 1, 3) := dk_132 2 1 (dk_at dksX9_judge_2 3 rfl rfl)
theorem dX9_judge_54 : decode cX9_judge 54 = .ok (.goto (-31), 3) := dk_167 255 225 (dk_at dksX9_judge_2 6 rfl rfl)
theorem dX9_judge_57 : decode cX9_judge 57 = .ok (.bipush (-9), 2) := dk_16 247 (dk_at dksX9_judge_2 9 rfl rfl)
theorem dX9_judge_59 : decode cX9_judge 59 = .ok (.ireturn, 1) := dk_172 (dk_at dksX9_judge_2 11 rfl rfl)
abbrev cX9_clear : ByteArray := prog_22_method_70_code
def yX9_clear : MethodName := ⟨RX9, "clear", "()I"⟩
def dkwX9_clear_0 : List UInt8 := [42, 180, 0, 181, 60, 42, 3, 181, 0, 181, 27, 172]
abbrev dktX9_clear_0 : List UInt8 := dkwX9_clear_0 ++ []
theorem dksX9_clear_0 : cX9_clear.data.toList.drop 0 = dktX9_clear_0 := by decide +kernel
theorem dX9_clear_0 : decode cX9_clear 0 = .ok (.aload_n 0, 1) := dk_42 (dk_at dksX9_clear_0 0 rfl rfl)
theorem dX9_clear_1 : decode cX9_clear 1 = .ok (.getfield 181, 3) := dk_180 0 181 (dk_at dksX9_clear_0 1 rfl rfl)
theorem dX9_clear_4 : decode cX9_clear 4 = .ok (.istore_n 1, 1) := dk_60 (dk_at dksX9_clear_0 4 rfl rfl)
theorem dX9_clear_5 : decode cX9_clear 5 = .ok (.aload_n 0, 1) := dk_42 (dk_at dksX9_clear_0 5 rfl rfl)
theorem dX9_clear_6 : decode cX9_clear 6 = .ok (.iconst 0, 1) := dk_3 (dk_at dksX9_clear_0 6 rfl rfl)
theorem dX9_clear_7 : decode cX9_clear 7 = .ok (.putfield 181, 3) := dk_181 0 181 (dk_at dksX9_clear_0 7 rfl rfl)
theorem dX9_clear_10 : decode cX9_clear 10 = .ok (.iload_n 1, 1) := dk_27 (dk_at dksX9_clear_0 10 rfl rfl)
theorem dX9_clear_11 : decode cX9_clear 11 = .ok (.ireturn, 1) := dk_172 (dk_at dksX9_clear_0 11 rfl rfl)
abbrev cX9_lots : ByteArray := prog_22_method_72_code
def yX9_lots : MethodName := ⟨RX9, "lots", "(III)I"⟩
def dkwX9_lots_8 : List UInt8 := [21, 4, 172]
abbrev dktX9_lots_8 : List UInt8 := dkwX9_lots_8 ++ []
def dkwX9_lots_7 : List UInt8 := [154, 0, 7, 3, 167, 0, 4, 4, 184, 0, 73, 184, 0, 67, 96, 54, 4, 132, 5, 1, 167, 255, 140]
abbrev dktX9_lots_7 : List UInt8 := dkwX9_lots_7 ++ dktX9_lots_8
def dkwX9_lots_6 : List UInt8 := [54, 9, 42, 180, 0, 13, 3, 184, 0, 80, 132, 6, 1, 167, 255, 190, 21, 4, 42, 180, 0, 13, 29]
abbrev dktX9_lots_6 : List UInt8 := dkwX9_lots_6 ++ dktX9_lots_7
def dkwX9_lots_5 : List UInt8 := [21, 7, 184, 0, 55, 153, 0, 17, 42, 180, 0, 13, 21, 7, 21, 8, 184, 0, 112, 167, 0, 4, 3]
abbrev dktX9_lots_5 : List UInt8 := dkwX9_lots_5 ++ dktX9_lots_6
def dkwX9_lots_4 : List UInt8 := [42, 180, 0, 9, 3, 46, 182, 0, 190, 54, 7, 42, 16, 10, 182, 0, 190, 54, 8, 42, 180, 0, 13]
abbrev dktX9_lots_4 : List UInt8 := dkwX9_lots_4 ++ dktX9_lots_5
def dkwX9_lots_3 : List UInt8 := [162, 0, 116, 42, 180, 0, 9, 42, 180, 0, 13, 184, 0, 121, 3, 54, 6, 21, 6, 8, 162, 0, 66, 42]
abbrev dktX9_lots_3 : List UInt8 := dkwX9_lots_3 ++ dktX9_lots_4
def dkwX9_lots_2 : List UInt8 := [154, 0, 10, 42, 16, 253, 182, 0, 36, 172, 42, 28, 181, 0, 184, 3, 54, 4, 3, 54, 5, 21, 5, 27]
abbrev dktX9_lots_2 : List UInt8 := dkwX9_lots_2 ++ dktX9_lots_3
def dkwX9_lots_1 : List UInt8 := [172, 29, 3, 4, 184, 0, 40, 154, 0, 10, 42, 16, 254, 182, 0, 36, 172, 42, 180, 0, 9, 3, 46]
abbrev dktX9_lots_1 : List UInt8 := dkwX9_lots_1 ++ dktX9_lots_2
def dkwX9_lots_0 : List UInt8 := [27, 4, 162, 0, 10, 42, 16, 252, 182, 0, 36, 172, 27, 16, 20, 164, 0, 10, 42, 16, 250, 182, 0, 36]
abbrev dktX9_lots_0 : List UInt8 := dkwX9_lots_0 ++ dktX9_lots_1
theorem dksX9_lots_0 : cX9_lots.data.toList.drop 0 = dktX9_lots_0 := by decide +kernel
theorem dksX9_lots_1 : cX9_lots.data.toList.drop 24 = dktX9_lots_1 := dk_seg dksX9_lots_0 24 rfl rfl
theorem dksX9_lots_2 : cX9_lots.data.toList.drop 47 = dktX9_lots_2 := dk_seg dksX9_lots_1 23 rfl rfl
theorem dksX9_lots_3 : cX9_lots.data.toList.drop 71 = dktX9_lots_3 := dk_seg dksX9_lots_2 24 rfl rfl
theorem dksX9_lots_4 : cX9_lots.data.toList.drop 95 = dktX9_lots_4 := dk_seg dksX9_lots_3 24 rfl rfl
theorem dksX9_lots_5 : cX9_lots.data.toList.drop 118 = dktX9_lots_5 := dk_seg dksX9_lots_4 23 rfl rfl
theorem dksX9_lots_6 : cX9_lots.data.toList.drop 141 = dktX9_lots_6 := dk_seg dksX9_lots_5 23 rfl rfl
theorem dksX9_lots_7 : cX9_lots.data.toList.drop 164 = dktX9_lots_7 := dk_seg dksX9_lots_6 23 rfl rfl
theorem dksX9_lots_8 : cX9_lots.data.toList.drop 187 = dktX9_lots_8 := dk_seg dksX9_lots_7 23 rfl rfl
theorem dX9_lots_0 : decode cX9_lots 0 = .ok (.iload_n 1, 1) := dk_27 (dk_at dksX9_lots_0 0 rfl rfl)
theorem dX9_lots_1 : decode cX9_lots 1 = .ok (.iconst 1, 1) := dk_4 (dk_at dksX9_lots_0 1 rfl rfl)
theorem dX9_lots_2 : decode cX9_lots 2 = .ok (.if_icmp .ge 10, 3) := dk_162 0 10 (dk_at dksX9_lots_0 2 rfl rfl)
theorem dX9_lots_5 : decode cX9_lots 5 = .ok (.aload_n 0, 1) := dk_42 (dk_at dksX9_lots_0 5 rfl rfl)
theorem dX9_lots_6 : decode cX9_lots 6 = .ok (.bipush (-4), 2) := dk_16 252 (dk_at dksX9_lots_0 6 rfl rfl)
theorem dX9_lots_8 : decode cX9_lots 8 = .ok (.invokevirtual 36, 3) := dk_182 0 36 (dk_at dksX9_lots_0 8 rfl rfl)
theorem dX9_lots_11 : decode cX9_lots 11 = .ok (.ireturn, 1) := dk_172 (dk_at dksX9_lots_0 11 rfl rfl)
theorem dX9_lots_12 : decode cX9_lots 12 = .ok (.iload_n 1, 1) := dk_27 (dk_at dksX9_lots_0 12 rfl rfl)
theorem dX9_lots_13 : decode cX9_lots 13 = .ok (.bipush 20, 2) := dk_16 20 (dk_at dksX9_lots_0 13 rfl rfl)
theorem dX9_lots_15 : decode cX9_lots 15 = .ok (.if_icmp .le 10, 3) := dk_164 0 10 (dk_at dksX9_lots_0 15 rfl rfl)
theorem dX9_lots_18 : decode cX9_lots 18 = .ok (.aload_n 0, 1) := dk_42 (dk_at dksX9_lots_0 18 rfl rfl)
theorem dX9_lots_19 : decode cX9_lots 19 = .ok (.bipush (-6), 2) := dk_16 250 (dk_at dksX9_lots_0 19 rfl rfl)
theorem dX9_lots_21 : decode cX9_lots 21 = .ok (.invokevirtual 36, 3) := dk_182 0 36 (dk_at dksX9_lots_0 21 rfl rfl)
theorem dX9_lots_24 : decode cX9_lots 24 = .ok (.ireturn, 1) := dk_172 (dk_at dksX9_lots_1 0 rfl rfl)
theorem dX9_lots_25 : decode cX9_lots 25 = .ok (.iload_n 3, 1) := dk_29 (dk_at dksX9_lots_1 1 rfl rfl)
theorem dX9_lots_26 : decode cX9_lots 26 = .ok (.iconst 0, 1) := dk_3 (dk_at dksX9_lots_1 2 rfl rfl)
theorem dX9_lots_27 : decode cX9_lots 27 = .ok (.iconst 1, 1) := dk_4 (dk_at dksX9_lots_1 3 rfl rfl)
theorem dX9_lots_28 : decode cX9_lots 28 = .ok (.invokestatic 40, 3) := dk_184 0 40 (dk_at dksX9_lots_1 4 rfl rfl)
theorem dX9_lots_31 : decode cX9_lots 31 = .ok (.ifCond .ne 10, 3) := dk_154 0 10 (dk_at dksX9_lots_1 7 rfl rfl)
theorem dX9_lots_34 : decode cX9_lots 34 = .ok (.aload_n 0, 1) := dk_42 (dk_at dksX9_lots_1 10 rfl rfl)
theorem dX9_lots_35 : decode cX9_lots 35 = .ok (.bipush (-2), 2) := dk_16 254 (dk_at dksX9_lots_1 11 rfl rfl)
theorem dX9_lots_37 : decode cX9_lots 37 = .ok (.invokevirtual 36, 3) := dk_182 0 36 (dk_at dksX9_lots_1 13 rfl rfl)
theorem dX9_lots_40 : decode cX9_lots 40 = .ok (.ireturn, 1) := dk_172 (dk_at dksX9_lots_1 16 rfl rfl)
theorem dX9_lots_41 : decode cX9_lots 41 = .ok (.aload_n 0, 1) := dk_42 (dk_at dksX9_lots_1 17 rfl rfl)
theorem dX9_lots_42 : decode cX9_lots 42 = .ok (.getfield 9, 3) := dk_180 0 9 (dk_at dksX9_lots_1 18 rfl rfl)
theorem dX9_lots_45 : decode cX9_lots 45 = .ok (.iconst 0, 1) := dk_3 (dk_at dksX9_lots_1 21 rfl rfl)
theorem dX9_lots_46 : decode cX9_lots 46 = .ok (.iaload, 1) := dk_46 (dk_at dksX9_lots_1 22 rfl rfl)
theorem dX9_lots_47 : decode cX9_lots 47 = .ok (.ifCond .ne 10, 3) := dk_154 0 10 (dk_at dksX9_lots_2 0 rfl rfl)
theorem dX9_lots_50 : decode cX9_lots 50 = .ok (.aload_n 0, 1) := dk_42 (dk_at dksX9_lots_2 3 rfl rfl)
theorem dX9_lots_51 : decode cX9_lots 51 = .ok (.bipush (-3), 2) := dk_16 253 (dk_at dksX9_lots_2 4 rfl rfl)
theorem dX9_lots_53 : decode cX9_lots 53 = .ok (.invokevirtual 36, 3) := dk_182 0 36 (dk_at dksX9_lots_2 6 rfl rfl)
theorem dX9_lots_56 : decode cX9_lots 56 = .ok (.ireturn, 1) := dk_172 (dk_at dksX9_lots_2 9 rfl rfl)
theorem dX9_lots_57 : decode cX9_lots 57 = .ok (.aload_n 0, 1) := dk_42 (dk_at dksX9_lots_2 10 rfl rfl)
theorem dX9_lots_58 : decode cX9_lots 58 = .ok (.iload_n 2, 1) := dk_28 (dk_at dksX9_lots_2 11 rfl rfl)
theorem dX9_lots_59 : decode cX9_lots 59 = .ok (.putfield 184, 3) := dk_181 0 184 (dk_at dksX9_lots_2 12 rfl rfl)
theorem dX9_lots_62 : decode cX9_lots 62 = .ok (.iconst 0, 1) := dk_3 (dk_at dksX9_lots_2 15 rfl rfl)
theorem dX9_lots_63 : decode cX9_lots 63 = .ok (.istore 4, 2) := dk_54 4 (dk_at dksX9_lots_2 16 rfl rfl)
theorem dX9_lots_65 : decode cX9_lots 65 = .ok (.iconst 0, 1) := dk_3 (dk_at dksX9_lots_2 18 rfl rfl)
theorem dX9_lots_66 : decode cX9_lots 66 = .ok (.istore 5, 2) := dk_54 5 (dk_at dksX9_lots_2 19 rfl rfl)
theorem dX9_lots_68 : decode cX9_lots 68 = .ok (.iload 5, 2) := dk_21 5 (dk_at dksX9_lots_2 21 rfl rfl)
theorem dX9_lots_70 : decode cX9_lots 70 = .ok (.iload_n 1, 1) := dk_27 (dk_at dksX9_lots_2 23 rfl rfl)
theorem dX9_lots_71 : decode cX9_lots 71 = .ok (.if_icmp .ge 116, 3) := dk_162 0 116 (dk_at dksX9_lots_3 0 rfl rfl)
theorem dX9_lots_74 : decode cX9_lots 74 = .ok (.aload_n 0, 1) := dk_42 (dk_at dksX9_lots_3 3 rfl rfl)
theorem dX9_lots_75 : decode cX9_lots 75 = .ok (.getfield 9, 3) := dk_180 0 9 (dk_at dksX9_lots_3 4 rfl rfl)
theorem dX9_lots_78 : decode cX9_lots 78 = .ok (.aload_n 0, 1) := dk_42 (dk_at dksX9_lots_3 7 rfl rfl)
theorem dX9_lots_79 : decode cX9_lots 79 = .ok (.getfield 13, 3) := dk_180 0 13 (dk_at dksX9_lots_3 8 rfl rfl)
theorem dX9_lots_82 : decode cX9_lots 82 = .ok (.invokestatic 121, 3) := dk_184 0 121 (dk_at dksX9_lots_3 11 rfl rfl)
theorem dX9_lots_85 : decode cX9_lots 85 = .ok (.iconst 0, 1) := dk_3 (dk_at dksX9_lots_3 14 rfl rfl)
theorem dX9_lots_86 : decode cX9_lots 86 = .ok (.istore 6, 2) := dk_54 6 (dk_at dksX9_lots_3 15 rfl rfl)
theorem dX9_lots_88 : decode cX9_lots 88 = .ok (.iload 6, 2) := dk_21 6 (dk_at dksX9_lots_3 17 rfl rfl)
theorem dX9_lots_90 : decode cX9_lots 90 = .ok (.iconst 5, 1) := dk_8 (dk_at dksX9_lots_3 19 rfl rfl)
theorem dX9_lots_91 : decode cX9_lots 91 = .ok (.if_icmp .ge 66, 3) := dk_162 0 66 (dk_at dksX9_lots_3 20 rfl rfl)
theorem dX9_lots_94 : decode cX9_lots 94 = .ok (.aload_n 0, 1) := dk_42 (dk_at dksX9_lots_3 23 rfl rfl)
theorem dX9_lots_95 : decode cX9_lots 95 = .ok (.aload_n 0, 1) := dk_42 (dk_at dksX9_lots_4 0 rfl rfl)
theorem dX9_lots_96 : decode cX9_lots 96 = .ok (.getfield 9, 3) := dk_180 0 9 (dk_at dksX9_lots_4 1 rfl rfl)
theorem dX9_lots_99 : decode cX9_lots 99 = .ok (.iconst 0, 1) := dk_3 (dk_at dksX9_lots_4 4 rfl rfl)
theorem dX9_lots_100 : decode cX9_lots 100 = .ok (.iaload, 1) := dk_46 (dk_at dksX9_lots_4 5 rfl rfl)
theorem dX9_lots_101 : decode cX9_lots 101 = .ok (.invokevirtual 190, 3) := dk_182 0 190 (dk_at dksX9_lots_4 6 rfl rfl)
theorem dX9_lots_104 : decode cX9_lots 104 = .ok (.istore 7, 2) := dk_54 7 (dk_at dksX9_lots_4 9 rfl rfl)
theorem dX9_lots_106 : decode cX9_lots 106 = .ok (.aload_n 0, 1) := dk_42 (dk_at dksX9_lots_4 11 rfl rfl)
theorem dX9_lots_107 : decode cX9_lots 107 = .ok (.bipush 10, 2) := dk_16 10 (dk_at dksX9_lots_4 12 rfl rfl)
theorem dX9_lots_109 : decode cX9_lots 109 = .ok (.invokevirtual 190, 3) := dk_182 0 190 (dk_at dksX9_lots_4 14 rfl rfl)
theorem dX9_lots_112 : decode cX9_lots 112 = .ok (.istore 8, 2) := dk_54 8 (dk_at dksX9_lots_4 17 rfl rfl)
theorem dX9_lots_114 : decode cX9_lots 114 = .ok (.aload_n 0, 1) := dk_42 (dk_at dksX9_lots_4 19 rfl rfl)
theorem dX9_lots_115 : decode cX9_lots 115 = .ok (.getfield 13, 3) := dk_180 0 13 (dk_at dksX9_lots_4 20 rfl rfl)
theorem dX9_lots_118 : decode cX9_lots 118 = .ok (.iload 7, 2) := dk_21 7 (dk_at dksX9_lots_5 0 rfl rfl)
theorem dX9_lots_120 : decode cX9_lots 120 = .ok (.invokestatic 55, 3) := dk_184 0 55 (dk_at dksX9_lots_5 2 rfl rfl)
theorem dX9_lots_123 : decode cX9_lots 123 = .ok (.ifCond .eq 17, 3) := dk_153 0 17 (dk_at dksX9_lots_5 5 rfl rfl)
theorem dX9_lots_126 : decode cX9_lots 126 = .ok (.aload_n 0, 1) := dk_42 (dk_at dksX9_lots_5 8 rfl rfl)
theorem dX9_lots_127 : decode cX9_lots 127 = .ok (.getfield 13, 3) := dk_180 0 13 (dk_at dksX9_lots_5 9 rfl rfl)
theorem dX9_lots_130 : decode cX9_lots 130 = .ok (.iload 7, 2) := dk_21 7 (dk_at dksX9_lots_5 12 rfl rfl)
theorem dX9_lots_132 : decode cX9_lots 132 = .ok (.iload 8, 2) := dk_21 8 (dk_at dksX9_lots_5 14 rfl rfl)
theorem dX9_lots_134 : decode cX9_lots 134 = .ok (.invokestatic 112, 3) := dk_184 0 112 (dk_at dksX9_lots_5 16 rfl rfl)
theorem dX9_lots_137 : decode cX9_lots 137 = .ok (.goto 4, 3) := dk_167 0 4 (dk_at dksX9_lots_5 19 rfl rfl)
theorem dX9_lots_140 : decode cX9_lots 140 = .ok (.iconst 0, 1) := dk_3 (dk_at dksX9_lots_5 22 rfl rfl)
theorem dX9_lots_141 : decode cX9_lots 141 = .ok (.istore 9, 2) := dk_54 9 (dk_at dksX9_lots_6 0 rfl rfl)
theorem dX9_lots_143 : decode cX9_lots 143 = .ok (.aload_n 0, 1) := dk_42 (dk_at dksX9_lots_6 2 rfl rfl)
theorem dX9_lots_144 : decode cX9_lots 144 = .ok (.getfield 13, 3) := dk_180 0 13 (dk_at dksX9_lots_6 3 rfl rfl)
theorem dX9_lots_147 : decode cX9_lots 147 = .ok (.iconst 0, 1) := dk_3 (dk_at dksX9_lots_6 6 rfl rfl)
theorem dX9_lots_148 : decode cX9_lots 148 = .ok (.invokestatic 80, 3) := dk_184 0 80 (dk_at dksX9_lots_6 7 rfl rfl)
theorem dX9_lots_151 : decode cX9_lots 151 = .ok (.iinc 6 1, 3) := dk_132 6 1 (dk_at dksX9_lots_6 10 rfl rfl)
theorem dX9_lots_154 : decode cX9_lots 154 = .ok (.goto (-66), 3) := dk_167 255 190 (dk_at dksX9_lots_6 13 rfl rfl)
theorem dX9_lots_157 : decode cX9_lots 157 = .ok (.iload 4, 2) := dk_21 4 (dk_at dksX9_lots_6 16 rfl rfl)
theorem dX9_lots_159 : decode cX9_lots 159 = .ok (.aload_n 0, 1) := dk_42 (dk_at dksX9_lots_6 18 rfl rfl)
theorem dX9_lots_160 : decode cX9_lots 160 = .ok (.getfield 13, 3) := dk_180 0 13 (dk_at dksX9_lots_6 19 rfl rfl)
theorem dX9_lots_163 : decode cX9_lots 163 = .ok (.iload_n 3, 1) := dk_29 (dk_at dksX9_lots_6 22 rfl rfl)
theorem dX9_lots_164 : decode cX9_lots 164 = .ok (.ifCond .ne 7, 3) := dk_154 0 7 (dk_at dksX9_lots_7 0 rfl rfl)
theorem dX9_lots_167 : decode cX9_lots 167 = .ok (.iconst 0, 1) := dk_3 (dk_at dksX9_lots_7 3 rfl rfl)
theorem dX9_lots_168 : decode cX9_lots 168 = .ok (.goto 4, 3) := dk_167 0 4 (dk_at dksX9_lots_7 4 rfl rfl)
theorem dX9_lots_171 : decode cX9_lots 171 = .ok (.iconst 1, 1) := dk_4 (dk_at dksX9_lots_7 7 rfl rfl)
theorem dX9_lots_172 : decode cX9_lots 172 = .ok (.invokestatic 73, 3) := dk_184 0 73 (dk_at dksX9_lots_7 8 rfl rfl)
theorem dX9_lots_175 : decode cX9_lots 175 = .ok (.invokestatic 67, 3) := dk_184 0 67 (dk_at dksX9_lots_7 11 rfl rfl)
theorem dX9_lots_178 : decode cX9_lots 178 = .ok (.iadd, 1) := dk_96 (dk_at dksX9_lots_7 14 rfl rfl)
theorem dX9_lots_179 : decode cX9_lots 179 = .ok (.istore 4, 2) := dk_54 4 (dk_at dksX9_lots_7 15 rfl rfl)
theorem dX9_lots_181 : decode cX9_lots 181 = .ok (.iinc 5 1, 3) := dk_132 5 1 (dk_at dksX9_lots_7 17 rfl rfl)
theorem dX9_lots_184 : decode cX9_lots 184 = .ok (.goto (-116), 3) := dk_167 255 140 (dk_at dksX9_lots_7 20 rfl rfl)
theorem dX9_lots_187 : decode cX9_lots 187 = .ok (.iload 4, 2) := dk_21 4 (dk_at dksX9_lots_8 0 rfl rfl)
theorem dX9_lots_189 : decode cX9_lots 189 = .ok (.ireturn, 1) := dk_172 (dk_at dksX9_lots_8 2 rfl rfl)
abbrev cX9_drawn : ByteArray := prog_22_method_71_code
def yX9_drawn : MethodName := ⟨RX9, "drawn", "(I)I"⟩
def dkwX9_drawn_1 : List UInt8 := [108, 27, 112, 172]
abbrev dktX9_drawn_1 : List UInt8 := dkwX9_drawn_1 ++ []
def dkwX9_drawn_0 : List UInt8 := [42, 42, 180, 0, 184, 18, 187, 104, 18, 188, 96, 181, 0, 184, 42, 180, 0, 184, 18, 189, 126, 17, 1, 0]
abbrev dktX9_drawn_0 : List UInt8 := dkwX9_drawn_0 ++ dktX9_drawn_1
theorem dksX9_drawn_0 : cX9_drawn.data.toList.drop 0 = dktX9_drawn_0 := by decide +kernel
theorem dksX9_drawn_1 : cX9_drawn.data.toList.drop 24 = dktX9_drawn_1 := dk_seg dksX9_drawn_0 24 rfl rfl
theorem dX9_drawn_0 : decode cX9_drawn 0 = .ok (.aload_n 0, 1) := dk_42 (dk_at dksX9_drawn_0 0 rfl rfl)
theorem dX9_drawn_1 : decode cX9_drawn 1 = .ok (.aload_n 0, 1) := dk_42 (dk_at dksX9_drawn_0 1 rfl rfl)
theorem dX9_drawn_2 : decode cX9_drawn 2 = .ok (.getfield 184, 3) := dk_180 0 184 (dk_at dksX9_drawn_0 2 rfl rfl)
theorem dX9_drawn_5 : decode cX9_drawn 5 = .ok (.ldc 187, 2) := dk_18 187 (dk_at dksX9_drawn_0 5 rfl rfl)
theorem dX9_drawn_7 : decode cX9_drawn 7 = .ok (.imul, 1) := dk_104 (dk_at dksX9_drawn_0 7 rfl rfl)
theorem dX9_drawn_8 : decode cX9_drawn 8 = .ok (.ldc 188, 2) := dk_18 188 (dk_at dksX9_drawn_0 8 rfl rfl)
theorem dX9_drawn_10 : decode cX9_drawn 10 = .ok (.iadd, 1) := dk_96 (dk_at dksX9_drawn_0 10 rfl rfl)
theorem dX9_drawn_11 : decode cX9_drawn 11 = .ok (.putfield 184, 3) := dk_181 0 184 (dk_at dksX9_drawn_0 11 rfl rfl)
theorem dX9_drawn_14 : decode cX9_drawn 14 = .ok (.aload_n 0, 1) := dk_42 (dk_at dksX9_drawn_0 14 rfl rfl)
theorem dX9_drawn_15 : decode cX9_drawn 15 = .ok (.getfield 184, 3) := dk_180 0 184 (dk_at dksX9_drawn_0 15 rfl rfl)
theorem dX9_drawn_18 : decode cX9_drawn 18 = .ok (.ldc 189, 2) := dk_18 189 (dk_at dksX9_drawn_0 18 rfl rfl)
theorem dX9_drawn_20 : decode cX9_drawn 20 = .ok (.iand, 1) := dk_126 (dk_at dksX9_drawn_0 20 rfl rfl)
theorem dX9_drawn_21 : decode cX9_drawn 21 = .ok (.sipush 256, 3) := dk_17 1 0 (dk_at dksX9_drawn_0 21 rfl rfl)
theorem dX9_drawn_24 : decode cX9_drawn 24 = .ok (.idiv, 1) := dk_108 (dk_at dksX9_drawn_1 0 rfl rfl)
theorem dX9_drawn_25 : decode cX9_drawn 25 = .ok (.iload_n 1, 1) := dk_27 (dk_at dksX9_drawn_1 1 rfl rfl)
theorem dX9_drawn_26 : decode cX9_drawn 26 = .ok (.irem, 1) := dk_112 (dk_at dksX9_drawn_1 2 rfl rfl)
theorem dX9_drawn_27 : decode cX9_drawn 27 = .ok (.ireturn, 1) := dk_172 (dk_at dksX9_drawn_1 3 rfl rfl)
abbrev cX9_image : ByteArray := prog_22_method_73_code
def yX9_image : MethodName := ⟨RX9, "image", "()I"⟩
def dkwX9_image_0 : List UInt8 := [42, 180, 0, 9, 42, 180, 0, 16, 184, 0, 121, 42, 4, 181, 0, 193, 42, 180, 0, 9, 4, 46, 172]
abbrev dktX9_image_0 : List UInt8 := dkwX9_image_0 ++ []
theorem dksX9_image_0 : cX9_image.data.toList.drop 0 = dktX9_image_0 := by decide +kernel
theorem dX9_image_0 : decode cX9_image 0 = .ok (.aload_n 0, 1) := dk_42 (dk_at dksX9_image_0 0 rfl rfl)
theorem dX9_image_1 : decode cX9_image 1 = .ok (.getfield 9, 3) := dk_180 0 9 (dk_at dksX9_image_0 1 rfl rfl)
theorem dX9_image_4 : decode cX9_image 4 = .ok (.aload_n 0, 1) := dk_42 (dk_at dksX9_image_0 4 rfl rfl)
theorem dX9_image_5 : decode cX9_image 5 = .ok (.getfield 16, 3) := dk_180 0 16 (dk_at dksX9_image_0 5 rfl rfl)
theorem dX9_image_8 : decode cX9_image 8 = .ok (.invokestatic 121, 3) := dk_184 0 121 (dk_at dksX9_image_0 8 rfl rfl)
theorem dX9_image_11 : decode cX9_image 11 = .ok (.aload_n 0, 1) := dk_42 (dk_at dksX9_image_0 11 rfl rfl)
theorem dX9_image_12 : decode cX9_image 12 = .ok (.iconst 1, 1) := dk_4 (dk_at dksX9_image_0 12 rfl rfl)
theorem dX9_image_13 : decode cX9_image 13 = .ok (.putfield 193, 3) := dk_181 0 193 (dk_at dksX9_image_0 13 rfl rfl)
theorem dX9_image_16 : decode cX9_image 16 = .ok (.aload_n 0, 1) := dk_42 (dk_at dksX9_image_0 16 rfl rfl)
theorem dX9_image_17 : decode cX9_image 17 = .ok (.getfield 9, 3) := dk_180 0 9 (dk_at dksX9_image_0 17 rfl rfl)
theorem dX9_image_20 : decode cX9_image 20 = .ok (.iconst 1, 1) := dk_4 (dk_at dksX9_image_0 20 rfl rfl)
theorem dX9_image_21 : decode cX9_image 21 = .ok (.iaload, 1) := dk_46 (dk_at dksX9_image_0 21 rfl rfl)
theorem dX9_image_22 : decode cX9_image 22 = .ok (.ireturn, 1) := dk_172 (dk_at dksX9_image_0 22 rfl rfl)
abbrev cX9_on : ByteArray := prog_22_method_74_code
def yX9_on : MethodName := ⟨RX9, "on", "()I"⟩
def dkwX9_on_1 : List UInt8 := [184, 0, 121, 42, 180, 0, 9, 4, 46, 172]
abbrev dktX9_on_1 : List UInt8 := dkwX9_on_1 ++ []
def dkwX9_on_0 : List UInt8 := [42, 180, 0, 193, 154, 0, 10, 42, 16, 253, 182, 0, 36, 172, 42, 180, 0, 16, 42, 180, 0, 9]
abbrev dktX9_on_0 : List UInt8 := dkwX9_on_0 ++ dktX9_on_1
theorem dksX9_on_0 : cX9_on.data.toList.drop 0 = dktX9_on_0 := by decide +kernel
theorem dksX9_on_1 : cX9_on.data.toList.drop 22 = dktX9_on_1 := dk_seg dksX9_on_0 22 rfl rfl
theorem dX9_on_0 : decode cX9_on 0 = .ok (.aload_n 0, 1) := dk_42 (dk_at dksX9_on_0 0 rfl rfl)
theorem dX9_on_1 : decode cX9_on 1 = .ok (.getfield 193, 3) := dk_180 0 193 (dk_at dksX9_on_0 1 rfl rfl)
theorem dX9_on_4 : decode cX9_on 4 = .ok (.ifCond .ne 10, 3) := dk_154 0 10 (dk_at dksX9_on_0 4 rfl rfl)
theorem dX9_on_7 : decode cX9_on 7 = .ok (.aload_n 0, 1) := dk_42 (dk_at dksX9_on_0 7 rfl rfl)
theorem dX9_on_8 : decode cX9_on 8 = .ok (.bipush (-3), 2) := dk_16 253 (dk_at dksX9_on_0 8 rfl rfl)
theorem dX9_on_10 : decode cX9_on 10 = .ok (.invokevirtual 36, 3) := dk_182 0 36 (dk_at dksX9_on_0 10 rfl rfl)
theorem dX9_on_13 : decode cX9_on 13 = .ok (.ireturn, 1) := dk_172 (dk_at dksX9_on_0 13 rfl rfl)
theorem dX9_on_14 : decode cX9_on 14 = .ok (.aload_n 0, 1) := dk_42 (dk_at dksX9_on_0 14 rfl rfl)
theorem dX9_on_15 : decode cX9_on 15 = .ok (.getfield 16, 3) := dk_180 0 16 (dk_at dksX9_on_0 15 rfl rfl)
theorem dX9_on_18 : decode cX9_on 18 = .ok (.aload_n 0, 1) := dk_42 (dk_at dksX9_on_0 18 rfl rfl)
theorem dX9_on_19 : decode cX9_on 19 = .ok (.getfield 9, 3) := dk_180 0 9 (dk_at dksX9_on_0 19 rfl rfl)
theorem dX9_on_22 : decode cX9_on 22 = .ok (.invokestatic 121, 3) := dk_184 0 121 (dk_at dksX9_on_1 0 rfl rfl)
theorem dX9_on_25 : decode cX9_on 25 = .ok (.aload_n 0, 1) := dk_42 (dk_at dksX9_on_1 3 rfl rfl)
theorem dX9_on_26 : decode cX9_on 26 = .ok (.getfield 9, 3) := dk_180 0 9 (dk_at dksX9_on_1 4 rfl rfl)
theorem dX9_on_29 : decode cX9_on 29 = .ok (.iconst 1, 1) := dk_4 (dk_at dksX9_on_1 7 rfl rfl)
theorem dX9_on_30 : decode cX9_on 30 = .ok (.iaload, 1) := dk_46 (dk_at dksX9_on_1 8 rfl rfl)
theorem dX9_on_31 : decode cX9_on 31 = .ok (.ireturn, 1) := dk_172 (dk_at dksX9_on_1 9 rfl rfl)
abbrev cX9_count : ByteArray := prog_22_method_75_code
def yX9_count : MethodName := ⟨RX9, "count", "(I)I"⟩
def dkwX9_count_4 : List UInt8 := [16, 247, 172]
abbrev dktX9_count_4 : List UInt8 := dkwX9_count_4 ++ []
def dkwX9_count_3 : List UInt8 := [42, 180, 0, 9, 27, 46, 172, 42, 180, 0, 9, 5, 46, 172, 42, 180, 0, 181, 172, 42, 180, 0, 84, 172]
abbrev dktX9_count_3 : List UInt8 := dkwX9_count_3 ++ dktX9_count_4
def dkwX9_count_2 : List UInt8 := [170, 0, 0, 0, 0, 70, 0, 0, 0, 0, 0, 0, 0, 7, 0, 0, 0, 46, 0, 0, 0, 46, 0, 0, 0, 70, 0, 0, 0, 70, 0, 0, 0, 70, 0, 0, 0, 53, 0, 0, 0, 60, 0, 0, 0, 65]
abbrev dktX9_count_2 : List UInt8 := dkwX9_count_2 ++ dktX9_count_3
def dkwX9_count_1 : List UInt8 := [184, 0, 40, 153, 0, 14, 42, 180, 0, 9, 27, 5, 100, 184, 0, 73, 172, 27]
abbrev dktX9_count_1 : List UInt8 := dkwX9_count_1 ++ dktX9_count_2
def dkwX9_count_0 : List UInt8 := [27, 16, 11, 16, 16, 184, 0, 40, 153, 0, 13, 42, 180, 0, 28, 27, 16, 10, 100, 46, 172, 27, 5, 7]
abbrev dktX9_count_0 : List UInt8 := dkwX9_count_0 ++ dktX9_count_1
theorem dksX9_count_0 : cX9_count.data.toList.drop 0 = dktX9_count_0 := by decide +kernel
theorem dksX9_count_1 : cX9_count.data.toList.drop 24 = dktX9_count_1 := dk_seg dksX9_count_0 24 rfl rfl
theorem dksX9_count_2 : cX9_count.data.toList.drop 42 = dktX9_count_2 := dk_seg dksX9_count_1 18 rfl rfl
theorem dksX9_count_3 : cX9_count.data.toList.drop 88 = dktX9_count_3 := dk_seg dksX9_count_2 46 rfl rfl
theorem dksX9_count_4 : cX9_count.data.toList.drop 112 = dktX9_count_4 := dk_seg dksX9_count_3 24 rfl rfl
theorem dX9_count_0 : decode cX9_count 0 = .ok (.iload_n 1, 1) := dk_27 (dk_at dksX9_count_0 0 rfl rfl)
theorem dX9_count_1 : decode cX9_count 1 = .ok (.bipush 11, 2) := dk_16 11 (dk_at dksX9_count_0 1 rfl rfl)
theorem dX9_count_3 : decode cX9_count 3 = .ok (.bipush 16, 2) := dk_16 16 (dk_at dksX9_count_0 3 rfl rfl)
theorem dX9_count_5 : decode cX9_count 5 = .ok (.invokestatic 40, 3) := dk_184 0 40 (dk_at dksX9_count_0 5 rfl rfl)
theorem dX9_count_8 : decode cX9_count 8 = .ok (.ifCond .eq 13, 3) := dk_153 0 13 (dk_at dksX9_count_0 8 rfl rfl)
theorem dX9_count_11 : decode cX9_count 11 = .ok (.aload_n 0, 1) := dk_42 (dk_at dksX9_count_0 11 rfl rfl)
theorem dX9_count_12 : decode cX9_count 12 = .ok (.getfield 28, 3) := dk_180 0 28 (dk_at dksX9_count_0 12 rfl rfl)
theorem dX9_count_15 : decode cX9_count 15 = .ok (.iload_n 1, 1) := dk_27 (dk_at dksX9_count_0 15 rfl rfl)
theorem dX9_count_16 : decode cX9_count 16 = .ok (.bipush 10, 2) := dk_16 10 (dk_at dksX9_count_0 16 rfl rfl)
theorem dX9_count_18 : decode cX9_count 18 = .ok (.isub, 1) := dk_100 (dk_at dksX9_count_0 18 rfl rfl)
theorem dX9_count_19 : decode cX9_count 19 = .ok (.iaload, 1) := dk_46 (dk_at dksX9_count_0 19 rfl rfl)
theorem dX9_count_20 : decode cX9_count 20 = .ok (.ireturn, 1) := dk_172 (dk_at dksX9_count_0 20 rfl rfl)
theorem dX9_count_21 : decode cX9_count 21 = .ok (.iload_n 1, 1) := dk_27 (dk_at dksX9_count_0 21 rfl rfl)
theorem dX9_count_22 : decode cX9_count 22 = .ok (.iconst 2, 1) := dk_5 (dk_at dksX9_count_0 22 rfl rfl)
theorem dX9_count_23 : decode cX9_count 23 = .ok (.iconst 4, 1) := dk_7 (dk_at dksX9_count_0 23 rfl rfl)
theorem dX9_count_24 : decode cX9_count 24 = .ok (.invokestatic 40, 3) := dk_184 0 40 (dk_at dksX9_count_1 0 rfl rfl)
theorem dX9_count_27 : decode cX9_count 27 = .ok (.ifCond .eq 14, 3) := dk_153 0 14 (dk_at dksX9_count_1 3 rfl rfl)
theorem dX9_count_30 : decode cX9_count 30 = .ok (.aload_n 0, 1) := dk_42 (dk_at dksX9_count_1 6 rfl rfl)
theorem dX9_count_31 : decode cX9_count 31 = .ok (.getfield 9, 3) := dk_180 0 9 (dk_at dksX9_count_1 7 rfl rfl)
theorem dX9_count_34 : decode cX9_count 34 = .ok (.iload_n 1, 1) := dk_27 (dk_at dksX9_count_1 10 rfl rfl)
theorem dX9_count_35 : decode cX9_count 35 = .ok (.iconst 2, 1) := dk_5 (dk_at dksX9_count_1 11 rfl rfl)
theorem dX9_count_36 : decode cX9_count 36 = .ok (.isub, 1) := dk_100 (dk_at dksX9_count_1 12 rfl rfl)
theorem dX9_count_37 : decode cX9_count 37 = .ok (.invokestatic 73, 3) := dk_184 0 73 (dk_at dksX9_count_1 13 rfl rfl)
theorem dX9_count_40 : decode cX9_count 40 = .ok (.ireturn, 1) := dk_172 (dk_at dksX9_count_1 16 rfl rfl)
theorem dX9_count_41 : decode cX9_count 41 = .ok (.iload_n 1, 1) := dk_27 (dk_at dksX9_count_1 17 rfl rfl)
theorem dX9_count_42 : decode cX9_count 42 = .ok (.tableswitch 70 0 7 #[46, 46, 70, 70, 70, 53, 60, 65], 46) := by decide +kernel
theorem dX9_count_88 : decode cX9_count 88 = .ok (.aload_n 0, 1) := dk_42 (dk_at dksX9_count_3 0 rfl rfl)
theorem dX9_count_89 : decode cX9_count 89 = .ok (.getfield 9, 3) := dk_180 0 9 (dk_at dksX9_count_3 1 rfl rfl)
theorem dX9_count_92 : decode cX9_count 92 = .ok (.iload_n 1, 1) := dk_27 (dk_at dksX9_count_3 4 rfl rfl)
theorem dX9_count_93 : decode cX9_count 93 = .ok (.iaload, 1) := dk_46 (dk_at dksX9_count_3 5 rfl rfl)
theorem dX9_count_94 : decode cX9_count 94 = .ok (.ireturn, 1) := dk_172 (dk_at dksX9_count_3 6 rfl rfl)
theorem dX9_count_95 : decode cX9_count 95 = .ok (.aload_n 0, 1) := dk_42 (dk_at dksX9_count_3 7 rfl rfl)
theorem dX9_count_96 : decode cX9_count 96 = .ok (.getfield 9, 3) := dk_180 0 9 (dk_at dksX9_count_3 8 rfl rfl)
theorem dX9_count_99 : decode cX9_count 99 = .ok (.iconst 2, 1) := dk_5 (dk_at dksX9_count_3 11 rfl rfl)
theorem dX9_count_100 : decode cX9_count 100 = .ok (.iaload, 1) := dk_46 (dk_at dksX9_count_3 12 rfl rfl)
theorem dX9_count_101 : decode cX9_count 101 = .ok (.ireturn, 1) := dk_172 (dk_at dksX9_count_3 13 rfl rfl)
theorem dX9_count_102 : decode cX9_count 102 = .ok (.aload_n 0, 1) := dk_42 (dk_at dksX9_count_3 14 rfl rfl)
theorem dX9_count_103 : decode cX9_count 103 = .ok (.getfield 181, 3) := dk_180 0 181 (dk_at dksX9_count_3 15 rfl rfl)
theorem dX9_count_106 : decode cX9_count 106 = .ok (.ireturn, 1) := dk_172 (dk_at dksX9_count_3 18 rfl rfl)
theorem dX9_count_107 : decode cX9_count 107 = .ok (.aload_n 0, 1) := dk_42 (dk_at dksX9_count_3 19 rfl rfl)
theorem dX9_count_108 : decode cX9_count 108 = .ok (.getfield 84, 3) := dk_180 0 84 (dk_at dksX9_count_3 20 rfl rfl)
theorem dX9_count_111 : decode cX9_count 111 = .ok (.ireturn, 1) := dk_172 (dk_at dksX9_count_3 23 rfl rfl)
theorem dX9_count_112 : decode cX9_count 112 = .ok (.bipush (-9), 2) := dk_16 247 (dk_at dksX9_count_4 0 rfl rfl)
theorem dX9_count_114 : decode cX9_count 114 = .ok (.ireturn, 1) := dk_172 (dk_at dksX9_count_4 2 rfl rfl)
theorem q95 : (Jvm.Cond.initialized "PulledFromUnderModel") ∈ lw_all := lw_g (lw_at lw_m1 10 rfl) rfl
theorem q1157 : (Jvm.Cond.instantiable "PulledFromUnderModel" (13 : Nat)) ∈ lw_all := lw_g (lw_at lw_m5 112 rfl) rfl
theorem q1159 : (Jvm.Cond.instanceMethod ({ cls := "PulledFromUnderModel", name := "<init>", desc := "()V" } : Jvm.MethodName)) ∈ lw_all := lw_g (lw_at lw_m5 114 rfl) rfl
theorem q1160 : (Jvm.Cond.code ({ cls := "PulledFromUnderModel", name := "<init>", desc := "()V" } : Jvm.MethodName) prog_22_method_1_code (1 : Nat) (Option.none : Option Jvm.ClassFile.FieldType)) ∈ lw_all := lw_g (lw_at lw_m5 115 rfl) rfl
theorem q1161 : (Jvm.Cond.methodLink "PulledFromUnderModel" (1 : Nat) ({ cls := "java/lang/Object", name := "<init>", desc := "()V" } : Jvm.MethodName)) ∈ lw_all := lw_g (lw_at lw_m5 116 rfl) rfl
theorem q1162 : (Jvm.Cond.fieldLink "PulledFromUnderModel" (9 : Nat) "PulledFromUnderModel" "s" "[I") ∈ lw_all := lw_g (lw_at lw_m5 117 rfl) rfl
theorem q1163 : (Jvm.Cond.fieldLink "PulledFromUnderModel" (13 : Nat) "PulledFromUnderModel" "m" "[I") ∈ lw_all := lw_g (lw_at lw_m5 118 rfl) rfl
theorem q1164 : (Jvm.Cond.fieldLink "PulledFromUnderModel" (16 : Nat) "PulledFromUnderModel" "image" "[I") ∈ lw_all := lw_g (lw_at lw_m5 119 rfl) rfl
theorem q1165 : (Jvm.Cond.fieldLink "PulledFromUnderModel" (19 : Nat) "PulledFromUnderModel" "was" "[I") ∈ lw_all := lw_g (lw_at lw_m5 120 rfl) rfl
theorem q1166 : (Jvm.Cond.fieldLink "PulledFromUnderModel" (193 : Nat) "PulledFromUnderModel" "hasImage" "Z") ∈ lw_all := lw_g (lw_at lw_m5 121 rfl) rfl
theorem q1167 : (Jvm.Cond.fieldLink "PulledFromUnderModel" (22 : Nat) "PulledFromUnderModel" "letters" "[I") ∈ lw_all := lw_g (lw_at lw_m5 122 rfl) rfl
theorem q1168 : (Jvm.Cond.fieldLink "PulledFromUnderModel" (25 : Nat) "PulledFromUnderModel" "row" "[I") ∈ lw_all := lw_g (lw_at lw_m5 123 rfl) rfl
theorem q1169 : (Jvm.Cond.fieldLink "PulledFromUnderModel" (28 : Nat) "PulledFromUnderModel" "refused" "[I") ∈ lw_all := lw_g (lw_at lw_m5 124 rfl) rfl
theorem q1170 : (Jvm.Cond.fieldLink "PulledFromUnderModel" (84 : Nat) "PulledFromUnderModel" "letterMany" "I") ∈ lw_all := lw_g (lw_at lw_m5 125 rfl) rfl
theorem q1171 : (Jvm.Cond.fieldLink "PulledFromUnderModel" (181 : Nat) "PulledFromUnderModel" "rowMany" "I") ∈ lw_all := lw_g (lw_at lw_m5 126 rfl) rfl
theorem q1172 : (Jvm.Cond.fieldLink "PulledFromUnderModel" (88 : Nat) "PulledFromUnderModel" "place" "I") ∈ lw_all := lw_g (lw_at lw_m5 127 rfl) rfl
theorem q1173 : (Jvm.Cond.fieldLink "PulledFromUnderModel" (31 : Nat) "PulledFromUnderModel" "numbers" "[I") ∈ lw_all := lw_g (lw_at lw_m5 128 rfl) rfl
theorem q1174 : (Jvm.Cond.fieldLink "PulledFromUnderModel" (184 : Nat) "PulledFromUnderModel" "seed" "I") ∈ lw_all := lw_g (lw_at lw_m5 129 rfl) rfl
theorem q1175 : (Jvm.Cond.laysFinal "PulledFromUnderModel" "PulledFromUnderModel" "s" "[I") ∈ lw_all := lw_g (lw_at lw_m5 130 rfl) rfl
theorem q1176 : (Jvm.Cond.soleField "PulledFromUnderModel" "s") ∈ lw_all := lw_g (lw_at lw_m5 131 rfl) rfl
theorem q1177 : (Jvm.Cond.laysFinal "PulledFromUnderModel" "PulledFromUnderModel" "m" "[I") ∈ lw_all := lw_g (lw_at lw_m5 132 rfl) rfl
theorem q1178 : (Jvm.Cond.soleField "PulledFromUnderModel" "m") ∈ lw_all := lw_g (lw_at lw_m5 133 rfl) rfl
theorem q1179 : (Jvm.Cond.laysFinal "PulledFromUnderModel" "PulledFromUnderModel" "image" "[I") ∈ lw_all := lw_g (lw_at lw_m5 134 rfl) rfl
theorem q1180 : (Jvm.Cond.soleField "PulledFromUnderModel" "image") ∈ lw_all := lw_g (lw_at lw_m5 135 rfl) rfl
theorem q1181 : (Jvm.Cond.laysFinal "PulledFromUnderModel" "PulledFromUnderModel" "was" "[I") ∈ lw_all := lw_g (lw_at lw_m5 136 rfl) rfl
theorem q1182 : (Jvm.Cond.soleField "PulledFromUnderModel" "was") ∈ lw_all := lw_g (lw_at lw_m5 137 rfl) rfl
theorem q1183 : (Jvm.Cond.lays "PulledFromUnderModel" "PulledFromUnderModel" "hasImage" "Z") ∈ lw_all := lw_g (lw_at lw_m5 138 rfl) rfl
theorem q1184 : (Jvm.Cond.soleField "PulledFromUnderModel" "hasImage") ∈ lw_all := lw_g (lw_at lw_m5 139 rfl) rfl
theorem q1185 : (Jvm.Cond.laysFinal "PulledFromUnderModel" "PulledFromUnderModel" "letters" "[I") ∈ lw_all := lw_g (lw_at lw_m5 140 rfl) rfl
theorem q1186 : (Jvm.Cond.soleField "PulledFromUnderModel" "letters") ∈ lw_all := lw_g (lw_at lw_m5 141 rfl) rfl
theorem q1187 : (Jvm.Cond.laysFinal "PulledFromUnderModel" "PulledFromUnderModel" "row" "[I") ∈ lw_all := lw_g (lw_at lw_m5 142 rfl) rfl
theorem q1188 : (Jvm.Cond.soleField "PulledFromUnderModel" "row") ∈ lw_all := lw_g (lw_at lw_m5 143 rfl) rfl
theorem q1189 : (Jvm.Cond.laysFinal "PulledFromUnderModel" "PulledFromUnderModel" "refused" "[I") ∈ lw_all := lw_g (lw_at lw_m5 144 rfl) rfl
theorem q1190 : (Jvm.Cond.soleField "PulledFromUnderModel" "refused") ∈ lw_all := lw_g (lw_at lw_m5 145 rfl) rfl
theorem q1191 : (Jvm.Cond.lays "PulledFromUnderModel" "PulledFromUnderModel" "letterMany" "I") ∈ lw_all := lw_g (lw_at lw_m5 146 rfl) rfl
theorem q1192 : (Jvm.Cond.soleField "PulledFromUnderModel" "letterMany") ∈ lw_all := lw_g (lw_at lw_m5 147 rfl) rfl
theorem q1193 : (Jvm.Cond.lays "PulledFromUnderModel" "PulledFromUnderModel" "rowMany" "I") ∈ lw_all := lw_g (lw_at lw_m5 148 rfl) rfl
theorem q1194 : (Jvm.Cond.soleField "PulledFromUnderModel" "rowMany") ∈ lw_all := lw_g (lw_at lw_m5 149 rfl) rfl
theorem q1195 : (Jvm.Cond.lays "PulledFromUnderModel" "PulledFromUnderModel" "place" "I") ∈ lw_all := lw_g (lw_at lw_m5 150 rfl) rfl
theorem q1196 : (Jvm.Cond.soleField "PulledFromUnderModel" "place") ∈ lw_all := lw_g (lw_at lw_m5 151 rfl) rfl
theorem q1197 : (Jvm.Cond.laysFinal "PulledFromUnderModel" "PulledFromUnderModel" "numbers" "[I") ∈ lw_all := lw_g (lw_at lw_m5 152 rfl) rfl
theorem q1198 : (Jvm.Cond.soleField "PulledFromUnderModel" "numbers") ∈ lw_all := lw_g (lw_at lw_m5 153 rfl) rfl
theorem q1199 : (Jvm.Cond.lays "PulledFromUnderModel" "PulledFromUnderModel" "seed" "I") ∈ lw_all := lw_g (lw_at lw_m5 154 rfl) rfl
theorem q1200 : (Jvm.Cond.soleField "PulledFromUnderModel" "seed") ∈ lw_all := lw_g (lw_at lw_m5 155 rfl) rfl
theorem q1201 : (Jvm.Cond.superclass "PulledFromUnderModel" "java/lang/Object") ∈ lw_all := lw_g (lw_at lw_m5 156 rfl) rfl
theorem q1203 : (Jvm.Cond.instanceMethod ({ cls := "PulledFromUnderModel", name := "letter", desc := "(I)I" } : Jvm.MethodName)) ∈ lw_all := lw_g (lw_at lw_m5 158 rfl) rfl
theorem q1204 : (Jvm.Cond.selects "PulledFromUnderModel" ({ cls := "PulledFromUnderModel", name := "letter", desc := "(I)I" } : Jvm.MethodName) ({ cls := "PulledFromUnderModel", name := "letter", desc := "(I)I" } : Jvm.MethodName)) ∈ lw_all := lw_g (lw_at lw_m5 159 rfl) rfl
theorem q1205 : (Jvm.Cond.code ({ cls := "PulledFromUnderModel", name := "letter", desc := "(I)I" } : Jvm.MethodName) prog_22_method_20_code (2 : Nat) (Option.some Jvm.ClassFile.FieldType.int)) ∈ lw_all := lw_g (lw_at lw_m5 160 rfl) rfl
theorem q1206 : (Jvm.Cond.methodLink "PulledFromUnderModel" (36 : Nat) ({ cls := "PulledFromUnderModel", name := "no", desc := "(I)I" } : Jvm.MethodName)) ∈ lw_all := lw_g (lw_at lw_m5 161 rfl) rfl
theorem q1207 : (Jvm.Cond.privateMethod ({ cls := "PulledFromUnderModel", name := "no", desc := "(I)I" } : Jvm.MethodName)) ∈ lw_tbl := lw_at lw_m5 162 rfl
theorem q1208 : (Jvm.Cond.instanceMethod ({ cls := "PulledFromUnderModel", name := "no", desc := "(I)I" } : Jvm.MethodName)) ∈ lw_all := lw_g (lw_at lw_m5 163 rfl) rfl
theorem q1209 : (Jvm.Cond.code ({ cls := "PulledFromUnderModel", name := "no", desc := "(I)I" } : Jvm.MethodName) prog_22_method_5_code (2 : Nat) (Option.some Jvm.ClassFile.FieldType.int)) ∈ lw_all := lw_g (lw_at lw_m5 164 rfl) rfl
theorem q1211 : (Jvm.Cond.instanceMethod ({ cls := "PulledFromUnderModel", name := "room", desc := "()I" } : Jvm.MethodName)) ∈ lw_all := lw_g (lw_at lw_m5 166 rfl) rfl
theorem q1212 : (Jvm.Cond.selects "PulledFromUnderModel" ({ cls := "PulledFromUnderModel", name := "room", desc := "()I" } : Jvm.MethodName) ({ cls := "PulledFromUnderModel", name := "room", desc := "()I" } : Jvm.MethodName)) ∈ lw_all := lw_g (lw_at lw_m5 167 rfl) rfl
theorem q1213 : (Jvm.Cond.code ({ cls := "PulledFromUnderModel", name := "room", desc := "()I" } : Jvm.MethodName) prog_22_method_28_code (6 : Nat) (Option.some Jvm.ClassFile.FieldType.int)) ∈ lw_all := lw_g (lw_at lw_m5 168 rfl) rfl
theorem q1214 : (Jvm.Cond.methodLink "PulledFromUnderModel" (118 : Nat) ({ cls := "PulledFromUnderModel", name := "readsStatement", desc := "()Z" } : Jvm.MethodName)) ∈ lw_all := lw_g (lw_at lw_m5 169 rfl) rfl
theorem q1215 : (Jvm.Cond.privateMethod ({ cls := "PulledFromUnderModel", name := "readsStatement", desc := "()Z" } : Jvm.MethodName)) ∈ lw_tbl := lw_at lw_m5 170 rfl
theorem q1216 : (Jvm.Cond.instanceMethod ({ cls := "PulledFromUnderModel", name := "readsStatement", desc := "()Z" } : Jvm.MethodName)) ∈ lw_all := lw_g (lw_at lw_m5 171 rfl) rfl
theorem q1217 : (Jvm.Cond.code ({ cls := "PulledFromUnderModel", name := "readsStatement", desc := "()Z" } : Jvm.MethodName) prog_22_method_25_code (3 : Nat) (Option.some Jvm.ClassFile.FieldType.boolean)) ∈ lw_all := lw_g (lw_at lw_m5 172 rfl) rfl
theorem q1218 : (Jvm.Cond.methodLink "PulledFromUnderModel" (91 : Nat) ({ cls := "PulledFromUnderModel", name := "here", desc := "()I" } : Jvm.MethodName)) ∈ lw_all := lw_g (lw_at lw_m5 173 rfl) rfl
theorem q1219 : (Jvm.Cond.privateMethod ({ cls := "PulledFromUnderModel", name := "here", desc := "()I" } : Jvm.MethodName)) ∈ lw_tbl := lw_at lw_m5 174 rfl
theorem q1220 : (Jvm.Cond.instanceMethod ({ cls := "PulledFromUnderModel", name := "here", desc := "()I" } : Jvm.MethodName)) ∈ lw_all := lw_g (lw_at lw_m5 175 rfl) rfl
theorem q1221 : (Jvm.Cond.code ({ cls := "PulledFromUnderModel", name := "here", desc := "()I" } : Jvm.MethodName) prog_22_method_21_code (1 : Nat) (Option.some Jvm.ClassFile.FieldType.int)) ∈ lw_all := lw_g (lw_at lw_m5 176 rfl) rfl
theorem q1222 : (Jvm.Cond.methodLink "PulledFromUnderModel" (98 : Nat) ({ cls := "PulledFromUnderModel", name := "readsKind", desc := "()Z" } : Jvm.MethodName)) ∈ lw_all := lw_g (lw_at lw_m5 177 rfl) rfl
theorem q1223 : (Jvm.Cond.privateMethod ({ cls := "PulledFromUnderModel", name := "readsKind", desc := "()Z" } : Jvm.MethodName)) ∈ lw_tbl := lw_at lw_m5 178 rfl
theorem q1224 : (Jvm.Cond.instanceMethod ({ cls := "PulledFromUnderModel", name := "readsKind", desc := "()Z" } : Jvm.MethodName)) ∈ lw_all := lw_g (lw_at lw_m5 179 rfl) rfl
theorem q1225 : (Jvm.Cond.code ({ cls := "PulledFromUnderModel", name := "readsKind", desc := "()Z" } : Jvm.MethodName) prog_22_method_24_code (1 : Nat) (Option.some Jvm.ClassFile.FieldType.boolean)) ∈ lw_all := lw_g (lw_at lw_m5 180 rfl) rfl
theorem q1226 : (Jvm.Cond.methodLink "PulledFromUnderModel" (95 : Nat) ({ cls := "PulledFromUnderModel", name := "kindBy", desc := "(I)I" } : Jvm.MethodName)) ∈ lw_all := lw_g (lw_at lw_m5 181 rfl) rfl
theorem q1227 : (Jvm.Cond.static ({ cls := "PulledFromUnderModel", name := "kindBy", desc := "(I)I" } : Jvm.MethodName)) ∈ lw_all := lw_g (lw_at lw_m5 182 rfl) rfl
theorem q1228 : (Jvm.Cond.code ({ cls := "PulledFromUnderModel", name := "kindBy", desc := "(I)I" } : Jvm.MethodName) prog_22_method_23_code (1 : Nat) (Option.some Jvm.ClassFile.FieldType.int)) ∈ lw_all := lw_g (lw_at lw_m5 183 rfl) rfl
theorem q1229 : (Jvm.Cond.methodLink "PulledFromUnderModel" (102 : Nat) ({ cls := "PulledFromUnderModel", name := "readsNumber", desc := "(II)Z" } : Jvm.MethodName)) ∈ lw_all := lw_g (lw_at lw_m5 184 rfl) rfl
theorem q1230 : (Jvm.Cond.privateMethod ({ cls := "PulledFromUnderModel", name := "readsNumber", desc := "(II)Z" } : Jvm.MethodName)) ∈ lw_tbl := lw_at lw_m5 185 rfl
theorem q1231 : (Jvm.Cond.instanceMethod ({ cls := "PulledFromUnderModel", name := "readsNumber", desc := "(II)Z" } : Jvm.MethodName)) ∈ lw_all := lw_g (lw_at lw_m5 186 rfl) rfl
theorem q1232 : (Jvm.Cond.code ({ cls := "PulledFromUnderModel", name := "readsNumber", desc := "(II)Z" } : Jvm.MethodName) prog_22_method_22_code (4 : Nat) (Option.some Jvm.ClassFile.FieldType.boolean)) ∈ lw_all := lw_g (lw_at lw_m5 187 rfl) rfl
theorem q1233 : (Jvm.Cond.methodLink "PulledFromUnderModel" (40 : Nat) ({ cls := "PulledFromUnderModel", name := "isIn", desc := "(III)Z" } : Jvm.MethodName)) ∈ lw_all := lw_g (lw_at lw_m5 188 rfl) rfl
theorem q1234 : (Jvm.Cond.static ({ cls := "PulledFromUnderModel", name := "isIn", desc := "(III)Z" } : Jvm.MethodName)) ∈ lw_all := lw_g (lw_at lw_m5 189 rfl) rfl
theorem q1235 : (Jvm.Cond.code ({ cls := "PulledFromUnderModel", name := "isIn", desc := "(III)Z" } : Jvm.MethodName) prog_22_method_2_code (3 : Nat) (Option.some Jvm.ClassFile.FieldType.boolean)) ∈ lw_all := lw_g (lw_at lw_m5 190 rfl) rfl
theorem q1236 : (Jvm.Cond.methodLink "PulledFromUnderModel" (121 : Nat) ({ cls := "PulledFromUnderModel", name := "copies", desc := "([I[I)V" } : Jvm.MethodName)) ∈ lw_all := lw_g (lw_at lw_m5 191 rfl) rfl
theorem q1237 : (Jvm.Cond.static ({ cls := "PulledFromUnderModel", name := "copies", desc := "([I[I)V" } : Jvm.MethodName)) ∈ lw_all := lw_g (lw_at lw_m5 192 rfl) rfl
theorem q1238 : (Jvm.Cond.code ({ cls := "PulledFromUnderModel", name := "copies", desc := "([I[I)V" } : Jvm.MethodName) prog_22_method_4_code (3 : Nat) (Option.none : Option Jvm.ClassFile.FieldType)) ∈ lw_all := lw_g (lw_at lw_m5 193 rfl) rfl
theorem q1239 : (Jvm.Cond.methodLink "PulledFromUnderModel" (125 : Nat) ({ cls := "PulledFromUnderModel", name := "isDone", desc := "(I)Z" } : Jvm.MethodName)) ∈ lw_all := lw_g (lw_at lw_m5 194 rfl) rfl
theorem q1240 : (Jvm.Cond.privateMethod ({ cls := "PulledFromUnderModel", name := "isDone", desc := "(I)Z" } : Jvm.MethodName)) ∈ lw_tbl := lw_at lw_m5 195 rfl
theorem q1241 : (Jvm.Cond.instanceMethod ({ cls := "PulledFromUnderModel", name := "isDone", desc := "(I)Z" } : Jvm.MethodName)) ∈ lw_all := lw_g (lw_at lw_m5 196 rfl) rfl
theorem q1242 : (Jvm.Cond.code ({ cls := "PulledFromUnderModel", name := "isDone", desc := "(I)Z" } : Jvm.MethodName) prog_22_method_27_code (4 : Nat) (Option.some Jvm.ClassFile.FieldType.boolean)) ∈ lw_all := lw_g (lw_at lw_m5 197 rfl) rfl
theorem q1243 : (Jvm.Cond.methodLink "PulledFromUnderModel" (109 : Nat) ({ cls := "PulledFromUnderModel", name := "adds", desc := "(III)Z" } : Jvm.MethodName)) ∈ lw_all := lw_g (lw_at lw_m5 198 rfl) rfl
theorem q1244 : (Jvm.Cond.privateMethod ({ cls := "PulledFromUnderModel", name := "adds", desc := "(III)Z" } : Jvm.MethodName)) ∈ lw_tbl := lw_at lw_m5 199 rfl
theorem q1245 : (Jvm.Cond.instanceMethod ({ cls := "PulledFromUnderModel", name := "adds", desc := "(III)Z" } : Jvm.MethodName)) ∈ lw_all := lw_g (lw_at lw_m5 200 rfl) rfl
theorem q1246 : (Jvm.Cond.code ({ cls := "PulledFromUnderModel", name := "adds", desc := "(III)Z" } : Jvm.MethodName) prog_22_method_26_code (6 : Nat) (Option.some Jvm.ClassFile.FieldType.boolean)) ∈ lw_all := lw_g (lw_at lw_m5 201 rfl) rfl
theorem q1247 : (Jvm.Cond.methodLink "PulledFromUnderModel" (105 : Nat) ({ cls := "PulledFromUnderModel", name := "isThing", desc := "(I)Z" } : Jvm.MethodName)) ∈ lw_all := lw_g (lw_at lw_m5 202 rfl) rfl
theorem q1248 : (Jvm.Cond.privateMethod ({ cls := "PulledFromUnderModel", name := "isThing", desc := "(I)Z" } : Jvm.MethodName)) ∈ lw_tbl := lw_at lw_m5 203 rfl
theorem q1249 : (Jvm.Cond.instanceMethod ({ cls := "PulledFromUnderModel", name := "isThing", desc := "(I)Z" } : Jvm.MethodName)) ∈ lw_all := lw_g (lw_at lw_m5 204 rfl) rfl
theorem q1250 : (Jvm.Cond.code ({ cls := "PulledFromUnderModel", name := "isThing", desc := "(I)Z" } : Jvm.MethodName) prog_22_method_8_code (2 : Nat) (Option.some Jvm.ClassFile.FieldType.boolean)) ∈ lw_all := lw_g (lw_at lw_m5 205 rfl) rfl
theorem q1251 : (Jvm.Cond.methodLink "PulledFromUnderModel" (55 : Nat) ({ cls := "PulledFromUnderModel", name := "stands", desc := "([II)Z" } : Jvm.MethodName)) ∈ lw_all := lw_g (lw_at lw_m5 206 rfl) rfl
theorem q1252 : (Jvm.Cond.static ({ cls := "PulledFromUnderModel", name := "stands", desc := "([II)Z" } : Jvm.MethodName)) ∈ lw_all := lw_g (lw_at lw_m5 207 rfl) rfl
theorem q1253 : (Jvm.Cond.code ({ cls := "PulledFromUnderModel", name := "stands", desc := "([II)Z" } : Jvm.MethodName) prog_22_method_9_code (2 : Nat) (Option.some Jvm.ClassFile.FieldType.boolean)) ∈ lw_all := lw_g (lw_at lw_m5 208 rfl) rfl
theorem q1254 : (Jvm.Cond.methodLink "PulledFromUnderModel" (44 : Nat) ({ cls := "PulledFromUnderModel", name := "of", desc := "(II)I" } : Jvm.MethodName)) ∈ lw_all := lw_g (lw_at lw_m5 209 rfl) rfl
theorem q1255 : (Jvm.Cond.static ({ cls := "PulledFromUnderModel", name := "of", desc := "(II)I" } : Jvm.MethodName)) ∈ lw_all := lw_g (lw_at lw_m5 210 rfl) rfl
theorem q1256 : (Jvm.Cond.code ({ cls := "PulledFromUnderModel", name := "of", desc := "(II)I" } : Jvm.MethodName) prog_22_method_7_code (2 : Nat) (Option.some Jvm.ClassFile.FieldType.int)) ∈ lw_all := lw_g (lw_at lw_m5 211 rfl) rfl
theorem q1257 : (Jvm.Cond.methodLink "PulledFromUnderModel" (112 : Nat) ({ cls := "PulledFromUnderModel", name := "pullsIn", desc := "([III)I" } : Jvm.MethodName)) ∈ lw_all := lw_g (lw_at lw_m5 212 rfl) rfl
theorem q1258 : (Jvm.Cond.static ({ cls := "PulledFromUnderModel", name := "pullsIn", desc := "([III)I" } : Jvm.MethodName)) ∈ lw_all := lw_g (lw_at lw_m5 213 rfl) rfl
theorem q1259 : (Jvm.Cond.code ({ cls := "PulledFromUnderModel", name := "pullsIn", desc := "([III)I" } : Jvm.MethodName) prog_22_method_17_code (5 : Nat) (Option.some Jvm.ClassFile.FieldType.int)) ∈ lw_all := lw_g (lw_at lw_m5 214 rfl) rfl
theorem q1260 : (Jvm.Cond.methodLink "PulledFromUnderModel" (63 : Nat) ({ cls := "PulledFromUnderModel", name := "shaken", desc := "([III)I" } : Jvm.MethodName)) ∈ lw_all := lw_g (lw_at lw_m5 215 rfl) rfl
theorem q1261 : (Jvm.Cond.static ({ cls := "PulledFromUnderModel", name := "shaken", desc := "([III)I" } : Jvm.MethodName)) ∈ lw_all := lw_g (lw_at lw_m5 216 rfl) rfl
theorem q1262 : (Jvm.Cond.code ({ cls := "PulledFromUnderModel", name := "shaken", desc := "([III)I" } : Jvm.MethodName) prog_22_method_16_code (5 : Nat) (Option.some Jvm.ClassFile.FieldType.int)) ∈ lw_all := lw_g (lw_at lw_m5 217 rfl) rfl
theorem q1263 : (Jvm.Cond.methodLink "PulledFromUnderModel" (59 : Nat) ({ cls := "PulledFromUnderModel", name := "grip", desc := "([II)I" } : Jvm.MethodName)) ∈ lw_all := lw_g (lw_at lw_m5 218 rfl) rfl
theorem q1264 : (Jvm.Cond.static ({ cls := "PulledFromUnderModel", name := "grip", desc := "([II)I" } : Jvm.MethodName)) ∈ lw_all := lw_g (lw_at lw_m5 219 rfl) rfl
theorem q1265 : (Jvm.Cond.code ({ cls := "PulledFromUnderModel", name := "grip", desc := "([II)I" } : Jvm.MethodName) prog_22_method_12_code (3 : Nat) (Option.some Jvm.ClassFile.FieldType.int)) ∈ lw_all := lw_g (lw_at lw_m5 220 rfl) rfl
theorem q1266 : (Jvm.Cond.methodLink "PulledFromUnderModel" (51 : Nat) ({ cls := "PulledFromUnderModel", name := "has", desc := "(II)Z" } : Jvm.MethodName)) ∈ lw_all := lw_g (lw_at lw_m5 221 rfl) rfl
theorem q1267 : (Jvm.Cond.static ({ cls := "PulledFromUnderModel", name := "has", desc := "(II)Z" } : Jvm.MethodName)) ∈ lw_all := lw_g (lw_at lw_m5 222 rfl) rfl
theorem q1268 : (Jvm.Cond.code ({ cls := "PulledFromUnderModel", name := "has", desc := "(II)Z" } : Jvm.MethodName) prog_22_method_10_code (2 : Nat) (Option.some Jvm.ClassFile.FieldType.boolean)) ∈ lw_all := lw_g (lw_at lw_m5 223 rfl) rfl
theorem q1269 : (Jvm.Cond.methodLink "PulledFromUnderModel" (67 : Nat) ({ cls := "PulledFromUnderModel", name := "bits", desc := "(I)I" } : Jvm.MethodName)) ∈ lw_all := lw_g (lw_at lw_m5 224 rfl) rfl
theorem q1270 : (Jvm.Cond.static ({ cls := "PulledFromUnderModel", name := "bits", desc := "(I)I" } : Jvm.MethodName)) ∈ lw_all := lw_g (lw_at lw_m5 225 rfl) rfl
theorem q1271 : (Jvm.Cond.code ({ cls := "PulledFromUnderModel", name := "bits", desc := "(I)I" } : Jvm.MethodName) prog_22_method_11_code (3 : Nat) (Option.some Jvm.ClassFile.FieldType.int)) ∈ lw_all := lw_g (lw_at lw_m5 226 rfl) rfl
theorem q1272 : (Jvm.Cond.methodLink "PulledFromUnderModel" (115 : Nat) ({ cls := "PulledFromUnderModel", name := "minutesOn", desc := "([II)V" } : Jvm.MethodName)) ∈ lw_all := lw_g (lw_at lw_m5 227 rfl) rfl
theorem q1273 : (Jvm.Cond.static ({ cls := "PulledFromUnderModel", name := "minutesOn", desc := "([II)V" } : Jvm.MethodName)) ∈ lw_all := lw_g (lw_at lw_m5 228 rfl) rfl
theorem q1274 : (Jvm.Cond.code ({ cls := "PulledFromUnderModel", name := "minutesOn", desc := "([II)V" } : Jvm.MethodName) prog_22_method_19_code (3 : Nat) (Option.none : Option Jvm.ClassFile.FieldType)) ∈ lw_all := lw_g (lw_at lw_m5 229 rfl) rfl
theorem q1275 : (Jvm.Cond.methodLink "PulledFromUnderModel" (80 : Nat) ({ cls := "PulledFromUnderModel", name := "minute", desc := "([II)V" } : Jvm.MethodName)) ∈ lw_all := lw_g (lw_at lw_m5 230 rfl) rfl
theorem q1276 : (Jvm.Cond.static ({ cls := "PulledFromUnderModel", name := "minute", desc := "([II)V" } : Jvm.MethodName)) ∈ lw_all := lw_g (lw_at lw_m5 231 rfl) rfl
theorem q1277 : (Jvm.Cond.code ({ cls := "PulledFromUnderModel", name := "minute", desc := "([II)V" } : Jvm.MethodName) prog_22_method_18_code (5 : Nat) (Option.none : Option Jvm.ClassFile.FieldType)) ∈ lw_all := lw_g (lw_at lw_m5 232 rfl) rfl
theorem q1278 : (Jvm.Cond.methodLink "PulledFromUnderModel" (70 : Nat) ({ cls := "PulledFromUnderModel", name := "isHeld", desc := "([II)Z" } : Jvm.MethodName)) ∈ lw_all := lw_g (lw_at lw_m5 233 rfl) rfl
theorem q1279 : (Jvm.Cond.static ({ cls := "PulledFromUnderModel", name := "isHeld", desc := "([II)Z" } : Jvm.MethodName)) ∈ lw_all := lw_g (lw_at lw_m5 234 rfl) rfl
theorem q1280 : (Jvm.Cond.code ({ cls := "PulledFromUnderModel", name := "isHeld", desc := "([II)Z" } : Jvm.MethodName) prog_22_method_15_code (3 : Nat) (Option.some Jvm.ClassFile.FieldType.boolean)) ∈ lw_all := lw_g (lw_at lw_m5 235 rfl) rfl
theorem q1281 : (Jvm.Cond.methodLink "PulledFromUnderModel" (73 : Nat) ({ cls := "PulledFromUnderModel", name := "setOf", desc := "([II)I" } : Jvm.MethodName)) ∈ lw_all := lw_g (lw_at lw_m5 236 rfl) rfl
theorem q1282 : (Jvm.Cond.static ({ cls := "PulledFromUnderModel", name := "setOf", desc := "([II)I" } : Jvm.MethodName)) ∈ lw_all := lw_g (lw_at lw_m5 237 rfl) rfl
theorem q1283 : (Jvm.Cond.code ({ cls := "PulledFromUnderModel", name := "setOf", desc := "([II)I" } : Jvm.MethodName) prog_22_method_13_code (4 : Nat) (Option.some Jvm.ClassFile.FieldType.int)) ∈ lw_all := lw_g (lw_at lw_m5 238 rfl) rfl
theorem q1284 : (Jvm.Cond.methodLink "PulledFromUnderModel" (76 : Nat) ({ cls := "PulledFromUnderModel", name := "habit", desc := "([IIZ)I" } : Jvm.MethodName)) ∈ lw_all := lw_g (lw_at lw_m5 239 rfl) rfl
theorem q1285 : (Jvm.Cond.static ({ cls := "PulledFromUnderModel", name := "habit", desc := "([IIZ)I" } : Jvm.MethodName)) ∈ lw_all := lw_g (lw_at lw_m6 0 rfl) rfl
theorem q1286 : (Jvm.Cond.code ({ cls := "PulledFromUnderModel", name := "habit", desc := "([IIZ)I" } : Jvm.MethodName) prog_22_method_14_code (4 : Nat) (Option.some Jvm.ClassFile.FieldType.int)) ∈ lw_all := lw_g (lw_at lw_m6 1 rfl) rfl
theorem q1287 : (Jvm.Cond.methodLink "PulledFromUnderModel" (48 : Nat) ({ cls := "PulledFromUnderModel", name := "most", desc := "(II)I" } : Jvm.MethodName)) ∈ lw_all := lw_g (lw_at lw_m6 2 rfl) rfl
theorem q1288 : (Jvm.Cond.static ({ cls := "PulledFromUnderModel", name := "most", desc := "(II)I" } : Jvm.MethodName)) ∈ lw_all := lw_g (lw_at lw_m6 3 rfl) rfl
theorem q1289 : (Jvm.Cond.code ({ cls := "PulledFromUnderModel", name := "most", desc := "(II)I" } : Jvm.MethodName) prog_22_method_3_code (2 : Nat) (Option.some Jvm.ClassFile.FieldType.int)) ∈ lw_all := lw_g (lw_at lw_m6 4 rfl) rfl
theorem q1291 : (Jvm.Cond.instanceMethod ({ cls := "PulledFromUnderModel", name := "thing", desc := "(II)I" } : Jvm.MethodName)) ∈ lw_all := lw_g (lw_at lw_m6 6 rfl) rfl
theorem q1292 : (Jvm.Cond.selects "PulledFromUnderModel" ({ cls := "PulledFromUnderModel", name := "thing", desc := "(II)I" } : Jvm.MethodName) ({ cls := "PulledFromUnderModel", name := "thing", desc := "(II)I" } : Jvm.MethodName)) ∈ lw_all := lw_g (lw_at lw_m6 7 rfl) rfl
theorem q1293 : (Jvm.Cond.code ({ cls := "PulledFromUnderModel", name := "thing", desc := "(II)I" } : Jvm.MethodName) prog_22_method_29_code (3 : Nat) (Option.some Jvm.ClassFile.FieldType.int)) ∈ lw_all := lw_g (lw_at lw_m6 8 rfl) rfl
theorem q1295 : (Jvm.Cond.instanceMethod ({ cls := "PulledFromUnderModel", name := "pulls", desc := "(II)I" } : Jvm.MethodName)) ∈ lw_all := lw_g (lw_at lw_m6 10 rfl) rfl
theorem q1296 : (Jvm.Cond.selects "PulledFromUnderModel" ({ cls := "PulledFromUnderModel", name := "pulls", desc := "(II)I" } : Jvm.MethodName) ({ cls := "PulledFromUnderModel", name := "pulls", desc := "(II)I" } : Jvm.MethodName)) ∈ lw_all := lw_g (lw_at lw_m6 11 rfl) rfl
theorem q1297 : (Jvm.Cond.code ({ cls := "PulledFromUnderModel", name := "pulls", desc := "(II)I" } : Jvm.MethodName) prog_22_method_32_code (4 : Nat) (Option.some Jvm.ClassFile.FieldType.int)) ∈ lw_all := lw_g (lw_at lw_m6 12 rfl) rfl
theorem q1298 : (Jvm.Cond.methodLink "PulledFromUnderModel" (131 : Nat) ({ cls := "PulledFromUnderModel", name := "wrongPull", desc := "(II)I" } : Jvm.MethodName)) ∈ lw_all := lw_g (lw_at lw_m6 13 rfl) rfl
theorem q1299 : (Jvm.Cond.privateMethod ({ cls := "PulledFromUnderModel", name := "wrongPull", desc := "(II)I" } : Jvm.MethodName)) ∈ lw_tbl := lw_at lw_m6 14 rfl
theorem q1300 : (Jvm.Cond.instanceMethod ({ cls := "PulledFromUnderModel", name := "wrongPull", desc := "(II)I" } : Jvm.MethodName)) ∈ lw_all := lw_g (lw_at lw_m6 15 rfl) rfl
theorem q1301 : (Jvm.Cond.code ({ cls := "PulledFromUnderModel", name := "wrongPull", desc := "(II)I" } : Jvm.MethodName) prog_22_method_31_code (4 : Nat) (Option.some Jvm.ClassFile.FieldType.int)) ∈ lw_all := lw_g (lw_at lw_m6 16 rfl) rfl
theorem q1302 : (Jvm.Cond.methodLink "PulledFromUnderModel" (128 : Nat) ({ cls := "PulledFromUnderModel", name := "wrongBy", desc := "(II)I" } : Jvm.MethodName)) ∈ lw_all := lw_g (lw_at lw_m6 17 rfl) rfl
theorem q1303 : (Jvm.Cond.static ({ cls := "PulledFromUnderModel", name := "wrongBy", desc := "(II)I" } : Jvm.MethodName)) ∈ lw_all := lw_g (lw_at lw_m6 18 rfl) rfl
theorem q1304 : (Jvm.Cond.code ({ cls := "PulledFromUnderModel", name := "wrongBy", desc := "(II)I" } : Jvm.MethodName) prog_22_method_30_code (2 : Nat) (Option.some Jvm.ClassFile.FieldType.int)) ∈ lw_all := lw_g (lw_at lw_m6 19 rfl) rfl
theorem q1306 : (Jvm.Cond.instanceMethod ({ cls := "PulledFromUnderModel", name := "floor", desc := "(I)I" } : Jvm.MethodName)) ∈ lw_all := lw_g (lw_at lw_m6 21 rfl) rfl
theorem q1307 : (Jvm.Cond.selects "PulledFromUnderModel" ({ cls := "PulledFromUnderModel", name := "floor", desc := "(I)I" } : Jvm.MethodName) ({ cls := "PulledFromUnderModel", name := "floor", desc := "(I)I" } : Jvm.MethodName)) ∈ lw_all := lw_g (lw_at lw_m6 22 rfl) rfl
theorem q1308 : (Jvm.Cond.code ({ cls := "PulledFromUnderModel", name := "floor", desc := "(I)I" } : Jvm.MethodName) prog_22_method_33_code (3 : Nat) (Option.some Jvm.ClassFile.FieldType.int)) ∈ lw_all := lw_g (lw_at lw_m6 23 rfl) rfl
theorem q1310 : (Jvm.Cond.instanceMethod ({ cls := "PulledFromUnderModel", name := "lays", desc := "()I" } : Jvm.MethodName)) ∈ lw_all := lw_g (lw_at lw_m6 25 rfl) rfl
theorem q1311 : (Jvm.Cond.selects "PulledFromUnderModel" ({ cls := "PulledFromUnderModel", name := "lays", desc := "()I" } : Jvm.MethodName) ({ cls := "PulledFromUnderModel", name := "lays", desc := "()I" } : Jvm.MethodName)) ∈ lw_all := lw_g (lw_at lw_m6 26 rfl) rfl
theorem q1312 : (Jvm.Cond.code ({ cls := "PulledFromUnderModel", name := "lays", desc := "()I" } : Jvm.MethodName) prog_22_method_34_code (3 : Nat) (Option.some Jvm.ClassFile.FieldType.int)) ∈ lw_all := lw_g (lw_at lw_m6 27 rfl) rfl
theorem q1314 : (Jvm.Cond.instanceMethod ({ cls := "PulledFromUnderModel", name := "setsUp", desc := "(I)I" } : Jvm.MethodName)) ∈ lw_all := lw_g (lw_at lw_m6 29 rfl) rfl
theorem q1315 : (Jvm.Cond.selects "PulledFromUnderModel" ({ cls := "PulledFromUnderModel", name := "setsUp", desc := "(I)I" } : Jvm.MethodName) ({ cls := "PulledFromUnderModel", name := "setsUp", desc := "(I)I" } : Jvm.MethodName)) ∈ lw_all := lw_g (lw_at lw_m6 30 rfl) rfl
theorem q1316 : (Jvm.Cond.code ({ cls := "PulledFromUnderModel", name := "setsUp", desc := "(I)I" } : Jvm.MethodName) prog_22_method_35_code (2 : Nat) (Option.some Jvm.ClassFile.FieldType.int)) ∈ lw_all := lw_g (lw_at lw_m6 31 rfl) rfl
theorem q1318 : (Jvm.Cond.instanceMethod ({ cls := "PulledFromUnderModel", name := "turn", desc := "(III)I" } : Jvm.MethodName)) ∈ lw_all := lw_g (lw_at lw_m6 33 rfl) rfl
theorem q1319 : (Jvm.Cond.selects "PulledFromUnderModel" ({ cls := "PulledFromUnderModel", name := "turn", desc := "(III)I" } : Jvm.MethodName) ({ cls := "PulledFromUnderModel", name := "turn", desc := "(III)I" } : Jvm.MethodName)) ∈ lw_all := lw_g (lw_at lw_m6 34 rfl) rfl
theorem q1320 : (Jvm.Cond.code ({ cls := "PulledFromUnderModel", name := "turn", desc := "(III)I" } : Jvm.MethodName) prog_22_method_36_code (6 : Nat) (Option.some Jvm.ClassFile.FieldType.int)) ∈ lw_all := lw_g (lw_at lw_m6 35 rfl) rfl
theorem q1322 : (Jvm.Cond.instanceMethod ({ cls := "PulledFromUnderModel", name := "minutes", desc := "(I)I" } : Jvm.MethodName)) ∈ lw_all := lw_g (lw_at lw_m6 37 rfl) rfl
theorem q1323 : (Jvm.Cond.selects "PulledFromUnderModel" ({ cls := "PulledFromUnderModel", name := "minutes", desc := "(I)I" } : Jvm.MethodName) ({ cls := "PulledFromUnderModel", name := "minutes", desc := "(I)I" } : Jvm.MethodName)) ∈ lw_all := lw_g (lw_at lw_m6 38 rfl) rfl
theorem q1324 : (Jvm.Cond.code ({ cls := "PulledFromUnderModel", name := "minutes", desc := "(I)I" } : Jvm.MethodName) prog_22_method_37_code (2 : Nat) (Option.some Jvm.ClassFile.FieldType.int)) ∈ lw_all := lw_g (lw_at lw_m6 39 rfl) rfl
theorem q1326 : (Jvm.Cond.instanceMethod ({ cls := "PulledFromUnderModel", name := "behind", desc := "(III)I" } : Jvm.MethodName)) ∈ lw_all := lw_g (lw_at lw_m6 41 rfl) rfl
theorem q1327 : (Jvm.Cond.selects "PulledFromUnderModel" ({ cls := "PulledFromUnderModel", name := "behind", desc := "(III)I" } : Jvm.MethodName) ({ cls := "PulledFromUnderModel", name := "behind", desc := "(III)I" } : Jvm.MethodName)) ∈ lw_all := lw_g (lw_at lw_m6 42 rfl) rfl
theorem q1328 : (Jvm.Cond.code ({ cls := "PulledFromUnderModel", name := "behind", desc := "(III)I" } : Jvm.MethodName) prog_22_method_40_code (5 : Nat) (Option.some Jvm.ClassFile.FieldType.int)) ∈ lw_all := lw_g (lw_at lw_m6 43 rfl) rfl
theorem q1329 : (Jvm.Cond.methodLink "PulledFromUnderModel" (134 : Nat) ({ cls := "PulledFromUnderModel", name := "takes", desc := "(I)V" } : Jvm.MethodName)) ∈ lw_all := lw_g (lw_at lw_m6 44 rfl) rfl
theorem q1330 : (Jvm.Cond.privateMethod ({ cls := "PulledFromUnderModel", name := "takes", desc := "(I)V" } : Jvm.MethodName)) ∈ lw_tbl := lw_at lw_m6 45 rfl
theorem q1331 : (Jvm.Cond.instanceMethod ({ cls := "PulledFromUnderModel", name := "takes", desc := "(I)V" } : Jvm.MethodName)) ∈ lw_all := lw_g (lw_at lw_m6 46 rfl) rfl
theorem q1332 : (Jvm.Cond.code ({ cls := "PulledFromUnderModel", name := "takes", desc := "(I)V" } : Jvm.MethodName) prog_22_method_38_code (2 : Nat) (Option.none : Option Jvm.ClassFile.FieldType)) ∈ lw_all := lw_g (lw_at lw_m6 47 rfl) rfl
theorem q1333 : (Jvm.Cond.methodLink "PulledFromUnderModel" (138 : Nat) ({ cls := "PulledFromUnderModel", name := "standingIn", desc := "()I" } : Jvm.MethodName)) ∈ lw_all := lw_g (lw_at lw_m6 48 rfl) rfl
theorem q1334 : (Jvm.Cond.privateMethod ({ cls := "PulledFromUnderModel", name := "standingIn", desc := "()I" } : Jvm.MethodName)) ∈ lw_tbl := lw_at lw_m6 49 rfl
theorem q1335 : (Jvm.Cond.instanceMethod ({ cls := "PulledFromUnderModel", name := "standingIn", desc := "()I" } : Jvm.MethodName)) ∈ lw_all := lw_g (lw_at lw_m6 50 rfl) rfl
theorem q1336 : (Jvm.Cond.code ({ cls := "PulledFromUnderModel", name := "standingIn", desc := "()I" } : Jvm.MethodName) prog_22_method_39_code (1 : Nat) (Option.some Jvm.ClassFile.FieldType.int)) ∈ lw_all := lw_g (lw_at lw_m6 51 rfl) rfl
theorem q1338 : (Jvm.Cond.instanceMethod ({ cls := "PulledFromUnderModel", name := "falls", desc := "(I)I" } : Jvm.MethodName)) ∈ lw_all := lw_g (lw_at lw_m6 53 rfl) rfl
theorem q1339 : (Jvm.Cond.selects "PulledFromUnderModel" ({ cls := "PulledFromUnderModel", name := "falls", desc := "(I)I" } : Jvm.MethodName) ({ cls := "PulledFromUnderModel", name := "falls", desc := "(I)I" } : Jvm.MethodName)) ∈ lw_all := lw_g (lw_at lw_m6 54 rfl) rfl
theorem q1340 : (Jvm.Cond.code ({ cls := "PulledFromUnderModel", name := "falls", desc := "(I)I" } : Jvm.MethodName) prog_22_method_43_code (2 : Nat) (Option.some Jvm.ClassFile.FieldType.int)) ∈ lw_all := lw_g (lw_at lw_m6 55 rfl) rfl
theorem q1341 : (Jvm.Cond.methodLink "PulledFromUnderModel" (144 : Nat) ({ cls := "PulledFromUnderModel", name := "fallsOf", desc := "(I)I" } : Jvm.MethodName)) ∈ lw_all := lw_g (lw_at lw_m6 56 rfl) rfl
theorem q1342 : (Jvm.Cond.privateMethod ({ cls := "PulledFromUnderModel", name := "fallsOf", desc := "(I)I" } : Jvm.MethodName)) ∈ lw_tbl := lw_at lw_m6 57 rfl
theorem q1343 : (Jvm.Cond.instanceMethod ({ cls := "PulledFromUnderModel", name := "fallsOf", desc := "(I)I" } : Jvm.MethodName)) ∈ lw_all := lw_g (lw_at lw_m6 58 rfl) rfl
theorem q1344 : (Jvm.Cond.code ({ cls := "PulledFromUnderModel", name := "fallsOf", desc := "(I)I" } : Jvm.MethodName) prog_22_method_42_code (2 : Nat) (Option.some Jvm.ClassFile.FieldType.int)) ∈ lw_all := lw_g (lw_at lw_m6 59 rfl) rfl
theorem q1345 : (Jvm.Cond.methodLink "PulledFromUnderModel" (141 : Nat) ({ cls := "PulledFromUnderModel", name := "fallsIn", desc := "(I)I" } : Jvm.MethodName)) ∈ lw_all := lw_g (lw_at lw_m6 60 rfl) rfl
theorem q1346 : (Jvm.Cond.privateMethod ({ cls := "PulledFromUnderModel", name := "fallsIn", desc := "(I)I" } : Jvm.MethodName)) ∈ lw_tbl := lw_at lw_m6 61 rfl
theorem q1347 : (Jvm.Cond.instanceMethod ({ cls := "PulledFromUnderModel", name := "fallsIn", desc := "(I)I" } : Jvm.MethodName)) ∈ lw_all := lw_g (lw_at lw_m6 62 rfl) rfl
theorem q1348 : (Jvm.Cond.code ({ cls := "PulledFromUnderModel", name := "fallsIn", desc := "(I)I" } : Jvm.MethodName) prog_22_method_41_code (3 : Nat) (Option.some Jvm.ClassFile.FieldType.int)) ∈ lw_all := lw_g (lw_at lw_m6 63 rfl) rfl
theorem q1350 : (Jvm.Cond.instanceMethod ({ cls := "PulledFromUnderModel", name := "first", desc := "(I)I" } : Jvm.MethodName)) ∈ lw_all := lw_g (lw_at lw_m6 65 rfl) rfl
theorem q1351 : (Jvm.Cond.selects "PulledFromUnderModel" ({ cls := "PulledFromUnderModel", name := "first", desc := "(I)I" } : Jvm.MethodName) ({ cls := "PulledFromUnderModel", name := "first", desc := "(I)I" } : Jvm.MethodName)) ∈ lw_all := lw_g (lw_at lw_m6 66 rfl) rfl
theorem q1352 : (Jvm.Cond.code ({ cls := "PulledFromUnderModel", name := "first", desc := "(I)I" } : Jvm.MethodName) prog_22_method_44_code (6 : Nat) (Option.some Jvm.ClassFile.FieldType.int)) ∈ lw_all := lw_g (lw_at lw_m6 67 rfl) rfl
theorem q1353 : (Jvm.Cond.constant "PulledFromUnderModel" (147 : Nat) (1000000000 : Int32)) ∈ lw_all := lw_g (lw_at lw_m6 68 rfl) rfl
theorem q1355 : (Jvm.Cond.instanceMethod ({ cls := "PulledFromUnderModel", name := "allStand", desc := "()I" } : Jvm.MethodName)) ∈ lw_all := lw_g (lw_at lw_m6 70 rfl) rfl
theorem q1356 : (Jvm.Cond.selects "PulledFromUnderModel" ({ cls := "PulledFromUnderModel", name := "allStand", desc := "()I" } : Jvm.MethodName) ({ cls := "PulledFromUnderModel", name := "allStand", desc := "()I" } : Jvm.MethodName)) ∈ lw_all := lw_g (lw_at lw_m6 71 rfl) rfl
theorem q1357 : (Jvm.Cond.code ({ cls := "PulledFromUnderModel", name := "allStand", desc := "()I" } : Jvm.MethodName) prog_22_method_45_code (3 : Nat) (Option.some Jvm.ClassFile.FieldType.int)) ∈ lw_all := lw_g (lw_at lw_m6 72 rfl) rfl
theorem q1359 : (Jvm.Cond.instanceMethod ({ cls := "PulledFromUnderModel", name := "tower", desc := "(II)I" } : Jvm.MethodName)) ∈ lw_all := lw_g (lw_at lw_m6 74 rfl) rfl
theorem q1360 : (Jvm.Cond.selects "PulledFromUnderModel" ({ cls := "PulledFromUnderModel", name := "tower", desc := "(II)I" } : Jvm.MethodName) ({ cls := "PulledFromUnderModel", name := "tower", desc := "(II)I" } : Jvm.MethodName)) ∈ lw_all := lw_g (lw_at lw_m6 75 rfl) rfl
theorem q1361 : (Jvm.Cond.code ({ cls := "PulledFromUnderModel", name := "tower", desc := "(II)I" } : Jvm.MethodName) prog_22_method_47_code (7 : Nat) (Option.some Jvm.ClassFile.FieldType.int)) ∈ lw_all := lw_g (lw_at lw_m6 76 rfl) rfl
theorem q1362 : (Jvm.Cond.methodLink "PulledFromUnderModel" (148 : Nat) ({ cls := "PulledFromUnderModel", name := "isAbove", desc := "(II)Z" } : Jvm.MethodName)) ∈ lw_all := lw_g (lw_at lw_m6 77 rfl) rfl
theorem q1363 : (Jvm.Cond.privateMethod ({ cls := "PulledFromUnderModel", name := "isAbove", desc := "(II)Z" } : Jvm.MethodName)) ∈ lw_tbl := lw_at lw_m6 78 rfl
theorem q1364 : (Jvm.Cond.instanceMethod ({ cls := "PulledFromUnderModel", name := "isAbove", desc := "(II)Z" } : Jvm.MethodName)) ∈ lw_all := lw_g (lw_at lw_m6 79 rfl) rfl
theorem q1365 : (Jvm.Cond.code ({ cls := "PulledFromUnderModel", name := "isAbove", desc := "(II)Z" } : Jvm.MethodName) prog_22_method_46_code (4 : Nat) (Option.some Jvm.ClassFile.FieldType.boolean)) ∈ lw_all := lw_g (lw_at lw_m6 80 rfl) rfl
theorem q1367 : (Jvm.Cond.instanceMethod ({ cls := "PulledFromUnderModel", name := "leastSpeed", desc := "(I)I" } : Jvm.MethodName)) ∈ lw_all := lw_g (lw_at lw_m6 82 rfl) rfl
theorem q1368 : (Jvm.Cond.selects "PulledFromUnderModel" ({ cls := "PulledFromUnderModel", name := "leastSpeed", desc := "(I)I" } : Jvm.MethodName) ({ cls := "PulledFromUnderModel", name := "leastSpeed", desc := "(I)I" } : Jvm.MethodName)) ∈ lw_all := lw_g (lw_at lw_m6 83 rfl) rfl
theorem q1369 : (Jvm.Cond.code ({ cls := "PulledFromUnderModel", name := "leastSpeed", desc := "(I)I" } : Jvm.MethodName) prog_22_method_48_code (4 : Nat) (Option.some Jvm.ClassFile.FieldType.int)) ∈ lw_all := lw_g (lw_at lw_m6 84 rfl) rfl
theorem q1371 : (Jvm.Cond.instanceMethod ({ cls := "PulledFromUnderModel", name := "atOnce", desc := "(II)I" } : Jvm.MethodName)) ∈ lw_all := lw_g (lw_at lw_m6 86 rfl) rfl
theorem q1372 : (Jvm.Cond.selects "PulledFromUnderModel" ({ cls := "PulledFromUnderModel", name := "atOnce", desc := "(II)I" } : Jvm.MethodName) ({ cls := "PulledFromUnderModel", name := "atOnce", desc := "(II)I" } : Jvm.MethodName)) ∈ lw_all := lw_g (lw_at lw_m6 87 rfl) rfl
theorem q1373 : (Jvm.Cond.code ({ cls := "PulledFromUnderModel", name := "atOnce", desc := "(II)I" } : Jvm.MethodName) prog_22_method_49_code (4 : Nat) (Option.some Jvm.ClassFile.FieldType.int)) ∈ lw_all := lw_g (lw_at lw_m6 88 rfl) rfl
theorem q1375 : (Jvm.Cond.instanceMethod ({ cls := "PulledFromUnderModel", name := "later", desc := "(III)I" } : Jvm.MethodName)) ∈ lw_all := lw_g (lw_at lw_m6 90 rfl) rfl
theorem q1376 : (Jvm.Cond.selects "PulledFromUnderModel" ({ cls := "PulledFromUnderModel", name := "later", desc := "(III)I" } : Jvm.MethodName) ({ cls := "PulledFromUnderModel", name := "later", desc := "(III)I" } : Jvm.MethodName)) ∈ lw_all := lw_g (lw_at lw_m6 91 rfl) rfl
theorem q1377 : (Jvm.Cond.code ({ cls := "PulledFromUnderModel", name := "later", desc := "(III)I" } : Jvm.MethodName) prog_22_method_50_code (8 : Nat) (Option.some Jvm.ClassFile.FieldType.int)) ∈ lw_all := lw_g (lw_at lw_m6 92 rfl) rfl
theorem q1379 : (Jvm.Cond.instanceMethod ({ cls := "PulledFromUnderModel", name := "pullMost", desc := "(III)I" } : Jvm.MethodName)) ∈ lw_all := lw_g (lw_at lw_m6 94 rfl) rfl
theorem q1380 : (Jvm.Cond.selects "PulledFromUnderModel" ({ cls := "PulledFromUnderModel", name := "pullMost", desc := "(III)I" } : Jvm.MethodName) ({ cls := "PulledFromUnderModel", name := "pullMost", desc := "(III)I" } : Jvm.MethodName)) ∈ lw_all := lw_g (lw_at lw_m6 95 rfl) rfl
theorem q1381 : (Jvm.Cond.code ({ cls := "PulledFromUnderModel", name := "pullMost", desc := "(III)I" } : Jvm.MethodName) prog_22_method_52_code (7 : Nat) (Option.some Jvm.ClassFile.FieldType.int)) ∈ lw_all := lw_g (lw_at lw_m6 96 rfl) rfl
theorem q1382 : (Jvm.Cond.methodLink "PulledFromUnderModel" (151 : Nat) ({ cls := "PulledFromUnderModel", name := "pullsSet", desc := "(I)Z" } : Jvm.MethodName)) ∈ lw_all := lw_g (lw_at lw_m6 97 rfl) rfl
theorem q1383 : (Jvm.Cond.privateMethod ({ cls := "PulledFromUnderModel", name := "pullsSet", desc := "(I)Z" } : Jvm.MethodName)) ∈ lw_tbl := lw_at lw_m6 98 rfl
theorem q1384 : (Jvm.Cond.instanceMethod ({ cls := "PulledFromUnderModel", name := "pullsSet", desc := "(I)Z" } : Jvm.MethodName)) ∈ lw_all := lw_g (lw_at lw_m6 99 rfl) rfl
theorem q1385 : (Jvm.Cond.code ({ cls := "PulledFromUnderModel", name := "pullsSet", desc := "(I)Z" } : Jvm.MethodName) prog_22_method_51_code (4 : Nat) (Option.some Jvm.ClassFile.FieldType.boolean)) ∈ lw_all := lw_g (lw_at lw_m6 100 rfl) rfl
theorem q1387 : (Jvm.Cond.instanceMethod ({ cls := "PulledFromUnderModel", name := "key", desc := "(I)I" } : Jvm.MethodName)) ∈ lw_all := lw_g (lw_at lw_m6 102 rfl) rfl
theorem q1388 : (Jvm.Cond.selects "PulledFromUnderModel" ({ cls := "PulledFromUnderModel", name := "key", desc := "(I)I" } : Jvm.MethodName) ({ cls := "PulledFromUnderModel", name := "key", desc := "(I)I" } : Jvm.MethodName)) ∈ lw_all := lw_g (lw_at lw_m6 103 rfl) rfl
theorem q1389 : (Jvm.Cond.code ({ cls := "PulledFromUnderModel", name := "key", desc := "(I)I" } : Jvm.MethodName) prog_22_method_53_code (6 : Nat) (Option.some Jvm.ClassFile.FieldType.int)) ∈ lw_all := lw_g (lw_at lw_m6 104 rfl) rfl
theorem q1391 : (Jvm.Cond.instanceMethod ({ cls := "PulledFromUnderModel", name := "prop", desc := "(I)I" } : Jvm.MethodName)) ∈ lw_all := lw_g (lw_at lw_m6 106 rfl) rfl
theorem q1392 : (Jvm.Cond.selects "PulledFromUnderModel" ({ cls := "PulledFromUnderModel", name := "prop", desc := "(I)I" } : Jvm.MethodName) ({ cls := "PulledFromUnderModel", name := "prop", desc := "(I)I" } : Jvm.MethodName)) ∈ lw_all := lw_g (lw_at lw_m6 107 rfl) rfl
theorem q1393 : (Jvm.Cond.code ({ cls := "PulledFromUnderModel", name := "prop", desc := "(I)I" } : Jvm.MethodName) prog_22_method_54_code (6 : Nat) (Option.some Jvm.ClassFile.FieldType.int)) ∈ lw_all := lw_g (lw_at lw_m6 108 rfl) rfl
theorem q1395 : (Jvm.Cond.instanceMethod ({ cls := "PulledFromUnderModel", name := "order", desc := "(IIIII)I" } : Jvm.MethodName)) ∈ lw_all := lw_g (lw_at lw_m6 110 rfl) rfl
theorem q1396 : (Jvm.Cond.selects "PulledFromUnderModel" ({ cls := "PulledFromUnderModel", name := "order", desc := "(IIIII)I" } : Jvm.MethodName) ({ cls := "PulledFromUnderModel", name := "order", desc := "(IIIII)I" } : Jvm.MethodName)) ∈ lw_all := lw_g (lw_at lw_m6 111 rfl) rfl
theorem q1397 : (Jvm.Cond.code ({ cls := "PulledFromUnderModel", name := "order", desc := "(IIIII)I" } : Jvm.MethodName) prog_22_method_57_code (13 : Nat) (Option.some Jvm.ClassFile.FieldType.int)) ∈ lw_all := lw_g (lw_at lw_m6 112 rfl) rfl
theorem q1398 : (Jvm.Cond.methodLink "PulledFromUnderModel" (154 : Nat) ({ cls := "PulledFromUnderModel", name := "placed", desc := "(IIII)I" } : Jvm.MethodName)) ∈ lw_all := lw_g (lw_at lw_m6 113 rfl) rfl
theorem q1399 : (Jvm.Cond.static ({ cls := "PulledFromUnderModel", name := "placed", desc := "(IIII)I" } : Jvm.MethodName)) ∈ lw_all := lw_g (lw_at lw_m6 114 rfl) rfl
theorem q1400 : (Jvm.Cond.code ({ cls := "PulledFromUnderModel", name := "placed", desc := "(IIII)I" } : Jvm.MethodName) prog_22_method_56_code (4 : Nat) (Option.some Jvm.ClassFile.FieldType.int)) ∈ lw_all := lw_g (lw_at lw_m6 115 rfl) rfl
theorem q1401 : (Jvm.Cond.methodLink "PulledFromUnderModel" (158 : Nat) ({ cls := "PulledFromUnderModel", name := "standingBy", desc := "(IIII)I" } : Jvm.MethodName)) ∈ lw_all := lw_g (lw_at lw_m6 116 rfl) rfl
theorem q1402 : (Jvm.Cond.privateMethod ({ cls := "PulledFromUnderModel", name := "standingBy", desc := "(IIII)I" } : Jvm.MethodName)) ∈ lw_tbl := lw_at lw_m6 117 rfl
theorem q1403 : (Jvm.Cond.instanceMethod ({ cls := "PulledFromUnderModel", name := "standingBy", desc := "(IIII)I" } : Jvm.MethodName)) ∈ lw_all := lw_g (lw_at lw_m6 118 rfl) rfl
theorem q1404 : (Jvm.Cond.code ({ cls := "PulledFromUnderModel", name := "standingBy", desc := "(IIII)I" } : Jvm.MethodName) prog_22_method_55_code (8 : Nat) (Option.some Jvm.ClassFile.FieldType.int)) ∈ lw_all := lw_g (lw_at lw_m6 119 rfl) rfl
theorem q1406 : (Jvm.Cond.instanceMethod ({ cls := "PulledFromUnderModel", name := "floorFalls", desc := "(I)I" } : Jvm.MethodName)) ∈ lw_all := lw_g (lw_at lw_m6 121 rfl) rfl
theorem q1407 : (Jvm.Cond.selects "PulledFromUnderModel" ({ cls := "PulledFromUnderModel", name := "floorFalls", desc := "(I)I" } : Jvm.MethodName) ({ cls := "PulledFromUnderModel", name := "floorFalls", desc := "(I)I" } : Jvm.MethodName)) ∈ lw_all := lw_g (lw_at lw_m6 122 rfl) rfl
theorem q1408 : (Jvm.Cond.code ({ cls := "PulledFromUnderModel", name := "floorFalls", desc := "(I)I" } : Jvm.MethodName) prog_22_method_58_code (3 : Nat) (Option.some Jvm.ClassFile.FieldType.int)) ∈ lw_all := lw_g (lw_at lw_m6 123 rfl) rfl
theorem q1410 : (Jvm.Cond.instanceMethod ({ cls := "PulledFromUnderModel", name := "watched", desc := "(I)I" } : Jvm.MethodName)) ∈ lw_all := lw_g (lw_at lw_m6 125 rfl) rfl
theorem q1411 : (Jvm.Cond.selects "PulledFromUnderModel" ({ cls := "PulledFromUnderModel", name := "watched", desc := "(I)I" } : Jvm.MethodName) ({ cls := "PulledFromUnderModel", name := "watched", desc := "(I)I" } : Jvm.MethodName)) ∈ lw_all := lw_g (lw_at lw_m6 126 rfl) rfl
theorem q1412 : (Jvm.Cond.code ({ cls := "PulledFromUnderModel", name := "watched", desc := "(I)I" } : Jvm.MethodName) prog_22_method_59_code (5 : Nat) (Option.some Jvm.ClassFile.FieldType.int)) ∈ lw_all := lw_g (lw_at lw_m6 127 rfl) rfl
theorem q1414 : (Jvm.Cond.instanceMethod ({ cls := "PulledFromUnderModel", name := "rebuild", desc := "(I)I" } : Jvm.MethodName)) ∈ lw_all := lw_g (lw_at lw_m6 129 rfl) rfl
theorem q1415 : (Jvm.Cond.selects "PulledFromUnderModel" ({ cls := "PulledFromUnderModel", name := "rebuild", desc := "(I)I" } : Jvm.MethodName) ({ cls := "PulledFromUnderModel", name := "rebuild", desc := "(I)I" } : Jvm.MethodName)) ∈ lw_all := lw_g (lw_at lw_m6 130 rfl) rfl
theorem q1416 : (Jvm.Cond.code ({ cls := "PulledFromUnderModel", name := "rebuild", desc := "(I)I" } : Jvm.MethodName) prog_22_method_61_code (4 : Nat) (Option.some Jvm.ClassFile.FieldType.int)) ∈ lw_all := lw_g (lw_at lw_m6 131 rfl) rfl
theorem q1417 : (Jvm.Cond.methodLink "PulledFromUnderModel" (161 : Nat) ({ cls := "PulledFromUnderModel", name := "rebuilt", desc := "([I)I" } : Jvm.MethodName)) ∈ lw_all := lw_g (lw_at lw_m6 132 rfl) rfl
theorem q1418 : (Jvm.Cond.static ({ cls := "PulledFromUnderModel", name := "rebuilt", desc := "([I)I" } : Jvm.MethodName)) ∈ lw_all := lw_g (lw_at lw_m6 133 rfl) rfl
theorem q1419 : (Jvm.Cond.code ({ cls := "PulledFromUnderModel", name := "rebuilt", desc := "([I)I" } : Jvm.MethodName) prog_22_method_60_code (2 : Nat) (Option.some Jvm.ClassFile.FieldType.int)) ∈ lw_all := lw_g (lw_at lw_m6 134 rfl) rfl
theorem q1421 : (Jvm.Cond.instanceMethod ({ cls := "PulledFromUnderModel", name := "draught", desc := "(IIII)J" } : Jvm.MethodName)) ∈ lw_all := lw_g (lw_at lw_m6 136 rfl) rfl
theorem q1422 : (Jvm.Cond.selects "PulledFromUnderModel" ({ cls := "PulledFromUnderModel", name := "draught", desc := "(IIII)J" } : Jvm.MethodName) ({ cls := "PulledFromUnderModel", name := "draught", desc := "(IIII)J" } : Jvm.MethodName)) ∈ lw_all := lw_g (lw_at lw_m6 137 rfl) rfl
theorem q1423 : (Jvm.Cond.code ({ cls := "PulledFromUnderModel", name := "draught", desc := "(IIII)J" } : Jvm.MethodName) prog_22_method_64_code (13 : Nat) (Option.some Jvm.ClassFile.FieldType.long)) ∈ lw_all := lw_g (lw_at lw_m6 138 rfl) rfl
theorem q1424 : (Jvm.Cond.methodLink "PulledFromUnderModel" (169 : Nat) ({ cls := "PulledFromUnderModel", name := "noWide", desc := "(I)J" } : Jvm.MethodName)) ∈ lw_all := lw_g (lw_at lw_m6 139 rfl) rfl
theorem q1425 : (Jvm.Cond.privateMethod ({ cls := "PulledFromUnderModel", name := "noWide", desc := "(I)J" } : Jvm.MethodName)) ∈ lw_tbl := lw_at lw_m6 140 rfl
theorem q1426 : (Jvm.Cond.instanceMethod ({ cls := "PulledFromUnderModel", name := "noWide", desc := "(I)J" } : Jvm.MethodName)) ∈ lw_all := lw_g (lw_at lw_m6 141 rfl) rfl
theorem q1427 : (Jvm.Cond.code ({ cls := "PulledFromUnderModel", name := "noWide", desc := "(I)J" } : Jvm.MethodName) prog_22_method_6_code (2 : Nat) (Option.some Jvm.ClassFile.FieldType.long)) ∈ lw_all := lw_g (lw_at lw_m6 142 rfl) rfl
theorem q1428 : (Jvm.Cond.constantLong "PulledFromUnderModel" (34 : Nat) (4000000000000000000 : Int64)) ∈ lw_all := lw_g (lw_at lw_m6 143 rfl) rfl
theorem q1429 : (Jvm.Cond.methodLink "PulledFromUnderModel" (173 : Nat) ({ cls := "PulledFromUnderModel", name := "partOf", desc := "(JJI)J" } : Jvm.MethodName)) ∈ lw_all := lw_g (lw_at lw_m6 144 rfl) rfl
theorem q1430 : (Jvm.Cond.static ({ cls := "PulledFromUnderModel", name := "partOf", desc := "(JJI)J" } : Jvm.MethodName)) ∈ lw_all := lw_g (lw_at lw_m6 145 rfl) rfl
theorem q1431 : (Jvm.Cond.code ({ cls := "PulledFromUnderModel", name := "partOf", desc := "(JJI)J" } : Jvm.MethodName) prog_22_method_63_code (5 : Nat) (Option.some Jvm.ClassFile.FieldType.long)) ∈ lw_all := lw_g (lw_at lw_m6 146 rfl) rfl
theorem q1432 : (Jvm.Cond.methodLink "PulledFromUnderModel" (165 : Nat) ({ cls := "PulledFromUnderModel", name := "gcd", desc := "(JJ)J" } : Jvm.MethodName)) ∈ lw_all := lw_g (lw_at lw_m6 147 rfl) rfl
theorem q1433 : (Jvm.Cond.static ({ cls := "PulledFromUnderModel", name := "gcd", desc := "(JJ)J" } : Jvm.MethodName)) ∈ lw_all := lw_g (lw_at lw_m6 148 rfl) rfl
theorem q1434 : (Jvm.Cond.code ({ cls := "PulledFromUnderModel", name := "gcd", desc := "(JJ)J" } : Jvm.MethodName) prog_22_method_62_code (10 : Nat) (Option.some Jvm.ClassFile.FieldType.long)) ∈ lw_all := lw_g (lw_at lw_m6 149 rfl) rfl
theorem q1436 : (Jvm.Cond.instanceMethod ({ cls := "PulledFromUnderModel", name := "two", desc := "(III)I" } : Jvm.MethodName)) ∈ lw_all := lw_g (lw_at lw_m6 151 rfl) rfl
theorem q1437 : (Jvm.Cond.selects "PulledFromUnderModel" ({ cls := "PulledFromUnderModel", name := "two", desc := "(III)I" } : Jvm.MethodName) ({ cls := "PulledFromUnderModel", name := "two", desc := "(III)I" } : Jvm.MethodName)) ∈ lw_all := lw_g (lw_at lw_m6 152 rfl) rfl
theorem q1438 : (Jvm.Cond.code ({ cls := "PulledFromUnderModel", name := "two", desc := "(III)I" } : Jvm.MethodName) prog_22_method_66_code (9 : Nat) (Option.some Jvm.ClassFile.FieldType.int)) ∈ lw_all := lw_g (lw_at lw_m6 153 rfl) rfl
theorem q1439 : (Jvm.Cond.methodLink "PulledFromUnderModel" (177 : Nat) ({ cls := "PulledFromUnderModel", name := "standingPulled", desc := "(IIIII)I" } : Jvm.MethodName)) ∈ lw_all := lw_g (lw_at lw_m6 154 rfl) rfl
theorem q1440 : (Jvm.Cond.privateMethod ({ cls := "PulledFromUnderModel", name := "standingPulled", desc := "(IIIII)I" } : Jvm.MethodName)) ∈ lw_tbl := lw_at lw_m6 155 rfl
theorem q1441 : (Jvm.Cond.instanceMethod ({ cls := "PulledFromUnderModel", name := "standingPulled", desc := "(IIIII)I" } : Jvm.MethodName)) ∈ lw_all := lw_g (lw_at lw_m6 156 rfl) rfl
theorem q1442 : (Jvm.Cond.code ({ cls := "PulledFromUnderModel", name := "standingPulled", desc := "(IIIII)I" } : Jvm.MethodName) prog_22_method_65_code (8 : Nat) (Option.some Jvm.ClassFile.FieldType.int)) ∈ lw_all := lw_g (lw_at lw_m6 157 rfl) rfl
theorem q1444 : (Jvm.Cond.instanceMethod ({ cls := "PulledFromUnderModel", name := "whatWas", desc := "(II)I" } : Jvm.MethodName)) ∈ lw_all := lw_g (lw_at lw_m6 159 rfl) rfl
theorem q1445 : (Jvm.Cond.selects "PulledFromUnderModel" ({ cls := "PulledFromUnderModel", name := "whatWas", desc := "(II)I" } : Jvm.MethodName) ({ cls := "PulledFromUnderModel", name := "whatWas", desc := "(II)I" } : Jvm.MethodName)) ∈ lw_all := lw_g (lw_at lw_m6 160 rfl) rfl
theorem q1446 : (Jvm.Cond.code ({ cls := "PulledFromUnderModel", name := "whatWas", desc := "(II)I" } : Jvm.MethodName) prog_22_method_67_code (9 : Nat) (Option.some Jvm.ClassFile.FieldType.int)) ∈ lw_all := lw_g (lw_at lw_m6 161 rfl) rfl
theorem q1448 : (Jvm.Cond.instanceMethod ({ cls := "PulledFromUnderModel", name := "row", desc := "(I)I" } : Jvm.MethodName)) ∈ lw_all := lw_g (lw_at lw_m6 163 rfl) rfl
theorem q1449 : (Jvm.Cond.selects "PulledFromUnderModel" ({ cls := "PulledFromUnderModel", name := "row", desc := "(I)I" } : Jvm.MethodName) ({ cls := "PulledFromUnderModel", name := "row", desc := "(I)I" } : Jvm.MethodName)) ∈ lw_all := lw_g (lw_at lw_m6 164 rfl) rfl
theorem q1450 : (Jvm.Cond.code ({ cls := "PulledFromUnderModel", name := "row", desc := "(I)I" } : Jvm.MethodName) prog_22_method_68_code (3 : Nat) (Option.some Jvm.ClassFile.FieldType.int)) ∈ lw_all := lw_g (lw_at lw_m6 165 rfl) rfl
theorem q1452 : (Jvm.Cond.instanceMethod ({ cls := "PulledFromUnderModel", name := "judge", desc := "()I" } : Jvm.MethodName)) ∈ lw_all := lw_g (lw_at lw_m6 167 rfl) rfl
theorem q1453 : (Jvm.Cond.selects "PulledFromUnderModel" ({ cls := "PulledFromUnderModel", name := "judge", desc := "()I" } : Jvm.MethodName) ({ cls := "PulledFromUnderModel", name := "judge", desc := "()I" } : Jvm.MethodName)) ∈ lw_all := lw_g (lw_at lw_m6 168 rfl) rfl
theorem q1454 : (Jvm.Cond.code ({ cls := "PulledFromUnderModel", name := "judge", desc := "()I" } : Jvm.MethodName) prog_22_method_69_code (3 : Nat) (Option.some Jvm.ClassFile.FieldType.int)) ∈ lw_all := lw_g (lw_at lw_m6 169 rfl) rfl
theorem q1456 : (Jvm.Cond.instanceMethod ({ cls := "PulledFromUnderModel", name := "clear", desc := "()I" } : Jvm.MethodName)) ∈ lw_all := lw_g (lw_at lw_m6 171 rfl) rfl
theorem q1457 : (Jvm.Cond.selects "PulledFromUnderModel" ({ cls := "PulledFromUnderModel", name := "clear", desc := "()I" } : Jvm.MethodName) ({ cls := "PulledFromUnderModel", name := "clear", desc := "()I" } : Jvm.MethodName)) ∈ lw_all := lw_g (lw_at lw_m6 172 rfl) rfl
theorem q1458 : (Jvm.Cond.code ({ cls := "PulledFromUnderModel", name := "clear", desc := "()I" } : Jvm.MethodName) prog_22_method_70_code (2 : Nat) (Option.some Jvm.ClassFile.FieldType.int)) ∈ lw_all := lw_g (lw_at lw_m6 173 rfl) rfl
theorem q1460 : (Jvm.Cond.instanceMethod ({ cls := "PulledFromUnderModel", name := "lots", desc := "(III)I" } : Jvm.MethodName)) ∈ lw_all := lw_g (lw_at lw_m6 175 rfl) rfl
theorem q1461 : (Jvm.Cond.selects "PulledFromUnderModel" ({ cls := "PulledFromUnderModel", name := "lots", desc := "(III)I" } : Jvm.MethodName) ({ cls := "PulledFromUnderModel", name := "lots", desc := "(III)I" } : Jvm.MethodName)) ∈ lw_all := lw_g (lw_at lw_m6 176 rfl) rfl
theorem q1462 : (Jvm.Cond.code ({ cls := "PulledFromUnderModel", name := "lots", desc := "(III)I" } : Jvm.MethodName) prog_22_method_72_code (10 : Nat) (Option.some Jvm.ClassFile.FieldType.int)) ∈ lw_all := lw_g (lw_at lw_m6 177 rfl) rfl
theorem q1463 : (Jvm.Cond.methodLink "PulledFromUnderModel" (190 : Nat) ({ cls := "PulledFromUnderModel", name := "drawn", desc := "(I)I" } : Jvm.MethodName)) ∈ lw_all := lw_g (lw_at lw_m6 178 rfl) rfl
theorem q1464 : (Jvm.Cond.privateMethod ({ cls := "PulledFromUnderModel", name := "drawn", desc := "(I)I" } : Jvm.MethodName)) ∈ lw_tbl := lw_at lw_m6 179 rfl
theorem q1465 : (Jvm.Cond.instanceMethod ({ cls := "PulledFromUnderModel", name := "drawn", desc := "(I)I" } : Jvm.MethodName)) ∈ lw_all := lw_g (lw_at lw_m6 180 rfl) rfl
theorem q1466 : (Jvm.Cond.code ({ cls := "PulledFromUnderModel", name := "drawn", desc := "(I)I" } : Jvm.MethodName) prog_22_method_71_code (2 : Nat) (Option.some Jvm.ClassFile.FieldType.int)) ∈ lw_all := lw_g (lw_at lw_m6 181 rfl) rfl
theorem q1467 : (Jvm.Cond.constant "PulledFromUnderModel" (187 : Nat) (1664525 : Int32)) ∈ lw_all := lw_g (lw_at lw_m6 182 rfl) rfl
theorem q1468 : (Jvm.Cond.constant "PulledFromUnderModel" (188 : Nat) (1013904223 : Int32)) ∈ lw_all := lw_g (lw_at lw_m6 183 rfl) rfl
theorem q1469 : (Jvm.Cond.constant "PulledFromUnderModel" (189 : Nat) (2147483647 : Int32)) ∈ lw_all := lw_g (lw_at lw_m6 184 rfl) rfl
theorem q1471 : (Jvm.Cond.instanceMethod ({ cls := "PulledFromUnderModel", name := "image", desc := "()I" } : Jvm.MethodName)) ∈ lw_all := lw_g (lw_at lw_m6 186 rfl) rfl
theorem q1472 : (Jvm.Cond.selects "PulledFromUnderModel" ({ cls := "PulledFromUnderModel", name := "image", desc := "()I" } : Jvm.MethodName) ({ cls := "PulledFromUnderModel", name := "image", desc := "()I" } : Jvm.MethodName)) ∈ lw_all := lw_g (lw_at lw_m6 187 rfl) rfl
theorem q1473 : (Jvm.Cond.code ({ cls := "PulledFromUnderModel", name := "image", desc := "()I" } : Jvm.MethodName) prog_22_method_73_code (1 : Nat) (Option.some Jvm.ClassFile.FieldType.int)) ∈ lw_all := lw_g (lw_at lw_m6 188 rfl) rfl
theorem q1475 : (Jvm.Cond.instanceMethod ({ cls := "PulledFromUnderModel", name := "on", desc := "()I" } : Jvm.MethodName)) ∈ lw_all := lw_g (lw_at lw_m6 190 rfl) rfl
theorem q1476 : (Jvm.Cond.selects "PulledFromUnderModel" ({ cls := "PulledFromUnderModel", name := "on", desc := "()I" } : Jvm.MethodName) ({ cls := "PulledFromUnderModel", name := "on", desc := "()I" } : Jvm.MethodName)) ∈ lw_all := lw_g (lw_at lw_m6 191 rfl) rfl
theorem q1477 : (Jvm.Cond.code ({ cls := "PulledFromUnderModel", name := "on", desc := "()I" } : Jvm.MethodName) prog_22_method_74_code (1 : Nat) (Option.some Jvm.ClassFile.FieldType.int)) ∈ lw_all := lw_g (lw_at lw_m6 192 rfl) rfl
theorem q1479 : (Jvm.Cond.instanceMethod ({ cls := "PulledFromUnderModel", name := "count", desc := "(I)I" } : Jvm.MethodName)) ∈ lw_all := lw_g (lw_at lw_m6 194 rfl) rfl
theorem q1480 : (Jvm.Cond.selects "PulledFromUnderModel" ({ cls := "PulledFromUnderModel", name := "count", desc := "(I)I" } : Jvm.MethodName) ({ cls := "PulledFromUnderModel", name := "count", desc := "(I)I" } : Jvm.MethodName)) ∈ lw_all := lw_g (lw_at lw_m6 195 rfl) rfl
theorem q1481 : (Jvm.Cond.code ({ cls := "PulledFromUnderModel", name := "count", desc := "(I)I" } : Jvm.MethodName) prog_22_method_75_code (2 : Nat) (Option.some Jvm.ClassFile.FieldType.int)) ∈ lw_all := lw_g (lw_at lw_m6 196 rfl) rfl
theorem in_X9 : ∀ w ∈ wsX90, w ∈ lw_all := lw_in wsX90 [1175, 1177, 1179, 1181, 1183, 1185, 1187, 1189, 1191, 1193, 1195, 1197, 1199] (by decide +kernel) (by decide +kernel)
