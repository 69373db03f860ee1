/-! PulledFromUnder$Kind -/
set_option maxRecDepth 100000
def RX1 : String := "PulledFromUnder$Kind"
abbrev cX1_init : ByteArray := prog_8_method_1_code
def yX1_init : MethodName := ⟨RX1, "<init>", "()V"⟩
theorem dX1_init_0 : decode cX1_init 0 = .ok (.aload_n 0, 1) := by decide +kernel
theorem dX1_init_1 : decode cX1_init 1 = .ok (.invokespecial 1, 3) := by decide +kernel
theorem dX1_init_4 : decode cX1_init 4 = .ok (.return_, 1) := by decide +kernel
abbrev cX1_isWatcher : ByteArray := prog_8_method_5_code
def yX1_isWatcher : MethodName := ⟨RX1, "isWatcher", "()Z"⟩
theorem dX1_isWatcher_0 : decode cX1_isWatcher 0 = .ok (.iconst 0, 1) := by decide +kernel
theorem dX1_isWatcher_1 : decode cX1_isWatcher 1 = .ok (.ireturn, 1) := by decide +kernel
theorem q87 : (Jvm.Cond.initialized "PulledFromUnder$Kind") ∈ lw_all := lw_g (lw_at lw_m1 2 rfl) rfl
theorem q128 : (Jvm.Cond.instanceMethod ({ cls := "PulledFromUnder$Kind", name := "<init>", desc := "()V" } : Jvm.MethodName)) ∈ lw_all := lw_g (lw_at lw_m1 43 rfl) rfl
theorem q129 : (Jvm.Cond.code ({ cls := "PulledFromUnder$Kind", name := "<init>", desc := "()V" } : Jvm.MethodName) prog_8_method_1_code (1 : Nat) (Option.none : Option Jvm.ClassFile.FieldType)) ∈ lw_all := lw_g (lw_at lw_m1 44 rfl) rfl
theorem q130 : (Jvm.Cond.methodLink "PulledFromUnder$Kind" (1 : Nat) ({ cls := "java/lang/Object", name := "<init>", desc := "()V" } : Jvm.MethodName)) ∈ lw_all := lw_g (lw_at lw_m1 45 rfl) rfl
theorem q595 : (Jvm.Cond.declares ({ cls := "PulledFromUnder$Kind", name := "grip", desc := "(I)I" } : Jvm.MethodName)) ∈ lw_tbl := lw_at lw_m3 30 rfl
theorem q596 : (Jvm.Cond.sameMethod "PulledFromUnder$Kind" "PulledFromUnder$Kind" "grip" "(I)I") ∈ lw_all := lw_g (lw_at lw_m3 31 rfl) rfl
theorem q647 : (Jvm.Cond.declares ({ cls := "PulledFromUnder$Kind", name := "habit", desc := "(IZ)I" } : Jvm.MethodName)) ∈ lw_tbl := lw_at lw_m3 82 rfl
theorem q648 : (Jvm.Cond.sameMethod "PulledFromUnder$Kind" "PulledFromUnder$Kind" "habit" "(IZ)I") ∈ lw_all := lw_g (lw_at lw_m3 83 rfl) rfl
theorem q709 : (Jvm.Cond.declares ({ cls := "PulledFromUnder$Kind", name := "kind", desc := "()I" } : Jvm.MethodName)) ∈ lw_tbl := lw_at lw_m3 144 rfl
theorem q710 : (Jvm.Cond.sameMethod "PulledFromUnder$Kind" "PulledFromUnder$Kind" "kind" "()I") ∈ lw_all := lw_g (lw_at lw_m3 145 rfl) rfl
theorem q919 : (Jvm.Cond.instanceMethod ({ cls := "PulledFromUnder$Kind", name := "isWatcher", desc := "()Z" } : Jvm.MethodName)) ∈ lw_all := lw_g (lw_at lw_m4 114 rfl) rfl
theorem q920 : (Jvm.Cond.sameMethod "PulledFromUnder$Kind" "PulledFromUnder$Kind" "isWatcher" "()Z") ∈ lw_all := lw_g (lw_at lw_m4 115 rfl) rfl
theorem q931 : (Jvm.Cond.declares ({ cls := "PulledFromUnder$Kind", name := "isWatcher", desc := "()Z" } : Jvm.MethodName)) ∈ lw_tbl := lw_at lw_m4 126 rfl
theorem q932 : (Jvm.Cond.code ({ cls := "PulledFromUnder$Kind", name := "isWatcher", desc := "()Z" } : Jvm.MethodName) prog_8_method_5_code (1 : Nat) (Option.some Jvm.ClassFile.FieldType.boolean)) ∈ lw_all := lw_g (lw_at lw_m4 127 rfl) rfl
/-! PulledFromUnder$Thing -/
set_option maxRecDepth 100000
def RX2 : String := "PulledFromUnder$Thing"
abbrev cX2_init : ByteArray := prog_18_method_1_code
def yX2_init : MethodName := ⟨RX2, "<init>", "()V"⟩
theorem dX2_init_0 : decode cX2_init 0 = .ok (.aload_n 0, 1) := by decide +kernel
theorem dX2_init_1 : decode cX2_init 1 = .ok (.invokespecial 1, 3) := by decide +kernel
theorem dX2_init_4 : decode cX2_init 4 = .ok (.return_, 1) := by decide +kernel
abbrev cX2_grip : ByteArray := prog_18_method_4_code
def yX2_grip : MethodName := ⟨RX2, "grip", "(I)I"⟩
theorem dX2_grip_0 : decode cX2_grip 0 = .ok (.iload_n 1, 1) := by decide +kernel
theorem dX2_grip_1 : decode cX2_grip 1 = .ok (.ireturn, 1) := by decide +kernel
abbrev cX2_habit : ByteArray := prog_18_method_3_code
def yX2_habit : MethodName := ⟨RX2, "habit", "(IZ)I"⟩
def dkwX2_habit_0 : List UInt8 := [27, 6, 108, 172]
abbrev dktX2_habit_0 : List UInt8 := dkwX2_habit_0 ++ []
theorem dksX2_habit_0 : cX2_habit.data.toList.drop 0 = dktX2_habit_0 := by decide +kernel
theorem dX2_habit_0 : decode cX2_habit 0 = .ok (.iload_n 1, 1) := dk_27 (dk_at dksX2_habit_0 0 rfl rfl)
theorem dX2_habit_1 : decode cX2_habit 1 = .ok (.iconst 3, 1) := dk_6 (dk_at dksX2_habit_0 1 rfl rfl)
theorem dX2_habit_2 : decode cX2_habit 2 = .ok (.idiv, 1) := dk_108 (dk_at dksX2_habit_0 2 rfl rfl)
theorem dX2_habit_3 : decode cX2_habit 3 = .ok (.ireturn, 1) := dk_172 (dk_at dksX2_habit_0 3 rfl rfl)
abbrev cX2_kind : ByteArray := prog_18_method_2_code
def yX2_kind : MethodName := ⟨RX2, "kind", "()I"⟩
theorem dX2_kind_0 : decode cX2_kind 0 = .ok (.iconst 0, 1) := by decide +kernel
theorem dX2_kind_1 : decode cX2_kind 1 = .ok (.ireturn, 1) := by decide +kernel
theorem q88 : (Jvm.Cond.initialized "PulledFromUnder$Thing") ∈ lw_all := lw_g (lw_at lw_m1 3 rfl) rfl
theorem q123 : (Jvm.Cond.instantiable "PulledFromUnder$Thing" (0 : Nat)) ∈ lw_all := lw_g (lw_at lw_m1 38 rfl) rfl
theorem q125 : (Jvm.Cond.instanceMethod ({ cls := "PulledFromUnder$Thing", name := "<init>", desc := "()V" } : Jvm.MethodName)) ∈ lw_all := lw_g (lw_at lw_m1 40 rfl) rfl
theorem q126 : (Jvm.Cond.code ({ cls := "PulledFromUnder$Thing", name := "<init>", desc := "()V" } : Jvm.MethodName) prog_18_method_1_code (1 : Nat) (Option.none : Option Jvm.ClassFile.FieldType)) ∈ lw_all := lw_g (lw_at lw_m1 41 rfl) rfl
theorem q127 : (Jvm.Cond.methodLinkNest "PulledFromUnder$Thing" (1 : Nat) ({ cls := "PulledFromUnder$Kind", name := "<init>", desc := "()V" } : Jvm.MethodName) "PulledFromUnder") ∈ lw_tbl := lw_at lw_m1 42 rfl
theorem q131 : (Jvm.Cond.superclass "PulledFromUnder$Thing" "PulledFromUnder$Kind") ∈ lw_all := lw_g (lw_at lw_m1 46 rfl) rfl
theorem q604 : (Jvm.Cond.instanceMethod ({ cls := "PulledFromUnder$Thing", name := "grip", desc := "(I)I" } : Jvm.MethodName)) ∈ lw_all := lw_g (lw_at lw_m3 39 rfl) rfl
theorem q605 : (Jvm.Cond.code ({ cls := "PulledFromUnder$Thing", name := "grip", desc := "(I)I" } : Jvm.MethodName) prog_18_method_4_code (2 : Nat) (Option.some Jvm.ClassFile.FieldType.int)) ∈ lw_all := lw_g (lw_at lw_m3 40 rfl) rfl
theorem q614 : (Jvm.Cond.selects "PulledFromUnder$Thing" ({ cls := "PulledFromUnder$Kind", name := "grip", desc := "(I)I" } : Jvm.MethodName) ({ cls := "PulledFromUnder$Thing", name := "grip", desc := "(I)I" } : Jvm.MethodName)) ∈ lw_all := lw_g (lw_at lw_m3 49 rfl) rfl
theorem q656 : (Jvm.Cond.instanceMethod ({ cls := "PulledFromUnder$Thing", name := "habit", desc := "(IZ)I" } : Jvm.MethodName)) ∈ lw_all := lw_g (lw_at lw_m3 91 rfl) rfl
theorem q657 : (Jvm.Cond.code ({ cls := "PulledFromUnder$Thing", name := "habit", desc := "(IZ)I" } : Jvm.MethodName) prog_18_method_3_code (3 : Nat) (Option.some Jvm.ClassFile.FieldType.int)) ∈ lw_all := lw_g (lw_at lw_m3 92 rfl) rfl
theorem q670 : (Jvm.Cond.selects "PulledFromUnder$Thing" ({ cls := "PulledFromUnder$Kind", name := "habit", desc := "(IZ)I" } : Jvm.MethodName) ({ cls := "PulledFromUnder$Thing", name := "habit", desc := "(IZ)I" } : Jvm.MethodName)) ∈ lw_all := lw_g (lw_at lw_m3 105 rfl) rfl
theorem q723 : (Jvm.Cond.selects "PulledFromUnder$Thing" ({ cls := "PulledFromUnder$Kind", name := "kind", desc := "()I" } : Jvm.MethodName) ({ cls := "PulledFromUnder$Thing", name := "kind", desc := "()I" } : Jvm.MethodName)) ∈ lw_all := lw_g (lw_at lw_m3 158 rfl) rfl
theorem q724 : (Jvm.Cond.instanceMethod ({ cls := "PulledFromUnder$Thing", name := "kind", desc := "()I" } : Jvm.MethodName)) ∈ lw_all := lw_g (lw_at lw_m3 159 rfl) rfl
theorem q725 : (Jvm.Cond.code ({ cls := "PulledFromUnder$Thing", name := "kind", desc := "()I" } : Jvm.MethodName) prog_18_method_2_code (1 : Nat) (Option.some Jvm.ClassFile.FieldType.int)) ∈ lw_all := lw_g (lw_at lw_m3 160 rfl) rfl
theorem q925 : (Jvm.Cond.selects "PulledFromUnder$Thing" ({ cls := "PulledFromUnder$Kind", name := "isWatcher", desc := "()Z" } : Jvm.MethodName) ({ cls := "PulledFromUnder$Kind", name := "isWatcher", desc := "()Z" } : Jvm.MethodName)) ∈ lw_all := lw_g (lw_at lw_m4 120 rfl) rfl
theorem q1484 : (Jvm.Cond.sameMethod "PulledFromUnder$Thing" "PulledFromUnder$Thing" "grip" "(I)I") ∈ lw_all := lw_g (lw_at lw_m6 199 rfl) rfl
theorem q1486 : (Jvm.Cond.sameMethod "PulledFromUnder$Thing" "PulledFromUnder$Thing" "habit" "(IZ)I") ∈ lw_all := lw_g (lw_at lw_m6 201 rfl) rfl
theorem q1490 : (Jvm.Cond.castable "PulledFromUnder$Thing" "PulledFromUnder$Kind") ∈ lw_tbl := lw_at lw_m6 205 rfl
/-! PulledFromUnder$Glass -/
set_option maxRecDepth 100000
def RX3 : String := "PulledFromUnder$Glass"
abbrev cX3_init : ByteArray := prog_7_method_1_code
def yX3_init : MethodName := ⟨RX3, "<init>", "()V"⟩
theorem dX3_init_0 : decode cX3_init 0 = .ok (.aload_n 0, 1) := by decide +kernel
theorem dX3_init_1 : decode cX3_init 1 = .ok (.invokespecial 3, 3) := by decide +kernel
theorem dX3_init_4 : decode cX3_init 4 = .ok (.return_, 1) := by decide +kernel
abbrev cX3_grip : ByteArray := prog_7_method_4_code
def yX3_grip : MethodName := ⟨RX3, "grip", "(I)I"⟩
def dkwX3_grip_0 : List UInt8 := [16, 9, 42, 27, 183, 0, 19, 100, 172]
abbrev dktX3_grip_0 : List UInt8 := dkwX3_grip_0 ++ []
theorem dksX3_grip_0 : cX3_grip.data.toList.drop 0 = dktX3_grip_0 := by decide +kernel
theorem dX3_grip_0 : decode cX3_grip 0 = .ok (.bipush 9, 2) := dk_16 9 (dk_at dksX3_grip_0 0 rfl rfl)
theorem dX3_grip_2 : decode cX3_grip 2 = .ok (.aload_n 0, 1) := dk_42 (dk_at dksX3_grip_0 2 rfl rfl)
theorem dX3_grip_3 : decode cX3_grip 3 = .ok (.iload_n 1, 1) := dk_27 (dk_at dksX3_grip_0 3 rfl rfl)
theorem dX3_grip_4 : decode cX3_grip 4 = .ok (.invokespecial 19, 3) := dk_183 0 19 (dk_at dksX3_grip_0 4 rfl rfl)
theorem dX3_grip_7 : decode cX3_grip 7 = .ok (.isub, 1) := dk_100 (dk_at dksX3_grip_0 7 rfl rfl)
theorem dX3_grip_8 : decode cX3_grip 8 = .ok (.ireturn, 1) := dk_172 (dk_at dksX3_grip_0 8 rfl rfl)
abbrev cX3_habit : ByteArray := prog_7_method_3_code
def yX3_habit : MethodName := ⟨RX3, "habit", "(IZ)I"⟩
def dkwX3_habit_0 : List UInt8 := [3, 42, 27, 28, 183, 0, 9, 4, 100, 184, 0, 13, 172]
abbrev dktX3_habit_0 : List UInt8 := dkwX3_habit_0 ++ []
theorem dksX3_habit_0 : cX3_habit.data.toList.drop 0 = dktX3_habit_0 := by decide +kernel
theorem dX3_habit_0 : decode cX3_habit 0 = .ok (.iconst 0, 1) := dk_3 (dk_at dksX3_habit_0 0 rfl rfl)
theorem dX3_habit_1 : decode cX3_habit 1 = .ok (.aload_n 0, 1) := dk_42 (dk_at dksX3_habit_0 1 rfl rfl)
theorem dX3_habit_2 : decode cX3_habit 2 = .ok (.iload_n 1, 1) := dk_27 (dk_at dksX3_habit_0 2 rfl rfl)
theorem dX3_habit_3 : decode cX3_habit 3 = .ok (.iload_n 2, 1) := dk_28 (dk_at dksX3_habit_0 3 rfl rfl)
theorem dX3_habit_4 : decode cX3_habit 4 = .ok (.invokespecial 9, 3) := dk_183 0 9 (dk_at dksX3_habit_0 4 rfl rfl)
theorem dX3_habit_7 : decode cX3_habit 7 = .ok (.iconst 1, 1) := dk_4 (dk_at dksX3_habit_0 7 rfl rfl)
theorem dX3_habit_8 : decode cX3_habit 8 = .ok (.isub, 1) := dk_100 (dk_at dksX3_habit_0 8 rfl rfl)
theorem dX3_habit_9 : decode cX3_habit 9 = .ok (.invokestatic 13, 3) := dk_184 0 13 (dk_at dksX3_habit_0 9 rfl rfl)
theorem dX3_habit_12 : decode cX3_habit 12 = .ok (.ireturn, 1) := dk_172 (dk_at dksX3_habit_0 12 rfl rfl)
abbrev cX3_kind : ByteArray := prog_7_method_2_code
def yX3_kind : MethodName := ⟨RX3, "kind", "()I"⟩
theorem dX3_kind_0 : decode cX3_kind 0 = .ok (.iconst 1, 1) := by decide +kernel
theorem dX3_kind_1 : decode cX3_kind 1 = .ok (.ireturn, 1) := by decide +kernel
theorem q89 : (Jvm.Cond.initialized "PulledFromUnder$Glass") ∈ lw_all := lw_g (lw_at lw_m1 4 rfl) rfl
theorem q133 : (Jvm.Cond.instantiable "PulledFromUnder$Glass" (0 : Nat)) ∈ lw_all := lw_g (lw_at lw_m1 48 rfl) rfl
theorem q135 : (Jvm.Cond.instanceMethod ({ cls := "PulledFromUnder$Glass", name := "<init>", desc := "()V" } : Jvm.MethodName)) ∈ lw_all := lw_g (lw_at lw_m1 50 rfl) rfl
theorem q136 : (Jvm.Cond.code ({ cls := "PulledFromUnder$Glass", name := "<init>", desc := "()V" } : Jvm.MethodName) prog_7_method_1_code (1 : Nat) (Option.none : Option Jvm.ClassFile.FieldType)) ∈ lw_all := lw_g (lw_at lw_m1 51 rfl) rfl
theorem q137 : (Jvm.Cond.methodLinkNest "PulledFromUnder$Glass" (3 : Nat) ({ cls := "PulledFromUnder$Thing", name := "<init>", desc := "()V" } : Jvm.MethodName) "PulledFromUnder") ∈ lw_tbl := lw_at lw_m1 52 rfl
theorem q138 : (Jvm.Cond.superclass "PulledFromUnder$Glass" "PulledFromUnder$Thing") ∈ lw_all := lw_g (lw_at lw_m1 53 rfl) rfl
theorem q601 : (Jvm.Cond.instanceMethod ({ cls := "PulledFromUnder$Glass", name := "grip", desc := "(I)I" } : Jvm.MethodName)) ∈ lw_all := lw_g (lw_at lw_m3 36 rfl) rfl
theorem q602 : (Jvm.Cond.code ({ cls := "PulledFromUnder$Glass", name := "grip", desc := "(I)I" } : Jvm.MethodName) prog_7_method_4_code (2 : Nat) (Option.some Jvm.ClassFile.FieldType.int)) ∈ lw_all := lw_g (lw_at lw_m3 37 rfl) rfl
theorem q603 : (Jvm.Cond.methodLink "PulledFromUnder$Glass" (19 : Nat) ({ cls := "PulledFromUnder$Thing", name := "grip", desc := "(I)I" } : Jvm.MethodName)) ∈ lw_all := lw_g (lw_at lw_m3 38 rfl) rfl
theorem q609 : (Jvm.Cond.selects "PulledFromUnder$Glass" ({ cls := "PulledFromUnder$Kind", name := "grip", desc := "(I)I" } : Jvm.MethodName) ({ cls := "PulledFromUnder$Glass", name := "grip", desc := "(I)I" } : Jvm.MethodName)) ∈ lw_all := lw_g (lw_at lw_m3 44 rfl) rfl
theorem q653 : (Jvm.Cond.instanceMethod ({ cls := "PulledFromUnder$Glass", name := "habit", desc := "(IZ)I" } : Jvm.MethodName)) ∈ lw_all := lw_g (lw_at lw_m3 88 rfl) rfl
theorem q654 : (Jvm.Cond.code ({ cls := "PulledFromUnder$Glass", name := "habit", desc := "(IZ)I" } : Jvm.MethodName) prog_7_method_3_code (3 : Nat) (Option.some Jvm.ClassFile.FieldType.int)) ∈ lw_all := lw_g (lw_at lw_m3 89 rfl) rfl
theorem q655 : (Jvm.Cond.methodLink "PulledFromUnder$Glass" (9 : Nat) ({ cls := "PulledFromUnder$Thing", name := "habit", desc := "(IZ)I" } : Jvm.MethodName)) ∈ lw_all := lw_g (lw_at lw_m3 90 rfl) rfl
theorem q658 : (Jvm.Cond.methodLink "PulledFromUnder$Glass" (13 : Nat) ({ cls := "java/lang/Math", name := "max", desc := "(II)I" } : Jvm.MethodName)) ∈ lw_all := lw_g (lw_at lw_m3 93 rfl) rfl
theorem q668 : (Jvm.Cond.selects "PulledFromUnder$Glass" ({ cls := "PulledFromUnder$Kind", name := "habit", desc := "(IZ)I" } : Jvm.MethodName) ({ cls := "PulledFromUnder$Glass", name := "habit", desc := "(IZ)I" } : Jvm.MethodName)) ∈ lw_all := lw_g (lw_at lw_m3 103 rfl) rfl
theorem q717 : (Jvm.Cond.selects "PulledFromUnder$Glass" ({ cls := "PulledFromUnder$Kind", name := "kind", desc := "()I" } : Jvm.MethodName) ({ cls := "PulledFromUnder$Glass", name := "kind", desc := "()I" } : Jvm.MethodName)) ∈ lw_all := lw_g (lw_at lw_m3 152 rfl) rfl
theorem q718 : (Jvm.Cond.instanceMethod ({ cls := "PulledFromUnder$Glass", name := "kind", desc := "()I" } : Jvm.MethodName)) ∈ lw_all := lw_g (lw_at lw_m3 153 rfl) rfl
theorem q719 : (Jvm.Cond.code ({ cls := "PulledFromUnder$Glass", name := "kind", desc := "()I" } : Jvm.MethodName) prog_7_method_2_code (1 : Nat) (Option.some Jvm.ClassFile.FieldType.int)) ∈ lw_all := lw_g (lw_at lw_m3 154 rfl) rfl
theorem q923 : (Jvm.Cond.selects "PulledFromUnder$Glass" ({ cls := "PulledFromUnder$Kind", name := "isWatcher", desc := "()Z" } : Jvm.MethodName) ({ cls := "PulledFromUnder$Kind", name := "isWatcher", desc := "()Z" } : Jvm.MethodName)) ∈ lw_all := lw_g (lw_at lw_m4 118 rfl) rfl
theorem q1483 : (Jvm.Cond.sameMethod "PulledFromUnder$Glass" "PulledFromUnder$Glass" "grip" "(I)I") ∈ lw_all := lw_g (lw_at lw_m6 198 rfl) rfl
theorem q1485 : (Jvm.Cond.sameMethod "PulledFromUnder$Glass" "PulledFromUnder$Glass" "habit" "(IZ)I") ∈ lw_all := lw_g (lw_at lw_m6 200 rfl) rfl
theorem q1491 : (Jvm.Cond.castable "PulledFromUnder$Glass" "PulledFromUnder$Kind") ∈ lw_tbl := lw_at lw_m6 206 rfl
/-! PulledFromUnder$Person -/
set_option maxRecDepth 100000
def RX4 : String := "PulledFromUnder$Person"
abbrev cX4_init : ByteArray := prog_11_method_1_code
def yX4_init : MethodName := ⟨RX4, "<init>", "()V"⟩
theorem dX4_init_0 : decode cX4_init 0 = .ok (.aload_n 0, 1) := by decide +kernel
theorem dX4_init_1 : decode cX4_init 1 = .ok (.invokespecial 1, 3) := by decide +kernel
theorem dX4_init_4 : decode cX4_init 4 = .ok (.return_, 1) := by decide +kernel
abbrev cX4_grip : ByteArray := prog_11_method_4_code
def yX4_grip : MethodName := ⟨RX4, "grip", "(I)I"⟩
def dkwX4_grip_0 : List UInt8 := [42, 27, 183, 0, 11, 5, 108, 172]
abbrev dktX4_grip_0 : List UInt8 := dkwX4_grip_0 ++ []
theorem dksX4_grip_0 : cX4_grip.data.toList.drop 0 = dktX4_grip_0 := by decide +kernel
theorem dX4_grip_0 : decode cX4_grip 0 = .ok (.aload_n 0, 1) := dk_42 (dk_at dksX4_grip_0 0 rfl rfl)
theorem dX4_grip_1 : decode cX4_grip 1 = .ok (.iload_n 1, 1) := dk_27 (dk_at dksX4_grip_0 1 rfl rfl)
theorem dX4_grip_2 : decode cX4_grip 2 = .ok (.invokespecial 11, 3) := dk_183 0 11 (dk_at dksX4_grip_0 2 rfl rfl)
theorem dX4_grip_5 : decode cX4_grip 5 = .ok (.iconst 2, 1) := dk_5 (dk_at dksX4_grip_0 5 rfl rfl)
theorem dX4_grip_6 : decode cX4_grip 6 = .ok (.idiv, 1) := dk_108 (dk_at dksX4_grip_0 6 rfl rfl)
theorem dX4_grip_7 : decode cX4_grip 7 = .ok (.ireturn, 1) := dk_172 (dk_at dksX4_grip_0 7 rfl rfl)
abbrev cX4_habit : ByteArray := prog_11_method_3_code
def yX4_habit : MethodName := ⟨RX4, "habit", "(IZ)I"⟩
def dkwX4_habit_0 : List UInt8 := [42, 27, 28, 183, 0, 7, 27, 96, 172]
abbrev dktX4_habit_0 : List UInt8 := dkwX4_habit_0 ++ []
theorem dksX4_habit_0 : cX4_habit.data.toList.drop 0 = dktX4_habit_0 := by decide +kernel
theorem dX4_habit_0 : decode cX4_habit 0 = .ok (.aload_n 0, 1) := dk_42 (dk_at dksX4_habit_0 0 rfl rfl)
theorem dX4_habit_1 : decode cX4_habit 1 = .ok (.iload_n 1, 1) := dk_27 (dk_at dksX4_habit_0 1 rfl rfl)
theorem dX4_habit_2 : decode cX4_habit 2 = .ok (.iload_n 2, 1) := dk_28 (dk_at dksX4_habit_0 2 rfl rfl)
theorem dX4_habit_3 : decode cX4_habit 3 = .ok (.invokespecial 7, 3) := dk_183 0 7 (dk_at dksX4_habit_0 3 rfl rfl)
theorem dX4_habit_6 : decode cX4_habit 6 = .ok (.iload_n 1, 1) := dk_27 (dk_at dksX4_habit_0 6 rfl rfl)
theorem dX4_habit_7 : decode cX4_habit 7 = .ok (.iadd, 1) := dk_96 (dk_at dksX4_habit_0 7 rfl rfl)
theorem dX4_habit_8 : decode cX4_habit 8 = .ok (.ireturn, 1) := dk_172 (dk_at dksX4_habit_0 8 rfl rfl)
abbrev cX4_kind : ByteArray := prog_11_method_2_code
def yX4_kind : MethodName := ⟨RX4, "kind", "()I"⟩
theorem dX4_kind_0 : decode cX4_kind 0 = .ok (.iconst 2, 1) := by decide +kernel
theorem dX4_kind_1 : decode cX4_kind 1 = .ok (.ireturn, 1) := by decide +kernel
theorem q90 : (Jvm.Cond.initialized "PulledFromUnder$Person") ∈ lw_all := lw_g (lw_at lw_m1 5 rfl) rfl
theorem q140 : (Jvm.Cond.instantiable "PulledFromUnder$Person" (0 : Nat)) ∈ lw_all := lw_g (lw_at lw_m1 55 rfl) rfl
theorem q142 : (Jvm.Cond.instanceMethod ({ cls := "PulledFromUnder$Person", name := "<init>", desc := "()V" } : Jvm.MethodName)) ∈ lw_all := lw_g (lw_at lw_m1 57 rfl) rfl
theorem q143 : (Jvm.Cond.code ({ cls := "PulledFromUnder$Person", name := "<init>", desc := "()V" } : Jvm.MethodName) prog_11_method_1_code (1 : Nat) (Option.none : Option Jvm.ClassFile.FieldType)) ∈ lw_all := lw_g (lw_at lw_m1 58 rfl) rfl
theorem q144 : (Jvm.Cond.methodLinkNest "PulledFromUnder$Person" (1 : Nat) ({ cls := "PulledFromUnder$Thing", name := "<init>", desc := "()V" } : Jvm.MethodName) "PulledFromUnder") ∈ lw_tbl := lw_at lw_m1 59 rfl
theorem q145 : (Jvm.Cond.superclass "PulledFromUnder$Person" "PulledFromUnder$Thing") ∈ lw_all := lw_g (lw_at lw_m1 60 rfl) rfl
theorem q610 : (Jvm.Cond.selects "PulledFromUnder$Person" ({ cls := "PulledFromUnder$Kind", name := "grip", desc := "(I)I" } : Jvm.MethodName) ({ cls := "PulledFromUnder$Person", name := "grip", desc := "(I)I" } : Jvm.MethodName)) ∈ lw_all := lw_g (lw_at lw_m3 45 rfl) rfl
theorem q611 : (Jvm.Cond.instanceMethod ({ cls := "PulledFromUnder$Person", name := "grip", desc := "(I)I" } : Jvm.MethodName)) ∈ lw_all := lw_g (lw_at lw_m3 46 rfl) rfl
theorem q612 : (Jvm.Cond.code ({ cls := "PulledFromUnder$Person", name := "grip", desc := "(I)I" } : Jvm.MethodName) prog_11_method_4_code (2 : Nat) (Option.some Jvm.ClassFile.FieldType.int)) ∈ lw_all := lw_g (lw_at lw_m3 47 rfl) rfl
theorem q613 : (Jvm.Cond.methodLink "PulledFromUnder$Person" (11 : Nat) ({ cls := "PulledFromUnder$Thing", name := "grip", desc := "(I)I" } : Jvm.MethodName)) ∈ lw_all := lw_g (lw_at lw_m3 48 rfl) rfl
theorem q665 : (Jvm.Cond.instanceMethod ({ cls := "PulledFromUnder$Person", name := "habit", desc := "(IZ)I" } : Jvm.MethodName)) ∈ lw_all := lw_g (lw_at lw_m3 100 rfl) rfl
theorem q666 : (Jvm.Cond.code ({ cls := "PulledFromUnder$Person", name := "habit", desc := "(IZ)I" } : Jvm.MethodName) prog_11_method_3_code (3 : Nat) (Option.some Jvm.ClassFile.FieldType.int)) ∈ lw_all := lw_g (lw_at lw_m3 101 rfl) rfl
theorem q667 : (Jvm.Cond.methodLink "PulledFromUnder$Person" (7 : Nat) ({ cls := "PulledFromUnder$Thing", name := "habit", desc := "(IZ)I" } : Jvm.MethodName)) ∈ lw_all := lw_g (lw_at lw_m3 102 rfl) rfl
theorem q669 : (Jvm.Cond.selects "PulledFromUnder$Person" ({ cls := "PulledFromUnder$Kind", name := "habit", desc := "(IZ)I" } : Jvm.MethodName) ({ cls := "PulledFromUnder$Person", name := "habit", desc := "(IZ)I" } : Jvm.MethodName)) ∈ lw_all := lw_g (lw_at lw_m3 104 rfl) rfl
theorem q720 : (Jvm.Cond.selects "PulledFromUnder$Person" ({ cls := "PulledFromUnder$Kind", name := "kind", desc := "()I" } : Jvm.MethodName) ({ cls := "PulledFromUnder$Person", name := "kind", desc := "()I" } : Jvm.MethodName)) ∈ lw_all := lw_g (lw_at lw_m3 155 rfl) rfl
theorem q721 : (Jvm.Cond.instanceMethod ({ cls := "PulledFromUnder$Person", name := "kind", desc := "()I" } : Jvm.MethodName)) ∈ lw_all := lw_g (lw_at lw_m3 156 rfl) rfl
theorem q722 : (Jvm.Cond.code ({ cls := "PulledFromUnder$Person", name := "kind", desc := "()I" } : Jvm.MethodName) prog_11_method_2_code (1 : Nat) (Option.some Jvm.ClassFile.FieldType.int)) ∈ lw_all := lw_g (lw_at lw_m3 157 rfl) rfl
theorem q924 : (Jvm.Cond.selects "PulledFromUnder$Person" ({ cls := "PulledFromUnder$Kind", name := "isWatcher", desc := "()Z" } : Jvm.MethodName) ({ cls := "PulledFromUnder$Kind", name := "isWatcher", desc := "()Z" } : Jvm.MethodName)) ∈ lw_all := lw_g (lw_at lw_m4 119 rfl) rfl
theorem q930 : (Jvm.Cond.sameMethod "PulledFromUnder$Person" "PulledFromUnder$Kind" "isWatcher" "()Z") ∈ lw_all := lw_g (lw_at lw_m4 125 rfl) rfl
theorem q1487 : (Jvm.Cond.sameMethod "PulledFromUnder$Person" "PulledFromUnder$Person" "habit" "(IZ)I") ∈ lw_all := lw_g (lw_at lw_m6 202 rfl) rfl
theorem q1492 : (Jvm.Cond.castable "PulledFromUnder$Person" "PulledFromUnder$Kind") ∈ lw_tbl := lw_at lw_m6 207 rfl
/-! PulledFromUnder$Council -/
set_option maxRecDepth 100000
def RX5 : String := "PulledFromUnder$Council"
abbrev cX5_init : ByteArray := prog_3_method_1_code
def yX5_init : MethodName := ⟨RX5, "<init>", "()V"⟩
theorem dX5_init_0 : decode cX5_init 0 = .ok (.aload_n 0, 1) := by decide +kernel
theorem dX5_init_1 : decode cX5_init 1 = .ok (.invokespecial 1, 3) := by decide +kernel
theorem dX5_init_4 : decode cX5_init 4 = .ok (.return_, 1) := by decide +kernel
abbrev cX5_grip : ByteArray := prog_3_method_4_code
def yX5_grip : MethodName := ⟨RX5, "grip", "(I)I"⟩
theorem dX5_grip_0 : decode cX5_grip 0 = .ok (.iconst 0, 1) := by decide +kernel
theorem dX5_grip_1 : decode cX5_grip 1 = .ok (.ireturn, 1) := by decide +kernel
abbrev cX5_habit : ByteArray := prog_3_method_3_code
def yX5_habit : MethodName := ⟨RX5, "habit", "(IZ)I"⟩
def dkwX5_habit_0 : List UInt8 := [42, 27, 28, 183, 0, 7, 16, 20, 96, 172]
abbrev dktX5_habit_0 : List UInt8 := dkwX5_habit_0 ++ []
theorem dksX5_habit_0 : cX5_habit.data.toList.drop 0 = dktX5_habit_0 := by decide +kernel
theorem dX5_habit_0 : decode cX5_habit 0 = .ok (.aload_n 0, 1) := dk_42 (dk_at dksX5_habit_0 0 rfl rfl)
theorem dX5_habit_1 : decode cX5_habit 1 = .ok (.iload_n 1, 1) := dk_27 (dk_at dksX5_habit_0 1 rfl rfl)
theorem dX5_habit_2 : decode cX5_habit 2 = .ok (.iload_n 2, 1) := dk_28 (dk_at dksX5_habit_0 2 rfl rfl)
theorem dX5_habit_3 : decode cX5_habit 3 = .ok (.invokespecial 7, 3) := dk_183 0 7 (dk_at dksX5_habit_0 3 rfl rfl)
theorem dX5_habit_6 : decode cX5_habit 6 = .ok (.bipush 20, 2) := dk_16 20 (dk_at dksX5_habit_0 6 rfl rfl)
theorem dX5_habit_8 : decode cX5_habit 8 = .ok (.iadd, 1) := dk_96 (dk_at dksX5_habit_0 8 rfl rfl)
theorem dX5_habit_9 : decode cX5_habit 9 = .ok (.ireturn, 1) := dk_172 (dk_at dksX5_habit_0 9 rfl rfl)
abbrev cX5_kind : ByteArray := prog_3_method_2_code
def yX5_kind : MethodName := ⟨RX5, "kind", "()I"⟩
theorem dX5_kind_0 : decode cX5_kind 0 = .ok (.iconst 3, 1) := by decide +kernel
theorem dX5_kind_1 : decode cX5_kind 1 = .ok (.ireturn, 1) := by decide +kernel
theorem q91 : (Jvm.Cond.initialized "PulledFromUnder$Council") ∈ lw_all := lw_g (lw_at lw_m1 6 rfl) rfl
theorem q147 : (Jvm.Cond.instantiable "PulledFromUnder$Council" (0 : Nat)) ∈ lw_all := lw_g (lw_at lw_m1 62 rfl) rfl
theorem q149 : (Jvm.Cond.instanceMethod ({ cls := "PulledFromUnder$Council", name := "<init>", desc := "()V" } : Jvm.MethodName)) ∈ lw_all := lw_g (lw_at lw_m1 64 rfl) rfl
theorem q150 : (Jvm.Cond.code ({ cls := "PulledFromUnder$Council", name := "<init>", desc := "()V" } : Jvm.MethodName) prog_3_method_1_code (1 : Nat) (Option.none : Option Jvm.ClassFile.FieldType)) ∈ lw_all := lw_g (lw_at lw_m1 65 rfl) rfl
theorem q151 : (Jvm.Cond.methodLinkNest "PulledFromUnder$Council" (1 : Nat) ({ cls := "PulledFromUnder$Person", name := "<init>", desc := "()V" } : Jvm.MethodName) "PulledFromUnder") ∈ lw_tbl := lw_at lw_m1 66 rfl
theorem q152 : (Jvm.Cond.superclass "PulledFromUnder$Council" "PulledFromUnder$Person") ∈ lw_all := lw_g (lw_at lw_m1 67 rfl) rfl
theorem q606 : (Jvm.Cond.selects "PulledFromUnder$Council" ({ cls := "PulledFromUnder$Kind", name := "grip", desc := "(I)I" } : Jvm.MethodName) ({ cls := "PulledFromUnder$Council", name := "grip", desc := "(I)I" } : Jvm.MethodName)) ∈ lw_all := lw_g (lw_at lw_m3 41 rfl) rfl
theorem q607 : (Jvm.Cond.instanceMethod ({ cls := "PulledFromUnder$Council", name := "grip", desc := "(I)I" } : Jvm.MethodName)) ∈ lw_all := lw_g (lw_at lw_m3 42 rfl) rfl
theorem q608 : (Jvm.Cond.code ({ cls := "PulledFromUnder$Council", name := "grip", desc := "(I)I" } : Jvm.MethodName) prog_3_method_4_code (2 : Nat) (Option.some Jvm.ClassFile.FieldType.int)) ∈ lw_all := lw_g (lw_at lw_m3 43 rfl) rfl
theorem q661 : (Jvm.Cond.selects "PulledFromUnder$Council" ({ cls := "PulledFromUnder$Kind", name := "habit", desc := "(IZ)I" } : Jvm.MethodName) ({ cls := "PulledFromUnder$Council", name := "habit", desc := "(IZ)I" } : Jvm.MethodName)) ∈ lw_all := lw_g (lw_at lw_m3 96 rfl) rfl
theorem q662 : (Jvm.Cond.instanceMethod ({ cls := "PulledFromUnder$Council", name := "habit", desc := "(IZ)I" } : Jvm.MethodName)) ∈ lw_all := lw_g (lw_at lw_m3 97 rfl) rfl
theorem q663 : (Jvm.Cond.code ({ cls := "PulledFromUnder$Council", name := "habit", desc := "(IZ)I" } : Jvm.MethodName) prog_3_method_3_code (3 : Nat) (Option.some Jvm.ClassFile.FieldType.int)) ∈ lw_all := lw_g (lw_at lw_m3 98 rfl) rfl
theorem q664 : (Jvm.Cond.methodLink "PulledFromUnder$Council" (7 : Nat) ({ cls := "PulledFromUnder$Person", name := "habit", desc := "(IZ)I" } : Jvm.MethodName)) ∈ lw_all := lw_g (lw_at lw_m3 99 rfl) rfl
theorem q714 : (Jvm.Cond.selects "PulledFromUnder$Council" ({ cls := "PulledFromUnder$Kind", name := "kind", desc := "()I" } : Jvm.MethodName) ({ cls := "PulledFromUnder$Council", name := "kind", desc := "()I" } : Jvm.MethodName)) ∈ lw_all := lw_g (lw_at lw_m3 149 rfl) rfl
theorem q715 : (Jvm.Cond.instanceMethod ({ cls := "PulledFromUnder$Council", name := "kind", desc := "()I" } : Jvm.MethodName)) ∈ lw_all := lw_g (lw_at lw_m3 150 rfl) rfl
theorem q716 : (Jvm.Cond.code ({ cls := "PulledFromUnder$Council", name := "kind", desc := "()I" } : Jvm.MethodName) prog_3_method_2_code (1 : Nat) (Option.some Jvm.ClassFile.FieldType.int)) ∈ lw_all := lw_g (lw_at lw_m3 151 rfl) rfl
theorem q922 : (Jvm.Cond.selects "PulledFromUnder$Council" ({ cls := "PulledFromUnder$Kind", name := "isWatcher", desc := "()Z" } : Jvm.MethodName) ({ cls := "PulledFromUnder$Kind", name := "isWatcher", desc := "()Z" } : Jvm.MethodName)) ∈ lw_all := lw_g (lw_at lw_m4 117 rfl) rfl
theorem q1493 : (Jvm.Cond.castable "PulledFromUnder$Council" "PulledFromUnder$Kind") ∈ lw_tbl := lw_at lw_m6 208 rfl
/-! PulledFromUnder$Watcher -/
set_option maxRecDepth 100000
def RX6 : String := "PulledFromUnder$Watcher"
abbrev cX6_init : ByteArray := prog_20_method_1_code
def yX6_init : MethodName := ⟨RX6, "<init>", "()V"⟩
theorem dX6_init_0 : decode cX6_init 0 = .ok (.aload_n 0, 1) := by decide +kernel
theorem dX6_init_1 : decode cX6_init 1 = .ok (.invokespecial 1, 3) := by decide +kernel
theorem dX6_init_4 : decode cX6_init 4 = .ok (.return_, 1) := by decide +kernel
abbrev cX6_habit : ByteArray := prog_20_method_3_code
def yX6_habit : MethodName := ⟨RX6, "habit", "(IZ)I"⟩
def dkwX6_habit_0 : List UInt8 := [28, 153, 0, 7, 3, 167, 0, 9, 42, 27, 28, 183, 0, 7, 172]
abbrev dktX6_habit_0 : List UInt8 := dkwX6_habit_0 ++ []
theorem dksX6_habit_0 : cX6_habit.data.toList.drop 0 = dktX6_habit_0 := by decide +kernel
theorem dX6_habit_0 : decode cX6_habit 0 = .ok (.iload_n 2, 1) := dk_28 (dk_at dksX6_habit_0 0 rfl rfl)
theorem dX6_habit_1 : decode cX6_habit 1 = .ok (.ifCond .eq 7, 3) := dk_153 0 7 (dk_at dksX6_habit_0 1 rfl rfl)
theorem dX6_habit_4 : decode cX6_habit 4 = .ok (.iconst 0, 1) := dk_3 (dk_at dksX6_habit_0 4 rfl rfl)
theorem dX6_habit_5 : decode cX6_habit 5 = .ok (.goto 9, 3) := dk_167 0 9 (dk_at dksX6_habit_0 5 rfl rfl)
theorem dX6_habit_8 : decode cX6_habit 8 = .ok (.aload_n 0, 1) := dk_42 (dk_at dksX6_habit_0 8 rfl rfl)
theorem dX6_habit_9 : decode cX6_habit 9 = .ok (.iload_n 1, 1) := dk_27 (dk_at dksX6_habit_0 9 rfl rfl)
theorem dX6_habit_10 : decode cX6_habit 10 = .ok (.iload_n 2, 1) := dk_28 (dk_at dksX6_habit_0 10 rfl rfl)
theorem dX6_habit_11 : decode cX6_habit 11 = .ok (.invokespecial 7, 3) := dk_183 0 7 (dk_at dksX6_habit_0 11 rfl rfl)
theorem dX6_habit_14 : decode cX6_habit 14 = .ok (.ireturn, 1) := dk_172 (dk_at dksX6_habit_0 14 rfl rfl)
abbrev cX6_kind : ByteArray := prog_20_method_2_code
def yX6_kind : MethodName := ⟨RX6, "kind", "()I"⟩
theorem dX6_kind_0 : decode cX6_kind 0 = .ok (.iconst 4, 1) := by decide +kernel
theorem dX6_kind_1 : decode cX6_kind 1 = .ok (.ireturn, 1) := by decide +kernel
abbrev cX6_isWatcher : ByteArray := prog_20_method_4_code
def yX6_isWatcher : MethodName := ⟨RX6, "isWatcher", "()Z"⟩
def dkwX6_isWatcher_0 : List UInt8 := [42, 183, 0, 11, 154, 0, 7, 4, 167, 0, 4, 3, 172]
abbrev dktX6_isWatcher_0 : List UInt8 := dkwX6_isWatcher_0 ++ []
theorem dksX6_isWatcher_0 : cX6_isWatcher.data.toList.drop 0 = dktX6_isWatcher_0 := by decide +kernel
theorem dX6_isWatcher_0 : decode cX6_isWatcher 0 = .ok (.aload_n 0, 1) := dk_42 (dk_at dksX6_isWatcher_0 0 rfl rfl)
theorem dX6_isWatcher_1 : decode cX6_isWatcher 1 = .ok (.invokespecial 11, 3) := dk_183 0 11 (dk_at dksX6_isWatcher_0 1 rfl rfl)
theorem dX6_isWatcher_4 : decode cX6_isWatcher 4 = .ok (.ifCond .ne 7, 3) := dk_154 0 7 (dk_at dksX6_isWatcher_0 4 rfl rfl)
theorem dX6_isWatcher_7 : decode cX6_isWatcher 7 = .ok (.iconst 1, 1) := dk_4 (dk_at dksX6_isWatcher_0 7 rfl rfl)
theorem dX6_isWatcher_8 : decode cX6_isWatcher 8 = .ok (.goto 4, 3) := dk_167 0 4 (dk_at dksX6_isWatcher_0 8 rfl rfl)
theorem dX6_isWatcher_11 : decode cX6_isWatcher 11 = .ok (.iconst 0, 1) := dk_3 (dk_at dksX6_isWatcher_0 11 rfl rfl)
theorem dX6_isWatcher_12 : decode cX6_isWatcher 12 = .ok (.ireturn, 1) := dk_172 (dk_at dksX6_isWatcher_0 12 rfl rfl)
theorem q92 : (Jvm.Cond.initialized "PulledFromUnder$Watcher") ∈ lw_all := lw_g (lw_at lw_m1 7 rfl) rfl
theorem q154 : (Jvm.Cond.instantiable "PulledFromUnder$Watcher" (0 : Nat)) ∈ lw_all := lw_g (lw_at lw_m1 69 rfl) rfl
theorem q156 : (Jvm.Cond.instanceMethod ({ cls := "PulledFromUnder$Watcher", name := "<init>", desc := "()V" } : Jvm.MethodName)) ∈ lw_all := lw_g (lw_at lw_m1 71 rfl) rfl
theorem q157 : (Jvm.Cond.code ({ cls := "PulledFromUnder$Watcher", name := "<init>", desc := "()V" } : Jvm.MethodName) prog_20_method_1_code (1 : Nat) (Option.none : Option Jvm.ClassFile.FieldType)) ∈ lw_all := lw_g (lw_at lw_m1 72 rfl) rfl
theorem q158 : (Jvm.Cond.methodLinkNest "PulledFromUnder$Watcher" (1 : Nat) ({ cls := "PulledFromUnder$Person", name := "<init>", desc := "()V" } : Jvm.MethodName) "PulledFromUnder") ∈ lw_tbl := lw_at lw_m1 73 rfl
theorem q159 : (Jvm.Cond.superclass "PulledFromUnder$Watcher" "PulledFromUnder$Person") ∈ lw_all := lw_g (lw_at lw_m1 74 rfl) rfl
theorem q615 : (Jvm.Cond.selects "PulledFromUnder$Watcher" ({ cls := "PulledFromUnder$Kind", name := "grip", desc := "(I)I" } : Jvm.MethodName) ({ cls := "PulledFromUnder$Person", name := "grip", desc := "(I)I" } : Jvm.MethodName)) ∈ lw_all := lw_g (lw_at lw_m3 50 rfl) rfl
theorem q671 : (Jvm.Cond.selects "PulledFromUnder$Watcher" ({ cls := "PulledFromUnder$Kind", name := "habit", desc := "(IZ)I" } : Jvm.MethodName) ({ cls := "PulledFromUnder$Watcher", name := "habit", desc := "(IZ)I" } : Jvm.MethodName)) ∈ lw_all := lw_g (lw_at lw_m3 106 rfl) rfl
theorem q672 : (Jvm.Cond.instanceMethod ({ cls := "PulledFromUnder$Watcher", name := "habit", desc := "(IZ)I" } : Jvm.MethodName)) ∈ lw_all := lw_g (lw_at lw_m3 107 rfl) rfl
theorem q673 : (Jvm.Cond.code ({ cls := "PulledFromUnder$Watcher", name := "habit", desc := "(IZ)I" } : Jvm.MethodName) prog_20_method_3_code (3 : Nat) (Option.some Jvm.ClassFile.FieldType.int)) ∈ lw_all := lw_g (lw_at lw_m3 108 rfl) rfl
theorem q674 : (Jvm.Cond.methodLink "PulledFromUnder$Watcher" (7 : Nat) ({ cls := "PulledFromUnder$Person", name := "habit", desc := "(IZ)I" } : Jvm.MethodName)) ∈ lw_all := lw_g (lw_at lw_m3 109 rfl) rfl
theorem q726 : (Jvm.Cond.selects "PulledFromUnder$Watcher" ({ cls := "PulledFromUnder$Kind", name := "kind", desc := "()I" } : Jvm.MethodName) ({ cls := "PulledFromUnder$Watcher", name := "kind", desc := "()I" } : Jvm.MethodName)) ∈ lw_all := lw_g (lw_at lw_m3 161 rfl) rfl
theorem q727 : (Jvm.Cond.instanceMethod ({ cls := "PulledFromUnder$Watcher", name := "kind", desc := "()I" } : Jvm.MethodName)) ∈ lw_all := lw_g (lw_at lw_m3 162 rfl) rfl
theorem q728 : (Jvm.Cond.code ({ cls := "PulledFromUnder$Watcher", name := "kind", desc := "()I" } : Jvm.MethodName) prog_20_method_2_code (1 : Nat) (Option.some Jvm.ClassFile.FieldType.int)) ∈ lw_all := lw_g (lw_at lw_m3 163 rfl) rfl
theorem q926 : (Jvm.Cond.selects "PulledFromUnder$Watcher" ({ cls := "PulledFromUnder$Kind", name := "isWatcher", desc := "()Z" } : Jvm.MethodName) ({ cls := "PulledFromUnder$Watcher", name := "isWatcher", desc := "()Z" } : Jvm.MethodName)) ∈ lw_all := lw_g (lw_at lw_m4 121 rfl) rfl
theorem q927 : (Jvm.Cond.instanceMethod ({ cls := "PulledFromUnder$Watcher", name := "isWatcher", desc := "()Z" } : Jvm.MethodName)) ∈ lw_all := lw_g (lw_at lw_m4 122 rfl) rfl
theorem q928 : (Jvm.Cond.code ({ cls := "PulledFromUnder$Watcher", name := "isWatcher", desc := "()Z" } : Jvm.MethodName) prog_20_method_4_code (1 : Nat) (Option.some Jvm.ClassFile.FieldType.boolean)) ∈ lw_all := lw_g (lw_at lw_m4 123 rfl) rfl
theorem q929 : (Jvm.Cond.methodLink "PulledFromUnder$Watcher" (11 : Nat) ({ cls := "PulledFromUnder$Person", name := "isWatcher", desc := "()Z" } : Jvm.MethodName)) ∈ lw_all := lw_g (lw_at lw_m4 124 rfl) rfl
theorem q1494 : (Jvm.Cond.castable "PulledFromUnder$Watcher" "PulledFromUnder$Kind") ∈ lw_tbl := lw_at lw_m6 209 rfl
/-! PulledFromUnder$Bride -/
set_option maxRecDepth 100000
def RX7 : String := "PulledFromUnder$Bride"
abbrev cX7_init : ByteArray := prog_2_method_1_code
def yX7_init : MethodName := ⟨RX7, "<init>", "()V"⟩
theorem dX7_init_0 : decode cX7_init 0 = .ok (.aload_n 0, 1) := by decide +kernel
theorem dX7_init_1 : decode cX7_init 1 = .ok (.invokespecial 1, 3) := by decide +kernel
theorem dX7_init_4 : decode cX7_init 4 = .ok (.return_, 1) := by decide +kernel
abbrev cX7_grip : ByteArray := prog_2_method_4_code
def yX7_grip : MethodName := ⟨RX7, "grip", "(I)I"⟩
def dkwX7_grip_0 : List UInt8 := [42, 27, 183, 0, 11, 4, 96, 172]
abbrev dktX7_grip_0 : List UInt8 := dkwX7_grip_0 ++ []
theorem dksX7_grip_0 : cX7_grip.data.toList.drop 0 = dktX7_grip_0 := by decide +kernel
theorem dX7_grip_0 : decode cX7_grip 0 = .ok (.aload_n 0, 1) := dk_42 (dk_at dksX7_grip_0 0 rfl rfl)
theorem dX7_grip_1 : decode cX7_grip 1 = .ok (.iload_n 1, 1) := dk_27 (dk_at dksX7_grip_0 1 rfl rfl)
theorem dX7_grip_2 : decode cX7_grip 2 = .ok (.invokespecial 11, 3) := dk_183 0 11 (dk_at dksX7_grip_0 2 rfl rfl)
theorem dX7_grip_5 : decode cX7_grip 5 = .ok (.iconst 1, 1) := dk_4 (dk_at dksX7_grip_0 5 rfl rfl)
theorem dX7_grip_6 : decode cX7_grip 6 = .ok (.iadd, 1) := dk_96 (dk_at dksX7_grip_0 6 rfl rfl)
theorem dX7_grip_7 : decode cX7_grip 7 = .ok (.ireturn, 1) := dk_172 (dk_at dksX7_grip_0 7 rfl rfl)
abbrev cX7_habit : ByteArray := prog_2_method_3_code
def yX7_habit : MethodName := ⟨RX7, "habit", "(IZ)I"⟩
def dkwX7_habit_0 : List UInt8 := [42, 27, 28, 183, 0, 7, 5, 96, 172]
abbrev dktX7_habit_0 : List UInt8 := dkwX7_habit_0 ++ []
theorem dksX7_habit_0 : cX7_habit.data.toList.drop 0 = dktX7_habit_0 := by decide +kernel
theorem dX7_habit_0 : decode cX7_habit 0 = .ok (.aload_n 0, 1) := dk_42 (dk_at dksX7_habit_0 0 rfl rfl)
theorem dX7_habit_1 : decode cX7_habit 1 = .ok (.iload_n 1, 1) := dk_27 (dk_at dksX7_habit_0 1 rfl rfl)
theorem dX7_habit_2 : decode cX7_habit 2 = .ok (.iload_n 2, 1) := dk_28 (dk_at dksX7_habit_0 2 rfl rfl)
theorem dX7_habit_3 : decode cX7_habit 3 = .ok (.invokespecial 7, 3) := dk_183 0 7 (dk_at dksX7_habit_0 3 rfl rfl)
theorem dX7_habit_6 : decode cX7_habit 6 = .ok (.iconst 2, 1) := dk_5 (dk_at dksX7_habit_0 6 rfl rfl)
theorem dX7_habit_7 : decode cX7_habit 7 = .ok (.iadd, 1) := dk_96 (dk_at dksX7_habit_0 7 rfl rfl)
theorem dX7_habit_8 : decode cX7_habit 8 = .ok (.ireturn, 1) := dk_172 (dk_at dksX7_habit_0 8 rfl rfl)
abbrev cX7_kind : ByteArray := prog_2_method_2_code
def yX7_kind : MethodName := ⟨RX7, "kind", "()I"⟩
theorem dX7_kind_0 : decode cX7_kind 0 = .ok (.iconst 5, 1) := by decide +kernel
theorem dX7_kind_1 : decode cX7_kind 1 = .ok (.ireturn, 1) := by decide +kernel
theorem q93 : (Jvm.Cond.initialized "PulledFromUnder$Bride") ∈ lw_all := lw_g (lw_at lw_m1 8 rfl) rfl
theorem q161 : (Jvm.Cond.instantiable "PulledFromUnder$Bride" (0 : Nat)) ∈ lw_all := lw_g (lw_at lw_m1 76 rfl) rfl
theorem q163 : (Jvm.Cond.instanceMethod ({ cls := "PulledFromUnder$Bride", name := "<init>", desc := "()V" } : Jvm.MethodName)) ∈ lw_all := lw_g (lw_at lw_m1 78 rfl) rfl
theorem q164 : (Jvm.Cond.code ({ cls := "PulledFromUnder$Bride", name := "<init>", desc := "()V" } : Jvm.MethodName) prog_2_method_1_code (1 : Nat) (Option.none : Option Jvm.ClassFile.FieldType)) ∈ lw_all := lw_g (lw_at lw_m1 79 rfl) rfl
theorem q165 : (Jvm.Cond.methodLinkNest "PulledFromUnder$Bride" (1 : Nat) ({ cls := "PulledFromUnder$Glass", name := "<init>", desc := "()V" } : Jvm.MethodName) "PulledFromUnder") ∈ lw_tbl := lw_at lw_m1 80 rfl
theorem q166 : (Jvm.Cond.superclass "PulledFromUnder$Bride" "PulledFromUnder$Glass") ∈ lw_all := lw_g (lw_at lw_m1 81 rfl) rfl
theorem q597 : (Jvm.Cond.selects "PulledFromUnder$Bride" ({ cls := "PulledFromUnder$Kind", name := "grip", desc := "(I)I" } : Jvm.MethodName) ({ cls := "PulledFromUnder$Bride", name := "grip", desc := "(I)I" } : Jvm.MethodName)) ∈ lw_all := lw_g (lw_at lw_m3 32 rfl) rfl
theorem q598 : (Jvm.Cond.instanceMethod ({ cls := "PulledFromUnder$Bride", name := "grip", desc := "(I)I" } : Jvm.MethodName)) ∈ lw_all := lw_g (lw_at lw_m3 33 rfl) rfl
theorem q599 : (Jvm.Cond.code ({ cls := "PulledFromUnder$Bride", name := "grip", desc := "(I)I" } : Jvm.MethodName) prog_2_method_4_code (2 : Nat) (Option.some Jvm.ClassFile.FieldType.int)) ∈ lw_all := lw_g (lw_at lw_m3 34 rfl) rfl
theorem q600 : (Jvm.Cond.methodLink "PulledFromUnder$Bride" (11 : Nat) ({ cls := "PulledFromUnder$Glass", name := "grip", desc := "(I)I" } : Jvm.MethodName)) ∈ lw_all := lw_g (lw_at lw_m3 35 rfl) rfl
theorem q649 : (Jvm.Cond.selects "PulledFromUnder$Bride" ({ cls := "PulledFromUnder$Kind", name := "habit", desc := "(IZ)I" } : Jvm.MethodName) ({ cls := "PulledFromUnder$Bride", name := "habit", desc := "(IZ)I" } : Jvm.MethodName)) ∈ lw_all := lw_g (lw_at lw_m3 84 rfl) rfl
theorem q650 : (Jvm.Cond.instanceMethod ({ cls := "PulledFromUnder$Bride", name := "habit", desc := "(IZ)I" } : Jvm.MethodName)) ∈ lw_all := lw_g (lw_at lw_m3 85 rfl) rfl
theorem q651 : (Jvm.Cond.code ({ cls := "PulledFromUnder$Bride", name := "habit", desc := "(IZ)I" } : Jvm.MethodName) prog_2_method_3_code (3 : Nat) (Option.some Jvm.ClassFile.FieldType.int)) ∈ lw_all := lw_g (lw_at lw_m3 86 rfl) rfl
theorem q652 : (Jvm.Cond.methodLink "PulledFromUnder$Bride" (7 : Nat) ({ cls := "PulledFromUnder$Glass", name := "habit", desc := "(IZ)I" } : Jvm.MethodName)) ∈ lw_all := lw_g (lw_at lw_m3 87 rfl) rfl
theorem q711 : (Jvm.Cond.selects "PulledFromUnder$Bride" ({ cls := "PulledFromUnder$Kind", name := "kind", desc := "()I" } : Jvm.MethodName) ({ cls := "PulledFromUnder$Bride", name := "kind", desc := "()I" } : Jvm.MethodName)) ∈ lw_all := lw_g (lw_at lw_m3 146 rfl) rfl
theorem q712 : (Jvm.Cond.instanceMethod ({ cls := "PulledFromUnder$Bride", name := "kind", desc := "()I" } : Jvm.MethodName)) ∈ lw_all := lw_g (lw_at lw_m3 147 rfl) rfl
theorem q713 : (Jvm.Cond.code ({ cls := "PulledFromUnder$Bride", name := "kind", desc := "()I" } : Jvm.MethodName) prog_2_method_2_code (1 : Nat) (Option.some Jvm.ClassFile.FieldType.int)) ∈ lw_all := lw_g (lw_at lw_m3 148 rfl) rfl
theorem q921 : (Jvm.Cond.selects "PulledFromUnder$Bride" ({ cls := "PulledFromUnder$Kind", name := "isWatcher", desc := "()Z" } : Jvm.MethodName) ({ cls := "PulledFromUnder$Kind", name := "isWatcher", desc := "()Z" } : Jvm.MethodName)) ∈ lw_all := lw_g (lw_at lw_m4 116 rfl) rfl
theorem q1495 : (Jvm.Cond.castable "PulledFromUnder$Bride" "PulledFromUnder$Kind") ∈ lw_tbl := lw_at lw_m6 210 rfl
/-! PulledFromUnder$Room -/
set_option maxRecDepth 100000
def RX8 : String := "PulledFromUnder$Room"
def TX8 : u_T := fun k => match k with
  | 0 => ("PulledFromUnder$Room", "things", "I", false)
  | 1 => ("PulledFromUnder$Room", "kind", "[LPulledFromUnder$Kind;", true)
  | 2 => ("PulledFromUnder$Room", "figures", "[I", true)
  | 3 => ("PulledFromUnder$Room", "on", "[I", true)
  | 4 => ("PulledFromUnder$Room", "state", "[I", true)
  | 5 => ("PulledFromUnder$Room", "air", "[I", true)
  | 6 => ("PulledFromUnder$Room", "isFloor", "Z", false)
  | 7 => ("PulledFromUnder$Room", "minute", "I", false)
  | _ => ("PulledFromUnder$Room", "props", "I", false)
def tyX8 : Nat → FieldType := fun k => match k with
  | 0 => .int
  | 1 => .array (.object "PulledFromUnder$Kind")
  | 2 => .array .int
  | 3 => .array .int
  | 4 => .array .int
  | 5 => .array .int
  | 6 => .boolean
  | 7 => .int
  | _ => .int
abbrev wsX80 : List Cond := u_ws RX8 TX8 9
theorem nmX8 : ∀ a, a < 9 → ∀ b, b < 9 → a ≠ b → (TX8 a).2.1 ≠ (TX8 b).2.1 := by decide +kernel
theorem tyX8_ok : ∀ k, k < 9 → parseFieldDescriptor (TX8 k).2.2.1 = some (tyX8 k) := by decide +kernel
abbrev cX8_init : ByteArray := prog_16_method_1_code
def yX8_init : MethodName := ⟨RX8, "<init>", "()V"⟩
def dkwX8_init_2 : List UInt8 := [181, 0, 30, 177]
abbrev dktX8_init_2 : List UInt8 := dkwX8_init_2 ++ []
def dkwX8_init_1 : List UInt8 := [188, 10, 181, 0, 21, 42, 16, 10, 188, 10, 181, 0, 24, 42, 16, 10, 188, 10, 181, 0, 27, 42, 4]
abbrev dktX8_init_1 : List UInt8 := dkwX8_init_1 ++ dktX8_init_2
def dkwX8_init_0 : List UInt8 := [42, 183, 0, 3, 42, 16, 10, 189, 0, 9, 181, 0, 11, 42, 16, 10, 188, 10, 181, 0, 17, 42, 16, 10]
abbrev dktX8_init_0 : List UInt8 := dkwX8_init_0 ++ dktX8_init_1
theorem dksX8_init_0 : cX8_init.data.toList.drop 0 = dktX8_init_0 := by decide +kernel
theorem dksX8_init_1 : cX8_init.data.toList.drop 24 = dktX8_init_1 := dk_seg dksX8_init_0 24 rfl rfl
theorem dksX8_init_2 : cX8_init.data.toList.drop 47 = dktX8_init_2 := dk_seg dksX8_init_1 23 rfl rfl
theorem dX8_init_0 : decode cX8_init 0 = .ok (.aload_n 0, 1) := dk_42 (dk_at dksX8_init_0 0 rfl rfl)
theorem dX8_init_1 : decode cX8_init 1 = .ok (.invokespecial 3, 3) := dk_183 0 3 (dk_at dksX8_init_0 1 rfl rfl)
theorem dX8_init_4 : decode cX8_init 4 = .ok (.aload_n 0, 1) := dk_42 (dk_at dksX8_init_0 4 rfl rfl)
theorem dX8_init_5 : decode cX8_init 5 = .ok (.bipush 10, 2) := dk_16 10 (dk_at dksX8_init_0 5 rfl rfl)
theorem dX8_init_7 : decode cX8_init 7 = .ok (.anewarray 9, 3) := dk_189 0 9 (dk_at dksX8_init_0 7 rfl rfl)
theorem dX8_init_10 : decode cX8_init 10 = .ok (.putfield 11, 3) := dk_181 0 11 (dk_at dksX8_init_0 10 rfl rfl)
theorem dX8_init_13 : decode cX8_init 13 = .ok (.aload_n 0, 1) := dk_42 (dk_at dksX8_init_0 13 rfl rfl)
theorem dX8_init_14 : decode cX8_init 14 = .ok (.bipush 10, 2) := dk_16 10 (dk_at dksX8_init_0 14 rfl rfl)
theorem dX8_init_16 : decode cX8_init 16 = .ok (.newarray .int, 2) := dk_188_10 (dk_at dksX8_init_0 16 rfl rfl)
theorem dX8_init_18 : decode cX8_init 18 = .ok (.putfield 17, 3) := dk_181 0 17 (dk_at dksX8_init_0 18 rfl rfl)
theorem dX8_init_21 : decode cX8_init 21 = .ok (.aload_n 0, 1) := dk_42 (dk_at dksX8_init_0 21 rfl rfl)
theorem dX8_init_22 : decode cX8_init 22 = .ok (.bipush 10, 2) := dk_16 10 (dk_at dksX8_init_0 22 rfl rfl)
theorem dX8_init_24 : decode cX8_init 24 = .ok (.newarray .int, 2) := dk_188_10 (dk_at dksX8_init_1 0 rfl rfl)
theorem dX8_init_26 : decode cX8_init 26 = .ok (.putfield 21, 3) := dk_181 0 21 (dk_at dksX8_init_1 2 rfl rfl)
theorem dX8_init_29 : decode cX8_init 29 = .ok (.aload_n 0, 1) := dk_42 (dk_at dksX8_init_1 5 rfl rfl)
theorem dX8_init_30 : decode cX8_init 30 = .ok (.bipush 10, 2) := dk_16 10 (dk_at dksX8_init_1 6 rfl rfl)
theorem dX8_init_32 : decode cX8_init 32 = .ok (.newarray .int, 2) := dk_188_10 (dk_at dksX8_init_1 8 rfl rfl)
theorem dX8_init_34 : decode cX8_init 34 = .ok (.putfield 24, 3) := dk_181 0 24 (dk_at dksX8_init_1 10 rfl rfl)
theorem dX8_init_37 : decode cX8_init 37 = .ok (.aload_n 0, 1) := dk_42 (dk_at dksX8_init_1 13 rfl rfl)
theorem dX8_init_38 : decode cX8_init 38 = .ok (.bipush 10, 2) := dk_16 10 (dk_at dksX8_init_1 14 rfl rfl)
theorem dX8_init_40 : decode cX8_init 40 = .ok (.newarray .int, 2) := dk_188_10 (dk_at dksX8_init_1 16 rfl rfl)
theorem dX8_init_42 : decode cX8_init 42 = .ok (.putfield 27, 3) := dk_181 0 27 (dk_at dksX8_init_1 18 rfl rfl)
theorem dX8_init_45 : decode cX8_init 45 = .ok (.aload_n 0, 1) := dk_42 (dk_at dksX8_init_1 21 rfl rfl)
theorem dX8_init_46 : decode cX8_init 46 = .ok (.iconst 1, 1) := dk_4 (dk_at dksX8_init_1 22 rfl rfl)
theorem dX8_init_47 : decode cX8_init 47 = .ok (.putfield 30, 3) := dk_181 0 30 (dk_at dksX8_init_2 0 rfl rfl)
theorem dX8_init_50 : decode cX8_init 50 = .ok (.return_, 1) := dk_177 (dk_at dksX8_init_2 3 rfl rfl)
abbrev cX8_set : ByteArray := prog_16_method_2_code
def yX8_set : MethodName := ⟨RX8, "set", "(LPulledFromUnder$Room;)LPulledFromUnder$Room;"⟩
def dkwX8_set_4 : List UInt8 := [180, 0, 27, 3, 16, 10, 184, 0, 44, 42, 176]
abbrev dktX8_set_4 : List UInt8 := dkwX8_set_4 ++ []
def dkwX8_set_3 : List UInt8 := [184, 0, 44, 43, 180, 0, 24, 3, 42, 180, 0, 24, 3, 16, 10, 184, 0, 44, 43, 180, 0, 27, 3, 42]
abbrev dktX8_set_3 : List UInt8 := dkwX8_set_3 ++ dktX8_set_4
def dkwX8_set_2 : List UInt8 := [3, 42, 180, 0, 17, 3, 16, 10, 184, 0, 44, 43, 180, 0, 21, 3, 42, 180, 0, 21, 3, 16, 10]
abbrev dktX8_set_2 : List UInt8 := dkwX8_set_2 ++ dktX8_set_3
def dkwX8_set_1 : List UInt8 := [42, 3, 181, 0, 41, 43, 180, 0, 11, 3, 42, 180, 0, 11, 3, 16, 10, 184, 0, 44, 43, 180, 0, 17]
abbrev dktX8_set_1 : List UInt8 := dkwX8_set_1 ++ dktX8_set_2
def dkwX8_set_0 : List UInt8 := [42, 43, 180, 0, 34, 181, 0, 34, 42, 43, 180, 0, 30, 181, 0, 30, 42, 43, 180, 0, 38, 181, 0, 38]
abbrev dktX8_set_0 : List UInt8 := dkwX8_set_0 ++ dktX8_set_1
theorem dksX8_set_0 : cX8_set.data.toList.drop 0 = dktX8_set_0 := by decide +kernel
theorem dksX8_set_1 : cX8_set.data.toList.drop 24 = dktX8_set_1 := dk_seg dksX8_set_0 24 rfl rfl
theorem dksX8_set_2 : cX8_set.data.toList.drop 48 = dktX8_set_2 := dk_seg dksX8_set_1 24 rfl rfl
theorem dksX8_set_3 : cX8_set.data.toList.drop 71 = dktX8_set_3 := dk_seg dksX8_set_2 23 rfl rfl
theorem dksX8_set_4 : cX8_set.data.toList.drop 95 = dktX8_set_4 := dk_seg dksX8_set_3 24 rfl rfl
theorem dX8_set_0 : decode cX8_set 0 = .ok (.aload_n 0, 1) := dk_42 (dk_at dksX8_set_0 0 rfl rfl)
theorem dX8_set_1 : decode cX8_set 1 = .ok (.aload_n 1, 1) := dk_43 (dk_at dksX8_set_0 1 rfl rfl)
theorem dX8_set_2 : decode cX8_set 2 = .ok (.getfield 34, 3) := dk_180 0 34 (dk_at dksX8_set_0 2 rfl rfl)
theorem dX8_set_5 : decode cX8_set 5 = .ok (.putfield 34, 3) := dk_181 0 34 (dk_at dksX8_set_0 5 rfl rfl)
theorem dX8_set_8 : decode cX8_set 8 = .ok (.aload_n 0, 1) := dk_42 (dk_at dksX8_set_0 8 rfl rfl)
theorem dX8_set_9 : decode cX8_set 9 = .ok (.aload_n 1, 1) := dk_43 (dk_at dksX8_set_0 9 rfl rfl)
theorem dX8_set_10 : decode cX8_set 10 = .ok (.getfield 30, 3) := dk_180 0 30 (dk_at dksX8_set_0 10 rfl rfl)
theorem dX8_set_13 : decode cX8_set 13 = .ok (.putfield 30, 3) := dk_181 0 30 (dk_at dksX8_set_0 13 rfl rfl)
theorem dX8_set_16 : decode cX8_set 16 = .ok (.aload_n 0, 1) := dk_42 (dk_at dksX8_set_0 16 rfl rfl)
theorem dX8_set_17 : decode cX8_set 17 = .ok (.aload_n 1, 1) := dk_43 (dk_at dksX8_set_0 17 rfl rfl)
theorem dX8_set_18 : decode cX8_set 18 = .ok (.getfield 38, 3) := dk_180 0 38 (dk_at dksX8_set_0 18 rfl rfl)
theorem dX8_set_21 : decode cX8_set 21 = .ok (.putfield 38, 3) := dk_181 0 38 (dk_at dksX8_set_0 21 rfl rfl)
theorem dX8_set_24 : decode cX8_set 24 = .ok (.aload_n 0, 1) := dk_42 (dk_at dksX8_set_1 0 rfl rfl)
theorem dX8_set_25 : decode cX8_set 25 = .ok (.iconst 0, 1) := dk_3 (dk_at dksX8_set_1 1 rfl rfl)
theorem dX8_set_26 : decode cX8_set 26 = .ok (.putfield 41, 3) := dk_181 0 41 (dk_at dksX8_set_1 2 rfl rfl)
theorem dX8_set_29 : decode cX8_set 29 = .ok (.aload_n 1, 1) := dk_43 (dk_at dksX8_set_1 5 rfl rfl)
theorem dX8_set_30 : decode cX8_set 30 = .ok (.getfield 11, 3) := dk_180 0 11 (dk_at dksX8_set_1 6 rfl rfl)
theorem dX8_set_33 : decode cX8_set 33 = .ok (.iconst 0, 1) := dk_3 (dk_at dksX8_set_1 9 rfl rfl)
theorem dX8_set_34 : decode cX8_set 34 = .ok (.aload_n 0, 1) := dk_42 (dk_at dksX8_set_1 10 rfl rfl)
theorem dX8_set_35 : decode cX8_set 35 = .ok (.getfield 11, 3) := dk_180 0 11 (dk_at dksX8_set_1 11 rfl rfl)
theorem dX8_set_38 : decode cX8_set 38 = .ok (.iconst 0, 1) := dk_3 (dk_at dksX8_set_1 14 rfl rfl)
theorem dX8_set_39 : decode cX8_set 39 = .ok (.bipush 10, 2) := dk_16 10 (dk_at dksX8_set_1 15 rfl rfl)
theorem dX8_set_41 : decode cX8_set 41 = .ok (.invokestatic 44, 3) := dk_184 0 44 (dk_at dksX8_set_1 17 rfl rfl)
theorem dX8_set_44 : decode cX8_set 44 = .ok (.aload_n 1, 1) := dk_43 (dk_at dksX8_set_1 20 rfl rfl)
theorem dX8_set_45 : decode cX8_set 45 = .ok (.getfield 17, 3) := dk_180 0 17 (dk_at dksX8_set_1 21 rfl rfl)
theorem dX8_set_48 : decode cX8_set 48 = .ok (.iconst 0, 1) := dk_3 (dk_at dksX8_set_2 0 rfl rfl)
theorem dX8_set_49 : decode cX8_set 49 = .ok (.aload_n 0, 1) := dk_42 (dk_at dksX8_set_2 1 rfl rfl)
theorem dX8_set_50 : decode cX8_set 50 = .ok (.getfield 17, 3) := dk_180 0 17 (dk_at dksX8_set_2 2 rfl rfl)
theorem dX8_set_53 : decode cX8_set 53 = .ok (.iconst 0, 1) := dk_3 (dk_at dksX8_set_2 5 rfl rfl)
theorem dX8_set_54 : decode cX8_set 54 = .ok (.bipush 10, 2) := dk_16 10 (dk_at dksX8_set_2 6 rfl rfl)
theorem dX8_set_56 : decode cX8_set 56 = .ok (.invokestatic 44, 3) := dk_184 0 44 (dk_at dksX8_set_2 8 rfl rfl)
theorem dX8_set_59 : decode cX8_set 59 = .ok (.aload_n 1, 1) := dk_43 (dk_at dksX8_set_2 11 rfl rfl)
theorem dX8_set_60 : decode cX8_set 60 = .ok (.getfield 21, 3) := dk_180 0 21 (dk_at dksX8_set_2 12 rfl rfl)
theorem dX8_set_63 : decode cX8_set 63 = .ok (.iconst 0, 1) := dk_3 (dk_at dksX8_set_2 15 rfl rfl)
theorem dX8_set_64 : decode cX8_set 64 = .ok (.aload_n 0, 1) := dk_42 (dk_at dksX8_set_2 16 rfl rfl)
theorem dX8_set_65 : decode cX8_set 65 = .ok (.getfield 21, 3) := dk_180 0 21 (dk_at dksX8_set_2 17 rfl rfl)
theorem dX8_set_68 : decode cX8_set 68 = .ok (.iconst 0, 1) := dk_3 (dk_at dksX8_set_2 20 rfl rfl)
theorem dX8_set_69 : decode cX8_set 69 = .ok (.bipush 10, 2) := dk_16 10 (dk_at dksX8_set_2 21 rfl rfl)
theorem dX8_set_71 : decode cX8_set 71 = .ok (.invokestatic 44, 3) := dk_184 0 44 (dk_at dksX8_set_3 0 rfl rfl)
theorem dX8_set_74 : decode cX8_set 74 = .ok (.aload_n 1, 1) := dk_43 (dk_at dksX8_set_3 3 rfl rfl)
theorem dX8_set_75 : decode cX8_set 75 = .ok (.getfield 24, 3) := dk_180 0 24 (dk_at dksX8_set_3 4 rfl rfl)
theorem dX8_set_78 : decode cX8_set 78 = .ok (.iconst 0, 1) := dk_3 (dk_at dksX8_set_3 7 rfl rfl)
theorem dX8_set_79 : decode cX8_set 79 = .ok (.aload_n 0, 1) := dk_42 (dk_at dksX8_set_3 8 rfl rfl)
theorem dX8_set_80 : decode cX8_set 80 = .ok (.getfield 24, 3) := dk_180 0 24 (dk_at dksX8_set_3 9 rfl rfl)
theorem dX8_set_83 : decode cX8_set 83 = .ok (.iconst 0, 1) := dk_3 (dk_at dksX8_set_3 12 rfl rfl)
theorem dX8_set_84 : decode cX8_set 84 = .ok (.bipush 10, 2) := dk_16 10 (dk_at dksX8_set_3 13 rfl rfl)
theorem dX8_set_86 : decode cX8_set 86 = .ok (.invokestatic 44, 3) := dk_184 0 44 (dk_at dksX8_set_3 15 rfl rfl)
theorem dX8_set_89 : decode cX8_set 89 = .ok (.aload_n 1, 1) := dk_43 (dk_at dksX8_set_3 18 rfl rfl)
theorem dX8_set_90 : decode cX8_set 90 = .ok (.getfield 27, 3) := dk_180 0 27 (dk_at dksX8_set_3 19 rfl rfl)
theorem dX8_set_93 : decode cX8_set 93 = .ok (.iconst 0, 1) := dk_3 (dk_at dksX8_set_3 22 rfl rfl)
theorem dX8_set_94 : decode cX8_set 94 = .ok (.aload_n 0, 1) := dk_42 (dk_at dksX8_set_3 23 rfl rfl)
theorem dX8_set_95 : decode cX8_set 95 = .ok (.getfield 27, 3) := dk_180 0 27 (dk_at dksX8_set_4 0 rfl rfl)
theorem dX8_set_98 : decode cX8_set 98 = .ok (.iconst 0, 1) := dk_3 (dk_at dksX8_set_4 3 rfl rfl)
theorem dX8_set_99 : decode cX8_set 99 = .ok (.bipush 10, 2) := dk_16 10 (dk_at dksX8_set_4 4 rfl rfl)
theorem dX8_set_101 : decode cX8_set 101 = .ok (.invokestatic 44, 3) := dk_184 0 44 (dk_at dksX8_set_4 6 rfl rfl)
theorem dX8_set_104 : decode cX8_set 104 = .ok (.aload_n 0, 1) := dk_42 (dk_at dksX8_set_4 9 rfl rfl)
theorem dX8_set_105 : decode cX8_set 105 = .ok (.areturn, 1) := dk_176 (dk_at dksX8_set_4 10 rfl rfl)
abbrev cX8_isStanding : ByteArray := prog_16_method_3_code
def yX8_isStanding : MethodName := ⟨RX8, "isStanding", "(I)Z"⟩
def dkwX8_isStanding_0 : List UInt8 := [42, 180, 0, 24, 27, 46, 154, 0, 7, 4, 167, 0, 4, 3, 172]
abbrev dktX8_isStanding_0 : List UInt8 := dkwX8_isStanding_0 ++ []
theorem dksX8_isStanding_0 : cX8_isStanding.data.toList.drop 0 = dktX8_isStanding_0 := by decide +kernel
theorem dX8_isStanding_0 : decode cX8_isStanding 0 = .ok (.aload_n 0, 1) := dk_42 (dk_at dksX8_isStanding_0 0 rfl rfl)
theorem dX8_isStanding_1 : decode cX8_isStanding 1 = .ok (.getfield 24, 3) := dk_180 0 24 (dk_at dksX8_isStanding_0 1 rfl rfl)
theorem dX8_isStanding_4 : decode cX8_isStanding 4 = .ok (.iload_n 1, 1) := dk_27 (dk_at dksX8_isStanding_0 4 rfl rfl)
theorem dX8_isStanding_5 : decode cX8_isStanding 5 = .ok (.iaload, 1) := dk_46 (dk_at dksX8_isStanding_0 5 rfl rfl)
theorem dX8_isStanding_6 : decode cX8_isStanding 6 = .ok (.ifCond .ne 7, 3) := dk_154 0 7 (dk_at dksX8_isStanding_0 6 rfl rfl)
theorem dX8_isStanding_9 : decode cX8_isStanding 9 = .ok (.iconst 1, 1) := dk_4 (dk_at dksX8_isStanding_0 9 rfl rfl)
theorem dX8_isStanding_10 : decode cX8_isStanding 10 = .ok (.goto 4, 3) := dk_167 0 4 (dk_at dksX8_isStanding_0 10 rfl rfl)
theorem dX8_isStanding_13 : decode cX8_isStanding 13 = .ok (.iconst 0, 1) := dk_3 (dk_at dksX8_isStanding_0 13 rfl rfl)
theorem dX8_isStanding_14 : decode cX8_isStanding 14 = .ok (.ireturn, 1) := dk_172 (dk_at dksX8_isStanding_0 14 rfl rfl)
abbrev cX8_comes : ByteArray := prog_16_method_19_code
def yX8_comes : MethodName := ⟨RX8, "comes", "(LPulledFromUnder$Kind;II)V"⟩
def dkwX8_comes_2 : List UInt8 := [3, 79, 42, 89, 180, 0, 34, 4, 96, 181, 0, 34, 177]
abbrev dktX8_comes_2 : List UInt8 := dkwX8_comes_2 ++ []
def dkwX8_comes_1 : List UInt8 := [42, 180, 0, 34, 29, 79, 42, 180, 0, 24, 42, 180, 0, 34, 3, 79, 42, 180, 0, 27, 42, 180, 0, 34]
abbrev dktX8_comes_1 : List UInt8 := dkwX8_comes_1 ++ dktX8_comes_2
def dkwX8_comes_0 : List UInt8 := [42, 180, 0, 11, 42, 180, 0, 34, 43, 83, 42, 180, 0, 17, 42, 180, 0, 34, 28, 79, 42, 180, 0, 21]
abbrev dktX8_comes_0 : List UInt8 := dkwX8_comes_0 ++ dktX8_comes_1
theorem dksX8_comes_0 : cX8_comes.data.toList.drop 0 = dktX8_comes_0 := by decide +kernel
theorem dksX8_comes_1 : cX8_comes.data.toList.drop 24 = dktX8_comes_1 := dk_seg dksX8_comes_0 24 rfl rfl
theorem dksX8_comes_2 : cX8_comes.data.toList.drop 48 = dktX8_comes_2 := dk_seg dksX8_comes_1 24 rfl rfl
theorem dX8_comes_0 : decode cX8_comes 0 = .ok (.aload_n 0, 1) := dk_42 (dk_at dksX8_comes_0 0 rfl rfl)
theorem dX8_comes_1 : decode cX8_comes 1 = .ok (.getfield 11, 3) := dk_180 0 11 (dk_at dksX8_comes_0 1 rfl rfl)
theorem dX8_comes_4 : decode cX8_comes 4 = .ok (.aload_n 0, 1) := dk_42 (dk_at dksX8_comes_0 4 rfl rfl)
theorem dX8_comes_5 : decode cX8_comes 5 = .ok (.getfield 34, 3) := dk_180 0 34 (dk_at dksX8_comes_0 5 rfl rfl)
theorem dX8_comes_8 : decode cX8_comes 8 = .ok (.aload_n 1, 1) := dk_43 (dk_at dksX8_comes_0 8 rfl rfl)
theorem dX8_comes_9 : decode cX8_comes 9 = .ok (.aastore, 1) := dk_83 (dk_at dksX8_comes_0 9 rfl rfl)
theorem dX8_comes_10 : decode cX8_comes 10 = .ok (.aload_n 0, 1) := dk_42 (dk_at dksX8_comes_0 10 rfl rfl)
theorem dX8_comes_11 : decode cX8_comes 11 = .ok (.getfield 17, 3) := dk_180 0 17 (dk_at dksX8_comes_0 11 rfl rfl)
theorem dX8_comes_14 : decode cX8_comes 14 = .ok (.aload_n 0, 1) := dk_42 (dk_at dksX8_comes_0 14 rfl rfl)
theorem dX8_comes_15 : decode cX8_comes 15 = .ok (.getfield 34, 3) := dk_180 0 34 (dk_at dksX8_comes_0 15 rfl rfl)
theorem dX8_comes_18 : decode cX8_comes 18 = .ok (.iload_n 2, 1) := dk_28 (dk_at dksX8_comes_0 18 rfl rfl)
theorem dX8_comes_19 : decode cX8_comes 19 = .ok (.iastore, 1) := dk_79 (dk_at dksX8_comes_0 19 rfl rfl)
theorem dX8_comes_20 : decode cX8_comes 20 = .ok (.aload_n 0, 1) := dk_42 (dk_at dksX8_comes_0 20 rfl rfl)
theorem dX8_comes_21 : decode cX8_comes 21 = .ok (.getfield 21, 3) := dk_180 0 21 (dk_at dksX8_comes_0 21 rfl rfl)
theorem dX8_comes_24 : decode cX8_comes 24 = .ok (.aload_n 0, 1) := dk_42 (dk_at dksX8_comes_1 0 rfl rfl)
theorem dX8_comes_25 : decode cX8_comes 25 = .ok (.getfield 34, 3) := dk_180 0 34 (dk_at dksX8_comes_1 1 rfl rfl)
theorem dX8_comes_28 : decode cX8_comes 28 = .ok (.iload_n 3, 1) := dk_29 (dk_at dksX8_comes_1 4 rfl rfl)
theorem dX8_comes_29 : decode cX8_comes 29 = .ok (.iastore, 1) := dk_79 (dk_at dksX8_comes_1 5 rfl rfl)
theorem dX8_comes_30 : decode cX8_comes 30 = .ok (.aload_n 0, 1) := dk_42 (dk_at dksX8_comes_1 6 rfl rfl)
theorem dX8_comes_31 : decode cX8_comes 31 = .ok (.getfield 24, 3) := dk_180 0 24 (dk_at dksX8_comes_1 7 rfl rfl)
theorem dX8_comes_34 : decode cX8_comes 34 = .ok (.aload_n 0, 1) := dk_42 (dk_at dksX8_comes_1 10 rfl rfl)
theorem dX8_comes_35 : decode cX8_comes 35 = .ok (.getfield 34, 3) := dk_180 0 34 (dk_at dksX8_comes_1 11 rfl rfl)
theorem dX8_comes_38 : decode cX8_comes 38 = .ok (.iconst 0, 1) := dk_3 (dk_at dksX8_comes_1 14 rfl rfl)
theorem dX8_comes_39 : decode cX8_comes 39 = .ok (.iastore, 1) := dk_79 (dk_at dksX8_comes_1 15 rfl rfl)
theorem dX8_comes_40 : decode cX8_comes 40 = .ok (.aload_n 0, 1) := dk_42 (dk_at dksX8_comes_1 16 rfl rfl)
theorem dX8_comes_41 : decode cX8_comes 41 = .ok (.getfield 27, 3) := dk_180 0 27 (dk_at dksX8_comes_1 17 rfl rfl)
theorem dX8_comes_44 : decode cX8_comes 44 = .ok (.aload_n 0, 1) := dk_42 (dk_at dksX8_comes_1 20 rfl rfl)
theorem dX8_comes_45 : decode cX8_comes 45 = .ok (.getfield 34, 3) := dk_180 0 34 (dk_at dksX8_comes_1 21 rfl rfl)
theorem dX8_comes_48 : decode cX8_comes 48 = .ok (.iconst 0, 1) := dk_3 (dk_at dksX8_comes_2 0 rfl rfl)
theorem dX8_comes_49 : decode cX8_comes 49 = .ok (.iastore, 1) := dk_79 (dk_at dksX8_comes_2 1 rfl rfl)
theorem dX8_comes_50 : decode cX8_comes 50 = .ok (.aload_n 0, 1) := dk_42 (dk_at dksX8_comes_2 2 rfl rfl)
theorem dX8_comes_51 : decode cX8_comes 51 = .ok (.dup, 1) := dk_89 (dk_at dksX8_comes_2 3 rfl rfl)
theorem dX8_comes_52 : decode cX8_comes 52 = .ok (.getfield 34, 3) := dk_180 0 34 (dk_at dksX8_comes_2 4 rfl rfl)
theorem dX8_comes_55 : decode cX8_comes 55 = .ok (.iconst 1, 1) := dk_4 (dk_at dksX8_comes_2 7 rfl rfl)
theorem dX8_comes_56 : decode cX8_comes 56 = .ok (.iadd, 1) := dk_96 (dk_at dksX8_comes_2 8 rfl rfl)
theorem dX8_comes_57 : decode cX8_comes 57 = .ok (.putfield 34, 3) := dk_181 0 34 (dk_at dksX8_comes_2 9 rfl rfl)
theorem dX8_comes_60 : decode cX8_comes 60 = .ok (.return_, 1) := dk_177 (dk_at dksX8_comes_2 12 rfl rfl)
abbrev cX8_pullFloor : ByteArray := prog_16_method_11_code
def yX8_pullFloor : MethodName := ⟨RX8, "pullFloor", "(I)I"⟩
def dkwX8_pullFloor_0 : List UInt8 := [42, 3, 181, 0, 30, 42, 16, 247, 27, 182, 0, 73, 172]
abbrev dktX8_pullFloor_0 : List UInt8 := dkwX8_pullFloor_0 ++ []
theorem dksX8_pullFloor_0 : cX8_pullFloor.data.toList.drop 0 = dktX8_pullFloor_0 := by decide +kernel
theorem dX8_pullFloor_0 : decode cX8_pullFloor 0 = .ok (.aload_n 0, 1) := dk_42 (dk_at dksX8_pullFloor_0 0 rfl rfl)
theorem dX8_pullFloor_1 : decode cX8_pullFloor 1 = .ok (.iconst 0, 1) := dk_3 (dk_at dksX8_pullFloor_0 1 rfl rfl)
theorem dX8_pullFloor_2 : decode cX8_pullFloor 2 = .ok (.putfield 30, 3) := dk_181 0 30 (dk_at dksX8_pullFloor_0 2 rfl rfl)
theorem dX8_pullFloor_5 : decode cX8_pullFloor 5 = .ok (.aload_n 0, 1) := dk_42 (dk_at dksX8_pullFloor_0 5 rfl rfl)
theorem dX8_pullFloor_6 : decode cX8_pullFloor 6 = .ok (.bipush (-9), 2) := dk_16 247 (dk_at dksX8_pullFloor_0 6 rfl rfl)
theorem dX8_pullFloor_8 : decode cX8_pullFloor 8 = .ok (.iload_n 1, 1) := dk_27 (dk_at dksX8_pullFloor_0 8 rfl rfl)
theorem dX8_pullFloor_9 : decode cX8_pullFloor 9 = .ok (.invokevirtual 73, 3) := dk_182 0 73 (dk_at dksX8_pullFloor_0 9 rfl rfl)
theorem dX8_pullFloor_12 : decode cX8_pullFloor 12 = .ok (.ireturn, 1) := dk_172 (dk_at dksX8_pullFloor_0 12 rfl rfl)
abbrev cX8_fall : ByteArray := prog_16_method_9_code
def yX8_fall : MethodName := ⟨RX8, "fall", "(II)I"⟩
def dkwX8_fall_3 : List UInt8 := [167, 255, 191, 29, 172]
abbrev dktX8_fall_3 : List UInt8 := dkwX8_fall_3 ++ []
def dkwX8_fall_2 : List UInt8 := [21, 4, 184, 0, 54, 154, 0, 14, 42, 180, 0, 24, 21, 4, 4, 79, 132, 3, 1, 132, 4, 1]
abbrev dktX8_fall_2 : List UInt8 := dkwX8_fall_2 ++ dktX8_fall_3
def dkwX8_fall_1 : List UInt8 := [180, 0, 21, 21, 4, 46, 27, 160, 0, 36, 42, 21, 4, 182, 0, 72, 28, 164, 0, 26, 42, 180, 0, 41]
abbrev dktX8_fall_1 : List UInt8 := dkwX8_fall_1 ++ dktX8_fall_2
def dkwX8_fall_0 : List UInt8 := [3, 62, 3, 54, 4, 21, 4, 42, 180, 0, 34, 162, 0, 62, 42, 21, 4, 182, 0, 50, 153, 0, 47, 42]
abbrev dktX8_fall_0 : List UInt8 := dkwX8_fall_0 ++ dktX8_fall_1
theorem dksX8_fall_0 : cX8_fall.data.toList.drop 0 = dktX8_fall_0 := by decide +kernel
theorem dksX8_fall_1 : cX8_fall.data.toList.drop 24 = dktX8_fall_1 := dk_seg dksX8_fall_0 24 rfl rfl
theorem dksX8_fall_2 : cX8_fall.data.toList.drop 48 = dktX8_fall_2 := dk_seg dksX8_fall_1 24 rfl rfl
theorem dksX8_fall_3 : cX8_fall.data.toList.drop 70 = dktX8_fall_3 := dk_seg dksX8_fall_2 22 rfl rfl
theorem dX8_fall_0 : decode cX8_fall 0 = .ok (.iconst 0, 1) := dk_3 (dk_at dksX8_fall_0 0 rfl rfl)
theorem dX8_fall_1 : decode cX8_fall 1 = .ok (.istore_n 3, 1) := dk_62 (dk_at dksX8_fall_0 1 rfl rfl)
theorem dX8_fall_2 : decode cX8_fall 2 = .ok (.iconst 0, 1) := dk_3 (dk_at dksX8_fall_0 2 rfl rfl)
theorem dX8_fall_3 : decode cX8_fall 3 = .ok (.istore 4, 2) := dk_54 4 (dk_at dksX8_fall_0 3 rfl rfl)
theorem dX8_fall_5 : decode cX8_fall 5 = .ok (.iload 4, 2) := dk_21 4 (dk_at dksX8_fall_0 5 rfl rfl)
theorem dX8_fall_7 : decode cX8_fall 7 = .ok (.aload_n 0, 1) := dk_42 (dk_at dksX8_fall_0 7 rfl rfl)
theorem dX8_fall_8 : decode cX8_fall 8 = .ok (.getfield 34, 3) := dk_180 0 34 (dk_at dksX8_fall_0 8 rfl rfl)
theorem dX8_fall_11 : decode cX8_fall 11 = .ok (.if_icmp .ge 62, 3) := dk_162 0 62 (dk_at dksX8_fall_0 11 rfl rfl)
theorem dX8_fall_14 : decode cX8_fall 14 = .ok (.aload_n 0, 1) := dk_42 (dk_at dksX8_fall_0 14 rfl rfl)
theorem dX8_fall_15 : decode cX8_fall 15 = .ok (.iload 4, 2) := dk_21 4 (dk_at dksX8_fall_0 15 rfl rfl)
theorem dX8_fall_17 : decode cX8_fall 17 = .ok (.invokevirtual 50, 3) := dk_182 0 50 (dk_at dksX8_fall_0 17 rfl rfl)
theorem dX8_fall_20 : decode cX8_fall 20 = .ok (.ifCond .eq 47, 3) := dk_153 0 47 (dk_at dksX8_fall_0 20 rfl rfl)
theorem dX8_fall_23 : decode cX8_fall 23 = .ok (.aload_n 0, 1) := dk_42 (dk_at dksX8_fall_0 23 rfl rfl)
theorem dX8_fall_24 : decode cX8_fall 24 = .ok (.getfield 21, 3) := dk_180 0 21 (dk_at dksX8_fall_1 0 rfl rfl)
theorem dX8_fall_27 : decode cX8_fall 27 = .ok (.iload 4, 2) := dk_21 4 (dk_at dksX8_fall_1 3 rfl rfl)
theorem dX8_fall_29 : decode cX8_fall 29 = .ok (.iaload, 1) := dk_46 (dk_at dksX8_fall_1 5 rfl rfl)
theorem dX8_fall_30 : decode cX8_fall 30 = .ok (.iload_n 1, 1) := dk_27 (dk_at dksX8_fall_1 6 rfl rfl)
theorem dX8_fall_31 : decode cX8_fall 31 = .ok (.if_icmp .ne 36, 3) := dk_160 0 36 (dk_at dksX8_fall_1 7 rfl rfl)
theorem dX8_fall_34 : decode cX8_fall 34 = .ok (.aload_n 0, 1) := dk_42 (dk_at dksX8_fall_1 10 rfl rfl)
theorem dX8_fall_35 : decode cX8_fall 35 = .ok (.iload 4, 2) := dk_21 4 (dk_at dksX8_fall_1 11 rfl rfl)
theorem dX8_fall_37 : decode cX8_fall 37 = .ok (.invokevirtual 72, 3) := dk_182 0 72 (dk_at dksX8_fall_1 13 rfl rfl)
theorem dX8_fall_40 : decode cX8_fall 40 = .ok (.iload_n 2, 1) := dk_28 (dk_at dksX8_fall_1 16 rfl rfl)
theorem dX8_fall_41 : decode cX8_fall 41 = .ok (.if_icmp .le 26, 3) := dk_164 0 26 (dk_at dksX8_fall_1 17 rfl rfl)
theorem dX8_fall_44 : decode cX8_fall 44 = .ok (.aload_n 0, 1) := dk_42 (dk_at dksX8_fall_1 20 rfl rfl)
theorem dX8_fall_45 : decode cX8_fall 45 = .ok (.getfield 41, 3) := dk_180 0 41 (dk_at dksX8_fall_1 21 rfl rfl)
theorem dX8_fall_48 : decode cX8_fall 48 = .ok (.iload 4, 2) := dk_21 4 (dk_at dksX8_fall_2 0 rfl rfl)
theorem dX8_fall_50 : decode cX8_fall 50 = .ok (.invokestatic 54, 3) := dk_184 0 54 (dk_at dksX8_fall_2 2 rfl rfl)
theorem dX8_fall_53 : decode cX8_fall 53 = .ok (.ifCond .ne 14, 3) := dk_154 0 14 (dk_at dksX8_fall_2 5 rfl rfl)
theorem dX8_fall_56 : decode cX8_fall 56 = .ok (.aload_n 0, 1) := dk_42 (dk_at dksX8_fall_2 8 rfl rfl)
theorem dX8_fall_57 : decode cX8_fall 57 = .ok (.getfield 24, 3) := dk_180 0 24 (dk_at dksX8_fall_2 9 rfl rfl)
theorem dX8_fall_60 : decode cX8_fall 60 = .ok (.iload 4, 2) := dk_21 4 (dk_at dksX8_fall_2 12 rfl rfl)
theorem dX8_fall_62 : decode cX8_fall 62 = .ok (.iconst 1, 1) := dk_4 (dk_at dksX8_fall_2 14 rfl rfl)
theorem dX8_fall_63 : decode cX8_fall 63 = .ok (.iastore, 1) := dk_79 (dk_at dksX8_fall_2 15 rfl rfl)
theorem dX8_fall_64 : decode cX8_fall 64 = .ok (.iinc 3 1, 3) := dk_132 3 1 (dk_at dksX8_fall_2 16 rfl rfl)
theorem dX8_fall_67 : decode cX8_fall 67 = .ok (.iinc 4 1, 3) := dk_132 4 1 (dk_at dksX8_fall_2 19 rfl rfl)
theorem dX8_fall_70 : decode cX8_fall 70 = .ok (.goto (-65), 3) := dk_167 255 191 (dk_at dksX8_fall_3 0 rfl rfl)
theorem dX8_fall_73 : decode cX8_fall 73 = .ok (.iload_n 3, 1) := dk_29 (dk_at dksX8_fall_3 3 rfl rfl)
theorem dX8_fall_74 : decode cX8_fall 74 = .ok (.ireturn, 1) := dk_172 (dk_at dksX8_fall_3 4 rfl rfl)
abbrev cX8_grip : ByteArray := prog_16_method_8_code
def yX8_grip : MethodName := ⟨RX8, "grip", "(I)I"⟩
def dkwX8_grip_0 : List UInt8 := [42, 180, 0, 11, 27, 50, 42, 180, 0, 17, 27, 46, 182, 0, 69, 172]
abbrev dktX8_grip_0 : List UInt8 := dkwX8_grip_0 ++ []
theorem dksX8_grip_0 : cX8_grip.data.toList.drop 0 = dktX8_grip_0 := by decide +kernel
theorem dX8_grip_0 : decode cX8_grip 0 = .ok (.aload_n 0, 1) := dk_42 (dk_at dksX8_grip_0 0 rfl rfl)
theorem dX8_grip_1 : decode cX8_grip 1 = .ok (.getfield 11, 3) := dk_180 0 11 (dk_at dksX8_grip_0 1 rfl rfl)
theorem dX8_grip_4 : decode cX8_grip 4 = .ok (.iload_n 1, 1) := dk_27 (dk_at dksX8_grip_0 4 rfl rfl)
theorem dX8_grip_5 : decode cX8_grip 5 = .ok (.aaload, 1) := dk_50 (dk_at dksX8_grip_0 5 rfl rfl)
theorem dX8_grip_6 : decode cX8_grip 6 = .ok (.aload_n 0, 1) := dk_42 (dk_at dksX8_grip_0 6 rfl rfl)
theorem dX8_grip_7 : decode cX8_grip 7 = .ok (.getfield 17, 3) := dk_180 0 17 (dk_at dksX8_grip_0 7 rfl rfl)
theorem dX8_grip_10 : decode cX8_grip 10 = .ok (.iload_n 1, 1) := dk_27 (dk_at dksX8_grip_0 10 rfl rfl)
theorem dX8_grip_11 : decode cX8_grip 11 = .ok (.iaload, 1) := dk_46 (dk_at dksX8_grip_0 11 rfl rfl)
theorem dX8_grip_12 : decode cX8_grip 12 = .ok (.invokevirtual 69, 3) := dk_182 0 69 (dk_at dksX8_grip_0 12 rfl rfl)
theorem dX8_grip_15 : decode cX8_grip 15 = .ok (.ireturn, 1) := dk_172 (dk_at dksX8_grip_0 15 rfl rfl)
abbrev cX8_minutesOn : ByteArray := prog_16_method_14_code
def yX8_minutesOn : MethodName := ⟨RX8, "minutesOn", "(I)LPulledFromUnder$Room;"⟩
def dkwX8_minutesOn_0 : List UInt8 := [3, 61, 28, 27, 162, 0, 14, 42, 3, 182, 0, 82, 132, 2, 1, 167, 255, 243, 42, 176]
abbrev dktX8_minutesOn_0 : List UInt8 := dkwX8_minutesOn_0 ++ []
theorem dksX8_minutesOn_0 : cX8_minutesOn.data.toList.drop 0 = dktX8_minutesOn_0 := by decide +kernel
theorem dX8_minutesOn_0 : decode cX8_minutesOn 0 = .ok (.iconst 0, 1) := dk_3 (dk_at dksX8_minutesOn_0 0 rfl rfl)
theorem dX8_minutesOn_1 : decode cX8_minutesOn 1 = .ok (.istore_n 2, 1) := dk_61 (dk_at dksX8_minutesOn_0 1 rfl rfl)
theorem dX8_minutesOn_2 : decode cX8_minutesOn 2 = .ok (.iload_n 2, 1) := dk_28 (dk_at dksX8_minutesOn_0 2 rfl rfl)
theorem dX8_minutesOn_3 : decode cX8_minutesOn 3 = .ok (.iload_n 1, 1) := dk_27 (dk_at dksX8_minutesOn_0 3 rfl rfl)
theorem dX8_minutesOn_4 : decode cX8_minutesOn 4 = .ok (.if_icmp .ge 14, 3) := dk_162 0 14 (dk_at dksX8_minutesOn_0 4 rfl rfl)
theorem dX8_minutesOn_7 : decode cX8_minutesOn 7 = .ok (.aload_n 0, 1) := dk_42 (dk_at dksX8_minutesOn_0 7 rfl rfl)
theorem dX8_minutesOn_8 : decode cX8_minutesOn 8 = .ok (.iconst 0, 1) := dk_3 (dk_at dksX8_minutesOn_0 8 rfl rfl)
theorem dX8_minutesOn_9 : decode cX8_minutesOn 9 = .ok (.invokevirtual 82, 3) := dk_182 0 82 (dk_at dksX8_minutesOn_0 9 rfl rfl)
theorem dX8_minutesOn_12 : decode cX8_minutesOn 12 = .ok (.iinc 2 1, 3) := dk_132 2 1 (dk_at dksX8_minutesOn_0 12 rfl rfl)
theorem dX8_minutesOn_15 : decode cX8_minutesOn 15 = .ok (.goto (-13), 3) := dk_167 255 243 (dk_at dksX8_minutesOn_0 15 rfl rfl)
theorem dX8_minutesOn_18 : decode cX8_minutesOn 18 = .ok (.aload_n 0, 1) := dk_42 (dk_at dksX8_minutesOn_0 18 rfl rfl)
theorem dX8_minutesOn_19 : decode cX8_minutesOn 19 = .ok (.areturn, 1) := dk_176 (dk_at dksX8_minutesOn_0 19 rfl rfl)
abbrev cX8_minuteOn : ByteArray := prog_16_method_13_code
def yX8_minuteOn : MethodName := ⟨RX8, "minuteOn", "(I)V"⟩
def dkwX8_minuteOn_7 : List UInt8 := [153, 0, 7, 4, 167, 0, 10, 42, 180, 0, 24, 21, 4, 46, 79, 132, 4, 1, 167, 255, 217, 177]
abbrev dktX8_minuteOn_7 : List UInt8 := dkwX8_minuteOn_7 ++ []
def dkwX8_minuteOn_6 : List UInt8 := [3, 54, 4, 21, 4, 42, 180, 0, 34, 162, 0, 36, 42, 180, 0, 24, 21, 4, 29, 21, 4, 184, 0, 54]
abbrev dktX8_minuteOn_6 : List UInt8 := dkwX8_minuteOn_6 ++ dktX8_minuteOn_7
def dkwX8_minuteOn_5 : List UInt8 := [21, 4, 184, 0, 54, 154, 0, 10, 4, 21, 4, 120, 167, 0, 4, 3, 128, 62, 132, 4, 1, 167, 255, 168]
abbrev dktX8_minuteOn_5 : List UInt8 := dkwX8_minuteOn_5 ++ dktX8_minuteOn_6
def dkwX8_minuteOn_4 : List UInt8 := [46, 4, 96, 27, 96, 79, 29, 42, 180, 0, 27, 21, 4, 46, 42, 21, 4, 182, 0, 80, 164, 0, 19, 28]
abbrev dktX8_minuteOn_4 : List UInt8 := dkwX8_minuteOn_4 ++ dktX8_minuteOn_5
def dkwX8_minuteOn_3 : List UInt8 := [180, 0, 27, 21, 4, 28, 21, 4, 184, 0, 54, 153, 0, 7, 3, 167, 0, 14, 42, 180, 0, 27, 21, 4]
abbrev dktX8_minuteOn_3 : List UInt8 := dkwX8_minuteOn_3 ++ dktX8_minuteOn_4
def dkwX8_minuteOn_2 : List UInt8 := [3, 54, 4, 21, 4, 42, 180, 0, 34, 162, 0, 85, 42, 21, 4, 182, 0, 50, 153, 0, 70, 42]
abbrev dktX8_minuteOn_2 : List UInt8 := dkwX8_minuteOn_2 ++ dktX8_minuteOn_3
def dkwX8_minuteOn_1 : List UInt8 := [29, 182, 0, 77, 153, 0, 9, 4, 29, 120, 167, 0, 4, 3, 128, 61, 132, 3, 1, 167, 255, 227, 3, 62]
abbrev dktX8_minuteOn_1 : List UInt8 := dkwX8_minuteOn_1 ++ dktX8_minuteOn_2
def dkwX8_minuteOn_0 : List UInt8 := [42, 89, 180, 0, 38, 4, 96, 181, 0, 38, 3, 61, 3, 62, 29, 42, 180, 0, 34, 162, 0, 27, 28, 42]
abbrev dktX8_minuteOn_0 : List UInt8 := dkwX8_minuteOn_0 ++ dktX8_minuteOn_1
theorem dksX8_minuteOn_0 : cX8_minuteOn.data.toList.drop 0 = dktX8_minuteOn_0 := by decide +kernel
theorem dksX8_minuteOn_1 : cX8_minuteOn.data.toList.drop 24 = dktX8_minuteOn_1 := dk_seg dksX8_minuteOn_0 24 rfl rfl
theorem dksX8_minuteOn_2 : cX8_minuteOn.data.toList.drop 48 = dktX8_minuteOn_2 := dk_seg dksX8_minuteOn_1 24 rfl rfl
theorem dksX8_minuteOn_3 : cX8_minuteOn.data.toList.drop 70 = dktX8_minuteOn_3 := dk_seg dksX8_minuteOn_2 22 rfl rfl
theorem dksX8_minuteOn_4 : cX8_minuteOn.data.toList.drop 94 = dktX8_minuteOn_4 := dk_seg dksX8_minuteOn_3 24 rfl rfl
theorem dksX8_minuteOn_5 : cX8_minuteOn.data.toList.drop 118 = dktX8_minuteOn_5 := dk_seg dksX8_minuteOn_4 24 rfl rfl
theorem dksX8_minuteOn_6 : cX8_minuteOn.data.toList.drop 142 = dktX8_minuteOn_6 := dk_seg dksX8_minuteOn_5 24 rfl rfl
theorem dksX8_minuteOn_7 : cX8_minuteOn.data.toList.drop 166 = dktX8_minuteOn_7 := dk_seg dksX8_minuteOn_6 24 rfl rfl
theorem dX8_minuteOn_0 : decode cX8_minuteOn 0 = .ok (.aload_n 0, 1) := dk_42 (dk_at dksX8_minuteOn_0 0 rfl rfl)
theorem dX8_minuteOn_1 : decode cX8_minuteOn 1 = .ok (.dup, 1) := dk_89 (dk_at dksX8_minuteOn_0 1 rfl rfl)
theorem dX8_minuteOn_2 : decode cX8_minuteOn 2 = .ok (.getfield 38, 3) := dk_180 0 38 (dk_at dksX8_minuteOn_0 2 rfl rfl)
theorem dX8_minuteOn_5 : decode cX8_minuteOn 5 = .ok (.iconst 1, 1) := dk_4 (dk_at dksX8_minuteOn_0 5 rfl rfl)
theorem dX8_minuteOn_6 : decode cX8_minuteOn 6 = .ok (.iadd, 1) := dk_96 (dk_at dksX8_minuteOn_0 6 rfl rfl)
theorem dX8_minuteOn_7 : decode cX8_minuteOn 7 = .ok (.putfield 38, 3) := dk_181 0 38 (dk_at dksX8_minuteOn_0 7 rfl rfl)
theorem dX8_minuteOn_10 : decode cX8_minuteOn 10 = .ok (.iconst 0, 1) := dk_3 (dk_at dksX8_minuteOn_0 10 rfl rfl)
theorem dX8_minuteOn_11 : decode cX8_minuteOn 11 = .ok (.istore_n 2, 1) := dk_61 (dk_at dksX8_minuteOn_0 11 rfl rfl)
theorem dX8_minuteOn_12 : decode cX8_minuteOn 12 = .ok (.iconst 0, 1) := dk_3 (dk_at dksX8_minuteOn_0 12 rfl rfl)
theorem dX8_minuteOn_13 : decode cX8_minuteOn 13 = .ok (.istore_n 3, 1) := dk_62 (dk_at dksX8_minuteOn_0 13 rfl rfl)
theorem dX8_minuteOn_14 : decode cX8_minuteOn 14 = .ok (.iload_n 3, 1) := dk_29 (dk_at dksX8_minuteOn_0 14 rfl rfl)
theorem dX8_minuteOn_15 : decode cX8_minuteOn 15 = .ok (.aload_n 0, 1) := dk_42 (dk_at dksX8_minuteOn_0 15 rfl rfl)
theorem dX8_minuteOn_16 : decode cX8_minuteOn 16 = .ok (.getfield 34, 3) := dk_180 0 34 (dk_at dksX8_minuteOn_0 16 rfl rfl)
theorem dX8_minuteOn_19 : decode cX8_minuteOn 19 = .ok (.if_icmp .ge 27, 3) := dk_162 0 27 (dk_at dksX8_minuteOn_0 19 rfl rfl)
theorem dX8_minuteOn_22 : decode cX8_minuteOn 22 = .ok (.iload_n 2, 1) := dk_28 (dk_at dksX8_minuteOn_0 22 rfl rfl)
theorem dX8_minuteOn_23 : decode cX8_minuteOn 23 = .ok (.aload_n 0, 1) := dk_42 (dk_at dksX8_minuteOn_0 23 rfl rfl)
theorem dX8_minuteOn_24 : decode cX8_minuteOn 24 = .ok (.iload_n 3, 1) := dk_29 (dk_at dksX8_minuteOn_1 0 rfl rfl)
theorem dX8_minuteOn_25 : decode cX8_minuteOn 25 = .ok (.invokevirtual 77, 3) := dk_182 0 77 (dk_at dksX8_minuteOn_1 1 rfl rfl)
theorem dX8_minuteOn_28 : decode cX8_minuteOn 28 = .ok (.ifCond .eq 9, 3) := dk_153 0 9 (dk_at dksX8_minuteOn_1 4 rfl rfl)
theorem dX8_minuteOn_31 : decode cX8_minuteOn 31 = .ok (.iconst 1, 1) := dk_4 (dk_at dksX8_minuteOn_1 7 rfl rfl)
theorem dX8_minuteOn_32 : decode cX8_minuteOn 32 = .ok (.iload_n 3, 1) := dk_29 (dk_at dksX8_minuteOn_1 8 rfl rfl)
theorem dX8_minuteOn_33 : decode cX8_minuteOn 33 = .ok (.ishl, 1) := dk_120 (dk_at dksX8_minuteOn_1 9 rfl rfl)
theorem dX8_minuteOn_34 : decode cX8_minuteOn 34 = .ok (.goto 4, 3) := dk_167 0 4 (dk_at dksX8_minuteOn_1 10 rfl rfl)
theorem dX8_minuteOn_37 : decode cX8_minuteOn 37 = .ok (.iconst 0, 1) := dk_3 (dk_at dksX8_minuteOn_1 13 rfl rfl)
theorem dX8_minuteOn_38 : decode cX8_minuteOn 38 = .ok (.ior, 1) := dk_128 (dk_at dksX8_minuteOn_1 14 rfl rfl)
theorem dX8_minuteOn_39 : decode cX8_minuteOn 39 = .ok (.istore_n 2, 1) := dk_61 (dk_at dksX8_minuteOn_1 15 rfl rfl)
theorem dX8_minuteOn_40 : decode cX8_minuteOn 40 = .ok (.iinc 3 1, 3) := dk_132 3 1 (dk_at dksX8_minuteOn_1 16 rfl rfl)
theorem dX8_minuteOn_43 : decode cX8_minuteOn 43 = .ok (.goto (-29), 3) := dk_167 255 227 (dk_at dksX8_minuteOn_1 19 rfl rfl)
theorem dX8_minuteOn_46 : decode cX8_minuteOn 46 = .ok (.iconst 0, 1) := dk_3 (dk_at dksX8_minuteOn_1 22 rfl rfl)
theorem dX8_minuteOn_47 : decode cX8_minuteOn 47 = .ok (.istore_n 3, 1) := dk_62 (dk_at dksX8_minuteOn_1 23 rfl rfl)
theorem dX8_minuteOn_48 : decode cX8_minuteOn 48 = .ok (.iconst 0, 1) := dk_3 (dk_at dksX8_minuteOn_2 0 rfl rfl)
theorem dX8_minuteOn_49 : decode cX8_minuteOn 49 = .ok (.istore 4, 2) := dk_54 4 (dk_at dksX8_minuteOn_2 1 rfl rfl)
theorem dX8_minuteOn_51 : decode cX8_minuteOn 51 = .ok (.iload 4, 2) := dk_21 4 (dk_at dksX8_minuteOn_2 3 rfl rfl)
theorem dX8_minuteOn_53 : decode cX8_minuteOn 53 = .ok (.aload_n 0, 1) := dk_42 (dk_at dksX8_minuteOn_2 5 rfl rfl)
theorem dX8_minuteOn_54 : decode cX8_minuteOn 54 = .ok (.getfield 34, 3) := dk_180 0 34 (dk_at dksX8_minuteOn_2 6 rfl rfl)
theorem dX8_minuteOn_57 : decode cX8_minuteOn 57 = .ok (.if_icmp .ge 85, 3) := dk_162 0 85 (dk_at dksX8_minuteOn_2 9 rfl rfl)
theorem dX8_minuteOn_60 : decode cX8_minuteOn 60 = .ok (.aload_n 0, 1) := dk_42 (dk_at dksX8_minuteOn_2 12 rfl rfl)
theorem dX8_minuteOn_61 : decode cX8_minuteOn 61 = .ok (.iload 4, 2) := dk_21 4 (dk_at dksX8_minuteOn_2 13 rfl rfl)
theorem dX8_minuteOn_63 : decode cX8_minuteOn 63 = .ok (.invokevirtual 50, 3) := dk_182 0 50 (dk_at dksX8_minuteOn_2 15 rfl rfl)
theorem dX8_minuteOn_66 : decode cX8_minuteOn 66 = .ok (.ifCond .eq 70, 3) := dk_153 0 70 (dk_at dksX8_minuteOn_2 18 rfl rfl)
theorem dX8_minuteOn_69 : decode cX8_minuteOn 69 = .ok (.aload_n 0, 1) := dk_42 (dk_at dksX8_minuteOn_2 21 rfl rfl)
theorem dX8_minuteOn_70 : decode cX8_minuteOn 70 = .ok (.getfield 27, 3) := dk_180 0 27 (dk_at dksX8_minuteOn_3 0 rfl rfl)
theorem dX8_minuteOn_73 : decode cX8_minuteOn 73 = .ok (.iload 4, 2) := dk_21 4 (dk_at dksX8_minuteOn_3 3 rfl rfl)
theorem dX8_minuteOn_75 : decode cX8_minuteOn 75 = .ok (.iload_n 2, 1) := dk_28 (dk_at dksX8_minuteOn_3 5 rfl rfl)
theorem dX8_minuteOn_76 : decode cX8_minuteOn 76 = .ok (.iload 4, 2) := dk_21 4 (dk_at dksX8_minuteOn_3 6 rfl rfl)
theorem dX8_minuteOn_78 : decode cX8_minuteOn 78 = .ok (.invokestatic 54, 3) := dk_184 0 54 (dk_at dksX8_minuteOn_3 8 rfl rfl)
theorem dX8_minuteOn_81 : decode cX8_minuteOn 81 = .ok (.ifCond .eq 7, 3) := dk_153 0 7 (dk_at dksX8_minuteOn_3 11 rfl rfl)
theorem dX8_minuteOn_84 : decode cX8_minuteOn 84 = .ok (.iconst 0, 1) := dk_3 (dk_at dksX8_minuteOn_3 14 rfl rfl)
theorem dX8_minuteOn_85 : decode cX8_minuteOn 85 = .ok (.goto 14, 3) := dk_167 0 14 (dk_at dksX8_minuteOn_3 15 rfl rfl)
theorem dX8_minuteOn_88 : decode cX8_minuteOn 88 = .ok (.aload_n 0, 1) := dk_42 (dk_at dksX8_minuteOn_3 18 rfl rfl)
theorem dX8_minuteOn_89 : decode cX8_minuteOn 89 = .ok (.getfield 27, 3) := dk_180 0 27 (dk_at dksX8_minuteOn_3 19 rfl rfl)
theorem dX8_minuteOn_92 : decode cX8_minuteOn 92 = .ok (.iload 4, 2) := dk_21 4 (dk_at dksX8_minuteOn_3 22 rfl rfl)
theorem dX8_minuteOn_94 : decode cX8_minuteOn 94 = .ok (.iaload, 1) := dk_46 (dk_at dksX8_minuteOn_4 0 rfl rfl)
theorem dX8_minuteOn_95 : decode cX8_minuteOn 95 = .ok (.iconst 1, 1) := dk_4 (dk_at dksX8_minuteOn_4 1 rfl rfl)
theorem dX8_minuteOn_96 : decode cX8_minuteOn 96 = .ok (.iadd, 1) := dk_96 (dk_at dksX8_minuteOn_4 2 rfl rfl)
theorem dX8_minuteOn_97 : decode cX8_minuteOn 97 = .ok (.iload_n 1, 1) := dk_27 (dk_at dksX8_minuteOn_4 3 rfl rfl)
theorem dX8_minuteOn_98 : decode cX8_minuteOn 98 = .ok (.iadd, 1) := dk_96 (dk_at dksX8_minuteOn_4 4 rfl rfl)
theorem dX8_minuteOn_99 : decode cX8_minuteOn 99 = .ok (.iastore, 1) := dk_79 (dk_at dksX8_minuteOn_4 5 rfl rfl)
theorem dX8_minuteOn_100 : decode cX8_minuteOn 100 = .ok (.iload_n 3, 1) := dk_29 (dk_at dksX8_minuteOn_4 6 rfl rfl)
theorem dX8_minuteOn_101 : decode cX8_minuteOn 101 = .ok (.aload_n 0, 1) := dk_42 (dk_at dksX8_minuteOn_4 7 rfl rfl)
theorem dX8_minuteOn_102 : decode cX8_minuteOn 102 = .ok (.getfield 27, 3) := dk_180 0 27 (dk_at dksX8_minuteOn_4 8 rfl rfl)
theorem dX8_minuteOn_105 : decode cX8_minuteOn 105 = .ok (.iload 4, 2) := dk_21 4 (dk_at dksX8_minuteOn_4 11 rfl rfl)
theorem dX8_minuteOn_107 : decode cX8_minuteOn 107 = .ok (.iaload, 1) := dk_46 (dk_at dksX8_minuteOn_4 13 rfl rfl)
theorem dX8_minuteOn_108 : decode cX8_minuteOn 108 = .ok (.aload_n 0, 1) := dk_42 (dk_at dksX8_minuteOn_4 14 rfl rfl)
theorem dX8_minuteOn_109 : decode cX8_minuteOn 109 = .ok (.iload 4, 2) := dk_21 4 (dk_at dksX8_minuteOn_4 15 rfl rfl)
theorem dX8_minuteOn_111 : decode cX8_minuteOn 111 = .ok (.invokevirtual 80, 3) := dk_182 0 80 (dk_at dksX8_minuteOn_4 17 rfl rfl)
theorem dX8_minuteOn_114 : decode cX8_minuteOn 114 = .ok (.if_icmp .le 19, 3) := dk_164 0 19 (dk_at dksX8_minuteOn_4 20 rfl rfl)
theorem dX8_minuteOn_117 : decode cX8_minuteOn 117 = .ok (.iload_n 2, 1) := dk_28 (dk_at dksX8_minuteOn_4 23 rfl rfl)
theorem dX8_minuteOn_118 : decode cX8_minuteOn 118 = .ok (.iload 4, 2) := dk_21 4 (dk_at dksX8_minuteOn_5 0 rfl rfl)
theorem dX8_minuteOn_120 : decode cX8_minuteOn 120 = .ok (.invokestatic 54, 3) := dk_184 0 54 (dk_at dksX8_minuteOn_5 2 rfl rfl)
theorem dX8_minuteOn_123 : decode cX8_minuteOn 123 = .ok (.ifCond .ne 10, 3) := dk_154 0 10 (dk_at dksX8_minuteOn_5 5 rfl rfl)
theorem dX8_minuteOn_126 : decode cX8_minuteOn 126 = .ok (.iconst 1, 1) := dk_4 (dk_at dksX8_minuteOn_5 8 rfl rfl)
theorem dX8_minuteOn_127 : decode cX8_minuteOn 127 = .ok (.iload 4, 2) := dk_21 4 (dk_at dksX8_minuteOn_5 9 rfl rfl)
theorem dX8_minuteOn_129 : decode cX8_minuteOn 129 = .ok (.ishl, 1) := dk_120 (dk_at dksX8_minuteOn_5 11 rfl rfl)
theorem dX8_minuteOn_130 : decode cX8_minuteOn 130 = .ok (.goto 4, 3) := dk_167 0 4 (dk_at dksX8_minuteOn_5 12 rfl rfl)
theorem dX8_minuteOn_133 : decode cX8_minuteOn 133 = .ok (.iconst 0, 1) := dk_3 (dk_at dksX8_minuteOn_5 15 rfl rfl)
theorem dX8_minuteOn_134 : decode cX8_minuteOn 134 = .ok (.ior, 1) := dk_128 (dk_at dksX8_minuteOn_5 16 rfl rfl)
theorem dX8_minuteOn_135 : decode cX8_minuteOn 135 = .ok (.istore_n 3, 1) := dk_62 (dk_at dksX8_minuteOn_5 17 rfl rfl)
theorem dX8_minuteOn_136 : decode cX8_minuteOn 136 = .ok (.iinc 4 1, 3) := dk_132 4 1 (dk_at dksX8_minuteOn_5 18 rfl rfl)
theorem dX8_minuteOn_139 : decode cX8_minuteOn 139 = .ok (.goto (-88), 3) := dk_167 255 168 (dk_at dksX8_minuteOn_5 21 rfl rfl)
theorem dX8_minuteOn_142 : decode cX8_minuteOn 142 = .ok (.iconst 0, 1) := dk_3 (dk_at dksX8_minuteOn_6 0 rfl rfl)
theorem dX8_minuteOn_143 : decode cX8_minuteOn 143 = .ok (.istore 4, 2) := dk_54 4 (dk_at dksX8_minuteOn_6 1 rfl rfl)
theorem dX8_minuteOn_145 : decode cX8_minuteOn 145 = .ok (.iload 4, 2) := dk_21 4 (dk_at dksX8_minuteOn_6 3 rfl rfl)
theorem dX8_minuteOn_147 : decode cX8_minuteOn 147 = .ok (.aload_n 0, 1) := dk_42 (dk_at dksX8_minuteOn_6 5 rfl rfl)
theorem dX8_minuteOn_148 : decode cX8_minuteOn 148 = .ok (.getfield 34, 3) := dk_180 0 34 (dk_at dksX8_minuteOn_6 6 rfl rfl)
theorem dX8_minuteOn_151 : decode cX8_minuteOn 151 = .ok (.if_icmp .ge 36, 3) := dk_162 0 36 (dk_at dksX8_minuteOn_6 9 rfl rfl)
theorem dX8_minuteOn_154 : decode cX8_minuteOn 154 = .ok (.aload_n 0, 1) := dk_42 (dk_at dksX8_minuteOn_6 12 rfl rfl)
theorem dX8_minuteOn_155 : decode cX8_minuteOn 155 = .ok (.getfield 24, 3) := dk_180 0 24 (dk_at dksX8_minuteOn_6 13 rfl rfl)
theorem dX8_minuteOn_158 : decode cX8_minuteOn 158 = .ok (.iload 4, 2) := dk_21 4 (dk_at dksX8_minuteOn_6 16 rfl rfl)
theorem dX8_minuteOn_160 : decode cX8_minuteOn 160 = .ok (.iload_n 3, 1) := dk_29 (dk_at dksX8_minuteOn_6 18 rfl rfl)
theorem dX8_minuteOn_161 : decode cX8_minuteOn 161 = .ok (.iload 4, 2) := dk_21 4 (dk_at dksX8_minuteOn_6 19 rfl rfl)
theorem dX8_minuteOn_163 : decode cX8_minuteOn 163 = .ok (.invokestatic 54, 3) := dk_184 0 54 (dk_at dksX8_minuteOn_6 21 rfl rfl)
theorem dX8_minuteOn_166 : decode cX8_minuteOn 166 = .ok (.ifCond .eq 7, 3) := dk_153 0 7 (dk_at dksX8_minuteOn_7 0 rfl rfl)
theorem dX8_minuteOn_169 : decode cX8_minuteOn 169 = .ok (.iconst 1, 1) := dk_4 (dk_at dksX8_minuteOn_7 3 rfl rfl)
theorem dX8_minuteOn_170 : decode cX8_minuteOn 170 = .ok (.goto 10, 3) := dk_167 0 10 (dk_at dksX8_minuteOn_7 4 rfl rfl)
theorem dX8_minuteOn_173 : decode cX8_minuteOn 173 = .ok (.aload_n 0, 1) := dk_42 (dk_at dksX8_minuteOn_7 7 rfl rfl)
theorem dX8_minuteOn_174 : decode cX8_minuteOn 174 = .ok (.getfield 24, 3) := dk_180 0 24 (dk_at dksX8_minuteOn_7 8 rfl rfl)
theorem dX8_minuteOn_177 : decode cX8_minuteOn 177 = .ok (.iload 4, 2) := dk_21 4 (dk_at dksX8_minuteOn_7 11 rfl rfl)
theorem dX8_minuteOn_179 : decode cX8_minuteOn 179 = .ok (.iaload, 1) := dk_46 (dk_at dksX8_minuteOn_7 13 rfl rfl)
theorem dX8_minuteOn_180 : decode cX8_minuteOn 180 = .ok (.iastore, 1) := dk_79 (dk_at dksX8_minuteOn_7 14 rfl rfl)
theorem dX8_minuteOn_181 : decode cX8_minuteOn 181 = .ok (.iinc 4 1, 3) := dk_132 4 1 (dk_at dksX8_minuteOn_7 15 rfl rfl)
theorem dX8_minuteOn_184 : decode cX8_minuteOn 184 = .ok (.goto (-39), 3) := dk_167 255 217 (dk_at dksX8_minuteOn_7 18 rfl rfl)
theorem dX8_minuteOn_187 : decode cX8_minuteOn 187 = .ok (.return_, 1) := dk_177 (dk_at dksX8_minuteOn_7 21 rfl rfl)
abbrev cX8_isHeld : ByteArray := prog_16_method_6_code
def yX8_isHeld : MethodName := ⟨RX8, "isHeld", "(I)Z"⟩
def dkwX8_isHeld_1 : List UInt8 := [153, 0, 7, 4, 167, 0, 4, 3, 172]
abbrev dktX8_isHeld_1 : List UInt8 := dkwX8_isHeld_1 ++ []
def dkwX8_isHeld_0 : List UInt8 := [42, 27, 182, 0, 50, 153, 0, 26, 42, 180, 0, 41, 27, 184, 0, 54, 154, 0, 11, 42, 27, 182, 0, 58]
abbrev dktX8_isHeld_0 : List UInt8 := dkwX8_isHeld_0 ++ dktX8_isHeld_1
theorem dksX8_isHeld_0 : cX8_isHeld.data.toList.drop 0 = dktX8_isHeld_0 := by decide +kernel
theorem dksX8_isHeld_1 : cX8_isHeld.data.toList.drop 24 = dktX8_isHeld_1 := dk_seg dksX8_isHeld_0 24 rfl rfl
theorem dX8_isHeld_0 : decode cX8_isHeld 0 = .ok (.aload_n 0, 1) := dk_42 (dk_at dksX8_isHeld_0 0 rfl rfl)
theorem dX8_isHeld_1 : decode cX8_isHeld 1 = .ok (.iload_n 1, 1) := dk_27 (dk_at dksX8_isHeld_0 1 rfl rfl)
theorem dX8_isHeld_2 : decode cX8_isHeld 2 = .ok (.invokevirtual 50, 3) := dk_182 0 50 (dk_at dksX8_isHeld_0 2 rfl rfl)
theorem dX8_isHeld_5 : decode cX8_isHeld 5 = .ok (.ifCond .eq 26, 3) := dk_153 0 26 (dk_at dksX8_isHeld_0 5 rfl rfl)
theorem dX8_isHeld_8 : decode cX8_isHeld 8 = .ok (.aload_n 0, 1) := dk_42 (dk_at dksX8_isHeld_0 8 rfl rfl)
theorem dX8_isHeld_9 : decode cX8_isHeld 9 = .ok (.getfield 41, 3) := dk_180 0 41 (dk_at dksX8_isHeld_0 9 rfl rfl)
theorem dX8_isHeld_12 : decode cX8_isHeld 12 = .ok (.iload_n 1, 1) := dk_27 (dk_at dksX8_isHeld_0 12 rfl rfl)
theorem dX8_isHeld_13 : decode cX8_isHeld 13 = .ok (.invokestatic 54, 3) := dk_184 0 54 (dk_at dksX8_isHeld_0 13 rfl rfl)
theorem dX8_isHeld_16 : decode cX8_isHeld 16 = .ok (.ifCond .ne 11, 3) := dk_154 0 11 (dk_at dksX8_isHeld_0 16 rfl rfl)
theorem dX8_isHeld_19 : decode cX8_isHeld 19 = .ok (.aload_n 0, 1) := dk_42 (dk_at dksX8_isHeld_0 19 rfl rfl)
theorem dX8_isHeld_20 : decode cX8_isHeld 20 = .ok (.iload_n 1, 1) := dk_27 (dk_at dksX8_isHeld_0 20 rfl rfl)
theorem dX8_isHeld_21 : decode cX8_isHeld 21 = .ok (.invokevirtual 58, 3) := dk_182 0 58 (dk_at dksX8_isHeld_0 21 rfl rfl)
theorem dX8_isHeld_24 : decode cX8_isHeld 24 = .ok (.ifCond .eq 7, 3) := dk_153 0 7 (dk_at dksX8_isHeld_1 0 rfl rfl)
theorem dX8_isHeld_27 : decode cX8_isHeld 27 = .ok (.iconst 1, 1) := dk_4 (dk_at dksX8_isHeld_1 3 rfl rfl)
theorem dX8_isHeld_28 : decode cX8_isHeld 28 = .ok (.goto 4, 3) := dk_167 0 4 (dk_at dksX8_isHeld_1 4 rfl rfl)
theorem dX8_isHeld_31 : decode cX8_isHeld 31 = .ok (.iconst 0, 1) := dk_3 (dk_at dksX8_isHeld_1 7 rfl rfl)
theorem dX8_isHeld_32 : decode cX8_isHeld 32 = .ok (.ireturn, 1) := dk_172 (dk_at dksX8_isHeld_1 8 rfl rfl)
abbrev cX8_hasUnder : ByteArray := prog_16_method_5_code
def yX8_hasUnder : MethodName := ⟨RX8, "hasUnder", "(I)Z"⟩
def dkwX8_hasUnder_1 : List UInt8 := [46, 182, 0, 50, 172]
abbrev dktX8_hasUnder_1 : List UInt8 := dkwX8_hasUnder_1 ++ []
def dkwX8_hasUnder_0 : List UInt8 := [42, 180, 0, 21, 27, 46, 16, 247, 160, 0, 10, 42, 180, 0, 30, 167, 0, 13, 42, 42, 180, 0, 21, 27]
abbrev dktX8_hasUnder_0 : List UInt8 := dkwX8_hasUnder_0 ++ dktX8_hasUnder_1
theorem dksX8_hasUnder_0 : cX8_hasUnder.data.toList.drop 0 = dktX8_hasUnder_0 := by decide +kernel
theorem dksX8_hasUnder_1 : cX8_hasUnder.data.toList.drop 24 = dktX8_hasUnder_1 := dk_seg dksX8_hasUnder_0 24 rfl rfl
theorem dX8_hasUnder_0 : decode cX8_hasUnder 0 = .ok (.aload_n 0, 1) := dk_42 (dk_at dksX8_hasUnder_0 0 rfl rfl)
theorem dX8_hasUnder_1 : decode cX8_hasUnder 1 = .ok (.getfield 21, 3) := dk_180 0 21 (dk_at dksX8_hasUnder_0 1 rfl rfl)
theorem dX8_hasUnder_4 : decode cX8_hasUnder 4 = .ok (.iload_n 1, 1) := dk_27 (dk_at dksX8_hasUnder_0 4 rfl rfl)
theorem dX8_hasUnder_5 : decode cX8_hasUnder 5 = .ok (.iaload, 1) := dk_46 (dk_at dksX8_hasUnder_0 5 rfl rfl)
theorem dX8_hasUnder_6 : decode cX8_hasUnder 6 = .ok (.bipush (-9), 2) := dk_16 247 (dk_at dksX8_hasUnder_0 6 rfl rfl)
theorem dX8_hasUnder_8 : decode cX8_hasUnder 8 = .ok (.if_icmp .ne 10, 3) := dk_160 0 10 (dk_at dksX8_hasUnder_0 8 rfl rfl)
theorem dX8_hasUnder_11 : decode cX8_hasUnder 11 = .ok (.aload_n 0, 1) := dk_42 (dk_at dksX8_hasUnder_0 11 rfl rfl)
theorem dX8_hasUnder_12 : decode cX8_hasUnder 12 = .ok (.getfield 30, 3) := dk_180 0 30 (dk_at dksX8_hasUnder_0 12 rfl rfl)
theorem dX8_hasUnder_15 : decode cX8_hasUnder 15 = .ok (.goto 13, 3) := dk_167 0 13 (dk_at dksX8_hasUnder_0 15 rfl rfl)
theorem dX8_hasUnder_18 : decode cX8_hasUnder 18 = .ok (.aload_n 0, 1) := dk_42 (dk_at dksX8_hasUnder_0 18 rfl rfl)
theorem dX8_hasUnder_19 : decode cX8_hasUnder 19 = .ok (.aload_n 0, 1) := dk_42 (dk_at dksX8_hasUnder_0 19 rfl rfl)
theorem dX8_hasUnder_20 : decode cX8_hasUnder 20 = .ok (.getfield 21, 3) := dk_180 0 21 (dk_at dksX8_hasUnder_0 20 rfl rfl)
theorem dX8_hasUnder_23 : decode cX8_hasUnder 23 = .ok (.iload_n 1, 1) := dk_27 (dk_at dksX8_hasUnder_0 23 rfl rfl)
theorem dX8_hasUnder_24 : decode cX8_hasUnder 24 = .ok (.iaload, 1) := dk_46 (dk_at dksX8_hasUnder_1 0 rfl rfl)
theorem dX8_hasUnder_25 : decode cX8_hasUnder 25 = .ok (.invokevirtual 50, 3) := dk_182 0 50 (dk_at dksX8_hasUnder_1 1 rfl rfl)
theorem dX8_hasUnder_28 : decode cX8_hasUnder 28 = .ok (.ireturn, 1) := dk_172 (dk_at dksX8_hasUnder_1 4 rfl rfl)
abbrev cX8_habit : ByteArray := prog_16_method_7_code
def yX8_habit : MethodName := ⟨RX8, "habit", "(I)I"⟩
def dkwX8_habit_1 : List UInt8 := [153, 0, 7, 4, 167, 0, 4, 3, 182, 0, 65, 172]
abbrev dktX8_habit_1 : List UInt8 := dkwX8_habit_1 ++ []
def dkwX8_habit_0 : List UInt8 := [42, 180, 0, 11, 27, 50, 42, 180, 0, 17, 27, 46, 42, 4, 182, 0, 61, 4, 27, 120, 2, 130, 126]
abbrev dktX8_habit_0 : List UInt8 := dkwX8_habit_0 ++ dktX8_habit_1
theorem dksX8_habit_0 : cX8_habit.data.toList.drop 0 = dktX8_habit_0 := by decide +kernel
theorem dksX8_habit_1 : cX8_habit.data.toList.drop 23 = dktX8_habit_1 := dk_seg dksX8_habit_0 23 rfl rfl
theorem dX8_habit_0 : decode cX8_habit 0 = .ok (.aload_n 0, 1) := dk_42 (dk_at dksX8_habit_0 0 rfl rfl)
theorem dX8_habit_1 : decode cX8_habit 1 = .ok (.getfield 11, 3) := dk_180 0 11 (dk_at dksX8_habit_0 1 rfl rfl)
theorem dX8_habit_4 : decode cX8_habit 4 = .ok (.iload_n 1, 1) := dk_27 (dk_at dksX8_habit_0 4 rfl rfl)
theorem dX8_habit_5 : decode cX8_habit 5 = .ok (.aaload, 1) := dk_50 (dk_at dksX8_habit_0 5 rfl rfl)
theorem dX8_habit_6 : decode cX8_habit 6 = .ok (.aload_n 0, 1) := dk_42 (dk_at dksX8_habit_0 6 rfl rfl)
theorem dX8_habit_7 : decode cX8_habit 7 = .ok (.getfield 17, 3) := dk_180 0 17 (dk_at dksX8_habit_0 7 rfl rfl)
theorem dX8_habit_10 : decode cX8_habit 10 = .ok (.iload_n 1, 1) := dk_27 (dk_at dksX8_habit_0 10 rfl rfl)
theorem dX8_habit_11 : decode cX8_habit 11 = .ok (.iaload, 1) := dk_46 (dk_at dksX8_habit_0 11 rfl rfl)
theorem dX8_habit_12 : decode cX8_habit 12 = .ok (.aload_n 0, 1) := dk_42 (dk_at dksX8_habit_0 12 rfl rfl)
theorem dX8_habit_13 : decode cX8_habit 13 = .ok (.iconst 1, 1) := dk_4 (dk_at dksX8_habit_0 13 rfl rfl)
theorem dX8_habit_14 : decode cX8_habit 14 = .ok (.invokevirtual 61, 3) := dk_182 0 61 (dk_at dksX8_habit_0 14 rfl rfl)
theorem dX8_habit_17 : decode cX8_habit 17 = .ok (.iconst 1, 1) := dk_4 (dk_at dksX8_habit_0 17 rfl rfl)
theorem dX8_habit_18 : decode cX8_habit 18 = .ok (.iload_n 1, 1) := dk_27 (dk_at dksX8_habit_0 18 rfl rfl)
theorem dX8_habit_19 : decode cX8_habit 19 = .ok (.ishl, 1) := dk_120 (dk_at dksX8_habit_0 19 rfl rfl)
theorem dX8_habit_20 : decode cX8_habit 20 = .ok (.iconst (-1), 1) := dk_2 (dk_at dksX8_habit_0 20 rfl rfl)
theorem dX8_habit_21 : decode cX8_habit 21 = .ok (.ixor, 1) := dk_130 (dk_at dksX8_habit_0 21 rfl rfl)
theorem dX8_habit_22 : decode cX8_habit 22 = .ok (.iand, 1) := dk_126 (dk_at dksX8_habit_0 22 rfl rfl)
theorem dX8_habit_23 : decode cX8_habit 23 = .ok (.ifCond .eq 7, 3) := dk_153 0 7 (dk_at dksX8_habit_1 0 rfl rfl)
theorem dX8_habit_26 : decode cX8_habit 26 = .ok (.iconst 1, 1) := dk_4 (dk_at dksX8_habit_1 3 rfl rfl)
theorem dX8_habit_27 : decode cX8_habit 27 = .ok (.goto 4, 3) := dk_167 0 4 (dk_at dksX8_habit_1 4 rfl rfl)
theorem dX8_habit_30 : decode cX8_habit 30 = .ok (.iconst 0, 1) := dk_3 (dk_at dksX8_habit_1 7 rfl rfl)
theorem dX8_habit_31 : decode cX8_habit 31 = .ok (.invokevirtual 65, 3) := dk_182 0 65 (dk_at dksX8_habit_1 8 rfl rfl)
theorem dX8_habit_34 : decode cX8_habit 34 = .ok (.ireturn, 1) := dk_172 (dk_at dksX8_habit_1 11 rfl rfl)
abbrev cX8_bits : ByteArray := prog_16_method_4_code
def yX8_bits : MethodName := ⟨RX8, "bits", "(I)I"⟩
def dkwX8_bits_1 : List UInt8 := [29, 120, 167, 0, 4, 3, 128, 61, 132, 3, 1, 167, 255, 225, 28, 172]
abbrev dktX8_bits_1 : List UInt8 := dkwX8_bits_1 ++ []
def dkwX8_bits_0 : List UInt8 := [3, 61, 3, 62, 29, 42, 180, 0, 34, 162, 0, 29, 28, 42, 180, 0, 24, 29, 46, 27, 160, 0, 9, 4]
abbrev dktX8_bits_0 : List UInt8 := dkwX8_bits_0 ++ dktX8_bits_1
theorem dksX8_bits_0 : cX8_bits.data.toList.drop 0 = dktX8_bits_0 := by decide +kernel
theorem dksX8_bits_1 : cX8_bits.data.toList.drop 24 = dktX8_bits_1 := dk_seg dksX8_bits_0 24 rfl rfl
theorem dX8_bits_0 : decode cX8_bits 0 = .ok (.iconst 0, 1) := dk_3 (dk_at dksX8_bits_0 0 rfl rfl)
theorem dX8_bits_1 : decode cX8_bits 1 = .ok (.istore_n 2, 1) := dk_61 (dk_at dksX8_bits_0 1 rfl rfl)
theorem dX8_bits_2 : decode cX8_bits 2 = .ok (.iconst 0, 1) := dk_3 (dk_at dksX8_bits_0 2 rfl rfl)
theorem dX8_bits_3 : decode cX8_bits 3 = .ok (.istore_n 3, 1) := dk_62 (dk_at dksX8_bits_0 3 rfl rfl)
theorem dX8_bits_4 : decode cX8_bits 4 = .ok (.iload_n 3, 1) := dk_29 (dk_at dksX8_bits_0 4 rfl rfl)
theorem dX8_bits_5 : decode cX8_bits 5 = .ok (.aload_n 0, 1) := dk_42 (dk_at dksX8_bits_0 5 rfl rfl)
theorem dX8_bits_6 : decode cX8_bits 6 = .ok (.getfield 34, 3) := dk_180 0 34 (dk_at dksX8_bits_0 6 rfl rfl)
theorem dX8_bits_9 : decode cX8_bits 9 = .ok (.if_icmp .ge 29, 3) := dk_162 0 29 (dk_at dksX8_bits_0 9 rfl rfl)
theorem dX8_bits_12 : decode cX8_bits 12 = .ok (.iload_n 2, 1) := dk_28 (dk_at dksX8_bits_0 12 rfl rfl)
theorem dX8_bits_13 : decode cX8_bits 13 = .ok (.aload_n 0, 1) := dk_42 (dk_at dksX8_bits_0 13 rfl rfl)
theorem dX8_bits_14 : decode cX8_bits 14 = .ok (.getfield 24, 3) := dk_180 0 24 (dk_at dksX8_bits_0 14 rfl rfl)
theorem dX8_bits_17 : decode cX8_bits 17 = .ok (.iload_n 3, 1) := dk_29 (dk_at dksX8_bits_0 17 rfl rfl)
theorem dX8_bits_18 : decode cX8_bits 18 = .ok (.iaload, 1) := dk_46 (dk_at dksX8_bits_0 18 rfl rfl)
theorem dX8_bits_19 : decode cX8_bits 19 = .ok (.iload_n 1, 1) := dk_27 (dk_at dksX8_bits_0 19 rfl rfl)
theorem dX8_bits_20 : decode cX8_bits 20 = .ok (.if_icmp .ne 9, 3) := dk_160 0 9 (dk_at dksX8_bits_0 20 rfl rfl)
theorem dX8_bits_23 : decode cX8_bits 23 = .ok (.iconst 1, 1) := dk_4 (dk_at dksX8_bits_0 23 rfl rfl)
theorem dX8_bits_24 : decode cX8_bits 24 = .ok (.iload_n 3, 1) := dk_29 (dk_at dksX8_bits_1 0 rfl rfl)
theorem dX8_bits_25 : decode cX8_bits 25 = .ok (.ishl, 1) := dk_120 (dk_at dksX8_bits_1 1 rfl rfl)
theorem dX8_bits_26 : decode cX8_bits 26 = .ok (.goto 4, 3) := dk_167 0 4 (dk_at dksX8_bits_1 2 rfl rfl)
theorem dX8_bits_29 : decode cX8_bits 29 = .ok (.iconst 0, 1) := dk_3 (dk_at dksX8_bits_1 5 rfl rfl)
theorem dX8_bits_30 : decode cX8_bits 30 = .ok (.ior, 1) := dk_128 (dk_at dksX8_bits_1 6 rfl rfl)
theorem dX8_bits_31 : decode cX8_bits 31 = .ok (.istore_n 2, 1) := dk_61 (dk_at dksX8_bits_1 7 rfl rfl)
theorem dX8_bits_32 : decode cX8_bits 32 = .ok (.iinc 3 1, 3) := dk_132 3 1 (dk_at dksX8_bits_1 8 rfl rfl)
theorem dX8_bits_35 : decode cX8_bits 35 = .ok (.goto (-31), 3) := dk_167 255 225 (dk_at dksX8_bits_1 11 rfl rfl)
theorem dX8_bits_38 : decode cX8_bits 38 = .ok (.iload_n 2, 1) := dk_28 (dk_at dksX8_bits_1 14 rfl rfl)
theorem dX8_bits_39 : decode cX8_bits 39 = .ok (.ireturn, 1) := dk_172 (dk_at dksX8_bits_1 15 rfl rfl)
abbrev cX8_pull : ByteArray := prog_16_method_10_code
def yX8_pull : MethodName := ⟨RX8, "pull", "(II)I"⟩
def dkwX8_pull_0 : List UInt8 := [42, 180, 0, 24, 27, 5, 79, 42, 27, 28, 182, 0, 73, 172]
abbrev dktX8_pull_0 : List UInt8 := dkwX8_pull_0 ++ []
theorem dksX8_pull_0 : cX8_pull.data.toList.drop 0 = dktX8_pull_0 := by decide +kernel
theorem dX8_pull_0 : decode cX8_pull 0 = .ok (.aload_n 0, 1) := dk_42 (dk_at dksX8_pull_0 0 rfl rfl)
theorem dX8_pull_1 : decode cX8_pull 1 = .ok (.getfield 24, 3) := dk_180 0 24 (dk_at dksX8_pull_0 1 rfl rfl)
theorem dX8_pull_4 : decode cX8_pull 4 = .ok (.iload_n 1, 1) := dk_27 (dk_at dksX8_pull_0 4 rfl rfl)
theorem dX8_pull_5 : decode cX8_pull 5 = .ok (.iconst 2, 1) := dk_5 (dk_at dksX8_pull_0 5 rfl rfl)
theorem dX8_pull_6 : decode cX8_pull 6 = .ok (.iastore, 1) := dk_79 (dk_at dksX8_pull_0 6 rfl rfl)
theorem dX8_pull_7 : decode cX8_pull 7 = .ok (.aload_n 0, 1) := dk_42 (dk_at dksX8_pull_0 7 rfl rfl)
theorem dX8_pull_8 : decode cX8_pull 8 = .ok (.iload_n 1, 1) := dk_27 (dk_at dksX8_pull_0 8 rfl rfl)
theorem dX8_pull_9 : decode cX8_pull 9 = .ok (.iload_n 2, 1) := dk_28 (dk_at dksX8_pull_0 9 rfl rfl)
theorem dX8_pull_10 : decode cX8_pull 10 = .ok (.invokevirtual 73, 3) := dk_182 0 73 (dk_at dksX8_pull_0 10 rfl rfl)
theorem dX8_pull_13 : decode cX8_pull 13 = .ok (.ireturn, 1) := dk_172 (dk_at dksX8_pull_0 13 rfl rfl)
abbrev cX8_setUp : ByteArray := prog_16_method_12_code
def yX8_setUp : MethodName := ⟨RX8, "setUp", "(I)V"⟩
def dkwX8_setUp_0 : List UInt8 := [42, 180, 0, 24, 27, 3, 79, 42, 180, 0, 27, 27, 3, 79, 177]
abbrev dktX8_setUp_0 : List UInt8 := dkwX8_setUp_0 ++ []
theorem dksX8_setUp_0 : cX8_setUp.data.toList.drop 0 = dktX8_setUp_0 := by decide +kernel
theorem dX8_setUp_0 : decode cX8_setUp 0 = .ok (.aload_n 0, 1) := dk_42 (dk_at dksX8_setUp_0 0 rfl rfl)
theorem dX8_setUp_1 : decode cX8_setUp 1 = .ok (.getfield 24, 3) := dk_180 0 24 (dk_at dksX8_setUp_0 1 rfl rfl)
theorem dX8_setUp_4 : decode cX8_setUp 4 = .ok (.iload_n 1, 1) := dk_27 (dk_at dksX8_setUp_0 4 rfl rfl)
theorem dX8_setUp_5 : decode cX8_setUp 5 = .ok (.iconst 0, 1) := dk_3 (dk_at dksX8_setUp_0 5 rfl rfl)
theorem dX8_setUp_6 : decode cX8_setUp 6 = .ok (.iastore, 1) := dk_79 (dk_at dksX8_setUp_0 6 rfl rfl)
theorem dX8_setUp_7 : decode cX8_setUp 7 = .ok (.aload_n 0, 1) := dk_42 (dk_at dksX8_setUp_0 7 rfl rfl)
theorem dX8_setUp_8 : decode cX8_setUp 8 = .ok (.getfield 27, 3) := dk_180 0 27 (dk_at dksX8_setUp_0 8 rfl rfl)
theorem dX8_setUp_11 : decode cX8_setUp 11 = .ok (.iload_n 1, 1) := dk_27 (dk_at dksX8_setUp_0 11 rfl rfl)
theorem dX8_setUp_12 : decode cX8_setUp 12 = .ok (.iconst 0, 1) := dk_3 (dk_at dksX8_setUp_0 12 rfl rfl)
theorem dX8_setUp_13 : decode cX8_setUp 13 = .ok (.iastore, 1) := dk_79 (dk_at dksX8_setUp_0 13 rfl rfl)
theorem dX8_setUp_14 : decode cX8_setUp 14 = .ok (.return_, 1) := dk_177 (dk_at dksX8_setUp_0 14 rfl rfl)
abbrev cX8_standing : ByteArray := prog_16_method_15_code
def yX8_standing : MethodName := ⟨RX8, "standing", "()I"⟩
def dkwX8_standing_0 : List UInt8 := [42, 3, 182, 0, 61, 184, 0, 86, 172]
abbrev dktX8_standing_0 : List UInt8 := dkwX8_standing_0 ++ []
theorem dksX8_standing_0 : cX8_standing.data.toList.drop 0 = dktX8_standing_0 := by decide +kernel
theorem dX8_standing_0 : decode cX8_standing 0 = .ok (.aload_n 0, 1) := dk_42 (dk_at dksX8_standing_0 0 rfl rfl)
theorem dX8_standing_1 : decode cX8_standing 1 = .ok (.iconst 0, 1) := dk_3 (dk_at dksX8_standing_0 1 rfl rfl)
theorem dX8_standing_2 : decode cX8_standing 2 = .ok (.invokevirtual 61, 3) := dk_182 0 61 (dk_at dksX8_standing_0 2 rfl rfl)
theorem dX8_standing_5 : decode cX8_standing 5 = .ok (.invokestatic 86, 3) := dk_184 0 86 (dk_at dksX8_standing_0 5 rfl rfl)
theorem dX8_standing_8 : decode cX8_standing 8 = .ok (.ireturn, 1) := dk_172 (dk_at dksX8_standing_0 8 rfl rfl)
abbrev cX8_height : ByteArray := prog_16_method_16_code
def yX8_height : MethodName := ⟨RX8, "height", "(I)I"⟩
def dkwX8_height_1 : List UInt8 := [62, 167, 255, 240, 28, 172]
abbrev dktX8_height_1 : List UInt8 := dkwX8_height_1 ++ []
def dkwX8_height_0 : List UInt8 := [3, 61, 42, 180, 0, 21, 27, 46, 62, 29, 16, 247, 159, 0, 16, 132, 2, 1, 42, 180, 0, 21, 29, 46]
abbrev dktX8_height_0 : List UInt8 := dkwX8_height_0 ++ dktX8_height_1
theorem dksX8_height_0 : cX8_height.data.toList.drop 0 = dktX8_height_0 := by decide +kernel
theorem dksX8_height_1 : cX8_height.data.toList.drop 24 = dktX8_height_1 := dk_seg dksX8_height_0 24 rfl rfl
theorem dX8_height_0 : decode cX8_height 0 = .ok (.iconst 0, 1) := dk_3 (dk_at dksX8_height_0 0 rfl rfl)
theorem dX8_height_1 : decode cX8_height 1 = .ok (.istore_n 2, 1) := dk_61 (dk_at dksX8_height_0 1 rfl rfl)
theorem dX8_height_2 : decode cX8_height 2 = .ok (.aload_n 0, 1) := dk_42 (dk_at dksX8_height_0 2 rfl rfl)
theorem dX8_height_3 : decode cX8_height 3 = .ok (.getfield 21, 3) := dk_180 0 21 (dk_at dksX8_height_0 3 rfl rfl)
theorem dX8_height_6 : decode cX8_height 6 = .ok (.iload_n 1, 1) := dk_27 (dk_at dksX8_height_0 6 rfl rfl)
theorem dX8_height_7 : decode cX8_height 7 = .ok (.iaload, 1) := dk_46 (dk_at dksX8_height_0 7 rfl rfl)
theorem dX8_height_8 : decode cX8_height 8 = .ok (.istore_n 3, 1) := dk_62 (dk_at dksX8_height_0 8 rfl rfl)
theorem dX8_height_9 : decode cX8_height 9 = .ok (.iload_n 3, 1) := dk_29 (dk_at dksX8_height_0 9 rfl rfl)
theorem dX8_height_10 : decode cX8_height 10 = .ok (.bipush (-9), 2) := dk_16 247 (dk_at dksX8_height_0 10 rfl rfl)
theorem dX8_height_12 : decode cX8_height 12 = .ok (.if_icmp .eq 16, 3) := dk_159 0 16 (dk_at dksX8_height_0 12 rfl rfl)
theorem dX8_height_15 : decode cX8_height 15 = .ok (.iinc 2 1, 3) := dk_132 2 1 (dk_at dksX8_height_0 15 rfl rfl)
theorem dX8_height_18 : decode cX8_height 18 = .ok (.aload_n 0, 1) := dk_42 (dk_at dksX8_height_0 18 rfl rfl)
theorem dX8_height_19 : decode cX8_height 19 = .ok (.getfield 21, 3) := dk_180 0 21 (dk_at dksX8_height_0 19 rfl rfl)
theorem dX8_height_22 : decode cX8_height 22 = .ok (.iload_n 3, 1) := dk_29 (dk_at dksX8_height_0 22 rfl rfl)
theorem dX8_height_23 : decode cX8_height 23 = .ok (.iaload, 1) := dk_46 (dk_at dksX8_height_0 23 rfl rfl)
theorem dX8_height_24 : decode cX8_height 24 = .ok (.istore_n 3, 1) := dk_62 (dk_at dksX8_height_1 0 rfl rfl)
theorem dX8_height_25 : decode cX8_height 25 = .ok (.goto (-16), 3) := dk_167 255 240 (dk_at dksX8_height_1 1 rfl rfl)
theorem dX8_height_28 : decode cX8_height 28 = .ok (.iload_n 2, 1) := dk_28 (dk_at dksX8_height_1 4 rfl rfl)
theorem dX8_height_29 : decode cX8_height 29 = .ok (.ireturn, 1) := dk_172 (dk_at dksX8_height_1 5 rfl rfl)
abbrev cX8_above : ByteArray := prog_16_method_18_code
def yX8_above : MethodName := ⟨RX8, "above", "(I)I"⟩
def dkwX8_above_3 : List UInt8 := [132, 3, 1, 167, 255, 189, 28, 172]
abbrev dktX8_above_3 : List UInt8 := dkwX8_above_3 ++ []
def dkwX8_above_2 : List UInt8 := [4, 167, 0, 4, 3, 54, 4, 28, 21, 4, 153, 0, 9, 4, 29, 120, 167, 0, 4, 3, 128, 61]
abbrev dktX8_above_2 : List UInt8 := dkwX8_above_2 ++ dktX8_above_3
def dkwX8_above_1 : List UInt8 := [42, 180, 0, 21, 29, 46, 16, 247, 159, 0, 20, 28, 42, 180, 0, 21, 29, 46, 184, 0, 54, 153, 0, 7]
abbrev dktX8_above_1 : List UInt8 := dkwX8_above_1 ++ dktX8_above_2
def dkwX8_above_0 : List UInt8 := [3, 61, 27, 4, 96, 62, 29, 42, 180, 0, 34, 162, 0, 65, 42, 180, 0, 21, 29, 46, 27, 159, 0, 27]
abbrev dktX8_above_0 : List UInt8 := dkwX8_above_0 ++ dktX8_above_1
theorem dksX8_above_0 : cX8_above.data.toList.drop 0 = dktX8_above_0 := by decide +kernel
theorem dksX8_above_1 : cX8_above.data.toList.drop 24 = dktX8_above_1 := dk_seg dksX8_above_0 24 rfl rfl
theorem dksX8_above_2 : cX8_above.data.toList.drop 48 = dktX8_above_2 := dk_seg dksX8_above_1 24 rfl rfl
theorem dksX8_above_3 : cX8_above.data.toList.drop 70 = dktX8_above_3 := dk_seg dksX8_above_2 22 rfl rfl
theorem dX8_above_0 : decode cX8_above 0 = .ok (.iconst 0, 1) := dk_3 (dk_at dksX8_above_0 0 rfl rfl)
theorem dX8_above_1 : decode cX8_above 1 = .ok (.istore_n 2, 1) := dk_61 (dk_at dksX8_above_0 1 rfl rfl)
theorem dX8_above_2 : decode cX8_above 2 = .ok (.iload_n 1, 1) := dk_27 (dk_at dksX8_above_0 2 rfl rfl)
theorem dX8_above_3 : decode cX8_above 3 = .ok (.iconst 1, 1) := dk_4 (dk_at dksX8_above_0 3 rfl rfl)
theorem dX8_above_4 : decode cX8_above 4 = .ok (.iadd, 1) := dk_96 (dk_at dksX8_above_0 4 rfl rfl)
theorem dX8_above_5 : decode cX8_above 5 = .ok (.istore_n 3, 1) := dk_62 (dk_at dksX8_above_0 5 rfl rfl)
theorem dX8_above_6 : decode cX8_above 6 = .ok (.iload_n 3, 1) := dk_29 (dk_at dksX8_above_0 6 rfl rfl)
theorem dX8_above_7 : decode cX8_above 7 = .ok (.aload_n 0, 1) := dk_42 (dk_at dksX8_above_0 7 rfl rfl)
theorem dX8_above_8 : decode cX8_above 8 = .ok (.getfield 34, 3) := dk_180 0 34 (dk_at dksX8_above_0 8 rfl rfl)
theorem dX8_above_11 : decode cX8_above 11 = .ok (.if_icmp .ge 65, 3) := dk_162 0 65 (dk_at dksX8_above_0 11 rfl rfl)
theorem dX8_above_14 : decode cX8_above 14 = .ok (.aload_n 0, 1) := dk_42 (dk_at dksX8_above_0 14 rfl rfl)
theorem dX8_above_15 : decode cX8_above 15 = .ok (.getfield 21, 3) := dk_180 0 21 (dk_at dksX8_above_0 15 rfl rfl)
theorem dX8_above_18 : decode cX8_above 18 = .ok (.iload_n 3, 1) := dk_29 (dk_at dksX8_above_0 18 rfl rfl)
theorem dX8_above_19 : decode cX8_above 19 = .ok (.iaload, 1) := dk_46 (dk_at dksX8_above_0 19 rfl rfl)
theorem dX8_above_20 : decode cX8_above 20 = .ok (.iload_n 1, 1) := dk_27 (dk_at dksX8_above_0 20 rfl rfl)
theorem dX8_above_21 : decode cX8_above 21 = .ok (.if_icmp .eq 27, 3) := dk_159 0 27 (dk_at dksX8_above_0 21 rfl rfl)
theorem dX8_above_24 : decode cX8_above 24 = .ok (.aload_n 0, 1) := dk_42 (dk_at dksX8_above_1 0 rfl rfl)
theorem dX8_above_25 : decode cX8_above 25 = .ok (.getfield 21, 3) := dk_180 0 21 (dk_at dksX8_above_1 1 rfl rfl)
theorem dX8_above_28 : decode cX8_above 28 = .ok (.iload_n 3, 1) := dk_29 (dk_at dksX8_above_1 4 rfl rfl)
theorem dX8_above_29 : decode cX8_above 29 = .ok (.iaload, 1) := dk_46 (dk_at dksX8_above_1 5 rfl rfl)
theorem dX8_above_30 : decode cX8_above 30 = .ok (.bipush (-9), 2) := dk_16 247 (dk_at dksX8_above_1 6 rfl rfl)
theorem dX8_above_32 : decode cX8_above 32 = .ok (.if_icmp .eq 20, 3) := dk_159 0 20 (dk_at dksX8_above_1 8 rfl rfl)
theorem dX8_above_35 : decode cX8_above 35 = .ok (.iload_n 2, 1) := dk_28 (dk_at dksX8_above_1 11 rfl rfl)
theorem dX8_above_36 : decode cX8_above 36 = .ok (.aload_n 0, 1) := dk_42 (dk_at dksX8_above_1 12 rfl rfl)
theorem dX8_above_37 : decode cX8_above 37 = .ok (.getfield 21, 3) := dk_180 0 21 (dk_at dksX8_above_1 13 rfl rfl)
theorem dX8_above_40 : decode cX8_above 40 = .ok (.iload_n 3, 1) := dk_29 (dk_at dksX8_above_1 16 rfl rfl)
theorem dX8_above_41 : decode cX8_above 41 = .ok (.iaload, 1) := dk_46 (dk_at dksX8_above_1 17 rfl rfl)
theorem dX8_above_42 : decode cX8_above 42 = .ok (.invokestatic 54, 3) := dk_184 0 54 (dk_at dksX8_above_1 18 rfl rfl)
theorem dX8_above_45 : decode cX8_above 45 = .ok (.ifCond .eq 7, 3) := dk_153 0 7 (dk_at dksX8_above_1 21 rfl rfl)
theorem dX8_above_48 : decode cX8_above 48 = .ok (.iconst 1, 1) := dk_4 (dk_at dksX8_above_2 0 rfl rfl)
theorem dX8_above_49 : decode cX8_above 49 = .ok (.goto 4, 3) := dk_167 0 4 (dk_at dksX8_above_2 1 rfl rfl)
theorem dX8_above_52 : decode cX8_above 52 = .ok (.iconst 0, 1) := dk_3 (dk_at dksX8_above_2 4 rfl rfl)
theorem dX8_above_53 : decode cX8_above 53 = .ok (.istore 4, 2) := dk_54 4 (dk_at dksX8_above_2 5 rfl rfl)
theorem dX8_above_55 : decode cX8_above 55 = .ok (.iload_n 2, 1) := dk_28 (dk_at dksX8_above_2 7 rfl rfl)
theorem dX8_above_56 : decode cX8_above 56 = .ok (.iload 4, 2) := dk_21 4 (dk_at dksX8_above_2 8 rfl rfl)
theorem dX8_above_58 : decode cX8_above 58 = .ok (.ifCond .eq 9, 3) := dk_153 0 9 (dk_at dksX8_above_2 10 rfl rfl)
theorem dX8_above_61 : decode cX8_above 61 = .ok (.iconst 1, 1) := dk_4 (dk_at dksX8_above_2 13 rfl rfl)
theorem dX8_above_62 : decode cX8_above 62 = .ok (.iload_n 3, 1) := dk_29 (dk_at dksX8_above_2 14 rfl rfl)
theorem dX8_above_63 : decode cX8_above 63 = .ok (.ishl, 1) := dk_120 (dk_at dksX8_above_2 15 rfl rfl)
theorem dX8_above_64 : decode cX8_above 64 = .ok (.goto 4, 3) := dk_167 0 4 (dk_at dksX8_above_2 16 rfl rfl)
theorem dX8_above_67 : decode cX8_above 67 = .ok (.iconst 0, 1) := dk_3 (dk_at dksX8_above_2 19 rfl rfl)
theorem dX8_above_68 : decode cX8_above 68 = .ok (.ior, 1) := dk_128 (dk_at dksX8_above_2 20 rfl rfl)
theorem dX8_above_69 : decode cX8_above 69 = .ok (.istore_n 2, 1) := dk_61 (dk_at dksX8_above_2 21 rfl rfl)
theorem dX8_above_70 : decode cX8_above 70 = .ok (.iinc 3 1, 3) := dk_132 3 1 (dk_at dksX8_above_3 0 rfl rfl)
theorem dX8_above_73 : decode cX8_above 73 = .ok (.goto (-67), 3) := dk_167 255 189 (dk_at dksX8_above_3 3 rfl rfl)
theorem dX8_above_76 : decode cX8_above 76 = .ok (.iload_n 2, 1) := dk_28 (dk_at dksX8_above_3 6 rfl rfl)
theorem dX8_above_77 : decode cX8_above 77 = .ok (.ireturn, 1) := dk_172 (dk_at dksX8_above_3 7 rfl rfl)
abbrev cX8_bottom : ByteArray := prog_16_method_17_code
def yX8_bottom : MethodName := ⟨RX8, "bottom", "(I)I"⟩
def dkwX8_bottom_1 : List UInt8 := [172]
abbrev dktX8_bottom_1 : List UInt8 := dkwX8_bottom_1 ++ []
def dkwX8_bottom_0 : List UInt8 := [27, 61, 42, 180, 0, 21, 28, 46, 16, 247, 159, 0, 13, 42, 180, 0, 21, 28, 46, 61, 167, 255, 238, 28]
abbrev dktX8_bottom_0 : List UInt8 := dkwX8_bottom_0 ++ dktX8_bottom_1
theorem dksX8_bottom_0 : cX8_bottom.data.toList.drop 0 = dktX8_bottom_0 := by decide +kernel
theorem dksX8_bottom_1 : cX8_bottom.data.toList.drop 24 = dktX8_bottom_1 := dk_seg dksX8_bottom_0 24 rfl rfl
theorem dX8_bottom_0 : decode cX8_bottom 0 = .ok (.iload_n 1, 1) := dk_27 (dk_at dksX8_bottom_0 0 rfl rfl)
theorem dX8_bottom_1 : decode cX8_bottom 1 = .ok (.istore_n 2, 1) := dk_61 (dk_at dksX8_bottom_0 1 rfl rfl)
theorem dX8_bottom_2 : decode cX8_bottom 2 = .ok (.aload_n 0, 1) := dk_42 (dk_at dksX8_bottom_0 2 rfl rfl)
theorem dX8_bottom_3 : decode cX8_bottom 3 = .ok (.getfield 21, 3) := dk_180 0 21 (dk_at dksX8_bottom_0 3 rfl rfl)
theorem dX8_bottom_6 : decode cX8_bottom 6 = .ok (.iload_n 2, 1) := dk_28 (dk_at dksX8_bottom_0 6 rfl rfl)
theorem dX8_bottom_7 : decode cX8_bottom 7 = .ok (.iaload, 1) := dk_46 (dk_at dksX8_bottom_0 7 rfl rfl)
theorem dX8_bottom_8 : decode cX8_bottom 8 = .ok (.bipush (-9), 2) := dk_16 247 (dk_at dksX8_bottom_0 8 rfl rfl)
theorem dX8_bottom_10 : decode cX8_bottom 10 = .ok (.if_icmp .eq 13, 3) := dk_159 0 13 (dk_at dksX8_bottom_0 10 rfl rfl)
theorem dX8_bottom_13 : decode cX8_bottom 13 = .ok (.aload_n 0, 1) := dk_42 (dk_at dksX8_bottom_0 13 rfl rfl)
theorem dX8_bottom_14 : decode cX8_bottom 14 = .ok (.getfield 21, 3) := dk_180 0 21 (dk_at dksX8_bottom_0 14 rfl rfl)
theorem dX8_bottom_17 : decode cX8_bottom 17 = .ok (.iload_n 2, 1) := dk_28 (dk_at dksX8_bottom_0 17 rfl rfl)
theorem dX8_bottom_18 : decode cX8_bottom 18 = .ok (.iaload, 1) := dk_46 (dk_at dksX8_bottom_0 18 rfl rfl)
theorem dX8_bottom_19 : decode cX8_bottom 19 = .ok (.istore_n 2, 1) := dk_61 (dk_at dksX8_bottom_0 19 rfl rfl)
theorem dX8_bottom_20 : decode cX8_bottom 20 = .ok (.goto (-18), 3) := dk_167 255 238 (dk_at dksX8_bottom_0 20 rfl rfl)
theorem dX8_bottom_23 : decode cX8_bottom 23 = .ok (.iload_n 2, 1) := dk_28 (dk_at dksX8_bottom_0 23 rfl rfl)
theorem dX8_bottom_24 : decode cX8_bottom 24 = .ok (.ireturn, 1) := dk_172 (dk_at dksX8_bottom_1 0 rfl rfl)
theorem q94 : (Jvm.Cond.initialized "PulledFromUnder$Room") ∈ lw_all := lw_g (lw_at lw_m1 9 rfl) rfl
theorem q168 : (Jvm.Cond.instantiable "PulledFromUnder$Room" (9 : Nat)) ∈ lw_all := lw_g (lw_at lw_m1 83 rfl) rfl
theorem q170 : (Jvm.Cond.instanceMethod ({ cls := "PulledFromUnder$Room", name := "<init>", desc := "()V" } : Jvm.MethodName)) ∈ lw_all := lw_g (lw_at lw_m1 85 rfl) rfl
theorem q171 : (Jvm.Cond.code ({ cls := "PulledFromUnder$Room", name := "<init>", desc := "()V" } : Jvm.MethodName) prog_16_method_1_code (1 : Nat) (Option.none : Option Jvm.ClassFile.FieldType)) ∈ lw_all := lw_g (lw_at lw_m1 86 rfl) rfl
theorem q172 : (Jvm.Cond.methodLink "PulledFromUnder$Room" (3 : Nat) ({ cls := "java/lang/Object", name := "<init>", desc := "()V" } : Jvm.MethodName)) ∈ lw_all := lw_g (lw_at lw_m1 87 rfl) rfl
theorem q173 : (Jvm.Cond.classLink "PulledFromUnder$Room" (9 : Nat) "PulledFromUnder$Kind") ∈ lw_all := lw_g (lw_at lw_m1 88 rfl) rfl
theorem q174 : (Jvm.Cond.fieldLink "PulledFromUnder$Room" (34 : Nat) "PulledFromUnder$Room" "things" "I") ∈ lw_all := lw_g (lw_at lw_m1 89 rfl) rfl
theorem q180 : (Jvm.Cond.fieldLink "PulledFromUnder$Room" (11 : Nat) "PulledFromUnder$Room" "kind" "[LPulledFromUnder$Kind;") ∈ lw_all := lw_g (lw_at lw_m1 95 rfl) rfl
theorem q182 : (Jvm.Cond.fieldLink "PulledFromUnder$Room" (17 : Nat) "PulledFromUnder$Room" "figures" "[I") ∈ lw_all := lw_g (lw_at lw_m1 97 rfl) rfl
theorem q184 : (Jvm.Cond.fieldLink "PulledFromUnder$Room" (21 : Nat) "PulledFromUnder$Room" "on" "[I") ∈ lw_all := lw_g (lw_at lw_m1 99 rfl) rfl
theorem q186 : (Jvm.Cond.fieldLink "PulledFromUnder$Room" (24 : Nat) "PulledFromUnder$Room" "state" "[I") ∈ lw_all := lw_g (lw_at lw_m1 101 rfl) rfl
theorem q189 : (Jvm.Cond.fieldLink "PulledFromUnder$Room" (27 : Nat) "PulledFromUnder$Room" "air" "[I") ∈ lw_all := lw_g (lw_at lw_m1 104 rfl) rfl
theorem q191 : (Jvm.Cond.fieldLink "PulledFromUnder$Room" (30 : Nat) "PulledFromUnder$Room" "isFloor" "Z") ∈ lw_all := lw_g (lw_at lw_m1 106 rfl) rfl
theorem q196 : (Jvm.Cond.fieldLink "PulledFromUnder$Room" (38 : Nat) "PulledFromUnder$Room" "minute" "I") ∈ lw_all := lw_g (lw_at lw_m1 111 rfl) rfl
theorem q198 : (Jvm.Cond.fieldLink "PulledFromUnder$Room" (41 : Nat) "PulledFromUnder$Room" "props" "I") ∈ lw_all := lw_g (lw_at lw_m1 113 rfl) rfl
theorem q200 : (Jvm.Cond.lays "PulledFromUnder$Room" "PulledFromUnder$Room" "things" "I") ∈ lw_all := lw_g (lw_at lw_m1 115 rfl) rfl
theorem q201 : (Jvm.Cond.soleField "PulledFromUnder$Room" "things") ∈ lw_all := lw_g (lw_at lw_m1 116 rfl) rfl
theorem q202 : (Jvm.Cond.laysFinal "PulledFromUnder$Room" "PulledFromUnder$Room" "kind" "[LPulledFromUnder$Kind;") ∈ lw_all := lw_g (lw_at lw_m1 117 rfl) rfl
theorem q203 : (Jvm.Cond.soleField "PulledFromUnder$Room" "kind") ∈ lw_all := lw_g (lw_at lw_m1 118 rfl) rfl
theorem q204 : (Jvm.Cond.laysFinal "PulledFromUnder$Room" "PulledFromUnder$Room" "figures" "[I") ∈ lw_all := lw_g (lw_at lw_m1 119 rfl) rfl
theorem q205 : (Jvm.Cond.soleField "PulledFromUnder$Room" "figures") ∈ lw_all := lw_g (lw_at lw_m1 120 rfl) rfl
theorem q206 : (Jvm.Cond.laysFinal "PulledFromUnder$Room" "PulledFromUnder$Room" "on" "[I") ∈ lw_all := lw_g (lw_at lw_m1 121 rfl) rfl
theorem q207 : (Jvm.Cond.soleField "PulledFromUnder$Room" "on") ∈ lw_all := lw_g (lw_at lw_m1 122 rfl) rfl
theorem q208 : (Jvm.Cond.laysFinal "PulledFromUnder$Room" "PulledFromUnder$Room" "state" "[I") ∈ lw_all := lw_g (lw_at lw_m1 123 rfl) rfl
theorem q209 : (Jvm.Cond.soleField "PulledFromUnder$Room" "state") ∈ lw_all := lw_g (lw_at lw_m1 124 rfl) rfl
theorem q210 : (Jvm.Cond.laysFinal "PulledFromUnder$Room" "PulledFromUnder$Room" "air" "[I") ∈ lw_all := lw_g (lw_at lw_m1 125 rfl) rfl
theorem q211 : (Jvm.Cond.soleField "PulledFromUnder$Room" "air") ∈ lw_all := lw_g (lw_at lw_m1 126 rfl) rfl
theorem q212 : (Jvm.Cond.lays "PulledFromUnder$Room" "PulledFromUnder$Room" "isFloor" "Z") ∈ lw_all := lw_g (lw_at lw_m1 127 rfl) rfl
theorem q213 : (Jvm.Cond.soleField "PulledFromUnder$Room" "isFloor") ∈ lw_all := lw_g (lw_at lw_m1 128 rfl) rfl
theorem q214 : (Jvm.Cond.lays "PulledFromUnder$Room" "PulledFromUnder$Room" "minute" "I") ∈ lw_all := lw_g (lw_at lw_m1 129 rfl) rfl
theorem q215 : (Jvm.Cond.soleField "PulledFromUnder$Room" "minute") ∈ lw_all := lw_g (lw_at lw_m1 130 rfl) rfl
theorem q216 : (Jvm.Cond.lays "PulledFromUnder$Room" "PulledFromUnder$Room" "props" "I") ∈ lw_all := lw_g (lw_at lw_m1 131 rfl) rfl
theorem q217 : (Jvm.Cond.soleField "PulledFromUnder$Room" "props") ∈ lw_all := lw_g (lw_at lw_m1 132 rfl) rfl
theorem q218 : (Jvm.Cond.superclass "PulledFromUnder$Room" "java/lang/Object") ∈ lw_all := lw_g (lw_at lw_m1 133 rfl) rfl
theorem q524 : (Jvm.Cond.instanceMethod ({ cls := "PulledFromUnder$Room", name := "set", desc := "(LPulledFromUnder$Room;)LPulledFromUnder$Room;" } : Jvm.MethodName)) ∈ lw_all := lw_g (lw_at lw_m2 199 rfl) rfl
theorem q525 : (Jvm.Cond.selects "PulledFromUnder$Room" ({ cls := "PulledFromUnder$Room", name := "set", desc := "(LPulledFromUnder$Room;)LPulledFromUnder$Room;" } : Jvm.MethodName) ({ cls := "PulledFromUnder$Room", name := "set", desc := "(LPulledFromUnder$Room;)LPulledFromUnder$Room;" } : Jvm.MethodName)) ∈ lw_all := lw_g (lw_at lw_m2 200 rfl) rfl
theorem q526 : (Jvm.Cond.code ({ cls := "PulledFromUnder$Room", name := "set", desc := "(LPulledFromUnder$Room;)LPulledFromUnder$Room;" } : Jvm.MethodName) prog_16_method_2_code (2 : Nat) (Option.some (Jvm.ClassFile.FieldType.object "PulledFromUnder$Room"))) ∈ lw_all := lw_g (lw_at lw_m2 201 rfl) rfl
theorem q527 : (Jvm.Cond.methodLink "PulledFromUnder$Room" (44 : Nat) ({ cls := "java/lang/System", name := "arraycopy", desc := "(Ljava/lang/Object;ILjava/lang/Object;II)V" } : Jvm.MethodName)) ∈ lw_all := lw_g (lw_at lw_m2 202 rfl) rfl
theorem q558 : (Jvm.Cond.instanceMethod ({ cls := "PulledFromUnder$Room", name := "isStanding", desc := "(I)Z" } : Jvm.MethodName)) ∈ lw_all := lw_g (lw_at lw_m2 233 rfl) rfl
theorem q559 : (Jvm.Cond.selects "PulledFromUnder$Room" ({ cls := "PulledFromUnder$Room", name := "isStanding", desc := "(I)Z" } : Jvm.MethodName) ({ cls := "PulledFromUnder$Room", name := "isStanding", desc := "(I)Z" } : Jvm.MethodName)) ∈ lw_all := lw_g (lw_at lw_m2 234 rfl) rfl
theorem q560 : (Jvm.Cond.code ({ cls := "PulledFromUnder$Room", name := "isStanding", desc := "(I)Z" } : Jvm.MethodName) prog_16_method_3_code (2 : Nat) (Option.some Jvm.ClassFile.FieldType.boolean)) ∈ lw_all := lw_g (lw_at lw_m2 235 rfl) rfl
theorem q575 : (Jvm.Cond.instanceMethod ({ cls := "PulledFromUnder$Room", name := "comes", desc := "(LPulledFromUnder$Kind;II)V" } : Jvm.MethodName)) ∈ lw_all := lw_g (lw_at lw_m3 10 rfl) rfl
theorem q576 : (Jvm.Cond.selects "PulledFromUnder$Room" ({ cls := "PulledFromUnder$Room", name := "comes", desc := "(LPulledFromUnder$Kind;II)V" } : Jvm.MethodName) ({ cls := "PulledFromUnder$Room", name := "comes", desc := "(LPulledFromUnder$Kind;II)V" } : Jvm.MethodName)) ∈ lw_all := lw_g (lw_at lw_m3 11 rfl) rfl
theorem q577 : (Jvm.Cond.code ({ cls := "PulledFromUnder$Room", name := "comes", desc := "(LPulledFromUnder$Kind;II)V" } : Jvm.MethodName) prog_16_method_19_code (4 : Nat) (Option.none : Option Jvm.ClassFile.FieldType)) ∈ lw_all := lw_g (lw_at lw_m3 12 rfl) rfl
theorem q582 : (Jvm.Cond.instanceMethod ({ cls := "PulledFromUnder$Room", name := "pullFloor", desc := "(I)I" } : Jvm.MethodName)) ∈ lw_all := lw_g (lw_at lw_m3 17 rfl) rfl
theorem q583 : (Jvm.Cond.selects "PulledFromUnder$Room" ({ cls := "PulledFromUnder$Room", name := "pullFloor", desc := "(I)I" } : Jvm.MethodName) ({ cls := "PulledFromUnder$Room", name := "pullFloor", desc := "(I)I" } : Jvm.MethodName)) ∈ lw_all := lw_g (lw_at lw_m3 18 rfl) rfl
theorem q584 : (Jvm.Cond.code ({ cls := "PulledFromUnder$Room", name := "pullFloor", desc := "(I)I" } : Jvm.MethodName) prog_16_method_11_code (2 : Nat) (Option.some Jvm.ClassFile.FieldType.int)) ∈ lw_all := lw_g (lw_at lw_m3 19 rfl) rfl
theorem q585 : (Jvm.Cond.methodLink "PulledFromUnder$Room" (73 : Nat) ({ cls := "PulledFromUnder$Room", name := "fall", desc := "(II)I" } : Jvm.MethodName)) ∈ lw_all := lw_g (lw_at lw_m3 20 rfl) rfl
theorem q586 : (Jvm.Cond.privateMethod ({ cls := "PulledFromUnder$Room", name := "fall", desc := "(II)I" } : Jvm.MethodName)) ∈ lw_tbl := lw_at lw_m3 21 rfl
theorem q587 : (Jvm.Cond.instanceMethod ({ cls := "PulledFromUnder$Room", name := "fall", desc := "(II)I" } : Jvm.MethodName)) ∈ lw_all := lw_g (lw_at lw_m3 22 rfl) rfl
theorem q588 : (Jvm.Cond.code ({ cls := "PulledFromUnder$Room", name := "fall", desc := "(II)I" } : Jvm.MethodName) prog_16_method_9_code (5 : Nat) (Option.some Jvm.ClassFile.FieldType.int)) ∈ lw_all := lw_g (lw_at lw_m3 23 rfl) rfl
theorem q589 : (Jvm.Cond.methodLink "PulledFromUnder$Room" (50 : Nat) ({ cls := "PulledFromUnder$Room", name := "isStanding", desc := "(I)Z" } : Jvm.MethodName)) ∈ lw_all := lw_g (lw_at lw_m3 24 rfl) rfl
theorem q590 : (Jvm.Cond.methodLink "PulledFromUnder$Room" (72 : Nat) ({ cls := "PulledFromUnder$Room", name := "grip", desc := "(I)I" } : Jvm.MethodName)) ∈ lw_all := lw_g (lw_at lw_m3 25 rfl) rfl
theorem q591 : (Jvm.Cond.instanceMethod ({ cls := "PulledFromUnder$Room", name := "grip", desc := "(I)I" } : Jvm.MethodName)) ∈ lw_all := lw_g (lw_at lw_m3 26 rfl) rfl
theorem q592 : (Jvm.Cond.selects "PulledFromUnder$Room" ({ cls := "PulledFromUnder$Room", name := "grip", desc := "(I)I" } : Jvm.MethodName) ({ cls := "PulledFromUnder$Room", name := "grip", desc := "(I)I" } : Jvm.MethodName)) ∈ lw_all := lw_g (lw_at lw_m3 27 rfl) rfl
theorem q593 : (Jvm.Cond.code ({ cls := "PulledFromUnder$Room", name := "grip", desc := "(I)I" } : Jvm.MethodName) prog_16_method_8_code (2 : Nat) (Option.some Jvm.ClassFile.FieldType.int)) ∈ lw_all := lw_g (lw_at lw_m3 28 rfl) rfl
theorem q594 : (Jvm.Cond.methodLink "PulledFromUnder$Room" (69 : Nat) ({ cls := "PulledFromUnder$Kind", name := "grip", desc := "(I)I" } : Jvm.MethodName)) ∈ lw_all := lw_g (lw_at lw_m3 29 rfl) rfl
theorem q616 : (Jvm.Cond.methodLinkNest "PulledFromUnder$Room" (54 : Nat) ({ cls := "PulledFromUnder", name := "has", desc := "(II)Z" } : Jvm.MethodName) "PulledFromUnder") ∈ lw_tbl := lw_at lw_m3 51 rfl
theorem q623 : (Jvm.Cond.instanceMethod ({ cls := "PulledFromUnder$Room", name := "minutesOn", desc := "(I)LPulledFromUnder$Room;" } : Jvm.MethodName)) ∈ lw_all := lw_g (lw_at lw_m3 58 rfl) rfl
theorem q624 : (Jvm.Cond.selects "PulledFromUnder$Room" ({ cls := "PulledFromUnder$Room", name := "minutesOn", desc := "(I)LPulledFromUnder$Room;" } : Jvm.MethodName) ({ cls := "PulledFromUnder$Room", name := "minutesOn", desc := "(I)LPulledFromUnder$Room;" } : Jvm.MethodName)) ∈ lw_all := lw_g (lw_at lw_m3 59 rfl) rfl
theorem q625 : (Jvm.Cond.code ({ cls := "PulledFromUnder$Room", name := "minutesOn", desc := "(I)LPulledFromUnder$Room;" } : Jvm.MethodName) prog_16_method_14_code (3 : Nat) (Option.some (Jvm.ClassFile.FieldType.object "PulledFromUnder$Room"))) ∈ lw_all := lw_g (lw_at lw_m3 60 rfl) rfl
theorem q626 : (Jvm.Cond.methodLink "PulledFromUnder$Room" (82 : Nat) ({ cls := "PulledFromUnder$Room", name := "minuteOn", desc := "(I)V" } : Jvm.MethodName)) ∈ lw_all := lw_g (lw_at lw_m3 61 rfl) rfl
theorem q627 : (Jvm.Cond.instanceMethod ({ cls := "PulledFromUnder$Room", name := "minuteOn", desc := "(I)V" } : Jvm.MethodName)) ∈ lw_all := lw_g (lw_at lw_m3 62 rfl) rfl
theorem q628 : (Jvm.Cond.selects "PulledFromUnder$Room" ({ cls := "PulledFromUnder$Room", name := "minuteOn", desc := "(I)V" } : Jvm.MethodName) ({ cls := "PulledFromUnder$Room", name := "minuteOn", desc := "(I)V" } : Jvm.MethodName)) ∈ lw_all := lw_g (lw_at lw_m3 63 rfl) rfl
theorem q629 : (Jvm.Cond.code ({ cls := "PulledFromUnder$Room", name := "minuteOn", desc := "(I)V" } : Jvm.MethodName) prog_16_method_13_code (5 : Nat) (Option.none : Option Jvm.ClassFile.FieldType)) ∈ lw_all := lw_g (lw_at lw_m3 64 rfl) rfl
theorem q630 : (Jvm.Cond.methodLink "PulledFromUnder$Room" (77 : Nat) ({ cls := "PulledFromUnder$Room", name := "isHeld", desc := "(I)Z" } : Jvm.MethodName)) ∈ lw_all := lw_g (lw_at lw_m3 65 rfl) rfl
theorem q631 : (Jvm.Cond.instanceMethod ({ cls := "PulledFromUnder$Room", name := "isHeld", desc := "(I)Z" } : Jvm.MethodName)) ∈ lw_all := lw_g (lw_at lw_m3 66 rfl) rfl
theorem q632 : (Jvm.Cond.selects "PulledFromUnder$Room" ({ cls := "PulledFromUnder$Room", name := "isHeld", desc := "(I)Z" } : Jvm.MethodName) ({ cls := "PulledFromUnder$Room", name := "isHeld", desc := "(I)Z" } : Jvm.MethodName)) ∈ lw_all := lw_g (lw_at lw_m3 67 rfl) rfl
theorem q633 : (Jvm.Cond.code ({ cls := "PulledFromUnder$Room", name := "isHeld", desc := "(I)Z" } : Jvm.MethodName) prog_16_method_6_code (2 : Nat) (Option.some Jvm.ClassFile.FieldType.boolean)) ∈ lw_all := lw_g (lw_at lw_m3 68 rfl) rfl
theorem q634 : (Jvm.Cond.methodLink "PulledFromUnder$Room" (58 : Nat) ({ cls := "PulledFromUnder$Room", name := "hasUnder", desc := "(I)Z" } : Jvm.MethodName)) ∈ lw_all := lw_g (lw_at lw_m3 69 rfl) rfl
theorem q635 : (Jvm.Cond.instanceMethod ({ cls := "PulledFromUnder$Room", name := "hasUnder", desc := "(I)Z" } : Jvm.MethodName)) ∈ lw_all := lw_g (lw_at lw_m3 70 rfl) rfl
theorem q636 : (Jvm.Cond.selects "PulledFromUnder$Room" ({ cls := "PulledFromUnder$Room", name := "hasUnder", desc := "(I)Z" } : Jvm.MethodName) ({ cls := "PulledFromUnder$Room", name := "hasUnder", desc := "(I)Z" } : Jvm.MethodName)) ∈ lw_all := lw_g (lw_at lw_m3 71 rfl) rfl
theorem q637 : (Jvm.Cond.code ({ cls := "PulledFromUnder$Room", name := "hasUnder", desc := "(I)Z" } : Jvm.MethodName) prog_16_method_5_code (2 : Nat) (Option.some Jvm.ClassFile.FieldType.boolean)) ∈ lw_all := lw_g (lw_at lw_m3 72 rfl) rfl
theorem q638 : (Jvm.Cond.methodLink "PulledFromUnder$Room" (80 : Nat) ({ cls := "PulledFromUnder$Room", name := "habit", desc := "(I)I" } : Jvm.MethodName)) ∈ lw_all := lw_g (lw_at lw_m3 73 rfl) rfl
theorem q639 : (Jvm.Cond.instanceMethod ({ cls := "PulledFromUnder$Room", name := "habit", desc := "(I)I" } : Jvm.MethodName)) ∈ lw_all := lw_g (lw_at lw_m3 74 rfl) rfl
theorem q640 : (Jvm.Cond.selects "PulledFromUnder$Room" ({ cls := "PulledFromUnder$Room", name := "habit", desc := "(I)I" } : Jvm.MethodName) ({ cls := "PulledFromUnder$Room", name := "habit", desc := "(I)I" } : Jvm.MethodName)) ∈ lw_all := lw_g (lw_at lw_m3 75 rfl) rfl
theorem q641 : (Jvm.Cond.code ({ cls := "PulledFromUnder$Room", name := "habit", desc := "(I)I" } : Jvm.MethodName) prog_16_method_7_code (2 : Nat) (Option.some Jvm.ClassFile.FieldType.int)) ∈ lw_all := lw_g (lw_at lw_m3 76 rfl) rfl
theorem q642 : (Jvm.Cond.methodLink "PulledFromUnder$Room" (61 : Nat) ({ cls := "PulledFromUnder$Room", name := "bits", desc := "(I)I" } : Jvm.MethodName)) ∈ lw_all := lw_g (lw_at lw_m3 77 rfl) rfl
theorem q643 : (Jvm.Cond.instanceMethod ({ cls := "PulledFromUnder$Room", name := "bits", desc := "(I)I" } : Jvm.MethodName)) ∈ lw_all := lw_g (lw_at lw_m3 78 rfl) rfl
theorem q644 : (Jvm.Cond.selects "PulledFromUnder$Room" ({ cls := "PulledFromUnder$Room", name := "bits", desc := "(I)I" } : Jvm.MethodName) ({ cls := "PulledFromUnder$Room", name := "bits", desc := "(I)I" } : Jvm.MethodName)) ∈ lw_all := lw_g (lw_at lw_m3 79 rfl) rfl
theorem q645 : (Jvm.Cond.code ({ cls := "PulledFromUnder$Room", name := "bits", desc := "(I)I" } : Jvm.MethodName) prog_16_method_4_code (4 : Nat) (Option.some Jvm.ClassFile.FieldType.int)) ∈ lw_all := lw_g (lw_at lw_m3 80 rfl) rfl
theorem q646 : (Jvm.Cond.methodLink "PulledFromUnder$Room" (65 : Nat) ({ cls := "PulledFromUnder$Kind", name := "habit", desc := "(IZ)I" } : Jvm.MethodName)) ∈ lw_all := lw_g (lw_at lw_m3 81 rfl) rfl
theorem q683 : (Jvm.Cond.instanceMethod ({ cls := "PulledFromUnder$Room", name := "pull", desc := "(II)I" } : Jvm.MethodName)) ∈ lw_all := lw_g (lw_at lw_m3 118 rfl) rfl
theorem q684 : (Jvm.Cond.selects "PulledFromUnder$Room" ({ cls := "PulledFromUnder$Room", name := "pull", desc := "(II)I" } : Jvm.MethodName) ({ cls := "PulledFromUnder$Room", name := "pull", desc := "(II)I" } : Jvm.MethodName)) ∈ lw_all := lw_g (lw_at lw_m3 119 rfl) rfl
theorem q685 : (Jvm.Cond.code ({ cls := "PulledFromUnder$Room", name := "pull", desc := "(II)I" } : Jvm.MethodName) prog_16_method_10_code (3 : Nat) (Option.some Jvm.ClassFile.FieldType.int)) ∈ lw_all := lw_g (lw_at lw_m3 120 rfl) rfl
theorem q690 : (Jvm.Cond.instanceMethod ({ cls := "PulledFromUnder$Room", name := "setUp", desc := "(I)V" } : Jvm.MethodName)) ∈ lw_all := lw_g (lw_at lw_m3 125 rfl) rfl
theorem q691 : (Jvm.Cond.selects "PulledFromUnder$Room" ({ cls := "PulledFromUnder$Room", name := "setUp", desc := "(I)V" } : Jvm.MethodName) ({ cls := "PulledFromUnder$Room", name := "setUp", desc := "(I)V" } : Jvm.MethodName)) ∈ lw_all := lw_g (lw_at lw_m3 126 rfl) rfl
theorem q692 : (Jvm.Cond.code ({ cls := "PulledFromUnder$Room", name := "setUp", desc := "(I)V" } : Jvm.MethodName) prog_16_method_12_code (2 : Nat) (Option.none : Option Jvm.ClassFile.FieldType)) ∈ lw_all := lw_g (lw_at lw_m3 127 rfl) rfl
theorem q772 : (Jvm.Cond.instanceMethod ({ cls := "PulledFromUnder$Room", name := "standing", desc := "()I" } : Jvm.MethodName)) ∈ lw_all := lw_g (lw_at lw_m3 207 rfl) rfl
theorem q773 : (Jvm.Cond.selects "PulledFromUnder$Room" ({ cls := "PulledFromUnder$Room", name := "standing", desc := "()I" } : Jvm.MethodName) ({ cls := "PulledFromUnder$Room", name := "standing", desc := "()I" } : Jvm.MethodName)) ∈ lw_all := lw_g (lw_at lw_m3 208 rfl) rfl
theorem q774 : (Jvm.Cond.code ({ cls := "PulledFromUnder$Room", name := "standing", desc := "()I" } : Jvm.MethodName) prog_16_method_15_code (1 : Nat) (Option.some Jvm.ClassFile.FieldType.int)) ∈ lw_all := lw_g (lw_at lw_m3 209 rfl) rfl
theorem q775 : (Jvm.Cond.methodLinkNest "PulledFromUnder$Room" (86 : Nat) ({ cls := "PulledFromUnder", name := "ones", desc := "(I)I" } : Jvm.MethodName) "PulledFromUnder") ∈ lw_tbl := lw_at lw_m3 210 rfl
theorem q826 : (Jvm.Cond.instanceMethod ({ cls := "PulledFromUnder$Room", name := "height", desc := "(I)I" } : Jvm.MethodName)) ∈ lw_all := lw_g (lw_at lw_m4 21 rfl) rfl
theorem q827 : (Jvm.Cond.selects "PulledFromUnder$Room" ({ cls := "PulledFromUnder$Room", name := "height", desc := "(I)I" } : Jvm.MethodName) ({ cls := "PulledFromUnder$Room", name := "height", desc := "(I)I" } : Jvm.MethodName)) ∈ lw_all := lw_g (lw_at lw_m4 22 rfl) rfl
theorem q828 : (Jvm.Cond.code ({ cls := "PulledFromUnder$Room", name := "height", desc := "(I)I" } : Jvm.MethodName) prog_16_method_16_code (4 : Nat) (Option.some Jvm.ClassFile.FieldType.int)) ∈ lw_all := lw_g (lw_at lw_m4 23 rfl) rfl
theorem q830 : (Jvm.Cond.instanceMethod ({ cls := "PulledFromUnder$Room", name := "above", desc := "(I)I" } : Jvm.MethodName)) ∈ lw_all := lw_g (lw_at lw_m4 25 rfl) rfl
theorem q831 : (Jvm.Cond.selects "PulledFromUnder$Room" ({ cls := "PulledFromUnder$Room", name := "above", desc := "(I)I" } : Jvm.MethodName) ({ cls := "PulledFromUnder$Room", name := "above", desc := "(I)I" } : Jvm.MethodName)) ∈ lw_all := lw_g (lw_at lw_m4 26 rfl) rfl
theorem q832 : (Jvm.Cond.code ({ cls := "PulledFromUnder$Room", name := "above", desc := "(I)I" } : Jvm.MethodName) prog_16_method_18_code (5 : Nat) (Option.some Jvm.ClassFile.FieldType.int)) ∈ lw_all := lw_g (lw_at lw_m4 27 rfl) rfl
theorem q834 : (Jvm.Cond.instanceMethod ({ cls := "PulledFromUnder$Room", name := "bottom", desc := "(I)I" } : Jvm.MethodName)) ∈ lw_all := lw_g (lw_at lw_m4 29 rfl) rfl
theorem q835 : (Jvm.Cond.selects "PulledFromUnder$Room" ({ cls := "PulledFromUnder$Room", name := "bottom", desc := "(I)I" } : Jvm.MethodName) ({ cls := "PulledFromUnder$Room", name := "bottom", desc := "(I)I" } : Jvm.MethodName)) ∈ lw_all := lw_g (lw_at lw_m4 30 rfl) rfl
theorem q836 : (Jvm.Cond.code ({ cls := "PulledFromUnder$Room", name := "bottom", desc := "(I)I" } : Jvm.MethodName) prog_16_method_17_code (3 : Nat) (Option.some Jvm.ClassFile.FieldType.int)) ∈ lw_all := lw_g (lw_at lw_m4 31 rfl) rfl
theorem in_X8 : ∀ w ∈ wsX80, w ∈ lw_all := lw_in wsX80 [200, 202, 204, 206, 208, 210, 212, 214, 216] (by decide +kernel) (by decide +kernel)
/-! PulledFromUnder$Refusal -/
set_option maxRecDepth 100000
def RX10 : String := "PulledFromUnder$Refusal"
abbrev cX10_init : ByteArray := prog_14_method_1_code
def yX10_init : MethodName := ⟨RX10, "<init>", "()V"⟩
theorem dX10_init_0 : decode cX10_init 0 = .ok (.aload_n 0, 1) := by decide +kernel
theorem dX10_init_1 : decode cX10_init 1 = .ok (.invokespecial 1, 3) := by decide +kernel
theorem dX10_init_4 : decode cX10_init 4 = .ok (.return_, 1) := by decide +kernel
theorem q99 : (Jvm.Cond.initialized "PulledFromUnder$Refusal") ∈ lw_all := lw_g (lw_at lw_m1 14 rfl) rfl
theorem q292 : (Jvm.Cond.declares ({ cls := "PulledFromUnder$Refusal", name := "<init>", desc := "()V" } : Jvm.MethodName)) ∈ lw_tbl := lw_at lw_m1 207 rfl
theorem q334 : (Jvm.Cond.instanceMethod ({ cls := "PulledFromUnder$Refusal", name := "<init>", desc := "()V" } : Jvm.MethodName)) ∈ lw_all := lw_g (lw_at lw_m2 9 rfl) rfl
theorem q335 : (Jvm.Cond.code ({ cls := "PulledFromUnder$Refusal", name := "<init>", desc := "()V" } : Jvm.MethodName) prog_14_method_1_code (1 : Nat) (Option.none : Option Jvm.ClassFile.FieldType)) ∈ lw_all := lw_g (lw_at lw_m2 10 rfl) rfl
theorem q336 : (Jvm.Cond.methodLink "PulledFromUnder$Refusal" (1 : Nat) ({ cls := "java/lang/RuntimeException", name := "<init>", desc := "()V" } : Jvm.MethodName)) ∈ lw_all := lw_g (lw_at lw_m2 11 rfl) rfl
theorem q991 : (Jvm.Cond.declares ({ cls := "PulledFromUnder$Refusal", name := "number", desc := "()I" } : Jvm.MethodName)) ∈ lw_tbl := lw_at lw_m4 186 rfl
theorem q992 : (Jvm.Cond.sameMethod "PulledFromUnder$Refusal" "PulledFromUnder$Refusal" "number" "()I") ∈ lw_all := lw_g (lw_at lw_m4 187 rfl) rfl
/-! PulledFromUnder$Refused -/
set_option maxRecDepth 100000
def RX11 : String := "PulledFromUnder$Refused"
def TX11 : u_T := fun k => match k with
  | 0 => ("java/lang/Throwable", "cause", "Ljava/lang/Throwable;", false)
  | 1 => ("java/lang/Throwable", "stackTrace", "[Ljava/lang/StackTraceElement;", false)
  | 2 => ("java/lang/Throwable", "suppressedExceptions", "Ljava/util/List;", false)
  | 3 => ("java/lang/Throwable", "detailMessage", "Ljava/lang/String;", false)
  | 4 => ("java/lang/Throwable", "backtrace", "Ljava/lang/Object;", false)
  | 5 => ("java/lang/Throwable", "depth", "I", false)
  | _ => ("PulledFromUnder$Refused", "number", "I", true)
def tyX11 : Nat → FieldType := fun k => match k with
  | 0 => .object "java/lang/Throwable"
  | 1 => .array (.object "java/lang/StackTraceElement")
  | 2 => .object "java/util/List"
  | 3 => .object "java/lang/String"
  | 4 => .object "java/lang/Object"
  | 5 => .int
  | _ => .int
abbrev wsX110 : List Cond := u_ws RX11 TX11 7
theorem nmX11 : ∀ a, a < 7 → ∀ b, b < 7 → a ≠ b → (TX11 a).2.1 ≠ (TX11 b).2.1 := by decide +kernel
theorem tyX11_ok : ∀ k, k < 7 → parseFieldDescriptor (TX11 k).2.2.1 = some (tyX11 k) := by decide +kernel
abbrev cX11_init : ByteArray := prog_15_method_1_code
def yX11_init : MethodName := ⟨RX11, "<init>", "(I)V"⟩
def dkwX11_init_0 : List UInt8 := [42, 183, 0, 1, 42, 27, 181, 0, 7, 177]
abbrev dktX11_init_0 : List UInt8 := dkwX11_init_0 ++ []
theorem dksX11_init_0 : cX11_init.data.toList.drop 0 = dktX11_init_0 := by decide +kernel
theorem dX11_init_0 : decode cX11_init 0 = .ok (.aload_n 0, 1) := dk_42 (dk_at dksX11_init_0 0 rfl rfl)
theorem dX11_init_1 : decode cX11_init 1 = .ok (.invokespecial 1, 3) := dk_183 0 1 (dk_at dksX11_init_0 1 rfl rfl)
theorem dX11_init_4 : decode cX11_init 4 = .ok (.aload_n 0, 1) := dk_42 (dk_at dksX11_init_0 4 rfl rfl)
theorem dX11_init_5 : decode cX11_init 5 = .ok (.iload_n 1, 1) := dk_27 (dk_at dksX11_init_0 5 rfl rfl)
theorem dX11_init_6 : decode cX11_init 6 = .ok (.putfield 7, 3) := dk_181 0 7 (dk_at dksX11_init_0 6 rfl rfl)
theorem dX11_init_9 : decode cX11_init 9 = .ok (.return_, 1) := dk_177 (dk_at dksX11_init_0 9 rfl rfl)
abbrev cX11_number : ByteArray := prog_15_method_2_code
def yX11_number : MethodName := ⟨RX11, "number", "()I"⟩
theorem dX11_number_0 : decode cX11_number 0 = .ok (.aload_n 0, 1) := by decide +kernel
theorem dX11_number_1 : decode cX11_number 1 = .ok (.getfield 7, 3) := by decide +kernel
theorem dX11_number_4 : decode cX11_number 4 = .ok (.ireturn, 1) := by decide +kernel
theorem q100 : (Jvm.Cond.initialized "PulledFromUnder$Refused") ∈ lw_all := lw_g (lw_at lw_m1 15 rfl) rfl
theorem q290 : (Jvm.Cond.instantiable "PulledFromUnder$Refused" (7 : Nat)) ∈ lw_all := lw_g (lw_at lw_m1 205 rfl) rfl
theorem q291 : (Jvm.Cond.castable "PulledFromUnder$Refused" "PulledFromUnder$Refused") ∈ lw_tbl := lw_at lw_m1 206 rfl
theorem q299 : (Jvm.Cond.selects "PulledFromUnder$Refused" ({ cls := "java/lang/Throwable", name := "fillInStackTrace", desc := "(I)Ljava/lang/Throwable;" } : Jvm.MethodName) ({ cls := "java/lang/Throwable", name := "fillInStackTrace", desc := "(I)Ljava/lang/Throwable;" } : Jvm.MethodName)) ∈ lw_all := lw_g (lw_at lw_m1 214 rfl) rfl
theorem q300 : (Jvm.Cond.selects "PulledFromUnder$Refused" ({ cls := "java/lang/Throwable", name := "fillInStackTrace", desc := "()Ljava/lang/Throwable;" } : Jvm.MethodName) ({ cls := "java/lang/Throwable", name := "fillInStackTrace", desc := "()Ljava/lang/Throwable;" } : Jvm.MethodName)) ∈ lw_all := lw_g (lw_at lw_m1 215 rfl) rfl
theorem q301 : (Jvm.Cond.lays "PulledFromUnder$Refused" "java/lang/Throwable" "cause" "Ljava/lang/Throwable;") ∈ lw_all := lw_g (lw_at lw_m1 216 rfl) rfl
theorem q303 : (Jvm.Cond.lays "PulledFromUnder$Refused" "java/lang/Throwable" "stackTrace" "[Ljava/lang/StackTraceElement;") ∈ lw_all := lw_g (lw_at lw_m1 218 rfl) rfl
theorem q305 : (Jvm.Cond.lays "PulledFromUnder$Refused" "java/lang/Throwable" "suppressedExceptions" "Ljava/util/List;") ∈ lw_all := lw_g (lw_at lw_m1 220 rfl) rfl
theorem q307 : (Jvm.Cond.lays "PulledFromUnder$Refused" "java/lang/Throwable" "detailMessage" "Ljava/lang/String;") ∈ lw_all := lw_g (lw_at lw_m1 222 rfl) rfl
theorem q309 : (Jvm.Cond.lays "PulledFromUnder$Refused" "java/lang/Throwable" "backtrace" "Ljava/lang/Object;") ∈ lw_all := lw_g (lw_at lw_m1 224 rfl) rfl
theorem q331 : (Jvm.Cond.instanceMethod ({ cls := "PulledFromUnder$Refused", name := "<init>", desc := "(I)V" } : Jvm.MethodName)) ∈ lw_all := lw_g (lw_at lw_m2 6 rfl) rfl
theorem q332 : (Jvm.Cond.code ({ cls := "PulledFromUnder$Refused", name := "<init>", desc := "(I)V" } : Jvm.MethodName) prog_15_method_1_code (2 : Nat) (Option.none : Option Jvm.ClassFile.FieldType)) ∈ lw_all := lw_g (lw_at lw_m2 7 rfl) rfl
theorem q333 : (Jvm.Cond.methodLinkNest "PulledFromUnder$Refused" (1 : Nat) ({ cls := "PulledFromUnder$Refusal", name := "<init>", desc := "()V" } : Jvm.MethodName) "PulledFromUnder") ∈ lw_tbl := lw_at lw_m2 8 rfl
theorem q343 : (Jvm.Cond.fieldLink "PulledFromUnder$Refused" (7 : Nat) "PulledFromUnder$Refused" "number" "I") ∈ lw_all := lw_g (lw_at lw_m2 18 rfl) rfl
theorem q348 : (Jvm.Cond.laysFinal "PulledFromUnder$Refused" "PulledFromUnder$Refused" "number" "I") ∈ lw_all := lw_g (lw_at lw_m2 23 rfl) rfl
theorem q349 : (Jvm.Cond.soleField "PulledFromUnder$Refused" "number") ∈ lw_all := lw_g (lw_at lw_m2 24 rfl) rfl
theorem q354 : (Jvm.Cond.lays "PulledFromUnder$Refused" "java/lang/Throwable" "depth" "I") ∈ lw_all := lw_g (lw_at lw_m2 29 rfl) rfl
theorem q357 : (Jvm.Cond.superclass "PulledFromUnder$Refused" "PulledFromUnder$Refusal") ∈ lw_all := lw_g (lw_at lw_m2 32 rfl) rfl
theorem q996 : (Jvm.Cond.selects "PulledFromUnder$Refused" ({ cls := "PulledFromUnder$Refusal", name := "number", desc := "()I" } : Jvm.MethodName) ({ cls := "PulledFromUnder$Refused", name := "number", desc := "()I" } : Jvm.MethodName)) ∈ lw_all := lw_g (lw_at lw_m4 191 rfl) rfl
theorem q997 : (Jvm.Cond.instanceMethod ({ cls := "PulledFromUnder$Refused", name := "number", desc := "()I" } : Jvm.MethodName)) ∈ lw_all := lw_g (lw_at lw_m4 192 rfl) rfl
theorem q998 : (Jvm.Cond.code ({ cls := "PulledFromUnder$Refused", name := "number", desc := "()I" } : Jvm.MethodName) prog_15_method_2_code (1 : Nat) (Option.some Jvm.ClassFile.FieldType.int)) ∈ lw_all := lw_g (lw_at lw_m4 193 rfl) rfl
theorem q1489 : (Jvm.Cond.castable "PulledFromUnder$Refused" "PulledFromUnder$Refusal") ∈ lw_tbl := lw_at lw_m6 204 rfl
theorem in_X11 : ∀ w ∈ wsX110, w ∈ lw_all := lw_in wsX110 [301, 303, 305, 307, 309, 354, 348] (by decide +kernel) (by decide +kernel)
/-! PulledFromUnder$Reader -/
set_option maxRecDepth 100000
def RX12 : String := "PulledFromUnder$Reader"
def TX12 : u_T := fun k => match k with
  | 0 => ("PulledFromUnder$Reader", "size", "I", true)
  | 1 => ("PulledFromUnder$Reader", "at", "I", false)
  | _ => ("PulledFromUnder$Reader", "this$0", "LPulledFromUnder;", true)
def tyX12 : Nat → FieldType := fun k => match k with
  | 0 => .int
  | 1 => .int
  | _ => .object "PulledFromUnder"
abbrev wsX120 : List Cond := u_ws RX12 TX12 3
theorem nmX12 : ∀ a, a < 3 → ∀ b, b < 3 → a ≠ b → (TX12 a).2.1 ≠ (TX12 b).2.1 := by decide +kernel
theorem tyX12_ok : ∀ k, k < 3 → parseFieldDescriptor (TX12 k).2.2.1 = some (tyX12 k) := by decide +kernel
abbrev cX12_init : ByteArray := prog_13_method_1_code
def yX12_init : MethodName := ⟨RX12, "<init>", "(LPulledFromUnder;)V"⟩
def dkwX12_init_0 : List UInt8 := [42, 43, 181, 0, 1, 42, 183, 0, 7, 42, 42, 180, 0, 1, 180, 0, 13, 181, 0, 19, 177]
abbrev dktX12_init_0 : List UInt8 := dkwX12_init_0 ++ []
theorem dksX12_init_0 : cX12_init.data.toList.drop 0 = dktX12_init_0 := by decide +kernel
theorem dX12_init_0 : decode cX12_init 0 = .ok (.aload_n 0, 1) := dk_42 (dk_at dksX12_init_0 0 rfl rfl)
theorem dX12_init_1 : decode cX12_init 1 = .ok (.aload_n 1, 1) := dk_43 (dk_at dksX12_init_0 1 rfl rfl)
theorem dX12_init_2 : decode cX12_init 2 = .ok (.putfield 1, 3) := dk_181 0 1 (dk_at dksX12_init_0 2 rfl rfl)
theorem dX12_init_5 : decode cX12_init 5 = .ok (.aload_n 0, 1) := dk_42 (dk_at dksX12_init_0 5 rfl rfl)
theorem dX12_init_6 : decode cX12_init 6 = .ok (.invokespecial 7, 3) := dk_183 0 7 (dk_at dksX12_init_0 6 rfl rfl)
theorem dX12_init_9 : decode cX12_init 9 = .ok (.aload_n 0, 1) := dk_42 (dk_at dksX12_init_0 9 rfl rfl)
theorem dX12_init_10 : decode cX12_init 10 = .ok (.aload_n 0, 1) := dk_42 (dk_at dksX12_init_0 10 rfl rfl)
theorem dX12_init_11 : decode cX12_init 11 = .ok (.getfield 1, 3) := dk_180 0 1 (dk_at dksX12_init_0 11 rfl rfl)
theorem dX12_init_14 : decode cX12_init 14 = .ok (.getfield 13, 3) := dk_180 0 13 (dk_at dksX12_init_0 14 rfl rfl)
theorem dX12_init_17 : decode cX12_init 17 = .ok (.putfield 19, 3) := dk_181 0 19 (dk_at dksX12_init_0 17 rfl rfl)
theorem dX12_init_20 : decode cX12_init 20 = .ok (.return_, 1) := dk_177 (dk_at dksX12_init_0 20 rfl rfl)
abbrev cX12_statement : ByteArray := prog_13_method_6_code
def yX12_statement : MethodName := ⟨RX12, "statement", "()LPulledFromUnder$Told;"⟩
def dkwX12_statement_4 : List UInt8 := [182, 0, 57, 45, 176]
abbrev dktX12_statement_4 : List UInt8 := dkwX12_statement_4 ++ []
def dkwX12_statement_3 : List UInt8 := [16, 111, 160, 0, 12, 42, 28, 27, 182, 0, 50, 167, 0, 9, 42, 28, 27, 182, 0, 54, 78, 42, 16, 59]
abbrev dktX12_statement_3 : List UInt8 := dkwX12_statement_3 ++ dktX12_statement_4
def dkwX12_statement_2 : List UInt8 := [167, 0, 4, 3, 182, 0, 38, 42, 89, 180, 0, 22, 4, 96, 181, 0, 22, 28, 16, 116, 159, 0, 9, 28]
abbrev dktX12_statement_2 : List UInt8 := dkwX12_statement_2 ++ dktX12_statement_3
def dkwX12_statement_1 : List UInt8 := [16, 112, 159, 0, 21, 28, 16, 102, 159, 0, 15, 28, 16, 104, 159, 0, 9, 28, 16, 109, 160, 0, 7, 4]
abbrev dktX12_statement_1 : List UInt8 := dkwX12_statement_1 ++ dktX12_statement_2
def dkwX12_statement_0 : List UInt8 := [42, 180, 0, 22, 60, 42, 182, 0, 34, 61, 42, 28, 16, 116, 159, 0, 33, 28, 16, 111, 159, 0, 27, 28]
abbrev dktX12_statement_0 : List UInt8 := dkwX12_statement_0 ++ dktX12_statement_1
theorem dksX12_statement_0 : cX12_statement.data.toList.drop 0 = dktX12_statement_0 := by decide +kernel
theorem dksX12_statement_1 : cX12_statement.data.toList.drop 24 = dktX12_statement_1 := dk_seg dksX12_statement_0 24 rfl rfl
theorem dksX12_statement_2 : cX12_statement.data.toList.drop 48 = dktX12_statement_2 := dk_seg dksX12_statement_1 24 rfl rfl
theorem dksX12_statement_3 : cX12_statement.data.toList.drop 72 = dktX12_statement_3 := dk_seg dksX12_statement_2 24 rfl rfl
theorem dksX12_statement_4 : cX12_statement.data.toList.drop 96 = dktX12_statement_4 := dk_seg dksX12_statement_3 24 rfl rfl
theorem dX12_statement_0 : decode cX12_statement 0 = .ok (.aload_n 0, 1) := dk_42 (dk_at dksX12_statement_0 0 rfl rfl)
theorem dX12_statement_1 : decode cX12_statement 1 = .ok (.getfield 22, 3) := dk_180 0 22 (dk_at dksX12_statement_0 1 rfl rfl)
theorem dX12_statement_4 : decode cX12_statement 4 = .ok (.istore_n 1, 1) := dk_60 (dk_at dksX12_statement_0 4 rfl rfl)
theorem dX12_statement_5 : decode cX12_statement 5 = .ok (.aload_n 0, 1) := dk_42 (dk_at dksX12_statement_0 5 rfl rfl)
theorem dX12_statement_6 : decode cX12_statement 6 = .ok (.invokevirtual 34, 3) := dk_182 0 34 (dk_at dksX12_statement_0 6 rfl rfl)
theorem dX12_statement_9 : decode cX12_statement 9 = .ok (.istore_n 2, 1) := dk_61 (dk_at dksX12_statement_0 9 rfl rfl)
theorem dX12_statement_10 : decode cX12_statement 10 = .ok (.aload_n 0, 1) := dk_42 (dk_at dksX12_statement_0 10 rfl rfl)
theorem dX12_statement_11 : decode cX12_statement 11 = .ok (.iload_n 2, 1) := dk_28 (dk_at dksX12_statement_0 11 rfl rfl)
theorem dX12_statement_12 : decode cX12_statement 12 = .ok (.bipush 116, 2) := dk_16 116 (dk_at dksX12_statement_0 12 rfl rfl)
theorem dX12_statement_14 : decode cX12_statement 14 = .ok (.if_icmp .eq 33, 3) := dk_159 0 33 (dk_at dksX12_statement_0 14 rfl rfl)
theorem dX12_statement_17 : decode cX12_statement 17 = .ok (.iload_n 2, 1) := dk_28 (dk_at dksX12_statement_0 17 rfl rfl)
theorem dX12_statement_18 : decode cX12_statement 18 = .ok (.bipush 111, 2) := dk_16 111 (dk_at dksX12_statement_0 18 rfl rfl)
theorem dX12_statement_20 : decode cX12_statement 20 = .ok (.if_icmp .eq 27, 3) := dk_159 0 27 (dk_at dksX12_statement_0 20 rfl rfl)
theorem dX12_statement_23 : decode cX12_statement 23 = .ok (.iload_n 2, 1) := dk_28 (dk_at dksX12_statement_0 23 rfl rfl)
theorem dX12_statement_24 : decode cX12_statement 24 = .ok (.bipush 112, 2) := dk_16 112 (dk_at dksX12_statement_1 0 rfl rfl)
theorem dX12_statement_26 : decode cX12_statement 26 = .ok (.if_icmp .eq 21, 3) := dk_159 0 21 (dk_at dksX12_statement_1 2 rfl rfl)
theorem dX12_statement_29 : decode cX12_statement 29 = .ok (.iload_n 2, 1) := dk_28 (dk_at dksX12_statement_1 5 rfl rfl)
theorem dX12_statement_30 : decode cX12_statement 30 = .ok (.bipush 102, 2) := dk_16 102 (dk_at dksX12_statement_1 6 rfl rfl)
theorem dX12_statement_32 : decode cX12_statement 32 = .ok (.if_icmp .eq 15, 3) := dk_159 0 15 (dk_at dksX12_statement_1 8 rfl rfl)
theorem dX12_statement_35 : decode cX12_statement 35 = .ok (.iload_n 2, 1) := dk_28 (dk_at dksX12_statement_1 11 rfl rfl)
theorem dX12_statement_36 : decode cX12_statement 36 = .ok (.bipush 104, 2) := dk_16 104 (dk_at dksX12_statement_1 12 rfl rfl)
theorem dX12_statement_38 : decode cX12_statement 38 = .ok (.if_icmp .eq 9, 3) := dk_159 0 9 (dk_at dksX12_statement_1 14 rfl rfl)
theorem dX12_statement_41 : decode cX12_statement 41 = .ok (.iload_n 2, 1) := dk_28 (dk_at dksX12_statement_1 17 rfl rfl)
theorem dX12_statement_42 : decode cX12_statement 42 = .ok (.bipush 109, 2) := dk_16 109 (dk_at dksX12_statement_1 18 rfl rfl)
theorem dX12_statement_44 : decode cX12_statement 44 = .ok (.if_icmp .ne 7, 3) := dk_160 0 7 (dk_at dksX12_statement_1 20 rfl rfl)
theorem dX12_statement_47 : decode cX12_statement 47 = .ok (.iconst 1, 1) := dk_4 (dk_at dksX12_statement_1 23 rfl rfl)
theorem dX12_statement_48 : decode cX12_statement 48 = .ok (.goto 4, 3) := dk_167 0 4 (dk_at dksX12_statement_2 0 rfl rfl)
theorem dX12_statement_51 : decode cX12_statement 51 = .ok (.iconst 0, 1) := dk_3 (dk_at dksX12_statement_2 3 rfl rfl)
theorem dX12_statement_52 : decode cX12_statement 52 = .ok (.invokevirtual 38, 3) := dk_182 0 38 (dk_at dksX12_statement_2 4 rfl rfl)
theorem dX12_statement_55 : decode cX12_statement 55 = .ok (.aload_n 0, 1) := dk_42 (dk_at dksX12_statement_2 7 rfl rfl)
theorem dX12_statement_56 : decode cX12_statement 56 = .ok (.dup, 1) := dk_89 (dk_at dksX12_statement_2 8 rfl rfl)
theorem dX12_statement_57 : decode cX12_statement 57 = .ok (.getfield 22, 3) := dk_180 0 22 (dk_at dksX12_statement_2 9 rfl rfl)
theorem dX12_statement_60 : decode cX12_statement 60 = .ok (.iconst 1, 1) := dk_4 (dk_at dksX12_statement_2 12 rfl rfl)
theorem dX12_statement_61 : decode cX12_statement 61 = .ok (.iadd, 1) := dk_96 (dk_at dksX12_statement_2 13 rfl rfl)
theorem dX12_statement_62 : decode cX12_statement 62 = .ok (.putfield 22, 3) := dk_181 0 22 (dk_at dksX12_statement_2 14 rfl rfl)
theorem dX12_statement_65 : decode cX12_statement 65 = .ok (.iload_n 2, 1) := dk_28 (dk_at dksX12_statement_2 17 rfl rfl)
theorem dX12_statement_66 : decode cX12_statement 66 = .ok (.bipush 116, 2) := dk_16 116 (dk_at dksX12_statement_2 18 rfl rfl)
theorem dX12_statement_68 : decode cX12_statement 68 = .ok (.if_icmp .eq 9, 3) := dk_159 0 9 (dk_at dksX12_statement_2 20 rfl rfl)
theorem dX12_statement_71 : decode cX12_statement 71 = .ok (.iload_n 2, 1) := dk_28 (dk_at dksX12_statement_2 23 rfl rfl)
theorem dX12_statement_72 : decode cX12_statement 72 = .ok (.bipush 111, 2) := dk_16 111 (dk_at dksX12_statement_3 0 rfl rfl)
theorem dX12_statement_74 : decode cX12_statement 74 = .ok (.if_icmp .ne 12, 3) := dk_160 0 12 (dk_at dksX12_statement_3 2 rfl rfl)
theorem dX12_statement_77 : decode cX12_statement 77 = .ok (.aload_n 0, 1) := dk_42 (dk_at dksX12_statement_3 5 rfl rfl)
theorem dX12_statement_78 : decode cX12_statement 78 = .ok (.iload_n 2, 1) := dk_28 (dk_at dksX12_statement_3 6 rfl rfl)
theorem dX12_statement_79 : decode cX12_statement 79 = .ok (.iload_n 1, 1) := dk_27 (dk_at dksX12_statement_3 7 rfl rfl)
theorem dX12_statement_80 : decode cX12_statement 80 = .ok (.invokevirtual 50, 3) := dk_182 0 50 (dk_at dksX12_statement_3 8 rfl rfl)
theorem dX12_statement_83 : decode cX12_statement 83 = .ok (.goto 9, 3) := dk_167 0 9 (dk_at dksX12_statement_3 11 rfl rfl)
theorem dX12_statement_86 : decode cX12_statement 86 = .ok (.aload_n 0, 1) := dk_42 (dk_at dksX12_statement_3 14 rfl rfl)
theorem dX12_statement_87 : decode cX12_statement 87 = .ok (.iload_n 2, 1) := dk_28 (dk_at dksX12_statement_3 15 rfl rfl)
theorem dX12_statement_88 : decode cX12_statement 88 = .ok (.iload_n 1, 1) := dk_27 (dk_at dksX12_statement_3 16 rfl rfl)
theorem dX12_statement_89 : decode cX12_statement 89 = .ok (.invokevirtual 54, 3) := dk_182 0 54 (dk_at dksX12_statement_3 17 rfl rfl)
theorem dX12_statement_92 : decode cX12_statement 92 = .ok (.astore_n 3, 1) := dk_78 (dk_at dksX12_statement_3 20 rfl rfl)
theorem dX12_statement_93 : decode cX12_statement 93 = .ok (.aload_n 0, 1) := dk_42 (dk_at dksX12_statement_3 21 rfl rfl)
theorem dX12_statement_94 : decode cX12_statement 94 = .ok (.bipush 59, 2) := dk_16 59 (dk_at dksX12_statement_3 22 rfl rfl)
theorem dX12_statement_96 : decode cX12_statement 96 = .ok (.invokevirtual 57, 3) := dk_182 0 57 (dk_at dksX12_statement_4 0 rfl rfl)
theorem dX12_statement_99 : decode cX12_statement 99 = .ok (.aload_n 3, 1) := dk_45 (dk_at dksX12_statement_4 3 rfl rfl)
theorem dX12_statement_100 : decode cX12_statement 100 = .ok (.areturn, 1) := dk_176 (dk_at dksX12_statement_4 4 rfl rfl)
abbrev cX12_here : ByteArray := prog_13_method_2_code
def yX12_here : MethodName := ⟨RX12, "here", "()I"⟩
def dkwX12_here_1 : List UInt8 := [167, 0, 4, 2, 172]
abbrev dktX12_here_1 : List UInt8 := dkwX12_here_1 ++ []
def dkwX12_here_0 : List UInt8 := [42, 180, 0, 22, 42, 180, 0, 19, 162, 0, 18, 42, 180, 0, 1, 180, 0, 25, 42, 180, 0, 22, 52]
abbrev dktX12_here_0 : List UInt8 := dkwX12_here_0 ++ dktX12_here_1
theorem dksX12_here_0 : cX12_here.data.toList.drop 0 = dktX12_here_0 := by decide +kernel
theorem dksX12_here_1 : cX12_here.data.toList.drop 23 = dktX12_here_1 := dk_seg dksX12_here_0 23 rfl rfl
theorem dX12_here_0 : decode cX12_here 0 = .ok (.aload_n 0, 1) := dk_42 (dk_at dksX12_here_0 0 rfl rfl)
theorem dX12_here_1 : decode cX12_here 1 = .ok (.getfield 22, 3) := dk_180 0 22 (dk_at dksX12_here_0 1 rfl rfl)
theorem dX12_here_4 : decode cX12_here 4 = .ok (.aload_n 0, 1) := dk_42 (dk_at dksX12_here_0 4 rfl rfl)
theorem dX12_here_5 : decode cX12_here 5 = .ok (.getfield 19, 3) := dk_180 0 19 (dk_at dksX12_here_0 5 rfl rfl)
theorem dX12_here_8 : decode cX12_here 8 = .ok (.if_icmp .ge 18, 3) := dk_162 0 18 (dk_at dksX12_here_0 8 rfl rfl)
theorem dX12_here_11 : decode cX12_here 11 = .ok (.aload_n 0, 1) := dk_42 (dk_at dksX12_here_0 11 rfl rfl)
theorem dX12_here_12 : decode cX12_here 12 = .ok (.getfield 1, 3) := dk_180 0 1 (dk_at dksX12_here_0 12 rfl rfl)
theorem dX12_here_15 : decode cX12_here 15 = .ok (.getfield 25, 3) := dk_180 0 25 (dk_at dksX12_here_0 15 rfl rfl)
theorem dX12_here_18 : decode cX12_here 18 = .ok (.aload_n 0, 1) := dk_42 (dk_at dksX12_here_0 18 rfl rfl)
theorem dX12_here_19 : decode cX12_here 19 = .ok (.getfield 22, 3) := dk_180 0 22 (dk_at dksX12_here_0 19 rfl rfl)
theorem dX12_here_22 : decode cX12_here 22 = .ok (.caload, 1) := dk_52 (dk_at dksX12_here_0 22 rfl rfl)
theorem dX12_here_23 : decode cX12_here 23 = .ok (.goto 4, 3) := dk_167 0 4 (dk_at dksX12_here_1 0 rfl rfl)
theorem dX12_here_26 : decode cX12_here 26 = .ok (.iconst (-1), 1) := dk_2 (dk_at dksX12_here_1 3 rfl rfl)
theorem dX12_here_27 : decode cX12_here 27 = .ok (.ireturn, 1) := dk_172 (dk_at dksX12_here_1 4 rfl rfl)
abbrev cX12_mustStand : ByteArray := prog_13_method_3_code
def yX12_mustStand : MethodName := ⟨RX12, "mustStand", "(Z)V"⟩
def dkwX12_mustStand_0 : List UInt8 := [27, 154, 0, 19, 187, 0, 29, 89, 17, 252, 24, 42, 180, 0, 22, 100, 183, 0, 31, 191, 177]
abbrev dktX12_mustStand_0 : List UInt8 := dkwX12_mustStand_0 ++ []
theorem dksX12_mustStand_0 : cX12_mustStand.data.toList.drop 0 = dktX12_mustStand_0 := by decide +kernel
theorem dX12_mustStand_0 : decode cX12_mustStand 0 = .ok (.iload_n 1, 1) := dk_27 (dk_at dksX12_mustStand_0 0 rfl rfl)
theorem dX12_mustStand_1 : decode cX12_mustStand 1 = .ok (.ifCond .ne 19, 3) := dk_154 0 19 (dk_at dksX12_mustStand_0 1 rfl rfl)
theorem dX12_mustStand_4 : decode cX12_mustStand 4 = .ok (.new 29, 3) := dk_187 0 29 (dk_at dksX12_mustStand_0 4 rfl rfl)
theorem dX12_mustStand_7 : decode cX12_mustStand 7 = .ok (.dup, 1) := dk_89 (dk_at dksX12_mustStand_0 7 rfl rfl)
theorem dX12_mustStand_8 : decode cX12_mustStand 8 = .ok (.sipush (-1000), 3) := dk_17 252 24 (dk_at dksX12_mustStand_0 8 rfl rfl)
theorem dX12_mustStand_11 : decode cX12_mustStand 11 = .ok (.aload_n 0, 1) := dk_42 (dk_at dksX12_mustStand_0 11 rfl rfl)
theorem dX12_mustStand_12 : decode cX12_mustStand 12 = .ok (.getfield 22, 3) := dk_180 0 22 (dk_at dksX12_mustStand_0 12 rfl rfl)
theorem dX12_mustStand_15 : decode cX12_mustStand 15 = .ok (.isub, 1) := dk_100 (dk_at dksX12_mustStand_0 15 rfl rfl)
theorem dX12_mustStand_16 : decode cX12_mustStand 16 = .ok (.invokespecial 31, 3) := dk_183 0 31 (dk_at dksX12_mustStand_0 16 rfl rfl)
theorem dX12_mustStand_19 : decode cX12_mustStand 19 = .ok (.athrow, 1) := dk_191 (dk_at dksX12_mustStand_0 19 rfl rfl)
theorem dX12_mustStand_20 : decode cX12_mustStand 20 = .ok (.return_, 1) := dk_177 (dk_at dksX12_mustStand_0 20 rfl rfl)
abbrev cX12_thing : ByteArray := prog_13_method_7_code
def yX12_thing : MethodName := ⟨RX12, "thing", "(II)LPulledFromUnder$Told;"⟩
def dkwX12_thing_4 : List UInt8 := [183, 0, 78, 176]
abbrev dktX12_thing_4 : List UInt8 := dkwX12_thing_4 ++ []
def dkwX12_thing_3 : List UInt8 := [167, 0, 26, 187, 0, 76, 89, 28, 42, 180, 0, 1, 180, 0, 69, 29, 50, 21, 4, 42, 182, 0, 64]
abbrev dktX12_thing_3 : List UInt8 := dkwX12_thing_3 ++ dktX12_thing_4
def dkwX12_thing_2 : List UInt8 := [160, 0, 25, 187, 0, 67, 89, 28, 42, 180, 0, 1, 180, 0, 69, 29, 50, 21, 4, 183, 0, 73]
abbrev dktX12_thing_2 : List UInt8 := dkwX12_thing_2 ++ dktX12_thing_3
def dkwX12_thing_1 : List UInt8 := [182, 0, 38, 42, 89, 180, 0, 22, 4, 96, 181, 0, 22, 42, 182, 0, 64, 54, 4, 27, 16, 116]
abbrev dktX12_thing_1 : List UInt8 := dkwX12_thing_1 ++ dktX12_thing_2
def dkwX12_thing_0 : List UInt8 := [42, 180, 0, 1, 42, 182, 0, 34, 182, 0, 60, 62, 42, 29, 155, 0, 7, 4, 167, 0, 4, 3]
abbrev dktX12_thing_0 : List UInt8 := dkwX12_thing_0 ++ dktX12_thing_1
theorem dksX12_thing_0 : cX12_thing.data.toList.drop 0 = dktX12_thing_0 := by decide +kernel
theorem dksX12_thing_1 : cX12_thing.data.toList.drop 22 = dktX12_thing_1 := dk_seg dksX12_thing_0 22 rfl rfl
theorem dksX12_thing_2 : cX12_thing.data.toList.drop 44 = dktX12_thing_2 := dk_seg dksX12_thing_1 22 rfl rfl
theorem dksX12_thing_3 : cX12_thing.data.toList.drop 66 = dktX12_thing_3 := dk_seg dksX12_thing_2 22 rfl rfl
theorem dksX12_thing_4 : cX12_thing.data.toList.drop 89 = dktX12_thing_4 := dk_seg dksX12_thing_3 23 rfl rfl
theorem dX12_thing_0 : decode cX12_thing 0 = .ok (.aload_n 0, 1) := dk_42 (dk_at dksX12_thing_0 0 rfl rfl)
theorem dX12_thing_1 : decode cX12_thing 1 = .ok (.getfield 1, 3) := dk_180 0 1 (dk_at dksX12_thing_0 1 rfl rfl)
theorem dX12_thing_4 : decode cX12_thing 4 = .ok (.aload_n 0, 1) := dk_42 (dk_at dksX12_thing_0 4 rfl rfl)
theorem dX12_thing_5 : decode cX12_thing 5 = .ok (.invokevirtual 34, 3) := dk_182 0 34 (dk_at dksX12_thing_0 5 rfl rfl)
theorem dX12_thing_8 : decode cX12_thing 8 = .ok (.invokevirtual 60, 3) := dk_182 0 60 (dk_at dksX12_thing_0 8 rfl rfl)
theorem dX12_thing_11 : decode cX12_thing 11 = .ok (.istore_n 3, 1) := dk_62 (dk_at dksX12_thing_0 11 rfl rfl)
theorem dX12_thing_12 : decode cX12_thing 12 = .ok (.aload_n 0, 1) := dk_42 (dk_at dksX12_thing_0 12 rfl rfl)
theorem dX12_thing_13 : decode cX12_thing 13 = .ok (.iload_n 3, 1) := dk_29 (dk_at dksX12_thing_0 13 rfl rfl)
theorem dX12_thing_14 : decode cX12_thing 14 = .ok (.ifCond .lt 7, 3) := dk_155 0 7 (dk_at dksX12_thing_0 14 rfl rfl)
theorem dX12_thing_17 : decode cX12_thing 17 = .ok (.iconst 1, 1) := dk_4 (dk_at dksX12_thing_0 17 rfl rfl)
theorem dX12_thing_18 : decode cX12_thing 18 = .ok (.goto 4, 3) := dk_167 0 4 (dk_at dksX12_thing_0 18 rfl rfl)
theorem dX12_thing_21 : decode cX12_thing 21 = .ok (.iconst 0, 1) := dk_3 (dk_at dksX12_thing_0 21 rfl rfl)
theorem dX12_thing_22 : decode cX12_thing 22 = .ok (.invokevirtual 38, 3) := dk_182 0 38 (dk_at dksX12_thing_1 0 rfl rfl)
theorem dX12_thing_25 : decode cX12_thing 25 = .ok (.aload_n 0, 1) := dk_42 (dk_at dksX12_thing_1 3 rfl rfl)
theorem dX12_thing_26 : decode cX12_thing 26 = .ok (.dup, 1) := dk_89 (dk_at dksX12_thing_1 4 rfl rfl)
theorem dX12_thing_27 : decode cX12_thing 27 = .ok (.getfield 22, 3) := dk_180 0 22 (dk_at dksX12_thing_1 5 rfl rfl)
theorem dX12_thing_30 : decode cX12_thing 30 = .ok (.iconst 1, 1) := dk_4 (dk_at dksX12_thing_1 8 rfl rfl)
theorem dX12_thing_31 : decode cX12_thing 31 = .ok (.iadd, 1) := dk_96 (dk_at dksX12_thing_1 9 rfl rfl)
theorem dX12_thing_32 : decode cX12_thing 32 = .ok (.putfield 22, 3) := dk_181 0 22 (dk_at dksX12_thing_1 10 rfl rfl)
theorem dX12_thing_35 : decode cX12_thing 35 = .ok (.aload_n 0, 1) := dk_42 (dk_at dksX12_thing_1 13 rfl rfl)
theorem dX12_thing_36 : decode cX12_thing 36 = .ok (.invokevirtual 64, 3) := dk_182 0 64 (dk_at dksX12_thing_1 14 rfl rfl)
theorem dX12_thing_39 : decode cX12_thing 39 = .ok (.istore 4, 2) := dk_54 4 (dk_at dksX12_thing_1 17 rfl rfl)
theorem dX12_thing_41 : decode cX12_thing 41 = .ok (.iload_n 1, 1) := dk_27 (dk_at dksX12_thing_1 19 rfl rfl)
theorem dX12_thing_42 : decode cX12_thing 42 = .ok (.bipush 116, 2) := dk_16 116 (dk_at dksX12_thing_1 20 rfl rfl)
theorem dX12_thing_44 : decode cX12_thing 44 = .ok (.if_icmp .ne 25, 3) := dk_160 0 25 (dk_at dksX12_thing_2 0 rfl rfl)
theorem dX12_thing_47 : decode cX12_thing 47 = .ok (.new 67, 3) := dk_187 0 67 (dk_at dksX12_thing_2 3 rfl rfl)
theorem dX12_thing_50 : decode cX12_thing 50 = .ok (.dup, 1) := dk_89 (dk_at dksX12_thing_2 6 rfl rfl)
theorem dX12_thing_51 : decode cX12_thing 51 = .ok (.iload_n 2, 1) := dk_28 (dk_at dksX12_thing_2 7 rfl rfl)
theorem dX12_thing_52 : decode cX12_thing 52 = .ok (.aload_n 0, 1) := dk_42 (dk_at dksX12_thing_2 8 rfl rfl)
theorem dX12_thing_53 : decode cX12_thing 53 = .ok (.getfield 1, 3) := dk_180 0 1 (dk_at dksX12_thing_2 9 rfl rfl)
theorem dX12_thing_56 : decode cX12_thing 56 = .ok (.getfield 69, 3) := dk_180 0 69 (dk_at dksX12_thing_2 12 rfl rfl)
theorem dX12_thing_59 : decode cX12_thing 59 = .ok (.iload_n 3, 1) := dk_29 (dk_at dksX12_thing_2 15 rfl rfl)
theorem dX12_thing_60 : decode cX12_thing 60 = .ok (.aaload, 1) := dk_50 (dk_at dksX12_thing_2 16 rfl rfl)
theorem dX12_thing_61 : decode cX12_thing 61 = .ok (.iload 4, 2) := dk_21 4 (dk_at dksX12_thing_2 17 rfl rfl)
theorem dX12_thing_63 : decode cX12_thing 63 = .ok (.invokespecial 73, 3) := dk_183 0 73 (dk_at dksX12_thing_2 19 rfl rfl)
theorem dX12_thing_66 : decode cX12_thing 66 = .ok (.goto 26, 3) := dk_167 0 26 (dk_at dksX12_thing_3 0 rfl rfl)
theorem dX12_thing_69 : decode cX12_thing 69 = .ok (.new 76, 3) := dk_187 0 76 (dk_at dksX12_thing_3 3 rfl rfl)
theorem dX12_thing_72 : decode cX12_thing 72 = .ok (.dup, 1) := dk_89 (dk_at dksX12_thing_3 6 rfl rfl)
theorem dX12_thing_73 : decode cX12_thing 73 = .ok (.iload_n 2, 1) := dk_28 (dk_at dksX12_thing_3 7 rfl rfl)
theorem dX12_thing_74 : decode cX12_thing 74 = .ok (.aload_n 0, 1) := dk_42 (dk_at dksX12_thing_3 8 rfl rfl)
theorem dX12_thing_75 : decode cX12_thing 75 = .ok (.getfield 1, 3) := dk_180 0 1 (dk_at dksX12_thing_3 9 rfl rfl)
theorem dX12_thing_78 : decode cX12_thing 78 = .ok (.getfield 69, 3) := dk_180 0 69 (dk_at dksX12_thing_3 12 rfl rfl)
theorem dX12_thing_81 : decode cX12_thing 81 = .ok (.iload_n 3, 1) := dk_29 (dk_at dksX12_thing_3 15 rfl rfl)
theorem dX12_thing_82 : decode cX12_thing 82 = .ok (.aaload, 1) := dk_50 (dk_at dksX12_thing_3 16 rfl rfl)
theorem dX12_thing_83 : decode cX12_thing 83 = .ok (.iload 4, 2) := dk_21 4 (dk_at dksX12_thing_3 17 rfl rfl)
theorem dX12_thing_85 : decode cX12_thing 85 = .ok (.aload_n 0, 1) := dk_42 (dk_at dksX12_thing_3 19 rfl rfl)
theorem dX12_thing_86 : decode cX12_thing 86 = .ok (.invokevirtual 64, 3) := dk_182 0 64 (dk_at dksX12_thing_3 20 rfl rfl)
theorem dX12_thing_89 : decode cX12_thing 89 = .ok (.invokespecial 78, 3) := dk_183 0 78 (dk_at dksX12_thing_4 0 rfl rfl)
theorem dX12_thing_92 : decode cX12_thing 92 = .ok (.areturn, 1) := dk_176 (dk_at dksX12_thing_4 3 rfl rfl)
abbrev cX12_digit : ByteArray := prog_13_method_5_code
def yX12_digit : MethodName := ⟨RX12, "digit", "()I"⟩
def dkwX12_digit_1 : List UInt8 := [96, 181, 0, 22, 42, 180, 0, 1, 180, 0, 25, 42, 180, 0, 22, 4, 100, 52, 16, 48, 100, 172]
abbrev dktX12_digit_1 : List UInt8 := dkwX12_digit_1 ++ []
def dkwX12_digit_0 : List UInt8 := [42, 42, 182, 0, 34, 133, 20, 0, 42, 20, 0, 44, 184, 0, 46, 182, 0, 38, 42, 89, 180, 0, 22, 4]
abbrev dktX12_digit_0 : List UInt8 := dkwX12_digit_0 ++ dktX12_digit_1
theorem dksX12_digit_0 : cX12_digit.data.toList.drop 0 = dktX12_digit_0 := by decide +kernel
theorem dksX12_digit_1 : cX12_digit.data.toList.drop 24 = dktX12_digit_1 := dk_seg dksX12_digit_0 24 rfl rfl
theorem dX12_digit_0 : decode cX12_digit 0 = .ok (.aload_n 0, 1) := dk_42 (dk_at dksX12_digit_0 0 rfl rfl)
theorem dX12_digit_1 : decode cX12_digit 1 = .ok (.aload_n 0, 1) := dk_42 (dk_at dksX12_digit_0 1 rfl rfl)
theorem dX12_digit_2 : decode cX12_digit 2 = .ok (.invokevirtual 34, 3) := dk_182 0 34 (dk_at dksX12_digit_0 2 rfl rfl)
theorem dX12_digit_5 : decode cX12_digit 5 = .ok (.i2l, 1) := dk_133 (dk_at dksX12_digit_0 5 rfl rfl)
theorem dX12_digit_6 : decode cX12_digit 6 = .ok (.ldc2_w 42, 3) := dk_20 0 42 (dk_at dksX12_digit_0 6 rfl rfl)
theorem dX12_digit_9 : decode cX12_digit 9 = .ok (.ldc2_w 44, 3) := dk_20 0 44 (dk_at dksX12_digit_0 9 rfl rfl)
theorem dX12_digit_12 : decode cX12_digit 12 = .ok (.invokestatic 46, 3) := dk_184 0 46 (dk_at dksX12_digit_0 12 rfl rfl)
theorem dX12_digit_15 : decode cX12_digit 15 = .ok (.invokevirtual 38, 3) := dk_182 0 38 (dk_at dksX12_digit_0 15 rfl rfl)
theorem dX12_digit_18 : decode cX12_digit 18 = .ok (.aload_n 0, 1) := dk_42 (dk_at dksX12_digit_0 18 rfl rfl)
theorem dX12_digit_19 : decode cX12_digit 19 = .ok (.dup, 1) := dk_89 (dk_at dksX12_digit_0 19 rfl rfl)
theorem dX12_digit_20 : decode cX12_digit 20 = .ok (.getfield 22, 3) := dk_180 0 22 (dk_at dksX12_digit_0 20 rfl rfl)
theorem dX12_digit_23 : decode cX12_digit 23 = .ok (.iconst 1, 1) := dk_4 (dk_at dksX12_digit_0 23 rfl rfl)
theorem dX12_digit_24 : decode cX12_digit 24 = .ok (.iadd, 1) := dk_96 (dk_at dksX12_digit_1 0 rfl rfl)
theorem dX12_digit_25 : decode cX12_digit 25 = .ok (.putfield 22, 3) := dk_181 0 22 (dk_at dksX12_digit_1 1 rfl rfl)
theorem dX12_digit_28 : decode cX12_digit 28 = .ok (.aload_n 0, 1) := dk_42 (dk_at dksX12_digit_1 4 rfl rfl)
theorem dX12_digit_29 : decode cX12_digit 29 = .ok (.getfield 1, 3) := dk_180 0 1 (dk_at dksX12_digit_1 5 rfl rfl)
theorem dX12_digit_32 : decode cX12_digit 32 = .ok (.getfield 25, 3) := dk_180 0 25 (dk_at dksX12_digit_1 8 rfl rfl)
theorem dX12_digit_35 : decode cX12_digit 35 = .ok (.aload_n 0, 1) := dk_42 (dk_at dksX12_digit_1 11 rfl rfl)
theorem dX12_digit_36 : decode cX12_digit 36 = .ok (.getfield 22, 3) := dk_180 0 22 (dk_at dksX12_digit_1 12 rfl rfl)
theorem dX12_digit_39 : decode cX12_digit 39 = .ok (.iconst 1, 1) := dk_4 (dk_at dksX12_digit_1 15 rfl rfl)
theorem dX12_digit_40 : decode cX12_digit 40 = .ok (.isub, 1) := dk_100 (dk_at dksX12_digit_1 16 rfl rfl)
theorem dX12_digit_41 : decode cX12_digit 41 = .ok (.caload, 1) := dk_52 (dk_at dksX12_digit_1 17 rfl rfl)
theorem dX12_digit_42 : decode cX12_digit 42 = .ok (.bipush 48, 2) := dk_16 48 (dk_at dksX12_digit_1 18 rfl rfl)
theorem dX12_digit_44 : decode cX12_digit 44 = .ok (.isub, 1) := dk_100 (dk_at dksX12_digit_1 20 rfl rfl)
theorem dX12_digit_45 : decode cX12_digit 45 = .ok (.ireturn, 1) := dk_172 (dk_at dksX12_digit_1 21 rfl rfl)
abbrev cX12_told : ByteArray := prog_13_method_8_code
def yX12_told : MethodName := ⟨RX12, "told", "(II)LPulledFromUnder$Told;"⟩
def dkwX12_told_4 : List UInt8 := [183, 0, 96, 176]
abbrev dktX12_told_4 : List UInt8 := dkwX12_told_4 ++ []
def dkwX12_told_3 : List UInt8 := [187, 0, 91, 89, 28, 29, 183, 0, 93, 176, 187, 0, 94, 89, 28, 16, 10, 29, 104, 42, 182, 0, 64, 96]
abbrev dktX12_told_3 : List UInt8 := dkwX12_told_3 ++ dktX12_told_4
def dkwX12_told_2 : List UInt8 := [187, 0, 81, 89, 28, 29, 42, 182, 0, 64, 183, 0, 83, 176, 187, 0, 86, 89, 28, 29, 183, 0, 88, 176]
abbrev dktX12_told_2 : List UInt8 := dkwX12_told_2 ++ dktX12_told_3
def dkwX12_told_1 : List UInt8 := [171, 0, 0, 0, 0, 68, 0, 0, 0, 3, 0, 0, 0, 102, 0, 0, 0, 48, 0, 0, 0, 104, 0, 0, 0, 58, 0, 0, 0, 112, 0, 0, 0, 34]
abbrev dktX12_told_1 : List UInt8 := dkwX12_told_1 ++ dktX12_told_2
def dkwX12_told_0 : List UInt8 := [42, 182, 0, 64, 62, 27]
abbrev dktX12_told_0 : List UInt8 := dkwX12_told_0 ++ dktX12_told_1
theorem dksX12_told_0 : cX12_told.data.toList.drop 0 = dktX12_told_0 := by decide +kernel
theorem dksX12_told_1 : cX12_told.data.toList.drop 6 = dktX12_told_1 := dk_seg dksX12_told_0 6 rfl rfl
theorem dksX12_told_2 : cX12_told.data.toList.drop 40 = dktX12_told_2 := dk_seg dksX12_told_1 34 rfl rfl
theorem dksX12_told_3 : cX12_told.data.toList.drop 64 = dktX12_told_3 := dk_seg dksX12_told_2 24 rfl rfl
theorem dksX12_told_4 : cX12_told.data.toList.drop 88 = dktX12_told_4 := dk_seg dksX12_told_3 24 rfl rfl
theorem dX12_told_0 : decode cX12_told 0 = .ok (.aload_n 0, 1) := dk_42 (dk_at dksX12_told_0 0 rfl rfl)
theorem dX12_told_1 : decode cX12_told 1 = .ok (.invokevirtual 64, 3) := dk_182 0 64 (dk_at dksX12_told_0 1 rfl rfl)
theorem dX12_told_4 : decode cX12_told 4 = .ok (.istore_n 3, 1) := dk_62 (dk_at dksX12_told_0 4 rfl rfl)
theorem dX12_told_5 : decode cX12_told 5 = .ok (.iload_n 1, 1) := dk_27 (dk_at dksX12_told_0 5 rfl rfl)
theorem dX12_told_6 : decode cX12_told 6 = .ok (.lookupswitch 68 #[(102, 48), (104, 58), (112, 34)], 34) := by decide +kernel
theorem dX12_told_40 : decode cX12_told 40 = .ok (.new 81, 3) := dk_187 0 81 (dk_at dksX12_told_2 0 rfl rfl)
theorem dX12_told_43 : decode cX12_told 43 = .ok (.dup, 1) := dk_89 (dk_at dksX12_told_2 3 rfl rfl)
theorem dX12_told_44 : decode cX12_told 44 = .ok (.iload_n 2, 1) := dk_28 (dk_at dksX12_told_2 4 rfl rfl)
theorem dX12_told_45 : decode cX12_told 45 = .ok (.iload_n 3, 1) := dk_29 (dk_at dksX12_told_2 5 rfl rfl)
theorem dX12_told_46 : decode cX12_told 46 = .ok (.aload_n 0, 1) := dk_42 (dk_at dksX12_told_2 6 rfl rfl)
theorem dX12_told_47 : decode cX12_told 47 = .ok (.invokevirtual 64, 3) := dk_182 0 64 (dk_at dksX12_told_2 7 rfl rfl)
theorem dX12_told_50 : decode cX12_told 50 = .ok (.invokespecial 83, 3) := dk_183 0 83 (dk_at dksX12_told_2 10 rfl rfl)
theorem dX12_told_53 : decode cX12_told 53 = .ok (.areturn, 1) := dk_176 (dk_at dksX12_told_2 13 rfl rfl)
theorem dX12_told_54 : decode cX12_told 54 = .ok (.new 86, 3) := dk_187 0 86 (dk_at dksX12_told_2 14 rfl rfl)
theorem dX12_told_57 : decode cX12_told 57 = .ok (.dup, 1) := dk_89 (dk_at dksX12_told_2 17 rfl rfl)
theorem dX12_told_58 : decode cX12_told 58 = .ok (.iload_n 2, 1) := dk_28 (dk_at dksX12_told_2 18 rfl rfl)
theorem dX12_told_59 : decode cX12_told 59 = .ok (.iload_n 3, 1) := dk_29 (dk_at dksX12_told_2 19 rfl rfl)
theorem dX12_told_60 : decode cX12_told 60 = .ok (.invokespecial 88, 3) := dk_183 0 88 (dk_at dksX12_told_2 20 rfl rfl)
theorem dX12_told_63 : decode cX12_told 63 = .ok (.areturn, 1) := dk_176 (dk_at dksX12_told_2 23 rfl rfl)
theorem dX12_told_64 : decode cX12_told 64 = .ok (.new 91, 3) := dk_187 0 91 (dk_at dksX12_told_3 0 rfl rfl)
theorem dX12_told_67 : decode cX12_told 67 = .ok (.dup, 1) := dk_89 (dk_at dksX12_told_3 3 rfl rfl)
theorem dX12_told_68 : decode cX12_told 68 = .ok (.iload_n 2, 1) := dk_28 (dk_at dksX12_told_3 4 rfl rfl)
theorem dX12_told_69 : decode cX12_told 69 = .ok (.iload_n 3, 1) := dk_29 (dk_at dksX12_told_3 5 rfl rfl)
theorem dX12_told_70 : decode cX12_told 70 = .ok (.invokespecial 93, 3) := dk_183 0 93 (dk_at dksX12_told_3 6 rfl rfl)
theorem dX12_told_73 : decode cX12_told 73 = .ok (.areturn, 1) := dk_176 (dk_at dksX12_told_3 9 rfl rfl)
theorem dX12_told_74 : decode cX12_told 74 = .ok (.new 94, 3) := dk_187 0 94 (dk_at dksX12_told_3 10 rfl rfl)
theorem dX12_told_77 : decode cX12_told 77 = .ok (.dup, 1) := dk_89 (dk_at dksX12_told_3 13 rfl rfl)
theorem dX12_told_78 : decode cX12_told 78 = .ok (.iload_n 2, 1) := dk_28 (dk_at dksX12_told_3 14 rfl rfl)
theorem dX12_told_79 : decode cX12_told 79 = .ok (.bipush 10, 2) := dk_16 10 (dk_at dksX12_told_3 15 rfl rfl)
theorem dX12_told_81 : decode cX12_told 81 = .ok (.iload_n 3, 1) := dk_29 (dk_at dksX12_told_3 17 rfl rfl)
theorem dX12_told_82 : decode cX12_told 82 = .ok (.imul, 1) := dk_104 (dk_at dksX12_told_3 18 rfl rfl)
theorem dX12_told_83 : decode cX12_told 83 = .ok (.aload_n 0, 1) := dk_42 (dk_at dksX12_told_3 19 rfl rfl)
theorem dX12_told_84 : decode cX12_told 84 = .ok (.invokevirtual 64, 3) := dk_182 0 64 (dk_at dksX12_told_3 20 rfl rfl)
theorem dX12_told_87 : decode cX12_told 87 = .ok (.iadd, 1) := dk_96 (dk_at dksX12_told_3 23 rfl rfl)
theorem dX12_told_88 : decode cX12_told 88 = .ok (.invokespecial 96, 3) := dk_183 0 96 (dk_at dksX12_told_4 0 rfl rfl)
theorem dX12_told_91 : decode cX12_told 91 = .ok (.areturn, 1) := dk_176 (dk_at dksX12_told_4 3 rfl rfl)
abbrev cX12_take : ByteArray := prog_13_method_4_code
def yX12_take : MethodName := ⟨RX12, "take", "(I)V"⟩
def dkwX12_take_1 : List UInt8 := [181, 0, 22, 177]
abbrev dktX12_take_1 : List UInt8 := dkwX12_take_1 ++ []
def dkwX12_take_0 : List UInt8 := [42, 42, 182, 0, 34, 27, 160, 0, 7, 4, 167, 0, 4, 3, 182, 0, 38, 42, 89, 180, 0, 22, 4, 96]
abbrev dktX12_take_0 : List UInt8 := dkwX12_take_0 ++ dktX12_take_1
theorem dksX12_take_0 : cX12_take.data.toList.drop 0 = dktX12_take_0 := by decide +kernel
theorem dksX12_take_1 : cX12_take.data.toList.drop 24 = dktX12_take_1 := dk_seg dksX12_take_0 24 rfl rfl
theorem dX12_take_0 : decode cX12_take 0 = .ok (.aload_n 0, 1) := dk_42 (dk_at dksX12_take_0 0 rfl rfl)
theorem dX12_take_1 : decode cX12_take 1 = .ok (.aload_n 0, 1) := dk_42 (dk_at dksX12_take_0 1 rfl rfl)
theorem dX12_take_2 : decode cX12_take 2 = .ok (.invokevirtual 34, 3) := dk_182 0 34 (dk_at dksX12_take_0 2 rfl rfl)
theorem dX12_take_5 : decode cX12_take 5 = .ok (.iload_n 1, 1) := dk_27 (dk_at dksX12_take_0 5 rfl rfl)
theorem dX12_take_6 : decode cX12_take 6 = .ok (.if_icmp .ne 7, 3) := dk_160 0 7 (dk_at dksX12_take_0 6 rfl rfl)
theorem dX12_take_9 : decode cX12_take 9 = .ok (.iconst 1, 1) := dk_4 (dk_at dksX12_take_0 9 rfl rfl)
theorem dX12_take_10 : decode cX12_take 10 = .ok (.goto 4, 3) := dk_167 0 4 (dk_at dksX12_take_0 10 rfl rfl)
theorem dX12_take_13 : decode cX12_take 13 = .ok (.iconst 0, 1) := dk_3 (dk_at dksX12_take_0 13 rfl rfl)
theorem dX12_take_14 : decode cX12_take 14 = .ok (.invokevirtual 38, 3) := dk_182 0 38 (dk_at dksX12_take_0 14 rfl rfl)
theorem dX12_take_17 : decode cX12_take 17 = .ok (.aload_n 0, 1) := dk_42 (dk_at dksX12_take_0 17 rfl rfl)
theorem dX12_take_18 : decode cX12_take 18 = .ok (.dup, 1) := dk_89 (dk_at dksX12_take_0 18 rfl rfl)
theorem dX12_take_19 : decode cX12_take 19 = .ok (.getfield 22, 3) := dk_180 0 22 (dk_at dksX12_take_0 19 rfl rfl)
theorem dX12_take_22 : decode cX12_take 22 = .ok (.iconst 1, 1) := dk_4 (dk_at dksX12_take_0 22 rfl rfl)
theorem dX12_take_23 : decode cX12_take 23 = .ok (.iadd, 1) := dk_96 (dk_at dksX12_take_0 23 rfl rfl)
theorem dX12_take_24 : decode cX12_take 24 = .ok (.putfield 22, 3) := dk_181 0 22 (dk_at dksX12_take_1 0 rfl rfl)
theorem dX12_take_27 : decode cX12_take 27 = .ok (.return_, 1) := dk_177 (dk_at dksX12_take_1 3 rfl rfl)
theorem q101 : (Jvm.Cond.initialized "PulledFromUnder$Reader") ∈ lw_all := lw_g (lw_at lw_m1 16 rfl) rfl
theorem q220 : (Jvm.Cond.fieldLinkNest "PulledFromUnder$Reader" (69 : Nat) "PulledFromUnder" "kinds" "[LPulledFromUnder$Kind;" "PulledFromUnder") ∈ lw_tbl := lw_at lw_m1 135 rfl
theorem q228 : (Jvm.Cond.fieldLinkNest "PulledFromUnder$Reader" (25 : Nat) "PulledFromUnder" "letters" "[C" "PulledFromUnder") ∈ lw_tbl := lw_at lw_m1 143 rfl
theorem q230 : (Jvm.Cond.fieldLinkNest "PulledFromUnder$Reader" (13 : Nat) "PulledFromUnder" "letterMany" "I" "PulledFromUnder") ∈ lw_tbl := lw_at lw_m1 145 rfl
theorem q363 : (Jvm.Cond.instantiable "PulledFromUnder$Reader" (3 : Nat)) ∈ lw_all := lw_g (lw_at lw_m2 38 rfl) rfl
theorem q365 : (Jvm.Cond.instanceMethod ({ cls := "PulledFromUnder$Reader", name := "<init>", desc := "(LPulledFromUnder;)V" } : Jvm.MethodName)) ∈ lw_all := lw_g (lw_at lw_m2 40 rfl) rfl
theorem q366 : (Jvm.Cond.code ({ cls := "PulledFromUnder$Reader", name := "<init>", desc := "(LPulledFromUnder;)V" } : Jvm.MethodName) prog_13_method_1_code (2 : Nat) (Option.none : Option Jvm.ClassFile.FieldType)) ∈ lw_all := lw_g (lw_at lw_m2 41 rfl) rfl
theorem q367 : (Jvm.Cond.methodLink "PulledFromUnder$Reader" (7 : Nat) ({ cls := "java/lang/Object", name := "<init>", desc := "()V" } : Jvm.MethodName)) ∈ lw_all := lw_g (lw_at lw_m2 42 rfl) rfl
theorem q368 : (Jvm.Cond.fieldLink "PulledFromUnder$Reader" (19 : Nat) "PulledFromUnder$Reader" "size" "I") ∈ lw_all := lw_g (lw_at lw_m2 43 rfl) rfl
theorem q370 : (Jvm.Cond.fieldLink "PulledFromUnder$Reader" (22 : Nat) "PulledFromUnder$Reader" "at" "I") ∈ lw_all := lw_g (lw_at lw_m2 45 rfl) rfl
theorem q372 : (Jvm.Cond.fieldLink "PulledFromUnder$Reader" (1 : Nat) "PulledFromUnder$Reader" "this$0" "LPulledFromUnder;") ∈ lw_all := lw_g (lw_at lw_m2 47 rfl) rfl
theorem q373 : (Jvm.Cond.laysFinal "PulledFromUnder$Reader" "PulledFromUnder$Reader" "size" "I") ∈ lw_all := lw_g (lw_at lw_m2 48 rfl) rfl
theorem q374 : (Jvm.Cond.soleField "PulledFromUnder$Reader" "size") ∈ lw_all := lw_g (lw_at lw_m2 49 rfl) rfl
theorem q375 : (Jvm.Cond.lays "PulledFromUnder$Reader" "PulledFromUnder$Reader" "at" "I") ∈ lw_all := lw_g (lw_at lw_m2 50 rfl) rfl
theorem q376 : (Jvm.Cond.soleField "PulledFromUnder$Reader" "at") ∈ lw_all := lw_g (lw_at lw_m2 51 rfl) rfl
theorem q377 : (Jvm.Cond.laysFinal "PulledFromUnder$Reader" "PulledFromUnder$Reader" "this$0" "LPulledFromUnder;") ∈ lw_all := lw_g (lw_at lw_m2 52 rfl) rfl
theorem q378 : (Jvm.Cond.soleField "PulledFromUnder$Reader" "this$0") ∈ lw_all := lw_g (lw_at lw_m2 53 rfl) rfl
theorem q379 : (Jvm.Cond.superclass "PulledFromUnder$Reader" "java/lang/Object") ∈ lw_all := lw_g (lw_at lw_m2 54 rfl) rfl
theorem q383 : (Jvm.Cond.instanceMethod ({ cls := "PulledFromUnder$Reader", name := "statement", desc := "()LPulledFromUnder$Told;" } : Jvm.MethodName)) ∈ lw_all := lw_g (lw_at lw_m2 58 rfl) rfl
theorem q384 : (Jvm.Cond.selects "PulledFromUnder$Reader" ({ cls := "PulledFromUnder$Reader", name := "statement", desc := "()LPulledFromUnder$Told;" } : Jvm.MethodName) ({ cls := "PulledFromUnder$Reader", name := "statement", desc := "()LPulledFromUnder$Told;" } : Jvm.MethodName)) ∈ lw_all := lw_g (lw_at lw_m2 59 rfl) rfl
theorem q385 : (Jvm.Cond.code ({ cls := "PulledFromUnder$Reader", name := "statement", desc := "()LPulledFromUnder$Told;" } : Jvm.MethodName) prog_13_method_6_code (4 : Nat) (Option.some (Jvm.ClassFile.FieldType.object "PulledFromUnder$Told"))) ∈ lw_all := lw_g (lw_at lw_m2 60 rfl) rfl
theorem q386 : (Jvm.Cond.methodLink "PulledFromUnder$Reader" (34 : Nat) ({ cls := "PulledFromUnder$Reader", name := "here", desc := "()I" } : Jvm.MethodName)) ∈ lw_all := lw_g (lw_at lw_m2 61 rfl) rfl
theorem q387 : (Jvm.Cond.privateMethod ({ cls := "PulledFromUnder$Reader", name := "here", desc := "()I" } : Jvm.MethodName)) ∈ lw_tbl := lw_at lw_m2 62 rfl
theorem q388 : (Jvm.Cond.instanceMethod ({ cls := "PulledFromUnder$Reader", name := "here", desc := "()I" } : Jvm.MethodName)) ∈ lw_all := lw_g (lw_at lw_m2 63 rfl) rfl
theorem q389 : (Jvm.Cond.code ({ cls := "PulledFromUnder$Reader", name := "here", desc := "()I" } : Jvm.MethodName) prog_13_method_2_code (1 : Nat) (Option.some Jvm.ClassFile.FieldType.int)) ∈ lw_all := lw_g (lw_at lw_m2 64 rfl) rfl
theorem q390 : (Jvm.Cond.methodLink "PulledFromUnder$Reader" (38 : Nat) ({ cls := "PulledFromUnder$Reader", name := "mustStand", desc := "(Z)V" } : Jvm.MethodName)) ∈ lw_all := lw_g (lw_at lw_m2 65 rfl) rfl
theorem q391 : (Jvm.Cond.privateMethod ({ cls := "PulledFromUnder$Reader", name := "mustStand", desc := "(Z)V" } : Jvm.MethodName)) ∈ lw_tbl := lw_at lw_m2 66 rfl
theorem q392 : (Jvm.Cond.instanceMethod ({ cls := "PulledFromUnder$Reader", name := "mustStand", desc := "(Z)V" } : Jvm.MethodName)) ∈ lw_all := lw_g (lw_at lw_m2 67 rfl) rfl
theorem q393 : (Jvm.Cond.code ({ cls := "PulledFromUnder$Reader", name := "mustStand", desc := "(Z)V" } : Jvm.MethodName) prog_13_method_3_code (2 : Nat) (Option.none : Option Jvm.ClassFile.FieldType)) ∈ lw_all := lw_g (lw_at lw_m2 68 rfl) rfl
theorem q394 : (Jvm.Cond.classLink "PulledFromUnder$Reader" (29 : Nat) "PulledFromUnder$Fault") ∈ lw_all := lw_g (lw_at lw_m2 69 rfl) rfl
theorem q403 : (Jvm.Cond.methodLink "PulledFromUnder$Reader" (31 : Nat) ({ cls := "PulledFromUnder$Fault", name := "<init>", desc := "(I)V" } : Jvm.MethodName)) ∈ lw_all := lw_g (lw_at lw_m2 78 rfl) rfl
theorem q412 : (Jvm.Cond.methodLink "PulledFromUnder$Reader" (50 : Nat) ({ cls := "PulledFromUnder$Reader", name := "thing", desc := "(II)LPulledFromUnder$Told;" } : Jvm.MethodName)) ∈ lw_all := lw_g (lw_at lw_m2 87 rfl) rfl
theorem q413 : (Jvm.Cond.privateMethod ({ cls := "PulledFromUnder$Reader", name := "thing", desc := "(II)LPulledFromUnder$Told;" } : Jvm.MethodName)) ∈ lw_tbl := lw_at lw_m2 88 rfl
theorem q414 : (Jvm.Cond.instanceMethod ({ cls := "PulledFromUnder$Reader", name := "thing", desc := "(II)LPulledFromUnder$Told;" } : Jvm.MethodName)) ∈ lw_all := lw_g (lw_at lw_m2 89 rfl) rfl
theorem q415 : (Jvm.Cond.code ({ cls := "PulledFromUnder$Reader", name := "thing", desc := "(II)LPulledFromUnder$Told;" } : Jvm.MethodName) prog_13_method_7_code (5 : Nat) (Option.some (Jvm.ClassFile.FieldType.object "PulledFromUnder$Told"))) ∈ lw_all := lw_g (lw_at lw_m2 90 rfl) rfl
theorem q416 : (Jvm.Cond.methodLinkNest "PulledFromUnder$Reader" (60 : Nat) ({ cls := "PulledFromUnder", name := "kindOf", desc := "(I)I" } : Jvm.MethodName) "PulledFromUnder") ∈ lw_tbl := lw_at lw_m2 91 rfl
theorem q420 : (Jvm.Cond.methodLink "PulledFromUnder$Reader" (64 : Nat) ({ cls := "PulledFromUnder$Reader", name := "digit", desc := "()I" } : Jvm.MethodName)) ∈ lw_all := lw_g (lw_at lw_m2 95 rfl) rfl
theorem q421 : (Jvm.Cond.privateMethod ({ cls := "PulledFromUnder$Reader", name := "digit", desc := "()I" } : Jvm.MethodName)) ∈ lw_tbl := lw_at lw_m2 96 rfl
theorem q422 : (Jvm.Cond.instanceMethod ({ cls := "PulledFromUnder$Reader", name := "digit", desc := "()I" } : Jvm.MethodName)) ∈ lw_all := lw_g (lw_at lw_m2 97 rfl) rfl
theorem q423 : (Jvm.Cond.code ({ cls := "PulledFromUnder$Reader", name := "digit", desc := "()I" } : Jvm.MethodName) prog_13_method_5_code (1 : Nat) (Option.some Jvm.ClassFile.FieldType.int)) ∈ lw_all := lw_g (lw_at lw_m2 98 rfl) rfl
theorem q424 : (Jvm.Cond.constantLong "PulledFromUnder$Reader" (42 : Nat) (48 : Int64)) ∈ lw_all := lw_g (lw_at lw_m2 99 rfl) rfl
theorem q425 : (Jvm.Cond.constantLong "PulledFromUnder$Reader" (44 : Nat) (57 : Int64)) ∈ lw_all := lw_g (lw_at lw_m2 100 rfl) rfl
theorem q426 : (Jvm.Cond.methodLinkNest "PulledFromUnder$Reader" (46 : Nat) ({ cls := "PulledFromUnder", name := "in", desc := "(JJJ)Z" } : Jvm.MethodName) "PulledFromUnder") ∈ lw_tbl := lw_at lw_m2 101 rfl
theorem q429 : (Jvm.Cond.classLink "PulledFromUnder$Reader" (67 : Nat) "PulledFromUnder$FloorThingTold") ∈ lw_all := lw_g (lw_at lw_m2 104 rfl) rfl
theorem q431 : (Jvm.Cond.methodLink "PulledFromUnder$Reader" (73 : Nat) ({ cls := "PulledFromUnder$FloorThingTold", name := "<init>", desc := "(ILPulledFromUnder$Kind;I)V" } : Jvm.MethodName)) ∈ lw_all := lw_g (lw_at lw_m2 106 rfl) rfl
theorem q463 : (Jvm.Cond.classLink "PulledFromUnder$Reader" (76 : Nat) "PulledFromUnder$OnThingTold") ∈ lw_all := lw_g (lw_at lw_m2 138 rfl) rfl
theorem q465 : (Jvm.Cond.methodLink "PulledFromUnder$Reader" (78 : Nat) ({ cls := "PulledFromUnder$OnThingTold", name := "<init>", desc := "(ILPulledFromUnder$Kind;II)V" } : Jvm.MethodName)) ∈ lw_all := lw_g (lw_at lw_m2 140 rfl) rfl
theorem q476 : (Jvm.Cond.methodLink "PulledFromUnder$Reader" (54 : Nat) ({ cls := "PulledFromUnder$Reader", name := "told", desc := "(II)LPulledFromUnder$Told;" } : Jvm.MethodName)) ∈ lw_all := lw_g (lw_at lw_m2 151 rfl) rfl
theorem q477 : (Jvm.Cond.privateMethod ({ cls := "PulledFromUnder$Reader", name := "told", desc := "(II)LPulledFromUnder$Told;" } : Jvm.MethodName)) ∈ lw_tbl := lw_at lw_m2 152 rfl
theorem q478 : (Jvm.Cond.instanceMethod ({ cls := "PulledFromUnder$Reader", name := "told", desc := "(II)LPulledFromUnder$Told;" } : Jvm.MethodName)) ∈ lw_all := lw_g (lw_at lw_m2 153 rfl) rfl
theorem q479 : (Jvm.Cond.code ({ cls := "PulledFromUnder$Reader", name := "told", desc := "(II)LPulledFromUnder$Told;" } : Jvm.MethodName) prog_13_method_8_code (4 : Nat) (Option.some (Jvm.ClassFile.FieldType.object "PulledFromUnder$Told"))) ∈ lw_all := lw_g (lw_at lw_m2 154 rfl) rfl
theorem q480 : (Jvm.Cond.classLink "PulledFromUnder$Reader" (81 : Nat) "PulledFromUnder$PullTold") ∈ lw_all := lw_g (lw_at lw_m2 155 rfl) rfl
theorem q482 : (Jvm.Cond.methodLink "PulledFromUnder$Reader" (83 : Nat) ({ cls := "PulledFromUnder$PullTold", name := "<init>", desc := "(III)V" } : Jvm.MethodName)) ∈ lw_all := lw_g (lw_at lw_m2 157 rfl) rfl
theorem q492 : (Jvm.Cond.classLink "PulledFromUnder$Reader" (86 : Nat) "PulledFromUnder$FloorTold") ∈ lw_all := lw_g (lw_at lw_m2 167 rfl) rfl
theorem q494 : (Jvm.Cond.methodLink "PulledFromUnder$Reader" (88 : Nat) ({ cls := "PulledFromUnder$FloorTold", name := "<init>", desc := "(II)V" } : Jvm.MethodName)) ∈ lw_all := lw_g (lw_at lw_m2 169 rfl) rfl
theorem q501 : (Jvm.Cond.classLink "PulledFromUnder$Reader" (91 : Nat) "PulledFromUnder$SetUpTold") ∈ lw_all := lw_g (lw_at lw_m2 176 rfl) rfl
theorem q503 : (Jvm.Cond.methodLink "PulledFromUnder$Reader" (93 : Nat) ({ cls := "PulledFromUnder$SetUpTold", name := "<init>", desc := "(II)V" } : Jvm.MethodName)) ∈ lw_all := lw_g (lw_at lw_m2 178 rfl) rfl
theorem q510 : (Jvm.Cond.classLink "PulledFromUnder$Reader" (94 : Nat) "PulledFromUnder$MinutesTold") ∈ lw_all := lw_g (lw_at lw_m2 185 rfl) rfl
theorem q512 : (Jvm.Cond.methodLink "PulledFromUnder$Reader" (96 : Nat) ({ cls := "PulledFromUnder$MinutesTold", name := "<init>", desc := "(II)V" } : Jvm.MethodName)) ∈ lw_all := lw_g (lw_at lw_m2 187 rfl) rfl
theorem q519 : (Jvm.Cond.methodLink "PulledFromUnder$Reader" (57 : Nat) ({ cls := "PulledFromUnder$Reader", name := "take", desc := "(I)V" } : Jvm.MethodName)) ∈ lw_all := lw_g (lw_at lw_m2 194 rfl) rfl
theorem q520 : (Jvm.Cond.privateMethod ({ cls := "PulledFromUnder$Reader", name := "take", desc := "(I)V" } : Jvm.MethodName)) ∈ lw_tbl := lw_at lw_m2 195 rfl
theorem q521 : (Jvm.Cond.instanceMethod ({ cls := "PulledFromUnder$Reader", name := "take", desc := "(I)V" } : Jvm.MethodName)) ∈ lw_all := lw_g (lw_at lw_m2 196 rfl) rfl
theorem q522 : (Jvm.Cond.code ({ cls := "PulledFromUnder$Reader", name := "take", desc := "(I)V" } : Jvm.MethodName) prog_13_method_4_code (2 : Nat) (Option.none : Option Jvm.ClassFile.FieldType)) ∈ lw_all := lw_g (lw_at lw_m2 197 rfl) rfl
theorem in_X12 : ∀ w ∈ wsX120, w ∈ lw_all := lw_in wsX120 [373, 375, 377] (by decide +kernel) (by decide +kernel)
/-! PulledFromUnder$Fault -/
set_option maxRecDepth 100000
def RX13 : String := "PulledFromUnder$Fault"
def TX13 : u_T := fun k => match k with
  | 0 => ("java/lang/Throwable", "cause", "Ljava/lang/Throwable;", false)
  | 1 => ("java/lang/Throwable", "stackTrace", "[Ljava/lang/StackTraceElement;", false)
  | 2 => ("java/lang/Throwable", "suppressedExceptions", "Ljava/util/List;", false)
  | 3 => ("java/lang/Throwable", "detailMessage", "Ljava/lang/String;", false)
  | 4 => ("java/lang/Throwable", "backtrace", "Ljava/lang/Object;", false)
  | 5 => ("java/lang/Throwable", "depth", "I", false)
  | _ => ("PulledFromUnder$Fault", "told", "I", true)
def tyX13 : Nat → FieldType := fun k => match k with
  | 0 => .object "java/lang/Throwable"
  | 1 => .array (.object "java/lang/StackTraceElement")
  | 2 => .object "java/util/List"
  | 3 => .object "java/lang/String"
  | 4 => .object "java/lang/Object"
  | 5 => .int
  | _ => .int
abbrev wsX130 : List Cond := u_ws RX13 TX13 7
theorem nmX13 : ∀ a, a < 7 → ∀ b, b < 7 → a ≠ b → (TX13 a).2.1 ≠ (TX13 b).2.1 := by decide +kernel
theorem tyX13_ok : ∀ k, k < 7 → parseFieldDescriptor (TX13 k).2.2.1 = some (tyX13 k) := by decide +kernel
abbrev cX13_init : ByteArray := prog_4_method_1_code
def yX13_init : MethodName := ⟨RX13, "<init>", "(I)V"⟩
def dkwX13_init_0 : List UInt8 := [42, 183, 0, 1, 42, 27, 181, 0, 7, 177]
abbrev dktX13_init_0 : List UInt8 := dkwX13_init_0 ++ []
theorem dksX13_init_0 : cX13_init.data.toList.drop 0 = dktX13_init_0 := by decide +kernel
theorem dX13_init_0 : decode cX13_init 0 = .ok (.aload_n 0, 1) := dk_42 (dk_at dksX13_init_0 0 rfl rfl)
theorem dX13_init_1 : decode cX13_init 1 = .ok (.invokespecial 1, 3) := dk_183 0 1 (dk_at dksX13_init_0 1 rfl rfl)
theorem dX13_init_4 : decode cX13_init 4 = .ok (.aload_n 0, 1) := dk_42 (dk_at dksX13_init_0 4 rfl rfl)
theorem dX13_init_5 : decode cX13_init 5 = .ok (.iload_n 1, 1) := dk_27 (dk_at dksX13_init_0 5 rfl rfl)
theorem dX13_init_6 : decode cX13_init 6 = .ok (.putfield 7, 3) := dk_181 0 7 (dk_at dksX13_init_0 6 rfl rfl)
theorem dX13_init_9 : decode cX13_init 9 = .ok (.return_, 1) := dk_177 (dk_at dksX13_init_0 9 rfl rfl)
abbrev cX13_number : ByteArray := prog_4_method_2_code
def yX13_number : MethodName := ⟨RX13, "number", "()I"⟩
theorem dX13_number_0 : decode cX13_number 0 = .ok (.aload_n 0, 1) := by decide +kernel
theorem dX13_number_1 : decode cX13_number 1 = .ok (.getfield 7, 3) := by decide +kernel
theorem dX13_number_4 : decode cX13_number 4 = .ok (.ireturn, 1) := by decide +kernel
theorem q102 : (Jvm.Cond.initialized "PulledFromUnder$Fault") ∈ lw_all := lw_g (lw_at lw_m1 17 rfl) rfl
theorem q323 : (Jvm.Cond.selects "PulledFromUnder$Fault" ({ cls := "java/lang/Throwable", name := "fillInStackTrace", desc := "()Ljava/lang/Throwable;" } : Jvm.MethodName) ({ cls := "java/lang/Throwable", name := "fillInStackTrace", desc := "()Ljava/lang/Throwable;" } : Jvm.MethodName)) ∈ lw_all := lw_g (lw_at lw_m1 238 rfl) rfl
theorem q395 : (Jvm.Cond.instantiable "PulledFromUnder$Fault" (7 : Nat)) ∈ lw_all := lw_g (lw_at lw_m2 70 rfl) rfl
theorem q396 : (Jvm.Cond.castable "PulledFromUnder$Fault" "PulledFromUnder$Fault") ∈ lw_tbl := lw_at lw_m2 71 rfl
theorem q397 : (Jvm.Cond.selects "PulledFromUnder$Fault" ({ cls := "java/lang/Throwable", name := "fillInStackTrace", desc := "(I)Ljava/lang/Throwable;" } : Jvm.MethodName) ({ cls := "java/lang/Throwable", name := "fillInStackTrace", desc := "(I)Ljava/lang/Throwable;" } : Jvm.MethodName)) ∈ lw_all := lw_g (lw_at lw_m2 72 rfl) rfl
theorem q398 : (Jvm.Cond.lays "PulledFromUnder$Fault" "java/lang/Throwable" "cause" "Ljava/lang/Throwable;") ∈ lw_all := lw_g (lw_at lw_m2 73 rfl) rfl
theorem q399 : (Jvm.Cond.lays "PulledFromUnder$Fault" "java/lang/Throwable" "stackTrace" "[Ljava/lang/StackTraceElement;") ∈ lw_all := lw_g (lw_at lw_m2 74 rfl) rfl
theorem q400 : (Jvm.Cond.lays "PulledFromUnder$Fault" "java/lang/Throwable" "suppressedExceptions" "Ljava/util/List;") ∈ lw_all := lw_g (lw_at lw_m2 75 rfl) rfl
theorem q401 : (Jvm.Cond.lays "PulledFromUnder$Fault" "java/lang/Throwable" "detailMessage" "Ljava/lang/String;") ∈ lw_all := lw_g (lw_at lw_m2 76 rfl) rfl
theorem q402 : (Jvm.Cond.lays "PulledFromUnder$Fault" "java/lang/Throwable" "backtrace" "Ljava/lang/Object;") ∈ lw_all := lw_g (lw_at lw_m2 77 rfl) rfl
theorem q404 : (Jvm.Cond.instanceMethod ({ cls := "PulledFromUnder$Fault", name := "<init>", desc := "(I)V" } : Jvm.MethodName)) ∈ lw_all := lw_g (lw_at lw_m2 79 rfl) rfl
theorem q405 : (Jvm.Cond.code ({ cls := "PulledFromUnder$Fault", name := "<init>", desc := "(I)V" } : Jvm.MethodName) prog_4_method_1_code (2 : Nat) (Option.none : Option Jvm.ClassFile.FieldType)) ∈ lw_all := lw_g (lw_at lw_m2 80 rfl) rfl
theorem q406 : (Jvm.Cond.methodLinkNest "PulledFromUnder$Fault" (1 : Nat) ({ cls := "PulledFromUnder$Refusal", name := "<init>", desc := "()V" } : Jvm.MethodName) "PulledFromUnder") ∈ lw_tbl := lw_at lw_m2 81 rfl
theorem q407 : (Jvm.Cond.fieldLink "PulledFromUnder$Fault" (7 : Nat) "PulledFromUnder$Fault" "told" "I") ∈ lw_all := lw_g (lw_at lw_m2 82 rfl) rfl
theorem q408 : (Jvm.Cond.laysFinal "PulledFromUnder$Fault" "PulledFromUnder$Fault" "told" "I") ∈ lw_all := lw_g (lw_at lw_m2 83 rfl) rfl
theorem q409 : (Jvm.Cond.soleField "PulledFromUnder$Fault" "told") ∈ lw_all := lw_g (lw_at lw_m2 84 rfl) rfl
theorem q410 : (Jvm.Cond.lays "PulledFromUnder$Fault" "java/lang/Throwable" "depth" "I") ∈ lw_all := lw_g (lw_at lw_m2 85 rfl) rfl
theorem q411 : (Jvm.Cond.superclass "PulledFromUnder$Fault" "PulledFromUnder$Refusal") ∈ lw_all := lw_g (lw_at lw_m2 86 rfl) rfl
theorem q993 : (Jvm.Cond.selects "PulledFromUnder$Fault" ({ cls := "PulledFromUnder$Refusal", name := "number", desc := "()I" } : Jvm.MethodName) ({ cls := "PulledFromUnder$Fault", name := "number", desc := "()I" } : Jvm.MethodName)) ∈ lw_all := lw_g (lw_at lw_m4 188 rfl) rfl
theorem q994 : (Jvm.Cond.instanceMethod ({ cls := "PulledFromUnder$Fault", name := "number", desc := "()I" } : Jvm.MethodName)) ∈ lw_all := lw_g (lw_at lw_m4 189 rfl) rfl
theorem q995 : (Jvm.Cond.code ({ cls := "PulledFromUnder$Fault", name := "number", desc := "()I" } : Jvm.MethodName) prog_4_method_2_code (1 : Nat) (Option.some Jvm.ClassFile.FieldType.int)) ∈ lw_all := lw_g (lw_at lw_m4 190 rfl) rfl
theorem q1488 : (Jvm.Cond.castable "PulledFromUnder$Fault" "PulledFromUnder$Refusal") ∈ lw_tbl := lw_at lw_m6 203 rfl
theorem in_X13 : ∀ w ∈ wsX130, w ∈ lw_all := lw_in wsX130 [398, 399, 400, 401, 402, 410, 408] (by decide +kernel) (by decide +kernel)
/-! PulledFromUnder$Told -/
set_option maxRecDepth 100000
def RX14 : String := "PulledFromUnder$Told"
abbrev cX14_init : ByteArray := prog_19_method_1_code
def yX14_init : MethodName := ⟨RX14, "<init>", "(II)V"⟩
def dkwX14_init_0 : List UInt8 := [42, 183, 0, 1, 42, 27, 181, 0, 7, 42, 28, 181, 0, 13, 177]
abbrev dktX14_init_0 : List UInt8 := dkwX14_init_0 ++ []
theorem dksX14_init_0 : cX14_init.data.toList.drop 0 = dktX14_init_0 := by decide +kernel
theorem dX14_init_0 : decode cX14_init 0 = .ok (.aload_n 0, 1) := dk_42 (dk_at dksX14_init_0 0 rfl rfl)
theorem dX14_init_1 : decode cX14_init 1 = .ok (.invokespecial 1, 3) := dk_183 0 1 (dk_at dksX14_init_0 1 rfl rfl)
theorem dX14_init_4 : decode cX14_init 4 = .ok (.aload_n 0, 1) := dk_42 (dk_at dksX14_init_0 4 rfl rfl)
theorem dX14_init_5 : decode cX14_init 5 = .ok (.iload_n 1, 1) := dk_27 (dk_at dksX14_init_0 5 rfl rfl)
theorem dX14_init_6 : decode cX14_init 6 = .ok (.putfield 7, 3) := dk_181 0 7 (dk_at dksX14_init_0 6 rfl rfl)
theorem dX14_init_9 : decode cX14_init 9 = .ok (.aload_n 0, 1) := dk_42 (dk_at dksX14_init_0 9 rfl rfl)
theorem dX14_init_10 : decode cX14_init 10 = .ok (.iload_n 2, 1) := dk_28 (dk_at dksX14_init_0 10 rfl rfl)
theorem dX14_init_11 : decode cX14_init 11 = .ok (.putfield 13, 3) := dk_181 0 13 (dk_at dksX14_init_0 11 rfl rfl)
theorem dX14_init_14 : decode cX14_init 14 = .ok (.return_, 1) := dk_177 (dk_at dksX14_init_0 14 rfl rfl)
abbrev cX14_comes : ByteArray := prog_19_method_4_code
def yX14_comes : MethodName := ⟨RX14, "comes", "(LPulledFromUnder$Room;)Z"⟩
def dkwX14_comes_0 : List UInt8 := [42, 43, 182, 0, 16, 61, 28, 153, 0, 8, 42, 43, 182, 0, 20, 28, 172]
abbrev dktX14_comes_0 : List UInt8 := dkwX14_comes_0 ++ []
theorem dksX14_comes_0 : cX14_comes.data.toList.drop 0 = dktX14_comes_0 := by decide +kernel
theorem dX14_comes_0 : decode cX14_comes 0 = .ok (.aload_n 0, 1) := dk_42 (dk_at dksX14_comes_0 0 rfl rfl)
theorem dX14_comes_1 : decode cX14_comes 1 = .ok (.aload_n 1, 1) := dk_43 (dk_at dksX14_comes_0 1 rfl rfl)
theorem dX14_comes_2 : decode cX14_comes 2 = .ok (.invokevirtual 16, 3) := dk_182 0 16 (dk_at dksX14_comes_0 2 rfl rfl)
theorem dX14_comes_5 : decode cX14_comes 5 = .ok (.istore_n 2, 1) := dk_61 (dk_at dksX14_comes_0 5 rfl rfl)
theorem dX14_comes_6 : decode cX14_comes 6 = .ok (.iload_n 2, 1) := dk_28 (dk_at dksX14_comes_0 6 rfl rfl)
theorem dX14_comes_7 : decode cX14_comes 7 = .ok (.ifCond .eq 8, 3) := dk_153 0 8 (dk_at dksX14_comes_0 7 rfl rfl)
theorem dX14_comes_10 : decode cX14_comes 10 = .ok (.aload_n 0, 1) := dk_42 (dk_at dksX14_comes_0 10 rfl rfl)
theorem dX14_comes_11 : decode cX14_comes 11 = .ok (.aload_n 1, 1) := dk_43 (dk_at dksX14_comes_0 11 rfl rfl)
theorem dX14_comes_12 : decode cX14_comes 12 = .ok (.invokevirtual 20, 3) := dk_182 0 20 (dk_at dksX14_comes_0 12 rfl rfl)
theorem dX14_comes_15 : decode cX14_comes 15 = .ok (.iload_n 2, 1) := dk_28 (dk_at dksX14_comes_0 15 rfl rfl)
theorem dX14_comes_16 : decode cX14_comes 16 = .ok (.ireturn, 1) := dk_172 (dk_at dksX14_comes_0 16 rfl rfl)
theorem q103 : (Jvm.Cond.initialized "PulledFromUnder$Told") ∈ lw_all := lw_g (lw_at lw_m1 18 rfl) rfl
theorem q435 : (Jvm.Cond.instanceMethod ({ cls := "PulledFromUnder$Told", name := "<init>", desc := "(II)V" } : Jvm.MethodName)) ∈ lw_all := lw_g (lw_at lw_m2 110 rfl) rfl
theorem q436 : (Jvm.Cond.code ({ cls := "PulledFromUnder$Told", name := "<init>", desc := "(II)V" } : Jvm.MethodName) prog_19_method_1_code (3 : Nat) (Option.none : Option Jvm.ClassFile.FieldType)) ∈ lw_all := lw_g (lw_at lw_m2 111 rfl) rfl
theorem q437 : (Jvm.Cond.methodLink "PulledFromUnder$Told" (1 : Nat) ({ cls := "java/lang/Object", name := "<init>", desc := "()V" } : Jvm.MethodName)) ∈ lw_all := lw_g (lw_at lw_m2 112 rfl) rfl
theorem q441 : (Jvm.Cond.fieldLink "PulledFromUnder$Told" (7 : Nat) "PulledFromUnder$Told" "start" "I") ∈ lw_all := lw_g (lw_at lw_m2 116 rfl) rfl
theorem q443 : (Jvm.Cond.fieldLink "PulledFromUnder$Told" (13 : Nat) "PulledFromUnder$Told" "first" "I") ∈ lw_all := lw_g (lw_at lw_m2 118 rfl) rfl
theorem q459 : (Jvm.Cond.soleField "PulledFromUnder$Told" "start") ∈ lw_all := lw_g (lw_at lw_m2 134 rfl) rfl
theorem q461 : (Jvm.Cond.soleField "PulledFromUnder$Told" "first") ∈ lw_all := lw_g (lw_at lw_m2 136 rfl) rfl
theorem q531 : (Jvm.Cond.instanceMethod ({ cls := "PulledFromUnder$Told", name := "comes", desc := "(LPulledFromUnder$Room;)Z" } : Jvm.MethodName)) ∈ lw_all := lw_g (lw_at lw_m2 206 rfl) rfl
theorem q532 : (Jvm.Cond.sameMethod "PulledFromUnder$Told" "PulledFromUnder$Told" "comes" "(LPulledFromUnder$Room;)Z") ∈ lw_all := lw_g (lw_at lw_m2 207 rfl) rfl
theorem q539 : (Jvm.Cond.code ({ cls := "PulledFromUnder$Told", name := "comes", desc := "(LPulledFromUnder$Room;)Z" } : Jvm.MethodName) prog_19_method_4_code (3 : Nat) (Option.some Jvm.ClassFile.FieldType.boolean)) ∈ lw_all := lw_g (lw_at lw_m2 214 rfl) rfl
theorem q540 : (Jvm.Cond.methodLink "PulledFromUnder$Told" (16 : Nat) ({ cls := "PulledFromUnder$Told", name := "isGood", desc := "(LPulledFromUnder$Room;)Z" } : Jvm.MethodName)) ∈ lw_all := lw_g (lw_at lw_m2 215 rfl) rfl
theorem q541 : (Jvm.Cond.declares ({ cls := "PulledFromUnder$Told", name := "isGood", desc := "(LPulledFromUnder$Room;)Z" } : Jvm.MethodName)) ∈ lw_tbl := lw_at lw_m2 216 rfl
theorem q542 : (Jvm.Cond.sameMethod "PulledFromUnder$Told" "PulledFromUnder$Told" "isGood" "(LPulledFromUnder$Room;)Z") ∈ lw_all := lw_g (lw_at lw_m2 217 rfl) rfl
theorem q568 : (Jvm.Cond.methodLink "PulledFromUnder$Told" (20 : Nat) ({ cls := "PulledFromUnder$Told", name := "become", desc := "(LPulledFromUnder$Room;)V" } : Jvm.MethodName)) ∈ lw_all := lw_g (lw_at lw_m3 3 rfl) rfl
theorem q569 : (Jvm.Cond.declares ({ cls := "PulledFromUnder$Told", name := "become", desc := "(LPulledFromUnder$Room;)V" } : Jvm.MethodName)) ∈ lw_tbl := lw_at lw_m3 4 rfl
theorem q570 : (Jvm.Cond.sameMethod "PulledFromUnder$Told" "PulledFromUnder$Told" "become" "(LPulledFromUnder$Room;)V") ∈ lw_all := lw_g (lw_at lw_m3 5 rfl) rfl
/-! PulledFromUnder$FloorThingTold -/
set_option maxRecDepth 100000
def RX15 : String := "PulledFromUnder$FloorThingTold"
def TX15 : u_T := fun k => match k with
  | 0 => ("PulledFromUnder$Told", "start", "I", true)
  | 1 => ("PulledFromUnder$Told", "first", "I", true)
  | _ => ("PulledFromUnder$FloorThingTold", "kind", "LPulledFromUnder$Kind;", true)
def tyX15 : Nat → FieldType := fun k => match k with
  | 0 => .int
  | 1 => .int
  | _ => .object "PulledFromUnder$Kind"
abbrev wsX150 : List Cond := u_ws RX15 TX15 3
theorem nmX15 : ∀ a, a < 3 → ∀ b, b < 3 → a ≠ b → (TX15 a).2.1 ≠ (TX15 b).2.1 := by decide +kernel
theorem tyX15_ok : ∀ k, k < 3 → parseFieldDescriptor (TX15 k).2.2.1 = some (tyX15 k) := by decide +kernel
abbrev cX15_init : ByteArray := prog_5_method_1_code
def yX15_init : MethodName := ⟨RX15, "<init>", "(ILPulledFromUnder$Kind;I)V"⟩
def dkwX15_init_0 : List UInt8 := [42, 27, 29, 183, 0, 3, 42, 44, 181, 0, 9, 177]
abbrev dktX15_init_0 : List UInt8 := dkwX15_init_0 ++ []
theorem dksX15_init_0 : cX15_init.data.toList.drop 0 = dktX15_init_0 := by decide +kernel
theorem dX15_init_0 : decode cX15_init 0 = .ok (.aload_n 0, 1) := dk_42 (dk_at dksX15_init_0 0 rfl rfl)
theorem dX15_init_1 : decode cX15_init 1 = .ok (.iload_n 1, 1) := dk_27 (dk_at dksX15_init_0 1 rfl rfl)
theorem dX15_init_2 : decode cX15_init 2 = .ok (.iload_n 3, 1) := dk_29 (dk_at dksX15_init_0 2 rfl rfl)
theorem dX15_init_3 : decode cX15_init 3 = .ok (.invokespecial 3, 3) := dk_183 0 3 (dk_at dksX15_init_0 3 rfl rfl)
theorem dX15_init_6 : decode cX15_init 6 = .ok (.aload_n 0, 1) := dk_42 (dk_at dksX15_init_0 6 rfl rfl)
theorem dX15_init_7 : decode cX15_init 7 = .ok (.aload_n 2, 1) := dk_44 (dk_at dksX15_init_0 7 rfl rfl)
theorem dX15_init_8 : decode cX15_init 8 = .ok (.putfield 9, 3) := dk_181 0 9 (dk_at dksX15_init_0 8 rfl rfl)
theorem dX15_init_11 : decode cX15_init 11 = .ok (.return_, 1) := dk_177 (dk_at dksX15_init_0 11 rfl rfl)
abbrev cX15_isGood : ByteArray := prog_5_method_2_code
def yX15_isGood : MethodName := ⟨RX15, "isGood", "(LPulledFromUnder$Room;)Z"⟩
def dkwX15_isGood_0 : List UInt8 := [43, 180, 0, 15, 153, 0, 16, 43, 180, 0, 21, 16, 10, 162, 0, 7, 4, 167, 0, 4, 3, 172]
abbrev dktX15_isGood_0 : List UInt8 := dkwX15_isGood_0 ++ []
theorem dksX15_isGood_0 : cX15_isGood.data.toList.drop 0 = dktX15_isGood_0 := by decide +kernel
theorem dX15_isGood_0 : decode cX15_isGood 0 = .ok (.aload_n 1, 1) := dk_43 (dk_at dksX15_isGood_0 0 rfl rfl)
theorem dX15_isGood_1 : decode cX15_isGood 1 = .ok (.getfield 15, 3) := dk_180 0 15 (dk_at dksX15_isGood_0 1 rfl rfl)
theorem dX15_isGood_4 : decode cX15_isGood 4 = .ok (.ifCond .eq 16, 3) := dk_153 0 16 (dk_at dksX15_isGood_0 4 rfl rfl)
theorem dX15_isGood_7 : decode cX15_isGood 7 = .ok (.aload_n 1, 1) := dk_43 (dk_at dksX15_isGood_0 7 rfl rfl)
theorem dX15_isGood_8 : decode cX15_isGood 8 = .ok (.getfield 21, 3) := dk_180 0 21 (dk_at dksX15_isGood_0 8 rfl rfl)
theorem dX15_isGood_11 : decode cX15_isGood 11 = .ok (.bipush 10, 2) := dk_16 10 (dk_at dksX15_isGood_0 11 rfl rfl)
theorem dX15_isGood_13 : decode cX15_isGood 13 = .ok (.if_icmp .ge 7, 3) := dk_162 0 7 (dk_at dksX15_isGood_0 13 rfl rfl)
theorem dX15_isGood_16 : decode cX15_isGood 16 = .ok (.iconst 1, 1) := dk_4 (dk_at dksX15_isGood_0 16 rfl rfl)
theorem dX15_isGood_17 : decode cX15_isGood 17 = .ok (.goto 4, 3) := dk_167 0 4 (dk_at dksX15_isGood_0 17 rfl rfl)
theorem dX15_isGood_20 : decode cX15_isGood 20 = .ok (.iconst 0, 1) := dk_3 (dk_at dksX15_isGood_0 20 rfl rfl)
theorem dX15_isGood_21 : decode cX15_isGood 21 = .ok (.ireturn, 1) := dk_172 (dk_at dksX15_isGood_0 21 rfl rfl)
abbrev cX15_become : ByteArray := prog_5_method_3_code
def yX15_become : MethodName := ⟨RX15, "become", "(LPulledFromUnder$Room;)V"⟩
def dkwX15_become_0 : List UInt8 := [43, 42, 180, 0, 9, 42, 180, 0, 25, 16, 247, 182, 0, 28, 177]
abbrev dktX15_become_0 : List UInt8 := dkwX15_become_0 ++ []
theorem dksX15_become_0 : cX15_become.data.toList.drop 0 = dktX15_become_0 := by decide +kernel
theorem dX15_become_0 : decode cX15_become 0 = .ok (.aload_n 1, 1) := dk_43 (dk_at dksX15_become_0 0 rfl rfl)
theorem dX15_become_1 : decode cX15_become 1 = .ok (.aload_n 0, 1) := dk_42 (dk_at dksX15_become_0 1 rfl rfl)
theorem dX15_become_2 : decode cX15_become 2 = .ok (.getfield 9, 3) := dk_180 0 9 (dk_at dksX15_become_0 2 rfl rfl)
theorem dX15_become_5 : decode cX15_become 5 = .ok (.aload_n 0, 1) := dk_42 (dk_at dksX15_become_0 5 rfl rfl)
theorem dX15_become_6 : decode cX15_become 6 = .ok (.getfield 25, 3) := dk_180 0 25 (dk_at dksX15_become_0 6 rfl rfl)
theorem dX15_become_9 : decode cX15_become 9 = .ok (.bipush (-9), 2) := dk_16 247 (dk_at dksX15_become_0 9 rfl rfl)
theorem dX15_become_11 : decode cX15_become 11 = .ok (.invokevirtual 28, 3) := dk_182 0 28 (dk_at dksX15_become_0 11 rfl rfl)
theorem dX15_become_14 : decode cX15_become 14 = .ok (.return_, 1) := dk_177 (dk_at dksX15_become_0 14 rfl rfl)
theorem q104 : (Jvm.Cond.initialized "PulledFromUnder$FloorThingTold") ∈ lw_all := lw_g (lw_at lw_m1 19 rfl) rfl
theorem q178 : (Jvm.Cond.fieldLinkNest "PulledFromUnder$FloorThingTold" (21 : Nat) "PulledFromUnder$Room" "things" "I" "PulledFromUnder") ∈ lw_tbl := lw_at lw_m1 93 rfl
theorem q192 : (Jvm.Cond.fieldLinkNest "PulledFromUnder$FloorThingTold" (15 : Nat) "PulledFromUnder$Room" "isFloor" "Z" "PulledFromUnder") ∈ lw_tbl := lw_at lw_m1 107 rfl
theorem q430 : (Jvm.Cond.instantiable "PulledFromUnder$FloorThingTold" (3 : Nat)) ∈ lw_all := lw_g (lw_at lw_m2 105 rfl) rfl
theorem q432 : (Jvm.Cond.instanceMethod ({ cls := "PulledFromUnder$FloorThingTold", name := "<init>", desc := "(ILPulledFromUnder$Kind;I)V" } : Jvm.MethodName)) ∈ lw_all := lw_g (lw_at lw_m2 107 rfl) rfl
theorem q433 : (Jvm.Cond.code ({ cls := "PulledFromUnder$FloorThingTold", name := "<init>", desc := "(ILPulledFromUnder$Kind;I)V" } : Jvm.MethodName) prog_5_method_1_code (4 : Nat) (Option.none : Option Jvm.ClassFile.FieldType)) ∈ lw_all := lw_g (lw_at lw_m2 108 rfl) rfl
theorem q434 : (Jvm.Cond.methodLink "PulledFromUnder$FloorThingTold" (3 : Nat) ({ cls := "PulledFromUnder$Told", name := "<init>", desc := "(II)V" } : Jvm.MethodName)) ∈ lw_all := lw_g (lw_at lw_m2 109 rfl) rfl
theorem q438 : (Jvm.Cond.fieldLink "PulledFromUnder$FloorThingTold" (9 : Nat) "PulledFromUnder$FloorThingTold" "kind" "LPulledFromUnder$Kind;") ∈ lw_all := lw_g (lw_at lw_m2 113 rfl) rfl
theorem q452 : (Jvm.Cond.fieldLink "PulledFromUnder$FloorThingTold" (25 : Nat) "PulledFromUnder$FloorThingTold" "first" "I") ∈ lw_all := lw_g (lw_at lw_m2 127 rfl) rfl
theorem q453 : (Jvm.Cond.sameField "PulledFromUnder$FloorThingTold" "PulledFromUnder$Told" "first" "I") ∈ lw_all := lw_g (lw_at lw_m2 128 rfl) rfl
theorem q456 : (Jvm.Cond.laysFinal "PulledFromUnder$FloorThingTold" "PulledFromUnder$FloorThingTold" "kind" "LPulledFromUnder$Kind;") ∈ lw_all := lw_g (lw_at lw_m2 131 rfl) rfl
theorem q457 : (Jvm.Cond.soleField "PulledFromUnder$FloorThingTold" "kind") ∈ lw_all := lw_g (lw_at lw_m2 132 rfl) rfl
theorem q458 : (Jvm.Cond.laysFinal "PulledFromUnder$FloorThingTold" "PulledFromUnder$Told" "start" "I") ∈ lw_all := lw_g (lw_at lw_m2 133 rfl) rfl
theorem q460 : (Jvm.Cond.laysFinal "PulledFromUnder$FloorThingTold" "PulledFromUnder$Told" "first" "I") ∈ lw_all := lw_g (lw_at lw_m2 135 rfl) rfl
theorem q462 : (Jvm.Cond.superclass "PulledFromUnder$FloorThingTold" "PulledFromUnder$Told") ∈ lw_all := lw_g (lw_at lw_m2 137 rfl) rfl
theorem q533 : (Jvm.Cond.selects "PulledFromUnder$FloorThingTold" ({ cls := "PulledFromUnder$Told", name := "comes", desc := "(LPulledFromUnder$Room;)Z" } : Jvm.MethodName) ({ cls := "PulledFromUnder$Told", name := "comes", desc := "(LPulledFromUnder$Room;)Z" } : Jvm.MethodName)) ∈ lw_all := lw_g (lw_at lw_m2 208 rfl) rfl
theorem q543 : (Jvm.Cond.selects "PulledFromUnder$FloorThingTold" ({ cls := "PulledFromUnder$Told", name := "isGood", desc := "(LPulledFromUnder$Room;)Z" } : Jvm.MethodName) ({ cls := "PulledFromUnder$FloorThingTold", name := "isGood", desc := "(LPulledFromUnder$Room;)Z" } : Jvm.MethodName)) ∈ lw_all := lw_g (lw_at lw_m2 218 rfl) rfl
theorem q544 : (Jvm.Cond.instanceMethod ({ cls := "PulledFromUnder$FloorThingTold", name := "isGood", desc := "(LPulledFromUnder$Room;)Z" } : Jvm.MethodName)) ∈ lw_all := lw_g (lw_at lw_m2 219 rfl) rfl
theorem q545 : (Jvm.Cond.code ({ cls := "PulledFromUnder$FloorThingTold", name := "isGood", desc := "(LPulledFromUnder$Room;)Z" } : Jvm.MethodName) prog_5_method_2_code (2 : Nat) (Option.some Jvm.ClassFile.FieldType.boolean)) ∈ lw_all := lw_g (lw_at lw_m2 220 rfl) rfl
theorem q571 : (Jvm.Cond.selects "PulledFromUnder$FloorThingTold" ({ cls := "PulledFromUnder$Told", name := "become", desc := "(LPulledFromUnder$Room;)V" } : Jvm.MethodName) ({ cls := "PulledFromUnder$FloorThingTold", name := "become", desc := "(LPulledFromUnder$Room;)V" } : Jvm.MethodName)) ∈ lw_all := lw_g (lw_at lw_m3 6 rfl) rfl
theorem q572 : (Jvm.Cond.instanceMethod ({ cls := "PulledFromUnder$FloorThingTold", name := "become", desc := "(LPulledFromUnder$Room;)V" } : Jvm.MethodName)) ∈ lw_all := lw_g (lw_at lw_m3 7 rfl) rfl
theorem q573 : (Jvm.Cond.code ({ cls := "PulledFromUnder$FloorThingTold", name := "become", desc := "(LPulledFromUnder$Room;)V" } : Jvm.MethodName) prog_5_method_3_code (2 : Nat) (Option.none : Option Jvm.ClassFile.FieldType)) ∈ lw_all := lw_g (lw_at lw_m3 8 rfl) rfl
theorem q574 : (Jvm.Cond.methodLink "PulledFromUnder$FloorThingTold" (28 : Nat) ({ cls := "PulledFromUnder$Room", name := "comes", desc := "(LPulledFromUnder$Kind;II)V" } : Jvm.MethodName)) ∈ lw_all := lw_g (lw_at lw_m3 9 rfl) rfl
theorem q1496 : (Jvm.Cond.castable "PulledFromUnder$FloorThingTold" "PulledFromUnder$Told") ∈ lw_tbl := lw_at lw_m6 211 rfl
theorem in_X15 : ∀ w ∈ wsX150, w ∈ lw_all := lw_in wsX150 [458, 460, 456] (by decide +kernel) (by decide +kernel)
/-! PulledFromUnder$OnThingTold -/
set_option maxRecDepth 100000
def RX16 : String := "PulledFromUnder$OnThingTold"
def TX16 : u_T := fun k => match k with
  | 0 => ("PulledFromUnder$Told", "start", "I", true)
  | 1 => ("PulledFromUnder$Told", "first", "I", true)
  | 2 => ("PulledFromUnder$FloorThingTold", "kind", "LPulledFromUnder$Kind;", true)
  | _ => ("PulledFromUnder$OnThingTold", "under", "I", true)
def tyX16 : Nat → FieldType := fun k => match k with
  | 0 => .int
  | 1 => .int
  | 2 => .object "PulledFromUnder$Kind"
  | _ => .int
abbrev wsX160 : List Cond := u_ws RX16 TX16 4
theorem nmX16 : ∀ a, a < 4 → ∀ b, b < 4 → a ≠ b → (TX16 a).2.1 ≠ (TX16 b).2.1 := by decide +kernel
theorem tyX16_ok : ∀ k, k < 4 → parseFieldDescriptor (TX16 k).2.2.1 = some (tyX16 k) := by decide +kernel
abbrev cX16_init : ByteArray := prog_10_method_1_code
def yX16_init : MethodName := ⟨RX16, "<init>", "(ILPulledFromUnder$Kind;II)V"⟩
def dkwX16_init_0 : List UInt8 := [42, 27, 44, 29, 183, 0, 3, 42, 21, 4, 181, 0, 9, 177]
abbrev dktX16_init_0 : List UInt8 := dkwX16_init_0 ++ []
theorem dksX16_init_0 : cX16_init.data.toList.drop 0 = dktX16_init_0 := by decide +kernel
theorem dX16_init_0 : decode cX16_init 0 = .ok (.aload_n 0, 1) := dk_42 (dk_at dksX16_init_0 0 rfl rfl)
theorem dX16_init_1 : decode cX16_init 1 = .ok (.iload_n 1, 1) := dk_27 (dk_at dksX16_init_0 1 rfl rfl)
theorem dX16_init_2 : decode cX16_init 2 = .ok (.aload_n 2, 1) := dk_44 (dk_at dksX16_init_0 2 rfl rfl)
theorem dX16_init_3 : decode cX16_init 3 = .ok (.iload_n 3, 1) := dk_29 (dk_at dksX16_init_0 3 rfl rfl)
theorem dX16_init_4 : decode cX16_init 4 = .ok (.invokespecial 3, 3) := dk_183 0 3 (dk_at dksX16_init_0 4 rfl rfl)
theorem dX16_init_7 : decode cX16_init 7 = .ok (.aload_n 0, 1) := dk_42 (dk_at dksX16_init_0 7 rfl rfl)
theorem dX16_init_8 : decode cX16_init 8 = .ok (.iload 4, 2) := dk_21 4 (dk_at dksX16_init_0 8 rfl rfl)
theorem dX16_init_10 : decode cX16_init 10 = .ok (.putfield 9, 3) := dk_181 0 9 (dk_at dksX16_init_0 10 rfl rfl)
theorem dX16_init_13 : decode cX16_init 13 = .ok (.return_, 1) := dk_177 (dk_at dksX16_init_0 13 rfl rfl)
abbrev cX16_isGood : ByteArray := prog_10_method_2_code
def yX16_isGood : MethodName := ⟨RX16, "isGood", "(LPulledFromUnder$Room;)Z"⟩
def dkwX16_isGood_1 : List UInt8 := [180, 0, 15, 16, 10, 162, 0, 7, 4, 167, 0, 4, 3, 172]
abbrev dktX16_isGood_1 : List UInt8 := dkwX16_isGood_1 ++ []
def dkwX16_isGood_0 : List UInt8 := [42, 180, 0, 9, 43, 180, 0, 15, 162, 0, 27, 43, 42, 180, 0, 9, 182, 0, 20, 153, 0, 16, 43]
abbrev dktX16_isGood_0 : List UInt8 := dkwX16_isGood_0 ++ dktX16_isGood_1
theorem dksX16_isGood_0 : cX16_isGood.data.toList.drop 0 = dktX16_isGood_0 := by decide +kernel
theorem dksX16_isGood_1 : cX16_isGood.data.toList.drop 23 = dktX16_isGood_1 := dk_seg dksX16_isGood_0 23 rfl rfl
theorem dX16_isGood_0 : decode cX16_isGood 0 = .ok (.aload_n 0, 1) := dk_42 (dk_at dksX16_isGood_0 0 rfl rfl)
theorem dX16_isGood_1 : decode cX16_isGood 1 = .ok (.getfield 9, 3) := dk_180 0 9 (dk_at dksX16_isGood_0 1 rfl rfl)
theorem dX16_isGood_4 : decode cX16_isGood 4 = .ok (.aload_n 1, 1) := dk_43 (dk_at dksX16_isGood_0 4 rfl rfl)
theorem dX16_isGood_5 : decode cX16_isGood 5 = .ok (.getfield 15, 3) := dk_180 0 15 (dk_at dksX16_isGood_0 5 rfl rfl)
theorem dX16_isGood_8 : decode cX16_isGood 8 = .ok (.if_icmp .ge 27, 3) := dk_162 0 27 (dk_at dksX16_isGood_0 8 rfl rfl)
theorem dX16_isGood_11 : decode cX16_isGood 11 = .ok (.aload_n 1, 1) := dk_43 (dk_at dksX16_isGood_0 11 rfl rfl)
theorem dX16_isGood_12 : decode cX16_isGood 12 = .ok (.aload_n 0, 1) := dk_42 (dk_at dksX16_isGood_0 12 rfl rfl)
theorem dX16_isGood_13 : decode cX16_isGood 13 = .ok (.getfield 9, 3) := dk_180 0 9 (dk_at dksX16_isGood_0 13 rfl rfl)
theorem dX16_isGood_16 : decode cX16_isGood 16 = .ok (.invokevirtual 20, 3) := dk_182 0 20 (dk_at dksX16_isGood_0 16 rfl rfl)
theorem dX16_isGood_19 : decode cX16_isGood 19 = .ok (.ifCond .eq 16, 3) := dk_153 0 16 (dk_at dksX16_isGood_0 19 rfl rfl)
theorem dX16_isGood_22 : decode cX16_isGood 22 = .ok (.aload_n 1, 1) := dk_43 (dk_at dksX16_isGood_0 22 rfl rfl)
theorem dX16_isGood_23 : decode cX16_isGood 23 = .ok (.getfield 15, 3) := dk_180 0 15 (dk_at dksX16_isGood_1 0 rfl rfl)
theorem dX16_isGood_26 : decode cX16_isGood 26 = .ok (.bipush 10, 2) := dk_16 10 (dk_at dksX16_isGood_1 3 rfl rfl)
theorem dX16_isGood_28 : decode cX16_isGood 28 = .ok (.if_icmp .ge 7, 3) := dk_162 0 7 (dk_at dksX16_isGood_1 5 rfl rfl)
theorem dX16_isGood_31 : decode cX16_isGood 31 = .ok (.iconst 1, 1) := dk_4 (dk_at dksX16_isGood_1 8 rfl rfl)
theorem dX16_isGood_32 : decode cX16_isGood 32 = .ok (.goto 4, 3) := dk_167 0 4 (dk_at dksX16_isGood_1 9 rfl rfl)
theorem dX16_isGood_35 : decode cX16_isGood 35 = .ok (.iconst 0, 1) := dk_3 (dk_at dksX16_isGood_1 12 rfl rfl)
theorem dX16_isGood_36 : decode cX16_isGood 36 = .ok (.ireturn, 1) := dk_172 (dk_at dksX16_isGood_1 13 rfl rfl)
abbrev cX16_become : ByteArray := prog_10_method_3_code
def yX16_become : MethodName := ⟨RX16, "become", "(LPulledFromUnder$Room;)V"⟩
def dkwX16_become_0 : List UInt8 := [43, 42, 180, 0, 24, 42, 180, 0, 28, 42, 180, 0, 9, 182, 0, 31, 177]
abbrev dktX16_become_0 : List UInt8 := dkwX16_become_0 ++ []
theorem dksX16_become_0 : cX16_become.data.toList.drop 0 = dktX16_become_0 := by decide +kernel
theorem dX16_become_0 : decode cX16_become 0 = .ok (.aload_n 1, 1) := dk_43 (dk_at dksX16_become_0 0 rfl rfl)
theorem dX16_become_1 : decode cX16_become 1 = .ok (.aload_n 0, 1) := dk_42 (dk_at dksX16_become_0 1 rfl rfl)
theorem dX16_become_2 : decode cX16_become 2 = .ok (.getfield 24, 3) := dk_180 0 24 (dk_at dksX16_become_0 2 rfl rfl)
theorem dX16_become_5 : decode cX16_become 5 = .ok (.aload_n 0, 1) := dk_42 (dk_at dksX16_become_0 5 rfl rfl)
theorem dX16_become_6 : decode cX16_become 6 = .ok (.getfield 28, 3) := dk_180 0 28 (dk_at dksX16_become_0 6 rfl rfl)
theorem dX16_become_9 : decode cX16_become 9 = .ok (.aload_n 0, 1) := dk_42 (dk_at dksX16_become_0 9 rfl rfl)
theorem dX16_become_10 : decode cX16_become 10 = .ok (.getfield 9, 3) := dk_180 0 9 (dk_at dksX16_become_0 10 rfl rfl)
theorem dX16_become_13 : decode cX16_become 13 = .ok (.invokevirtual 31, 3) := dk_182 0 31 (dk_at dksX16_become_0 13 rfl rfl)
theorem dX16_become_16 : decode cX16_become 16 = .ok (.return_, 1) := dk_177 (dk_at dksX16_become_0 16 rfl rfl)
theorem q105 : (Jvm.Cond.initialized "PulledFromUnder$OnThingTold") ∈ lw_all := lw_g (lw_at lw_m1 20 rfl) rfl
theorem q175 : (Jvm.Cond.fieldLinkNest "PulledFromUnder$OnThingTold" (15 : Nat) "PulledFromUnder$Room" "things" "I" "PulledFromUnder") ∈ lw_tbl := lw_at lw_m1 90 rfl
theorem q439 : (Jvm.Cond.fieldLink "PulledFromUnder$OnThingTold" (24 : Nat) "PulledFromUnder$OnThingTold" "kind" "LPulledFromUnder$Kind;") ∈ lw_all := lw_g (lw_at lw_m2 114 rfl) rfl
theorem q440 : (Jvm.Cond.sameField "PulledFromUnder$OnThingTold" "PulledFromUnder$FloorThingTold" "kind" "LPulledFromUnder$Kind;") ∈ lw_all := lw_g (lw_at lw_m2 115 rfl) rfl
theorem q454 : (Jvm.Cond.fieldLink "PulledFromUnder$OnThingTold" (28 : Nat) "PulledFromUnder$OnThingTold" "first" "I") ∈ lw_all := lw_g (lw_at lw_m2 129 rfl) rfl
theorem q455 : (Jvm.Cond.sameField "PulledFromUnder$OnThingTold" "PulledFromUnder$Told" "first" "I") ∈ lw_all := lw_g (lw_at lw_m2 130 rfl) rfl
theorem q464 : (Jvm.Cond.instantiable "PulledFromUnder$OnThingTold" (4 : Nat)) ∈ lw_all := lw_g (lw_at lw_m2 139 rfl) rfl
theorem q466 : (Jvm.Cond.instanceMethod ({ cls := "PulledFromUnder$OnThingTold", name := "<init>", desc := "(ILPulledFromUnder$Kind;II)V" } : Jvm.MethodName)) ∈ lw_all := lw_g (lw_at lw_m2 141 rfl) rfl
theorem q467 : (Jvm.Cond.code ({ cls := "PulledFromUnder$OnThingTold", name := "<init>", desc := "(ILPulledFromUnder$Kind;II)V" } : Jvm.MethodName) prog_10_method_1_code (5 : Nat) (Option.none : Option Jvm.ClassFile.FieldType)) ∈ lw_all := lw_g (lw_at lw_m2 142 rfl) rfl
theorem q468 : (Jvm.Cond.methodLink "PulledFromUnder$OnThingTold" (3 : Nat) ({ cls := "PulledFromUnder$FloorThingTold", name := "<init>", desc := "(ILPulledFromUnder$Kind;I)V" } : Jvm.MethodName)) ∈ lw_all := lw_g (lw_at lw_m2 143 rfl) rfl
theorem q469 : (Jvm.Cond.fieldLink "PulledFromUnder$OnThingTold" (9 : Nat) "PulledFromUnder$OnThingTold" "under" "I") ∈ lw_all := lw_g (lw_at lw_m2 144 rfl) rfl
theorem q470 : (Jvm.Cond.laysFinal "PulledFromUnder$OnThingTold" "PulledFromUnder$OnThingTold" "under" "I") ∈ lw_all := lw_g (lw_at lw_m2 145 rfl) rfl
theorem q471 : (Jvm.Cond.soleField "PulledFromUnder$OnThingTold" "under") ∈ lw_all := lw_g (lw_at lw_m2 146 rfl) rfl
theorem q472 : (Jvm.Cond.laysFinal "PulledFromUnder$OnThingTold" "PulledFromUnder$FloorThingTold" "kind" "LPulledFromUnder$Kind;") ∈ lw_all := lw_g (lw_at lw_m2 147 rfl) rfl
theorem q473 : (Jvm.Cond.laysFinal "PulledFromUnder$OnThingTold" "PulledFromUnder$Told" "start" "I") ∈ lw_all := lw_g (lw_at lw_m2 148 rfl) rfl
theorem q474 : (Jvm.Cond.laysFinal "PulledFromUnder$OnThingTold" "PulledFromUnder$Told" "first" "I") ∈ lw_all := lw_g (lw_at lw_m2 149 rfl) rfl
theorem q475 : (Jvm.Cond.superclass "PulledFromUnder$OnThingTold" "PulledFromUnder$FloorThingTold") ∈ lw_all := lw_g (lw_at lw_m2 150 rfl) rfl
theorem q536 : (Jvm.Cond.selects "PulledFromUnder$OnThingTold" ({ cls := "PulledFromUnder$Told", name := "comes", desc := "(LPulledFromUnder$Room;)Z" } : Jvm.MethodName) ({ cls := "PulledFromUnder$Told", name := "comes", desc := "(LPulledFromUnder$Room;)Z" } : Jvm.MethodName)) ∈ lw_all := lw_g (lw_at lw_m2 211 rfl) rfl
theorem q554 : (Jvm.Cond.selects "PulledFromUnder$OnThingTold" ({ cls := "PulledFromUnder$Told", name := "isGood", desc := "(LPulledFromUnder$Room;)Z" } : Jvm.MethodName) ({ cls := "PulledFromUnder$OnThingTold", name := "isGood", desc := "(LPulledFromUnder$Room;)Z" } : Jvm.MethodName)) ∈ lw_all := lw_g (lw_at lw_m2 229 rfl) rfl
theorem q555 : (Jvm.Cond.instanceMethod ({ cls := "PulledFromUnder$OnThingTold", name := "isGood", desc := "(LPulledFromUnder$Room;)Z" } : Jvm.MethodName)) ∈ lw_all := lw_g (lw_at lw_m2 230 rfl) rfl
theorem q556 : (Jvm.Cond.code ({ cls := "PulledFromUnder$OnThingTold", name := "isGood", desc := "(LPulledFromUnder$Room;)Z" } : Jvm.MethodName) prog_10_method_2_code (2 : Nat) (Option.some Jvm.ClassFile.FieldType.boolean)) ∈ lw_all := lw_g (lw_at lw_m2 231 rfl) rfl
theorem q557 : (Jvm.Cond.methodLink "PulledFromUnder$OnThingTold" (20 : Nat) ({ cls := "PulledFromUnder$Room", name := "isStanding", desc := "(I)Z" } : Jvm.MethodName)) ∈ lw_all := lw_g (lw_at lw_m2 232 rfl) rfl
theorem q675 : (Jvm.Cond.selects "PulledFromUnder$OnThingTold" ({ cls := "PulledFromUnder$Told", name := "become", desc := "(LPulledFromUnder$Room;)V" } : Jvm.MethodName) ({ cls := "PulledFromUnder$OnThingTold", name := "become", desc := "(LPulledFromUnder$Room;)V" } : Jvm.MethodName)) ∈ lw_all := lw_g (lw_at lw_m3 110 rfl) rfl
theorem q676 : (Jvm.Cond.instanceMethod ({ cls := "PulledFromUnder$OnThingTold", name := "become", desc := "(LPulledFromUnder$Room;)V" } : Jvm.MethodName)) ∈ lw_all := lw_g (lw_at lw_m3 111 rfl) rfl
theorem q677 : (Jvm.Cond.code ({ cls := "PulledFromUnder$OnThingTold", name := "become", desc := "(LPulledFromUnder$Room;)V" } : Jvm.MethodName) prog_10_method_3_code (2 : Nat) (Option.none : Option Jvm.ClassFile.FieldType)) ∈ lw_all := lw_g (lw_at lw_m3 112 rfl) rfl
theorem q678 : (Jvm.Cond.methodLink "PulledFromUnder$OnThingTold" (31 : Nat) ({ cls := "PulledFromUnder$Room", name := "comes", desc := "(LPulledFromUnder$Kind;II)V" } : Jvm.MethodName)) ∈ lw_all := lw_g (lw_at lw_m3 113 rfl) rfl
theorem q1497 : (Jvm.Cond.castable "PulledFromUnder$OnThingTold" "PulledFromUnder$Told") ∈ lw_tbl := lw_at lw_m6 212 rfl
theorem in_X16 : ∀ w ∈ wsX160, w ∈ lw_all := lw_in wsX160 [473, 474, 472, 470] (by decide +kernel) (by decide +kernel)
/-! PulledFromUnder$PullTold -/
set_option maxRecDepth 100000
def RX17 : String := "PulledFromUnder$PullTold"
def TX17 : u_T := fun k => match k with
  | 0 => ("PulledFromUnder$Told", "start", "I", true)
  | 1 => ("PulledFromUnder$Told", "first", "I", true)
  | _ => ("PulledFromUnder$PullTold", "speed", "I", true)
def tyX17 : Nat → FieldType := fun k => match k with
  | 0 => .int
  | 1 => .int
  | _ => .int
abbrev wsX170 : List Cond := u_ws RX17 TX17 3
theorem nmX17 : ∀ a, a < 3 → ∀ b, b < 3 → a ≠ b → (TX17 a).2.1 ≠ (TX17 b).2.1 := by decide +kernel
theorem tyX17_ok : ∀ k, k < 3 → parseFieldDescriptor (TX17 k).2.2.1 = some (tyX17 k) := by decide +kernel
abbrev cX17_init : ByteArray := prog_12_method_1_code
def yX17_init : MethodName := ⟨RX17, "<init>", "(III)V"⟩
def dkwX17_init_0 : List UInt8 := [42, 27, 28, 183, 0, 1, 42, 29, 181, 0, 7, 177]
abbrev dktX17_init_0 : List UInt8 := dkwX17_init_0 ++ []
theorem dksX17_init_0 : cX17_init.data.toList.drop 0 = dktX17_init_0 := by decide +kernel
theorem dX17_init_0 : decode cX17_init 0 = .ok (.aload_n 0, 1) := dk_42 (dk_at dksX17_init_0 0 rfl rfl)
theorem dX17_init_1 : decode cX17_init 1 = .ok (.iload_n 1, 1) := dk_27 (dk_at dksX17_init_0 1 rfl rfl)
theorem dX17_init_2 : decode cX17_init 2 = .ok (.iload_n 2, 1) := dk_28 (dk_at dksX17_init_0 2 rfl rfl)
theorem dX17_init_3 : decode cX17_init 3 = .ok (.invokespecial 1, 3) := dk_183 0 1 (dk_at dksX17_init_0 3 rfl rfl)
theorem dX17_init_6 : decode cX17_init 6 = .ok (.aload_n 0, 1) := dk_42 (dk_at dksX17_init_0 6 rfl rfl)
theorem dX17_init_7 : decode cX17_init 7 = .ok (.iload_n 3, 1) := dk_29 (dk_at dksX17_init_0 7 rfl rfl)
theorem dX17_init_8 : decode cX17_init 8 = .ok (.putfield 7, 3) := dk_181 0 7 (dk_at dksX17_init_0 8 rfl rfl)
theorem dX17_init_11 : decode cX17_init 11 = .ok (.return_, 1) := dk_177 (dk_at dksX17_init_0 11 rfl rfl)
abbrev cX17_isGood : ByteArray := prog_12_method_2_code
def yX17_isGood : MethodName := ⟨RX17, "isGood", "(LPulledFromUnder$Room;)Z"⟩
def dkwX17_isGood_1 : List UInt8 := [167, 0, 4, 3, 172]
abbrev dktX17_isGood_1 : List UInt8 := dkwX17_isGood_1 ++ []
def dkwX17_isGood_0 : List UInt8 := [42, 180, 0, 13, 43, 180, 0, 16, 162, 0, 18, 43, 42, 180, 0, 13, 182, 0, 21, 153, 0, 7, 4]
abbrev dktX17_isGood_0 : List UInt8 := dkwX17_isGood_0 ++ dktX17_isGood_1
theorem dksX17_isGood_0 : cX17_isGood.data.toList.drop 0 = dktX17_isGood_0 := by decide +kernel
theorem dksX17_isGood_1 : cX17_isGood.data.toList.drop 23 = dktX17_isGood_1 := dk_seg dksX17_isGood_0 23 rfl rfl
theorem dX17_isGood_0 : decode cX17_isGood 0 = .ok (.aload_n 0, 1) := dk_42 (dk_at dksX17_isGood_0 0 rfl rfl)
theorem dX17_isGood_1 : decode cX17_isGood 1 = .ok (.getfield 13, 3) := dk_180 0 13 (dk_at dksX17_isGood_0 1 rfl rfl)
theorem dX17_isGood_4 : decode cX17_isGood 4 = .ok (.aload_n 1, 1) := dk_43 (dk_at dksX17_isGood_0 4 rfl rfl)
theorem dX17_isGood_5 : decode cX17_isGood 5 = .ok (.getfield 16, 3) := dk_180 0 16 (dk_at dksX17_isGood_0 5 rfl rfl)
theorem dX17_isGood_8 : decode cX17_isGood 8 = .ok (.if_icmp .ge 18, 3) := dk_162 0 18 (dk_at dksX17_isGood_0 8 rfl rfl)
theorem dX17_isGood_11 : decode cX17_isGood 11 = .ok (.aload_n 1, 1) := dk_43 (dk_at dksX17_isGood_0 11 rfl rfl)
theorem dX17_isGood_12 : decode cX17_isGood 12 = .ok (.aload_n 0, 1) := dk_42 (dk_at dksX17_isGood_0 12 rfl rfl)
theorem dX17_isGood_13 : decode cX17_isGood 13 = .ok (.getfield 13, 3) := dk_180 0 13 (dk_at dksX17_isGood_0 13 rfl rfl)
theorem dX17_isGood_16 : decode cX17_isGood 16 = .ok (.invokevirtual 21, 3) := dk_182 0 21 (dk_at dksX17_isGood_0 16 rfl rfl)
theorem dX17_isGood_19 : decode cX17_isGood 19 = .ok (.ifCond .eq 7, 3) := dk_153 0 7 (dk_at dksX17_isGood_0 19 rfl rfl)
theorem dX17_isGood_22 : decode cX17_isGood 22 = .ok (.iconst 1, 1) := dk_4 (dk_at dksX17_isGood_0 22 rfl rfl)
theorem dX17_isGood_23 : decode cX17_isGood 23 = .ok (.goto 4, 3) := dk_167 0 4 (dk_at dksX17_isGood_1 0 rfl rfl)
theorem dX17_isGood_26 : decode cX17_isGood 26 = .ok (.iconst 0, 1) := dk_3 (dk_at dksX17_isGood_1 3 rfl rfl)
theorem dX17_isGood_27 : decode cX17_isGood 27 = .ok (.ireturn, 1) := dk_172 (dk_at dksX17_isGood_1 4 rfl rfl)
abbrev cX17_become : ByteArray := prog_12_method_3_code
def yX17_become : MethodName := ⟨RX17, "become", "(LPulledFromUnder$Room;)V"⟩
def dkwX17_become_0 : List UInt8 := [43, 42, 180, 0, 13, 42, 180, 0, 7, 182, 0, 25, 87, 177]
abbrev dktX17_become_0 : List UInt8 := dkwX17_become_0 ++ []
theorem dksX17_become_0 : cX17_become.data.toList.drop 0 = dktX17_become_0 := by decide +kernel
theorem dX17_become_0 : decode cX17_become 0 = .ok (.aload_n 1, 1) := dk_43 (dk_at dksX17_become_0 0 rfl rfl)
theorem dX17_become_1 : decode cX17_become 1 = .ok (.aload_n 0, 1) := dk_42 (dk_at dksX17_become_0 1 rfl rfl)
theorem dX17_become_2 : decode cX17_become 2 = .ok (.getfield 13, 3) := dk_180 0 13 (dk_at dksX17_become_0 2 rfl rfl)
theorem dX17_become_5 : decode cX17_become 5 = .ok (.aload_n 0, 1) := dk_42 (dk_at dksX17_become_0 5 rfl rfl)
theorem dX17_become_6 : decode cX17_become 6 = .ok (.getfield 7, 3) := dk_180 0 7 (dk_at dksX17_become_0 6 rfl rfl)
theorem dX17_become_9 : decode cX17_become 9 = .ok (.invokevirtual 25, 3) := dk_182 0 25 (dk_at dksX17_become_0 9 rfl rfl)
theorem dX17_become_12 : decode cX17_become 12 = .ok (.pop, 1) := dk_87 (dk_at dksX17_become_0 12 rfl rfl)
theorem dX17_become_13 : decode cX17_become 13 = .ok (.return_, 1) := dk_177 (dk_at dksX17_become_0 13 rfl rfl)
theorem q106 : (Jvm.Cond.initialized "PulledFromUnder$PullTold") ∈ lw_all := lw_g (lw_at lw_m1 21 rfl) rfl
theorem q176 : (Jvm.Cond.fieldLinkNest "PulledFromUnder$PullTold" (16 : Nat) "PulledFromUnder$Room" "things" "I" "PulledFromUnder") ∈ lw_tbl := lw_at lw_m1 91 rfl
theorem q446 : (Jvm.Cond.fieldLink "PulledFromUnder$PullTold" (13 : Nat) "PulledFromUnder$PullTold" "first" "I") ∈ lw_all := lw_g (lw_at lw_m2 121 rfl) rfl
theorem q447 : (Jvm.Cond.sameField "PulledFromUnder$PullTold" "PulledFromUnder$Told" "first" "I") ∈ lw_all := lw_g (lw_at lw_m2 122 rfl) rfl
theorem q481 : (Jvm.Cond.instantiable "PulledFromUnder$PullTold" (3 : Nat)) ∈ lw_all := lw_g (lw_at lw_m2 156 rfl) rfl
theorem q483 : (Jvm.Cond.instanceMethod ({ cls := "PulledFromUnder$PullTold", name := "<init>", desc := "(III)V" } : Jvm.MethodName)) ∈ lw_all := lw_g (lw_at lw_m2 158 rfl) rfl
theorem q484 : (Jvm.Cond.code ({ cls := "PulledFromUnder$PullTold", name := "<init>", desc := "(III)V" } : Jvm.MethodName) prog_12_method_1_code (4 : Nat) (Option.none : Option Jvm.ClassFile.FieldType)) ∈ lw_all := lw_g (lw_at lw_m2 159 rfl) rfl
theorem q485 : (Jvm.Cond.methodLink "PulledFromUnder$PullTold" (1 : Nat) ({ cls := "PulledFromUnder$Told", name := "<init>", desc := "(II)V" } : Jvm.MethodName)) ∈ lw_all := lw_g (lw_at lw_m2 160 rfl) rfl
theorem q486 : (Jvm.Cond.fieldLink "PulledFromUnder$PullTold" (7 : Nat) "PulledFromUnder$PullTold" "speed" "I") ∈ lw_all := lw_g (lw_at lw_m2 161 rfl) rfl
theorem q487 : (Jvm.Cond.laysFinal "PulledFromUnder$PullTold" "PulledFromUnder$PullTold" "speed" "I") ∈ lw_all := lw_g (lw_at lw_m2 162 rfl) rfl
theorem q488 : (Jvm.Cond.soleField "PulledFromUnder$PullTold" "speed") ∈ lw_all := lw_g (lw_at lw_m2 163 rfl) rfl
theorem q489 : (Jvm.Cond.laysFinal "PulledFromUnder$PullTold" "PulledFromUnder$Told" "start" "I") ∈ lw_all := lw_g (lw_at lw_m2 164 rfl) rfl
theorem q490 : (Jvm.Cond.laysFinal "PulledFromUnder$PullTold" "PulledFromUnder$Told" "first" "I") ∈ lw_all := lw_g (lw_at lw_m2 165 rfl) rfl
theorem q491 : (Jvm.Cond.superclass "PulledFromUnder$PullTold" "PulledFromUnder$Told") ∈ lw_all := lw_g (lw_at lw_m2 166 rfl) rfl
theorem q537 : (Jvm.Cond.selects "PulledFromUnder$PullTold" ({ cls := "PulledFromUnder$Told", name := "comes", desc := "(LPulledFromUnder$Room;)Z" } : Jvm.MethodName) ({ cls := "PulledFromUnder$Told", name := "comes", desc := "(LPulledFromUnder$Room;)Z" } : Jvm.MethodName)) ∈ lw_all := lw_g (lw_at lw_m2 212 rfl) rfl
theorem q561 : (Jvm.Cond.selects "PulledFromUnder$PullTold" ({ cls := "PulledFromUnder$Told", name := "isGood", desc := "(LPulledFromUnder$Room;)Z" } : Jvm.MethodName) ({ cls := "PulledFromUnder$PullTold", name := "isGood", desc := "(LPulledFromUnder$Room;)Z" } : Jvm.MethodName)) ∈ lw_all := lw_g (lw_at lw_m2 236 rfl) rfl
theorem q562 : (Jvm.Cond.instanceMethod ({ cls := "PulledFromUnder$PullTold", name := "isGood", desc := "(LPulledFromUnder$Room;)Z" } : Jvm.MethodName)) ∈ lw_all := lw_g (lw_at lw_m2 237 rfl) rfl
theorem q563 : (Jvm.Cond.code ({ cls := "PulledFromUnder$PullTold", name := "isGood", desc := "(LPulledFromUnder$Room;)Z" } : Jvm.MethodName) prog_12_method_2_code (2 : Nat) (Option.some Jvm.ClassFile.FieldType.boolean)) ∈ lw_all := lw_g (lw_at lw_m2 238 rfl) rfl
theorem q564 : (Jvm.Cond.methodLink "PulledFromUnder$PullTold" (21 : Nat) ({ cls := "PulledFromUnder$Room", name := "isStanding", desc := "(I)Z" } : Jvm.MethodName)) ∈ lw_all := lw_g (lw_at lw_m2 239 rfl) rfl
theorem q679 : (Jvm.Cond.selects "PulledFromUnder$PullTold" ({ cls := "PulledFromUnder$Told", name := "become", desc := "(LPulledFromUnder$Room;)V" } : Jvm.MethodName) ({ cls := "PulledFromUnder$PullTold", name := "become", desc := "(LPulledFromUnder$Room;)V" } : Jvm.MethodName)) ∈ lw_all := lw_g (lw_at lw_m3 114 rfl) rfl
theorem q680 : (Jvm.Cond.instanceMethod ({ cls := "PulledFromUnder$PullTold", name := "become", desc := "(LPulledFromUnder$Room;)V" } : Jvm.MethodName)) ∈ lw_all := lw_g (lw_at lw_m3 115 rfl) rfl
theorem q681 : (Jvm.Cond.code ({ cls := "PulledFromUnder$PullTold", name := "become", desc := "(LPulledFromUnder$Room;)V" } : Jvm.MethodName) prog_12_method_3_code (2 : Nat) (Option.none : Option Jvm.ClassFile.FieldType)) ∈ lw_all := lw_g (lw_at lw_m3 116 rfl) rfl
theorem q682 : (Jvm.Cond.methodLink "PulledFromUnder$PullTold" (25 : Nat) ({ cls := "PulledFromUnder$Room", name := "pull", desc := "(II)I" } : Jvm.MethodName)) ∈ lw_all := lw_g (lw_at lw_m3 117 rfl) rfl
theorem q1498 : (Jvm.Cond.castable "PulledFromUnder$PullTold" "PulledFromUnder$Told") ∈ lw_tbl := lw_at lw_m6 213 rfl
theorem in_X17 : ∀ w ∈ wsX170, w ∈ lw_all := lw_in wsX170 [489, 490, 487] (by decide +kernel) (by decide +kernel)
/-! PulledFromUnder$FloorTold -/
set_option maxRecDepth 100000
def RX18 : String := "PulledFromUnder$FloorTold"
def TX18 : u_T := fun k => match k with
  | 0 => ("PulledFromUnder$Told", "start", "I", true)
  | _ => ("PulledFromUnder$Told", "first", "I", true)
def tyX18 : Nat → FieldType := fun k => match k with
  | 0 => .int
  | _ => .int
abbrev wsX180 : List Cond := u_ws RX18 TX18 2
theorem nmX18 : ∀ a, a < 2 → ∀ b, b < 2 → a ≠ b → (TX18 a).2.1 ≠ (TX18 b).2.1 := by decide +kernel
theorem tyX18_ok : ∀ k, k < 2 → parseFieldDescriptor (TX18 k).2.2.1 = some (tyX18 k) := by decide +kernel
abbrev cX18_init : ByteArray := prog_6_method_1_code
def yX18_init : MethodName := ⟨RX18, "<init>", "(II)V"⟩
def dkwX18_init_0 : List UInt8 := [42, 27, 28, 183, 0, 1, 177]
abbrev dktX18_init_0 : List UInt8 := dkwX18_init_0 ++ []
theorem dksX18_init_0 : cX18_init.data.toList.drop 0 = dktX18_init_0 := by decide +kernel
theorem dX18_init_0 : decode cX18_init 0 = .ok (.aload_n 0, 1) := dk_42 (dk_at dksX18_init_0 0 rfl rfl)
theorem dX18_init_1 : decode cX18_init 1 = .ok (.iload_n 1, 1) := dk_27 (dk_at dksX18_init_0 1 rfl rfl)
theorem dX18_init_2 : decode cX18_init 2 = .ok (.iload_n 2, 1) := dk_28 (dk_at dksX18_init_0 2 rfl rfl)
theorem dX18_init_3 : decode cX18_init 3 = .ok (.invokespecial 1, 3) := dk_183 0 1 (dk_at dksX18_init_0 3 rfl rfl)
theorem dX18_init_6 : decode cX18_init 6 = .ok (.return_, 1) := dk_177 (dk_at dksX18_init_0 6 rfl rfl)
abbrev cX18_isGood : ByteArray := prog_6_method_2_code
def yX18_isGood : MethodName := ⟨RX18, "isGood", "(LPulledFromUnder$Room;)Z"⟩
theorem dX18_isGood_0 : decode cX18_isGood 0 = .ok (.aload_n 1, 1) := by decide +kernel
theorem dX18_isGood_1 : decode cX18_isGood 1 = .ok (.getfield 7, 3) := by decide +kernel
theorem dX18_isGood_4 : decode cX18_isGood 4 = .ok (.ireturn, 1) := by decide +kernel
abbrev cX18_become : ByteArray := prog_6_method_3_code
def yX18_become : MethodName := ⟨RX18, "become", "(LPulledFromUnder$Room;)V"⟩
def dkwX18_become_0 : List UInt8 := [43, 42, 180, 0, 13, 182, 0, 19, 87, 177]
abbrev dktX18_become_0 : List UInt8 := dkwX18_become_0 ++ []
theorem dksX18_become_0 : cX18_become.data.toList.drop 0 = dktX18_become_0 := by decide +kernel
theorem dX18_become_0 : decode cX18_become 0 = .ok (.aload_n 1, 1) := dk_43 (dk_at dksX18_become_0 0 rfl rfl)
theorem dX18_become_1 : decode cX18_become 1 = .ok (.aload_n 0, 1) := dk_42 (dk_at dksX18_become_0 1 rfl rfl)
theorem dX18_become_2 : decode cX18_become 2 = .ok (.getfield 13, 3) := dk_180 0 13 (dk_at dksX18_become_0 2 rfl rfl)
theorem dX18_become_5 : decode cX18_become 5 = .ok (.invokevirtual 19, 3) := dk_182 0 19 (dk_at dksX18_become_0 5 rfl rfl)
theorem dX18_become_8 : decode cX18_become 8 = .ok (.pop, 1) := dk_87 (dk_at dksX18_become_0 8 rfl rfl)
theorem dX18_become_9 : decode cX18_become 9 = .ok (.return_, 1) := dk_177 (dk_at dksX18_become_0 9 rfl rfl)
theorem q107 : (Jvm.Cond.initialized "PulledFromUnder$FloorTold") ∈ lw_all := lw_g (lw_at lw_m1 22 rfl) rfl
theorem q193 : (Jvm.Cond.fieldLinkNest "PulledFromUnder$FloorTold" (7 : Nat) "PulledFromUnder$Room" "isFloor" "Z" "PulledFromUnder") ∈ lw_tbl := lw_at lw_m1 108 rfl
theorem q450 : (Jvm.Cond.fieldLink "PulledFromUnder$FloorTold" (13 : Nat) "PulledFromUnder$FloorTold" "first" "I") ∈ lw_all := lw_g (lw_at lw_m2 125 rfl) rfl
theorem q451 : (Jvm.Cond.sameField "PulledFromUnder$FloorTold" "PulledFromUnder$Told" "first" "I") ∈ lw_all := lw_g (lw_at lw_m2 126 rfl) rfl
theorem q493 : (Jvm.Cond.instantiable "PulledFromUnder$FloorTold" (2 : Nat)) ∈ lw_all := lw_g (lw_at lw_m2 168 rfl) rfl
theorem q495 : (Jvm.Cond.instanceMethod ({ cls := "PulledFromUnder$FloorTold", name := "<init>", desc := "(II)V" } : Jvm.MethodName)) ∈ lw_all := lw_g (lw_at lw_m2 170 rfl) rfl
theorem q496 : (Jvm.Cond.code ({ cls := "PulledFromUnder$FloorTold", name := "<init>", desc := "(II)V" } : Jvm.MethodName) prog_6_method_1_code (3 : Nat) (Option.none : Option Jvm.ClassFile.FieldType)) ∈ lw_all := lw_g (lw_at lw_m2 171 rfl) rfl
theorem q497 : (Jvm.Cond.methodLink "PulledFromUnder$FloorTold" (1 : Nat) ({ cls := "PulledFromUnder$Told", name := "<init>", desc := "(II)V" } : Jvm.MethodName)) ∈ lw_all := lw_g (lw_at lw_m2 172 rfl) rfl
theorem q498 : (Jvm.Cond.laysFinal "PulledFromUnder$FloorTold" "PulledFromUnder$Told" "start" "I") ∈ lw_all := lw_g (lw_at lw_m2 173 rfl) rfl
theorem q499 : (Jvm.Cond.laysFinal "PulledFromUnder$FloorTold" "PulledFromUnder$Told" "first" "I") ∈ lw_all := lw_g (lw_at lw_m2 174 rfl) rfl
theorem q500 : (Jvm.Cond.superclass "PulledFromUnder$FloorTold" "PulledFromUnder$Told") ∈ lw_all := lw_g (lw_at lw_m2 175 rfl) rfl
theorem q534 : (Jvm.Cond.selects "PulledFromUnder$FloorTold" ({ cls := "PulledFromUnder$Told", name := "comes", desc := "(LPulledFromUnder$Room;)Z" } : Jvm.MethodName) ({ cls := "PulledFromUnder$Told", name := "comes", desc := "(LPulledFromUnder$Room;)Z" } : Jvm.MethodName)) ∈ lw_all := lw_g (lw_at lw_m2 209 rfl) rfl
theorem q546 : (Jvm.Cond.selects "PulledFromUnder$FloorTold" ({ cls := "PulledFromUnder$Told", name := "isGood", desc := "(LPulledFromUnder$Room;)Z" } : Jvm.MethodName) ({ cls := "PulledFromUnder$FloorTold", name := "isGood", desc := "(LPulledFromUnder$Room;)Z" } : Jvm.MethodName)) ∈ lw_all := lw_g (lw_at lw_m2 221 rfl) rfl
theorem q547 : (Jvm.Cond.instanceMethod ({ cls := "PulledFromUnder$FloorTold", name := "isGood", desc := "(LPulledFromUnder$Room;)Z" } : Jvm.MethodName)) ∈ lw_all := lw_g (lw_at lw_m2 222 rfl) rfl
theorem q548 : (Jvm.Cond.code ({ cls := "PulledFromUnder$FloorTold", name := "isGood", desc := "(LPulledFromUnder$Room;)Z" } : Jvm.MethodName) prog_6_method_2_code (2 : Nat) (Option.some Jvm.ClassFile.FieldType.boolean)) ∈ lw_all := lw_g (lw_at lw_m2 223 rfl) rfl
theorem q578 : (Jvm.Cond.selects "PulledFromUnder$FloorTold" ({ cls := "PulledFromUnder$Told", name := "become", desc := "(LPulledFromUnder$Room;)V" } : Jvm.MethodName) ({ cls := "PulledFromUnder$FloorTold", name := "become", desc := "(LPulledFromUnder$Room;)V" } : Jvm.MethodName)) ∈ lw_all := lw_g (lw_at lw_m3 13 rfl) rfl
theorem q579 : (Jvm.Cond.instanceMethod ({ cls := "PulledFromUnder$FloorTold", name := "become", desc := "(LPulledFromUnder$Room;)V" } : Jvm.MethodName)) ∈ lw_all := lw_g (lw_at lw_m3 14 rfl) rfl
theorem q580 : (Jvm.Cond.code ({ cls := "PulledFromUnder$FloorTold", name := "become", desc := "(LPulledFromUnder$Room;)V" } : Jvm.MethodName) prog_6_method_3_code (2 : Nat) (Option.none : Option Jvm.ClassFile.FieldType)) ∈ lw_all := lw_g (lw_at lw_m3 15 rfl) rfl
theorem q581 : (Jvm.Cond.methodLink "PulledFromUnder$FloorTold" (19 : Nat) ({ cls := "PulledFromUnder$Room", name := "pullFloor", desc := "(I)I" } : Jvm.MethodName)) ∈ lw_all := lw_g (lw_at lw_m3 16 rfl) rfl
theorem q1499 : (Jvm.Cond.castable "PulledFromUnder$FloorTold" "PulledFromUnder$Told") ∈ lw_tbl := lw_at lw_m6 214 rfl
theorem in_X18 : ∀ w ∈ wsX180, w ∈ lw_all := lw_in wsX180 [498, 499] (by decide +kernel) (by decide +kernel)
/-! PulledFromUnder$SetUpTold -/
set_option maxRecDepth 100000
def RX19 : String := "PulledFromUnder$SetUpTold"
def TX19 : u_T := fun k => match k with
  | 0 => ("PulledFromUnder$Told", "start", "I", true)
  | _ => ("PulledFromUnder$Told", "first", "I", true)
def tyX19 : Nat → FieldType := fun k => match k with
  | 0 => .int
  | _ => .int
abbrev wsX190 : List Cond := u_ws RX19 TX19 2
theorem nmX19 : ∀ a, a < 2 → ∀ b, b < 2 → a ≠ b → (TX19 a).2.1 ≠ (TX19 b).2.1 := by decide +kernel
theorem tyX19_ok : ∀ k, k < 2 → parseFieldDescriptor (TX19 k).2.2.1 = some (tyX19 k) := by decide +kernel
abbrev cX19_init : ByteArray := prog_17_method_1_code
def yX19_init : MethodName := ⟨RX19, "<init>", "(II)V"⟩
def dkwX19_init_0 : List UInt8 := [42, 27, 28, 183, 0, 3, 177]
abbrev dktX19_init_0 : List UInt8 := dkwX19_init_0 ++ []
theorem dksX19_init_0 : cX19_init.data.toList.drop 0 = dktX19_init_0 := by decide +kernel
theorem dX19_init_0 : decode cX19_init 0 = .ok (.aload_n 0, 1) := dk_42 (dk_at dksX19_init_0 0 rfl rfl)
theorem dX19_init_1 : decode cX19_init 1 = .ok (.iload_n 1, 1) := dk_27 (dk_at dksX19_init_0 1 rfl rfl)
theorem dX19_init_2 : decode cX19_init 2 = .ok (.iload_n 2, 1) := dk_28 (dk_at dksX19_init_0 2 rfl rfl)
theorem dX19_init_3 : decode cX19_init 3 = .ok (.invokespecial 3, 3) := dk_183 0 3 (dk_at dksX19_init_0 3 rfl rfl)
theorem dX19_init_6 : decode cX19_init 6 = .ok (.return_, 1) := dk_177 (dk_at dksX19_init_0 6 rfl rfl)
abbrev cX19_isGood : ByteArray := prog_17_method_2_code
def yX19_isGood : MethodName := ⟨RX19, "isGood", "(LPulledFromUnder$Room;)Z"⟩
def dkwX19_isGood_1 : List UInt8 := [4, 167, 0, 4, 3, 172]
abbrev dktX19_isGood_1 : List UInt8 := dkwX19_isGood_1 ++ []
def dkwX19_isGood_0 : List UInt8 := [42, 180, 0, 9, 43, 180, 0, 15, 162, 0, 20, 43, 180, 0, 20, 42, 180, 0, 9, 46, 5, 159, 0, 7]
abbrev dktX19_isGood_0 : List UInt8 := dkwX19_isGood_0 ++ dktX19_isGood_1
theorem dksX19_isGood_0 : cX19_isGood.data.toList.drop 0 = dktX19_isGood_0 := by decide +kernel
theorem dksX19_isGood_1 : cX19_isGood.data.toList.drop 24 = dktX19_isGood_1 := dk_seg dksX19_isGood_0 24 rfl rfl
theorem dX19_isGood_0 : decode cX19_isGood 0 = .ok (.aload_n 0, 1) := dk_42 (dk_at dksX19_isGood_0 0 rfl rfl)
theorem dX19_isGood_1 : decode cX19_isGood 1 = .ok (.getfield 9, 3) := dk_180 0 9 (dk_at dksX19_isGood_0 1 rfl rfl)
theorem dX19_isGood_4 : decode cX19_isGood 4 = .ok (.aload_n 1, 1) := dk_43 (dk_at dksX19_isGood_0 4 rfl rfl)
theorem dX19_isGood_5 : decode cX19_isGood 5 = .ok (.getfield 15, 3) := dk_180 0 15 (dk_at dksX19_isGood_0 5 rfl rfl)
theorem dX19_isGood_8 : decode cX19_isGood 8 = .ok (.if_icmp .ge 20, 3) := dk_162 0 20 (dk_at dksX19_isGood_0 8 rfl rfl)
theorem dX19_isGood_11 : decode cX19_isGood 11 = .ok (.aload_n 1, 1) := dk_43 (dk_at dksX19_isGood_0 11 rfl rfl)
theorem dX19_isGood_12 : decode cX19_isGood 12 = .ok (.getfield 20, 3) := dk_180 0 20 (dk_at dksX19_isGood_0 12 rfl rfl)
theorem dX19_isGood_15 : decode cX19_isGood 15 = .ok (.aload_n 0, 1) := dk_42 (dk_at dksX19_isGood_0 15 rfl rfl)
theorem dX19_isGood_16 : decode cX19_isGood 16 = .ok (.getfield 9, 3) := dk_180 0 9 (dk_at dksX19_isGood_0 16 rfl rfl)
theorem dX19_isGood_19 : decode cX19_isGood 19 = .ok (.iaload, 1) := dk_46 (dk_at dksX19_isGood_0 19 rfl rfl)
theorem dX19_isGood_20 : decode cX19_isGood 20 = .ok (.iconst 2, 1) := dk_5 (dk_at dksX19_isGood_0 20 rfl rfl)
theorem dX19_isGood_21 : decode cX19_isGood 21 = .ok (.if_icmp .eq 7, 3) := dk_159 0 7 (dk_at dksX19_isGood_0 21 rfl rfl)
theorem dX19_isGood_24 : decode cX19_isGood 24 = .ok (.iconst 1, 1) := dk_4 (dk_at dksX19_isGood_1 0 rfl rfl)
theorem dX19_isGood_25 : decode cX19_isGood 25 = .ok (.goto 4, 3) := dk_167 0 4 (dk_at dksX19_isGood_1 1 rfl rfl)
theorem dX19_isGood_28 : decode cX19_isGood 28 = .ok (.iconst 0, 1) := dk_3 (dk_at dksX19_isGood_1 4 rfl rfl)
theorem dX19_isGood_29 : decode cX19_isGood 29 = .ok (.ireturn, 1) := dk_172 (dk_at dksX19_isGood_1 5 rfl rfl)
abbrev cX19_become : ByteArray := prog_17_method_3_code
def yX19_become : MethodName := ⟨RX19, "become", "(LPulledFromUnder$Room;)V"⟩
def dkwX19_become_0 : List UInt8 := [43, 42, 180, 0, 9, 182, 0, 24, 177]
abbrev dktX19_become_0 : List UInt8 := dkwX19_become_0 ++ []
theorem dksX19_become_0 : cX19_become.data.toList.drop 0 = dktX19_become_0 := by decide +kernel
theorem dX19_become_0 : decode cX19_become 0 = .ok (.aload_n 1, 1) := dk_43 (dk_at dksX19_become_0 0 rfl rfl)
theorem dX19_become_1 : decode cX19_become 1 = .ok (.aload_n 0, 1) := dk_42 (dk_at dksX19_become_0 1 rfl rfl)
theorem dX19_become_2 : decode cX19_become 2 = .ok (.getfield 9, 3) := dk_180 0 9 (dk_at dksX19_become_0 2 rfl rfl)
theorem dX19_become_5 : decode cX19_become 5 = .ok (.invokevirtual 24, 3) := dk_182 0 24 (dk_at dksX19_become_0 5 rfl rfl)
theorem dX19_become_8 : decode cX19_become 8 = .ok (.return_, 1) := dk_177 (dk_at dksX19_become_0 8 rfl rfl)
theorem q108 : (Jvm.Cond.initialized "PulledFromUnder$SetUpTold") ∈ lw_all := lw_g (lw_at lw_m1 23 rfl) rfl
theorem q177 : (Jvm.Cond.fieldLinkNest "PulledFromUnder$SetUpTold" (15 : Nat) "PulledFromUnder$Room" "things" "I" "PulledFromUnder") ∈ lw_tbl := lw_at lw_m1 92 rfl
theorem q187 : (Jvm.Cond.fieldLinkNest "PulledFromUnder$SetUpTold" (20 : Nat) "PulledFromUnder$Room" "state" "[I" "PulledFromUnder") ∈ lw_tbl := lw_at lw_m1 102 rfl
theorem q448 : (Jvm.Cond.fieldLink "PulledFromUnder$SetUpTold" (9 : Nat) "PulledFromUnder$SetUpTold" "first" "I") ∈ lw_all := lw_g (lw_at lw_m2 123 rfl) rfl
theorem q449 : (Jvm.Cond.sameField "PulledFromUnder$SetUpTold" "PulledFromUnder$Told" "first" "I") ∈ lw_all := lw_g (lw_at lw_m2 124 rfl) rfl
theorem q502 : (Jvm.Cond.instantiable "PulledFromUnder$SetUpTold" (2 : Nat)) ∈ lw_all := lw_g (lw_at lw_m2 177 rfl) rfl
theorem q504 : (Jvm.Cond.instanceMethod ({ cls := "PulledFromUnder$SetUpTold", name := "<init>", desc := "(II)V" } : Jvm.MethodName)) ∈ lw_all := lw_g (lw_at lw_m2 179 rfl) rfl
theorem q505 : (Jvm.Cond.code ({ cls := "PulledFromUnder$SetUpTold", name := "<init>", desc := "(II)V" } : Jvm.MethodName) prog_17_method_1_code (3 : Nat) (Option.none : Option Jvm.ClassFile.FieldType)) ∈ lw_all := lw_g (lw_at lw_m2 180 rfl) rfl
theorem q506 : (Jvm.Cond.methodLink "PulledFromUnder$SetUpTold" (3 : Nat) ({ cls := "PulledFromUnder$Told", name := "<init>", desc := "(II)V" } : Jvm.MethodName)) ∈ lw_all := lw_g (lw_at lw_m2 181 rfl) rfl
theorem q507 : (Jvm.Cond.laysFinal "PulledFromUnder$SetUpTold" "PulledFromUnder$Told" "start" "I") ∈ lw_all := lw_g (lw_at lw_m2 182 rfl) rfl
theorem q508 : (Jvm.Cond.laysFinal "PulledFromUnder$SetUpTold" "PulledFromUnder$Told" "first" "I") ∈ lw_all := lw_g (lw_at lw_m2 183 rfl) rfl
theorem q509 : (Jvm.Cond.superclass "PulledFromUnder$SetUpTold" "PulledFromUnder$Told") ∈ lw_all := lw_g (lw_at lw_m2 184 rfl) rfl
theorem q538 : (Jvm.Cond.selects "PulledFromUnder$SetUpTold" ({ cls := "PulledFromUnder$Told", name := "comes", desc := "(LPulledFromUnder$Room;)Z" } : Jvm.MethodName) ({ cls := "PulledFromUnder$Told", name := "comes", desc := "(LPulledFromUnder$Room;)Z" } : Jvm.MethodName)) ∈ lw_all := lw_g (lw_at lw_m2 213 rfl) rfl
theorem q565 : (Jvm.Cond.selects "PulledFromUnder$SetUpTold" ({ cls := "PulledFromUnder$Told", name := "isGood", desc := "(LPulledFromUnder$Room;)Z" } : Jvm.MethodName) ({ cls := "PulledFromUnder$SetUpTold", name := "isGood", desc := "(LPulledFromUnder$Room;)Z" } : Jvm.MethodName)) ∈ lw_all := lw_g (lw_at lw_m3 0 rfl) rfl
theorem q566 : (Jvm.Cond.instanceMethod ({ cls := "PulledFromUnder$SetUpTold", name := "isGood", desc := "(LPulledFromUnder$Room;)Z" } : Jvm.MethodName)) ∈ lw_all := lw_g (lw_at lw_m3 1 rfl) rfl
theorem q567 : (Jvm.Cond.code ({ cls := "PulledFromUnder$SetUpTold", name := "isGood", desc := "(LPulledFromUnder$Room;)Z" } : Jvm.MethodName) prog_17_method_2_code (2 : Nat) (Option.some Jvm.ClassFile.FieldType.boolean)) ∈ lw_all := lw_g (lw_at lw_m3 2 rfl) rfl
theorem q686 : (Jvm.Cond.selects "PulledFromUnder$SetUpTold" ({ cls := "PulledFromUnder$Told", name := "become", desc := "(LPulledFromUnder$Room;)V" } : Jvm.MethodName) ({ cls := "PulledFromUnder$SetUpTold", name := "become", desc := "(LPulledFromUnder$Room;)V" } : Jvm.MethodName)) ∈ lw_all := lw_g (lw_at lw_m3 121 rfl) rfl
theorem q687 : (Jvm.Cond.instanceMethod ({ cls := "PulledFromUnder$SetUpTold", name := "become", desc := "(LPulledFromUnder$Room;)V" } : Jvm.MethodName)) ∈ lw_all := lw_g (lw_at lw_m3 122 rfl) rfl
theorem q688 : (Jvm.Cond.code ({ cls := "PulledFromUnder$SetUpTold", name := "become", desc := "(LPulledFromUnder$Room;)V" } : Jvm.MethodName) prog_17_method_3_code (2 : Nat) (Option.none : Option Jvm.ClassFile.FieldType)) ∈ lw_all := lw_g (lw_at lw_m3 123 rfl) rfl
theorem q689 : (Jvm.Cond.methodLink "PulledFromUnder$SetUpTold" (24 : Nat) ({ cls := "PulledFromUnder$Room", name := "setUp", desc := "(I)V" } : Jvm.MethodName)) ∈ lw_all := lw_g (lw_at lw_m3 124 rfl) rfl
theorem q1500 : (Jvm.Cond.castable "PulledFromUnder$SetUpTold" "PulledFromUnder$Told") ∈ lw_tbl := lw_at lw_m6 215 rfl
theorem in_X19 : ∀ w ∈ wsX190, w ∈ lw_all := lw_in wsX190 [507, 508] (by decide +kernel) (by decide +kernel)
/-! PulledFromUnder$MinutesTold -/
set_option maxRecDepth 100000
def RX20 : String := "PulledFromUnder$MinutesTold"
def TX20 : u_T := fun k => match k with
  | 0 => ("PulledFromUnder$Told", "start", "I", true)
  | _ => ("PulledFromUnder$Told", "first", "I", true)
def tyX20 : Nat → FieldType := fun k => match k with
  | 0 => .int
  | _ => .int
abbrev wsX200 : List Cond := u_ws RX20 TX20 2
theorem nmX20 : ∀ a, a < 2 → ∀ b, b < 2 → a ≠ b → (TX20 a).2.1 ≠ (TX20 b).2.1 := by decide +kernel
theorem tyX20_ok : ∀ k, k < 2 → parseFieldDescriptor (TX20 k).2.2.1 = some (tyX20 k) := by decide +kernel
abbrev cX20_init : ByteArray := prog_9_method_1_code
def yX20_init : MethodName := ⟨RX20, "<init>", "(II)V"⟩
def dkwX20_init_0 : List UInt8 := [42, 27, 28, 183, 0, 3, 177]
abbrev dktX20_init_0 : List UInt8 := dkwX20_init_0 ++ []
theorem dksX20_init_0 : cX20_init.data.toList.drop 0 = dktX20_init_0 := by decide +kernel
theorem dX20_init_0 : decode cX20_init 0 = .ok (.aload_n 0, 1) := dk_42 (dk_at dksX20_init_0 0 rfl rfl)
theorem dX20_init_1 : decode cX20_init 1 = .ok (.iload_n 1, 1) := dk_27 (dk_at dksX20_init_0 1 rfl rfl)
theorem dX20_init_2 : decode cX20_init 2 = .ok (.iload_n 2, 1) := dk_28 (dk_at dksX20_init_0 2 rfl rfl)
theorem dX20_init_3 : decode cX20_init 3 = .ok (.invokespecial 3, 3) := dk_183 0 3 (dk_at dksX20_init_0 3 rfl rfl)
theorem dX20_init_6 : decode cX20_init 6 = .ok (.return_, 1) := dk_177 (dk_at dksX20_init_0 6 rfl rfl)
abbrev cX20_isGood : ByteArray := prog_9_method_2_code
def yX20_isGood : MethodName := ⟨RX20, "isGood", "(LPulledFromUnder$Room;)Z"⟩
def dkwX20_isGood_1 : List UInt8 := [17, 3, 231, 163, 0, 7, 4, 167, 0, 4, 3, 172]
abbrev dktX20_isGood_1 : List UInt8 := dkwX20_isGood_1 ++ []
def dkwX20_isGood_0 : List UInt8 := [42, 180, 0, 9, 133, 10, 20, 0, 15, 184, 0, 17, 153, 0, 22, 43, 180, 0, 21, 42, 180, 0, 9, 96]
abbrev dktX20_isGood_0 : List UInt8 := dkwX20_isGood_0 ++ dktX20_isGood_1
theorem dksX20_isGood_0 : cX20_isGood.data.toList.drop 0 = dktX20_isGood_0 := by decide +kernel
theorem dksX20_isGood_1 : cX20_isGood.data.toList.drop 24 = dktX20_isGood_1 := dk_seg dksX20_isGood_0 24 rfl rfl
theorem dX20_isGood_0 : decode cX20_isGood 0 = .ok (.aload_n 0, 1) := dk_42 (dk_at dksX20_isGood_0 0 rfl rfl)
theorem dX20_isGood_1 : decode cX20_isGood 1 = .ok (.getfield 9, 3) := dk_180 0 9 (dk_at dksX20_isGood_0 1 rfl rfl)
theorem dX20_isGood_4 : decode cX20_isGood 4 = .ok (.i2l, 1) := dk_133 (dk_at dksX20_isGood_0 4 rfl rfl)
theorem dX20_isGood_5 : decode cX20_isGood 5 = .ok (.lconst 1, 1) := dk_10 (dk_at dksX20_isGood_0 5 rfl rfl)
theorem dX20_isGood_6 : decode cX20_isGood 6 = .ok (.ldc2_w 15, 3) := dk_20 0 15 (dk_at dksX20_isGood_0 6 rfl rfl)
theorem dX20_isGood_9 : decode cX20_isGood 9 = .ok (.invokestatic 17, 3) := dk_184 0 17 (dk_at dksX20_isGood_0 9 rfl rfl)
theorem dX20_isGood_12 : decode cX20_isGood 12 = .ok (.ifCond .eq 22, 3) := dk_153 0 22 (dk_at dksX20_isGood_0 12 rfl rfl)
theorem dX20_isGood_15 : decode cX20_isGood 15 = .ok (.aload_n 1, 1) := dk_43 (dk_at dksX20_isGood_0 15 rfl rfl)
theorem dX20_isGood_16 : decode cX20_isGood 16 = .ok (.getfield 21, 3) := dk_180 0 21 (dk_at dksX20_isGood_0 16 rfl rfl)
theorem dX20_isGood_19 : decode cX20_isGood 19 = .ok (.aload_n 0, 1) := dk_42 (dk_at dksX20_isGood_0 19 rfl rfl)
theorem dX20_isGood_20 : decode cX20_isGood 20 = .ok (.getfield 9, 3) := dk_180 0 9 (dk_at dksX20_isGood_0 20 rfl rfl)
theorem dX20_isGood_23 : decode cX20_isGood 23 = .ok (.iadd, 1) := dk_96 (dk_at dksX20_isGood_0 23 rfl rfl)
theorem dX20_isGood_24 : decode cX20_isGood 24 = .ok (.sipush 999, 3) := dk_17 3 231 (dk_at dksX20_isGood_1 0 rfl rfl)
theorem dX20_isGood_27 : decode cX20_isGood 27 = .ok (.if_icmp .gt 7, 3) := dk_163 0 7 (dk_at dksX20_isGood_1 3 rfl rfl)
theorem dX20_isGood_30 : decode cX20_isGood 30 = .ok (.iconst 1, 1) := dk_4 (dk_at dksX20_isGood_1 6 rfl rfl)
theorem dX20_isGood_31 : decode cX20_isGood 31 = .ok (.goto 4, 3) := dk_167 0 4 (dk_at dksX20_isGood_1 7 rfl rfl)
theorem dX20_isGood_34 : decode cX20_isGood 34 = .ok (.iconst 0, 1) := dk_3 (dk_at dksX20_isGood_1 10 rfl rfl)
theorem dX20_isGood_35 : decode cX20_isGood 35 = .ok (.ireturn, 1) := dk_172 (dk_at dksX20_isGood_1 11 rfl rfl)
abbrev cX20_become : ByteArray := prog_9_method_3_code
def yX20_become : MethodName := ⟨RX20, "become", "(LPulledFromUnder$Room;)V"⟩
def dkwX20_become_0 : List UInt8 := [43, 42, 180, 0, 9, 182, 0, 26, 87, 177]
abbrev dktX20_become_0 : List UInt8 := dkwX20_become_0 ++ []
theorem dksX20_become_0 : cX20_become.data.toList.drop 0 = dktX20_become_0 := by decide +kernel
theorem dX20_become_0 : decode cX20_become 0 = .ok (.aload_n 1, 1) := dk_43 (dk_at dksX20_become_0 0 rfl rfl)
theorem dX20_become_1 : decode cX20_become 1 = .ok (.aload_n 0, 1) := dk_42 (dk_at dksX20_become_0 1 rfl rfl)
theorem dX20_become_2 : decode cX20_become 2 = .ok (.getfield 9, 3) := dk_180 0 9 (dk_at dksX20_become_0 2 rfl rfl)
theorem dX20_become_5 : decode cX20_become 5 = .ok (.invokevirtual 26, 3) := dk_182 0 26 (dk_at dksX20_become_0 5 rfl rfl)
theorem dX20_become_8 : decode cX20_become 8 = .ok (.pop, 1) := dk_87 (dk_at dksX20_become_0 8 rfl rfl)
theorem dX20_become_9 : decode cX20_become 9 = .ok (.return_, 1) := dk_177 (dk_at dksX20_become_0 9 rfl rfl)
theorem q109 : (Jvm.Cond.initialized "PulledFromUnder$MinutesTold") ∈ lw_all := lw_g (lw_at lw_m1 24 rfl) rfl
theorem q195 : (Jvm.Cond.fieldLinkNest "PulledFromUnder$MinutesTold" (21 : Nat) "PulledFromUnder$Room" "minute" "I" "PulledFromUnder") ∈ lw_tbl := lw_at lw_m1 110 rfl
theorem q444 : (Jvm.Cond.fieldLink "PulledFromUnder$MinutesTold" (9 : Nat) "PulledFromUnder$MinutesTold" "first" "I") ∈ lw_all := lw_g (lw_at lw_m2 119 rfl) rfl
theorem q445 : (Jvm.Cond.sameField "PulledFromUnder$MinutesTold" "PulledFromUnder$Told" "first" "I") ∈ lw_all := lw_g (lw_at lw_m2 120 rfl) rfl
theorem q511 : (Jvm.Cond.instantiable "PulledFromUnder$MinutesTold" (2 : Nat)) ∈ lw_all := lw_g (lw_at lw_m2 186 rfl) rfl
theorem q513 : (Jvm.Cond.instanceMethod ({ cls := "PulledFromUnder$MinutesTold", name := "<init>", desc := "(II)V" } : Jvm.MethodName)) ∈ lw_all := lw_g (lw_at lw_m2 188 rfl) rfl
theorem q514 : (Jvm.Cond.code ({ cls := "PulledFromUnder$MinutesTold", name := "<init>", desc := "(II)V" } : Jvm.MethodName) prog_9_method_1_code (3 : Nat) (Option.none : Option Jvm.ClassFile.FieldType)) ∈ lw_all := lw_g (lw_at lw_m2 189 rfl) rfl
theorem q515 : (Jvm.Cond.methodLink "PulledFromUnder$MinutesTold" (3 : Nat) ({ cls := "PulledFromUnder$Told", name := "<init>", desc := "(II)V" } : Jvm.MethodName)) ∈ lw_all := lw_g (lw_at lw_m2 190 rfl) rfl
theorem q516 : (Jvm.Cond.laysFinal "PulledFromUnder$MinutesTold" "PulledFromUnder$Told" "start" "I") ∈ lw_all := lw_g (lw_at lw_m2 191 rfl) rfl
theorem q517 : (Jvm.Cond.laysFinal "PulledFromUnder$MinutesTold" "PulledFromUnder$Told" "first" "I") ∈ lw_all := lw_g (lw_at lw_m2 192 rfl) rfl
theorem q518 : (Jvm.Cond.superclass "PulledFromUnder$MinutesTold" "PulledFromUnder$Told") ∈ lw_all := lw_g (lw_at lw_m2 193 rfl) rfl
theorem q535 : (Jvm.Cond.selects "PulledFromUnder$MinutesTold" ({ cls := "PulledFromUnder$Told", name := "comes", desc := "(LPulledFromUnder$Room;)Z" } : Jvm.MethodName) ({ cls := "PulledFromUnder$Told", name := "comes", desc := "(LPulledFromUnder$Room;)Z" } : Jvm.MethodName)) ∈ lw_all := lw_g (lw_at lw_m2 210 rfl) rfl
theorem q549 : (Jvm.Cond.selects "PulledFromUnder$MinutesTold" ({ cls := "PulledFromUnder$Told", name := "isGood", desc := "(LPulledFromUnder$Room;)Z" } : Jvm.MethodName) ({ cls := "PulledFromUnder$MinutesTold", name := "isGood", desc := "(LPulledFromUnder$Room;)Z" } : Jvm.MethodName)) ∈ lw_all := lw_g (lw_at lw_m2 224 rfl) rfl
theorem q550 : (Jvm.Cond.instanceMethod ({ cls := "PulledFromUnder$MinutesTold", name := "isGood", desc := "(LPulledFromUnder$Room;)Z" } : Jvm.MethodName)) ∈ lw_all := lw_g (lw_at lw_m2 225 rfl) rfl
theorem q551 : (Jvm.Cond.code ({ cls := "PulledFromUnder$MinutesTold", name := "isGood", desc := "(LPulledFromUnder$Room;)Z" } : Jvm.MethodName) prog_9_method_2_code (2 : Nat) (Option.some Jvm.ClassFile.FieldType.boolean)) ∈ lw_all := lw_g (lw_at lw_m2 226 rfl) rfl
theorem q552 : (Jvm.Cond.constantLong "PulledFromUnder$MinutesTold" (15 : Nat) (60 : Int64)) ∈ lw_all := lw_g (lw_at lw_m2 227 rfl) rfl
theorem q553 : (Jvm.Cond.methodLinkNest "PulledFromUnder$MinutesTold" (17 : Nat) ({ cls := "PulledFromUnder", name := "in", desc := "(JJJ)Z" } : Jvm.MethodName) "PulledFromUnder") ∈ lw_tbl := lw_at lw_m2 228 rfl
theorem q619 : (Jvm.Cond.selects "PulledFromUnder$MinutesTold" ({ cls := "PulledFromUnder$Told", name := "become", desc := "(LPulledFromUnder$Room;)V" } : Jvm.MethodName) ({ cls := "PulledFromUnder$MinutesTold", name := "become", desc := "(LPulledFromUnder$Room;)V" } : Jvm.MethodName)) ∈ lw_all := lw_g (lw_at lw_m3 54 rfl) rfl
theorem q620 : (Jvm.Cond.instanceMethod ({ cls := "PulledFromUnder$MinutesTold", name := "become", desc := "(LPulledFromUnder$Room;)V" } : Jvm.MethodName)) ∈ lw_all := lw_g (lw_at lw_m3 55 rfl) rfl
theorem q621 : (Jvm.Cond.code ({ cls := "PulledFromUnder$MinutesTold", name := "become", desc := "(LPulledFromUnder$Room;)V" } : Jvm.MethodName) prog_9_method_3_code (2 : Nat) (Option.none : Option Jvm.ClassFile.FieldType)) ∈ lw_all := lw_g (lw_at lw_m3 56 rfl) rfl
theorem q622 : (Jvm.Cond.methodLink "PulledFromUnder$MinutesTold" (26 : Nat) ({ cls := "PulledFromUnder$Room", name := "minutesOn", desc := "(I)LPulledFromUnder$Room;" } : Jvm.MethodName)) ∈ lw_all := lw_g (lw_at lw_m3 57 rfl) rfl
theorem q1501 : (Jvm.Cond.castable "PulledFromUnder$MinutesTold" "PulledFromUnder$Told") ∈ lw_tbl := lw_at lw_m6 216 rfl
theorem in_X20 : ∀ w ∈ wsX200, w ∈ lw_all := lw_in wsX200 [516, 517] (by decide +kernel) (by decide +kernel)
/-! java/lang/Throwable -/
set_option maxRecDepth 100000
def RJ0 : String := "java/lang/Throwable"
def TJ0 : u_T := fun k => match k with
  | 0 => ("java/lang/Throwable", "cause", "Ljava/lang/Throwable;", false)
  | 1 => ("java/lang/Throwable", "stackTrace", "[Ljava/lang/StackTraceElement;", false)
  | 2 => ("java/lang/Throwable", "suppressedExceptions", "Ljava/util/List;", false)
  | 3 => ("java/lang/Throwable", "detailMessage", "Ljava/lang/String;", false)
  | _ => ("java/lang/Throwable", "backtrace", "Ljava/lang/Object;", false)
def tyJ0 : Nat → FieldType := fun k => match k with
  | 0 => .object "java/lang/Throwable"
  | 1 => .array (.object "java/lang/StackTraceElement")
  | 2 => .object "java/util/List"
  | 3 => .object "java/lang/String"
  | _ => .object "java/lang/Object"
abbrev wsJ00 : List Cond := u_ws RJ0 TJ0 5
theorem nmJ0 : ∀ a, a < 5 → ∀ b, b < 5 → a ≠ b → (TJ0 a).2.1 ≠ (TJ0 b).2.1 := by decide +kernel
theorem tyJ0_ok : ∀ k, k < 5 → parseFieldDescriptor (TJ0 k).2.2.1 = some (tyJ0 k) := by decide +kernel
abbrev cJ0_init : ByteArray := prog_27_method_1_code
def yJ0_init : MethodName := ⟨RJ0, "<init>", "()V"⟩
def dkwJ0_init_1 : List UInt8 := [182, 0, 27, 87, 177]
abbrev dktJ0_init_1 : List UInt8 := dkwJ0_init_1 ++ []
def dkwJ0_init_0 : List UInt8 := [42, 183, 0, 1, 42, 42, 181, 0, 7, 42, 178, 0, 13, 181, 0, 17, 42, 178, 0, 20, 181, 0, 24, 42]
abbrev dktJ0_init_0 : List UInt8 := dkwJ0_init_0 ++ dktJ0_init_1
theorem dksJ0_init_0 : cJ0_init.data.toList.drop 0 = dktJ0_init_0 := by decide +kernel
theorem dksJ0_init_1 : cJ0_init.data.toList.drop 24 = dktJ0_init_1 := dk_seg dksJ0_init_0 24 rfl rfl
theorem dJ0_init_0 : decode cJ0_init 0 = .ok (.aload_n 0, 1) := dk_42 (dk_at dksJ0_init_0 0 rfl rfl)
theorem dJ0_init_1 : decode cJ0_init 1 = .ok (.invokespecial 1, 3) := dk_183 0 1 (dk_at dksJ0_init_0 1 rfl rfl)
theorem dJ0_init_4 : decode cJ0_init 4 = .ok (.aload_n 0, 1) := dk_42 (dk_at dksJ0_init_0 4 rfl rfl)
theorem dJ0_init_5 : decode cJ0_init 5 = .ok (.aload_n 0, 1) := dk_42 (dk_at dksJ0_init_0 5 rfl rfl)
theorem dJ0_init_6 : decode cJ0_init 6 = .ok (.putfield 7, 3) := dk_181 0 7 (dk_at dksJ0_init_0 6 rfl rfl)
theorem dJ0_init_9 : decode cJ0_init 9 = .ok (.aload_n 0, 1) := dk_42 (dk_at dksJ0_init_0 9 rfl rfl)
theorem dJ0_init_10 : decode cJ0_init 10 = .ok (.getstatic 13, 3) := dk_178 0 13 (dk_at dksJ0_init_0 10 rfl rfl)
theorem dJ0_init_13 : decode cJ0_init 13 = .ok (.putfield 17, 3) := dk_181 0 17 (dk_at dksJ0_init_0 13 rfl rfl)
theorem dJ0_init_16 : decode cJ0_init 16 = .ok (.aload_n 0, 1) := dk_42 (dk_at dksJ0_init_0 16 rfl rfl)
theorem dJ0_init_17 : decode cJ0_init 17 = .ok (.getstatic 20, 3) := dk_178 0 20 (dk_at dksJ0_init_0 17 rfl rfl)
theorem dJ0_init_20 : decode cJ0_init 20 = .ok (.putfield 24, 3) := dk_181 0 24 (dk_at dksJ0_init_0 20 rfl rfl)
theorem dJ0_init_23 : decode cJ0_init 23 = .ok (.aload_n 0, 1) := dk_42 (dk_at dksJ0_init_0 23 rfl rfl)
theorem dJ0_init_24 : decode cJ0_init 24 = .ok (.invokevirtual 27, 3) := dk_182 0 27 (dk_at dksJ0_init_1 0 rfl rfl)
theorem dJ0_init_27 : decode cJ0_init 27 = .ok (.pop, 1) := dk_87 (dk_at dksJ0_init_1 3 rfl rfl)
theorem dJ0_init_28 : decode cJ0_init 28 = .ok (.return_, 1) := dk_177 (dk_at dksJ0_init_1 4 rfl rfl)
theorem q96 : (Jvm.Cond.initialized "java/lang/Throwable") ∈ lw_all := lw_g (lw_at lw_m1 11 rfl) rfl
theorem q297 : (Jvm.Cond.declares ({ cls := "java/lang/Throwable", name := "<init>", desc := "()V" } : Jvm.MethodName)) ∈ lw_tbl := lw_at lw_m1 212 rfl
theorem q298 : (Jvm.Cond.declares ({ cls := "java/lang/Throwable", name := "<init>", desc := "(Ljava/lang/String;)V" } : Jvm.MethodName)) ∈ lw_tbl := lw_at lw_m1 213 rfl
theorem q302 : (Jvm.Cond.lays "java/lang/Throwable" "java/lang/Throwable" "cause" "Ljava/lang/Throwable;") ∈ lw_all := lw_g (lw_at lw_m1 217 rfl) rfl
theorem q304 : (Jvm.Cond.lays "java/lang/Throwable" "java/lang/Throwable" "stackTrace" "[Ljava/lang/StackTraceElement;") ∈ lw_all := lw_g (lw_at lw_m1 219 rfl) rfl
theorem q306 : (Jvm.Cond.lays "java/lang/Throwable" "java/lang/Throwable" "suppressedExceptions" "Ljava/util/List;") ∈ lw_all := lw_g (lw_at lw_m1 221 rfl) rfl
theorem q308 : (Jvm.Cond.lays "java/lang/Throwable" "java/lang/Throwable" "detailMessage" "Ljava/lang/String;") ∈ lw_all := lw_g (lw_at lw_m1 223 rfl) rfl
theorem q310 : (Jvm.Cond.lays "java/lang/Throwable" "java/lang/Throwable" "backtrace" "Ljava/lang/Object;") ∈ lw_all := lw_g (lw_at lw_m1 225 rfl) rfl
theorem q311 : (Jvm.Cond.fieldLink "java/lang/Throwable" (198 : Nat) "java/lang/Throwable" "backtrace" "Ljava/lang/Object;") ∈ lw_all := lw_g (lw_at lw_m1 226 rfl) rfl
theorem q312 : (Jvm.Cond.superclass "java/lang/Throwable" "java/lang/Object") ∈ lw_all := lw_g (lw_at lw_m1 227 rfl) rfl
theorem q313 : (Jvm.Cond.instanceMethod ({ cls := "java/lang/Throwable", name := "<init>", desc := "()V" } : Jvm.MethodName)) ∈ lw_all := lw_g (lw_at lw_m1 228 rfl) rfl
theorem q314 : (Jvm.Cond.code ({ cls := "java/lang/Throwable", name := "<init>", desc := "()V" } : Jvm.MethodName) prog_27_method_1_code (1 : Nat) (Option.none : Option Jvm.ClassFile.FieldType)) ∈ lw_all := lw_g (lw_at lw_m1 229 rfl) rfl
theorem q315 : (Jvm.Cond.methodLink "java/lang/Throwable" (1 : Nat) ({ cls := "java/lang/Object", name := "<init>", desc := "()V" } : Jvm.MethodName)) ∈ lw_all := lw_g (lw_at lw_m1 230 rfl) rfl
theorem q316 : (Jvm.Cond.fieldLink "java/lang/Throwable" (13 : Nat) "java/lang/Throwable" "UNASSIGNED_STACK" "[Ljava/lang/StackTraceElement;") ∈ lw_all := lw_g (lw_at lw_m1 231 rfl) rfl
theorem q317 : (Jvm.Cond.laysStatic "java/lang/Throwable" "UNASSIGNED_STACK" "[Ljava/lang/StackTraceElement;") ∈ lw_tbl := lw_at lw_m1 232 rfl
theorem q318 : (Jvm.Cond.fieldLink "java/lang/Throwable" (20 : Nat) "java/lang/Throwable" "SUPPRESSED_SENTINEL" "Ljava/util/List;") ∈ lw_all := lw_g (lw_at lw_m1 233 rfl) rfl
theorem q319 : (Jvm.Cond.laysStatic "java/lang/Throwable" "SUPPRESSED_SENTINEL" "Ljava/util/List;") ∈ lw_tbl := lw_at lw_m1 234 rfl
theorem q320 : (Jvm.Cond.methodLink "java/lang/Throwable" (27 : Nat) ({ cls := "java/lang/Throwable", name := "fillInStackTrace", desc := "()Ljava/lang/Throwable;" } : Jvm.MethodName)) ∈ lw_all := lw_g (lw_at lw_m1 235 rfl) rfl
theorem q321 : (Jvm.Cond.instanceMethod ({ cls := "java/lang/Throwable", name := "fillInStackTrace", desc := "()Ljava/lang/Throwable;" } : Jvm.MethodName)) ∈ lw_all := lw_g (lw_at lw_m1 236 rfl) rfl
theorem q322 : (Jvm.Cond.sameMethod "java/lang/Throwable" "java/lang/Throwable" "fillInStackTrace" "()Ljava/lang/Throwable;") ∈ lw_all := lw_g (lw_at lw_m1 237 rfl) rfl
theorem q324 : (Jvm.Cond.codeSync ({ cls := "java/lang/Throwable", name := "fillInStackTrace", desc := "()Ljava/lang/Throwable;" } : Jvm.MethodName) prog_27_method_18_code (1 : Nat) (Option.some (Jvm.ClassFile.FieldType.object "java/lang/Throwable"))) ∈ lw_all := lw_g (lw_at lw_m1 239 rfl) rfl
theorem q325 : (Jvm.Cond.methodLink "java/lang/Throwable" (202 : Nat) ({ cls := "java/lang/Throwable", name := "fillInStackTrace", desc := "(I)Ljava/lang/Throwable;" } : Jvm.MethodName)) ∈ lw_all := lw_g (lw_at lw_m2 0 rfl) rfl
theorem q326 : (Jvm.Cond.privateMethod ({ cls := "java/lang/Throwable", name := "fillInStackTrace", desc := "(I)Ljava/lang/Throwable;" } : Jvm.MethodName)) ∈ lw_tbl := lw_at lw_m2 1 rfl
theorem q327 : (Jvm.Cond.instanceMethod ({ cls := "java/lang/Throwable", name := "fillInStackTrace", desc := "(I)Ljava/lang/Throwable;" } : Jvm.MethodName)) ∈ lw_all := lw_g (lw_at lw_m2 2 rfl) rfl
theorem q328 : (Jvm.Cond.instantiable "java/lang/Throwable" (6 : Nat)) ∈ lw_all := lw_g (lw_at lw_m2 3 rfl) rfl
theorem q329 : (Jvm.Cond.native ({ cls := "java/lang/Throwable", name := "fillInStackTrace", desc := "(I)Ljava/lang/Throwable;" } : Jvm.MethodName)) ∈ lw_all := lw_g (lw_at lw_m2 4 rfl) rfl
theorem q344 : (Jvm.Cond.fieldLink "java/lang/Throwable" (198 : Nat) "java/lang/Throwable" "backtrace" "Ljava/lang/Object;") ∈ lw_all := lw_g (lw_at lw_m2 19 rfl) rfl
theorem q345 : (Jvm.Cond.fieldLink "java/lang/Throwable" (7 : Nat) "java/lang/Throwable" "cause" "Ljava/lang/Throwable;") ∈ lw_all := lw_g (lw_at lw_m2 20 rfl) rfl
theorem q346 : (Jvm.Cond.fieldLink "java/lang/Throwable" (17 : Nat) "java/lang/Throwable" "stackTrace" "[Ljava/lang/StackTraceElement;") ∈ lw_all := lw_g (lw_at lw_m2 21 rfl) rfl
theorem q347 : (Jvm.Cond.fieldLink "java/lang/Throwable" (24 : Nat) "java/lang/Throwable" "suppressedExceptions" "Ljava/util/List;") ∈ lw_all := lw_g (lw_at lw_m2 22 rfl) rfl
theorem q350 : (Jvm.Cond.soleField "java/lang/Throwable" "backtrace") ∈ lw_all := lw_g (lw_at lw_m2 25 rfl) rfl
theorem q351 : (Jvm.Cond.soleField "java/lang/Throwable" "detailMessage") ∈ lw_all := lw_g (lw_at lw_m2 26 rfl) rfl
theorem q352 : (Jvm.Cond.soleField "java/lang/Throwable" "cause") ∈ lw_all := lw_g (lw_at lw_m2 27 rfl) rfl
theorem q353 : (Jvm.Cond.soleField "java/lang/Throwable" "stackTrace") ∈ lw_all := lw_g (lw_at lw_m2 28 rfl) rfl
theorem q355 : (Jvm.Cond.soleField "java/lang/Throwable" "depth") ∈ lw_all := lw_g (lw_at lw_m2 30 rfl) rfl
theorem q356 : (Jvm.Cond.soleField "java/lang/Throwable" "suppressedExceptions") ∈ lw_all := lw_g (lw_at lw_m2 31 rfl) rfl
theorem q1482 : (Jvm.Cond.sameMethod "java/lang/Throwable" "java/lang/Throwable" "fillInStackTrace" "(I)Ljava/lang/Throwable;") ∈ lw_all := lw_g (lw_at lw_m6 197 rfl) rfl
theorem in_J0 : ∀ w ∈ wsJ00, w ∈ lw_all := lw_in wsJ00 [302, 304, 306, 308, 310] (by decide +kernel) (by decide +kernel)
/-! java/lang/Exception -/
set_option maxRecDepth 100000
def RJ1 : String := "java/lang/Exception"
abbrev cJ1_init : ByteArray := prog_23_method_1_code
def yJ1_init : MethodName := ⟨RJ1, "<init>", "()V"⟩
theorem dJ1_init_0 : decode cJ1_init 0 = .ok (.aload_n 0, 1) := by decide +kernel
theorem dJ1_init_1 : decode cJ1_init 1 = .ok (.invokespecial 1, 3) := by decide +kernel
theorem dJ1_init_4 : decode cJ1_init 4 = .ok (.return_, 1) := by decide +kernel
theorem q97 : (Jvm.Cond.initialized "java/lang/Exception") ∈ lw_all := lw_g (lw_at lw_m1 12 rfl) rfl
theorem q295 : (Jvm.Cond.declares ({ cls := "java/lang/Exception", name := "<init>", desc := "()V" } : Jvm.MethodName)) ∈ lw_tbl := lw_at lw_m1 210 rfl
theorem q296 : (Jvm.Cond.declares ({ cls := "java/lang/Exception", name := "<init>", desc := "(Ljava/lang/String;)V" } : Jvm.MethodName)) ∈ lw_tbl := lw_at lw_m1 211 rfl
theorem q340 : (Jvm.Cond.instanceMethod ({ cls := "java/lang/Exception", name := "<init>", desc := "()V" } : Jvm.MethodName)) ∈ lw_all := lw_g (lw_at lw_m2 15 rfl) rfl
theorem q341 : (Jvm.Cond.code ({ cls := "java/lang/Exception", name := "<init>", desc := "()V" } : Jvm.MethodName) prog_23_method_1_code (1 : Nat) (Option.none : Option Jvm.ClassFile.FieldType)) ∈ lw_all := lw_g (lw_at lw_m2 16 rfl) rfl
theorem q342 : (Jvm.Cond.methodLink "java/lang/Exception" (1 : Nat) ({ cls := "java/lang/Throwable", name := "<init>", desc := "()V" } : Jvm.MethodName)) ∈ lw_all := lw_g (lw_at lw_m2 17 rfl) rfl
/-! java/lang/RuntimeException -/
set_option maxRecDepth 100000
def RJ2 : String := "java/lang/RuntimeException"
abbrev cJ2_init : ByteArray := prog_25_method_1_code
def yJ2_init : MethodName := ⟨RJ2, "<init>", "()V"⟩
theorem dJ2_init_0 : decode cJ2_init 0 = .ok (.aload_n 0, 1) := by decide +kernel
theorem dJ2_init_1 : decode cJ2_init 1 = .ok (.invokespecial 1, 3) := by decide +kernel
theorem dJ2_init_4 : decode cJ2_init 4 = .ok (.return_, 1) := by decide +kernel
theorem q98 : (Jvm.Cond.initialized "java/lang/RuntimeException") ∈ lw_all := lw_g (lw_at lw_m1 13 rfl) rfl
theorem q293 : (Jvm.Cond.declares ({ cls := "java/lang/RuntimeException", name := "<init>", desc := "()V" } : Jvm.MethodName)) ∈ lw_tbl := lw_at lw_m1 208 rfl
theorem q294 : (Jvm.Cond.declares ({ cls := "java/lang/RuntimeException", name := "<init>", desc := "(Ljava/lang/String;)V" } : Jvm.MethodName)) ∈ lw_tbl := lw_at lw_m1 209 rfl
theorem q337 : (Jvm.Cond.instanceMethod ({ cls := "java/lang/RuntimeException", name := "<init>", desc := "()V" } : Jvm.MethodName)) ∈ lw_all := lw_g (lw_at lw_m2 12 rfl) rfl
theorem q338 : (Jvm.Cond.code ({ cls := "java/lang/RuntimeException", name := "<init>", desc := "()V" } : Jvm.MethodName) prog_25_method_1_code (1 : Nat) (Option.none : Option Jvm.ClassFile.FieldType)) ∈ lw_all := lw_g (lw_at lw_m2 13 rfl) rfl
theorem q339 : (Jvm.Cond.methodLink "java/lang/RuntimeException" (1 : Nat) ({ cls := "java/lang/Exception", name := "<init>", desc := "()V" } : Jvm.MethodName)) ∈ lw_all := lw_g (lw_at lw_m2 14 rfl) rfl
/-! java/lang/Math -/
set_option maxRecDepth 100000
def RJ3 : String := "java/lang/Math"
abbrev cJ3_max : ByteArray := prog_24_method_65_code
def yJ3_max : MethodName := ⟨RJ3, "max", "(II)I"⟩
def dkwJ3_max_0 : List UInt8 := [26, 27, 161, 0, 7, 26, 167, 0, 4, 27, 172]
abbrev dktJ3_max_0 : List UInt8 := dkwJ3_max_0 ++ []
theorem dksJ3_max_0 : cJ3_max.data.toList.drop 0 = dktJ3_max_0 := by decide +kernel
theorem dJ3_max_0 : decode cJ3_max 0 = .ok (.iload_n 0, 1) := dk_26 (dk_at dksJ3_max_0 0 rfl rfl)
theorem dJ3_max_1 : decode cJ3_max 1 = .ok (.iload_n 1, 1) := dk_27 (dk_at dksJ3_max_0 1 rfl rfl)
theorem dJ3_max_2 : decode cJ3_max 2 = .ok (.if_icmp .lt 7, 3) := dk_161 0 7 (dk_at dksJ3_max_0 2 rfl rfl)
theorem dJ3_max_5 : decode cJ3_max 5 = .ok (.iload_n 0, 1) := dk_26 (dk_at dksJ3_max_0 5 rfl rfl)
theorem dJ3_max_6 : decode cJ3_max 6 = .ok (.goto 4, 3) := dk_167 0 4 (dk_at dksJ3_max_0 6 rfl rfl)
theorem dJ3_max_9 : decode cJ3_max 9 = .ok (.iload_n 1, 1) := dk_27 (dk_at dksJ3_max_0 9 rfl rfl)
theorem dJ3_max_10 : decode cJ3_max 10 = .ok (.ireturn, 1) := dk_172 (dk_at dksJ3_max_0 10 rfl rfl)
abbrev cJ3_min : ByteArray := prog_24_method_69_code
def yJ3_min : MethodName := ⟨RJ3, "min", "(II)I"⟩
def dkwJ3_min_0 : List UInt8 := [26, 27, 163, 0, 7, 26, 167, 0, 4, 27, 172]
abbrev dktJ3_min_0 : List UInt8 := dkwJ3_min_0 ++ []
theorem dksJ3_min_0 : cJ3_min.data.toList.drop 0 = dktJ3_min_0 := by decide +kernel
theorem dJ3_min_0 : decode cJ3_min 0 = .ok (.iload_n 0, 1) := dk_26 (dk_at dksJ3_min_0 0 rfl rfl)
theorem dJ3_min_1 : decode cJ3_min 1 = .ok (.iload_n 1, 1) := dk_27 (dk_at dksJ3_min_0 1 rfl rfl)
theorem dJ3_min_2 : decode cJ3_min 2 = .ok (.if_icmp .gt 7, 3) := dk_163 0 7 (dk_at dksJ3_min_0 2 rfl rfl)
theorem dJ3_min_5 : decode cJ3_min 5 = .ok (.iload_n 0, 1) := dk_26 (dk_at dksJ3_min_0 5 rfl rfl)
theorem dJ3_min_6 : decode cJ3_min 6 = .ok (.goto 4, 3) := dk_167 0 4 (dk_at dksJ3_min_0 6 rfl rfl)
theorem dJ3_min_9 : decode cJ3_min 9 = .ok (.iload_n 1, 1) := dk_27 (dk_at dksJ3_min_0 9 rfl rfl)
theorem dJ3_min_10 : decode cJ3_min 10 = .ok (.ireturn, 1) := dk_172 (dk_at dksJ3_min_0 10 rfl rfl)
theorem q111 : (Jvm.Cond.initialized "java/lang/Math") ∈ lw_all := lw_g (lw_at lw_m1 26 rfl) rfl
theorem q659 : (Jvm.Cond.static ({ cls := "java/lang/Math", name := "max", desc := "(II)I" } : Jvm.MethodName)) ∈ lw_all := lw_g (lw_at lw_m3 94 rfl) rfl
theorem q660 : (Jvm.Cond.code ({ cls := "java/lang/Math", name := "max", desc := "(II)I" } : Jvm.MethodName) prog_24_method_65_code (2 : Nat) (Option.some Jvm.ClassFile.FieldType.int)) ∈ lw_all := lw_g (lw_at lw_m3 95 rfl) rfl
theorem q884 : (Jvm.Cond.static ({ cls := "java/lang/Math", name := "min", desc := "(II)I" } : Jvm.MethodName)) ∈ lw_all := lw_g (lw_at lw_m4 79 rfl) rfl
theorem q885 : (Jvm.Cond.code ({ cls := "java/lang/Math", name := "min", desc := "(II)I" } : Jvm.MethodName) prog_24_method_69_code (2 : Nat) (Option.some Jvm.ClassFile.FieldType.int)) ∈ lw_all := lw_g (lw_at lw_m4 80 rfl) rfl
/-! java/lang/Object -/
set_option maxRecDepth 100000
def RJ4 : String := "java/lang/Object"
abbrev cJ4_init : ByteArray := object_method_1_code
def yJ4_init : MethodName := ⟨RJ4, "<init>", "()V"⟩
theorem dJ4_init_0 : decode cJ4_init 0 = .ok (.return_, 1) := by decide +kernel
theorem q118 : (Jvm.Cond.instanceMethod ({ cls := "java/lang/Object", name := "<init>", desc := "()V" } : Jvm.MethodName)) ∈ lw_all := lw_g (lw_at lw_m1 33 rfl) rfl
theorem q119 : (Jvm.Cond.code ({ cls := "java/lang/Object", name := "<init>", desc := "()V" } : Jvm.MethodName) object_method_1_code (1 : Nat) (Option.none : Option Jvm.ClassFile.FieldType)) ∈ lw_all := lw_g (lw_at lw_m1 34 rfl) rfl
theorem q121 : (Jvm.Cond.arrayOver (Jvm.ClassFile.FieldType.object "PulledFromUnder$Kind")) ∈ lw_tbl := lw_at lw_m1 36 rfl
set_option maxRecDepth 100000
theorem q219 : (Jvm.Cond.arrayClass Jvm.ClassFile.FieldType.int) ∈ lw_all := lw_g (lw_at lw_m1 134 rfl) rfl
theorem q263 : (Jvm.Cond.arrayClass Jvm.ClassFile.FieldType.byte) ∈ lw_all := lw_g (lw_at lw_m1 178 rfl) rfl
theorem q264 : (Jvm.Cond.arrayClass Jvm.ClassFile.FieldType.char) ∈ lw_all := lw_g (lw_at lw_m1 179 rfl) rfl
theorem q381 : (Jvm.Cond.arrayOver (Jvm.ClassFile.FieldType.object "PulledFromUnder$Told")) ∈ lw_tbl := lw_at lw_m2 56 rfl
theorem q110 : (Jvm.Cond.initialized "java/lang/System") ∈ lw_all := lw_g (lw_at lw_m1 25 rfl) rfl
set_option maxRecDepth 100000
theorem q528 : (Jvm.Cond.static ({ cls := "java/lang/System", name := "arraycopy", desc := "(Ljava/lang/Object;ILjava/lang/Object;II)V" } : Jvm.MethodName)) ∈ lw_all := lw_g (lw_at lw_m2 203 rfl) rfl
theorem q529 : (Jvm.Cond.native ({ cls := "java/lang/System", name := "arraycopy", desc := "(Ljava/lang/Object;ILjava/lang/Object;II)V" } : Jvm.MethodName)) ∈ lw_all := lw_g (lw_at lw_m2 204 rfl) rfl
theorem q85 : (Jvm.Cond.initialized "PulledFromUnderLaw") ∈ lw_all := lw_g (lw_at lw_m1 0 rfl) rfl
set_option maxRecDepth 100000
theorem q112 : (Jvm.Cond.classLink "PulledFromUnderLaw" (7 : Nat) "PulledFromUnder") ∈ lw_all := lw_g (lw_at lw_m1 27 rfl) rfl
theorem q114 : (Jvm.Cond.methodLink "PulledFromUnderLaw" (9 : Nat) ({ cls := "PulledFromUnder", name := "<init>", desc := "()V" } : Jvm.MethodName)) ∈ lw_all := lw_g (lw_at lw_m1 29 rfl) rfl
theorem q265 : (Jvm.Cond.methodLink "PulledFromUnderLaw" (13 : Nat) ({ cls := "PulledFromUnder", name := "letter", desc := "(I)I" } : Jvm.MethodName)) ∈ lw_all := lw_g (lw_at lw_m1 180 rfl) rfl
theorem q1003 : (Jvm.Cond.methodLink "PulledFromUnderLaw" (18 : Nat) ({ cls := "PulledFromUnder", name := "room", desc := "()I" } : Jvm.MethodName)) ∈ lw_all := lw_g (lw_at lw_m4 198 rfl) rfl
theorem q1007 : (Jvm.Cond.methodLink "PulledFromUnderLaw" (23 : Nat) ({ cls := "PulledFromUnder", name := "thing", desc := "(II)I" } : Jvm.MethodName)) ∈ lw_all := lw_g (lw_at lw_m4 202 rfl) rfl
theorem q1011 : (Jvm.Cond.methodLink "PulledFromUnderLaw" (28 : Nat) ({ cls := "PulledFromUnder", name := "pulls", desc := "(II)I" } : Jvm.MethodName)) ∈ lw_all := lw_g (lw_at lw_m4 206 rfl) rfl
theorem q1015 : (Jvm.Cond.methodLink "PulledFromUnderLaw" (32 : Nat) ({ cls := "PulledFromUnder", name := "floor", desc := "(I)I" } : Jvm.MethodName)) ∈ lw_all := lw_g (lw_at lw_m4 210 rfl) rfl
theorem q1019 : (Jvm.Cond.methodLink "PulledFromUnderLaw" (36 : Nat) ({ cls := "PulledFromUnder", name := "lays", desc := "()I" } : Jvm.MethodName)) ∈ lw_all := lw_g (lw_at lw_m4 214 rfl) rfl
theorem q1023 : (Jvm.Cond.methodLink "PulledFromUnderLaw" (40 : Nat) ({ cls := "PulledFromUnder", name := "setsUp", desc := "(I)I" } : Jvm.MethodName)) ∈ lw_all := lw_g (lw_at lw_m4 218 rfl) rfl
theorem q1027 : (Jvm.Cond.methodLink "PulledFromUnderLaw" (44 : Nat) ({ cls := "PulledFromUnder", name := "turn", desc := "(III)I" } : Jvm.MethodName)) ∈ lw_all := lw_g (lw_at lw_m4 222 rfl) rfl
theorem q1031 : (Jvm.Cond.methodLink "PulledFromUnderLaw" (49 : Nat) ({ cls := "PulledFromUnder", name := "minutes", desc := "(I)I" } : Jvm.MethodName)) ∈ lw_all := lw_g (lw_at lw_m4 226 rfl) rfl
theorem q1035 : (Jvm.Cond.methodLink "PulledFromUnderLaw" (53 : Nat) ({ cls := "PulledFromUnder", name := "behind", desc := "(III)I" } : Jvm.MethodName)) ∈ lw_all := lw_g (lw_at lw_m4 230 rfl) rfl
theorem q1039 : (Jvm.Cond.methodLink "PulledFromUnderLaw" (57 : Nat) ({ cls := "PulledFromUnder", name := "falls", desc := "(I)I" } : Jvm.MethodName)) ∈ lw_all := lw_g (lw_at lw_m4 234 rfl) rfl
theorem q1043 : (Jvm.Cond.methodLink "PulledFromUnderLaw" (61 : Nat) ({ cls := "PulledFromUnder", name := "first", desc := "(I)I" } : Jvm.MethodName)) ∈ lw_all := lw_g (lw_at lw_m4 238 rfl) rfl
theorem q1047 : (Jvm.Cond.methodLink "PulledFromUnderLaw" (65 : Nat) ({ cls := "PulledFromUnder", name := "allStand", desc := "()I" } : Jvm.MethodName)) ∈ lw_all := lw_g (lw_at lw_m5 2 rfl) rfl
theorem q1051 : (Jvm.Cond.methodLink "PulledFromUnderLaw" (69 : Nat) ({ cls := "PulledFromUnder", name := "tower", desc := "(II)I" } : Jvm.MethodName)) ∈ lw_all := lw_g (lw_at lw_m5 6 rfl) rfl
theorem q1055 : (Jvm.Cond.methodLink "PulledFromUnderLaw" (73 : Nat) ({ cls := "PulledFromUnder", name := "leastSpeed", desc := "(I)I" } : Jvm.MethodName)) ∈ lw_all := lw_g (lw_at lw_m5 10 rfl) rfl
theorem q1059 : (Jvm.Cond.methodLink "PulledFromUnderLaw" (77 : Nat) ({ cls := "PulledFromUnder", name := "atOnce", desc := "(II)I" } : Jvm.MethodName)) ∈ lw_all := lw_g (lw_at lw_m5 14 rfl) rfl
theorem q1063 : (Jvm.Cond.methodLink "PulledFromUnderLaw" (81 : Nat) ({ cls := "PulledFromUnder", name := "later", desc := "(III)I" } : Jvm.MethodName)) ∈ lw_all := lw_g (lw_at lw_m5 18 rfl) rfl
theorem q1067 : (Jvm.Cond.methodLink "PulledFromUnderLaw" (85 : Nat) ({ cls := "PulledFromUnder", name := "pullMost", desc := "(III)I" } : Jvm.MethodName)) ∈ lw_all := lw_g (lw_at lw_m5 22 rfl) rfl
theorem q1071 : (Jvm.Cond.methodLink "PulledFromUnderLaw" (89 : Nat) ({ cls := "PulledFromUnder", name := "key", desc := "(I)I" } : Jvm.MethodName)) ∈ lw_all := lw_g (lw_at lw_m5 26 rfl) rfl
theorem q1075 : (Jvm.Cond.methodLink "PulledFromUnderLaw" (93 : Nat) ({ cls := "PulledFromUnder", name := "prop", desc := "(I)I" } : Jvm.MethodName)) ∈ lw_all := lw_g (lw_at lw_m5 30 rfl) rfl
theorem q1079 : (Jvm.Cond.methodLink "PulledFromUnderLaw" (97 : Nat) ({ cls := "PulledFromUnder", name := "order", desc := "(IIIII)I" } : Jvm.MethodName)) ∈ lw_all := lw_g (lw_at lw_m5 34 rfl) rfl
theorem q1083 : (Jvm.Cond.methodLink "PulledFromUnderLaw" (102 : Nat) ({ cls := "PulledFromUnder", name := "floorFalls", desc := "(I)I" } : Jvm.MethodName)) ∈ lw_all := lw_g (lw_at lw_m5 38 rfl) rfl
theorem q1087 : (Jvm.Cond.methodLink "PulledFromUnderLaw" (106 : Nat) ({ cls := "PulledFromUnder", name := "watched", desc := "(I)I" } : Jvm.MethodName)) ∈ lw_all := lw_g (lw_at lw_m5 42 rfl) rfl
theorem q1091 : (Jvm.Cond.methodLink "PulledFromUnderLaw" (110 : Nat) ({ cls := "PulledFromUnder", name := "rebuild", desc := "(I)I" } : Jvm.MethodName)) ∈ lw_all := lw_g (lw_at lw_m5 46 rfl) rfl
theorem q1095 : (Jvm.Cond.methodLink "PulledFromUnderLaw" (114 : Nat) ({ cls := "PulledFromUnder", name := "draught", desc := "(IIII)J" } : Jvm.MethodName)) ∈ lw_all := lw_g (lw_at lw_m5 50 rfl) rfl
theorem q1118 : (Jvm.Cond.methodLink "PulledFromUnderLaw" (119 : Nat) ({ cls := "PulledFromUnder", name := "two", desc := "(III)I" } : Jvm.MethodName)) ∈ lw_all := lw_g (lw_at lw_m5 73 rfl) rfl
theorem q1122 : (Jvm.Cond.methodLink "PulledFromUnderLaw" (123 : Nat) ({ cls := "PulledFromUnder", name := "whatWas", desc := "(II)I" } : Jvm.MethodName)) ∈ lw_all := lw_g (lw_at lw_m5 77 rfl) rfl
theorem q1126 : (Jvm.Cond.methodLink "PulledFromUnderLaw" (127 : Nat) ({ cls := "PulledFromUnder", name := "row", desc := "(I)I" } : Jvm.MethodName)) ∈ lw_all := lw_g (lw_at lw_m5 81 rfl) rfl
theorem q1130 : (Jvm.Cond.methodLink "PulledFromUnderLaw" (131 : Nat) ({ cls := "PulledFromUnder", name := "judge", desc := "()I" } : Jvm.MethodName)) ∈ lw_all := lw_g (lw_at lw_m5 85 rfl) rfl
theorem q1134 : (Jvm.Cond.methodLink "PulledFromUnderLaw" (135 : Nat) ({ cls := "PulledFromUnder", name := "clear", desc := "()I" } : Jvm.MethodName)) ∈ lw_all := lw_g (lw_at lw_m5 89 rfl) rfl
theorem q1138 : (Jvm.Cond.methodLink "PulledFromUnderLaw" (139 : Nat) ({ cls := "PulledFromUnder", name := "lots", desc := "(III)I" } : Jvm.MethodName)) ∈ lw_all := lw_g (lw_at lw_m5 93 rfl) rfl
theorem q1142 : (Jvm.Cond.methodLink "PulledFromUnderLaw" (143 : Nat) ({ cls := "PulledFromUnder", name := "image", desc := "()I" } : Jvm.MethodName)) ∈ lw_all := lw_g (lw_at lw_m5 97 rfl) rfl
theorem q1146 : (Jvm.Cond.methodLink "PulledFromUnderLaw" (147 : Nat) ({ cls := "PulledFromUnder", name := "on", desc := "()I" } : Jvm.MethodName)) ∈ lw_all := lw_g (lw_at lw_m5 101 rfl) rfl
theorem q1150 : (Jvm.Cond.methodLink "PulledFromUnderLaw" (151 : Nat) ({ cls := "PulledFromUnder", name := "count", desc := "(I)I" } : Jvm.MethodName)) ∈ lw_all := lw_g (lw_at lw_m5 105 rfl) rfl
theorem q1156 : (Jvm.Cond.classLink "PulledFromUnderLaw" (10 : Nat) "PulledFromUnderModel") ∈ lw_all := lw_g (lw_at lw_m5 111 rfl) rfl
theorem q1158 : (Jvm.Cond.methodLink "PulledFromUnderLaw" (12 : Nat) ({ cls := "PulledFromUnderModel", name := "<init>", desc := "()V" } : Jvm.MethodName)) ∈ lw_all := lw_g (lw_at lw_m5 113 rfl) rfl
theorem q1202 : (Jvm.Cond.methodLink "PulledFromUnderLaw" (17 : Nat) ({ cls := "PulledFromUnderModel", name := "letter", desc := "(I)I" } : Jvm.MethodName)) ∈ lw_all := lw_g (lw_at lw_m5 157 rfl) rfl
theorem q1210 : (Jvm.Cond.methodLink "PulledFromUnderLaw" (22 : Nat) ({ cls := "PulledFromUnderModel", name := "room", desc := "()I" } : Jvm.MethodName)) ∈ lw_all := lw_g (lw_at lw_m5 165 rfl) rfl
theorem q1290 : (Jvm.Cond.methodLink "PulledFromUnderLaw" (27 : Nat) ({ cls := "PulledFromUnderModel", name := "thing", desc := "(II)I" } : Jvm.MethodName)) ∈ lw_all := lw_g (lw_at lw_m6 5 rfl) rfl
theorem q1294 : (Jvm.Cond.methodLink "PulledFromUnderLaw" (31 : Nat) ({ cls := "PulledFromUnderModel", name := "pulls", desc := "(II)I" } : Jvm.MethodName)) ∈ lw_all := lw_g (lw_at lw_m6 9 rfl) rfl
theorem q1305 : (Jvm.Cond.methodLink "PulledFromUnderLaw" (35 : Nat) ({ cls := "PulledFromUnderModel", name := "floor", desc := "(I)I" } : Jvm.MethodName)) ∈ lw_all := lw_g (lw_at lw_m6 20 rfl) rfl
theorem q1309 : (Jvm.Cond.methodLink "PulledFromUnderLaw" (39 : Nat) ({ cls := "PulledFromUnderModel", name := "lays", desc := "()I" } : Jvm.MethodName)) ∈ lw_all := lw_g (lw_at lw_m6 24 rfl) rfl
theorem q1313 : (Jvm.Cond.methodLink "PulledFromUnderLaw" (43 : Nat) ({ cls := "PulledFromUnderModel", name := "setsUp", desc := "(I)I" } : Jvm.MethodName)) ∈ lw_all := lw_g (lw_at lw_m6 28 rfl) rfl
theorem q1317 : (Jvm.Cond.methodLink "PulledFromUnderLaw" (48 : Nat) ({ cls := "PulledFromUnderModel", name := "turn", desc := "(III)I" } : Jvm.MethodName)) ∈ lw_all := lw_g (lw_at lw_m6 32 rfl) rfl
theorem q1321 : (Jvm.Cond.methodLink "PulledFromUnderLaw" (52 : Nat) ({ cls := "PulledFromUnderModel", name := "minutes", desc := "(I)I" } : Jvm.MethodName)) ∈ lw_all := lw_g (lw_at lw_m6 36 rfl) rfl
theorem q1325 : (Jvm.Cond.methodLink "PulledFromUnderLaw" (56 : Nat) ({ cls := "PulledFromUnderModel", name := "behind", desc := "(III)I" } : Jvm.MethodName)) ∈ lw_all := lw_g (lw_at lw_m6 40 rfl) rfl
theorem q1337 : (Jvm.Cond.methodLink "PulledFromUnderLaw" (60 : Nat) ({ cls := "PulledFromUnderModel", name := "falls", desc := "(I)I" } : Jvm.MethodName)) ∈ lw_all := lw_g (lw_at lw_m6 52 rfl) rfl
theorem q1349 : (Jvm.Cond.methodLink "PulledFromUnderLaw" (64 : Nat) ({ cls := "PulledFromUnderModel", name := "first", desc := "(I)I" } : Jvm.MethodName)) ∈ lw_all := lw_g (lw_at lw_m6 64 rfl) rfl
theorem q1354 : (Jvm.Cond.methodLink "PulledFromUnderLaw" (68 : Nat) ({ cls := "PulledFromUnderModel", name := "allStand", desc := "()I" } : Jvm.MethodName)) ∈ lw_all := lw_g (lw_at lw_m6 69 rfl) rfl
theorem q1358 : (Jvm.Cond.methodLink "PulledFromUnderLaw" (72 : Nat) ({ cls := "PulledFromUnderModel", name := "tower", desc := "(II)I" } : Jvm.MethodName)) ∈ lw_all := lw_g (lw_at lw_m6 73 rfl) rfl
theorem q1366 : (Jvm.Cond.methodLink "PulledFromUnderLaw" (76 : Nat) ({ cls := "PulledFromUnderModel", name := "leastSpeed", desc := "(I)I" } : Jvm.MethodName)) ∈ lw_all := lw_g (lw_at lw_m6 81 rfl) rfl
theorem q1370 : (Jvm.Cond.methodLink "PulledFromUnderLaw" (80 : Nat) ({ cls := "PulledFromUnderModel", name := "atOnce", desc := "(II)I" } : Jvm.MethodName)) ∈ lw_all := lw_g (lw_at lw_m6 85 rfl) rfl
theorem q1374 : (Jvm.Cond.methodLink "PulledFromUnderLaw" (84 : Nat) ({ cls := "PulledFromUnderModel", name := "later", desc := "(III)I" } : Jvm.MethodName)) ∈ lw_all := lw_g (lw_at lw_m6 89 rfl) rfl
theorem q1378 : (Jvm.Cond.methodLink "PulledFromUnderLaw" (88 : Nat) ({ cls := "PulledFromUnderModel", name := "pullMost", desc := "(III)I" } : Jvm.MethodName)) ∈ lw_all := lw_g (lw_at lw_m6 93 rfl) rfl
theorem q1386 : (Jvm.Cond.methodLink "PulledFromUnderLaw" (92 : Nat) ({ cls := "PulledFromUnderModel", name := "key", desc := "(I)I" } : Jvm.MethodName)) ∈ lw_all := lw_g (lw_at lw_m6 101 rfl) rfl
theorem q1390 : (Jvm.Cond.methodLink "PulledFromUnderLaw" (96 : Nat) ({ cls := "PulledFromUnderModel", name := "prop", desc := "(I)I" } : Jvm.MethodName)) ∈ lw_all := lw_g (lw_at lw_m6 105 rfl) rfl
theorem q1394 : (Jvm.Cond.methodLink "PulledFromUnderLaw" (101 : Nat) ({ cls := "PulledFromUnderModel", name := "order", desc := "(IIIII)I" } : Jvm.MethodName)) ∈ lw_all := lw_g (lw_at lw_m6 109 rfl) rfl
theorem q1405 : (Jvm.Cond.methodLink "PulledFromUnderLaw" (105 : Nat) ({ cls := "PulledFromUnderModel", name := "floorFalls", desc := "(I)I" } : Jvm.MethodName)) ∈ lw_all := lw_g (lw_at lw_m6 120 rfl) rfl
theorem q1409 : (Jvm.Cond.methodLink "PulledFromUnderLaw" (109 : Nat) ({ cls := "PulledFromUnderModel", name := "watched", desc := "(I)I" } : Jvm.MethodName)) ∈ lw_all := lw_g (lw_at lw_m6 124 rfl) rfl
theorem q1413 : (Jvm.Cond.methodLink "PulledFromUnderLaw" (113 : Nat) ({ cls := "PulledFromUnderModel", name := "rebuild", desc := "(I)I" } : Jvm.MethodName)) ∈ lw_all := lw_g (lw_at lw_m6 128 rfl) rfl
theorem q1420 : (Jvm.Cond.methodLink "PulledFromUnderLaw" (118 : Nat) ({ cls := "PulledFromUnderModel", name := "draught", desc := "(IIII)J" } : Jvm.MethodName)) ∈ lw_all := lw_g (lw_at lw_m6 135 rfl) rfl
theorem q1435 : (Jvm.Cond.methodLink "PulledFromUnderLaw" (122 : Nat) ({ cls := "PulledFromUnderModel", name := "two", desc := "(III)I" } : Jvm.MethodName)) ∈ lw_all := lw_g (lw_at lw_m6 150 rfl) rfl
theorem q1443 : (Jvm.Cond.methodLink "PulledFromUnderLaw" (126 : Nat) ({ cls := "PulledFromUnderModel", name := "whatWas", desc := "(II)I" } : Jvm.MethodName)) ∈ lw_all := lw_g (lw_at lw_m6 158 rfl) rfl
theorem q1447 : (Jvm.Cond.methodLink "PulledFromUnderLaw" (130 : Nat) ({ cls := "PulledFromUnderModel", name := "row", desc := "(I)I" } : Jvm.MethodName)) ∈ lw_all := lw_g (lw_at lw_m6 162 rfl) rfl
theorem q1451 : (Jvm.Cond.methodLink "PulledFromUnderLaw" (134 : Nat) ({ cls := "PulledFromUnderModel", name := "judge", desc := "()I" } : Jvm.MethodName)) ∈ lw_all := lw_g (lw_at lw_m6 166 rfl) rfl
theorem q1455 : (Jvm.Cond.methodLink "PulledFromUnderLaw" (138 : Nat) ({ cls := "PulledFromUnderModel", name := "clear", desc := "()I" } : Jvm.MethodName)) ∈ lw_all := lw_g (lw_at lw_m6 170 rfl) rfl
theorem q1459 : (Jvm.Cond.methodLink "PulledFromUnderLaw" (142 : Nat) ({ cls := "PulledFromUnderModel", name := "lots", desc := "(III)I" } : Jvm.MethodName)) ∈ lw_all := lw_g (lw_at lw_m6 174 rfl) rfl
theorem q1470 : (Jvm.Cond.methodLink "PulledFromUnderLaw" (146 : Nat) ({ cls := "PulledFromUnderModel", name := "image", desc := "()I" } : Jvm.MethodName)) ∈ lw_all := lw_g (lw_at lw_m6 185 rfl) rfl
theorem q1474 : (Jvm.Cond.methodLink "PulledFromUnderLaw" (150 : Nat) ({ cls := "PulledFromUnderModel", name := "on", desc := "()I" } : Jvm.MethodName)) ∈ lw_all := lw_g (lw_at lw_m6 189 rfl) rfl
theorem q1478 : (Jvm.Cond.methodLink "PulledFromUnderLaw" (154 : Nat) ({ cls := "PulledFromUnderModel", name := "count", desc := "(I)I" } : Jvm.MethodName)) ∈ lw_all := lw_g (lw_at lw_m6 193 rfl) rfl
