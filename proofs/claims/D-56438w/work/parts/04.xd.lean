/-! ShrinkYardModel -/
set_option maxRecDepth 100000
def RX3 : String := "ShrinkYardModel"
def TX3 : u_T := fun k => match k with
  | 0 => ("ShrinkYardModel", "ops", "[I", true)
  | 1 => ("ShrinkYardModel", "registers", "[I", true)
  | 2 => ("ShrinkYardModel", "values", "[I", true)
  | 3 => ("ShrinkYardModel", "targets", "[I", true)
  | 4 => ("ShrinkYardModel", "code", "I", false)
  | 5 => ("ShrinkYardModel", "kinds", "[I", true)
  | 6 => ("ShrinkYardModel", "places", "[I", true)
  | 7 => ("ShrinkYardModel", "digits", "[I", true)
  | 8 => ("ShrinkYardModel", "changes", "I", false)
  | 9 => ("ShrinkYardModel", "alternatives", "[Ljava/lang/String;", true)
  | 10 => ("ShrinkYardModel", "alternativeMany", "[I", true)
  | 11 => ("ShrinkYardModel", "end", "I", false)
  | 12 => ("ShrinkYardModel", "told", "I", false)
  | 13 => ("ShrinkYardModel", "steps", "I", false)
  | 14 => ("ShrinkYardModel", "edges", "[Z", true)
  | 15 => ("ShrinkYardModel", "held", "[I", true)
  | 16 => ("ShrinkYardModel", "runs", "I", false)
  | 17 => ("ShrinkYardModel", "total", "J", false)
  | 18 => ("ShrinkYardModel", "covered", "[Z", true)
  | 19 => ("ShrinkYardModel", "kept", "[Ljava/lang/String;", false)
  | 20 => ("ShrinkYardModel", "keptMany", "I", false)
  | 21 => ("ShrinkYardModel", "first", "I", false)
  | 22 => ("ShrinkYardModel", "next", "I", false)
  | 23 => ("ShrinkYardModel", "found", "[Ljava/lang/String;", false)
  | 24 => ("ShrinkYardModel", "shrunkTo", "[Ljava/lang/String;", false)
  | 25 => ("ShrinkYardModel", "codes", "[I", false)
  | 26 => ("ShrinkYardModel", "foundMany", "I", false)
  | _ => ("ShrinkYardModel", "thrown", "I", false)
def tyX3 : Nat → FieldType := fun k => match k with
  | 0 => .array .int
  | 1 => .array .int
  | 2 => .array .int
  | 3 => .array .int
  | 4 => .int
  | 5 => .array .int
  | 6 => .array .int
  | 7 => .array .int
  | 8 => .int
  | 9 => .array (.object "java/lang/String")
  | 10 => .array .int
  | 11 => .int
  | 12 => .int
  | 13 => .int
  | 14 => .array .boolean
  | 15 => .array .int
  | 16 => .int
  | 17 => .long
  | 18 => .array .boolean
  | 19 => .array (.object "java/lang/String")
  | 20 => .int
  | 21 => .int
  | 22 => .int
  | 23 => .array (.object "java/lang/String")
  | 24 => .array (.object "java/lang/String")
  | 25 => .array .int
  | 26 => .int
  | _ => .int
abbrev wsX30 : List Cond := u_ws RX3 TX3 28
set_option maxRecDepth 100000 in
theorem nmX3 : ∀ a, a < 28 → ∀ b, b < 28 → a ≠ b → (TX3 a).2.1 ≠ (TX3 b).2.1 := by decide +kernel
set_option maxRecDepth 100000 in
theorem tyX3_ok : ∀ k, k < 28 → parseFieldDescriptor (TX3 k).2.2.1 = some (tyX3 k) := by decide +kernel
abbrev cX3_init : ByteArray := prog_16_method_1_code
def yX3_init : MethodName := ⟨RX3, "<init>", "()V"⟩
def dkwX3_init_5 : List UInt8 := [181, 0, 53, 42, 16, 16, 189, 0, 31, 181, 0, 56, 42, 16, 16, 188, 10, 181, 0, 59, 177]
abbrev dktX3_init_5 : List UInt8 := dkwX3_init_5 ++ []
def dkwX3_init_4 : List UInt8 := [17, 1, 16, 188, 4, 181, 0, 47, 42, 16, 16, 189, 0, 31, 181, 0, 50, 42, 16, 16, 189, 0, 31]
abbrev dktX3_init_4 : List UInt8 := dkwX3_init_4 ++ dktX3_init_5
def dkwX3_init_3 : List UInt8 := [188, 10, 181, 0, 37, 42, 17, 1, 16, 188, 4, 181, 0, 40, 42, 7, 188, 10, 181, 0, 44, 42]
abbrev dktX3_init_3 : List UInt8 := dkwX3_init_3 ++ dktX3_init_4
def dkwX3_init_2 : List UInt8 := [188, 10, 181, 0, 25, 42, 16, 8, 188, 10, 181, 0, 28, 42, 16, 12, 189, 0, 31, 181, 0, 33, 42, 7]
abbrev dktX3_init_2 : List UInt8 := dkwX3_init_2 ++ dktX3_init_3
def dkwX3_init_1 : List UInt8 := [188, 10, 181, 0, 16, 42, 16, 16, 188, 10, 181, 0, 19, 42, 16, 8, 188, 10, 181, 0, 22, 42, 16, 8]
abbrev dktX3_init_1 : List UInt8 := dkwX3_init_1 ++ dktX3_init_2
def dkwX3_init_0 : List UInt8 := [42, 183, 0, 1, 42, 16, 16, 188, 10, 181, 0, 9, 42, 16, 16, 188, 10, 181, 0, 13, 42, 16, 16]
abbrev dktX3_init_0 : List UInt8 := dkwX3_init_0 ++ dktX3_init_1
theorem dksX3_init_0 : cX3_init.data.toList.drop 0 = dktX3_init_0 := by decide +kernel
theorem dksX3_init_1 : cX3_init.data.toList.drop 23 = dktX3_init_1 := dk_seg dksX3_init_0 23 rfl rfl
theorem dksX3_init_2 : cX3_init.data.toList.drop 47 = dktX3_init_2 := dk_seg dksX3_init_1 24 rfl rfl
theorem dksX3_init_3 : cX3_init.data.toList.drop 71 = dktX3_init_3 := dk_seg dksX3_init_2 24 rfl rfl
theorem dksX3_init_4 : cX3_init.data.toList.drop 93 = dktX3_init_4 := dk_seg dksX3_init_3 22 rfl rfl
theorem dksX3_init_5 : cX3_init.data.toList.drop 116 = dktX3_init_5 := dk_seg dksX3_init_4 23 rfl rfl
theorem dX3_init_0 : decode cX3_init 0 = .ok (.aload_n 0, 1) := dk_42 (dk_at dksX3_init_0 0 rfl rfl)
theorem dX3_init_1 : decode cX3_init 1 = .ok (.invokespecial 1, 3) := dk_183 0 1 (dk_at dksX3_init_0 1 rfl rfl)
theorem dX3_init_4 : decode cX3_init 4 = .ok (.aload_n 0, 1) := dk_42 (dk_at dksX3_init_0 4 rfl rfl)
theorem dX3_init_5 : decode cX3_init 5 = .ok (.bipush 16, 2) := dk_16 16 (dk_at dksX3_init_0 5 rfl rfl)
theorem dX3_init_7 : decode cX3_init 7 = .ok (.newarray .int, 2) := dk_188_10 (dk_at dksX3_init_0 7 rfl rfl)
theorem dX3_init_9 : decode cX3_init 9 = .ok (.putfield 9, 3) := dk_181 0 9 (dk_at dksX3_init_0 9 rfl rfl)
theorem dX3_init_12 : decode cX3_init 12 = .ok (.aload_n 0, 1) := dk_42 (dk_at dksX3_init_0 12 rfl rfl)
theorem dX3_init_13 : decode cX3_init 13 = .ok (.bipush 16, 2) := dk_16 16 (dk_at dksX3_init_0 13 rfl rfl)
theorem dX3_init_15 : decode cX3_init 15 = .ok (.newarray .int, 2) := dk_188_10 (dk_at dksX3_init_0 15 rfl rfl)
theorem dX3_init_17 : decode cX3_init 17 = .ok (.putfield 13, 3) := dk_181 0 13 (dk_at dksX3_init_0 17 rfl rfl)
theorem dX3_init_20 : decode cX3_init 20 = .ok (.aload_n 0, 1) := dk_42 (dk_at dksX3_init_0 20 rfl rfl)
theorem dX3_init_21 : decode cX3_init 21 = .ok (.bipush 16, 2) := dk_16 16 (dk_at dksX3_init_0 21 rfl rfl)
theorem dX3_init_23 : decode cX3_init 23 = .ok (.newarray .int, 2) := dk_188_10 (dk_at dksX3_init_1 0 rfl rfl)
theorem dX3_init_25 : decode cX3_init 25 = .ok (.putfield 16, 3) := dk_181 0 16 (dk_at dksX3_init_1 2 rfl rfl)
theorem dX3_init_28 : decode cX3_init 28 = .ok (.aload_n 0, 1) := dk_42 (dk_at dksX3_init_1 5 rfl rfl)
theorem dX3_init_29 : decode cX3_init 29 = .ok (.bipush 16, 2) := dk_16 16 (dk_at dksX3_init_1 6 rfl rfl)
theorem dX3_init_31 : decode cX3_init 31 = .ok (.newarray .int, 2) := dk_188_10 (dk_at dksX3_init_1 8 rfl rfl)
theorem dX3_init_33 : decode cX3_init 33 = .ok (.putfield 19, 3) := dk_181 0 19 (dk_at dksX3_init_1 10 rfl rfl)
theorem dX3_init_36 : decode cX3_init 36 = .ok (.aload_n 0, 1) := dk_42 (dk_at dksX3_init_1 13 rfl rfl)
theorem dX3_init_37 : decode cX3_init 37 = .ok (.bipush 8, 2) := dk_16 8 (dk_at dksX3_init_1 14 rfl rfl)
theorem dX3_init_39 : decode cX3_init 39 = .ok (.newarray .int, 2) := dk_188_10 (dk_at dksX3_init_1 16 rfl rfl)
theorem dX3_init_41 : decode cX3_init 41 = .ok (.putfield 22, 3) := dk_181 0 22 (dk_at dksX3_init_1 18 rfl rfl)
theorem dX3_init_44 : decode cX3_init 44 = .ok (.aload_n 0, 1) := dk_42 (dk_at dksX3_init_1 21 rfl rfl)
theorem dX3_init_45 : decode cX3_init 45 = .ok (.bipush 8, 2) := dk_16 8 (dk_at dksX3_init_1 22 rfl rfl)
theorem dX3_init_47 : decode cX3_init 47 = .ok (.newarray .int, 2) := dk_188_10 (dk_at dksX3_init_2 0 rfl rfl)
theorem dX3_init_49 : decode cX3_init 49 = .ok (.putfield 25, 3) := dk_181 0 25 (dk_at dksX3_init_2 2 rfl rfl)
theorem dX3_init_52 : decode cX3_init 52 = .ok (.aload_n 0, 1) := dk_42 (dk_at dksX3_init_2 5 rfl rfl)
theorem dX3_init_53 : decode cX3_init 53 = .ok (.bipush 8, 2) := dk_16 8 (dk_at dksX3_init_2 6 rfl rfl)
theorem dX3_init_55 : decode cX3_init 55 = .ok (.newarray .int, 2) := dk_188_10 (dk_at dksX3_init_2 8 rfl rfl)
theorem dX3_init_57 : decode cX3_init 57 = .ok (.putfield 28, 3) := dk_181 0 28 (dk_at dksX3_init_2 10 rfl rfl)
theorem dX3_init_60 : decode cX3_init 60 = .ok (.aload_n 0, 1) := dk_42 (dk_at dksX3_init_2 13 rfl rfl)
theorem dX3_init_61 : decode cX3_init 61 = .ok (.bipush 12, 2) := dk_16 12 (dk_at dksX3_init_2 14 rfl rfl)
theorem dX3_init_63 : decode cX3_init 63 = .ok (.anewarray 31, 3) := dk_189 0 31 (dk_at dksX3_init_2 16 rfl rfl)
theorem dX3_init_66 : decode cX3_init 66 = .ok (.putfield 33, 3) := dk_181 0 33 (dk_at dksX3_init_2 19 rfl rfl)
theorem dX3_init_69 : decode cX3_init 69 = .ok (.aload_n 0, 1) := dk_42 (dk_at dksX3_init_2 22 rfl rfl)
theorem dX3_init_70 : decode cX3_init 70 = .ok (.iconst 4, 1) := dk_7 (dk_at dksX3_init_2 23 rfl rfl)
theorem dX3_init_71 : decode cX3_init 71 = .ok (.newarray .int, 2) := dk_188_10 (dk_at dksX3_init_3 0 rfl rfl)
theorem dX3_init_73 : decode cX3_init 73 = .ok (.putfield 37, 3) := dk_181 0 37 (dk_at dksX3_init_3 2 rfl rfl)
theorem dX3_init_76 : decode cX3_init 76 = .ok (.aload_n 0, 1) := dk_42 (dk_at dksX3_init_3 5 rfl rfl)
theorem dX3_init_77 : decode cX3_init 77 = .ok (.sipush 272, 3) := dk_17 1 16 (dk_at dksX3_init_3 6 rfl rfl)
theorem dX3_init_80 : decode cX3_init 80 = .ok (.newarray .boolean, 2) := dk_188_4 (dk_at dksX3_init_3 9 rfl rfl)
theorem dX3_init_82 : decode cX3_init 82 = .ok (.putfield 40, 3) := dk_181 0 40 (dk_at dksX3_init_3 11 rfl rfl)
theorem dX3_init_85 : decode cX3_init 85 = .ok (.aload_n 0, 1) := dk_42 (dk_at dksX3_init_3 14 rfl rfl)
theorem dX3_init_86 : decode cX3_init 86 = .ok (.iconst 4, 1) := dk_7 (dk_at dksX3_init_3 15 rfl rfl)
theorem dX3_init_87 : decode cX3_init 87 = .ok (.newarray .int, 2) := dk_188_10 (dk_at dksX3_init_3 16 rfl rfl)
theorem dX3_init_89 : decode cX3_init 89 = .ok (.putfield 44, 3) := dk_181 0 44 (dk_at dksX3_init_3 18 rfl rfl)
theorem dX3_init_92 : decode cX3_init 92 = .ok (.aload_n 0, 1) := dk_42 (dk_at dksX3_init_3 21 rfl rfl)
theorem dX3_init_93 : decode cX3_init 93 = .ok (.sipush 272, 3) := dk_17 1 16 (dk_at dksX3_init_4 0 rfl rfl)
theorem dX3_init_96 : decode cX3_init 96 = .ok (.newarray .boolean, 2) := dk_188_4 (dk_at dksX3_init_4 3 rfl rfl)
theorem dX3_init_98 : decode cX3_init 98 = .ok (.putfield 47, 3) := dk_181 0 47 (dk_at dksX3_init_4 5 rfl rfl)
theorem dX3_init_101 : decode cX3_init 101 = .ok (.aload_n 0, 1) := dk_42 (dk_at dksX3_init_4 8 rfl rfl)
theorem dX3_init_102 : decode cX3_init 102 = .ok (.bipush 16, 2) := dk_16 16 (dk_at dksX3_init_4 9 rfl rfl)
theorem dX3_init_104 : decode cX3_init 104 = .ok (.anewarray 31, 3) := dk_189 0 31 (dk_at dksX3_init_4 11 rfl rfl)
theorem dX3_init_107 : decode cX3_init 107 = .ok (.putfield 50, 3) := dk_181 0 50 (dk_at dksX3_init_4 14 rfl rfl)
theorem dX3_init_110 : decode cX3_init 110 = .ok (.aload_n 0, 1) := dk_42 (dk_at dksX3_init_4 17 rfl rfl)
theorem dX3_init_111 : decode cX3_init 111 = .ok (.bipush 16, 2) := dk_16 16 (dk_at dksX3_init_4 18 rfl rfl)
theorem dX3_init_113 : decode cX3_init 113 = .ok (.anewarray 31, 3) := dk_189 0 31 (dk_at dksX3_init_4 20 rfl rfl)
theorem dX3_init_116 : decode cX3_init 116 = .ok (.putfield 53, 3) := dk_181 0 53 (dk_at dksX3_init_5 0 rfl rfl)
theorem dX3_init_119 : decode cX3_init 119 = .ok (.aload_n 0, 1) := dk_42 (dk_at dksX3_init_5 3 rfl rfl)
theorem dX3_init_120 : decode cX3_init 120 = .ok (.bipush 16, 2) := dk_16 16 (dk_at dksX3_init_5 4 rfl rfl)
theorem dX3_init_122 : decode cX3_init 122 = .ok (.anewarray 31, 3) := dk_189 0 31 (dk_at dksX3_init_5 6 rfl rfl)
theorem dX3_init_125 : decode cX3_init 125 = .ok (.putfield 56, 3) := dk_181 0 56 (dk_at dksX3_init_5 9 rfl rfl)
theorem dX3_init_128 : decode cX3_init 128 = .ok (.aload_n 0, 1) := dk_42 (dk_at dksX3_init_5 12 rfl rfl)
theorem dX3_init_129 : decode cX3_init 129 = .ok (.bipush 16, 2) := dk_16 16 (dk_at dksX3_init_5 13 rfl rfl)
theorem dX3_init_131 : decode cX3_init 131 = .ok (.newarray .int, 2) := dk_188_10 (dk_at dksX3_init_5 15 rfl rfl)
theorem dX3_init_133 : decode cX3_init 133 = .ok (.putfield 59, 3) := dk_181 0 59 (dk_at dksX3_init_5 17 rfl rfl)
theorem dX3_init_136 : decode cX3_init 136 = .ok (.return_, 1) := dk_177 (dk_at dksX3_init_5 20 rfl rfl)
abbrev cX3_thrown : ByteArray := prog_16_method_2_code
def yX3_thrown : MethodName := ⟨RX3, "thrown", "()I"⟩
theorem dX3_thrown_0 : decode cX3_thrown 0 = .ok (.aload_n 0, 1) := by decide +kernel
theorem dX3_thrown_1 : decode cX3_thrown 1 = .ok (.getfield 62, 3) := by decide +kernel
theorem dX3_thrown_4 : decode cX3_thrown 4 = .ok (.ireturn, 1) := by decide +kernel
abbrev cX3_add : ByteArray := prog_16_method_21_code
def yX3_add : MethodName := ⟨RX3, "add", "(LInstruction;)I"⟩
def dkwX3_add_7 : List UInt8 := [182, 0, 224, 79, 42, 89, 180, 0, 102, 4, 96, 181, 0, 102, 42, 180, 0, 102, 172]
abbrev dktX3_add_7 : List UInt8 := dkwX3_add_7 ++ []
def dkwX3_add_6 : List UInt8 := [79, 42, 180, 0, 16, 42, 180, 0, 102, 43, 182, 0, 217, 79, 42, 180, 0, 19, 42, 180, 0, 102, 43]
abbrev dktX3_add_6 : List UInt8 := dkwX3_add_6 ++ dktX3_add_7
def dkwX3_add_5 : List UInt8 := [42, 180, 0, 102, 43, 182, 0, 227, 182, 0, 84, 79, 42, 180, 0, 13, 42, 180, 0, 102, 43, 182, 0, 206]
abbrev dktX3_add_5 : List UInt8 := dkwX3_add_5 ++ dktX3_add_6
def dkwX3_add_4 : List UInt8 := [158, 0, 7, 5, 167, 0, 4, 3, 181, 0, 62, 42, 180, 0, 62, 158, 0, 5, 2, 172, 42, 180, 0, 9]
abbrev dktX3_add_4 : List UInt8 := dkwX3_add_4 ++ dktX3_add_5
def dkwX3_add_3 : List UInt8 := [42, 28, 154, 0, 7, 4, 167, 0, 24, 42, 180, 0, 102, 16, 16, 159, 0, 10, 42, 180, 0, 193]
abbrev dktX3_add_3 : List UInt8 := dkwX3_add_3 ++ dktX3_add_4
def dkwX3_add_2 : List UInt8 := [166, 0, 9, 20, 0, 211, 167, 0, 6, 20, 0, 231, 184, 0, 213, 153, 0, 7, 4, 167, 0, 4, 3, 61]
abbrev dktX3_add_2 : List UInt8 := dkwX3_add_2 ++ dktX3_add_3
def dkwX3_add_1 : List UInt8 := [20, 0, 222, 184, 0, 213, 153, 0, 38, 43, 182, 0, 224, 133, 9, 43, 182, 0, 227, 178, 0, 114]
abbrev dktX3_add_1 : List UInt8 := dkwX3_add_1 ++ dktX3_add_2
def dkwX3_add_0 : List UInt8 := [43, 182, 0, 206, 133, 9, 20, 0, 211, 184, 0, 213, 153, 0, 55, 43, 182, 0, 217, 133, 20, 0, 220]
abbrev dktX3_add_0 : List UInt8 := dkwX3_add_0 ++ dktX3_add_1
theorem dksX3_add_0 : cX3_add.data.toList.drop 0 = dktX3_add_0 := by decide +kernel
theorem dksX3_add_1 : cX3_add.data.toList.drop 23 = dktX3_add_1 := dk_seg dksX3_add_0 23 rfl rfl
theorem dksX3_add_2 : cX3_add.data.toList.drop 45 = dktX3_add_2 := dk_seg dksX3_add_1 22 rfl rfl
theorem dksX3_add_3 : cX3_add.data.toList.drop 69 = dktX3_add_3 := dk_seg dksX3_add_2 24 rfl rfl
theorem dksX3_add_4 : cX3_add.data.toList.drop 91 = dktX3_add_4 := dk_seg dksX3_add_3 22 rfl rfl
theorem dksX3_add_5 : cX3_add.data.toList.drop 115 = dktX3_add_5 := dk_seg dksX3_add_4 24 rfl rfl
theorem dksX3_add_6 : cX3_add.data.toList.drop 139 = dktX3_add_6 := dk_seg dksX3_add_5 24 rfl rfl
theorem dksX3_add_7 : cX3_add.data.toList.drop 162 = dktX3_add_7 := dk_seg dksX3_add_6 23 rfl rfl
theorem dX3_add_0 : decode cX3_add 0 = .ok (.aload_n 1, 1) := dk_43 (dk_at dksX3_add_0 0 rfl rfl)
theorem dX3_add_1 : decode cX3_add 1 = .ok (.invokevirtual 206, 3) := dk_182 0 206 (dk_at dksX3_add_0 1 rfl rfl)
theorem dX3_add_4 : decode cX3_add 4 = .ok (.i2l, 1) := dk_133 (dk_at dksX3_add_0 4 rfl rfl)
theorem dX3_add_5 : decode cX3_add 5 = .ok (.lconst 0, 1) := dk_9 (dk_at dksX3_add_0 5 rfl rfl)
theorem dX3_add_6 : decode cX3_add 6 = .ok (.ldc2_w 211, 3) := dk_20 0 211 (dk_at dksX3_add_0 6 rfl rfl)
theorem dX3_add_9 : decode cX3_add 9 = .ok (.invokestatic 213, 3) := dk_184 0 213 (dk_at dksX3_add_0 9 rfl rfl)
theorem dX3_add_12 : decode cX3_add 12 = .ok (.ifCond .eq 55, 3) := dk_153 0 55 (dk_at dksX3_add_0 12 rfl rfl)
theorem dX3_add_15 : decode cX3_add 15 = .ok (.aload_n 1, 1) := dk_43 (dk_at dksX3_add_0 15 rfl rfl)
theorem dX3_add_16 : decode cX3_add 16 = .ok (.invokevirtual 217, 3) := dk_182 0 217 (dk_at dksX3_add_0 16 rfl rfl)
theorem dX3_add_19 : decode cX3_add 19 = .ok (.i2l, 1) := dk_133 (dk_at dksX3_add_0 19 rfl rfl)
theorem dX3_add_20 : decode cX3_add 20 = .ok (.ldc2_w 220, 3) := dk_20 0 220 (dk_at dksX3_add_0 20 rfl rfl)
theorem dX3_add_23 : decode cX3_add 23 = .ok (.ldc2_w 222, 3) := dk_20 0 222 (dk_at dksX3_add_1 0 rfl rfl)
theorem dX3_add_26 : decode cX3_add 26 = .ok (.invokestatic 213, 3) := dk_184 0 213 (dk_at dksX3_add_1 3 rfl rfl)
theorem dX3_add_29 : decode cX3_add 29 = .ok (.ifCond .eq 38, 3) := dk_153 0 38 (dk_at dksX3_add_1 6 rfl rfl)
theorem dX3_add_32 : decode cX3_add 32 = .ok (.aload_n 1, 1) := dk_43 (dk_at dksX3_add_1 9 rfl rfl)
theorem dX3_add_33 : decode cX3_add 33 = .ok (.invokevirtual 224, 3) := dk_182 0 224 (dk_at dksX3_add_1 10 rfl rfl)
theorem dX3_add_36 : decode cX3_add 36 = .ok (.i2l, 1) := dk_133 (dk_at dksX3_add_1 13 rfl rfl)
theorem dX3_add_37 : decode cX3_add 37 = .ok (.lconst 0, 1) := dk_9 (dk_at dksX3_add_1 14 rfl rfl)
theorem dX3_add_38 : decode cX3_add 38 = .ok (.aload_n 1, 1) := dk_43 (dk_at dksX3_add_1 15 rfl rfl)
theorem dX3_add_39 : decode cX3_add 39 = .ok (.invokevirtual 227, 3) := dk_182 0 227 (dk_at dksX3_add_1 16 rfl rfl)
theorem dX3_add_42 : decode cX3_add 42 = .ok (.getstatic 114, 3) := dk_178 0 114 (dk_at dksX3_add_1 19 rfl rfl)
theorem dX3_add_45 : decode cX3_add 45 = .ok (.if_acmp .ne 9, 3) := dk_166 0 9 (dk_at dksX3_add_2 0 rfl rfl)
theorem dX3_add_48 : decode cX3_add 48 = .ok (.ldc2_w 211, 3) := dk_20 0 211 (dk_at dksX3_add_2 3 rfl rfl)
theorem dX3_add_51 : decode cX3_add 51 = .ok (.goto 6, 3) := dk_167 0 6 (dk_at dksX3_add_2 6 rfl rfl)
theorem dX3_add_54 : decode cX3_add 54 = .ok (.ldc2_w 231, 3) := dk_20 0 231 (dk_at dksX3_add_2 9 rfl rfl)
theorem dX3_add_57 : decode cX3_add 57 = .ok (.invokestatic 213, 3) := dk_184 0 213 (dk_at dksX3_add_2 12 rfl rfl)
theorem dX3_add_60 : decode cX3_add 60 = .ok (.ifCond .eq 7, 3) := dk_153 0 7 (dk_at dksX3_add_2 15 rfl rfl)
theorem dX3_add_63 : decode cX3_add 63 = .ok (.iconst 1, 1) := dk_4 (dk_at dksX3_add_2 18 rfl rfl)
theorem dX3_add_64 : decode cX3_add 64 = .ok (.goto 4, 3) := dk_167 0 4 (dk_at dksX3_add_2 19 rfl rfl)
theorem dX3_add_67 : decode cX3_add 67 = .ok (.iconst 0, 1) := dk_3 (dk_at dksX3_add_2 22 rfl rfl)
theorem dX3_add_68 : decode cX3_add 68 = .ok (.istore_n 2, 1) := dk_61 (dk_at dksX3_add_2 23 rfl rfl)
theorem dX3_add_69 : decode cX3_add 69 = .ok (.aload_n 0, 1) := dk_42 (dk_at dksX3_add_3 0 rfl rfl)
theorem dX3_add_70 : decode cX3_add 70 = .ok (.iload_n 2, 1) := dk_28 (dk_at dksX3_add_3 1 rfl rfl)
theorem dX3_add_71 : decode cX3_add 71 = .ok (.ifCond .ne 7, 3) := dk_154 0 7 (dk_at dksX3_add_3 2 rfl rfl)
theorem dX3_add_74 : decode cX3_add 74 = .ok (.iconst 1, 1) := dk_4 (dk_at dksX3_add_3 5 rfl rfl)
theorem dX3_add_75 : decode cX3_add 75 = .ok (.goto 24, 3) := dk_167 0 24 (dk_at dksX3_add_3 6 rfl rfl)
theorem dX3_add_78 : decode cX3_add 78 = .ok (.aload_n 0, 1) := dk_42 (dk_at dksX3_add_3 9 rfl rfl)
theorem dX3_add_79 : decode cX3_add 79 = .ok (.getfield 102, 3) := dk_180 0 102 (dk_at dksX3_add_3 10 rfl rfl)
theorem dX3_add_82 : decode cX3_add 82 = .ok (.bipush 16, 2) := dk_16 16 (dk_at dksX3_add_3 13 rfl rfl)
theorem dX3_add_84 : decode cX3_add 84 = .ok (.if_icmp .eq 10, 3) := dk_159 0 10 (dk_at dksX3_add_3 15 rfl rfl)
theorem dX3_add_87 : decode cX3_add 87 = .ok (.aload_n 0, 1) := dk_42 (dk_at dksX3_add_3 18 rfl rfl)
theorem dX3_add_88 : decode cX3_add 88 = .ok (.getfield 193, 3) := dk_180 0 193 (dk_at dksX3_add_3 19 rfl rfl)
theorem dX3_add_91 : decode cX3_add 91 = .ok (.ifCond .le 7, 3) := dk_158 0 7 (dk_at dksX3_add_4 0 rfl rfl)
theorem dX3_add_94 : decode cX3_add 94 = .ok (.iconst 2, 1) := dk_5 (dk_at dksX3_add_4 3 rfl rfl)
theorem dX3_add_95 : decode cX3_add 95 = .ok (.goto 4, 3) := dk_167 0 4 (dk_at dksX3_add_4 4 rfl rfl)
theorem dX3_add_98 : decode cX3_add 98 = .ok (.iconst 0, 1) := dk_3 (dk_at dksX3_add_4 7 rfl rfl)
theorem dX3_add_99 : decode cX3_add 99 = .ok (.putfield 62, 3) := dk_181 0 62 (dk_at dksX3_add_4 8 rfl rfl)
theorem dX3_add_102 : decode cX3_add 102 = .ok (.aload_n 0, 1) := dk_42 (dk_at dksX3_add_4 11 rfl rfl)
theorem dX3_add_103 : decode cX3_add 103 = .ok (.getfield 62, 3) := dk_180 0 62 (dk_at dksX3_add_4 12 rfl rfl)
theorem dX3_add_106 : decode cX3_add 106 = .ok (.ifCond .le 5, 3) := dk_158 0 5 (dk_at dksX3_add_4 15 rfl rfl)
theorem dX3_add_109 : decode cX3_add 109 = .ok (.iconst (-1), 1) := dk_2 (dk_at dksX3_add_4 18 rfl rfl)
theorem dX3_add_110 : decode cX3_add 110 = .ok (.ireturn, 1) := dk_172 (dk_at dksX3_add_4 19 rfl rfl)
theorem dX3_add_111 : decode cX3_add 111 = .ok (.aload_n 0, 1) := dk_42 (dk_at dksX3_add_4 20 rfl rfl)
theorem dX3_add_112 : decode cX3_add 112 = .ok (.getfield 9, 3) := dk_180 0 9 (dk_at dksX3_add_4 21 rfl rfl)
theorem dX3_add_115 : decode cX3_add 115 = .ok (.aload_n 0, 1) := dk_42 (dk_at dksX3_add_5 0 rfl rfl)
theorem dX3_add_116 : decode cX3_add 116 = .ok (.getfield 102, 3) := dk_180 0 102 (dk_at dksX3_add_5 1 rfl rfl)
theorem dX3_add_119 : decode cX3_add 119 = .ok (.aload_n 1, 1) := dk_43 (dk_at dksX3_add_5 4 rfl rfl)
theorem dX3_add_120 : decode cX3_add 120 = .ok (.invokevirtual 227, 3) := dk_182 0 227 (dk_at dksX3_add_5 5 rfl rfl)
theorem dX3_add_123 : decode cX3_add 123 = .ok (.invokevirtual 84, 3) := dk_182 0 84 (dk_at dksX3_add_5 8 rfl rfl)
theorem dX3_add_126 : decode cX3_add 126 = .ok (.iastore, 1) := dk_79 (dk_at dksX3_add_5 11 rfl rfl)
theorem dX3_add_127 : decode cX3_add 127 = .ok (.aload_n 0, 1) := dk_42 (dk_at dksX3_add_5 12 rfl rfl)
theorem dX3_add_128 : decode cX3_add 128 = .ok (.getfield 13, 3) := dk_180 0 13 (dk_at dksX3_add_5 13 rfl rfl)
theorem dX3_add_131 : decode cX3_add 131 = .ok (.aload_n 0, 1) := dk_42 (dk_at dksX3_add_5 16 rfl rfl)
theorem dX3_add_132 : decode cX3_add 132 = .ok (.getfield 102, 3) := dk_180 0 102 (dk_at dksX3_add_5 17 rfl rfl)
theorem dX3_add_135 : decode cX3_add 135 = .ok (.aload_n 1, 1) := dk_43 (dk_at dksX3_add_5 20 rfl rfl)
theorem dX3_add_136 : decode cX3_add 136 = .ok (.invokevirtual 206, 3) := dk_182 0 206 (dk_at dksX3_add_5 21 rfl rfl)
theorem dX3_add_139 : decode cX3_add 139 = .ok (.iastore, 1) := dk_79 (dk_at dksX3_add_6 0 rfl rfl)
theorem dX3_add_140 : decode cX3_add 140 = .ok (.aload_n 0, 1) := dk_42 (dk_at dksX3_add_6 1 rfl rfl)
theorem dX3_add_141 : decode cX3_add 141 = .ok (.getfield 16, 3) := dk_180 0 16 (dk_at dksX3_add_6 2 rfl rfl)
theorem dX3_add_144 : decode cX3_add 144 = .ok (.aload_n 0, 1) := dk_42 (dk_at dksX3_add_6 5 rfl rfl)
theorem dX3_add_145 : decode cX3_add 145 = .ok (.getfield 102, 3) := dk_180 0 102 (dk_at dksX3_add_6 6 rfl rfl)
theorem dX3_add_148 : decode cX3_add 148 = .ok (.aload_n 1, 1) := dk_43 (dk_at dksX3_add_6 9 rfl rfl)
theorem dX3_add_149 : decode cX3_add 149 = .ok (.invokevirtual 217, 3) := dk_182 0 217 (dk_at dksX3_add_6 10 rfl rfl)
theorem dX3_add_152 : decode cX3_add 152 = .ok (.iastore, 1) := dk_79 (dk_at dksX3_add_6 13 rfl rfl)
theorem dX3_add_153 : decode cX3_add 153 = .ok (.aload_n 0, 1) := dk_42 (dk_at dksX3_add_6 14 rfl rfl)
theorem dX3_add_154 : decode cX3_add 154 = .ok (.getfield 19, 3) := dk_180 0 19 (dk_at dksX3_add_6 15 rfl rfl)
theorem dX3_add_157 : decode cX3_add 157 = .ok (.aload_n 0, 1) := dk_42 (dk_at dksX3_add_6 18 rfl rfl)
theorem dX3_add_158 : decode cX3_add 158 = .ok (.getfield 102, 3) := dk_180 0 102 (dk_at dksX3_add_6 19 rfl rfl)
theorem dX3_add_161 : decode cX3_add 161 = .ok (.aload_n 1, 1) := dk_43 (dk_at dksX3_add_6 22 rfl rfl)
theorem dX3_add_162 : decode cX3_add 162 = .ok (.invokevirtual 224, 3) := dk_182 0 224 (dk_at dksX3_add_7 0 rfl rfl)
theorem dX3_add_165 : decode cX3_add 165 = .ok (.iastore, 1) := dk_79 (dk_at dksX3_add_7 3 rfl rfl)
theorem dX3_add_166 : decode cX3_add 166 = .ok (.aload_n 0, 1) := dk_42 (dk_at dksX3_add_7 4 rfl rfl)
theorem dX3_add_167 : decode cX3_add 167 = .ok (.dup, 1) := dk_89 (dk_at dksX3_add_7 5 rfl rfl)
theorem dX3_add_168 : decode cX3_add 168 = .ok (.getfield 102, 3) := dk_180 0 102 (dk_at dksX3_add_7 6 rfl rfl)
theorem dX3_add_171 : decode cX3_add 171 = .ok (.iconst 1, 1) := dk_4 (dk_at dksX3_add_7 9 rfl rfl)
theorem dX3_add_172 : decode cX3_add 172 = .ok (.iadd, 1) := dk_96 (dk_at dksX3_add_7 10 rfl rfl)
theorem dX3_add_173 : decode cX3_add 173 = .ok (.putfield 102, 3) := dk_181 0 102 (dk_at dksX3_add_7 11 rfl rfl)
theorem dX3_add_176 : decode cX3_add 176 = .ok (.aload_n 0, 1) := dk_42 (dk_at dksX3_add_7 14 rfl rfl)
theorem dX3_add_177 : decode cX3_add 177 = .ok (.getfield 102, 3) := dk_180 0 102 (dk_at dksX3_add_7 15 rfl rfl)
theorem dX3_add_180 : decode cX3_add 180 = .ok (.ireturn, 1) := dk_172 (dk_at dksX3_add_7 18 rfl rfl)
abbrev cX3_in : ByteArray := prog_16_method_3_code
def yX3_in : MethodName := ⟨RX3, "in", "(JJJ)Z"⟩
def dkwX3_in_0 : List UInt8 := [30, 32, 148, 155, 0, 14, 30, 22, 4, 148, 157, 0, 7, 4, 167, 0, 4, 3, 172]
abbrev dktX3_in_0 : List UInt8 := dkwX3_in_0 ++ []
theorem dksX3_in_0 : cX3_in.data.toList.drop 0 = dktX3_in_0 := by decide +kernel
theorem dX3_in_0 : decode cX3_in 0 = .ok (.lload_n 0, 1) := dk_30 (dk_at dksX3_in_0 0 rfl rfl)
theorem dX3_in_1 : decode cX3_in 1 = .ok (.lload_n 2, 1) := dk_32 (dk_at dksX3_in_0 1 rfl rfl)
theorem dX3_in_2 : decode cX3_in 2 = .ok (.lcmp, 1) := dk_148 (dk_at dksX3_in_0 2 rfl rfl)
theorem dX3_in_3 : decode cX3_in 3 = .ok (.ifCond .lt 14, 3) := dk_155 0 14 (dk_at dksX3_in_0 3 rfl rfl)
theorem dX3_in_6 : decode cX3_in 6 = .ok (.lload_n 0, 1) := dk_30 (dk_at dksX3_in_0 6 rfl rfl)
theorem dX3_in_7 : decode cX3_in 7 = .ok (.lload 4, 2) := dk_22 4 (dk_at dksX3_in_0 7 rfl rfl)
theorem dX3_in_9 : decode cX3_in 9 = .ok (.lcmp, 1) := dk_148 (dk_at dksX3_in_0 9 rfl rfl)
theorem dX3_in_10 : decode cX3_in 10 = .ok (.ifCond .gt 7, 3) := dk_157 0 7 (dk_at dksX3_in_0 10 rfl rfl)
theorem dX3_in_13 : decode cX3_in 13 = .ok (.iconst 1, 1) := dk_4 (dk_at dksX3_in_0 13 rfl rfl)
theorem dX3_in_14 : decode cX3_in 14 = .ok (.goto 4, 3) := dk_167 0 4 (dk_at dksX3_in_0 14 rfl rfl)
theorem dX3_in_17 : decode cX3_in 17 = .ok (.iconst 0, 1) := dk_3 (dk_at dksX3_in_0 17 rfl rfl)
theorem dX3_in_18 : decode cX3_in 18 = .ok (.ireturn, 1) := dk_172 (dk_at dksX3_in_0 18 rfl rfl)
abbrev cX3_addChange : ByteArray := prog_16_method_22_code
def yX3_addChange : MethodName := ⟨RX3, "addChange", "(LChange;II)I"⟩
def dkwX3_addChange_4 : List UInt8 := [4, 96, 181, 0, 235, 42, 180, 0, 235, 172]
abbrev dktX3_addChange_4 : List UInt8 := dkwX3_addChange_4 ++ []
def dkwX3_addChange_3 : List UInt8 := [180, 0, 25, 42, 180, 0, 235, 28, 79, 42, 180, 0, 28, 42, 180, 0, 235, 29, 79, 42, 89, 180, 0, 235]
abbrev dktX3_addChange_3 : List UInt8 := dkwX3_addChange_3 ++ dktX3_addChange_4
def dkwX3_addChange_2 : List UInt8 := [42, 180, 0, 62, 158, 0, 5, 2, 172, 42, 180, 0, 22, 42, 180, 0, 235, 43, 182, 0, 150, 79, 42]
abbrev dktX3_addChange_2 : List UInt8 := dkwX3_addChange_2 ++ dktX3_addChange_3
def dkwX3_addChange_1 : List UInt8 := [154, 0, 7, 4, 167, 0, 17, 42, 180, 0, 235, 16, 8, 160, 0, 7, 5, 167, 0, 4, 3, 181, 0, 62]
abbrev dktX3_addChange_1 : List UInt8 := dkwX3_addChange_1 ++ dktX3_addChange_2
def dkwX3_addChange_0 : List UInt8 := [42, 28, 133, 9, 20, 0, 233, 184, 0, 213, 153, 0, 15, 29, 133, 9, 20, 0, 233, 184, 0, 213]
abbrev dktX3_addChange_0 : List UInt8 := dkwX3_addChange_0 ++ dktX3_addChange_1
theorem dksX3_addChange_0 : cX3_addChange.data.toList.drop 0 = dktX3_addChange_0 := by decide +kernel
theorem dksX3_addChange_1 : cX3_addChange.data.toList.drop 22 = dktX3_addChange_1 := dk_seg dksX3_addChange_0 22 rfl rfl
theorem dksX3_addChange_2 : cX3_addChange.data.toList.drop 46 = dktX3_addChange_2 := dk_seg dksX3_addChange_1 24 rfl rfl
theorem dksX3_addChange_3 : cX3_addChange.data.toList.drop 69 = dktX3_addChange_3 := dk_seg dksX3_addChange_2 23 rfl rfl
theorem dksX3_addChange_4 : cX3_addChange.data.toList.drop 93 = dktX3_addChange_4 := dk_seg dksX3_addChange_3 24 rfl rfl
theorem dX3_addChange_0 : decode cX3_addChange 0 = .ok (.aload_n 0, 1) := dk_42 (dk_at dksX3_addChange_0 0 rfl rfl)
theorem dX3_addChange_1 : decode cX3_addChange 1 = .ok (.iload_n 2, 1) := dk_28 (dk_at dksX3_addChange_0 1 rfl rfl)
theorem dX3_addChange_2 : decode cX3_addChange 2 = .ok (.i2l, 1) := dk_133 (dk_at dksX3_addChange_0 2 rfl rfl)
theorem dX3_addChange_3 : decode cX3_addChange 3 = .ok (.lconst 0, 1) := dk_9 (dk_at dksX3_addChange_0 3 rfl rfl)
theorem dX3_addChange_4 : decode cX3_addChange 4 = .ok (.ldc2_w 233, 3) := dk_20 0 233 (dk_at dksX3_addChange_0 4 rfl rfl)
theorem dX3_addChange_7 : decode cX3_addChange 7 = .ok (.invokestatic 213, 3) := dk_184 0 213 (dk_at dksX3_addChange_0 7 rfl rfl)
theorem dX3_addChange_10 : decode cX3_addChange 10 = .ok (.ifCond .eq 15, 3) := dk_153 0 15 (dk_at dksX3_addChange_0 10 rfl rfl)
theorem dX3_addChange_13 : decode cX3_addChange 13 = .ok (.iload_n 3, 1) := dk_29 (dk_at dksX3_addChange_0 13 rfl rfl)
theorem dX3_addChange_14 : decode cX3_addChange 14 = .ok (.i2l, 1) := dk_133 (dk_at dksX3_addChange_0 14 rfl rfl)
theorem dX3_addChange_15 : decode cX3_addChange 15 = .ok (.lconst 0, 1) := dk_9 (dk_at dksX3_addChange_0 15 rfl rfl)
theorem dX3_addChange_16 : decode cX3_addChange 16 = .ok (.ldc2_w 233, 3) := dk_20 0 233 (dk_at dksX3_addChange_0 16 rfl rfl)
theorem dX3_addChange_19 : decode cX3_addChange 19 = .ok (.invokestatic 213, 3) := dk_184 0 213 (dk_at dksX3_addChange_0 19 rfl rfl)
theorem dX3_addChange_22 : decode cX3_addChange 22 = .ok (.ifCond .ne 7, 3) := dk_154 0 7 (dk_at dksX3_addChange_1 0 rfl rfl)
theorem dX3_addChange_25 : decode cX3_addChange 25 = .ok (.iconst 1, 1) := dk_4 (dk_at dksX3_addChange_1 3 rfl rfl)
theorem dX3_addChange_26 : decode cX3_addChange 26 = .ok (.goto 17, 3) := dk_167 0 17 (dk_at dksX3_addChange_1 4 rfl rfl)
theorem dX3_addChange_29 : decode cX3_addChange 29 = .ok (.aload_n 0, 1) := dk_42 (dk_at dksX3_addChange_1 7 rfl rfl)
theorem dX3_addChange_30 : decode cX3_addChange 30 = .ok (.getfield 235, 3) := dk_180 0 235 (dk_at dksX3_addChange_1 8 rfl rfl)
theorem dX3_addChange_33 : decode cX3_addChange 33 = .ok (.bipush 8, 2) := dk_16 8 (dk_at dksX3_addChange_1 11 rfl rfl)
theorem dX3_addChange_35 : decode cX3_addChange 35 = .ok (.if_icmp .ne 7, 3) := dk_160 0 7 (dk_at dksX3_addChange_1 13 rfl rfl)
theorem dX3_addChange_38 : decode cX3_addChange 38 = .ok (.iconst 2, 1) := dk_5 (dk_at dksX3_addChange_1 16 rfl rfl)
theorem dX3_addChange_39 : decode cX3_addChange 39 = .ok (.goto 4, 3) := dk_167 0 4 (dk_at dksX3_addChange_1 17 rfl rfl)
theorem dX3_addChange_42 : decode cX3_addChange 42 = .ok (.iconst 0, 1) := dk_3 (dk_at dksX3_addChange_1 20 rfl rfl)
theorem dX3_addChange_43 : decode cX3_addChange 43 = .ok (.putfield 62, 3) := dk_181 0 62 (dk_at dksX3_addChange_1 21 rfl rfl)
theorem dX3_addChange_46 : decode cX3_addChange 46 = .ok (.aload_n 0, 1) := dk_42 (dk_at dksX3_addChange_2 0 rfl rfl)
theorem dX3_addChange_47 : decode cX3_addChange 47 = .ok (.getfield 62, 3) := dk_180 0 62 (dk_at dksX3_addChange_2 1 rfl rfl)
theorem dX3_addChange_50 : decode cX3_addChange 50 = .ok (.ifCond .le 5, 3) := dk_158 0 5 (dk_at dksX3_addChange_2 4 rfl rfl)
theorem dX3_addChange_53 : decode cX3_addChange 53 = .ok (.iconst (-1), 1) := dk_2 (dk_at dksX3_addChange_2 7 rfl rfl)
theorem dX3_addChange_54 : decode cX3_addChange 54 = .ok (.ireturn, 1) := dk_172 (dk_at dksX3_addChange_2 8 rfl rfl)
theorem dX3_addChange_55 : decode cX3_addChange 55 = .ok (.aload_n 0, 1) := dk_42 (dk_at dksX3_addChange_2 9 rfl rfl)
theorem dX3_addChange_56 : decode cX3_addChange 56 = .ok (.getfield 22, 3) := dk_180 0 22 (dk_at dksX3_addChange_2 10 rfl rfl)
theorem dX3_addChange_59 : decode cX3_addChange 59 = .ok (.aload_n 0, 1) := dk_42 (dk_at dksX3_addChange_2 13 rfl rfl)
theorem dX3_addChange_60 : decode cX3_addChange 60 = .ok (.getfield 235, 3) := dk_180 0 235 (dk_at dksX3_addChange_2 14 rfl rfl)
theorem dX3_addChange_63 : decode cX3_addChange 63 = .ok (.aload_n 1, 1) := dk_43 (dk_at dksX3_addChange_2 17 rfl rfl)
theorem dX3_addChange_64 : decode cX3_addChange 64 = .ok (.invokevirtual 150, 3) := dk_182 0 150 (dk_at dksX3_addChange_2 18 rfl rfl)
theorem dX3_addChange_67 : decode cX3_addChange 67 = .ok (.iastore, 1) := dk_79 (dk_at dksX3_addChange_2 21 rfl rfl)
theorem dX3_addChange_68 : decode cX3_addChange 68 = .ok (.aload_n 0, 1) := dk_42 (dk_at dksX3_addChange_2 22 rfl rfl)
theorem dX3_addChange_69 : decode cX3_addChange 69 = .ok (.getfield 25, 3) := dk_180 0 25 (dk_at dksX3_addChange_3 0 rfl rfl)
theorem dX3_addChange_72 : decode cX3_addChange 72 = .ok (.aload_n 0, 1) := dk_42 (dk_at dksX3_addChange_3 3 rfl rfl)
theorem dX3_addChange_73 : decode cX3_addChange 73 = .ok (.getfield 235, 3) := dk_180 0 235 (dk_at dksX3_addChange_3 4 rfl rfl)
theorem dX3_addChange_76 : decode cX3_addChange 76 = .ok (.iload_n 2, 1) := dk_28 (dk_at dksX3_addChange_3 7 rfl rfl)
theorem dX3_addChange_77 : decode cX3_addChange 77 = .ok (.iastore, 1) := dk_79 (dk_at dksX3_addChange_3 8 rfl rfl)
theorem dX3_addChange_78 : decode cX3_addChange 78 = .ok (.aload_n 0, 1) := dk_42 (dk_at dksX3_addChange_3 9 rfl rfl)
theorem dX3_addChange_79 : decode cX3_addChange 79 = .ok (.getfield 28, 3) := dk_180 0 28 (dk_at dksX3_addChange_3 10 rfl rfl)
theorem dX3_addChange_82 : decode cX3_addChange 82 = .ok (.aload_n 0, 1) := dk_42 (dk_at dksX3_addChange_3 13 rfl rfl)
theorem dX3_addChange_83 : decode cX3_addChange 83 = .ok (.getfield 235, 3) := dk_180 0 235 (dk_at dksX3_addChange_3 14 rfl rfl)
theorem dX3_addChange_86 : decode cX3_addChange 86 = .ok (.iload_n 3, 1) := dk_29 (dk_at dksX3_addChange_3 17 rfl rfl)
theorem dX3_addChange_87 : decode cX3_addChange 87 = .ok (.iastore, 1) := dk_79 (dk_at dksX3_addChange_3 18 rfl rfl)
theorem dX3_addChange_88 : decode cX3_addChange 88 = .ok (.aload_n 0, 1) := dk_42 (dk_at dksX3_addChange_3 19 rfl rfl)
theorem dX3_addChange_89 : decode cX3_addChange 89 = .ok (.dup, 1) := dk_89 (dk_at dksX3_addChange_3 20 rfl rfl)
theorem dX3_addChange_90 : decode cX3_addChange 90 = .ok (.getfield 235, 3) := dk_180 0 235 (dk_at dksX3_addChange_3 21 rfl rfl)
theorem dX3_addChange_93 : decode cX3_addChange 93 = .ok (.iconst 1, 1) := dk_4 (dk_at dksX3_addChange_4 0 rfl rfl)
theorem dX3_addChange_94 : decode cX3_addChange 94 = .ok (.iadd, 1) := dk_96 (dk_at dksX3_addChange_4 1 rfl rfl)
theorem dX3_addChange_95 : decode cX3_addChange 95 = .ok (.putfield 235, 3) := dk_181 0 235 (dk_at dksX3_addChange_4 2 rfl rfl)
theorem dX3_addChange_98 : decode cX3_addChange 98 = .ok (.aload_n 0, 1) := dk_42 (dk_at dksX3_addChange_4 5 rfl rfl)
theorem dX3_addChange_99 : decode cX3_addChange 99 = .ok (.getfield 235, 3) := dk_180 0 235 (dk_at dksX3_addChange_4 6 rfl rfl)
theorem dX3_addChange_102 : decode cX3_addChange 102 = .ok (.ireturn, 1) := dk_172 (dk_at dksX3_addChange_4 9 rfl rfl)
abbrev cX3_addAlternative : ByteArray := prog_16_method_24_code
def yX3_addAlternative : MethodName := ⟨RX3, "addAlternative", "(CLjava/lang/String;)I"⟩
def dkwX3_addAlternative_5 : List UInt8 := [44, 83, 42, 180, 0, 37, 21, 4, 92, 46, 4, 96, 79, 42, 180, 0, 37, 21, 4, 46, 172]
abbrev dktX3_addAlternative_5 : List UInt8 := dkwX3_addAlternative_5 ++ []
def dkwX3_addAlternative_4 : List UInt8 := [2, 172, 27, 16, 65, 100, 54, 4, 42, 180, 0, 33, 6, 21, 4, 104, 42, 180, 0, 37, 21, 4, 46, 96]
abbrev dktX3_addAlternative_4 : List UInt8 := dkwX3_addAlternative_4 ++ dktX3_addAlternative_5
def dkwX3_addAlternative_3 : List UInt8 := [27, 16, 65, 100, 46, 6, 160, 0, 7, 5, 167, 0, 4, 3, 181, 0, 62, 42, 180, 0, 62, 158, 0, 5]
abbrev dktX3_addAlternative_3 : List UInt8 := dkwX3_addAlternative_3 ++ dktX3_addAlternative_4
def dkwX3_addAlternative_2 : List UInt8 := [167, 0, 4, 3, 62, 132, 4, 1, 167, 255, 210, 42, 29, 154, 0, 7, 4, 167, 0, 21, 42, 180, 0, 37]
abbrev dktX3_addAlternative_2 : List UInt8 := dkwX3_addAlternative_2 ++ dktX3_addAlternative_3
def dkwX3_addAlternative_1 : List UInt8 := [182, 0, 70, 184, 0, 74, 154, 0, 15, 44, 21, 4, 182, 0, 70, 184, 0, 238, 153, 0, 7, 4]
abbrev dktX3_addAlternative_1 : List UInt8 := dkwX3_addAlternative_1 ++ dktX3_addAlternative_2
def dkwX3_addAlternative_0 : List UInt8 := [27, 184, 0, 238, 62, 3, 54, 4, 21, 4, 44, 182, 0, 66, 162, 0, 43, 29, 153, 0, 31, 44, 21, 4]
abbrev dktX3_addAlternative_0 : List UInt8 := dkwX3_addAlternative_0 ++ dktX3_addAlternative_1
theorem dksX3_addAlternative_0 : cX3_addAlternative.data.toList.drop 0 = dktX3_addAlternative_0 := by decide +kernel
theorem dksX3_addAlternative_1 : cX3_addAlternative.data.toList.drop 24 = dktX3_addAlternative_1 := dk_seg dksX3_addAlternative_0 24 rfl rfl
theorem dksX3_addAlternative_2 : cX3_addAlternative.data.toList.drop 46 = dktX3_addAlternative_2 := dk_seg dksX3_addAlternative_1 22 rfl rfl
theorem dksX3_addAlternative_3 : cX3_addAlternative.data.toList.drop 70 = dktX3_addAlternative_3 := dk_seg dksX3_addAlternative_2 24 rfl rfl
theorem dksX3_addAlternative_4 : cX3_addAlternative.data.toList.drop 94 = dktX3_addAlternative_4 := dk_seg dksX3_addAlternative_3 24 rfl rfl
theorem dksX3_addAlternative_5 : cX3_addAlternative.data.toList.drop 118 = dktX3_addAlternative_5 := dk_seg dksX3_addAlternative_4 24 rfl rfl
theorem dX3_addAlternative_0 : decode cX3_addAlternative 0 = .ok (.iload_n 1, 1) := dk_27 (dk_at dksX3_addAlternative_0 0 rfl rfl)
theorem dX3_addAlternative_1 : decode cX3_addAlternative 1 = .ok (.invokestatic 238, 3) := dk_184 0 238 (dk_at dksX3_addAlternative_0 1 rfl rfl)
theorem dX3_addAlternative_4 : decode cX3_addAlternative 4 = .ok (.istore_n 3, 1) := dk_62 (dk_at dksX3_addAlternative_0 4 rfl rfl)
theorem dX3_addAlternative_5 : decode cX3_addAlternative 5 = .ok (.iconst 0, 1) := dk_3 (dk_at dksX3_addAlternative_0 5 rfl rfl)
theorem dX3_addAlternative_6 : decode cX3_addAlternative 6 = .ok (.istore 4, 2) := dk_54 4 (dk_at dksX3_addAlternative_0 6 rfl rfl)
theorem dX3_addAlternative_8 : decode cX3_addAlternative 8 = .ok (.iload 4, 2) := dk_21 4 (dk_at dksX3_addAlternative_0 8 rfl rfl)
theorem dX3_addAlternative_10 : decode cX3_addAlternative 10 = .ok (.aload_n 2, 1) := dk_44 (dk_at dksX3_addAlternative_0 10 rfl rfl)
theorem dX3_addAlternative_11 : decode cX3_addAlternative 11 = .ok (.invokevirtual 66, 3) := dk_182 0 66 (dk_at dksX3_addAlternative_0 11 rfl rfl)
theorem dX3_addAlternative_14 : decode cX3_addAlternative 14 = .ok (.if_icmp .ge 43, 3) := dk_162 0 43 (dk_at dksX3_addAlternative_0 14 rfl rfl)
theorem dX3_addAlternative_17 : decode cX3_addAlternative 17 = .ok (.iload_n 3, 1) := dk_29 (dk_at dksX3_addAlternative_0 17 rfl rfl)
theorem dX3_addAlternative_18 : decode cX3_addAlternative 18 = .ok (.ifCond .eq 31, 3) := dk_153 0 31 (dk_at dksX3_addAlternative_0 18 rfl rfl)
theorem dX3_addAlternative_21 : decode cX3_addAlternative 21 = .ok (.aload_n 2, 1) := dk_44 (dk_at dksX3_addAlternative_0 21 rfl rfl)
theorem dX3_addAlternative_22 : decode cX3_addAlternative 22 = .ok (.iload 4, 2) := dk_21 4 (dk_at dksX3_addAlternative_0 22 rfl rfl)
theorem dX3_addAlternative_24 : decode cX3_addAlternative 24 = .ok (.invokevirtual 70, 3) := dk_182 0 70 (dk_at dksX3_addAlternative_1 0 rfl rfl)
theorem dX3_addAlternative_27 : decode cX3_addAlternative 27 = .ok (.invokestatic 74, 3) := dk_184 0 74 (dk_at dksX3_addAlternative_1 3 rfl rfl)
theorem dX3_addAlternative_30 : decode cX3_addAlternative 30 = .ok (.ifCond .ne 15, 3) := dk_154 0 15 (dk_at dksX3_addAlternative_1 6 rfl rfl)
theorem dX3_addAlternative_33 : decode cX3_addAlternative 33 = .ok (.aload_n 2, 1) := dk_44 (dk_at dksX3_addAlternative_1 9 rfl rfl)
theorem dX3_addAlternative_34 : decode cX3_addAlternative 34 = .ok (.iload 4, 2) := dk_21 4 (dk_at dksX3_addAlternative_1 10 rfl rfl)
theorem dX3_addAlternative_36 : decode cX3_addAlternative 36 = .ok (.invokevirtual 70, 3) := dk_182 0 70 (dk_at dksX3_addAlternative_1 12 rfl rfl)
theorem dX3_addAlternative_39 : decode cX3_addAlternative 39 = .ok (.invokestatic 238, 3) := dk_184 0 238 (dk_at dksX3_addAlternative_1 15 rfl rfl)
theorem dX3_addAlternative_42 : decode cX3_addAlternative 42 = .ok (.ifCond .eq 7, 3) := dk_153 0 7 (dk_at dksX3_addAlternative_1 18 rfl rfl)
theorem dX3_addAlternative_45 : decode cX3_addAlternative 45 = .ok (.iconst 1, 1) := dk_4 (dk_at dksX3_addAlternative_1 21 rfl rfl)
theorem dX3_addAlternative_46 : decode cX3_addAlternative 46 = .ok (.goto 4, 3) := dk_167 0 4 (dk_at dksX3_addAlternative_2 0 rfl rfl)
theorem dX3_addAlternative_49 : decode cX3_addAlternative 49 = .ok (.iconst 0, 1) := dk_3 (dk_at dksX3_addAlternative_2 3 rfl rfl)
theorem dX3_addAlternative_50 : decode cX3_addAlternative 50 = .ok (.istore_n 3, 1) := dk_62 (dk_at dksX3_addAlternative_2 4 rfl rfl)
theorem dX3_addAlternative_51 : decode cX3_addAlternative 51 = .ok (.iinc 4 1, 3) := dk_132 4 1 (dk_at dksX3_addAlternative_2 5 rfl rfl)
theorem dX3_addAlternative_54 : decode cX3_addAlternative 54 = .ok (.goto (-46), 3) := dk_167 255 210 (dk_at dksX3_addAlternative_2 8 rfl rfl)
theorem dX3_addAlternative_57 : decode cX3_addAlternative 57 = .ok (.aload_n 0, 1) := dk_42 (dk_at dksX3_addAlternative_2 11 rfl rfl)
theorem dX3_addAlternative_58 : decode cX3_addAlternative 58 = .ok (.iload_n 3, 1) := dk_29 (dk_at dksX3_addAlternative_2 12 rfl rfl)
theorem dX3_addAlternative_59 : decode cX3_addAlternative 59 = .ok (.ifCond .ne 7, 3) := dk_154 0 7 (dk_at dksX3_addAlternative_2 13 rfl rfl)
theorem dX3_addAlternative_62 : decode cX3_addAlternative 62 = .ok (.iconst 1, 1) := dk_4 (dk_at dksX3_addAlternative_2 16 rfl rfl)
theorem dX3_addAlternative_63 : decode cX3_addAlternative 63 = .ok (.goto 21, 3) := dk_167 0 21 (dk_at dksX3_addAlternative_2 17 rfl rfl)
theorem dX3_addAlternative_66 : decode cX3_addAlternative 66 = .ok (.aload_n 0, 1) := dk_42 (dk_at dksX3_addAlternative_2 20 rfl rfl)
theorem dX3_addAlternative_67 : decode cX3_addAlternative 67 = .ok (.getfield 37, 3) := dk_180 0 37 (dk_at dksX3_addAlternative_2 21 rfl rfl)
theorem dX3_addAlternative_70 : decode cX3_addAlternative 70 = .ok (.iload_n 1, 1) := dk_27 (dk_at dksX3_addAlternative_3 0 rfl rfl)
theorem dX3_addAlternative_71 : decode cX3_addAlternative 71 = .ok (.bipush 65, 2) := dk_16 65 (dk_at dksX3_addAlternative_3 1 rfl rfl)
theorem dX3_addAlternative_73 : decode cX3_addAlternative 73 = .ok (.isub, 1) := dk_100 (dk_at dksX3_addAlternative_3 3 rfl rfl)
theorem dX3_addAlternative_74 : decode cX3_addAlternative 74 = .ok (.iaload, 1) := dk_46 (dk_at dksX3_addAlternative_3 4 rfl rfl)
theorem dX3_addAlternative_75 : decode cX3_addAlternative 75 = .ok (.iconst 3, 1) := dk_6 (dk_at dksX3_addAlternative_3 5 rfl rfl)
theorem dX3_addAlternative_76 : decode cX3_addAlternative 76 = .ok (.if_icmp .ne 7, 3) := dk_160 0 7 (dk_at dksX3_addAlternative_3 6 rfl rfl)
theorem dX3_addAlternative_79 : decode cX3_addAlternative 79 = .ok (.iconst 2, 1) := dk_5 (dk_at dksX3_addAlternative_3 9 rfl rfl)
theorem dX3_addAlternative_80 : decode cX3_addAlternative 80 = .ok (.goto 4, 3) := dk_167 0 4 (dk_at dksX3_addAlternative_3 10 rfl rfl)
theorem dX3_addAlternative_83 : decode cX3_addAlternative 83 = .ok (.iconst 0, 1) := dk_3 (dk_at dksX3_addAlternative_3 13 rfl rfl)
theorem dX3_addAlternative_84 : decode cX3_addAlternative 84 = .ok (.putfield 62, 3) := dk_181 0 62 (dk_at dksX3_addAlternative_3 14 rfl rfl)
theorem dX3_addAlternative_87 : decode cX3_addAlternative 87 = .ok (.aload_n 0, 1) := dk_42 (dk_at dksX3_addAlternative_3 17 rfl rfl)
theorem dX3_addAlternative_88 : decode cX3_addAlternative 88 = .ok (.getfield 62, 3) := dk_180 0 62 (dk_at dksX3_addAlternative_3 18 rfl rfl)
theorem dX3_addAlternative_91 : decode cX3_addAlternative 91 = .ok (.ifCond .le 5, 3) := dk_158 0 5 (dk_at dksX3_addAlternative_3 21 rfl rfl)
theorem dX3_addAlternative_94 : decode cX3_addAlternative 94 = .ok (.iconst (-1), 1) := dk_2 (dk_at dksX3_addAlternative_4 0 rfl rfl)
theorem dX3_addAlternative_95 : decode cX3_addAlternative 95 = .ok (.ireturn, 1) := dk_172 (dk_at dksX3_addAlternative_4 1 rfl rfl)
theorem dX3_addAlternative_96 : decode cX3_addAlternative 96 = .ok (.iload_n 1, 1) := dk_27 (dk_at dksX3_addAlternative_4 2 rfl rfl)
theorem dX3_addAlternative_97 : decode cX3_addAlternative 97 = .ok (.bipush 65, 2) := dk_16 65 (dk_at dksX3_addAlternative_4 3 rfl rfl)
theorem dX3_addAlternative_99 : decode cX3_addAlternative 99 = .ok (.isub, 1) := dk_100 (dk_at dksX3_addAlternative_4 5 rfl rfl)
theorem dX3_addAlternative_100 : decode cX3_addAlternative 100 = .ok (.istore 4, 2) := dk_54 4 (dk_at dksX3_addAlternative_4 6 rfl rfl)
theorem dX3_addAlternative_102 : decode cX3_addAlternative 102 = .ok (.aload_n 0, 1) := dk_42 (dk_at dksX3_addAlternative_4 8 rfl rfl)
theorem dX3_addAlternative_103 : decode cX3_addAlternative 103 = .ok (.getfield 33, 3) := dk_180 0 33 (dk_at dksX3_addAlternative_4 9 rfl rfl)
theorem dX3_addAlternative_106 : decode cX3_addAlternative 106 = .ok (.iconst 3, 1) := dk_6 (dk_at dksX3_addAlternative_4 12 rfl rfl)
theorem dX3_addAlternative_107 : decode cX3_addAlternative 107 = .ok (.iload 4, 2) := dk_21 4 (dk_at dksX3_addAlternative_4 13 rfl rfl)
theorem dX3_addAlternative_109 : decode cX3_addAlternative 109 = .ok (.imul, 1) := dk_104 (dk_at dksX3_addAlternative_4 15 rfl rfl)
theorem dX3_addAlternative_110 : decode cX3_addAlternative 110 = .ok (.aload_n 0, 1) := dk_42 (dk_at dksX3_addAlternative_4 16 rfl rfl)
theorem dX3_addAlternative_111 : decode cX3_addAlternative 111 = .ok (.getfield 37, 3) := dk_180 0 37 (dk_at dksX3_addAlternative_4 17 rfl rfl)
theorem dX3_addAlternative_114 : decode cX3_addAlternative 114 = .ok (.iload 4, 2) := dk_21 4 (dk_at dksX3_addAlternative_4 20 rfl rfl)
theorem dX3_addAlternative_116 : decode cX3_addAlternative 116 = .ok (.iaload, 1) := dk_46 (dk_at dksX3_addAlternative_4 22 rfl rfl)
theorem dX3_addAlternative_117 : decode cX3_addAlternative 117 = .ok (.iadd, 1) := dk_96 (dk_at dksX3_addAlternative_4 23 rfl rfl)
theorem dX3_addAlternative_118 : decode cX3_addAlternative 118 = .ok (.aload_n 2, 1) := dk_44 (dk_at dksX3_addAlternative_5 0 rfl rfl)
theorem dX3_addAlternative_119 : decode cX3_addAlternative 119 = .ok (.aastore, 1) := dk_83 (dk_at dksX3_addAlternative_5 1 rfl rfl)
theorem dX3_addAlternative_120 : decode cX3_addAlternative 120 = .ok (.aload_n 0, 1) := dk_42 (dk_at dksX3_addAlternative_5 2 rfl rfl)
theorem dX3_addAlternative_121 : decode cX3_addAlternative 121 = .ok (.getfield 37, 3) := dk_180 0 37 (dk_at dksX3_addAlternative_5 3 rfl rfl)
theorem dX3_addAlternative_124 : decode cX3_addAlternative 124 = .ok (.iload 4, 2) := dk_21 4 (dk_at dksX3_addAlternative_5 6 rfl rfl)
theorem dX3_addAlternative_126 : decode cX3_addAlternative 126 = .ok (.dup2, 1) := dk_92 (dk_at dksX3_addAlternative_5 8 rfl rfl)
theorem dX3_addAlternative_127 : decode cX3_addAlternative 127 = .ok (.iaload, 1) := dk_46 (dk_at dksX3_addAlternative_5 9 rfl rfl)
theorem dX3_addAlternative_128 : decode cX3_addAlternative 128 = .ok (.iconst 1, 1) := dk_4 (dk_at dksX3_addAlternative_5 10 rfl rfl)
theorem dX3_addAlternative_129 : decode cX3_addAlternative 129 = .ok (.iadd, 1) := dk_96 (dk_at dksX3_addAlternative_5 11 rfl rfl)
theorem dX3_addAlternative_130 : decode cX3_addAlternative 130 = .ok (.iastore, 1) := dk_79 (dk_at dksX3_addAlternative_5 12 rfl rfl)
theorem dX3_addAlternative_131 : decode cX3_addAlternative 131 = .ok (.aload_n 0, 1) := dk_42 (dk_at dksX3_addAlternative_5 13 rfl rfl)
theorem dX3_addAlternative_132 : decode cX3_addAlternative 132 = .ok (.getfield 37, 3) := dk_180 0 37 (dk_at dksX3_addAlternative_5 14 rfl rfl)
theorem dX3_addAlternative_135 : decode cX3_addAlternative 135 = .ok (.iload 4, 2) := dk_21 4 (dk_at dksX3_addAlternative_5 17 rfl rfl)
theorem dX3_addAlternative_137 : decode cX3_addAlternative 137 = .ok (.iaload, 1) := dk_46 (dk_at dksX3_addAlternative_5 19 rfl rfl)
theorem dX3_addAlternative_138 : decode cX3_addAlternative 138 = .ok (.ireturn, 1) := dk_172 (dk_at dksX3_addAlternative_5 20 rfl rfl)
abbrev cX3_isSymbol : ByteArray := prog_16_method_23_code
def yX3_isSymbol : MethodName := ⟨RX3, "isSymbol", "(C)Z"⟩
def dkwX3_isSymbol_0 : List UInt8 := [26, 16, 65, 161, 0, 13, 26, 16, 68, 163, 0, 7, 4, 167, 0, 4, 3, 172]
abbrev dktX3_isSymbol_0 : List UInt8 := dkwX3_isSymbol_0 ++ []
theorem dksX3_isSymbol_0 : cX3_isSymbol.data.toList.drop 0 = dktX3_isSymbol_0 := by decide +kernel
theorem dX3_isSymbol_0 : decode cX3_isSymbol 0 = .ok (.iload_n 0, 1) := dk_26 (dk_at dksX3_isSymbol_0 0 rfl rfl)
theorem dX3_isSymbol_1 : decode cX3_isSymbol 1 = .ok (.bipush 65, 2) := dk_16 65 (dk_at dksX3_isSymbol_0 1 rfl rfl)
theorem dX3_isSymbol_3 : decode cX3_isSymbol 3 = .ok (.if_icmp .lt 13, 3) := dk_161 0 13 (dk_at dksX3_isSymbol_0 3 rfl rfl)
theorem dX3_isSymbol_6 : decode cX3_isSymbol 6 = .ok (.iload_n 0, 1) := dk_26 (dk_at dksX3_isSymbol_0 6 rfl rfl)
theorem dX3_isSymbol_7 : decode cX3_isSymbol 7 = .ok (.bipush 68, 2) := dk_16 68 (dk_at dksX3_isSymbol_0 7 rfl rfl)
theorem dX3_isSymbol_9 : decode cX3_isSymbol 9 = .ok (.if_icmp .gt 7, 3) := dk_163 0 7 (dk_at dksX3_isSymbol_0 9 rfl rfl)
theorem dX3_isSymbol_12 : decode cX3_isSymbol 12 = .ok (.iconst 1, 1) := dk_4 (dk_at dksX3_isSymbol_0 12 rfl rfl)
theorem dX3_isSymbol_13 : decode cX3_isSymbol 13 = .ok (.goto 4, 3) := dk_167 0 4 (dk_at dksX3_isSymbol_0 13 rfl rfl)
theorem dX3_isSymbol_16 : decode cX3_isSymbol 16 = .ok (.iconst 0, 1) := dk_3 (dk_at dksX3_isSymbol_0 16 rfl rfl)
theorem dX3_isSymbol_17 : decode cX3_isSymbol 17 = .ok (.ireturn, 1) := dk_172 (dk_at dksX3_isSymbol_0 17 rfl rfl)
abbrev cX3_isDigit : ByteArray := prog_16_method_4_code
def yX3_isDigit : MethodName := ⟨RX3, "isDigit", "(C)Z"⟩
def dkwX3_isDigit_0 : List UInt8 := [26, 16, 48, 161, 0, 13, 26, 16, 55, 163, 0, 7, 4, 167, 0, 4, 3, 172]
abbrev dktX3_isDigit_0 : List UInt8 := dkwX3_isDigit_0 ++ []
theorem dksX3_isDigit_0 : cX3_isDigit.data.toList.drop 0 = dktX3_isDigit_0 := by decide +kernel
theorem dX3_isDigit_0 : decode cX3_isDigit 0 = .ok (.iload_n 0, 1) := dk_26 (dk_at dksX3_isDigit_0 0 rfl rfl)
theorem dX3_isDigit_1 : decode cX3_isDigit 1 = .ok (.bipush 48, 2) := dk_16 48 (dk_at dksX3_isDigit_0 1 rfl rfl)
theorem dX3_isDigit_3 : decode cX3_isDigit 3 = .ok (.if_icmp .lt 13, 3) := dk_161 0 13 (dk_at dksX3_isDigit_0 3 rfl rfl)
theorem dX3_isDigit_6 : decode cX3_isDigit 6 = .ok (.iload_n 0, 1) := dk_26 (dk_at dksX3_isDigit_0 6 rfl rfl)
theorem dX3_isDigit_7 : decode cX3_isDigit 7 = .ok (.bipush 55, 2) := dk_16 55 (dk_at dksX3_isDigit_0 7 rfl rfl)
theorem dX3_isDigit_9 : decode cX3_isDigit 9 = .ok (.if_icmp .gt 7, 3) := dk_163 0 7 (dk_at dksX3_isDigit_0 9 rfl rfl)
theorem dX3_isDigit_12 : decode cX3_isDigit 12 = .ok (.iconst 1, 1) := dk_4 (dk_at dksX3_isDigit_0 12 rfl rfl)
theorem dX3_isDigit_13 : decode cX3_isDigit 13 = .ok (.goto 4, 3) := dk_167 0 4 (dk_at dksX3_isDigit_0 13 rfl rfl)
theorem dX3_isDigit_16 : decode cX3_isDigit 16 = .ok (.iconst 0, 1) := dk_3 (dk_at dksX3_isDigit_0 16 rfl rfl)
theorem dX3_isDigit_17 : decode cX3_isDigit 17 = .ok (.ireturn, 1) := dk_172 (dk_at dksX3_isDigit_0 17 rfl rfl)
abbrev cX3_derive : ByteArray := prog_16_method_27_code
def yX3_derive : MethodName := ⟨RX3, "derive", "(I)Ljava/lang/String;"⟩
def dkwX3_derive_7 : List UInt8 := [18, 253, 176]
abbrev dktX3_derive_7 : List UInt8 := dkwX3_derive_7 ++ []
def dkwX3_derive_6 : List UInt8 := [182, 0, 66, 16, 8, 164, 0, 8, 42, 6, 181, 0, 62, 42, 180, 0, 62, 154, 0, 7, 44, 167, 0, 5]
abbrev dktX3_derive_6 : List UInt8 := dkwX3_derive_6 ++ dktX3_derive_7
def dkwX3_derive_5 : List UInt8 := [62, 132, 4, 1, 167, 255, 158, 42, 180, 0, 62, 154, 0, 25, 44, 184, 0, 246, 2, 160, 0, 12, 44]
abbrev dktX3_derive_5 : List UInt8 := dkwX3_derive_5 ++ dktX3_derive_6
def dkwX3_derive_4 : List UInt8 := [21, 5, 42, 180, 0, 33, 6, 21, 6, 104, 29, 21, 7, 112, 96, 50, 184, 0, 249, 77, 29, 21, 7, 108]
abbrev dktX3_derive_4 : List UInt8 := dkwX3_derive_4 ++ dktX3_derive_5
def dkwX3_derive_3 : List UInt8 := [54, 7, 42, 21, 7, 154, 0, 7, 5, 167, 0, 4, 3, 181, 0, 62, 42, 180, 0, 62, 154, 0, 32, 44]
abbrev dktX3_derive_3 : List UInt8 := dkwX3_derive_3 ++ dktX3_derive_4
def dkwX3_derive_2 : List UInt8 := [184, 0, 246, 54, 5, 44, 21, 5, 182, 0, 70, 16, 65, 100, 54, 6, 42, 180, 0, 37, 21, 6, 46]
abbrev dktX3_derive_2 : List UInt8 := dkwX3_derive_2 ++ dktX3_derive_3
def dkwX3_derive_1 : List UInt8 := [180, 0, 62, 154, 0, 97, 44, 184, 0, 246, 2, 159, 0, 89, 21, 4, 16, 12, 162, 0, 82, 44]
abbrev dktX3_derive_1 : List UInt8 := dkwX3_derive_1 ++ dktX3_derive_2
def dkwX3_derive_0 : List UInt8 := [42, 27, 156, 0, 7, 4, 167, 0, 4, 3, 181, 0, 62, 18, 244, 77, 27, 62, 3, 54, 4, 42]
abbrev dktX3_derive_0 : List UInt8 := dkwX3_derive_0 ++ dktX3_derive_1
theorem dksX3_derive_0 : cX3_derive.data.toList.drop 0 = dktX3_derive_0 := by decide +kernel
theorem dksX3_derive_1 : cX3_derive.data.toList.drop 22 = dktX3_derive_1 := dk_seg dksX3_derive_0 22 rfl rfl
theorem dksX3_derive_2 : cX3_derive.data.toList.drop 44 = dktX3_derive_2 := dk_seg dksX3_derive_1 22 rfl rfl
theorem dksX3_derive_3 : cX3_derive.data.toList.drop 67 = dktX3_derive_3 := dk_seg dksX3_derive_2 23 rfl rfl
theorem dksX3_derive_4 : cX3_derive.data.toList.drop 91 = dktX3_derive_4 := dk_seg dksX3_derive_3 24 rfl rfl
theorem dksX3_derive_5 : cX3_derive.data.toList.drop 115 = dktX3_derive_5 := dk_seg dksX3_derive_4 24 rfl rfl
theorem dksX3_derive_6 : cX3_derive.data.toList.drop 138 = dktX3_derive_6 := dk_seg dksX3_derive_5 23 rfl rfl
theorem dksX3_derive_7 : cX3_derive.data.toList.drop 162 = dktX3_derive_7 := dk_seg dksX3_derive_6 24 rfl rfl
theorem dX3_derive_0 : decode cX3_derive 0 = .ok (.aload_n 0, 1) := dk_42 (dk_at dksX3_derive_0 0 rfl rfl)
theorem dX3_derive_1 : decode cX3_derive 1 = .ok (.iload_n 1, 1) := dk_27 (dk_at dksX3_derive_0 1 rfl rfl)
theorem dX3_derive_2 : decode cX3_derive 2 = .ok (.ifCond .ge 7, 3) := dk_156 0 7 (dk_at dksX3_derive_0 2 rfl rfl)
theorem dX3_derive_5 : decode cX3_derive 5 = .ok (.iconst 1, 1) := dk_4 (dk_at dksX3_derive_0 5 rfl rfl)
theorem dX3_derive_6 : decode cX3_derive 6 = .ok (.goto 4, 3) := dk_167 0 4 (dk_at dksX3_derive_0 6 rfl rfl)
theorem dX3_derive_9 : decode cX3_derive 9 = .ok (.iconst 0, 1) := dk_3 (dk_at dksX3_derive_0 9 rfl rfl)
theorem dX3_derive_10 : decode cX3_derive 10 = .ok (.putfield 62, 3) := dk_181 0 62 (dk_at dksX3_derive_0 10 rfl rfl)
theorem dX3_derive_13 : decode cX3_derive 13 = .ok (.ldc 244, 2) := dk_18 244 (dk_at dksX3_derive_0 13 rfl rfl)
theorem dX3_derive_15 : decode cX3_derive 15 = .ok (.astore_n 2, 1) := dk_77 (dk_at dksX3_derive_0 15 rfl rfl)
theorem dX3_derive_16 : decode cX3_derive 16 = .ok (.iload_n 1, 1) := dk_27 (dk_at dksX3_derive_0 16 rfl rfl)
theorem dX3_derive_17 : decode cX3_derive 17 = .ok (.istore_n 3, 1) := dk_62 (dk_at dksX3_derive_0 17 rfl rfl)
theorem dX3_derive_18 : decode cX3_derive 18 = .ok (.iconst 0, 1) := dk_3 (dk_at dksX3_derive_0 18 rfl rfl)
theorem dX3_derive_19 : decode cX3_derive 19 = .ok (.istore 4, 2) := dk_54 4 (dk_at dksX3_derive_0 19 rfl rfl)
theorem dX3_derive_21 : decode cX3_derive 21 = .ok (.aload_n 0, 1) := dk_42 (dk_at dksX3_derive_0 21 rfl rfl)
theorem dX3_derive_22 : decode cX3_derive 22 = .ok (.getfield 62, 3) := dk_180 0 62 (dk_at dksX3_derive_1 0 rfl rfl)
theorem dX3_derive_25 : decode cX3_derive 25 = .ok (.ifCond .ne 97, 3) := dk_154 0 97 (dk_at dksX3_derive_1 3 rfl rfl)
theorem dX3_derive_28 : decode cX3_derive 28 = .ok (.aload_n 2, 1) := dk_44 (dk_at dksX3_derive_1 6 rfl rfl)
theorem dX3_derive_29 : decode cX3_derive 29 = .ok (.invokestatic 246, 3) := dk_184 0 246 (dk_at dksX3_derive_1 7 rfl rfl)
theorem dX3_derive_32 : decode cX3_derive 32 = .ok (.iconst (-1), 1) := dk_2 (dk_at dksX3_derive_1 10 rfl rfl)
theorem dX3_derive_33 : decode cX3_derive 33 = .ok (.if_icmp .eq 89, 3) := dk_159 0 89 (dk_at dksX3_derive_1 11 rfl rfl)
theorem dX3_derive_36 : decode cX3_derive 36 = .ok (.iload 4, 2) := dk_21 4 (dk_at dksX3_derive_1 14 rfl rfl)
theorem dX3_derive_38 : decode cX3_derive 38 = .ok (.bipush 12, 2) := dk_16 12 (dk_at dksX3_derive_1 16 rfl rfl)
theorem dX3_derive_40 : decode cX3_derive 40 = .ok (.if_icmp .ge 82, 3) := dk_162 0 82 (dk_at dksX3_derive_1 18 rfl rfl)
theorem dX3_derive_43 : decode cX3_derive 43 = .ok (.aload_n 2, 1) := dk_44 (dk_at dksX3_derive_1 21 rfl rfl)
theorem dX3_derive_44 : decode cX3_derive 44 = .ok (.invokestatic 246, 3) := dk_184 0 246 (dk_at dksX3_derive_2 0 rfl rfl)
theorem dX3_derive_47 : decode cX3_derive 47 = .ok (.istore 5, 2) := dk_54 5 (dk_at dksX3_derive_2 3 rfl rfl)
theorem dX3_derive_49 : decode cX3_derive 49 = .ok (.aload_n 2, 1) := dk_44 (dk_at dksX3_derive_2 5 rfl rfl)
theorem dX3_derive_50 : decode cX3_derive 50 = .ok (.iload 5, 2) := dk_21 5 (dk_at dksX3_derive_2 6 rfl rfl)
theorem dX3_derive_52 : decode cX3_derive 52 = .ok (.invokevirtual 70, 3) := dk_182 0 70 (dk_at dksX3_derive_2 8 rfl rfl)
theorem dX3_derive_55 : decode cX3_derive 55 = .ok (.bipush 65, 2) := dk_16 65 (dk_at dksX3_derive_2 11 rfl rfl)
theorem dX3_derive_57 : decode cX3_derive 57 = .ok (.isub, 1) := dk_100 (dk_at dksX3_derive_2 13 rfl rfl)
theorem dX3_derive_58 : decode cX3_derive 58 = .ok (.istore 6, 2) := dk_54 6 (dk_at dksX3_derive_2 14 rfl rfl)
theorem dX3_derive_60 : decode cX3_derive 60 = .ok (.aload_n 0, 1) := dk_42 (dk_at dksX3_derive_2 16 rfl rfl)
theorem dX3_derive_61 : decode cX3_derive 61 = .ok (.getfield 37, 3) := dk_180 0 37 (dk_at dksX3_derive_2 17 rfl rfl)
theorem dX3_derive_64 : decode cX3_derive 64 = .ok (.iload 6, 2) := dk_21 6 (dk_at dksX3_derive_2 20 rfl rfl)
theorem dX3_derive_66 : decode cX3_derive 66 = .ok (.iaload, 1) := dk_46 (dk_at dksX3_derive_2 22 rfl rfl)
theorem dX3_derive_67 : decode cX3_derive 67 = .ok (.istore 7, 2) := dk_54 7 (dk_at dksX3_derive_3 0 rfl rfl)
theorem dX3_derive_69 : decode cX3_derive 69 = .ok (.aload_n 0, 1) := dk_42 (dk_at dksX3_derive_3 2 rfl rfl)
theorem dX3_derive_70 : decode cX3_derive 70 = .ok (.iload 7, 2) := dk_21 7 (dk_at dksX3_derive_3 3 rfl rfl)
theorem dX3_derive_72 : decode cX3_derive 72 = .ok (.ifCond .ne 7, 3) := dk_154 0 7 (dk_at dksX3_derive_3 5 rfl rfl)
theorem dX3_derive_75 : decode cX3_derive 75 = .ok (.iconst 2, 1) := dk_5 (dk_at dksX3_derive_3 8 rfl rfl)
theorem dX3_derive_76 : decode cX3_derive 76 = .ok (.goto 4, 3) := dk_167 0 4 (dk_at dksX3_derive_3 9 rfl rfl)
theorem dX3_derive_79 : decode cX3_derive 79 = .ok (.iconst 0, 1) := dk_3 (dk_at dksX3_derive_3 12 rfl rfl)
theorem dX3_derive_80 : decode cX3_derive 80 = .ok (.putfield 62, 3) := dk_181 0 62 (dk_at dksX3_derive_3 13 rfl rfl)
theorem dX3_derive_83 : decode cX3_derive 83 = .ok (.aload_n 0, 1) := dk_42 (dk_at dksX3_derive_3 16 rfl rfl)
theorem dX3_derive_84 : decode cX3_derive 84 = .ok (.getfield 62, 3) := dk_180 0 62 (dk_at dksX3_derive_3 17 rfl rfl)
theorem dX3_derive_87 : decode cX3_derive 87 = .ok (.ifCond .ne 32, 3) := dk_154 0 32 (dk_at dksX3_derive_3 20 rfl rfl)
theorem dX3_derive_90 : decode cX3_derive 90 = .ok (.aload_n 2, 1) := dk_44 (dk_at dksX3_derive_3 23 rfl rfl)
theorem dX3_derive_91 : decode cX3_derive 91 = .ok (.iload 5, 2) := dk_21 5 (dk_at dksX3_derive_4 0 rfl rfl)
theorem dX3_derive_93 : decode cX3_derive 93 = .ok (.aload_n 0, 1) := dk_42 (dk_at dksX3_derive_4 2 rfl rfl)
theorem dX3_derive_94 : decode cX3_derive 94 = .ok (.getfield 33, 3) := dk_180 0 33 (dk_at dksX3_derive_4 3 rfl rfl)
theorem dX3_derive_97 : decode cX3_derive 97 = .ok (.iconst 3, 1) := dk_6 (dk_at dksX3_derive_4 6 rfl rfl)
theorem dX3_derive_98 : decode cX3_derive 98 = .ok (.iload 6, 2) := dk_21 6 (dk_at dksX3_derive_4 7 rfl rfl)
theorem dX3_derive_100 : decode cX3_derive 100 = .ok (.imul, 1) := dk_104 (dk_at dksX3_derive_4 9 rfl rfl)
theorem dX3_derive_101 : decode cX3_derive 101 = .ok (.iload_n 3, 1) := dk_29 (dk_at dksX3_derive_4 10 rfl rfl)
theorem dX3_derive_102 : decode cX3_derive 102 = .ok (.iload 7, 2) := dk_21 7 (dk_at dksX3_derive_4 11 rfl rfl)
theorem dX3_derive_104 : decode cX3_derive 104 = .ok (.irem, 1) := dk_112 (dk_at dksX3_derive_4 13 rfl rfl)
theorem dX3_derive_105 : decode cX3_derive 105 = .ok (.iadd, 1) := dk_96 (dk_at dksX3_derive_4 14 rfl rfl)
theorem dX3_derive_106 : decode cX3_derive 106 = .ok (.aaload, 1) := dk_50 (dk_at dksX3_derive_4 15 rfl rfl)
theorem dX3_derive_107 : decode cX3_derive 107 = .ok (.invokestatic 249, 3) := dk_184 0 249 (dk_at dksX3_derive_4 16 rfl rfl)
theorem dX3_derive_110 : decode cX3_derive 110 = .ok (.astore_n 2, 1) := dk_77 (dk_at dksX3_derive_4 19 rfl rfl)
theorem dX3_derive_111 : decode cX3_derive 111 = .ok (.iload_n 3, 1) := dk_29 (dk_at dksX3_derive_4 20 rfl rfl)
theorem dX3_derive_112 : decode cX3_derive 112 = .ok (.iload 7, 2) := dk_21 7 (dk_at dksX3_derive_4 21 rfl rfl)
theorem dX3_derive_114 : decode cX3_derive 114 = .ok (.idiv, 1) := dk_108 (dk_at dksX3_derive_4 23 rfl rfl)
theorem dX3_derive_115 : decode cX3_derive 115 = .ok (.istore_n 3, 1) := dk_62 (dk_at dksX3_derive_5 0 rfl rfl)
theorem dX3_derive_116 : decode cX3_derive 116 = .ok (.iinc 4 1, 3) := dk_132 4 1 (dk_at dksX3_derive_5 1 rfl rfl)
theorem dX3_derive_119 : decode cX3_derive 119 = .ok (.goto (-98), 3) := dk_167 255 158 (dk_at dksX3_derive_5 4 rfl rfl)
theorem dX3_derive_122 : decode cX3_derive 122 = .ok (.aload_n 0, 1) := dk_42 (dk_at dksX3_derive_5 7 rfl rfl)
theorem dX3_derive_123 : decode cX3_derive 123 = .ok (.getfield 62, 3) := dk_180 0 62 (dk_at dksX3_derive_5 8 rfl rfl)
theorem dX3_derive_126 : decode cX3_derive 126 = .ok (.ifCond .ne 25, 3) := dk_154 0 25 (dk_at dksX3_derive_5 11 rfl rfl)
theorem dX3_derive_129 : decode cX3_derive 129 = .ok (.aload_n 2, 1) := dk_44 (dk_at dksX3_derive_5 14 rfl rfl)
theorem dX3_derive_130 : decode cX3_derive 130 = .ok (.invokestatic 246, 3) := dk_184 0 246 (dk_at dksX3_derive_5 15 rfl rfl)
theorem dX3_derive_133 : decode cX3_derive 133 = .ok (.iconst (-1), 1) := dk_2 (dk_at dksX3_derive_5 18 rfl rfl)
theorem dX3_derive_134 : decode cX3_derive 134 = .ok (.if_icmp .ne 12, 3) := dk_160 0 12 (dk_at dksX3_derive_5 19 rfl rfl)
theorem dX3_derive_137 : decode cX3_derive 137 = .ok (.aload_n 2, 1) := dk_44 (dk_at dksX3_derive_5 22 rfl rfl)
theorem dX3_derive_138 : decode cX3_derive 138 = .ok (.invokevirtual 66, 3) := dk_182 0 66 (dk_at dksX3_derive_6 0 rfl rfl)
theorem dX3_derive_141 : decode cX3_derive 141 = .ok (.bipush 8, 2) := dk_16 8 (dk_at dksX3_derive_6 3 rfl rfl)
theorem dX3_derive_143 : decode cX3_derive 143 = .ok (.if_icmp .le 8, 3) := dk_164 0 8 (dk_at dksX3_derive_6 5 rfl rfl)
theorem dX3_derive_146 : decode cX3_derive 146 = .ok (.aload_n 0, 1) := dk_42 (dk_at dksX3_derive_6 8 rfl rfl)
theorem dX3_derive_147 : decode cX3_derive 147 = .ok (.iconst 3, 1) := dk_6 (dk_at dksX3_derive_6 9 rfl rfl)
theorem dX3_derive_148 : decode cX3_derive 148 = .ok (.putfield 62, 3) := dk_181 0 62 (dk_at dksX3_derive_6 10 rfl rfl)
theorem dX3_derive_151 : decode cX3_derive 151 = .ok (.aload_n 0, 1) := dk_42 (dk_at dksX3_derive_6 13 rfl rfl)
theorem dX3_derive_152 : decode cX3_derive 152 = .ok (.getfield 62, 3) := dk_180 0 62 (dk_at dksX3_derive_6 14 rfl rfl)
theorem dX3_derive_155 : decode cX3_derive 155 = .ok (.ifCond .ne 7, 3) := dk_154 0 7 (dk_at dksX3_derive_6 17 rfl rfl)
theorem dX3_derive_158 : decode cX3_derive 158 = .ok (.aload_n 2, 1) := dk_44 (dk_at dksX3_derive_6 20 rfl rfl)
theorem dX3_derive_159 : decode cX3_derive 159 = .ok (.goto 5, 3) := dk_167 0 5 (dk_at dksX3_derive_6 21 rfl rfl)
theorem dX3_derive_162 : decode cX3_derive 162 = .ok (.ldc 253, 2) := dk_18 253 (dk_at dksX3_derive_7 0 rfl rfl)
theorem dX3_derive_164 : decode cX3_derive 164 = .ok (.areturn, 1) := dk_176 (dk_at dksX3_derive_7 2 rfl rfl)
abbrev cX3_symbolAt : ByteArray := prog_16_method_25_code
def yX3_symbolAt : MethodName := ⟨RX3, "symbolAt", "(Ljava/lang/String;)I"⟩
def dkwX3_symbolAt_1 : List UInt8 := [132, 1, 1, 167, 255, 232, 2, 172]
abbrev dktX3_symbolAt_1 : List UInt8 := dkwX3_symbolAt_1 ++ []
def dkwX3_symbolAt_0 : List UInt8 := [3, 60, 27, 42, 182, 0, 66, 162, 0, 22, 42, 27, 182, 0, 70, 184, 0, 238, 153, 0, 5, 27, 172]
abbrev dktX3_symbolAt_0 : List UInt8 := dkwX3_symbolAt_0 ++ dktX3_symbolAt_1
theorem dksX3_symbolAt_0 : cX3_symbolAt.data.toList.drop 0 = dktX3_symbolAt_0 := by decide +kernel
theorem dksX3_symbolAt_1 : cX3_symbolAt.data.toList.drop 23 = dktX3_symbolAt_1 := dk_seg dksX3_symbolAt_0 23 rfl rfl
theorem dX3_symbolAt_0 : decode cX3_symbolAt 0 = .ok (.iconst 0, 1) := dk_3 (dk_at dksX3_symbolAt_0 0 rfl rfl)
theorem dX3_symbolAt_1 : decode cX3_symbolAt 1 = .ok (.istore_n 1, 1) := dk_60 (dk_at dksX3_symbolAt_0 1 rfl rfl)
theorem dX3_symbolAt_2 : decode cX3_symbolAt 2 = .ok (.iload_n 1, 1) := dk_27 (dk_at dksX3_symbolAt_0 2 rfl rfl)
theorem dX3_symbolAt_3 : decode cX3_symbolAt 3 = .ok (.aload_n 0, 1) := dk_42 (dk_at dksX3_symbolAt_0 3 rfl rfl)
theorem dX3_symbolAt_4 : decode cX3_symbolAt 4 = .ok (.invokevirtual 66, 3) := dk_182 0 66 (dk_at dksX3_symbolAt_0 4 rfl rfl)
theorem dX3_symbolAt_7 : decode cX3_symbolAt 7 = .ok (.if_icmp .ge 22, 3) := dk_162 0 22 (dk_at dksX3_symbolAt_0 7 rfl rfl)
theorem dX3_symbolAt_10 : decode cX3_symbolAt 10 = .ok (.aload_n 0, 1) := dk_42 (dk_at dksX3_symbolAt_0 10 rfl rfl)
theorem dX3_symbolAt_11 : decode cX3_symbolAt 11 = .ok (.iload_n 1, 1) := dk_27 (dk_at dksX3_symbolAt_0 11 rfl rfl)
theorem dX3_symbolAt_12 : decode cX3_symbolAt 12 = .ok (.invokevirtual 70, 3) := dk_182 0 70 (dk_at dksX3_symbolAt_0 12 rfl rfl)
theorem dX3_symbolAt_15 : decode cX3_symbolAt 15 = .ok (.invokestatic 238, 3) := dk_184 0 238 (dk_at dksX3_symbolAt_0 15 rfl rfl)
theorem dX3_symbolAt_18 : decode cX3_symbolAt 18 = .ok (.ifCond .eq 5, 3) := dk_153 0 5 (dk_at dksX3_symbolAt_0 18 rfl rfl)
theorem dX3_symbolAt_21 : decode cX3_symbolAt 21 = .ok (.iload_n 1, 1) := dk_27 (dk_at dksX3_symbolAt_0 21 rfl rfl)
theorem dX3_symbolAt_22 : decode cX3_symbolAt 22 = .ok (.ireturn, 1) := dk_172 (dk_at dksX3_symbolAt_0 22 rfl rfl)
theorem dX3_symbolAt_23 : decode cX3_symbolAt 23 = .ok (.iinc 1 1, 3) := dk_132 1 1 (dk_at dksX3_symbolAt_1 0 rfl rfl)
theorem dX3_symbolAt_26 : decode cX3_symbolAt 26 = .ok (.goto (-24), 3) := dk_167 255 232 (dk_at dksX3_symbolAt_1 3 rfl rfl)
theorem dX3_symbolAt_29 : decode cX3_symbolAt 29 = .ok (.iconst (-1), 1) := dk_2 (dk_at dksX3_symbolAt_1 6 rfl rfl)
theorem dX3_symbolAt_30 : decode cX3_symbolAt 30 = .ok (.ireturn, 1) := dk_172 (dk_at dksX3_symbolAt_1 7 rfl rfl)
abbrev cX3_replaced : ByteArray := prog_16_method_26_code
def yX3_replaced : MethodName := ⟨RX3, "replaced", "(Ljava/lang/String;ILjava/lang/String;)Ljava/lang/String;"⟩
def dkwX3_replaced_2 : List UInt8 := [132, 4, 1, 167, 255, 218, 45, 182, 0, 140, 176]
abbrev dktX3_replaced_2 : List UInt8 := dkwX3_replaced_2 ++ []
def dkwX3_replaced_1 : List UInt8 := [160, 0, 12, 45, 44, 182, 0, 241, 87, 167, 0, 14, 45, 42, 21, 4, 182, 0, 70, 182, 0, 136, 87]
abbrev dktX3_replaced_1 : List UInt8 := dkwX3_replaced_1 ++ dktX3_replaced_2
def dkwX3_replaced_0 : List UInt8 := [187, 0, 133, 89, 183, 0, 135, 78, 3, 54, 4, 21, 4, 42, 182, 0, 66, 162, 0, 35, 21, 4, 27]
abbrev dktX3_replaced_0 : List UInt8 := dkwX3_replaced_0 ++ dktX3_replaced_1
theorem dksX3_replaced_0 : cX3_replaced.data.toList.drop 0 = dktX3_replaced_0 := by decide +kernel
theorem dksX3_replaced_1 : cX3_replaced.data.toList.drop 23 = dktX3_replaced_1 := dk_seg dksX3_replaced_0 23 rfl rfl
theorem dksX3_replaced_2 : cX3_replaced.data.toList.drop 46 = dktX3_replaced_2 := dk_seg dksX3_replaced_1 23 rfl rfl
theorem dX3_replaced_0 : decode cX3_replaced 0 = .ok (.new 133, 3) := dk_187 0 133 (dk_at dksX3_replaced_0 0 rfl rfl)
theorem dX3_replaced_3 : decode cX3_replaced 3 = .ok (.dup, 1) := dk_89 (dk_at dksX3_replaced_0 3 rfl rfl)
theorem dX3_replaced_4 : decode cX3_replaced 4 = .ok (.invokespecial 135, 3) := dk_183 0 135 (dk_at dksX3_replaced_0 4 rfl rfl)
theorem dX3_replaced_7 : decode cX3_replaced 7 = .ok (.astore_n 3, 1) := dk_78 (dk_at dksX3_replaced_0 7 rfl rfl)
theorem dX3_replaced_8 : decode cX3_replaced 8 = .ok (.iconst 0, 1) := dk_3 (dk_at dksX3_replaced_0 8 rfl rfl)
theorem dX3_replaced_9 : decode cX3_replaced 9 = .ok (.istore 4, 2) := dk_54 4 (dk_at dksX3_replaced_0 9 rfl rfl)
theorem dX3_replaced_11 : decode cX3_replaced 11 = .ok (.iload 4, 2) := dk_21 4 (dk_at dksX3_replaced_0 11 rfl rfl)
theorem dX3_replaced_13 : decode cX3_replaced 13 = .ok (.aload_n 0, 1) := dk_42 (dk_at dksX3_replaced_0 13 rfl rfl)
theorem dX3_replaced_14 : decode cX3_replaced 14 = .ok (.invokevirtual 66, 3) := dk_182 0 66 (dk_at dksX3_replaced_0 14 rfl rfl)
theorem dX3_replaced_17 : decode cX3_replaced 17 = .ok (.if_icmp .ge 35, 3) := dk_162 0 35 (dk_at dksX3_replaced_0 17 rfl rfl)
theorem dX3_replaced_20 : decode cX3_replaced 20 = .ok (.iload 4, 2) := dk_21 4 (dk_at dksX3_replaced_0 20 rfl rfl)
theorem dX3_replaced_22 : decode cX3_replaced 22 = .ok (.iload_n 1, 1) := dk_27 (dk_at dksX3_replaced_0 22 rfl rfl)
theorem dX3_replaced_23 : decode cX3_replaced 23 = .ok (.if_icmp .ne 12, 3) := dk_160 0 12 (dk_at dksX3_replaced_1 0 rfl rfl)
theorem dX3_replaced_26 : decode cX3_replaced 26 = .ok (.aload_n 3, 1) := dk_45 (dk_at dksX3_replaced_1 3 rfl rfl)
theorem dX3_replaced_27 : decode cX3_replaced 27 = .ok (.aload_n 2, 1) := dk_44 (dk_at dksX3_replaced_1 4 rfl rfl)
theorem dX3_replaced_28 : decode cX3_replaced 28 = .ok (.invokevirtual 241, 3) := dk_182 0 241 (dk_at dksX3_replaced_1 5 rfl rfl)
theorem dX3_replaced_31 : decode cX3_replaced 31 = .ok (.pop, 1) := dk_87 (dk_at dksX3_replaced_1 8 rfl rfl)
theorem dX3_replaced_32 : decode cX3_replaced 32 = .ok (.goto 14, 3) := dk_167 0 14 (dk_at dksX3_replaced_1 9 rfl rfl)
theorem dX3_replaced_35 : decode cX3_replaced 35 = .ok (.aload_n 3, 1) := dk_45 (dk_at dksX3_replaced_1 12 rfl rfl)
theorem dX3_replaced_36 : decode cX3_replaced 36 = .ok (.aload_n 0, 1) := dk_42 (dk_at dksX3_replaced_1 13 rfl rfl)
theorem dX3_replaced_37 : decode cX3_replaced 37 = .ok (.iload 4, 2) := dk_21 4 (dk_at dksX3_replaced_1 14 rfl rfl)
theorem dX3_replaced_39 : decode cX3_replaced 39 = .ok (.invokevirtual 70, 3) := dk_182 0 70 (dk_at dksX3_replaced_1 16 rfl rfl)
theorem dX3_replaced_42 : decode cX3_replaced 42 = .ok (.invokevirtual 136, 3) := dk_182 0 136 (dk_at dksX3_replaced_1 19 rfl rfl)
theorem dX3_replaced_45 : decode cX3_replaced 45 = .ok (.pop, 1) := dk_87 (dk_at dksX3_replaced_1 22 rfl rfl)
theorem dX3_replaced_46 : decode cX3_replaced 46 = .ok (.iinc 4 1, 3) := dk_132 4 1 (dk_at dksX3_replaced_2 0 rfl rfl)
theorem dX3_replaced_49 : decode cX3_replaced 49 = .ok (.goto (-38), 3) := dk_167 255 218 (dk_at dksX3_replaced_2 3 rfl rfl)
theorem dX3_replaced_52 : decode cX3_replaced 52 = .ok (.aload_n 3, 1) := dk_45 (dk_at dksX3_replaced_2 6 rfl rfl)
theorem dX3_replaced_53 : decode cX3_replaced 53 = .ok (.invokevirtual 140, 3) := dk_182 0 140 (dk_at dksX3_replaced_2 7 rfl rfl)
theorem dX3_replaced_56 : decode cX3_replaced 56 = .ok (.areturn, 1) := dk_176 (dk_at dksX3_replaced_2 10 rfl rfl)
abbrev cX3_take : ByteArray := prog_16_method_28_code
def yX3_take : MethodName := ⟨RX3, "take", "(Ljava/lang/String;)Z"⟩
def dkwX3_take_1 : List UInt8 := [43, 182, 1, 3, 153, 0, 7, 4, 167, 0, 4, 3, 172]
abbrev dktX3_take_1 : List UInt8 := dkwX3_take_1 ++ []
def dkwX3_take_0 : List UInt8 := [42, 43, 184, 0, 255, 153, 0, 7, 3, 167, 0, 4, 4, 181, 0, 62, 42, 180, 0, 62, 154, 0, 15, 42]
abbrev dktX3_take_0 : List UInt8 := dkwX3_take_0 ++ dktX3_take_1
theorem dksX3_take_0 : cX3_take.data.toList.drop 0 = dktX3_take_0 := by decide +kernel
theorem dksX3_take_1 : cX3_take.data.toList.drop 24 = dktX3_take_1 := dk_seg dksX3_take_0 24 rfl rfl
theorem dX3_take_0 : decode cX3_take 0 = .ok (.aload_n 0, 1) := dk_42 (dk_at dksX3_take_0 0 rfl rfl)
theorem dX3_take_1 : decode cX3_take 1 = .ok (.aload_n 1, 1) := dk_43 (dk_at dksX3_take_0 1 rfl rfl)
theorem dX3_take_2 : decode cX3_take 2 = .ok (.invokestatic 255, 3) := dk_184 0 255 (dk_at dksX3_take_0 2 rfl rfl)
theorem dX3_take_5 : decode cX3_take 5 = .ok (.ifCond .eq 7, 3) := dk_153 0 7 (dk_at dksX3_take_0 5 rfl rfl)
theorem dX3_take_8 : decode cX3_take 8 = .ok (.iconst 0, 1) := dk_3 (dk_at dksX3_take_0 8 rfl rfl)
theorem dX3_take_9 : decode cX3_take 9 = .ok (.goto 4, 3) := dk_167 0 4 (dk_at dksX3_take_0 9 rfl rfl)
theorem dX3_take_12 : decode cX3_take 12 = .ok (.iconst 1, 1) := dk_4 (dk_at dksX3_take_0 12 rfl rfl)
theorem dX3_take_13 : decode cX3_take 13 = .ok (.putfield 62, 3) := dk_181 0 62 (dk_at dksX3_take_0 13 rfl rfl)
theorem dX3_take_16 : decode cX3_take 16 = .ok (.aload_n 0, 1) := dk_42 (dk_at dksX3_take_0 16 rfl rfl)
theorem dX3_take_17 : decode cX3_take 17 = .ok (.getfield 62, 3) := dk_180 0 62 (dk_at dksX3_take_0 17 rfl rfl)
theorem dX3_take_20 : decode cX3_take 20 = .ok (.ifCond .ne 15, 3) := dk_154 0 15 (dk_at dksX3_take_0 20 rfl rfl)
theorem dX3_take_23 : decode cX3_take 23 = .ok (.aload_n 0, 1) := dk_42 (dk_at dksX3_take_0 23 rfl rfl)
theorem dX3_take_24 : decode cX3_take 24 = .ok (.aload_n 1, 1) := dk_43 (dk_at dksX3_take_1 0 rfl rfl)
theorem dX3_take_25 : decode cX3_take 25 = .ok (.invokevirtual 259, 3) := dk_182 1 3 (dk_at dksX3_take_1 1 rfl rfl)
theorem dX3_take_28 : decode cX3_take 28 = .ok (.ifCond .eq 7, 3) := dk_153 0 7 (dk_at dksX3_take_1 4 rfl rfl)
theorem dX3_take_31 : decode cX3_take 31 = .ok (.iconst 1, 1) := dk_4 (dk_at dksX3_take_1 7 rfl rfl)
theorem dX3_take_32 : decode cX3_take 32 = .ok (.goto 4, 3) := dk_167 0 4 (dk_at dksX3_take_1 8 rfl rfl)
theorem dX3_take_35 : decode cX3_take 35 = .ok (.iconst 0, 1) := dk_3 (dk_at dksX3_take_1 11 rfl rfl)
theorem dX3_take_36 : decode cX3_take 36 = .ok (.ireturn, 1) := dk_172 (dk_at dksX3_take_1 12 rfl rfl)
abbrev cX3_isInput : ByteArray := prog_16_method_5_code
def yX3_isInput : MethodName := ⟨RX3, "isInput", "(Ljava/lang/String;)Z"⟩
def dkwX3_isInput_2 : List UInt8 := [132, 2, 1, 167, 255, 224, 27, 172]
abbrev dktX3_isInput_2 : List UInt8 := dkwX3_isInput_2 ++ []
def dkwX3_isInput_1 : List UInt8 := [162, 0, 30, 27, 153, 0, 18, 42, 28, 182, 0, 70, 184, 0, 74, 153, 0, 7, 4, 167, 0, 4, 3, 60]
abbrev dktX3_isInput_1 : List UInt8 := dkwX3_isInput_1 ++ dktX3_isInput_2
def dkwX3_isInput_0 : List UInt8 := [42, 182, 0, 66, 16, 8, 163, 0, 7, 4, 167, 0, 4, 3, 60, 3, 61, 28, 42, 182, 0, 66]
abbrev dktX3_isInput_0 : List UInt8 := dkwX3_isInput_0 ++ dktX3_isInput_1
theorem dksX3_isInput_0 : cX3_isInput.data.toList.drop 0 = dktX3_isInput_0 := by decide +kernel
theorem dksX3_isInput_1 : cX3_isInput.data.toList.drop 22 = dktX3_isInput_1 := dk_seg dksX3_isInput_0 22 rfl rfl
theorem dksX3_isInput_2 : cX3_isInput.data.toList.drop 46 = dktX3_isInput_2 := dk_seg dksX3_isInput_1 24 rfl rfl
theorem dX3_isInput_0 : decode cX3_isInput 0 = .ok (.aload_n 0, 1) := dk_42 (dk_at dksX3_isInput_0 0 rfl rfl)
theorem dX3_isInput_1 : decode cX3_isInput 1 = .ok (.invokevirtual 66, 3) := dk_182 0 66 (dk_at dksX3_isInput_0 1 rfl rfl)
theorem dX3_isInput_4 : decode cX3_isInput 4 = .ok (.bipush 8, 2) := dk_16 8 (dk_at dksX3_isInput_0 4 rfl rfl)
theorem dX3_isInput_6 : decode cX3_isInput 6 = .ok (.if_icmp .gt 7, 3) := dk_163 0 7 (dk_at dksX3_isInput_0 6 rfl rfl)
theorem dX3_isInput_9 : decode cX3_isInput 9 = .ok (.iconst 1, 1) := dk_4 (dk_at dksX3_isInput_0 9 rfl rfl)
theorem dX3_isInput_10 : decode cX3_isInput 10 = .ok (.goto 4, 3) := dk_167 0 4 (dk_at dksX3_isInput_0 10 rfl rfl)
theorem dX3_isInput_13 : decode cX3_isInput 13 = .ok (.iconst 0, 1) := dk_3 (dk_at dksX3_isInput_0 13 rfl rfl)
theorem dX3_isInput_14 : decode cX3_isInput 14 = .ok (.istore_n 1, 1) := dk_60 (dk_at dksX3_isInput_0 14 rfl rfl)
theorem dX3_isInput_15 : decode cX3_isInput 15 = .ok (.iconst 0, 1) := dk_3 (dk_at dksX3_isInput_0 15 rfl rfl)
theorem dX3_isInput_16 : decode cX3_isInput 16 = .ok (.istore_n 2, 1) := dk_61 (dk_at dksX3_isInput_0 16 rfl rfl)
theorem dX3_isInput_17 : decode cX3_isInput 17 = .ok (.iload_n 2, 1) := dk_28 (dk_at dksX3_isInput_0 17 rfl rfl)
theorem dX3_isInput_18 : decode cX3_isInput 18 = .ok (.aload_n 0, 1) := dk_42 (dk_at dksX3_isInput_0 18 rfl rfl)
theorem dX3_isInput_19 : decode cX3_isInput 19 = .ok (.invokevirtual 66, 3) := dk_182 0 66 (dk_at dksX3_isInput_0 19 rfl rfl)
theorem dX3_isInput_22 : decode cX3_isInput 22 = .ok (.if_icmp .ge 30, 3) := dk_162 0 30 (dk_at dksX3_isInput_1 0 rfl rfl)
theorem dX3_isInput_25 : decode cX3_isInput 25 = .ok (.iload_n 1, 1) := dk_27 (dk_at dksX3_isInput_1 3 rfl rfl)
theorem dX3_isInput_26 : decode cX3_isInput 26 = .ok (.ifCond .eq 18, 3) := dk_153 0 18 (dk_at dksX3_isInput_1 4 rfl rfl)
theorem dX3_isInput_29 : decode cX3_isInput 29 = .ok (.aload_n 0, 1) := dk_42 (dk_at dksX3_isInput_1 7 rfl rfl)
theorem dX3_isInput_30 : decode cX3_isInput 30 = .ok (.iload_n 2, 1) := dk_28 (dk_at dksX3_isInput_1 8 rfl rfl)
theorem dX3_isInput_31 : decode cX3_isInput 31 = .ok (.invokevirtual 70, 3) := dk_182 0 70 (dk_at dksX3_isInput_1 9 rfl rfl)
theorem dX3_isInput_34 : decode cX3_isInput 34 = .ok (.invokestatic 74, 3) := dk_184 0 74 (dk_at dksX3_isInput_1 12 rfl rfl)
theorem dX3_isInput_37 : decode cX3_isInput 37 = .ok (.ifCond .eq 7, 3) := dk_153 0 7 (dk_at dksX3_isInput_1 15 rfl rfl)
theorem dX3_isInput_40 : decode cX3_isInput 40 = .ok (.iconst 1, 1) := dk_4 (dk_at dksX3_isInput_1 18 rfl rfl)
theorem dX3_isInput_41 : decode cX3_isInput 41 = .ok (.goto 4, 3) := dk_167 0 4 (dk_at dksX3_isInput_1 19 rfl rfl)
theorem dX3_isInput_44 : decode cX3_isInput 44 = .ok (.iconst 0, 1) := dk_3 (dk_at dksX3_isInput_1 22 rfl rfl)
theorem dX3_isInput_45 : decode cX3_isInput 45 = .ok (.istore_n 1, 1) := dk_60 (dk_at dksX3_isInput_1 23 rfl rfl)
theorem dX3_isInput_46 : decode cX3_isInput 46 = .ok (.iinc 2 1, 3) := dk_132 2 1 (dk_at dksX3_isInput_2 0 rfl rfl)
theorem dX3_isInput_49 : decode cX3_isInput 49 = .ok (.goto (-32), 3) := dk_167 255 224 (dk_at dksX3_isInput_2 3 rfl rfl)
theorem dX3_isInput_52 : decode cX3_isInput 52 = .ok (.iload_n 1, 1) := dk_27 (dk_at dksX3_isInput_2 6 rfl rfl)
theorem dX3_isInput_53 : decode cX3_isInput 53 = .ok (.ireturn, 1) := dk_172 (dk_at dksX3_isInput_2 7 rfl rfl)
abbrev cX3_takes : ByteArray := prog_16_method_20_code
def yX3_takes : MethodName := ⟨RX3, "takes", "(Ljava/lang/String;)Z"⟩
def dkwX3_takes_8 : List UInt8 := [180, 0, 99, 182, 0, 202, 29, 172]
abbrev dktX3_takes_8 : List UInt8 := dkwX3_takes_8 ++ []
def dkwX3_takes_7 : List UInt8 := [43, 83, 42, 89, 180, 0, 199, 4, 96, 181, 0, 199, 42, 180, 0, 96, 4, 160, 0, 12, 42, 43, 42]
abbrev dktX3_takes_7 : List UInt8 := dkwX3_takes_7 ++ dktX3_takes_8
def dkwX3_takes_6 : List UInt8 := [180, 0, 50, 184, 0, 186, 167, 0, 7, 42, 180, 0, 50, 181, 0, 50, 42, 180, 0, 50, 42, 180, 0, 199]
abbrev dktX3_takes_6 : List UInt8 := dkwX3_takes_6 ++ dktX3_takes_7
def dkwX3_takes_5 : List UInt8 := [167, 0, 4, 3, 62, 29, 153, 0, 53, 42, 42, 180, 0, 199, 42, 180, 0, 50, 190, 160, 0, 13, 42]
abbrev dktX3_takes_5 : List UInt8 := dkwX3_takes_5 ++ dktX3_takes_6
def dkwX3_takes_4 : List UInt8 := [167, 0, 4, 3, 84, 132, 3, 1, 167, 255, 187, 28, 153, 0, 14, 42, 180, 0, 96, 154, 0, 7, 4]
abbrev dktX3_takes_4 : List UInt8 := dkwX3_takes_4 ++ dktX3_takes_5
def dkwX3_takes_3 : List UInt8 := [180, 0, 47, 29, 42, 180, 0, 47, 29, 51, 154, 0, 12, 42, 180, 0, 40, 29, 51, 153, 0, 7, 4]
abbrev dktX3_takes_3 : List UInt8 := dkwX3_takes_3 ++ dktX3_takes_4
def dkwX3_takes_2 : List UInt8 := [180, 0, 40, 29, 51, 153, 0, 16, 42, 180, 0, 47, 29, 51, 154, 0, 7, 4, 167, 0, 4, 3, 61, 42]
abbrev dktX3_takes_2 : List UInt8 := dkwX3_takes_2 ++ dktX3_takes_3
def dkwX3_takes_1 : List UInt8 := [133, 97, 181, 0, 195, 3, 61, 3, 62, 29, 42, 180, 0, 40, 190, 162, 0, 66, 28, 154, 0, 21, 42]
abbrev dktX3_takes_1 : List UInt8 := dkwX3_takes_1 ++ dktX3_takes_2
def dkwX3_takes_0 : List UInt8 := [42, 43, 182, 0, 168, 42, 89, 180, 0, 193, 4, 96, 181, 0, 193, 42, 89, 180, 0, 195, 42, 180, 0, 93]
abbrev dktX3_takes_0 : List UInt8 := dkwX3_takes_0 ++ dktX3_takes_1
theorem dksX3_takes_0 : cX3_takes.data.toList.drop 0 = dktX3_takes_0 := by decide +kernel
theorem dksX3_takes_1 : cX3_takes.data.toList.drop 24 = dktX3_takes_1 := dk_seg dksX3_takes_0 24 rfl rfl
theorem dksX3_takes_2 : cX3_takes.data.toList.drop 47 = dktX3_takes_2 := dk_seg dksX3_takes_1 23 rfl rfl
theorem dksX3_takes_3 : cX3_takes.data.toList.drop 71 = dktX3_takes_3 := dk_seg dksX3_takes_2 24 rfl rfl
theorem dksX3_takes_4 : cX3_takes.data.toList.drop 94 = dktX3_takes_4 := dk_seg dksX3_takes_3 23 rfl rfl
theorem dksX3_takes_5 : cX3_takes.data.toList.drop 117 = dktX3_takes_5 := dk_seg dksX3_takes_4 23 rfl rfl
theorem dksX3_takes_6 : cX3_takes.data.toList.drop 140 = dktX3_takes_6 := dk_seg dksX3_takes_5 23 rfl rfl
theorem dksX3_takes_7 : cX3_takes.data.toList.drop 164 = dktX3_takes_7 := dk_seg dksX3_takes_6 24 rfl rfl
theorem dksX3_takes_8 : cX3_takes.data.toList.drop 187 = dktX3_takes_8 := dk_seg dksX3_takes_7 23 rfl rfl
theorem dX3_takes_0 : decode cX3_takes 0 = .ok (.aload_n 0, 1) := dk_42 (dk_at dksX3_takes_0 0 rfl rfl)
theorem dX3_takes_1 : decode cX3_takes 1 = .ok (.aload_n 1, 1) := dk_43 (dk_at dksX3_takes_0 1 rfl rfl)
theorem dX3_takes_2 : decode cX3_takes 2 = .ok (.invokevirtual 168, 3) := dk_182 0 168 (dk_at dksX3_takes_0 2 rfl rfl)
theorem dX3_takes_5 : decode cX3_takes 5 = .ok (.aload_n 0, 1) := dk_42 (dk_at dksX3_takes_0 5 rfl rfl)
theorem dX3_takes_6 : decode cX3_takes 6 = .ok (.dup, 1) := dk_89 (dk_at dksX3_takes_0 6 rfl rfl)
theorem dX3_takes_7 : decode cX3_takes 7 = .ok (.getfield 193, 3) := dk_180 0 193 (dk_at dksX3_takes_0 7 rfl rfl)
theorem dX3_takes_10 : decode cX3_takes 10 = .ok (.iconst 1, 1) := dk_4 (dk_at dksX3_takes_0 10 rfl rfl)
theorem dX3_takes_11 : decode cX3_takes 11 = .ok (.iadd, 1) := dk_96 (dk_at dksX3_takes_0 11 rfl rfl)
theorem dX3_takes_12 : decode cX3_takes 12 = .ok (.putfield 193, 3) := dk_181 0 193 (dk_at dksX3_takes_0 12 rfl rfl)
theorem dX3_takes_15 : decode cX3_takes 15 = .ok (.aload_n 0, 1) := dk_42 (dk_at dksX3_takes_0 15 rfl rfl)
theorem dX3_takes_16 : decode cX3_takes 16 = .ok (.dup, 1) := dk_89 (dk_at dksX3_takes_0 16 rfl rfl)
theorem dX3_takes_17 : decode cX3_takes 17 = .ok (.getfield 195, 3) := dk_180 0 195 (dk_at dksX3_takes_0 17 rfl rfl)
theorem dX3_takes_20 : decode cX3_takes 20 = .ok (.aload_n 0, 1) := dk_42 (dk_at dksX3_takes_0 20 rfl rfl)
theorem dX3_takes_21 : decode cX3_takes 21 = .ok (.getfield 93, 3) := dk_180 0 93 (dk_at dksX3_takes_0 21 rfl rfl)
theorem dX3_takes_24 : decode cX3_takes 24 = .ok (.i2l, 1) := dk_133 (dk_at dksX3_takes_1 0 rfl rfl)
theorem dX3_takes_25 : decode cX3_takes 25 = .ok (.ladd, 1) := dk_97 (dk_at dksX3_takes_1 1 rfl rfl)
theorem dX3_takes_26 : decode cX3_takes 26 = .ok (.putfield 195, 3) := dk_181 0 195 (dk_at dksX3_takes_1 2 rfl rfl)
theorem dX3_takes_29 : decode cX3_takes 29 = .ok (.iconst 0, 1) := dk_3 (dk_at dksX3_takes_1 5 rfl rfl)
theorem dX3_takes_30 : decode cX3_takes 30 = .ok (.istore_n 2, 1) := dk_61 (dk_at dksX3_takes_1 6 rfl rfl)
theorem dX3_takes_31 : decode cX3_takes 31 = .ok (.iconst 0, 1) := dk_3 (dk_at dksX3_takes_1 7 rfl rfl)
theorem dX3_takes_32 : decode cX3_takes 32 = .ok (.istore_n 3, 1) := dk_62 (dk_at dksX3_takes_1 8 rfl rfl)
theorem dX3_takes_33 : decode cX3_takes 33 = .ok (.iload_n 3, 1) := dk_29 (dk_at dksX3_takes_1 9 rfl rfl)
theorem dX3_takes_34 : decode cX3_takes 34 = .ok (.aload_n 0, 1) := dk_42 (dk_at dksX3_takes_1 10 rfl rfl)
theorem dX3_takes_35 : decode cX3_takes 35 = .ok (.getfield 40, 3) := dk_180 0 40 (dk_at dksX3_takes_1 11 rfl rfl)
theorem dX3_takes_38 : decode cX3_takes 38 = .ok (.arraylength, 1) := dk_190 (dk_at dksX3_takes_1 14 rfl rfl)
theorem dX3_takes_39 : decode cX3_takes 39 = .ok (.if_icmp .ge 66, 3) := dk_162 0 66 (dk_at dksX3_takes_1 15 rfl rfl)
theorem dX3_takes_42 : decode cX3_takes 42 = .ok (.iload_n 2, 1) := dk_28 (dk_at dksX3_takes_1 18 rfl rfl)
theorem dX3_takes_43 : decode cX3_takes 43 = .ok (.ifCond .ne 21, 3) := dk_154 0 21 (dk_at dksX3_takes_1 19 rfl rfl)
theorem dX3_takes_46 : decode cX3_takes 46 = .ok (.aload_n 0, 1) := dk_42 (dk_at dksX3_takes_1 22 rfl rfl)
theorem dX3_takes_47 : decode cX3_takes 47 = .ok (.getfield 40, 3) := dk_180 0 40 (dk_at dksX3_takes_2 0 rfl rfl)
theorem dX3_takes_50 : decode cX3_takes 50 = .ok (.iload_n 3, 1) := dk_29 (dk_at dksX3_takes_2 3 rfl rfl)
theorem dX3_takes_51 : decode cX3_takes 51 = .ok (.baload, 1) := dk_51 (dk_at dksX3_takes_2 4 rfl rfl)
theorem dX3_takes_52 : decode cX3_takes 52 = .ok (.ifCond .eq 16, 3) := dk_153 0 16 (dk_at dksX3_takes_2 5 rfl rfl)
theorem dX3_takes_55 : decode cX3_takes 55 = .ok (.aload_n 0, 1) := dk_42 (dk_at dksX3_takes_2 8 rfl rfl)
theorem dX3_takes_56 : decode cX3_takes 56 = .ok (.getfield 47, 3) := dk_180 0 47 (dk_at dksX3_takes_2 9 rfl rfl)
theorem dX3_takes_59 : decode cX3_takes 59 = .ok (.iload_n 3, 1) := dk_29 (dk_at dksX3_takes_2 12 rfl rfl)
theorem dX3_takes_60 : decode cX3_takes 60 = .ok (.baload, 1) := dk_51 (dk_at dksX3_takes_2 13 rfl rfl)
theorem dX3_takes_61 : decode cX3_takes 61 = .ok (.ifCond .ne 7, 3) := dk_154 0 7 (dk_at dksX3_takes_2 14 rfl rfl)
theorem dX3_takes_64 : decode cX3_takes 64 = .ok (.iconst 1, 1) := dk_4 (dk_at dksX3_takes_2 17 rfl rfl)
theorem dX3_takes_65 : decode cX3_takes 65 = .ok (.goto 4, 3) := dk_167 0 4 (dk_at dksX3_takes_2 18 rfl rfl)
theorem dX3_takes_68 : decode cX3_takes 68 = .ok (.iconst 0, 1) := dk_3 (dk_at dksX3_takes_2 21 rfl rfl)
theorem dX3_takes_69 : decode cX3_takes 69 = .ok (.istore_n 2, 1) := dk_61 (dk_at dksX3_takes_2 22 rfl rfl)
theorem dX3_takes_70 : decode cX3_takes 70 = .ok (.aload_n 0, 1) := dk_42 (dk_at dksX3_takes_2 23 rfl rfl)
theorem dX3_takes_71 : decode cX3_takes 71 = .ok (.getfield 47, 3) := dk_180 0 47 (dk_at dksX3_takes_3 0 rfl rfl)
theorem dX3_takes_74 : decode cX3_takes 74 = .ok (.iload_n 3, 1) := dk_29 (dk_at dksX3_takes_3 3 rfl rfl)
theorem dX3_takes_75 : decode cX3_takes 75 = .ok (.aload_n 0, 1) := dk_42 (dk_at dksX3_takes_3 4 rfl rfl)
theorem dX3_takes_76 : decode cX3_takes 76 = .ok (.getfield 47, 3) := dk_180 0 47 (dk_at dksX3_takes_3 5 rfl rfl)
theorem dX3_takes_79 : decode cX3_takes 79 = .ok (.iload_n 3, 1) := dk_29 (dk_at dksX3_takes_3 8 rfl rfl)
theorem dX3_takes_80 : decode cX3_takes 80 = .ok (.baload, 1) := dk_51 (dk_at dksX3_takes_3 9 rfl rfl)
theorem dX3_takes_81 : decode cX3_takes 81 = .ok (.ifCond .ne 12, 3) := dk_154 0 12 (dk_at dksX3_takes_3 10 rfl rfl)
theorem dX3_takes_84 : decode cX3_takes 84 = .ok (.aload_n 0, 1) := dk_42 (dk_at dksX3_takes_3 13 rfl rfl)
theorem dX3_takes_85 : decode cX3_takes 85 = .ok (.getfield 40, 3) := dk_180 0 40 (dk_at dksX3_takes_3 14 rfl rfl)
theorem dX3_takes_88 : decode cX3_takes 88 = .ok (.iload_n 3, 1) := dk_29 (dk_at dksX3_takes_3 17 rfl rfl)
theorem dX3_takes_89 : decode cX3_takes 89 = .ok (.baload, 1) := dk_51 (dk_at dksX3_takes_3 18 rfl rfl)
theorem dX3_takes_90 : decode cX3_takes 90 = .ok (.ifCond .eq 7, 3) := dk_153 0 7 (dk_at dksX3_takes_3 19 rfl rfl)
theorem dX3_takes_93 : decode cX3_takes 93 = .ok (.iconst 1, 1) := dk_4 (dk_at dksX3_takes_3 22 rfl rfl)
theorem dX3_takes_94 : decode cX3_takes 94 = .ok (.goto 4, 3) := dk_167 0 4 (dk_at dksX3_takes_4 0 rfl rfl)
theorem dX3_takes_97 : decode cX3_takes 97 = .ok (.iconst 0, 1) := dk_3 (dk_at dksX3_takes_4 3 rfl rfl)
theorem dX3_takes_98 : decode cX3_takes 98 = .ok (.bastore, 1) := dk_84 (dk_at dksX3_takes_4 4 rfl rfl)
theorem dX3_takes_99 : decode cX3_takes 99 = .ok (.iinc 3 1, 3) := dk_132 3 1 (dk_at dksX3_takes_4 5 rfl rfl)
theorem dX3_takes_102 : decode cX3_takes 102 = .ok (.goto (-69), 3) := dk_167 255 187 (dk_at dksX3_takes_4 8 rfl rfl)
theorem dX3_takes_105 : decode cX3_takes 105 = .ok (.iload_n 2, 1) := dk_28 (dk_at dksX3_takes_4 11 rfl rfl)
theorem dX3_takes_106 : decode cX3_takes 106 = .ok (.ifCond .eq 14, 3) := dk_153 0 14 (dk_at dksX3_takes_4 12 rfl rfl)
theorem dX3_takes_109 : decode cX3_takes 109 = .ok (.aload_n 0, 1) := dk_42 (dk_at dksX3_takes_4 15 rfl rfl)
theorem dX3_takes_110 : decode cX3_takes 110 = .ok (.getfield 96, 3) := dk_180 0 96 (dk_at dksX3_takes_4 16 rfl rfl)
theorem dX3_takes_113 : decode cX3_takes 113 = .ok (.ifCond .ne 7, 3) := dk_154 0 7 (dk_at dksX3_takes_4 19 rfl rfl)
theorem dX3_takes_116 : decode cX3_takes 116 = .ok (.iconst 1, 1) := dk_4 (dk_at dksX3_takes_4 22 rfl rfl)
theorem dX3_takes_117 : decode cX3_takes 117 = .ok (.goto 4, 3) := dk_167 0 4 (dk_at dksX3_takes_5 0 rfl rfl)
theorem dX3_takes_120 : decode cX3_takes 120 = .ok (.iconst 0, 1) := dk_3 (dk_at dksX3_takes_5 3 rfl rfl)
theorem dX3_takes_121 : decode cX3_takes 121 = .ok (.istore_n 3, 1) := dk_62 (dk_at dksX3_takes_5 4 rfl rfl)
theorem dX3_takes_122 : decode cX3_takes 122 = .ok (.iload_n 3, 1) := dk_29 (dk_at dksX3_takes_5 5 rfl rfl)
theorem dX3_takes_123 : decode cX3_takes 123 = .ok (.ifCond .eq 53, 3) := dk_153 0 53 (dk_at dksX3_takes_5 6 rfl rfl)
theorem dX3_takes_126 : decode cX3_takes 126 = .ok (.aload_n 0, 1) := dk_42 (dk_at dksX3_takes_5 9 rfl rfl)
theorem dX3_takes_127 : decode cX3_takes 127 = .ok (.aload_n 0, 1) := dk_42 (dk_at dksX3_takes_5 10 rfl rfl)
theorem dX3_takes_128 : decode cX3_takes 128 = .ok (.getfield 199, 3) := dk_180 0 199 (dk_at dksX3_takes_5 11 rfl rfl)
theorem dX3_takes_131 : decode cX3_takes 131 = .ok (.aload_n 0, 1) := dk_42 (dk_at dksX3_takes_5 14 rfl rfl)
theorem dX3_takes_132 : decode cX3_takes 132 = .ok (.getfield 50, 3) := dk_180 0 50 (dk_at dksX3_takes_5 15 rfl rfl)
theorem dX3_takes_135 : decode cX3_takes 135 = .ok (.arraylength, 1) := dk_190 (dk_at dksX3_takes_5 18 rfl rfl)
theorem dX3_takes_136 : decode cX3_takes 136 = .ok (.if_icmp .ne 13, 3) := dk_160 0 13 (dk_at dksX3_takes_5 19 rfl rfl)
theorem dX3_takes_139 : decode cX3_takes 139 = .ok (.aload_n 0, 1) := dk_42 (dk_at dksX3_takes_5 22 rfl rfl)
theorem dX3_takes_140 : decode cX3_takes 140 = .ok (.getfield 50, 3) := dk_180 0 50 (dk_at dksX3_takes_6 0 rfl rfl)
theorem dX3_takes_143 : decode cX3_takes 143 = .ok (.invokestatic 186, 3) := dk_184 0 186 (dk_at dksX3_takes_6 3 rfl rfl)
theorem dX3_takes_146 : decode cX3_takes 146 = .ok (.goto 7, 3) := dk_167 0 7 (dk_at dksX3_takes_6 6 rfl rfl)
theorem dX3_takes_149 : decode cX3_takes 149 = .ok (.aload_n 0, 1) := dk_42 (dk_at dksX3_takes_6 9 rfl rfl)
theorem dX3_takes_150 : decode cX3_takes 150 = .ok (.getfield 50, 3) := dk_180 0 50 (dk_at dksX3_takes_6 10 rfl rfl)
theorem dX3_takes_153 : decode cX3_takes 153 = .ok (.putfield 50, 3) := dk_181 0 50 (dk_at dksX3_takes_6 13 rfl rfl)
theorem dX3_takes_156 : decode cX3_takes 156 = .ok (.aload_n 0, 1) := dk_42 (dk_at dksX3_takes_6 16 rfl rfl)
theorem dX3_takes_157 : decode cX3_takes 157 = .ok (.getfield 50, 3) := dk_180 0 50 (dk_at dksX3_takes_6 17 rfl rfl)
theorem dX3_takes_160 : decode cX3_takes 160 = .ok (.aload_n 0, 1) := dk_42 (dk_at dksX3_takes_6 20 rfl rfl)
theorem dX3_takes_161 : decode cX3_takes 161 = .ok (.getfield 199, 3) := dk_180 0 199 (dk_at dksX3_takes_6 21 rfl rfl)
theorem dX3_takes_164 : decode cX3_takes 164 = .ok (.aload_n 1, 1) := dk_43 (dk_at dksX3_takes_7 0 rfl rfl)
theorem dX3_takes_165 : decode cX3_takes 165 = .ok (.aastore, 1) := dk_83 (dk_at dksX3_takes_7 1 rfl rfl)
theorem dX3_takes_166 : decode cX3_takes 166 = .ok (.aload_n 0, 1) := dk_42 (dk_at dksX3_takes_7 2 rfl rfl)
theorem dX3_takes_167 : decode cX3_takes 167 = .ok (.dup, 1) := dk_89 (dk_at dksX3_takes_7 3 rfl rfl)
theorem dX3_takes_168 : decode cX3_takes 168 = .ok (.getfield 199, 3) := dk_180 0 199 (dk_at dksX3_takes_7 4 rfl rfl)
theorem dX3_takes_171 : decode cX3_takes 171 = .ok (.iconst 1, 1) := dk_4 (dk_at dksX3_takes_7 7 rfl rfl)
theorem dX3_takes_172 : decode cX3_takes 172 = .ok (.iadd, 1) := dk_96 (dk_at dksX3_takes_7 8 rfl rfl)
theorem dX3_takes_173 : decode cX3_takes 173 = .ok (.putfield 199, 3) := dk_181 0 199 (dk_at dksX3_takes_7 9 rfl rfl)
theorem dX3_takes_176 : decode cX3_takes 176 = .ok (.aload_n 0, 1) := dk_42 (dk_at dksX3_takes_7 12 rfl rfl)
theorem dX3_takes_177 : decode cX3_takes 177 = .ok (.getfield 96, 3) := dk_180 0 96 (dk_at dksX3_takes_7 13 rfl rfl)
theorem dX3_takes_180 : decode cX3_takes 180 = .ok (.iconst 1, 1) := dk_4 (dk_at dksX3_takes_7 16 rfl rfl)
theorem dX3_takes_181 : decode cX3_takes 181 = .ok (.if_icmp .ne 12, 3) := dk_160 0 12 (dk_at dksX3_takes_7 17 rfl rfl)
theorem dX3_takes_184 : decode cX3_takes 184 = .ok (.aload_n 0, 1) := dk_42 (dk_at dksX3_takes_7 20 rfl rfl)
theorem dX3_takes_185 : decode cX3_takes 185 = .ok (.aload_n 1, 1) := dk_43 (dk_at dksX3_takes_7 21 rfl rfl)
theorem dX3_takes_186 : decode cX3_takes 186 = .ok (.aload_n 0, 1) := dk_42 (dk_at dksX3_takes_7 22 rfl rfl)
theorem dX3_takes_187 : decode cX3_takes 187 = .ok (.getfield 99, 3) := dk_180 0 99 (dk_at dksX3_takes_8 0 rfl rfl)
theorem dX3_takes_190 : decode cX3_takes 190 = .ok (.invokevirtual 202, 3) := dk_182 0 202 (dk_at dksX3_takes_8 3 rfl rfl)
theorem dX3_takes_193 : decode cX3_takes 193 = .ok (.iload_n 3, 1) := dk_29 (dk_at dksX3_takes_8 6 rfl rfl)
theorem dX3_takes_194 : decode cX3_takes 194 = .ok (.ireturn, 1) := dk_172 (dk_at dksX3_takes_8 7 rfl rfl)
abbrev cX3_runs : ByteArray := prog_16_method_7_code
def yX3_runs : MethodName := ⟨RX3, "runs", "(Ljava/lang/String;)V"⟩
def dkwX3_runs_17 : List UInt8 := [180, 0, 102, 162, 0, 7, 4, 167, 0, 4, 3, 54, 4, 167, 254, 185, 177]
abbrev dktX3_runs_17 : List UInt8 := dkwX3_runs_17 ++ []
def dkwX3_runs_16 : List UInt8 := [167, 0, 35, 42, 180, 0, 40, 16, 17, 29, 104, 21, 7, 96, 4, 84, 21, 7, 62, 21, 7, 42]
abbrev dktX3_runs_16 : List UInt8 := dkwX3_runs_16 ++ dktX3_runs_17
def dkwX3_runs_15 : List UInt8 := [180, 0, 102, 162, 0, 23, 42, 180, 0, 93, 16, 64, 160, 0, 14, 42, 5, 181, 0, 96, 3, 54, 4]
abbrev dktX3_runs_15 : List UInt8 := dkwX3_runs_15 ++ dktX3_runs_16
def dkwX3_runs_14 : List UInt8 := [153, 0, 12, 42, 180, 0, 19, 29, 46, 167, 0, 6, 29, 4, 96, 184, 0, 127, 54, 7, 21, 7, 42]
abbrev dktX3_runs_14 : List UInt8 := dkwX3_runs_14 ++ dktX3_runs_15
def dkwX3_runs_13 : List UInt8 := [46, 167, 0, 4, 3, 181, 0, 99, 3, 54, 4, 167, 0, 93, 42, 180, 0, 102, 42, 29, 182, 0, 123]
abbrev dktX3_runs_13 : List UInt8 := dkwX3_runs_13 ++ dktX3_runs_14
def dkwX3_runs_12 : List UInt8 := [167, 0, 4, 3, 181, 0, 96, 42, 21, 5, 178, 0, 117, 182, 0, 84, 160, 0, 12, 42, 180, 0, 16, 29]
abbrev dktX3_runs_12 : List UInt8 := dkwX3_runs_12 ++ dktX3_runs_13
def dkwX3_runs_11 : List UInt8 := [21, 5, 178, 0, 120, 182, 0, 84, 160, 0, 54, 42, 21, 5, 178, 0, 117, 182, 0, 84, 160, 0, 7, 4]
abbrev dktX3_runs_11 : List UInt8 := dkwX3_runs_11 ++ dktX3_runs_12
def dkwX3_runs_10 : List UInt8 := [180, 0, 44, 42, 180, 0, 19, 29, 46, 46, 96, 79, 21, 5, 178, 0, 117, 182, 0, 84, 159, 0, 14]
abbrev dktX3_runs_10 : List UInt8 := dkwX3_runs_10 ++ dktX3_runs_11
def dkwX3_runs_9 : List UInt8 := [79, 167, 0, 35, 21, 5, 178, 0, 114, 182, 0, 84, 160, 0, 24, 42, 180, 0, 44, 21, 6, 92, 46, 42]
abbrev dktX3_runs_9 : List UInt8 := dkwX3_runs_9 ++ dktX3_runs_10
def dkwX3_runs_8 : List UInt8 := [178, 0, 111, 182, 0, 84, 160, 0, 22, 42, 180, 0, 44, 21, 6, 92, 46, 42, 180, 0, 16, 29, 46, 96]
abbrev dktX3_runs_8 : List UInt8 := dkwX3_runs_8 ++ dktX3_runs_9
def dkwX3_runs_7 : List UInt8 := [182, 0, 84, 160, 0, 19, 42, 180, 0, 44, 21, 6, 42, 180, 0, 16, 29, 46, 79, 167, 0, 65, 21, 5]
abbrev dktX3_runs_7 : List UInt8 := dkwX3_runs_7 ++ dktX3_runs_8
def dkwX3_runs_6 : List UInt8 := [182, 0, 70, 16, 48, 100, 167, 0, 4, 2, 79, 132, 2, 1, 167, 0, 92, 21, 5, 178, 0, 108]
abbrev dktX3_runs_6 : List UInt8 := dkwX3_runs_6 ++ dktX3_runs_7
def dkwX3_runs_5 : List UInt8 := [182, 0, 84, 160, 0, 36, 42, 180, 0, 44, 21, 6, 28, 43, 182, 0, 66, 162, 0, 14, 43, 28]
abbrev dktX3_runs_5 : List UInt8 := dkwX3_runs_5 ++ dktX3_runs_6
def dkwX3_runs_4 : List UInt8 := [180, 0, 13, 29, 46, 54, 6, 42, 89, 180, 0, 93, 4, 96, 181, 0, 93, 21, 5, 178, 0, 105]
abbrev dktX3_runs_4 : List UInt8 := dkwX3_runs_4 ++ dktX3_runs_5
def dkwX3_runs_3 : List UInt8 := [162, 0, 7, 4, 167, 0, 4, 3, 54, 4, 21, 4, 153, 1, 72, 42, 180, 0, 9, 29, 46, 54, 5, 42]
abbrev dktX3_runs_3 : List UInt8 := dkwX3_runs_3 ++ dktX3_runs_4
def dkwX3_runs_2 : List UInt8 := [3, 61, 3, 62, 42, 3, 181, 0, 93, 42, 3, 181, 0, 96, 42, 3, 181, 0, 99, 29, 42, 180, 0, 102]
abbrev dktX3_runs_2 : List UInt8 := dkwX3_runs_2 ++ dktX3_runs_3
def dkwX3_runs_1 : List UInt8 := [3, 61, 28, 42, 180, 0, 44, 190, 162, 0, 16, 42, 180, 0, 44, 28, 3, 79, 132, 2, 1, 167, 255, 237]
abbrev dktX3_runs_1 : List UInt8 := dkwX3_runs_1 ++ dktX3_runs_2
def dkwX3_runs_0 : List UInt8 := [3, 61, 28, 42, 180, 0, 40, 190, 162, 0, 16, 42, 180, 0, 40, 28, 3, 84, 132, 2, 1, 167, 255, 237]
abbrev dktX3_runs_0 : List UInt8 := dkwX3_runs_0 ++ dktX3_runs_1
theorem dksX3_runs_0 : cX3_runs.data.toList.drop 0 = dktX3_runs_0 := by decide +kernel
theorem dksX3_runs_1 : cX3_runs.data.toList.drop 24 = dktX3_runs_1 := dk_seg dksX3_runs_0 24 rfl rfl
theorem dksX3_runs_2 : cX3_runs.data.toList.drop 48 = dktX3_runs_2 := dk_seg dksX3_runs_1 24 rfl rfl
theorem dksX3_runs_3 : cX3_runs.data.toList.drop 72 = dktX3_runs_3 := dk_seg dksX3_runs_2 24 rfl rfl
theorem dksX3_runs_4 : cX3_runs.data.toList.drop 96 = dktX3_runs_4 := dk_seg dksX3_runs_3 24 rfl rfl
theorem dksX3_runs_5 : cX3_runs.data.toList.drop 118 = dktX3_runs_5 := dk_seg dksX3_runs_4 22 rfl rfl
theorem dksX3_runs_6 : cX3_runs.data.toList.drop 140 = dktX3_runs_6 := dk_seg dksX3_runs_5 22 rfl rfl
theorem dksX3_runs_7 : cX3_runs.data.toList.drop 162 = dktX3_runs_7 := dk_seg dksX3_runs_6 22 rfl rfl
theorem dksX3_runs_8 : cX3_runs.data.toList.drop 186 = dktX3_runs_8 := dk_seg dksX3_runs_7 24 rfl rfl
theorem dksX3_runs_9 : cX3_runs.data.toList.drop 210 = dktX3_runs_9 := dk_seg dksX3_runs_8 24 rfl rfl
theorem dksX3_runs_10 : cX3_runs.data.toList.drop 234 = dktX3_runs_10 := dk_seg dksX3_runs_9 24 rfl rfl
theorem dksX3_runs_11 : cX3_runs.data.toList.drop 257 = dktX3_runs_11 := dk_seg dksX3_runs_10 23 rfl rfl
theorem dksX3_runs_12 : cX3_runs.data.toList.drop 281 = dktX3_runs_12 := dk_seg dksX3_runs_11 24 rfl rfl
theorem dksX3_runs_13 : cX3_runs.data.toList.drop 305 = dktX3_runs_13 := dk_seg dksX3_runs_12 24 rfl rfl
theorem dksX3_runs_14 : cX3_runs.data.toList.drop 328 = dktX3_runs_14 := dk_seg dksX3_runs_13 23 rfl rfl
theorem dksX3_runs_15 : cX3_runs.data.toList.drop 351 = dktX3_runs_15 := dk_seg dksX3_runs_14 23 rfl rfl
theorem dksX3_runs_16 : cX3_runs.data.toList.drop 374 = dktX3_runs_16 := dk_seg dksX3_runs_15 23 rfl rfl
theorem dksX3_runs_17 : cX3_runs.data.toList.drop 396 = dktX3_runs_17 := dk_seg dksX3_runs_16 22 rfl rfl
theorem dX3_runs_0 : decode cX3_runs 0 = .ok (.iconst 0, 1) := dk_3 (dk_at dksX3_runs_0 0 rfl rfl)
theorem dX3_runs_1 : decode cX3_runs 1 = .ok (.istore_n 2, 1) := dk_61 (dk_at dksX3_runs_0 1 rfl rfl)
theorem dX3_runs_2 : decode cX3_runs 2 = .ok (.iload_n 2, 1) := dk_28 (dk_at dksX3_runs_0 2 rfl rfl)
theorem dX3_runs_3 : decode cX3_runs 3 = .ok (.aload_n 0, 1) := dk_42 (dk_at dksX3_runs_0 3 rfl rfl)
theorem dX3_runs_4 : decode cX3_runs 4 = .ok (.getfield 40, 3) := dk_180 0 40 (dk_at dksX3_runs_0 4 rfl rfl)
theorem dX3_runs_7 : decode cX3_runs 7 = .ok (.arraylength, 1) := dk_190 (dk_at dksX3_runs_0 7 rfl rfl)
theorem dX3_runs_8 : decode cX3_runs 8 = .ok (.if_icmp .ge 16, 3) := dk_162 0 16 (dk_at dksX3_runs_0 8 rfl rfl)
theorem dX3_runs_11 : decode cX3_runs 11 = .ok (.aload_n 0, 1) := dk_42 (dk_at dksX3_runs_0 11 rfl rfl)
theorem dX3_runs_12 : decode cX3_runs 12 = .ok (.getfield 40, 3) := dk_180 0 40 (dk_at dksX3_runs_0 12 rfl rfl)
theorem dX3_runs_15 : decode cX3_runs 15 = .ok (.iload_n 2, 1) := dk_28 (dk_at dksX3_runs_0 15 rfl rfl)
theorem dX3_runs_16 : decode cX3_runs 16 = .ok (.iconst 0, 1) := dk_3 (dk_at dksX3_runs_0 16 rfl rfl)
theorem dX3_runs_17 : decode cX3_runs 17 = .ok (.bastore, 1) := dk_84 (dk_at dksX3_runs_0 17 rfl rfl)
theorem dX3_runs_18 : decode cX3_runs 18 = .ok (.iinc 2 1, 3) := dk_132 2 1 (dk_at dksX3_runs_0 18 rfl rfl)
theorem dX3_runs_21 : decode cX3_runs 21 = .ok (.goto (-19), 3) := dk_167 255 237 (dk_at dksX3_runs_0 21 rfl rfl)
theorem dX3_runs_24 : decode cX3_runs 24 = .ok (.iconst 0, 1) := dk_3 (dk_at dksX3_runs_1 0 rfl rfl)
theorem dX3_runs_25 : decode cX3_runs 25 = .ok (.istore_n 2, 1) := dk_61 (dk_at dksX3_runs_1 1 rfl rfl)
theorem dX3_runs_26 : decode cX3_runs 26 = .ok (.iload_n 2, 1) := dk_28 (dk_at dksX3_runs_1 2 rfl rfl)
theorem dX3_runs_27 : decode cX3_runs 27 = .ok (.aload_n 0, 1) := dk_42 (dk_at dksX3_runs_1 3 rfl rfl)
theorem dX3_runs_28 : decode cX3_runs 28 = .ok (.getfield 44, 3) := dk_180 0 44 (dk_at dksX3_runs_1 4 rfl rfl)
theorem dX3_runs_31 : decode cX3_runs 31 = .ok (.arraylength, 1) := dk_190 (dk_at dksX3_runs_1 7 rfl rfl)
theorem dX3_runs_32 : decode cX3_runs 32 = .ok (.if_icmp .ge 16, 3) := dk_162 0 16 (dk_at dksX3_runs_1 8 rfl rfl)
theorem dX3_runs_35 : decode cX3_runs 35 = .ok (.aload_n 0, 1) := dk_42 (dk_at dksX3_runs_1 11 rfl rfl)
theorem dX3_runs_36 : decode cX3_runs 36 = .ok (.getfield 44, 3) := dk_180 0 44 (dk_at dksX3_runs_1 12 rfl rfl)
theorem dX3_runs_39 : decode cX3_runs 39 = .ok (.iload_n 2, 1) := dk_28 (dk_at dksX3_runs_1 15 rfl rfl)
theorem dX3_runs_40 : decode cX3_runs 40 = .ok (.iconst 0, 1) := dk_3 (dk_at dksX3_runs_1 16 rfl rfl)
theorem dX3_runs_41 : decode cX3_runs 41 = .ok (.iastore, 1) := dk_79 (dk_at dksX3_runs_1 17 rfl rfl)
theorem dX3_runs_42 : decode cX3_runs 42 = .ok (.iinc 2 1, 3) := dk_132 2 1 (dk_at dksX3_runs_1 18 rfl rfl)
theorem dX3_runs_45 : decode cX3_runs 45 = .ok (.goto (-19), 3) := dk_167 255 237 (dk_at dksX3_runs_1 21 rfl rfl)
theorem dX3_runs_48 : decode cX3_runs 48 = .ok (.iconst 0, 1) := dk_3 (dk_at dksX3_runs_2 0 rfl rfl)
theorem dX3_runs_49 : decode cX3_runs 49 = .ok (.istore_n 2, 1) := dk_61 (dk_at dksX3_runs_2 1 rfl rfl)
theorem dX3_runs_50 : decode cX3_runs 50 = .ok (.iconst 0, 1) := dk_3 (dk_at dksX3_runs_2 2 rfl rfl)
theorem dX3_runs_51 : decode cX3_runs 51 = .ok (.istore_n 3, 1) := dk_62 (dk_at dksX3_runs_2 3 rfl rfl)
theorem dX3_runs_52 : decode cX3_runs 52 = .ok (.aload_n 0, 1) := dk_42 (dk_at dksX3_runs_2 4 rfl rfl)
theorem dX3_runs_53 : decode cX3_runs 53 = .ok (.iconst 0, 1) := dk_3 (dk_at dksX3_runs_2 5 rfl rfl)
theorem dX3_runs_54 : decode cX3_runs 54 = .ok (.putfield 93, 3) := dk_181 0 93 (dk_at dksX3_runs_2 6 rfl rfl)
theorem dX3_runs_57 : decode cX3_runs 57 = .ok (.aload_n 0, 1) := dk_42 (dk_at dksX3_runs_2 9 rfl rfl)
theorem dX3_runs_58 : decode cX3_runs 58 = .ok (.iconst 0, 1) := dk_3 (dk_at dksX3_runs_2 10 rfl rfl)
theorem dX3_runs_59 : decode cX3_runs 59 = .ok (.putfield 96, 3) := dk_181 0 96 (dk_at dksX3_runs_2 11 rfl rfl)
theorem dX3_runs_62 : decode cX3_runs 62 = .ok (.aload_n 0, 1) := dk_42 (dk_at dksX3_runs_2 14 rfl rfl)
theorem dX3_runs_63 : decode cX3_runs 63 = .ok (.iconst 0, 1) := dk_3 (dk_at dksX3_runs_2 15 rfl rfl)
theorem dX3_runs_64 : decode cX3_runs 64 = .ok (.putfield 99, 3) := dk_181 0 99 (dk_at dksX3_runs_2 16 rfl rfl)
theorem dX3_runs_67 : decode cX3_runs 67 = .ok (.iload_n 3, 1) := dk_29 (dk_at dksX3_runs_2 19 rfl rfl)
theorem dX3_runs_68 : decode cX3_runs 68 = .ok (.aload_n 0, 1) := dk_42 (dk_at dksX3_runs_2 20 rfl rfl)
theorem dX3_runs_69 : decode cX3_runs 69 = .ok (.getfield 102, 3) := dk_180 0 102 (dk_at dksX3_runs_2 21 rfl rfl)
theorem dX3_runs_72 : decode cX3_runs 72 = .ok (.if_icmp .ge 7, 3) := dk_162 0 7 (dk_at dksX3_runs_3 0 rfl rfl)
theorem dX3_runs_75 : decode cX3_runs 75 = .ok (.iconst 1, 1) := dk_4 (dk_at dksX3_runs_3 3 rfl rfl)
theorem dX3_runs_76 : decode cX3_runs 76 = .ok (.goto 4, 3) := dk_167 0 4 (dk_at dksX3_runs_3 4 rfl rfl)
theorem dX3_runs_79 : decode cX3_runs 79 = .ok (.iconst 0, 1) := dk_3 (dk_at dksX3_runs_3 7 rfl rfl)
theorem dX3_runs_80 : decode cX3_runs 80 = .ok (.istore 4, 2) := dk_54 4 (dk_at dksX3_runs_3 8 rfl rfl)
theorem dX3_runs_82 : decode cX3_runs 82 = .ok (.iload 4, 2) := dk_21 4 (dk_at dksX3_runs_3 10 rfl rfl)
theorem dX3_runs_84 : decode cX3_runs 84 = .ok (.ifCond .eq 328, 3) := dk_153 1 72 (dk_at dksX3_runs_3 12 rfl rfl)
theorem dX3_runs_87 : decode cX3_runs 87 = .ok (.aload_n 0, 1) := dk_42 (dk_at dksX3_runs_3 15 rfl rfl)
theorem dX3_runs_88 : decode cX3_runs 88 = .ok (.getfield 9, 3) := dk_180 0 9 (dk_at dksX3_runs_3 16 rfl rfl)
theorem dX3_runs_91 : decode cX3_runs 91 = .ok (.iload_n 3, 1) := dk_29 (dk_at dksX3_runs_3 19 rfl rfl)
theorem dX3_runs_92 : decode cX3_runs 92 = .ok (.iaload, 1) := dk_46 (dk_at dksX3_runs_3 20 rfl rfl)
theorem dX3_runs_93 : decode cX3_runs 93 = .ok (.istore 5, 2) := dk_54 5 (dk_at dksX3_runs_3 21 rfl rfl)
theorem dX3_runs_95 : decode cX3_runs 95 = .ok (.aload_n 0, 1) := dk_42 (dk_at dksX3_runs_3 23 rfl rfl)
theorem dX3_runs_96 : decode cX3_runs 96 = .ok (.getfield 13, 3) := dk_180 0 13 (dk_at dksX3_runs_4 0 rfl rfl)
theorem dX3_runs_99 : decode cX3_runs 99 = .ok (.iload_n 3, 1) := dk_29 (dk_at dksX3_runs_4 3 rfl rfl)
theorem dX3_runs_100 : decode cX3_runs 100 = .ok (.iaload, 1) := dk_46 (dk_at dksX3_runs_4 4 rfl rfl)
theorem dX3_runs_101 : decode cX3_runs 101 = .ok (.istore 6, 2) := dk_54 6 (dk_at dksX3_runs_4 5 rfl rfl)
theorem dX3_runs_103 : decode cX3_runs 103 = .ok (.aload_n 0, 1) := dk_42 (dk_at dksX3_runs_4 7 rfl rfl)
theorem dX3_runs_104 : decode cX3_runs 104 = .ok (.dup, 1) := dk_89 (dk_at dksX3_runs_4 8 rfl rfl)
theorem dX3_runs_105 : decode cX3_runs 105 = .ok (.getfield 93, 3) := dk_180 0 93 (dk_at dksX3_runs_4 9 rfl rfl)
theorem dX3_runs_108 : decode cX3_runs 108 = .ok (.iconst 1, 1) := dk_4 (dk_at dksX3_runs_4 12 rfl rfl)
theorem dX3_runs_109 : decode cX3_runs 109 = .ok (.iadd, 1) := dk_96 (dk_at dksX3_runs_4 13 rfl rfl)
theorem dX3_runs_110 : decode cX3_runs 110 = .ok (.putfield 93, 3) := dk_181 0 93 (dk_at dksX3_runs_4 14 rfl rfl)
theorem dX3_runs_113 : decode cX3_runs 113 = .ok (.iload 5, 2) := dk_21 5 (dk_at dksX3_runs_4 17 rfl rfl)
theorem dX3_runs_115 : decode cX3_runs 115 = .ok (.getstatic 105, 3) := dk_178 0 105 (dk_at dksX3_runs_4 19 rfl rfl)
theorem dX3_runs_118 : decode cX3_runs 118 = .ok (.invokevirtual 84, 3) := dk_182 0 84 (dk_at dksX3_runs_5 0 rfl rfl)
theorem dX3_runs_121 : decode cX3_runs 121 = .ok (.if_icmp .ne 36, 3) := dk_160 0 36 (dk_at dksX3_runs_5 3 rfl rfl)
theorem dX3_runs_124 : decode cX3_runs 124 = .ok (.aload_n 0, 1) := dk_42 (dk_at dksX3_runs_5 6 rfl rfl)
theorem dX3_runs_125 : decode cX3_runs 125 = .ok (.getfield 44, 3) := dk_180 0 44 (dk_at dksX3_runs_5 7 rfl rfl)
theorem dX3_runs_128 : decode cX3_runs 128 = .ok (.iload 6, 2) := dk_21 6 (dk_at dksX3_runs_5 10 rfl rfl)
theorem dX3_runs_130 : decode cX3_runs 130 = .ok (.iload_n 2, 1) := dk_28 (dk_at dksX3_runs_5 12 rfl rfl)
theorem dX3_runs_131 : decode cX3_runs 131 = .ok (.aload_n 1, 1) := dk_43 (dk_at dksX3_runs_5 13 rfl rfl)
theorem dX3_runs_132 : decode cX3_runs 132 = .ok (.invokevirtual 66, 3) := dk_182 0 66 (dk_at dksX3_runs_5 14 rfl rfl)
theorem dX3_runs_135 : decode cX3_runs 135 = .ok (.if_icmp .ge 14, 3) := dk_162 0 14 (dk_at dksX3_runs_5 17 rfl rfl)
theorem dX3_runs_138 : decode cX3_runs 138 = .ok (.aload_n 1, 1) := dk_43 (dk_at dksX3_runs_5 20 rfl rfl)
theorem dX3_runs_139 : decode cX3_runs 139 = .ok (.iload_n 2, 1) := dk_28 (dk_at dksX3_runs_5 21 rfl rfl)
theorem dX3_runs_140 : decode cX3_runs 140 = .ok (.invokevirtual 70, 3) := dk_182 0 70 (dk_at dksX3_runs_6 0 rfl rfl)
theorem dX3_runs_143 : decode cX3_runs 143 = .ok (.bipush 48, 2) := dk_16 48 (dk_at dksX3_runs_6 3 rfl rfl)
theorem dX3_runs_145 : decode cX3_runs 145 = .ok (.isub, 1) := dk_100 (dk_at dksX3_runs_6 5 rfl rfl)
theorem dX3_runs_146 : decode cX3_runs 146 = .ok (.goto 4, 3) := dk_167 0 4 (dk_at dksX3_runs_6 6 rfl rfl)
theorem dX3_runs_149 : decode cX3_runs 149 = .ok (.iconst (-1), 1) := dk_2 (dk_at dksX3_runs_6 9 rfl rfl)
theorem dX3_runs_150 : decode cX3_runs 150 = .ok (.iastore, 1) := dk_79 (dk_at dksX3_runs_6 10 rfl rfl)
theorem dX3_runs_151 : decode cX3_runs 151 = .ok (.iinc 2 1, 3) := dk_132 2 1 (dk_at dksX3_runs_6 11 rfl rfl)
theorem dX3_runs_154 : decode cX3_runs 154 = .ok (.goto 92, 3) := dk_167 0 92 (dk_at dksX3_runs_6 14 rfl rfl)
theorem dX3_runs_157 : decode cX3_runs 157 = .ok (.iload 5, 2) := dk_21 5 (dk_at dksX3_runs_6 17 rfl rfl)
theorem dX3_runs_159 : decode cX3_runs 159 = .ok (.getstatic 108, 3) := dk_178 0 108 (dk_at dksX3_runs_6 19 rfl rfl)
theorem dX3_runs_162 : decode cX3_runs 162 = .ok (.invokevirtual 84, 3) := dk_182 0 84 (dk_at dksX3_runs_7 0 rfl rfl)
theorem dX3_runs_165 : decode cX3_runs 165 = .ok (.if_icmp .ne 19, 3) := dk_160 0 19 (dk_at dksX3_runs_7 3 rfl rfl)
theorem dX3_runs_168 : decode cX3_runs 168 = .ok (.aload_n 0, 1) := dk_42 (dk_at dksX3_runs_7 6 rfl rfl)
theorem dX3_runs_169 : decode cX3_runs 169 = .ok (.getfield 44, 3) := dk_180 0 44 (dk_at dksX3_runs_7 7 rfl rfl)
theorem dX3_runs_172 : decode cX3_runs 172 = .ok (.iload 6, 2) := dk_21 6 (dk_at dksX3_runs_7 10 rfl rfl)
theorem dX3_runs_174 : decode cX3_runs 174 = .ok (.aload_n 0, 1) := dk_42 (dk_at dksX3_runs_7 12 rfl rfl)
theorem dX3_runs_175 : decode cX3_runs 175 = .ok (.getfield 16, 3) := dk_180 0 16 (dk_at dksX3_runs_7 13 rfl rfl)
theorem dX3_runs_178 : decode cX3_runs 178 = .ok (.iload_n 3, 1) := dk_29 (dk_at dksX3_runs_7 16 rfl rfl)
theorem dX3_runs_179 : decode cX3_runs 179 = .ok (.iaload, 1) := dk_46 (dk_at dksX3_runs_7 17 rfl rfl)
theorem dX3_runs_180 : decode cX3_runs 180 = .ok (.iastore, 1) := dk_79 (dk_at dksX3_runs_7 18 rfl rfl)
theorem dX3_runs_181 : decode cX3_runs 181 = .ok (.goto 65, 3) := dk_167 0 65 (dk_at dksX3_runs_7 19 rfl rfl)
theorem dX3_runs_184 : decode cX3_runs 184 = .ok (.iload 5, 2) := dk_21 5 (dk_at dksX3_runs_7 22 rfl rfl)
theorem dX3_runs_186 : decode cX3_runs 186 = .ok (.getstatic 111, 3) := dk_178 0 111 (dk_at dksX3_runs_8 0 rfl rfl)
theorem dX3_runs_189 : decode cX3_runs 189 = .ok (.invokevirtual 84, 3) := dk_182 0 84 (dk_at dksX3_runs_8 3 rfl rfl)
theorem dX3_runs_192 : decode cX3_runs 192 = .ok (.if_icmp .ne 22, 3) := dk_160 0 22 (dk_at dksX3_runs_8 6 rfl rfl)
theorem dX3_runs_195 : decode cX3_runs 195 = .ok (.aload_n 0, 1) := dk_42 (dk_at dksX3_runs_8 9 rfl rfl)
theorem dX3_runs_196 : decode cX3_runs 196 = .ok (.getfield 44, 3) := dk_180 0 44 (dk_at dksX3_runs_8 10 rfl rfl)
theorem dX3_runs_199 : decode cX3_runs 199 = .ok (.iload 6, 2) := dk_21 6 (dk_at dksX3_runs_8 13 rfl rfl)
theorem dX3_runs_201 : decode cX3_runs 201 = .ok (.dup2, 1) := dk_92 (dk_at dksX3_runs_8 15 rfl rfl)
theorem dX3_runs_202 : decode cX3_runs 202 = .ok (.iaload, 1) := dk_46 (dk_at dksX3_runs_8 16 rfl rfl)
theorem dX3_runs_203 : decode cX3_runs 203 = .ok (.aload_n 0, 1) := dk_42 (dk_at dksX3_runs_8 17 rfl rfl)
theorem dX3_runs_204 : decode cX3_runs 204 = .ok (.getfield 16, 3) := dk_180 0 16 (dk_at dksX3_runs_8 18 rfl rfl)
theorem dX3_runs_207 : decode cX3_runs 207 = .ok (.iload_n 3, 1) := dk_29 (dk_at dksX3_runs_8 21 rfl rfl)
theorem dX3_runs_208 : decode cX3_runs 208 = .ok (.iaload, 1) := dk_46 (dk_at dksX3_runs_8 22 rfl rfl)
theorem dX3_runs_209 : decode cX3_runs 209 = .ok (.iadd, 1) := dk_96 (dk_at dksX3_runs_8 23 rfl rfl)
theorem dX3_runs_210 : decode cX3_runs 210 = .ok (.iastore, 1) := dk_79 (dk_at dksX3_runs_9 0 rfl rfl)
theorem dX3_runs_211 : decode cX3_runs 211 = .ok (.goto 35, 3) := dk_167 0 35 (dk_at dksX3_runs_9 1 rfl rfl)
theorem dX3_runs_214 : decode cX3_runs 214 = .ok (.iload 5, 2) := dk_21 5 (dk_at dksX3_runs_9 4 rfl rfl)
theorem dX3_runs_216 : decode cX3_runs 216 = .ok (.getstatic 114, 3) := dk_178 0 114 (dk_at dksX3_runs_9 6 rfl rfl)
theorem dX3_runs_219 : decode cX3_runs 219 = .ok (.invokevirtual 84, 3) := dk_182 0 84 (dk_at dksX3_runs_9 9 rfl rfl)
theorem dX3_runs_222 : decode cX3_runs 222 = .ok (.if_icmp .ne 24, 3) := dk_160 0 24 (dk_at dksX3_runs_9 12 rfl rfl)
theorem dX3_runs_225 : decode cX3_runs 225 = .ok (.aload_n 0, 1) := dk_42 (dk_at dksX3_runs_9 15 rfl rfl)
theorem dX3_runs_226 : decode cX3_runs 226 = .ok (.getfield 44, 3) := dk_180 0 44 (dk_at dksX3_runs_9 16 rfl rfl)
theorem dX3_runs_229 : decode cX3_runs 229 = .ok (.iload 6, 2) := dk_21 6 (dk_at dksX3_runs_9 19 rfl rfl)
theorem dX3_runs_231 : decode cX3_runs 231 = .ok (.dup2, 1) := dk_92 (dk_at dksX3_runs_9 21 rfl rfl)
theorem dX3_runs_232 : decode cX3_runs 232 = .ok (.iaload, 1) := dk_46 (dk_at dksX3_runs_9 22 rfl rfl)
theorem dX3_runs_233 : decode cX3_runs 233 = .ok (.aload_n 0, 1) := dk_42 (dk_at dksX3_runs_9 23 rfl rfl)
theorem dX3_runs_234 : decode cX3_runs 234 = .ok (.getfield 44, 3) := dk_180 0 44 (dk_at dksX3_runs_10 0 rfl rfl)
theorem dX3_runs_237 : decode cX3_runs 237 = .ok (.aload_n 0, 1) := dk_42 (dk_at dksX3_runs_10 3 rfl rfl)
theorem dX3_runs_238 : decode cX3_runs 238 = .ok (.getfield 19, 3) := dk_180 0 19 (dk_at dksX3_runs_10 4 rfl rfl)
theorem dX3_runs_241 : decode cX3_runs 241 = .ok (.iload_n 3, 1) := dk_29 (dk_at dksX3_runs_10 7 rfl rfl)
theorem dX3_runs_242 : decode cX3_runs 242 = .ok (.iaload, 1) := dk_46 (dk_at dksX3_runs_10 8 rfl rfl)
theorem dX3_runs_243 : decode cX3_runs 243 = .ok (.iaload, 1) := dk_46 (dk_at dksX3_runs_10 9 rfl rfl)
theorem dX3_runs_244 : decode cX3_runs 244 = .ok (.iadd, 1) := dk_96 (dk_at dksX3_runs_10 10 rfl rfl)
theorem dX3_runs_245 : decode cX3_runs 245 = .ok (.iastore, 1) := dk_79 (dk_at dksX3_runs_10 11 rfl rfl)
theorem dX3_runs_246 : decode cX3_runs 246 = .ok (.iload 5, 2) := dk_21 5 (dk_at dksX3_runs_10 12 rfl rfl)
theorem dX3_runs_248 : decode cX3_runs 248 = .ok (.getstatic 117, 3) := dk_178 0 117 (dk_at dksX3_runs_10 14 rfl rfl)
theorem dX3_runs_251 : decode cX3_runs 251 = .ok (.invokevirtual 84, 3) := dk_182 0 84 (dk_at dksX3_runs_10 17 rfl rfl)
theorem dX3_runs_254 : decode cX3_runs 254 = .ok (.if_icmp .eq 14, 3) := dk_159 0 14 (dk_at dksX3_runs_10 20 rfl rfl)
theorem dX3_runs_257 : decode cX3_runs 257 = .ok (.iload 5, 2) := dk_21 5 (dk_at dksX3_runs_11 0 rfl rfl)
theorem dX3_runs_259 : decode cX3_runs 259 = .ok (.getstatic 120, 3) := dk_178 0 120 (dk_at dksX3_runs_11 2 rfl rfl)
theorem dX3_runs_262 : decode cX3_runs 262 = .ok (.invokevirtual 84, 3) := dk_182 0 84 (dk_at dksX3_runs_11 5 rfl rfl)
theorem dX3_runs_265 : decode cX3_runs 265 = .ok (.if_icmp .ne 54, 3) := dk_160 0 54 (dk_at dksX3_runs_11 8 rfl rfl)
theorem dX3_runs_268 : decode cX3_runs 268 = .ok (.aload_n 0, 1) := dk_42 (dk_at dksX3_runs_11 11 rfl rfl)
theorem dX3_runs_269 : decode cX3_runs 269 = .ok (.iload 5, 2) := dk_21 5 (dk_at dksX3_runs_11 12 rfl rfl)
theorem dX3_runs_271 : decode cX3_runs 271 = .ok (.getstatic 117, 3) := dk_178 0 117 (dk_at dksX3_runs_11 14 rfl rfl)
theorem dX3_runs_274 : decode cX3_runs 274 = .ok (.invokevirtual 84, 3) := dk_182 0 84 (dk_at dksX3_runs_11 17 rfl rfl)
theorem dX3_runs_277 : decode cX3_runs 277 = .ok (.if_icmp .ne 7, 3) := dk_160 0 7 (dk_at dksX3_runs_11 20 rfl rfl)
theorem dX3_runs_280 : decode cX3_runs 280 = .ok (.iconst 1, 1) := dk_4 (dk_at dksX3_runs_11 23 rfl rfl)
theorem dX3_runs_281 : decode cX3_runs 281 = .ok (.goto 4, 3) := dk_167 0 4 (dk_at dksX3_runs_12 0 rfl rfl)
theorem dX3_runs_284 : decode cX3_runs 284 = .ok (.iconst 0, 1) := dk_3 (dk_at dksX3_runs_12 3 rfl rfl)
theorem dX3_runs_285 : decode cX3_runs 285 = .ok (.putfield 96, 3) := dk_181 0 96 (dk_at dksX3_runs_12 4 rfl rfl)
theorem dX3_runs_288 : decode cX3_runs 288 = .ok (.aload_n 0, 1) := dk_42 (dk_at dksX3_runs_12 7 rfl rfl)
theorem dX3_runs_289 : decode cX3_runs 289 = .ok (.iload 5, 2) := dk_21 5 (dk_at dksX3_runs_12 8 rfl rfl)
theorem dX3_runs_291 : decode cX3_runs 291 = .ok (.getstatic 117, 3) := dk_178 0 117 (dk_at dksX3_runs_12 10 rfl rfl)
theorem dX3_runs_294 : decode cX3_runs 294 = .ok (.invokevirtual 84, 3) := dk_182 0 84 (dk_at dksX3_runs_12 13 rfl rfl)
theorem dX3_runs_297 : decode cX3_runs 297 = .ok (.if_icmp .ne 12, 3) := dk_160 0 12 (dk_at dksX3_runs_12 16 rfl rfl)
theorem dX3_runs_300 : decode cX3_runs 300 = .ok (.aload_n 0, 1) := dk_42 (dk_at dksX3_runs_12 19 rfl rfl)
theorem dX3_runs_301 : decode cX3_runs 301 = .ok (.getfield 16, 3) := dk_180 0 16 (dk_at dksX3_runs_12 20 rfl rfl)
theorem dX3_runs_304 : decode cX3_runs 304 = .ok (.iload_n 3, 1) := dk_29 (dk_at dksX3_runs_12 23 rfl rfl)
theorem dX3_runs_305 : decode cX3_runs 305 = .ok (.iaload, 1) := dk_46 (dk_at dksX3_runs_13 0 rfl rfl)
theorem dX3_runs_306 : decode cX3_runs 306 = .ok (.goto 4, 3) := dk_167 0 4 (dk_at dksX3_runs_13 1 rfl rfl)
theorem dX3_runs_309 : decode cX3_runs 309 = .ok (.iconst 0, 1) := dk_3 (dk_at dksX3_runs_13 4 rfl rfl)
theorem dX3_runs_310 : decode cX3_runs 310 = .ok (.putfield 99, 3) := dk_181 0 99 (dk_at dksX3_runs_13 5 rfl rfl)
theorem dX3_runs_313 : decode cX3_runs 313 = .ok (.iconst 0, 1) := dk_3 (dk_at dksX3_runs_13 8 rfl rfl)
theorem dX3_runs_314 : decode cX3_runs 314 = .ok (.istore 4, 2) := dk_54 4 (dk_at dksX3_runs_13 9 rfl rfl)
theorem dX3_runs_316 : decode cX3_runs 316 = .ok (.goto 93, 3) := dk_167 0 93 (dk_at dksX3_runs_13 11 rfl rfl)
theorem dX3_runs_319 : decode cX3_runs 319 = .ok (.aload_n 0, 1) := dk_42 (dk_at dksX3_runs_13 14 rfl rfl)
theorem dX3_runs_320 : decode cX3_runs 320 = .ok (.getfield 102, 3) := dk_180 0 102 (dk_at dksX3_runs_13 15 rfl rfl)
theorem dX3_runs_323 : decode cX3_runs 323 = .ok (.aload_n 0, 1) := dk_42 (dk_at dksX3_runs_13 18 rfl rfl)
theorem dX3_runs_324 : decode cX3_runs 324 = .ok (.iload_n 3, 1) := dk_29 (dk_at dksX3_runs_13 19 rfl rfl)
theorem dX3_runs_325 : decode cX3_runs 325 = .ok (.invokevirtual 123, 3) := dk_182 0 123 (dk_at dksX3_runs_13 20 rfl rfl)
theorem dX3_runs_328 : decode cX3_runs 328 = .ok (.ifCond .eq 12, 3) := dk_153 0 12 (dk_at dksX3_runs_14 0 rfl rfl)
theorem dX3_runs_331 : decode cX3_runs 331 = .ok (.aload_n 0, 1) := dk_42 (dk_at dksX3_runs_14 3 rfl rfl)
theorem dX3_runs_332 : decode cX3_runs 332 = .ok (.getfield 19, 3) := dk_180 0 19 (dk_at dksX3_runs_14 4 rfl rfl)
theorem dX3_runs_335 : decode cX3_runs 335 = .ok (.iload_n 3, 1) := dk_29 (dk_at dksX3_runs_14 7 rfl rfl)
theorem dX3_runs_336 : decode cX3_runs 336 = .ok (.iaload, 1) := dk_46 (dk_at dksX3_runs_14 8 rfl rfl)
theorem dX3_runs_337 : decode cX3_runs 337 = .ok (.goto 6, 3) := dk_167 0 6 (dk_at dksX3_runs_14 9 rfl rfl)
theorem dX3_runs_340 : decode cX3_runs 340 = .ok (.iload_n 3, 1) := dk_29 (dk_at dksX3_runs_14 12 rfl rfl)
theorem dX3_runs_341 : decode cX3_runs 341 = .ok (.iconst 1, 1) := dk_4 (dk_at dksX3_runs_14 13 rfl rfl)
theorem dX3_runs_342 : decode cX3_runs 342 = .ok (.iadd, 1) := dk_96 (dk_at dksX3_runs_14 14 rfl rfl)
theorem dX3_runs_343 : decode cX3_runs 343 = .ok (.invokestatic 127, 3) := dk_184 0 127 (dk_at dksX3_runs_14 15 rfl rfl)
theorem dX3_runs_346 : decode cX3_runs 346 = .ok (.istore 7, 2) := dk_54 7 (dk_at dksX3_runs_14 18 rfl rfl)
theorem dX3_runs_348 : decode cX3_runs 348 = .ok (.iload 7, 2) := dk_21 7 (dk_at dksX3_runs_14 20 rfl rfl)
theorem dX3_runs_350 : decode cX3_runs 350 = .ok (.aload_n 0, 1) := dk_42 (dk_at dksX3_runs_14 22 rfl rfl)
theorem dX3_runs_351 : decode cX3_runs 351 = .ok (.getfield 102, 3) := dk_180 0 102 (dk_at dksX3_runs_15 0 rfl rfl)
theorem dX3_runs_354 : decode cX3_runs 354 = .ok (.if_icmp .ge 23, 3) := dk_162 0 23 (dk_at dksX3_runs_15 3 rfl rfl)
theorem dX3_runs_357 : decode cX3_runs 357 = .ok (.aload_n 0, 1) := dk_42 (dk_at dksX3_runs_15 6 rfl rfl)
theorem dX3_runs_358 : decode cX3_runs 358 = .ok (.getfield 93, 3) := dk_180 0 93 (dk_at dksX3_runs_15 7 rfl rfl)
theorem dX3_runs_361 : decode cX3_runs 361 = .ok (.bipush 64, 2) := dk_16 64 (dk_at dksX3_runs_15 10 rfl rfl)
theorem dX3_runs_363 : decode cX3_runs 363 = .ok (.if_icmp .ne 14, 3) := dk_160 0 14 (dk_at dksX3_runs_15 12 rfl rfl)
theorem dX3_runs_366 : decode cX3_runs 366 = .ok (.aload_n 0, 1) := dk_42 (dk_at dksX3_runs_15 15 rfl rfl)
theorem dX3_runs_367 : decode cX3_runs 367 = .ok (.iconst 2, 1) := dk_5 (dk_at dksX3_runs_15 16 rfl rfl)
theorem dX3_runs_368 : decode cX3_runs 368 = .ok (.putfield 96, 3) := dk_181 0 96 (dk_at dksX3_runs_15 17 rfl rfl)
theorem dX3_runs_371 : decode cX3_runs 371 = .ok (.iconst 0, 1) := dk_3 (dk_at dksX3_runs_15 20 rfl rfl)
theorem dX3_runs_372 : decode cX3_runs 372 = .ok (.istore 4, 2) := dk_54 4 (dk_at dksX3_runs_15 21 rfl rfl)
theorem dX3_runs_374 : decode cX3_runs 374 = .ok (.goto 35, 3) := dk_167 0 35 (dk_at dksX3_runs_16 0 rfl rfl)
theorem dX3_runs_377 : decode cX3_runs 377 = .ok (.aload_n 0, 1) := dk_42 (dk_at dksX3_runs_16 3 rfl rfl)
theorem dX3_runs_378 : decode cX3_runs 378 = .ok (.getfield 40, 3) := dk_180 0 40 (dk_at dksX3_runs_16 4 rfl rfl)
theorem dX3_runs_381 : decode cX3_runs 381 = .ok (.bipush 17, 2) := dk_16 17 (dk_at dksX3_runs_16 7 rfl rfl)
theorem dX3_runs_383 : decode cX3_runs 383 = .ok (.iload_n 3, 1) := dk_29 (dk_at dksX3_runs_16 9 rfl rfl)
theorem dX3_runs_384 : decode cX3_runs 384 = .ok (.imul, 1) := dk_104 (dk_at dksX3_runs_16 10 rfl rfl)
theorem dX3_runs_385 : decode cX3_runs 385 = .ok (.iload 7, 2) := dk_21 7 (dk_at dksX3_runs_16 11 rfl rfl)
theorem dX3_runs_387 : decode cX3_runs 387 = .ok (.iadd, 1) := dk_96 (dk_at dksX3_runs_16 13 rfl rfl)
theorem dX3_runs_388 : decode cX3_runs 388 = .ok (.iconst 1, 1) := dk_4 (dk_at dksX3_runs_16 14 rfl rfl)
theorem dX3_runs_389 : decode cX3_runs 389 = .ok (.bastore, 1) := dk_84 (dk_at dksX3_runs_16 15 rfl rfl)
theorem dX3_runs_390 : decode cX3_runs 390 = .ok (.iload 7, 2) := dk_21 7 (dk_at dksX3_runs_16 16 rfl rfl)
theorem dX3_runs_392 : decode cX3_runs 392 = .ok (.istore_n 3, 1) := dk_62 (dk_at dksX3_runs_16 18 rfl rfl)
theorem dX3_runs_393 : decode cX3_runs 393 = .ok (.iload 7, 2) := dk_21 7 (dk_at dksX3_runs_16 19 rfl rfl)
theorem dX3_runs_395 : decode cX3_runs 395 = .ok (.aload_n 0, 1) := dk_42 (dk_at dksX3_runs_16 21 rfl rfl)
theorem dX3_runs_396 : decode cX3_runs 396 = .ok (.getfield 102, 3) := dk_180 0 102 (dk_at dksX3_runs_17 0 rfl rfl)
theorem dX3_runs_399 : decode cX3_runs 399 = .ok (.if_icmp .ge 7, 3) := dk_162 0 7 (dk_at dksX3_runs_17 3 rfl rfl)
theorem dX3_runs_402 : decode cX3_runs 402 = .ok (.iconst 1, 1) := dk_4 (dk_at dksX3_runs_17 6 rfl rfl)
theorem dX3_runs_403 : decode cX3_runs 403 = .ok (.goto 4, 3) := dk_167 0 4 (dk_at dksX3_runs_17 7 rfl rfl)
theorem dX3_runs_406 : decode cX3_runs 406 = .ok (.iconst 0, 1) := dk_3 (dk_at dksX3_runs_17 10 rfl rfl)
theorem dX3_runs_407 : decode cX3_runs 407 = .ok (.istore 4, 2) := dk_54 4 (dk_at dksX3_runs_17 11 rfl rfl)
theorem dX3_runs_409 : decode cX3_runs 409 = .ok (.goto (-327), 3) := dk_167 254 185 (dk_at dksX3_runs_17 13 rfl rfl)
theorem dX3_runs_412 : decode cX3_runs 412 = .ok (.return_, 1) := dk_177 (dk_at dksX3_runs_17 16 rfl rfl)
abbrev cX3_jumps : ByteArray := prog_16_method_6_code
def yX3_jumps : MethodName := ⟨RX3, "jumps", "(I)Z"⟩
def dkwX3_jumps_3 : List UInt8 := [167, 0, 4, 3, 172]
abbrev dktX3_jumps_3 : List UInt8 := dkwX3_jumps_3 ++ []
def dkwX3_jumps_2 : List UInt8 := [161, 0, 23, 28, 178, 0, 90, 182, 0, 84, 160, 0, 17, 29, 42, 180, 0, 16, 27, 46, 160, 0, 7, 4]
abbrev dktX3_jumps_2 : List UInt8 := dkwX3_jumps_2 ++ dktX3_jumps_3
def dkwX3_jumps_1 : List UInt8 := [182, 0, 84, 159, 0, 43, 28, 178, 0, 87, 182, 0, 84, 160, 0, 13, 29, 42, 180, 0, 16, 27, 46]
abbrev dktX3_jumps_1 : List UInt8 := dkwX3_jumps_1 ++ dktX3_jumps_2
def dkwX3_jumps_0 : List UInt8 := [42, 180, 0, 9, 27, 46, 61, 42, 180, 0, 44, 42, 180, 0, 13, 27, 46, 46, 62, 28, 178, 0, 78]
abbrev dktX3_jumps_0 : List UInt8 := dkwX3_jumps_0 ++ dktX3_jumps_1
theorem dksX3_jumps_0 : cX3_jumps.data.toList.drop 0 = dktX3_jumps_0 := by decide +kernel
theorem dksX3_jumps_1 : cX3_jumps.data.toList.drop 23 = dktX3_jumps_1 := dk_seg dksX3_jumps_0 23 rfl rfl
theorem dksX3_jumps_2 : cX3_jumps.data.toList.drop 46 = dktX3_jumps_2 := dk_seg dksX3_jumps_1 23 rfl rfl
theorem dksX3_jumps_3 : cX3_jumps.data.toList.drop 70 = dktX3_jumps_3 := dk_seg dksX3_jumps_2 24 rfl rfl
theorem dX3_jumps_0 : decode cX3_jumps 0 = .ok (.aload_n 0, 1) := dk_42 (dk_at dksX3_jumps_0 0 rfl rfl)
theorem dX3_jumps_1 : decode cX3_jumps 1 = .ok (.getfield 9, 3) := dk_180 0 9 (dk_at dksX3_jumps_0 1 rfl rfl)
theorem dX3_jumps_4 : decode cX3_jumps 4 = .ok (.iload_n 1, 1) := dk_27 (dk_at dksX3_jumps_0 4 rfl rfl)
theorem dX3_jumps_5 : decode cX3_jumps 5 = .ok (.iaload, 1) := dk_46 (dk_at dksX3_jumps_0 5 rfl rfl)
theorem dX3_jumps_6 : decode cX3_jumps 6 = .ok (.istore_n 2, 1) := dk_61 (dk_at dksX3_jumps_0 6 rfl rfl)
theorem dX3_jumps_7 : decode cX3_jumps 7 = .ok (.aload_n 0, 1) := dk_42 (dk_at dksX3_jumps_0 7 rfl rfl)
theorem dX3_jumps_8 : decode cX3_jumps 8 = .ok (.getfield 44, 3) := dk_180 0 44 (dk_at dksX3_jumps_0 8 rfl rfl)
theorem dX3_jumps_11 : decode cX3_jumps 11 = .ok (.aload_n 0, 1) := dk_42 (dk_at dksX3_jumps_0 11 rfl rfl)
theorem dX3_jumps_12 : decode cX3_jumps 12 = .ok (.getfield 13, 3) := dk_180 0 13 (dk_at dksX3_jumps_0 12 rfl rfl)
theorem dX3_jumps_15 : decode cX3_jumps 15 = .ok (.iload_n 1, 1) := dk_27 (dk_at dksX3_jumps_0 15 rfl rfl)
theorem dX3_jumps_16 : decode cX3_jumps 16 = .ok (.iaload, 1) := dk_46 (dk_at dksX3_jumps_0 16 rfl rfl)
theorem dX3_jumps_17 : decode cX3_jumps 17 = .ok (.iaload, 1) := dk_46 (dk_at dksX3_jumps_0 17 rfl rfl)
theorem dX3_jumps_18 : decode cX3_jumps 18 = .ok (.istore_n 3, 1) := dk_62 (dk_at dksX3_jumps_0 18 rfl rfl)
theorem dX3_jumps_19 : decode cX3_jumps 19 = .ok (.iload_n 2, 1) := dk_28 (dk_at dksX3_jumps_0 19 rfl rfl)
theorem dX3_jumps_20 : decode cX3_jumps 20 = .ok (.getstatic 78, 3) := dk_178 0 78 (dk_at dksX3_jumps_0 20 rfl rfl)
theorem dX3_jumps_23 : decode cX3_jumps 23 = .ok (.invokevirtual 84, 3) := dk_182 0 84 (dk_at dksX3_jumps_1 0 rfl rfl)
theorem dX3_jumps_26 : decode cX3_jumps 26 = .ok (.if_icmp .eq 43, 3) := dk_159 0 43 (dk_at dksX3_jumps_1 3 rfl rfl)
theorem dX3_jumps_29 : decode cX3_jumps 29 = .ok (.iload_n 2, 1) := dk_28 (dk_at dksX3_jumps_1 6 rfl rfl)
theorem dX3_jumps_30 : decode cX3_jumps 30 = .ok (.getstatic 87, 3) := dk_178 0 87 (dk_at dksX3_jumps_1 7 rfl rfl)
theorem dX3_jumps_33 : decode cX3_jumps 33 = .ok (.invokevirtual 84, 3) := dk_182 0 84 (dk_at dksX3_jumps_1 10 rfl rfl)
theorem dX3_jumps_36 : decode cX3_jumps 36 = .ok (.if_icmp .ne 13, 3) := dk_160 0 13 (dk_at dksX3_jumps_1 13 rfl rfl)
theorem dX3_jumps_39 : decode cX3_jumps 39 = .ok (.iload_n 3, 1) := dk_29 (dk_at dksX3_jumps_1 16 rfl rfl)
theorem dX3_jumps_40 : decode cX3_jumps 40 = .ok (.aload_n 0, 1) := dk_42 (dk_at dksX3_jumps_1 17 rfl rfl)
theorem dX3_jumps_41 : decode cX3_jumps 41 = .ok (.getfield 16, 3) := dk_180 0 16 (dk_at dksX3_jumps_1 18 rfl rfl)
theorem dX3_jumps_44 : decode cX3_jumps 44 = .ok (.iload_n 1, 1) := dk_27 (dk_at dksX3_jumps_1 21 rfl rfl)
theorem dX3_jumps_45 : decode cX3_jumps 45 = .ok (.iaload, 1) := dk_46 (dk_at dksX3_jumps_1 22 rfl rfl)
theorem dX3_jumps_46 : decode cX3_jumps 46 = .ok (.if_icmp .lt 23, 3) := dk_161 0 23 (dk_at dksX3_jumps_2 0 rfl rfl)
theorem dX3_jumps_49 : decode cX3_jumps 49 = .ok (.iload_n 2, 1) := dk_28 (dk_at dksX3_jumps_2 3 rfl rfl)
theorem dX3_jumps_50 : decode cX3_jumps 50 = .ok (.getstatic 90, 3) := dk_178 0 90 (dk_at dksX3_jumps_2 4 rfl rfl)
theorem dX3_jumps_53 : decode cX3_jumps 53 = .ok (.invokevirtual 84, 3) := dk_182 0 84 (dk_at dksX3_jumps_2 7 rfl rfl)
theorem dX3_jumps_56 : decode cX3_jumps 56 = .ok (.if_icmp .ne 17, 3) := dk_160 0 17 (dk_at dksX3_jumps_2 10 rfl rfl)
theorem dX3_jumps_59 : decode cX3_jumps 59 = .ok (.iload_n 3, 1) := dk_29 (dk_at dksX3_jumps_2 13 rfl rfl)
theorem dX3_jumps_60 : decode cX3_jumps 60 = .ok (.aload_n 0, 1) := dk_42 (dk_at dksX3_jumps_2 14 rfl rfl)
theorem dX3_jumps_61 : decode cX3_jumps 61 = .ok (.getfield 16, 3) := dk_180 0 16 (dk_at dksX3_jumps_2 15 rfl rfl)
theorem dX3_jumps_64 : decode cX3_jumps 64 = .ok (.iload_n 1, 1) := dk_27 (dk_at dksX3_jumps_2 18 rfl rfl)
theorem dX3_jumps_65 : decode cX3_jumps 65 = .ok (.iaload, 1) := dk_46 (dk_at dksX3_jumps_2 19 rfl rfl)
theorem dX3_jumps_66 : decode cX3_jumps 66 = .ok (.if_icmp .ne 7, 3) := dk_160 0 7 (dk_at dksX3_jumps_2 20 rfl rfl)
theorem dX3_jumps_69 : decode cX3_jumps 69 = .ok (.iconst 1, 1) := dk_4 (dk_at dksX3_jumps_2 23 rfl rfl)
theorem dX3_jumps_70 : decode cX3_jumps 70 = .ok (.goto 4, 3) := dk_167 0 4 (dk_at dksX3_jumps_3 0 rfl rfl)
theorem dX3_jumps_73 : decode cX3_jumps 73 = .ok (.iconst 0, 1) := dk_3 (dk_at dksX3_jumps_3 3 rfl rfl)
theorem dX3_jumps_74 : decode cX3_jumps 74 = .ok (.ireturn, 1) := dk_172 (dk_at dksX3_jumps_3 4 rfl rfl)
abbrev cX3_grown : ByteArray := prog_16_method_18_code
def yX3_grown : MethodName := ⟨RX3, "grown", "([Ljava/lang/String;)[Ljava/lang/String;"⟩
def dkwX3_grown_1 : List UInt8 := [132, 2, 1, 167, 255, 241, 43, 176]
abbrev dktX3_grown_1 : List UInt8 := dkwX3_grown_1 ++ []
def dkwX3_grown_0 : List UInt8 := [5, 42, 190, 104, 189, 0, 31, 76, 3, 61, 28, 42, 190, 162, 0, 15, 43, 28, 42, 28, 50, 83]
abbrev dktX3_grown_0 : List UInt8 := dkwX3_grown_0 ++ dktX3_grown_1
theorem dksX3_grown_0 : cX3_grown.data.toList.drop 0 = dktX3_grown_0 := by decide +kernel
theorem dksX3_grown_1 : cX3_grown.data.toList.drop 22 = dktX3_grown_1 := dk_seg dksX3_grown_0 22 rfl rfl
theorem dX3_grown_0 : decode cX3_grown 0 = .ok (.iconst 2, 1) := dk_5 (dk_at dksX3_grown_0 0 rfl rfl)
theorem dX3_grown_1 : decode cX3_grown 1 = .ok (.aload_n 0, 1) := dk_42 (dk_at dksX3_grown_0 1 rfl rfl)
theorem dX3_grown_2 : decode cX3_grown 2 = .ok (.arraylength, 1) := dk_190 (dk_at dksX3_grown_0 2 rfl rfl)
theorem dX3_grown_3 : decode cX3_grown 3 = .ok (.imul, 1) := dk_104 (dk_at dksX3_grown_0 3 rfl rfl)
theorem dX3_grown_4 : decode cX3_grown 4 = .ok (.anewarray 31, 3) := dk_189 0 31 (dk_at dksX3_grown_0 4 rfl rfl)
theorem dX3_grown_7 : decode cX3_grown 7 = .ok (.astore_n 1, 1) := dk_76 (dk_at dksX3_grown_0 7 rfl rfl)
theorem dX3_grown_8 : decode cX3_grown 8 = .ok (.iconst 0, 1) := dk_3 (dk_at dksX3_grown_0 8 rfl rfl)
theorem dX3_grown_9 : decode cX3_grown 9 = .ok (.istore_n 2, 1) := dk_61 (dk_at dksX3_grown_0 9 rfl rfl)
theorem dX3_grown_10 : decode cX3_grown 10 = .ok (.iload_n 2, 1) := dk_28 (dk_at dksX3_grown_0 10 rfl rfl)
theorem dX3_grown_11 : decode cX3_grown 11 = .ok (.aload_n 0, 1) := dk_42 (dk_at dksX3_grown_0 11 rfl rfl)
theorem dX3_grown_12 : decode cX3_grown 12 = .ok (.arraylength, 1) := dk_190 (dk_at dksX3_grown_0 12 rfl rfl)
theorem dX3_grown_13 : decode cX3_grown 13 = .ok (.if_icmp .ge 15, 3) := dk_162 0 15 (dk_at dksX3_grown_0 13 rfl rfl)
theorem dX3_grown_16 : decode cX3_grown 16 = .ok (.aload_n 1, 1) := dk_43 (dk_at dksX3_grown_0 16 rfl rfl)
theorem dX3_grown_17 : decode cX3_grown 17 = .ok (.iload_n 2, 1) := dk_28 (dk_at dksX3_grown_0 17 rfl rfl)
theorem dX3_grown_18 : decode cX3_grown 18 = .ok (.aload_n 0, 1) := dk_42 (dk_at dksX3_grown_0 18 rfl rfl)
theorem dX3_grown_19 : decode cX3_grown 19 = .ok (.iload_n 2, 1) := dk_28 (dk_at dksX3_grown_0 19 rfl rfl)
theorem dX3_grown_20 : decode cX3_grown 20 = .ok (.aaload, 1) := dk_50 (dk_at dksX3_grown_0 20 rfl rfl)
theorem dX3_grown_21 : decode cX3_grown 21 = .ok (.aastore, 1) := dk_83 (dk_at dksX3_grown_0 21 rfl rfl)
theorem dX3_grown_22 : decode cX3_grown 22 = .ok (.iinc 2 1, 3) := dk_132 2 1 (dk_at dksX3_grown_1 0 rfl rfl)
theorem dX3_grown_25 : decode cX3_grown 25 = .ok (.goto (-15), 3) := dk_167 255 241 (dk_at dksX3_grown_1 3 rfl rfl)
theorem dX3_grown_28 : decode cX3_grown 28 = .ok (.aload_n 1, 1) := dk_43 (dk_at dksX3_grown_1 6 rfl rfl)
theorem dX3_grown_29 : decode cX3_grown 29 = .ok (.areturn, 1) := dk_176 (dk_at dksX3_grown_1 7 rfl rfl)
abbrev cX3_finds : ByteArray := prog_16_method_19_code
def yX3_finds : MethodName := ⟨RX3, "finds", "(Ljava/lang/String;I)V"⟩
def dkwX3_finds_7 : List UInt8 := [180, 0, 183, 4, 96, 181, 0, 183, 177]
abbrev dktX3_finds_7 : List UInt8 := dkwX3_finds_7 ++ []
def dkwX3_finds_6 : List UInt8 := [180, 0, 183, 28, 79, 42, 180, 0, 56, 42, 180, 0, 183, 42, 43, 28, 182, 0, 190, 83, 42, 89]
abbrev dktX3_finds_6 : List UInt8 := dkwX3_finds_6 ++ dktX3_finds_7
def dkwX3_finds_5 : List UInt8 := [180, 0, 56, 184, 0, 186, 181, 0, 56, 42, 180, 0, 53, 42, 180, 0, 183, 43, 83, 42, 180, 0, 59, 42]
abbrev dktX3_finds_5 : List UInt8 := dkwX3_finds_5 ++ dktX3_finds_6
def dkwX3_finds_4 : List UInt8 := [167, 255, 232, 42, 25, 4, 181, 0, 59, 42, 42, 180, 0, 53, 184, 0, 186, 181, 0, 53, 42, 42]
abbrev dktX3_finds_4 : List UInt8 := dkwX3_finds_4 ++ dktX3_finds_5
def dkwX3_finds_3 : List UInt8 := [21, 5, 42, 180, 0, 183, 162, 0, 21, 25, 4, 21, 5, 42, 180, 0, 59, 21, 5, 46, 79, 132, 5, 1]
abbrev dktX3_finds_3 : List UInt8 := dkwX3_finds_3 ++ dktX3_finds_4
def dkwX3_finds_2 : List UInt8 := [180, 0, 183, 42, 180, 0, 59, 190, 160, 0, 71, 5, 42, 180, 0, 183, 104, 188, 10, 58, 4, 3, 54, 5]
abbrev dktX3_finds_2 : List UInt8 := dkwX3_finds_2 ++ dktX3_finds_3
def dkwX3_finds_1 : List UInt8 := [46, 28, 160, 0, 7, 4, 167, 0, 4, 3, 62, 132, 4, 1, 167, 255, 223, 29, 153, 0, 4, 177, 42]
abbrev dktX3_finds_1 : List UInt8 := dkwX3_finds_1 ++ dktX3_finds_2
def dkwX3_finds_0 : List UInt8 := [3, 62, 3, 54, 4, 21, 4, 42, 180, 0, 183, 162, 0, 30, 29, 154, 0, 14, 42, 180, 0, 59, 21, 4]
abbrev dktX3_finds_0 : List UInt8 := dkwX3_finds_0 ++ dktX3_finds_1
theorem dksX3_finds_0 : cX3_finds.data.toList.drop 0 = dktX3_finds_0 := by decide +kernel
theorem dksX3_finds_1 : cX3_finds.data.toList.drop 24 = dktX3_finds_1 := dk_seg dksX3_finds_0 24 rfl rfl
theorem dksX3_finds_2 : cX3_finds.data.toList.drop 47 = dktX3_finds_2 := dk_seg dksX3_finds_1 23 rfl rfl
theorem dksX3_finds_3 : cX3_finds.data.toList.drop 71 = dktX3_finds_3 := dk_seg dksX3_finds_2 24 rfl rfl
theorem dksX3_finds_4 : cX3_finds.data.toList.drop 95 = dktX3_finds_4 := dk_seg dksX3_finds_3 24 rfl rfl
theorem dksX3_finds_5 : cX3_finds.data.toList.drop 117 = dktX3_finds_5 := dk_seg dksX3_finds_4 22 rfl rfl
theorem dksX3_finds_6 : cX3_finds.data.toList.drop 141 = dktX3_finds_6 := dk_seg dksX3_finds_5 24 rfl rfl
theorem dksX3_finds_7 : cX3_finds.data.toList.drop 163 = dktX3_finds_7 := dk_seg dksX3_finds_6 22 rfl rfl
theorem dX3_finds_0 : decode cX3_finds 0 = .ok (.iconst 0, 1) := dk_3 (dk_at dksX3_finds_0 0 rfl rfl)
theorem dX3_finds_1 : decode cX3_finds 1 = .ok (.istore_n 3, 1) := dk_62 (dk_at dksX3_finds_0 1 rfl rfl)
theorem dX3_finds_2 : decode cX3_finds 2 = .ok (.iconst 0, 1) := dk_3 (dk_at dksX3_finds_0 2 rfl rfl)
theorem dX3_finds_3 : decode cX3_finds 3 = .ok (.istore 4, 2) := dk_54 4 (dk_at dksX3_finds_0 3 rfl rfl)
theorem dX3_finds_5 : decode cX3_finds 5 = .ok (.iload 4, 2) := dk_21 4 (dk_at dksX3_finds_0 5 rfl rfl)
theorem dX3_finds_7 : decode cX3_finds 7 = .ok (.aload_n 0, 1) := dk_42 (dk_at dksX3_finds_0 7 rfl rfl)
theorem dX3_finds_8 : decode cX3_finds 8 = .ok (.getfield 183, 3) := dk_180 0 183 (dk_at dksX3_finds_0 8 rfl rfl)
theorem dX3_finds_11 : decode cX3_finds 11 = .ok (.if_icmp .ge 30, 3) := dk_162 0 30 (dk_at dksX3_finds_0 11 rfl rfl)
theorem dX3_finds_14 : decode cX3_finds 14 = .ok (.iload_n 3, 1) := dk_29 (dk_at dksX3_finds_0 14 rfl rfl)
theorem dX3_finds_15 : decode cX3_finds 15 = .ok (.ifCond .ne 14, 3) := dk_154 0 14 (dk_at dksX3_finds_0 15 rfl rfl)
theorem dX3_finds_18 : decode cX3_finds 18 = .ok (.aload_n 0, 1) := dk_42 (dk_at dksX3_finds_0 18 rfl rfl)
theorem dX3_finds_19 : decode cX3_finds 19 = .ok (.getfield 59, 3) := dk_180 0 59 (dk_at dksX3_finds_0 19 rfl rfl)
theorem dX3_finds_22 : decode cX3_finds 22 = .ok (.iload 4, 2) := dk_21 4 (dk_at dksX3_finds_0 22 rfl rfl)
theorem dX3_finds_24 : decode cX3_finds 24 = .ok (.iaload, 1) := dk_46 (dk_at dksX3_finds_1 0 rfl rfl)
theorem dX3_finds_25 : decode cX3_finds 25 = .ok (.iload_n 2, 1) := dk_28 (dk_at dksX3_finds_1 1 rfl rfl)
theorem dX3_finds_26 : decode cX3_finds 26 = .ok (.if_icmp .ne 7, 3) := dk_160 0 7 (dk_at dksX3_finds_1 2 rfl rfl)
theorem dX3_finds_29 : decode cX3_finds 29 = .ok (.iconst 1, 1) := dk_4 (dk_at dksX3_finds_1 5 rfl rfl)
theorem dX3_finds_30 : decode cX3_finds 30 = .ok (.goto 4, 3) := dk_167 0 4 (dk_at dksX3_finds_1 6 rfl rfl)
theorem dX3_finds_33 : decode cX3_finds 33 = .ok (.iconst 0, 1) := dk_3 (dk_at dksX3_finds_1 9 rfl rfl)
theorem dX3_finds_34 : decode cX3_finds 34 = .ok (.istore_n 3, 1) := dk_62 (dk_at dksX3_finds_1 10 rfl rfl)
theorem dX3_finds_35 : decode cX3_finds 35 = .ok (.iinc 4 1, 3) := dk_132 4 1 (dk_at dksX3_finds_1 11 rfl rfl)
theorem dX3_finds_38 : decode cX3_finds 38 = .ok (.goto (-33), 3) := dk_167 255 223 (dk_at dksX3_finds_1 14 rfl rfl)
theorem dX3_finds_41 : decode cX3_finds 41 = .ok (.iload_n 3, 1) := dk_29 (dk_at dksX3_finds_1 17 rfl rfl)
theorem dX3_finds_42 : decode cX3_finds 42 = .ok (.ifCond .eq 4, 3) := dk_153 0 4 (dk_at dksX3_finds_1 18 rfl rfl)
theorem dX3_finds_45 : decode cX3_finds 45 = .ok (.return_, 1) := dk_177 (dk_at dksX3_finds_1 21 rfl rfl)
theorem dX3_finds_46 : decode cX3_finds 46 = .ok (.aload_n 0, 1) := dk_42 (dk_at dksX3_finds_1 22 rfl rfl)
theorem dX3_finds_47 : decode cX3_finds 47 = .ok (.getfield 183, 3) := dk_180 0 183 (dk_at dksX3_finds_2 0 rfl rfl)
theorem dX3_finds_50 : decode cX3_finds 50 = .ok (.aload_n 0, 1) := dk_42 (dk_at dksX3_finds_2 3 rfl rfl)
theorem dX3_finds_51 : decode cX3_finds 51 = .ok (.getfield 59, 3) := dk_180 0 59 (dk_at dksX3_finds_2 4 rfl rfl)
theorem dX3_finds_54 : decode cX3_finds 54 = .ok (.arraylength, 1) := dk_190 (dk_at dksX3_finds_2 7 rfl rfl)
theorem dX3_finds_55 : decode cX3_finds 55 = .ok (.if_icmp .ne 71, 3) := dk_160 0 71 (dk_at dksX3_finds_2 8 rfl rfl)
theorem dX3_finds_58 : decode cX3_finds 58 = .ok (.iconst 2, 1) := dk_5 (dk_at dksX3_finds_2 11 rfl rfl)
theorem dX3_finds_59 : decode cX3_finds 59 = .ok (.aload_n 0, 1) := dk_42 (dk_at dksX3_finds_2 12 rfl rfl)
theorem dX3_finds_60 : decode cX3_finds 60 = .ok (.getfield 183, 3) := dk_180 0 183 (dk_at dksX3_finds_2 13 rfl rfl)
theorem dX3_finds_63 : decode cX3_finds 63 = .ok (.imul, 1) := dk_104 (dk_at dksX3_finds_2 16 rfl rfl)
theorem dX3_finds_64 : decode cX3_finds 64 = .ok (.newarray .int, 2) := dk_188_10 (dk_at dksX3_finds_2 17 rfl rfl)
theorem dX3_finds_66 : decode cX3_finds 66 = .ok (.astore 4, 2) := dk_58 4 (dk_at dksX3_finds_2 19 rfl rfl)
theorem dX3_finds_68 : decode cX3_finds 68 = .ok (.iconst 0, 1) := dk_3 (dk_at dksX3_finds_2 21 rfl rfl)
theorem dX3_finds_69 : decode cX3_finds 69 = .ok (.istore 5, 2) := dk_54 5 (dk_at dksX3_finds_2 22 rfl rfl)
theorem dX3_finds_71 : decode cX3_finds 71 = .ok (.iload 5, 2) := dk_21 5 (dk_at dksX3_finds_3 0 rfl rfl)
theorem dX3_finds_73 : decode cX3_finds 73 = .ok (.aload_n 0, 1) := dk_42 (dk_at dksX3_finds_3 2 rfl rfl)
theorem dX3_finds_74 : decode cX3_finds 74 = .ok (.getfield 183, 3) := dk_180 0 183 (dk_at dksX3_finds_3 3 rfl rfl)
theorem dX3_finds_77 : decode cX3_finds 77 = .ok (.if_icmp .ge 21, 3) := dk_162 0 21 (dk_at dksX3_finds_3 6 rfl rfl)
theorem dX3_finds_80 : decode cX3_finds 80 = .ok (.aload 4, 2) := dk_25 4 (dk_at dksX3_finds_3 9 rfl rfl)
theorem dX3_finds_82 : decode cX3_finds 82 = .ok (.iload 5, 2) := dk_21 5 (dk_at dksX3_finds_3 11 rfl rfl)
theorem dX3_finds_84 : decode cX3_finds 84 = .ok (.aload_n 0, 1) := dk_42 (dk_at dksX3_finds_3 13 rfl rfl)
theorem dX3_finds_85 : decode cX3_finds 85 = .ok (.getfield 59, 3) := dk_180 0 59 (dk_at dksX3_finds_3 14 rfl rfl)
theorem dX3_finds_88 : decode cX3_finds 88 = .ok (.iload 5, 2) := dk_21 5 (dk_at dksX3_finds_3 17 rfl rfl)
theorem dX3_finds_90 : decode cX3_finds 90 = .ok (.iaload, 1) := dk_46 (dk_at dksX3_finds_3 19 rfl rfl)
theorem dX3_finds_91 : decode cX3_finds 91 = .ok (.iastore, 1) := dk_79 (dk_at dksX3_finds_3 20 rfl rfl)
theorem dX3_finds_92 : decode cX3_finds 92 = .ok (.iinc 5 1, 3) := dk_132 5 1 (dk_at dksX3_finds_3 21 rfl rfl)
theorem dX3_finds_95 : decode cX3_finds 95 = .ok (.goto (-24), 3) := dk_167 255 232 (dk_at dksX3_finds_4 0 rfl rfl)
theorem dX3_finds_98 : decode cX3_finds 98 = .ok (.aload_n 0, 1) := dk_42 (dk_at dksX3_finds_4 3 rfl rfl)
theorem dX3_finds_99 : decode cX3_finds 99 = .ok (.aload 4, 2) := dk_25 4 (dk_at dksX3_finds_4 4 rfl rfl)
theorem dX3_finds_101 : decode cX3_finds 101 = .ok (.putfield 59, 3) := dk_181 0 59 (dk_at dksX3_finds_4 6 rfl rfl)
theorem dX3_finds_104 : decode cX3_finds 104 = .ok (.aload_n 0, 1) := dk_42 (dk_at dksX3_finds_4 9 rfl rfl)
theorem dX3_finds_105 : decode cX3_finds 105 = .ok (.aload_n 0, 1) := dk_42 (dk_at dksX3_finds_4 10 rfl rfl)
theorem dX3_finds_106 : decode cX3_finds 106 = .ok (.getfield 53, 3) := dk_180 0 53 (dk_at dksX3_finds_4 11 rfl rfl)
theorem dX3_finds_109 : decode cX3_finds 109 = .ok (.invokestatic 186, 3) := dk_184 0 186 (dk_at dksX3_finds_4 14 rfl rfl)
theorem dX3_finds_112 : decode cX3_finds 112 = .ok (.putfield 53, 3) := dk_181 0 53 (dk_at dksX3_finds_4 17 rfl rfl)
theorem dX3_finds_115 : decode cX3_finds 115 = .ok (.aload_n 0, 1) := dk_42 (dk_at dksX3_finds_4 20 rfl rfl)
theorem dX3_finds_116 : decode cX3_finds 116 = .ok (.aload_n 0, 1) := dk_42 (dk_at dksX3_finds_4 21 rfl rfl)
theorem dX3_finds_117 : decode cX3_finds 117 = .ok (.getfield 56, 3) := dk_180 0 56 (dk_at dksX3_finds_5 0 rfl rfl)
theorem dX3_finds_120 : decode cX3_finds 120 = .ok (.invokestatic 186, 3) := dk_184 0 186 (dk_at dksX3_finds_5 3 rfl rfl)
theorem dX3_finds_123 : decode cX3_finds 123 = .ok (.putfield 56, 3) := dk_181 0 56 (dk_at dksX3_finds_5 6 rfl rfl)
theorem dX3_finds_126 : decode cX3_finds 126 = .ok (.aload_n 0, 1) := dk_42 (dk_at dksX3_finds_5 9 rfl rfl)
theorem dX3_finds_127 : decode cX3_finds 127 = .ok (.getfield 53, 3) := dk_180 0 53 (dk_at dksX3_finds_5 10 rfl rfl)
theorem dX3_finds_130 : decode cX3_finds 130 = .ok (.aload_n 0, 1) := dk_42 (dk_at dksX3_finds_5 13 rfl rfl)
theorem dX3_finds_131 : decode cX3_finds 131 = .ok (.getfield 183, 3) := dk_180 0 183 (dk_at dksX3_finds_5 14 rfl rfl)
theorem dX3_finds_134 : decode cX3_finds 134 = .ok (.aload_n 1, 1) := dk_43 (dk_at dksX3_finds_5 17 rfl rfl)
theorem dX3_finds_135 : decode cX3_finds 135 = .ok (.aastore, 1) := dk_83 (dk_at dksX3_finds_5 18 rfl rfl)
theorem dX3_finds_136 : decode cX3_finds 136 = .ok (.aload_n 0, 1) := dk_42 (dk_at dksX3_finds_5 19 rfl rfl)
theorem dX3_finds_137 : decode cX3_finds 137 = .ok (.getfield 59, 3) := dk_180 0 59 (dk_at dksX3_finds_5 20 rfl rfl)
theorem dX3_finds_140 : decode cX3_finds 140 = .ok (.aload_n 0, 1) := dk_42 (dk_at dksX3_finds_5 23 rfl rfl)
theorem dX3_finds_141 : decode cX3_finds 141 = .ok (.getfield 183, 3) := dk_180 0 183 (dk_at dksX3_finds_6 0 rfl rfl)
theorem dX3_finds_144 : decode cX3_finds 144 = .ok (.iload_n 2, 1) := dk_28 (dk_at dksX3_finds_6 3 rfl rfl)
theorem dX3_finds_145 : decode cX3_finds 145 = .ok (.iastore, 1) := dk_79 (dk_at dksX3_finds_6 4 rfl rfl)
theorem dX3_finds_146 : decode cX3_finds 146 = .ok (.aload_n 0, 1) := dk_42 (dk_at dksX3_finds_6 5 rfl rfl)
theorem dX3_finds_147 : decode cX3_finds 147 = .ok (.getfield 56, 3) := dk_180 0 56 (dk_at dksX3_finds_6 6 rfl rfl)
theorem dX3_finds_150 : decode cX3_finds 150 = .ok (.aload_n 0, 1) := dk_42 (dk_at dksX3_finds_6 9 rfl rfl)
theorem dX3_finds_151 : decode cX3_finds 151 = .ok (.getfield 183, 3) := dk_180 0 183 (dk_at dksX3_finds_6 10 rfl rfl)
theorem dX3_finds_154 : decode cX3_finds 154 = .ok (.aload_n 0, 1) := dk_42 (dk_at dksX3_finds_6 13 rfl rfl)
theorem dX3_finds_155 : decode cX3_finds 155 = .ok (.aload_n 1, 1) := dk_43 (dk_at dksX3_finds_6 14 rfl rfl)
theorem dX3_finds_156 : decode cX3_finds 156 = .ok (.iload_n 2, 1) := dk_28 (dk_at dksX3_finds_6 15 rfl rfl)
theorem dX3_finds_157 : decode cX3_finds 157 = .ok (.invokevirtual 190, 3) := dk_182 0 190 (dk_at dksX3_finds_6 16 rfl rfl)
theorem dX3_finds_160 : decode cX3_finds 160 = .ok (.aastore, 1) := dk_83 (dk_at dksX3_finds_6 19 rfl rfl)
theorem dX3_finds_161 : decode cX3_finds 161 = .ok (.aload_n 0, 1) := dk_42 (dk_at dksX3_finds_6 20 rfl rfl)
theorem dX3_finds_162 : decode cX3_finds 162 = .ok (.dup, 1) := dk_89 (dk_at dksX3_finds_6 21 rfl rfl)
theorem dX3_finds_163 : decode cX3_finds 163 = .ok (.getfield 183, 3) := dk_180 0 183 (dk_at dksX3_finds_7 0 rfl rfl)
theorem dX3_finds_166 : decode cX3_finds 166 = .ok (.iconst 1, 1) := dk_4 (dk_at dksX3_finds_7 3 rfl rfl)
theorem dX3_finds_167 : decode cX3_finds 167 = .ok (.iadd, 1) := dk_96 (dk_at dksX3_finds_7 4 rfl rfl)
theorem dX3_finds_168 : decode cX3_finds 168 = .ok (.putfield 183, 3) := dk_181 0 183 (dk_at dksX3_finds_7 5 rfl rfl)
theorem dX3_finds_171 : decode cX3_finds 171 = .ok (.return_, 1) := dk_177 (dk_at dksX3_finds_7 8 rfl rfl)
abbrev cX3_shrinks : ByteArray := prog_16_method_17_code
def yX3_shrinks : MethodName := ⟨RX3, "shrinks", "(Ljava/lang/String;I)Ljava/lang/String;"⟩
def dkwX3_shrinks_2 : List UInt8 := [153, 0, 9, 25, 6, 78, 4, 54, 4, 132, 5, 1, 167, 255, 215, 167, 255, 201, 45, 176]
abbrev dktX3_shrinks_2 : List UInt8 := dkwX3_shrinks_2 ++ []
def dkwX3_shrinks_1 : List UInt8 := [162, 0, 38, 21, 4, 154, 0, 33, 45, 21, 5, 184, 0, 176, 58, 6, 42, 25, 6, 28, 182, 0, 179]
abbrev dktX3_shrinks_1 : List UInt8 := dkwX3_shrinks_1 ++ dktX3_shrinks_2
def dkwX3_shrinks_0 : List UInt8 := [43, 78, 4, 54, 4, 21, 4, 153, 0, 56, 3, 54, 4, 3, 54, 5, 21, 5, 45, 184, 0, 172]
abbrev dktX3_shrinks_0 : List UInt8 := dkwX3_shrinks_0 ++ dktX3_shrinks_1
theorem dksX3_shrinks_0 : cX3_shrinks.data.toList.drop 0 = dktX3_shrinks_0 := by decide +kernel
theorem dksX3_shrinks_1 : cX3_shrinks.data.toList.drop 22 = dktX3_shrinks_1 := dk_seg dksX3_shrinks_0 22 rfl rfl
theorem dksX3_shrinks_2 : cX3_shrinks.data.toList.drop 45 = dktX3_shrinks_2 := dk_seg dksX3_shrinks_1 23 rfl rfl
theorem dX3_shrinks_0 : decode cX3_shrinks 0 = .ok (.aload_n 1, 1) := dk_43 (dk_at dksX3_shrinks_0 0 rfl rfl)
theorem dX3_shrinks_1 : decode cX3_shrinks 1 = .ok (.astore_n 3, 1) := dk_78 (dk_at dksX3_shrinks_0 1 rfl rfl)
theorem dX3_shrinks_2 : decode cX3_shrinks 2 = .ok (.iconst 1, 1) := dk_4 (dk_at dksX3_shrinks_0 2 rfl rfl)
theorem dX3_shrinks_3 : decode cX3_shrinks 3 = .ok (.istore 4, 2) := dk_54 4 (dk_at dksX3_shrinks_0 3 rfl rfl)
theorem dX3_shrinks_5 : decode cX3_shrinks 5 = .ok (.iload 4, 2) := dk_21 4 (dk_at dksX3_shrinks_0 5 rfl rfl)
theorem dX3_shrinks_7 : decode cX3_shrinks 7 = .ok (.ifCond .eq 56, 3) := dk_153 0 56 (dk_at dksX3_shrinks_0 7 rfl rfl)
theorem dX3_shrinks_10 : decode cX3_shrinks 10 = .ok (.iconst 0, 1) := dk_3 (dk_at dksX3_shrinks_0 10 rfl rfl)
theorem dX3_shrinks_11 : decode cX3_shrinks 11 = .ok (.istore 4, 2) := dk_54 4 (dk_at dksX3_shrinks_0 11 rfl rfl)
theorem dX3_shrinks_13 : decode cX3_shrinks 13 = .ok (.iconst 0, 1) := dk_3 (dk_at dksX3_shrinks_0 13 rfl rfl)
theorem dX3_shrinks_14 : decode cX3_shrinks 14 = .ok (.istore 5, 2) := dk_54 5 (dk_at dksX3_shrinks_0 14 rfl rfl)
theorem dX3_shrinks_16 : decode cX3_shrinks 16 = .ok (.iload 5, 2) := dk_21 5 (dk_at dksX3_shrinks_0 16 rfl rfl)
theorem dX3_shrinks_18 : decode cX3_shrinks 18 = .ok (.aload_n 3, 1) := dk_45 (dk_at dksX3_shrinks_0 18 rfl rfl)
theorem dX3_shrinks_19 : decode cX3_shrinks 19 = .ok (.invokestatic 172, 3) := dk_184 0 172 (dk_at dksX3_shrinks_0 19 rfl rfl)
theorem dX3_shrinks_22 : decode cX3_shrinks 22 = .ok (.if_icmp .ge 38, 3) := dk_162 0 38 (dk_at dksX3_shrinks_1 0 rfl rfl)
theorem dX3_shrinks_25 : decode cX3_shrinks 25 = .ok (.iload 4, 2) := dk_21 4 (dk_at dksX3_shrinks_1 3 rfl rfl)
theorem dX3_shrinks_27 : decode cX3_shrinks 27 = .ok (.ifCond .ne 33, 3) := dk_154 0 33 (dk_at dksX3_shrinks_1 5 rfl rfl)
theorem dX3_shrinks_30 : decode cX3_shrinks 30 = .ok (.aload_n 3, 1) := dk_45 (dk_at dksX3_shrinks_1 8 rfl rfl)
theorem dX3_shrinks_31 : decode cX3_shrinks 31 = .ok (.iload 5, 2) := dk_21 5 (dk_at dksX3_shrinks_1 9 rfl rfl)
theorem dX3_shrinks_33 : decode cX3_shrinks 33 = .ok (.invokestatic 176, 3) := dk_184 0 176 (dk_at dksX3_shrinks_1 11 rfl rfl)
theorem dX3_shrinks_36 : decode cX3_shrinks 36 = .ok (.astore 6, 2) := dk_58 6 (dk_at dksX3_shrinks_1 14 rfl rfl)
theorem dX3_shrinks_38 : decode cX3_shrinks 38 = .ok (.aload_n 0, 1) := dk_42 (dk_at dksX3_shrinks_1 16 rfl rfl)
theorem dX3_shrinks_39 : decode cX3_shrinks 39 = .ok (.aload 6, 2) := dk_25 6 (dk_at dksX3_shrinks_1 17 rfl rfl)
theorem dX3_shrinks_41 : decode cX3_shrinks 41 = .ok (.iload_n 2, 1) := dk_28 (dk_at dksX3_shrinks_1 19 rfl rfl)
theorem dX3_shrinks_42 : decode cX3_shrinks 42 = .ok (.invokevirtual 179, 3) := dk_182 0 179 (dk_at dksX3_shrinks_1 20 rfl rfl)
theorem dX3_shrinks_45 : decode cX3_shrinks 45 = .ok (.ifCond .eq 9, 3) := dk_153 0 9 (dk_at dksX3_shrinks_2 0 rfl rfl)
theorem dX3_shrinks_48 : decode cX3_shrinks 48 = .ok (.aload 6, 2) := dk_25 6 (dk_at dksX3_shrinks_2 3 rfl rfl)
theorem dX3_shrinks_50 : decode cX3_shrinks 50 = .ok (.astore_n 3, 1) := dk_78 (dk_at dksX3_shrinks_2 5 rfl rfl)
theorem dX3_shrinks_51 : decode cX3_shrinks 51 = .ok (.iconst 1, 1) := dk_4 (dk_at dksX3_shrinks_2 6 rfl rfl)
theorem dX3_shrinks_52 : decode cX3_shrinks 52 = .ok (.istore 4, 2) := dk_54 4 (dk_at dksX3_shrinks_2 7 rfl rfl)
theorem dX3_shrinks_54 : decode cX3_shrinks 54 = .ok (.iinc 5 1, 3) := dk_132 5 1 (dk_at dksX3_shrinks_2 9 rfl rfl)
theorem dX3_shrinks_57 : decode cX3_shrinks 57 = .ok (.goto (-41), 3) := dk_167 255 215 (dk_at dksX3_shrinks_2 12 rfl rfl)
theorem dX3_shrinks_60 : decode cX3_shrinks 60 = .ok (.goto (-55), 3) := dk_167 255 201 (dk_at dksX3_shrinks_2 15 rfl rfl)
theorem dX3_shrinks_63 : decode cX3_shrinks 63 = .ok (.aload_n 3, 1) := dk_45 (dk_at dksX3_shrinks_2 18 rfl rfl)
theorem dX3_shrinks_64 : decode cX3_shrinks 64 = .ok (.areturn, 1) := dk_176 (dk_at dksX3_shrinks_2 19 rfl rfl)
abbrev cX3_reductionMany : ByteArray := prog_16_method_14_code
def yX3_reductionMany : MethodName := ⟨RX3, "reductionMany", "(Ljava/lang/String;)I"⟩
def dkwX3_reductionMany_1 : List UInt8 := [96, 60, 132, 2, 1, 167, 255, 234, 27, 172]
abbrev dktX3_reductionMany_1 : List UInt8 := dkwX3_reductionMany_1 ++ []
def dkwX3_reductionMany_0 : List UInt8 := [42, 182, 0, 66, 60, 3, 61, 28, 42, 182, 0, 66, 162, 0, 20, 27, 42, 28, 182, 0, 70, 16, 48, 100]
abbrev dktX3_reductionMany_0 : List UInt8 := dkwX3_reductionMany_0 ++ dktX3_reductionMany_1
theorem dksX3_reductionMany_0 : cX3_reductionMany.data.toList.drop 0 = dktX3_reductionMany_0 := by decide +kernel
theorem dksX3_reductionMany_1 : cX3_reductionMany.data.toList.drop 24 = dktX3_reductionMany_1 := dk_seg dksX3_reductionMany_0 24 rfl rfl
theorem dX3_reductionMany_0 : decode cX3_reductionMany 0 = .ok (.aload_n 0, 1) := dk_42 (dk_at dksX3_reductionMany_0 0 rfl rfl)
theorem dX3_reductionMany_1 : decode cX3_reductionMany 1 = .ok (.invokevirtual 66, 3) := dk_182 0 66 (dk_at dksX3_reductionMany_0 1 rfl rfl)
theorem dX3_reductionMany_4 : decode cX3_reductionMany 4 = .ok (.istore_n 1, 1) := dk_60 (dk_at dksX3_reductionMany_0 4 rfl rfl)
theorem dX3_reductionMany_5 : decode cX3_reductionMany 5 = .ok (.iconst 0, 1) := dk_3 (dk_at dksX3_reductionMany_0 5 rfl rfl)
theorem dX3_reductionMany_6 : decode cX3_reductionMany 6 = .ok (.istore_n 2, 1) := dk_61 (dk_at dksX3_reductionMany_0 6 rfl rfl)
theorem dX3_reductionMany_7 : decode cX3_reductionMany 7 = .ok (.iload_n 2, 1) := dk_28 (dk_at dksX3_reductionMany_0 7 rfl rfl)
theorem dX3_reductionMany_8 : decode cX3_reductionMany 8 = .ok (.aload_n 0, 1) := dk_42 (dk_at dksX3_reductionMany_0 8 rfl rfl)
theorem dX3_reductionMany_9 : decode cX3_reductionMany 9 = .ok (.invokevirtual 66, 3) := dk_182 0 66 (dk_at dksX3_reductionMany_0 9 rfl rfl)
theorem dX3_reductionMany_12 : decode cX3_reductionMany 12 = .ok (.if_icmp .ge 20, 3) := dk_162 0 20 (dk_at dksX3_reductionMany_0 12 rfl rfl)
theorem dX3_reductionMany_15 : decode cX3_reductionMany 15 = .ok (.iload_n 1, 1) := dk_27 (dk_at dksX3_reductionMany_0 15 rfl rfl)
theorem dX3_reductionMany_16 : decode cX3_reductionMany 16 = .ok (.aload_n 0, 1) := dk_42 (dk_at dksX3_reductionMany_0 16 rfl rfl)
theorem dX3_reductionMany_17 : decode cX3_reductionMany 17 = .ok (.iload_n 2, 1) := dk_28 (dk_at dksX3_reductionMany_0 17 rfl rfl)
theorem dX3_reductionMany_18 : decode cX3_reductionMany 18 = .ok (.invokevirtual 70, 3) := dk_182 0 70 (dk_at dksX3_reductionMany_0 18 rfl rfl)
theorem dX3_reductionMany_21 : decode cX3_reductionMany 21 = .ok (.bipush 48, 2) := dk_16 48 (dk_at dksX3_reductionMany_0 21 rfl rfl)
theorem dX3_reductionMany_23 : decode cX3_reductionMany 23 = .ok (.isub, 1) := dk_100 (dk_at dksX3_reductionMany_0 23 rfl rfl)
theorem dX3_reductionMany_24 : decode cX3_reductionMany 24 = .ok (.iadd, 1) := dk_96 (dk_at dksX3_reductionMany_1 0 rfl rfl)
theorem dX3_reductionMany_25 : decode cX3_reductionMany 25 = .ok (.istore_n 1, 1) := dk_60 (dk_at dksX3_reductionMany_1 1 rfl rfl)
theorem dX3_reductionMany_26 : decode cX3_reductionMany 26 = .ok (.iinc 2 1, 3) := dk_132 2 1 (dk_at dksX3_reductionMany_1 2 rfl rfl)
theorem dX3_reductionMany_29 : decode cX3_reductionMany 29 = .ok (.goto (-22), 3) := dk_167 255 234 (dk_at dksX3_reductionMany_1 5 rfl rfl)
theorem dX3_reductionMany_32 : decode cX3_reductionMany 32 = .ok (.iload_n 1, 1) := dk_27 (dk_at dksX3_reductionMany_1 8 rfl rfl)
theorem dX3_reductionMany_33 : decode cX3_reductionMany 33 = .ok (.ireturn, 1) := dk_172 (dk_at dksX3_reductionMany_1 9 rfl rfl)
abbrev cX3_reduction : ByteArray := prog_16_method_15_code
def yX3_reduction : MethodName := ⟨RX3, "reduction", "(Ljava/lang/String;I)Ljava/lang/String;"⟩
def dkwX3_reduction_2 : List UInt8 := [132, 3, 1, 167, 255, 230, 42, 29, 16, 48, 28, 96, 146, 184, 0, 157, 176]
abbrev dktX3_reduction_2 : List UInt8 := dkwX3_reduction_2 ++ []
def dkwX3_reduction_1 : List UInt8 := [42, 29, 182, 0, 70, 16, 48, 100, 161, 0, 20, 28, 42, 29, 182, 0, 70, 16, 48, 100, 100, 61]
abbrev dktX3_reduction_1 : List UInt8 := dkwX3_reduction_1 ++ dktX3_reduction_2
def dkwX3_reduction_0 : List UInt8 := [27, 42, 182, 0, 66, 162, 0, 9, 42, 27, 184, 0, 164, 176, 27, 42, 182, 0, 66, 100, 61, 3, 62, 28]
abbrev dktX3_reduction_0 : List UInt8 := dkwX3_reduction_0 ++ dktX3_reduction_1
theorem dksX3_reduction_0 : cX3_reduction.data.toList.drop 0 = dktX3_reduction_0 := by decide +kernel
theorem dksX3_reduction_1 : cX3_reduction.data.toList.drop 24 = dktX3_reduction_1 := dk_seg dksX3_reduction_0 24 rfl rfl
theorem dksX3_reduction_2 : cX3_reduction.data.toList.drop 46 = dktX3_reduction_2 := dk_seg dksX3_reduction_1 22 rfl rfl
theorem dX3_reduction_0 : decode cX3_reduction 0 = .ok (.iload_n 1, 1) := dk_27 (dk_at dksX3_reduction_0 0 rfl rfl)
theorem dX3_reduction_1 : decode cX3_reduction 1 = .ok (.aload_n 0, 1) := dk_42 (dk_at dksX3_reduction_0 1 rfl rfl)
theorem dX3_reduction_2 : decode cX3_reduction 2 = .ok (.invokevirtual 66, 3) := dk_182 0 66 (dk_at dksX3_reduction_0 2 rfl rfl)
theorem dX3_reduction_5 : decode cX3_reduction 5 = .ok (.if_icmp .ge 9, 3) := dk_162 0 9 (dk_at dksX3_reduction_0 5 rfl rfl)
theorem dX3_reduction_8 : decode cX3_reduction 8 = .ok (.aload_n 0, 1) := dk_42 (dk_at dksX3_reduction_0 8 rfl rfl)
theorem dX3_reduction_9 : decode cX3_reduction 9 = .ok (.iload_n 1, 1) := dk_27 (dk_at dksX3_reduction_0 9 rfl rfl)
theorem dX3_reduction_10 : decode cX3_reduction 10 = .ok (.invokestatic 164, 3) := dk_184 0 164 (dk_at dksX3_reduction_0 10 rfl rfl)
theorem dX3_reduction_13 : decode cX3_reduction 13 = .ok (.areturn, 1) := dk_176 (dk_at dksX3_reduction_0 13 rfl rfl)
theorem dX3_reduction_14 : decode cX3_reduction 14 = .ok (.iload_n 1, 1) := dk_27 (dk_at dksX3_reduction_0 14 rfl rfl)
theorem dX3_reduction_15 : decode cX3_reduction 15 = .ok (.aload_n 0, 1) := dk_42 (dk_at dksX3_reduction_0 15 rfl rfl)
theorem dX3_reduction_16 : decode cX3_reduction 16 = .ok (.invokevirtual 66, 3) := dk_182 0 66 (dk_at dksX3_reduction_0 16 rfl rfl)
theorem dX3_reduction_19 : decode cX3_reduction 19 = .ok (.isub, 1) := dk_100 (dk_at dksX3_reduction_0 19 rfl rfl)
theorem dX3_reduction_20 : decode cX3_reduction 20 = .ok (.istore_n 2, 1) := dk_61 (dk_at dksX3_reduction_0 20 rfl rfl)
theorem dX3_reduction_21 : decode cX3_reduction 21 = .ok (.iconst 0, 1) := dk_3 (dk_at dksX3_reduction_0 21 rfl rfl)
theorem dX3_reduction_22 : decode cX3_reduction 22 = .ok (.istore_n 3, 1) := dk_62 (dk_at dksX3_reduction_0 22 rfl rfl)
theorem dX3_reduction_23 : decode cX3_reduction 23 = .ok (.iload_n 2, 1) := dk_28 (dk_at dksX3_reduction_0 23 rfl rfl)
theorem dX3_reduction_24 : decode cX3_reduction 24 = .ok (.aload_n 0, 1) := dk_42 (dk_at dksX3_reduction_1 0 rfl rfl)
theorem dX3_reduction_25 : decode cX3_reduction 25 = .ok (.iload_n 3, 1) := dk_29 (dk_at dksX3_reduction_1 1 rfl rfl)
theorem dX3_reduction_26 : decode cX3_reduction 26 = .ok (.invokevirtual 70, 3) := dk_182 0 70 (dk_at dksX3_reduction_1 2 rfl rfl)
theorem dX3_reduction_29 : decode cX3_reduction 29 = .ok (.bipush 48, 2) := dk_16 48 (dk_at dksX3_reduction_1 5 rfl rfl)
theorem dX3_reduction_31 : decode cX3_reduction 31 = .ok (.isub, 1) := dk_100 (dk_at dksX3_reduction_1 7 rfl rfl)
theorem dX3_reduction_32 : decode cX3_reduction 32 = .ok (.if_icmp .lt 20, 3) := dk_161 0 20 (dk_at dksX3_reduction_1 8 rfl rfl)
theorem dX3_reduction_35 : decode cX3_reduction 35 = .ok (.iload_n 2, 1) := dk_28 (dk_at dksX3_reduction_1 11 rfl rfl)
theorem dX3_reduction_36 : decode cX3_reduction 36 = .ok (.aload_n 0, 1) := dk_42 (dk_at dksX3_reduction_1 12 rfl rfl)
theorem dX3_reduction_37 : decode cX3_reduction 37 = .ok (.iload_n 3, 1) := dk_29 (dk_at dksX3_reduction_1 13 rfl rfl)
theorem dX3_reduction_38 : decode cX3_reduction 38 = .ok (.invokevirtual 70, 3) := dk_182 0 70 (dk_at dksX3_reduction_1 14 rfl rfl)
theorem dX3_reduction_41 : decode cX3_reduction 41 = .ok (.bipush 48, 2) := dk_16 48 (dk_at dksX3_reduction_1 17 rfl rfl)
theorem dX3_reduction_43 : decode cX3_reduction 43 = .ok (.isub, 1) := dk_100 (dk_at dksX3_reduction_1 19 rfl rfl)
theorem dX3_reduction_44 : decode cX3_reduction 44 = .ok (.isub, 1) := dk_100 (dk_at dksX3_reduction_1 20 rfl rfl)
theorem dX3_reduction_45 : decode cX3_reduction 45 = .ok (.istore_n 2, 1) := dk_61 (dk_at dksX3_reduction_1 21 rfl rfl)
theorem dX3_reduction_46 : decode cX3_reduction 46 = .ok (.iinc 3 1, 3) := dk_132 3 1 (dk_at dksX3_reduction_2 0 rfl rfl)
theorem dX3_reduction_49 : decode cX3_reduction 49 = .ok (.goto (-26), 3) := dk_167 255 230 (dk_at dksX3_reduction_2 3 rfl rfl)
theorem dX3_reduction_52 : decode cX3_reduction 52 = .ok (.aload_n 0, 1) := dk_42 (dk_at dksX3_reduction_2 6 rfl rfl)
theorem dX3_reduction_53 : decode cX3_reduction 53 = .ok (.iload_n 3, 1) := dk_29 (dk_at dksX3_reduction_2 7 rfl rfl)
theorem dX3_reduction_54 : decode cX3_reduction 54 = .ok (.bipush 48, 2) := dk_16 48 (dk_at dksX3_reduction_2 8 rfl rfl)
theorem dX3_reduction_56 : decode cX3_reduction 56 = .ok (.iload_n 2, 1) := dk_28 (dk_at dksX3_reduction_2 10 rfl rfl)
theorem dX3_reduction_57 : decode cX3_reduction 57 = .ok (.iadd, 1) := dk_96 (dk_at dksX3_reduction_2 11 rfl rfl)
theorem dX3_reduction_58 : decode cX3_reduction 58 = .ok (.i2c, 1) := dk_146 (dk_at dksX3_reduction_2 12 rfl rfl)
theorem dX3_reduction_59 : decode cX3_reduction 59 = .ok (.invokestatic 157, 3) := dk_184 0 157 (dk_at dksX3_reduction_2 13 rfl rfl)
theorem dX3_reduction_62 : decode cX3_reduction 62 = .ok (.areturn, 1) := dk_176 (dk_at dksX3_reduction_2 16 rfl rfl)
abbrev cX3_without : ByteArray := prog_16_method_9_code
def yX3_without : MethodName := ⟨RX3, "without", "(Ljava/lang/String;I)Ljava/lang/String;"⟩
def dkwX3_without_1 : List UInt8 := [42, 29, 182, 0, 70, 182, 0, 136, 87, 132, 3, 1, 167, 255, 230, 44, 182, 0, 140, 176]
abbrev dktX3_without_1 : List UInt8 := dkwX3_without_1 ++ []
def dkwX3_without_0 : List UInt8 := [187, 0, 133, 89, 183, 0, 135, 77, 3, 62, 29, 42, 182, 0, 66, 162, 0, 24, 29, 27, 159, 0, 13, 44]
abbrev dktX3_without_0 : List UInt8 := dkwX3_without_0 ++ dktX3_without_1
theorem dksX3_without_0 : cX3_without.data.toList.drop 0 = dktX3_without_0 := by decide +kernel
theorem dksX3_without_1 : cX3_without.data.toList.drop 24 = dktX3_without_1 := dk_seg dksX3_without_0 24 rfl rfl
theorem dX3_without_0 : decode cX3_without 0 = .ok (.new 133, 3) := dk_187 0 133 (dk_at dksX3_without_0 0 rfl rfl)
theorem dX3_without_3 : decode cX3_without 3 = .ok (.dup, 1) := dk_89 (dk_at dksX3_without_0 3 rfl rfl)
theorem dX3_without_4 : decode cX3_without 4 = .ok (.invokespecial 135, 3) := dk_183 0 135 (dk_at dksX3_without_0 4 rfl rfl)
theorem dX3_without_7 : decode cX3_without 7 = .ok (.astore_n 2, 1) := dk_77 (dk_at dksX3_without_0 7 rfl rfl)
theorem dX3_without_8 : decode cX3_without 8 = .ok (.iconst 0, 1) := dk_3 (dk_at dksX3_without_0 8 rfl rfl)
theorem dX3_without_9 : decode cX3_without 9 = .ok (.istore_n 3, 1) := dk_62 (dk_at dksX3_without_0 9 rfl rfl)
theorem dX3_without_10 : decode cX3_without 10 = .ok (.iload_n 3, 1) := dk_29 (dk_at dksX3_without_0 10 rfl rfl)
theorem dX3_without_11 : decode cX3_without 11 = .ok (.aload_n 0, 1) := dk_42 (dk_at dksX3_without_0 11 rfl rfl)
theorem dX3_without_12 : decode cX3_without 12 = .ok (.invokevirtual 66, 3) := dk_182 0 66 (dk_at dksX3_without_0 12 rfl rfl)
theorem dX3_without_15 : decode cX3_without 15 = .ok (.if_icmp .ge 24, 3) := dk_162 0 24 (dk_at dksX3_without_0 15 rfl rfl)
theorem dX3_without_18 : decode cX3_without 18 = .ok (.iload_n 3, 1) := dk_29 (dk_at dksX3_without_0 18 rfl rfl)
theorem dX3_without_19 : decode cX3_without 19 = .ok (.iload_n 1, 1) := dk_27 (dk_at dksX3_without_0 19 rfl rfl)
theorem dX3_without_20 : decode cX3_without 20 = .ok (.if_icmp .eq 13, 3) := dk_159 0 13 (dk_at dksX3_without_0 20 rfl rfl)
theorem dX3_without_23 : decode cX3_without 23 = .ok (.aload_n 2, 1) := dk_44 (dk_at dksX3_without_0 23 rfl rfl)
theorem dX3_without_24 : decode cX3_without 24 = .ok (.aload_n 0, 1) := dk_42 (dk_at dksX3_without_1 0 rfl rfl)
theorem dX3_without_25 : decode cX3_without 25 = .ok (.iload_n 3, 1) := dk_29 (dk_at dksX3_without_1 1 rfl rfl)
theorem dX3_without_26 : decode cX3_without 26 = .ok (.invokevirtual 70, 3) := dk_182 0 70 (dk_at dksX3_without_1 2 rfl rfl)
theorem dX3_without_29 : decode cX3_without 29 = .ok (.invokevirtual 136, 3) := dk_182 0 136 (dk_at dksX3_without_1 5 rfl rfl)
theorem dX3_without_32 : decode cX3_without 32 = .ok (.pop, 1) := dk_87 (dk_at dksX3_without_1 8 rfl rfl)
theorem dX3_without_33 : decode cX3_without 33 = .ok (.iinc 3 1, 3) := dk_132 3 1 (dk_at dksX3_without_1 9 rfl rfl)
theorem dX3_without_36 : decode cX3_without 36 = .ok (.goto (-26), 3) := dk_167 255 230 (dk_at dksX3_without_1 12 rfl rfl)
theorem dX3_without_39 : decode cX3_without 39 = .ok (.aload_n 2, 1) := dk_44 (dk_at dksX3_without_1 15 rfl rfl)
theorem dX3_without_40 : decode cX3_without 40 = .ok (.invokevirtual 140, 3) := dk_182 0 140 (dk_at dksX3_without_1 16 rfl rfl)
theorem dX3_without_43 : decode cX3_without 43 = .ok (.areturn, 1) := dk_176 (dk_at dksX3_without_1 19 rfl rfl)
abbrev cX3_with : ByteArray := prog_16_method_10_code
def yX3_with : MethodName := ⟨RX3, "with", "(Ljava/lang/String;IC)Ljava/lang/String;"⟩
def dkwX3_with_2 : List UInt8 := [182, 0, 140, 176]
abbrev dktX3_with_2 : List UInt8 := dkwX3_with_2 ++ []
def dkwX3_with_1 : List UInt8 := [160, 0, 7, 28, 167, 0, 9, 42, 21, 4, 182, 0, 70, 182, 0, 136, 87, 132, 4, 1, 167, 255, 223, 45]
abbrev dktX3_with_1 : List UInt8 := dkwX3_with_1 ++ dktX3_with_2
def dkwX3_with_0 : List UInt8 := [187, 0, 133, 89, 183, 0, 135, 78, 3, 54, 4, 21, 4, 42, 182, 0, 66, 162, 0, 30, 45, 21, 4, 27]
abbrev dktX3_with_0 : List UInt8 := dkwX3_with_0 ++ dktX3_with_1
theorem dksX3_with_0 : cX3_with.data.toList.drop 0 = dktX3_with_0 := by decide +kernel
theorem dksX3_with_1 : cX3_with.data.toList.drop 24 = dktX3_with_1 := dk_seg dksX3_with_0 24 rfl rfl
theorem dksX3_with_2 : cX3_with.data.toList.drop 48 = dktX3_with_2 := dk_seg dksX3_with_1 24 rfl rfl
theorem dX3_with_0 : decode cX3_with 0 = .ok (.new 133, 3) := dk_187 0 133 (dk_at dksX3_with_0 0 rfl rfl)
theorem dX3_with_3 : decode cX3_with 3 = .ok (.dup, 1) := dk_89 (dk_at dksX3_with_0 3 rfl rfl)
theorem dX3_with_4 : decode cX3_with 4 = .ok (.invokespecial 135, 3) := dk_183 0 135 (dk_at dksX3_with_0 4 rfl rfl)
theorem dX3_with_7 : decode cX3_with 7 = .ok (.astore_n 3, 1) := dk_78 (dk_at dksX3_with_0 7 rfl rfl)
theorem dX3_with_8 : decode cX3_with 8 = .ok (.iconst 0, 1) := dk_3 (dk_at dksX3_with_0 8 rfl rfl)
theorem dX3_with_9 : decode cX3_with 9 = .ok (.istore 4, 2) := dk_54 4 (dk_at dksX3_with_0 9 rfl rfl)
theorem dX3_with_11 : decode cX3_with 11 = .ok (.iload 4, 2) := dk_21 4 (dk_at dksX3_with_0 11 rfl rfl)
theorem dX3_with_13 : decode cX3_with 13 = .ok (.aload_n 0, 1) := dk_42 (dk_at dksX3_with_0 13 rfl rfl)
theorem dX3_with_14 : decode cX3_with 14 = .ok (.invokevirtual 66, 3) := dk_182 0 66 (dk_at dksX3_with_0 14 rfl rfl)
theorem dX3_with_17 : decode cX3_with 17 = .ok (.if_icmp .ge 30, 3) := dk_162 0 30 (dk_at dksX3_with_0 17 rfl rfl)
theorem dX3_with_20 : decode cX3_with 20 = .ok (.aload_n 3, 1) := dk_45 (dk_at dksX3_with_0 20 rfl rfl)
theorem dX3_with_21 : decode cX3_with 21 = .ok (.iload 4, 2) := dk_21 4 (dk_at dksX3_with_0 21 rfl rfl)
theorem dX3_with_23 : decode cX3_with 23 = .ok (.iload_n 1, 1) := dk_27 (dk_at dksX3_with_0 23 rfl rfl)
theorem dX3_with_24 : decode cX3_with 24 = .ok (.if_icmp .ne 7, 3) := dk_160 0 7 (dk_at dksX3_with_1 0 rfl rfl)
theorem dX3_with_27 : decode cX3_with 27 = .ok (.iload_n 2, 1) := dk_28 (dk_at dksX3_with_1 3 rfl rfl)
theorem dX3_with_28 : decode cX3_with 28 = .ok (.goto 9, 3) := dk_167 0 9 (dk_at dksX3_with_1 4 rfl rfl)
theorem dX3_with_31 : decode cX3_with 31 = .ok (.aload_n 0, 1) := dk_42 (dk_at dksX3_with_1 7 rfl rfl)
theorem dX3_with_32 : decode cX3_with 32 = .ok (.iload 4, 2) := dk_21 4 (dk_at dksX3_with_1 8 rfl rfl)
theorem dX3_with_34 : decode cX3_with 34 = .ok (.invokevirtual 70, 3) := dk_182 0 70 (dk_at dksX3_with_1 10 rfl rfl)
theorem dX3_with_37 : decode cX3_with 37 = .ok (.invokevirtual 136, 3) := dk_182 0 136 (dk_at dksX3_with_1 13 rfl rfl)
theorem dX3_with_40 : decode cX3_with 40 = .ok (.pop, 1) := dk_87 (dk_at dksX3_with_1 16 rfl rfl)
theorem dX3_with_41 : decode cX3_with 41 = .ok (.iinc 4 1, 3) := dk_132 4 1 (dk_at dksX3_with_1 17 rfl rfl)
theorem dX3_with_44 : decode cX3_with 44 = .ok (.goto (-33), 3) := dk_167 255 223 (dk_at dksX3_with_1 20 rfl rfl)
theorem dX3_with_47 : decode cX3_with 47 = .ok (.aload_n 3, 1) := dk_45 (dk_at dksX3_with_1 23 rfl rfl)
theorem dX3_with_48 : decode cX3_with 48 = .ok (.invokevirtual 140, 3) := dk_182 0 140 (dk_at dksX3_with_2 0 rfl rfl)
theorem dX3_with_51 : decode cX3_with 51 = .ok (.areturn, 1) := dk_176 (dk_at dksX3_with_2 3 rfl rfl)
abbrev cX3_failsWith : ByteArray := prog_16_method_16_code
def yX3_failsWith : MethodName := ⟨RX3, "failsWith", "(Ljava/lang/String;I)Z"⟩
def dkwX3_failsWith_1 : List UInt8 := [167, 0, 4, 3, 172]
abbrev dktX3_failsWith_1 : List UInt8 := dkwX3_failsWith_1 ++ []
def dkwX3_failsWith_0 : List UInt8 := [42, 43, 182, 0, 168, 42, 180, 0, 96, 4, 160, 0, 15, 42, 180, 0, 99, 28, 160, 0, 7, 4]
abbrev dktX3_failsWith_0 : List UInt8 := dkwX3_failsWith_0 ++ dktX3_failsWith_1
theorem dksX3_failsWith_0 : cX3_failsWith.data.toList.drop 0 = dktX3_failsWith_0 := by decide +kernel
theorem dksX3_failsWith_1 : cX3_failsWith.data.toList.drop 22 = dktX3_failsWith_1 := dk_seg dksX3_failsWith_0 22 rfl rfl
theorem dX3_failsWith_0 : decode cX3_failsWith 0 = .ok (.aload_n 0, 1) := dk_42 (dk_at dksX3_failsWith_0 0 rfl rfl)
theorem dX3_failsWith_1 : decode cX3_failsWith 1 = .ok (.aload_n 1, 1) := dk_43 (dk_at dksX3_failsWith_0 1 rfl rfl)
theorem dX3_failsWith_2 : decode cX3_failsWith 2 = .ok (.invokevirtual 168, 3) := dk_182 0 168 (dk_at dksX3_failsWith_0 2 rfl rfl)
theorem dX3_failsWith_5 : decode cX3_failsWith 5 = .ok (.aload_n 0, 1) := dk_42 (dk_at dksX3_failsWith_0 5 rfl rfl)
theorem dX3_failsWith_6 : decode cX3_failsWith 6 = .ok (.getfield 96, 3) := dk_180 0 96 (dk_at dksX3_failsWith_0 6 rfl rfl)
theorem dX3_failsWith_9 : decode cX3_failsWith 9 = .ok (.iconst 1, 1) := dk_4 (dk_at dksX3_failsWith_0 9 rfl rfl)
theorem dX3_failsWith_10 : decode cX3_failsWith 10 = .ok (.if_icmp .ne 15, 3) := dk_160 0 15 (dk_at dksX3_failsWith_0 10 rfl rfl)
theorem dX3_failsWith_13 : decode cX3_failsWith 13 = .ok (.aload_n 0, 1) := dk_42 (dk_at dksX3_failsWith_0 13 rfl rfl)
theorem dX3_failsWith_14 : decode cX3_failsWith 14 = .ok (.getfield 99, 3) := dk_180 0 99 (dk_at dksX3_failsWith_0 14 rfl rfl)
theorem dX3_failsWith_17 : decode cX3_failsWith 17 = .ok (.iload_n 2, 1) := dk_28 (dk_at dksX3_failsWith_0 17 rfl rfl)
theorem dX3_failsWith_18 : decode cX3_failsWith 18 = .ok (.if_icmp .ne 7, 3) := dk_160 0 7 (dk_at dksX3_failsWith_0 18 rfl rfl)
theorem dX3_failsWith_21 : decode cX3_failsWith 21 = .ok (.iconst 1, 1) := dk_4 (dk_at dksX3_failsWith_0 21 rfl rfl)
theorem dX3_failsWith_22 : decode cX3_failsWith 22 = .ok (.goto 4, 3) := dk_167 0 4 (dk_at dksX3_failsWith_1 0 rfl rfl)
theorem dX3_failsWith_25 : decode cX3_failsWith 25 = .ok (.iconst 0, 1) := dk_3 (dk_at dksX3_failsWith_1 3 rfl rfl)
theorem dX3_failsWith_26 : decode cX3_failsWith 26 = .ok (.ireturn, 1) := dk_172 (dk_at dksX3_failsWith_1 4 rfl rfl)
abbrev cX3_takeDerived : ByteArray := prog_16_method_29_code
def yX3_takeDerived : MethodName := ⟨RX3, "takeDerived", "(I)Z"⟩
def dkwX3_takeDerived_1 : List UInt8 := [167, 0, 4, 3, 172]
abbrev dktX3_takeDerived_1 : List UInt8 := dkwX3_takeDerived_1 ++ []
def dkwX3_takeDerived_0 : List UInt8 := [42, 27, 182, 1, 6, 77, 42, 180, 0, 62, 154, 0, 15, 42, 44, 182, 1, 3, 153, 0, 7, 4]
abbrev dktX3_takeDerived_0 : List UInt8 := dkwX3_takeDerived_0 ++ dktX3_takeDerived_1
theorem dksX3_takeDerived_0 : cX3_takeDerived.data.toList.drop 0 = dktX3_takeDerived_0 := by decide +kernel
theorem dksX3_takeDerived_1 : cX3_takeDerived.data.toList.drop 22 = dktX3_takeDerived_1 := dk_seg dksX3_takeDerived_0 22 rfl rfl
theorem dX3_takeDerived_0 : decode cX3_takeDerived 0 = .ok (.aload_n 0, 1) := dk_42 (dk_at dksX3_takeDerived_0 0 rfl rfl)
theorem dX3_takeDerived_1 : decode cX3_takeDerived 1 = .ok (.iload_n 1, 1) := dk_27 (dk_at dksX3_takeDerived_0 1 rfl rfl)
theorem dX3_takeDerived_2 : decode cX3_takeDerived 2 = .ok (.invokevirtual 262, 3) := dk_182 1 6 (dk_at dksX3_takeDerived_0 2 rfl rfl)
theorem dX3_takeDerived_5 : decode cX3_takeDerived 5 = .ok (.astore_n 2, 1) := dk_77 (dk_at dksX3_takeDerived_0 5 rfl rfl)
theorem dX3_takeDerived_6 : decode cX3_takeDerived 6 = .ok (.aload_n 0, 1) := dk_42 (dk_at dksX3_takeDerived_0 6 rfl rfl)
theorem dX3_takeDerived_7 : decode cX3_takeDerived 7 = .ok (.getfield 62, 3) := dk_180 0 62 (dk_at dksX3_takeDerived_0 7 rfl rfl)
theorem dX3_takeDerived_10 : decode cX3_takeDerived 10 = .ok (.ifCond .ne 15, 3) := dk_154 0 15 (dk_at dksX3_takeDerived_0 10 rfl rfl)
theorem dX3_takeDerived_13 : decode cX3_takeDerived 13 = .ok (.aload_n 0, 1) := dk_42 (dk_at dksX3_takeDerived_0 13 rfl rfl)
theorem dX3_takeDerived_14 : decode cX3_takeDerived 14 = .ok (.aload_n 2, 1) := dk_44 (dk_at dksX3_takeDerived_0 14 rfl rfl)
theorem dX3_takeDerived_15 : decode cX3_takeDerived 15 = .ok (.invokevirtual 259, 3) := dk_182 1 3 (dk_at dksX3_takeDerived_0 15 rfl rfl)
theorem dX3_takeDerived_18 : decode cX3_takeDerived 18 = .ok (.ifCond .eq 7, 3) := dk_153 0 7 (dk_at dksX3_takeDerived_0 18 rfl rfl)
theorem dX3_takeDerived_21 : decode cX3_takeDerived 21 = .ok (.iconst 1, 1) := dk_4 (dk_at dksX3_takeDerived_0 21 rfl rfl)
theorem dX3_takeDerived_22 : decode cX3_takeDerived 22 = .ok (.goto 4, 3) := dk_167 0 4 (dk_at dksX3_takeDerived_1 0 rfl rfl)
theorem dX3_takeDerived_25 : decode cX3_takeDerived 25 = .ok (.iconst 0, 1) := dk_3 (dk_at dksX3_takeDerived_1 3 rfl rfl)
theorem dX3_takeDerived_26 : decode cX3_takeDerived 26 = .ok (.ireturn, 1) := dk_172 (dk_at dksX3_takeDerived_1 4 rfl rfl)
abbrev cX3_goOn : ByteArray := prog_16_method_30_code
def yX3_goOn : MethodName := ⟨RX3, "goOn", "(I)I"⟩
def dkwX3_goOn_7 : List UInt8 := [96, 181, 1, 12, 42, 3, 181, 1, 15, 167, 255, 117, 28, 172]
abbrev dktX3_goOn_7 : List UInt8 := dkwX3_goOn_7 ++ []
def dkwX3_goOn_6 : List UInt8 := [182, 1, 3, 87, 132, 2, 1, 42, 180, 1, 15, 42, 180, 0, 235, 161, 255, 135, 42, 89, 180, 1, 12, 4]
abbrev dktX3_goOn_6 : List UInt8 := dkwX3_goOn_6 ++ dktX3_goOn_7
def dkwX3_goOn_5 : List UInt8 := [180, 0, 25, 29, 46, 42, 180, 0, 28, 29, 46, 42, 180, 0, 50, 42, 180, 1, 12, 50, 184, 1, 22]
abbrev dktX3_goOn_5 : List UInt8 := dkwX3_goOn_5 ++ dktX3_goOn_6
def dkwX3_goOn_4 : List UInt8 := [180, 0, 50, 42, 180, 1, 12, 50, 184, 1, 18, 153, 0, 41, 42, 42, 180, 0, 22, 29, 46, 42]
abbrev dktX3_goOn_4 : List UInt8 := dkwX3_goOn_4 ++ dktX3_goOn_5
def dkwX3_goOn_3 : List UInt8 := [4, 96, 181, 1, 15, 42, 180, 0, 22, 29, 46, 42, 180, 0, 25, 29, 46, 42, 180, 0, 28, 29, 46, 42]
abbrev dktX3_goOn_3 : List UInt8 := dkwX3_goOn_3 ++ dktX3_goOn_4
def dkwX3_goOn_2 : List UInt8 := [162, 0, 129, 42, 180, 1, 15, 42, 180, 0, 235, 162, 0, 89, 42, 180, 1, 15, 62, 42, 89, 180, 1, 15]
abbrev dktX3_goOn_2 : List UInt8 := dkwX3_goOn_2 ++ dktX3_goOn_3
def dkwX3_goOn_1 : List UInt8 := [180, 0, 62, 158, 0, 5, 2, 172, 3, 61, 42, 180, 1, 12, 42, 180, 0, 199, 162, 0, 134, 28, 27]
abbrev dktX3_goOn_1 : List UInt8 := dkwX3_goOn_1 ++ dktX3_goOn_2
def dkwX3_goOn_0 : List UInt8 := [42, 27, 133, 10, 20, 1, 10, 184, 0, 213, 153, 0, 7, 3, 167, 0, 4, 4, 181, 0, 62, 42]
abbrev dktX3_goOn_0 : List UInt8 := dkwX3_goOn_0 ++ dktX3_goOn_1
theorem dksX3_goOn_0 : cX3_goOn.data.toList.drop 0 = dktX3_goOn_0 := by decide +kernel
theorem dksX3_goOn_1 : cX3_goOn.data.toList.drop 22 = dktX3_goOn_1 := dk_seg dksX3_goOn_0 22 rfl rfl
theorem dksX3_goOn_2 : cX3_goOn.data.toList.drop 45 = dktX3_goOn_2 := dk_seg dksX3_goOn_1 23 rfl rfl
theorem dksX3_goOn_3 : cX3_goOn.data.toList.drop 69 = dktX3_goOn_3 := dk_seg dksX3_goOn_2 24 rfl rfl
theorem dksX3_goOn_4 : cX3_goOn.data.toList.drop 93 = dktX3_goOn_4 := dk_seg dksX3_goOn_3 24 rfl rfl
theorem dksX3_goOn_5 : cX3_goOn.data.toList.drop 115 = dktX3_goOn_5 := dk_seg dksX3_goOn_4 22 rfl rfl
theorem dksX3_goOn_6 : cX3_goOn.data.toList.drop 138 = dktX3_goOn_6 := dk_seg dksX3_goOn_5 23 rfl rfl
theorem dksX3_goOn_7 : cX3_goOn.data.toList.drop 162 = dktX3_goOn_7 := dk_seg dksX3_goOn_6 24 rfl rfl
theorem dX3_goOn_0 : decode cX3_goOn 0 = .ok (.aload_n 0, 1) := dk_42 (dk_at dksX3_goOn_0 0 rfl rfl)
theorem dX3_goOn_1 : decode cX3_goOn 1 = .ok (.iload_n 1, 1) := dk_27 (dk_at dksX3_goOn_0 1 rfl rfl)
theorem dX3_goOn_2 : decode cX3_goOn 2 = .ok (.i2l, 1) := dk_133 (dk_at dksX3_goOn_0 2 rfl rfl)
theorem dX3_goOn_3 : decode cX3_goOn 3 = .ok (.lconst 1, 1) := dk_10 (dk_at dksX3_goOn_0 3 rfl rfl)
theorem dX3_goOn_4 : decode cX3_goOn 4 = .ok (.ldc2_w 266, 3) := dk_20 1 10 (dk_at dksX3_goOn_0 4 rfl rfl)
theorem dX3_goOn_7 : decode cX3_goOn 7 = .ok (.invokestatic 213, 3) := dk_184 0 213 (dk_at dksX3_goOn_0 7 rfl rfl)
theorem dX3_goOn_10 : decode cX3_goOn 10 = .ok (.ifCond .eq 7, 3) := dk_153 0 7 (dk_at dksX3_goOn_0 10 rfl rfl)
theorem dX3_goOn_13 : decode cX3_goOn 13 = .ok (.iconst 0, 1) := dk_3 (dk_at dksX3_goOn_0 13 rfl rfl)
theorem dX3_goOn_14 : decode cX3_goOn 14 = .ok (.goto 4, 3) := dk_167 0 4 (dk_at dksX3_goOn_0 14 rfl rfl)
theorem dX3_goOn_17 : decode cX3_goOn 17 = .ok (.iconst 1, 1) := dk_4 (dk_at dksX3_goOn_0 17 rfl rfl)
theorem dX3_goOn_18 : decode cX3_goOn 18 = .ok (.putfield 62, 3) := dk_181 0 62 (dk_at dksX3_goOn_0 18 rfl rfl)
theorem dX3_goOn_21 : decode cX3_goOn 21 = .ok (.aload_n 0, 1) := dk_42 (dk_at dksX3_goOn_0 21 rfl rfl)
theorem dX3_goOn_22 : decode cX3_goOn 22 = .ok (.getfield 62, 3) := dk_180 0 62 (dk_at dksX3_goOn_1 0 rfl rfl)
theorem dX3_goOn_25 : decode cX3_goOn 25 = .ok (.ifCond .le 5, 3) := dk_158 0 5 (dk_at dksX3_goOn_1 3 rfl rfl)
theorem dX3_goOn_28 : decode cX3_goOn 28 = .ok (.iconst (-1), 1) := dk_2 (dk_at dksX3_goOn_1 6 rfl rfl)
theorem dX3_goOn_29 : decode cX3_goOn 29 = .ok (.ireturn, 1) := dk_172 (dk_at dksX3_goOn_1 7 rfl rfl)
theorem dX3_goOn_30 : decode cX3_goOn 30 = .ok (.iconst 0, 1) := dk_3 (dk_at dksX3_goOn_1 8 rfl rfl)
theorem dX3_goOn_31 : decode cX3_goOn 31 = .ok (.istore_n 2, 1) := dk_61 (dk_at dksX3_goOn_1 9 rfl rfl)
theorem dX3_goOn_32 : decode cX3_goOn 32 = .ok (.aload_n 0, 1) := dk_42 (dk_at dksX3_goOn_1 10 rfl rfl)
theorem dX3_goOn_33 : decode cX3_goOn 33 = .ok (.getfield 268, 3) := dk_180 1 12 (dk_at dksX3_goOn_1 11 rfl rfl)
theorem dX3_goOn_36 : decode cX3_goOn 36 = .ok (.aload_n 0, 1) := dk_42 (dk_at dksX3_goOn_1 14 rfl rfl)
theorem dX3_goOn_37 : decode cX3_goOn 37 = .ok (.getfield 199, 3) := dk_180 0 199 (dk_at dksX3_goOn_1 15 rfl rfl)
theorem dX3_goOn_40 : decode cX3_goOn 40 = .ok (.if_icmp .ge 134, 3) := dk_162 0 134 (dk_at dksX3_goOn_1 18 rfl rfl)
theorem dX3_goOn_43 : decode cX3_goOn 43 = .ok (.iload_n 2, 1) := dk_28 (dk_at dksX3_goOn_1 21 rfl rfl)
theorem dX3_goOn_44 : decode cX3_goOn 44 = .ok (.iload_n 1, 1) := dk_27 (dk_at dksX3_goOn_1 22 rfl rfl)
theorem dX3_goOn_45 : decode cX3_goOn 45 = .ok (.if_icmp .ge 129, 3) := dk_162 0 129 (dk_at dksX3_goOn_2 0 rfl rfl)
theorem dX3_goOn_48 : decode cX3_goOn 48 = .ok (.aload_n 0, 1) := dk_42 (dk_at dksX3_goOn_2 3 rfl rfl)
theorem dX3_goOn_49 : decode cX3_goOn 49 = .ok (.getfield 271, 3) := dk_180 1 15 (dk_at dksX3_goOn_2 4 rfl rfl)
theorem dX3_goOn_52 : decode cX3_goOn 52 = .ok (.aload_n 0, 1) := dk_42 (dk_at dksX3_goOn_2 7 rfl rfl)
theorem dX3_goOn_53 : decode cX3_goOn 53 = .ok (.getfield 235, 3) := dk_180 0 235 (dk_at dksX3_goOn_2 8 rfl rfl)
theorem dX3_goOn_56 : decode cX3_goOn 56 = .ok (.if_icmp .ge 89, 3) := dk_162 0 89 (dk_at dksX3_goOn_2 11 rfl rfl)
theorem dX3_goOn_59 : decode cX3_goOn 59 = .ok (.aload_n 0, 1) := dk_42 (dk_at dksX3_goOn_2 14 rfl rfl)
theorem dX3_goOn_60 : decode cX3_goOn 60 = .ok (.getfield 271, 3) := dk_180 1 15 (dk_at dksX3_goOn_2 15 rfl rfl)
theorem dX3_goOn_63 : decode cX3_goOn 63 = .ok (.istore_n 3, 1) := dk_62 (dk_at dksX3_goOn_2 18 rfl rfl)
theorem dX3_goOn_64 : decode cX3_goOn 64 = .ok (.aload_n 0, 1) := dk_42 (dk_at dksX3_goOn_2 19 rfl rfl)
theorem dX3_goOn_65 : decode cX3_goOn 65 = .ok (.dup, 1) := dk_89 (dk_at dksX3_goOn_2 20 rfl rfl)
theorem dX3_goOn_66 : decode cX3_goOn 66 = .ok (.getfield 271, 3) := dk_180 1 15 (dk_at dksX3_goOn_2 21 rfl rfl)
theorem dX3_goOn_69 : decode cX3_goOn 69 = .ok (.iconst 1, 1) := dk_4 (dk_at dksX3_goOn_3 0 rfl rfl)
theorem dX3_goOn_70 : decode cX3_goOn 70 = .ok (.iadd, 1) := dk_96 (dk_at dksX3_goOn_3 1 rfl rfl)
theorem dX3_goOn_71 : decode cX3_goOn 71 = .ok (.putfield 271, 3) := dk_181 1 15 (dk_at dksX3_goOn_3 2 rfl rfl)
theorem dX3_goOn_74 : decode cX3_goOn 74 = .ok (.aload_n 0, 1) := dk_42 (dk_at dksX3_goOn_3 5 rfl rfl)
theorem dX3_goOn_75 : decode cX3_goOn 75 = .ok (.getfield 22, 3) := dk_180 0 22 (dk_at dksX3_goOn_3 6 rfl rfl)
theorem dX3_goOn_78 : decode cX3_goOn 78 = .ok (.iload_n 3, 1) := dk_29 (dk_at dksX3_goOn_3 9 rfl rfl)
theorem dX3_goOn_79 : decode cX3_goOn 79 = .ok (.iaload, 1) := dk_46 (dk_at dksX3_goOn_3 10 rfl rfl)
theorem dX3_goOn_80 : decode cX3_goOn 80 = .ok (.aload_n 0, 1) := dk_42 (dk_at dksX3_goOn_3 11 rfl rfl)
theorem dX3_goOn_81 : decode cX3_goOn 81 = .ok (.getfield 25, 3) := dk_180 0 25 (dk_at dksX3_goOn_3 12 rfl rfl)
theorem dX3_goOn_84 : decode cX3_goOn 84 = .ok (.iload_n 3, 1) := dk_29 (dk_at dksX3_goOn_3 15 rfl rfl)
theorem dX3_goOn_85 : decode cX3_goOn 85 = .ok (.iaload, 1) := dk_46 (dk_at dksX3_goOn_3 16 rfl rfl)
theorem dX3_goOn_86 : decode cX3_goOn 86 = .ok (.aload_n 0, 1) := dk_42 (dk_at dksX3_goOn_3 17 rfl rfl)
theorem dX3_goOn_87 : decode cX3_goOn 87 = .ok (.getfield 28, 3) := dk_180 0 28 (dk_at dksX3_goOn_3 18 rfl rfl)
theorem dX3_goOn_90 : decode cX3_goOn 90 = .ok (.iload_n 3, 1) := dk_29 (dk_at dksX3_goOn_3 21 rfl rfl)
theorem dX3_goOn_91 : decode cX3_goOn 91 = .ok (.iaload, 1) := dk_46 (dk_at dksX3_goOn_3 22 rfl rfl)
theorem dX3_goOn_92 : decode cX3_goOn 92 = .ok (.aload_n 0, 1) := dk_42 (dk_at dksX3_goOn_3 23 rfl rfl)
theorem dX3_goOn_93 : decode cX3_goOn 93 = .ok (.getfield 50, 3) := dk_180 0 50 (dk_at dksX3_goOn_4 0 rfl rfl)
theorem dX3_goOn_96 : decode cX3_goOn 96 = .ok (.aload_n 0, 1) := dk_42 (dk_at dksX3_goOn_4 3 rfl rfl)
theorem dX3_goOn_97 : decode cX3_goOn 97 = .ok (.getfield 268, 3) := dk_180 1 12 (dk_at dksX3_goOn_4 4 rfl rfl)
theorem dX3_goOn_100 : decode cX3_goOn 100 = .ok (.aaload, 1) := dk_50 (dk_at dksX3_goOn_4 7 rfl rfl)
theorem dX3_goOn_101 : decode cX3_goOn 101 = .ok (.invokestatic 274, 3) := dk_184 1 18 (dk_at dksX3_goOn_4 8 rfl rfl)
theorem dX3_goOn_104 : decode cX3_goOn 104 = .ok (.ifCond .eq 41, 3) := dk_153 0 41 (dk_at dksX3_goOn_4 11 rfl rfl)
theorem dX3_goOn_107 : decode cX3_goOn 107 = .ok (.aload_n 0, 1) := dk_42 (dk_at dksX3_goOn_4 14 rfl rfl)
theorem dX3_goOn_108 : decode cX3_goOn 108 = .ok (.aload_n 0, 1) := dk_42 (dk_at dksX3_goOn_4 15 rfl rfl)
theorem dX3_goOn_109 : decode cX3_goOn 109 = .ok (.getfield 22, 3) := dk_180 0 22 (dk_at dksX3_goOn_4 16 rfl rfl)
theorem dX3_goOn_112 : decode cX3_goOn 112 = .ok (.iload_n 3, 1) := dk_29 (dk_at dksX3_goOn_4 19 rfl rfl)
theorem dX3_goOn_113 : decode cX3_goOn 113 = .ok (.iaload, 1) := dk_46 (dk_at dksX3_goOn_4 20 rfl rfl)
theorem dX3_goOn_114 : decode cX3_goOn 114 = .ok (.aload_n 0, 1) := dk_42 (dk_at dksX3_goOn_4 21 rfl rfl)
theorem dX3_goOn_115 : decode cX3_goOn 115 = .ok (.getfield 25, 3) := dk_180 0 25 (dk_at dksX3_goOn_5 0 rfl rfl)
theorem dX3_goOn_118 : decode cX3_goOn 118 = .ok (.iload_n 3, 1) := dk_29 (dk_at dksX3_goOn_5 3 rfl rfl)
theorem dX3_goOn_119 : decode cX3_goOn 119 = .ok (.iaload, 1) := dk_46 (dk_at dksX3_goOn_5 4 rfl rfl)
theorem dX3_goOn_120 : decode cX3_goOn 120 = .ok (.aload_n 0, 1) := dk_42 (dk_at dksX3_goOn_5 5 rfl rfl)
theorem dX3_goOn_121 : decode cX3_goOn 121 = .ok (.getfield 28, 3) := dk_180 0 28 (dk_at dksX3_goOn_5 6 rfl rfl)
theorem dX3_goOn_124 : decode cX3_goOn 124 = .ok (.iload_n 3, 1) := dk_29 (dk_at dksX3_goOn_5 9 rfl rfl)
theorem dX3_goOn_125 : decode cX3_goOn 125 = .ok (.iaload, 1) := dk_46 (dk_at dksX3_goOn_5 10 rfl rfl)
theorem dX3_goOn_126 : decode cX3_goOn 126 = .ok (.aload_n 0, 1) := dk_42 (dk_at dksX3_goOn_5 11 rfl rfl)
theorem dX3_goOn_127 : decode cX3_goOn 127 = .ok (.getfield 50, 3) := dk_180 0 50 (dk_at dksX3_goOn_5 12 rfl rfl)
theorem dX3_goOn_130 : decode cX3_goOn 130 = .ok (.aload_n 0, 1) := dk_42 (dk_at dksX3_goOn_5 15 rfl rfl)
theorem dX3_goOn_131 : decode cX3_goOn 131 = .ok (.getfield 268, 3) := dk_180 1 12 (dk_at dksX3_goOn_5 16 rfl rfl)
theorem dX3_goOn_134 : decode cX3_goOn 134 = .ok (.aaload, 1) := dk_50 (dk_at dksX3_goOn_5 19 rfl rfl)
theorem dX3_goOn_135 : decode cX3_goOn 135 = .ok (.invokestatic 278, 3) := dk_184 1 22 (dk_at dksX3_goOn_5 20 rfl rfl)
theorem dX3_goOn_138 : decode cX3_goOn 138 = .ok (.invokevirtual 259, 3) := dk_182 1 3 (dk_at dksX3_goOn_6 0 rfl rfl)
theorem dX3_goOn_141 : decode cX3_goOn 141 = .ok (.pop, 1) := dk_87 (dk_at dksX3_goOn_6 3 rfl rfl)
theorem dX3_goOn_142 : decode cX3_goOn 142 = .ok (.iinc 2 1, 3) := dk_132 2 1 (dk_at dksX3_goOn_6 4 rfl rfl)
theorem dX3_goOn_145 : decode cX3_goOn 145 = .ok (.aload_n 0, 1) := dk_42 (dk_at dksX3_goOn_6 7 rfl rfl)
theorem dX3_goOn_146 : decode cX3_goOn 146 = .ok (.getfield 271, 3) := dk_180 1 15 (dk_at dksX3_goOn_6 8 rfl rfl)
theorem dX3_goOn_149 : decode cX3_goOn 149 = .ok (.aload_n 0, 1) := dk_42 (dk_at dksX3_goOn_6 11 rfl rfl)
theorem dX3_goOn_150 : decode cX3_goOn 150 = .ok (.getfield 235, 3) := dk_180 0 235 (dk_at dksX3_goOn_6 12 rfl rfl)
theorem dX3_goOn_153 : decode cX3_goOn 153 = .ok (.if_icmp .lt (-121), 3) := dk_161 255 135 (dk_at dksX3_goOn_6 15 rfl rfl)
theorem dX3_goOn_156 : decode cX3_goOn 156 = .ok (.aload_n 0, 1) := dk_42 (dk_at dksX3_goOn_6 18 rfl rfl)
theorem dX3_goOn_157 : decode cX3_goOn 157 = .ok (.dup, 1) := dk_89 (dk_at dksX3_goOn_6 19 rfl rfl)
theorem dX3_goOn_158 : decode cX3_goOn 158 = .ok (.getfield 268, 3) := dk_180 1 12 (dk_at dksX3_goOn_6 20 rfl rfl)
theorem dX3_goOn_161 : decode cX3_goOn 161 = .ok (.iconst 1, 1) := dk_4 (dk_at dksX3_goOn_6 23 rfl rfl)
theorem dX3_goOn_162 : decode cX3_goOn 162 = .ok (.iadd, 1) := dk_96 (dk_at dksX3_goOn_7 0 rfl rfl)
theorem dX3_goOn_163 : decode cX3_goOn 163 = .ok (.putfield 268, 3) := dk_181 1 12 (dk_at dksX3_goOn_7 1 rfl rfl)
theorem dX3_goOn_166 : decode cX3_goOn 166 = .ok (.aload_n 0, 1) := dk_42 (dk_at dksX3_goOn_7 4 rfl rfl)
theorem dX3_goOn_167 : decode cX3_goOn 167 = .ok (.iconst 0, 1) := dk_3 (dk_at dksX3_goOn_7 5 rfl rfl)
theorem dX3_goOn_168 : decode cX3_goOn 168 = .ok (.putfield 271, 3) := dk_181 1 15 (dk_at dksX3_goOn_7 6 rfl rfl)
theorem dX3_goOn_171 : decode cX3_goOn 171 = .ok (.goto (-139), 3) := dk_167 255 117 (dk_at dksX3_goOn_7 9 rfl rfl)
theorem dX3_goOn_174 : decode cX3_goOn 174 = .ok (.iload_n 2, 1) := dk_28 (dk_at dksX3_goOn_7 12 rfl rfl)
theorem dX3_goOn_175 : decode cX3_goOn 175 = .ok (.ireturn, 1) := dk_172 (dk_at dksX3_goOn_7 13 rfl rfl)
abbrev cX3_applies : ByteArray := prog_16_method_12_code
def yX3_applies : MethodName := ⟨RX3, "applies", "(IIILjava/lang/String;)Z"⟩
def dkwX3_applies_5 : List UInt8 := [159, 0, 7, 4, 167, 0, 4, 3, 172]
abbrev dktX3_applies_5 : List UInt8 := dkwX3_applies_5 ++ []
def dkwX3_applies_4 : List UInt8 := [27, 4, 96, 45, 182, 0, 66, 162, 0, 22, 45, 27, 182, 0, 70, 45, 27, 4, 96, 182, 0, 70]
abbrev dktX3_applies_4 : List UInt8 := dkwX3_applies_4 ++ dktX3_applies_5
def dkwX3_applies_3 : List UInt8 := [16, 8, 162, 0, 7, 4, 167, 0, 4, 3, 172, 26, 178, 0, 154, 182, 0, 150, 160, 0, 6, 21, 4, 172]
abbrev dktX3_applies_3 : List UInt8 := dkwX3_applies_3 ++ dktX3_applies_4
def dkwX3_applies_2 : List UInt8 := [3, 172, 26, 178, 0, 151, 182, 0, 150, 160, 0, 26, 27, 45, 182, 0, 66, 163, 0, 16, 45, 182, 0, 66]
abbrev dktX3_applies_2 : List UInt8 := dkwX3_applies_2 ++ dktX3_applies_3
def dkwX3_applies_1 : List UInt8 := [160, 0, 26, 21, 4, 153, 0, 19, 45, 27, 182, 0, 70, 16, 48, 28, 96, 159, 0, 7, 4, 167, 0, 4]
abbrev dktX3_applies_1 : List UInt8 := dkwX3_applies_1 ++ dktX3_applies_2
def dkwX3_applies_0 : List UInt8 := [27, 45, 182, 0, 66, 162, 0, 7, 4, 167, 0, 4, 3, 54, 4, 26, 178, 0, 144, 182, 0, 150]
abbrev dktX3_applies_0 : List UInt8 := dkwX3_applies_0 ++ dktX3_applies_1
theorem dksX3_applies_0 : cX3_applies.data.toList.drop 0 = dktX3_applies_0 := by decide +kernel
theorem dksX3_applies_1 : cX3_applies.data.toList.drop 22 = dktX3_applies_1 := dk_seg dksX3_applies_0 22 rfl rfl
theorem dksX3_applies_2 : cX3_applies.data.toList.drop 46 = dktX3_applies_2 := dk_seg dksX3_applies_1 24 rfl rfl
theorem dksX3_applies_3 : cX3_applies.data.toList.drop 70 = dktX3_applies_3 := dk_seg dksX3_applies_2 24 rfl rfl
theorem dksX3_applies_4 : cX3_applies.data.toList.drop 94 = dktX3_applies_4 := dk_seg dksX3_applies_3 24 rfl rfl
theorem dksX3_applies_5 : cX3_applies.data.toList.drop 116 = dktX3_applies_5 := dk_seg dksX3_applies_4 22 rfl rfl
theorem dX3_applies_0 : decode cX3_applies 0 = .ok (.iload_n 1, 1) := dk_27 (dk_at dksX3_applies_0 0 rfl rfl)
theorem dX3_applies_1 : decode cX3_applies 1 = .ok (.aload_n 3, 1) := dk_45 (dk_at dksX3_applies_0 1 rfl rfl)
theorem dX3_applies_2 : decode cX3_applies 2 = .ok (.invokevirtual 66, 3) := dk_182 0 66 (dk_at dksX3_applies_0 2 rfl rfl)
theorem dX3_applies_5 : decode cX3_applies 5 = .ok (.if_icmp .ge 7, 3) := dk_162 0 7 (dk_at dksX3_applies_0 5 rfl rfl)
theorem dX3_applies_8 : decode cX3_applies 8 = .ok (.iconst 1, 1) := dk_4 (dk_at dksX3_applies_0 8 rfl rfl)
theorem dX3_applies_9 : decode cX3_applies 9 = .ok (.goto 4, 3) := dk_167 0 4 (dk_at dksX3_applies_0 9 rfl rfl)
theorem dX3_applies_12 : decode cX3_applies 12 = .ok (.iconst 0, 1) := dk_3 (dk_at dksX3_applies_0 12 rfl rfl)
theorem dX3_applies_13 : decode cX3_applies 13 = .ok (.istore 4, 2) := dk_54 4 (dk_at dksX3_applies_0 13 rfl rfl)
theorem dX3_applies_15 : decode cX3_applies 15 = .ok (.iload_n 0, 1) := dk_26 (dk_at dksX3_applies_0 15 rfl rfl)
theorem dX3_applies_16 : decode cX3_applies 16 = .ok (.getstatic 144, 3) := dk_178 0 144 (dk_at dksX3_applies_0 16 rfl rfl)
theorem dX3_applies_19 : decode cX3_applies 19 = .ok (.invokevirtual 150, 3) := dk_182 0 150 (dk_at dksX3_applies_0 19 rfl rfl)
theorem dX3_applies_22 : decode cX3_applies 22 = .ok (.if_icmp .ne 26, 3) := dk_160 0 26 (dk_at dksX3_applies_1 0 rfl rfl)
theorem dX3_applies_25 : decode cX3_applies 25 = .ok (.iload 4, 2) := dk_21 4 (dk_at dksX3_applies_1 3 rfl rfl)
theorem dX3_applies_27 : decode cX3_applies 27 = .ok (.ifCond .eq 19, 3) := dk_153 0 19 (dk_at dksX3_applies_1 5 rfl rfl)
theorem dX3_applies_30 : decode cX3_applies 30 = .ok (.aload_n 3, 1) := dk_45 (dk_at dksX3_applies_1 8 rfl rfl)
theorem dX3_applies_31 : decode cX3_applies 31 = .ok (.iload_n 1, 1) := dk_27 (dk_at dksX3_applies_1 9 rfl rfl)
theorem dX3_applies_32 : decode cX3_applies 32 = .ok (.invokevirtual 70, 3) := dk_182 0 70 (dk_at dksX3_applies_1 10 rfl rfl)
theorem dX3_applies_35 : decode cX3_applies 35 = .ok (.bipush 48, 2) := dk_16 48 (dk_at dksX3_applies_1 13 rfl rfl)
theorem dX3_applies_37 : decode cX3_applies 37 = .ok (.iload_n 2, 1) := dk_28 (dk_at dksX3_applies_1 15 rfl rfl)
theorem dX3_applies_38 : decode cX3_applies 38 = .ok (.iadd, 1) := dk_96 (dk_at dksX3_applies_1 16 rfl rfl)
theorem dX3_applies_39 : decode cX3_applies 39 = .ok (.if_icmp .eq 7, 3) := dk_159 0 7 (dk_at dksX3_applies_1 17 rfl rfl)
theorem dX3_applies_42 : decode cX3_applies 42 = .ok (.iconst 1, 1) := dk_4 (dk_at dksX3_applies_1 20 rfl rfl)
theorem dX3_applies_43 : decode cX3_applies 43 = .ok (.goto 4, 3) := dk_167 0 4 (dk_at dksX3_applies_1 21 rfl rfl)
theorem dX3_applies_46 : decode cX3_applies 46 = .ok (.iconst 0, 1) := dk_3 (dk_at dksX3_applies_2 0 rfl rfl)
theorem dX3_applies_47 : decode cX3_applies 47 = .ok (.ireturn, 1) := dk_172 (dk_at dksX3_applies_2 1 rfl rfl)
theorem dX3_applies_48 : decode cX3_applies 48 = .ok (.iload_n 0, 1) := dk_26 (dk_at dksX3_applies_2 2 rfl rfl)
theorem dX3_applies_49 : decode cX3_applies 49 = .ok (.getstatic 151, 3) := dk_178 0 151 (dk_at dksX3_applies_2 3 rfl rfl)
theorem dX3_applies_52 : decode cX3_applies 52 = .ok (.invokevirtual 150, 3) := dk_182 0 150 (dk_at dksX3_applies_2 6 rfl rfl)
theorem dX3_applies_55 : decode cX3_applies 55 = .ok (.if_icmp .ne 26, 3) := dk_160 0 26 (dk_at dksX3_applies_2 9 rfl rfl)
theorem dX3_applies_58 : decode cX3_applies 58 = .ok (.iload_n 1, 1) := dk_27 (dk_at dksX3_applies_2 12 rfl rfl)
theorem dX3_applies_59 : decode cX3_applies 59 = .ok (.aload_n 3, 1) := dk_45 (dk_at dksX3_applies_2 13 rfl rfl)
theorem dX3_applies_60 : decode cX3_applies 60 = .ok (.invokevirtual 66, 3) := dk_182 0 66 (dk_at dksX3_applies_2 14 rfl rfl)
theorem dX3_applies_63 : decode cX3_applies 63 = .ok (.if_icmp .gt 16, 3) := dk_163 0 16 (dk_at dksX3_applies_2 17 rfl rfl)
theorem dX3_applies_66 : decode cX3_applies 66 = .ok (.aload_n 3, 1) := dk_45 (dk_at dksX3_applies_2 20 rfl rfl)
theorem dX3_applies_67 : decode cX3_applies 67 = .ok (.invokevirtual 66, 3) := dk_182 0 66 (dk_at dksX3_applies_2 21 rfl rfl)
theorem dX3_applies_70 : decode cX3_applies 70 = .ok (.bipush 8, 2) := dk_16 8 (dk_at dksX3_applies_3 0 rfl rfl)
theorem dX3_applies_72 : decode cX3_applies 72 = .ok (.if_icmp .ge 7, 3) := dk_162 0 7 (dk_at dksX3_applies_3 2 rfl rfl)
theorem dX3_applies_75 : decode cX3_applies 75 = .ok (.iconst 1, 1) := dk_4 (dk_at dksX3_applies_3 5 rfl rfl)
theorem dX3_applies_76 : decode cX3_applies 76 = .ok (.goto 4, 3) := dk_167 0 4 (dk_at dksX3_applies_3 6 rfl rfl)
theorem dX3_applies_79 : decode cX3_applies 79 = .ok (.iconst 0, 1) := dk_3 (dk_at dksX3_applies_3 9 rfl rfl)
theorem dX3_applies_80 : decode cX3_applies 80 = .ok (.ireturn, 1) := dk_172 (dk_at dksX3_applies_3 10 rfl rfl)
theorem dX3_applies_81 : decode cX3_applies 81 = .ok (.iload_n 0, 1) := dk_26 (dk_at dksX3_applies_3 11 rfl rfl)
theorem dX3_applies_82 : decode cX3_applies 82 = .ok (.getstatic 154, 3) := dk_178 0 154 (dk_at dksX3_applies_3 12 rfl rfl)
theorem dX3_applies_85 : decode cX3_applies 85 = .ok (.invokevirtual 150, 3) := dk_182 0 150 (dk_at dksX3_applies_3 15 rfl rfl)
theorem dX3_applies_88 : decode cX3_applies 88 = .ok (.if_icmp .ne 6, 3) := dk_160 0 6 (dk_at dksX3_applies_3 18 rfl rfl)
theorem dX3_applies_91 : decode cX3_applies 91 = .ok (.iload 4, 2) := dk_21 4 (dk_at dksX3_applies_3 21 rfl rfl)
theorem dX3_applies_93 : decode cX3_applies 93 = .ok (.ireturn, 1) := dk_172 (dk_at dksX3_applies_3 23 rfl rfl)
theorem dX3_applies_94 : decode cX3_applies 94 = .ok (.iload_n 1, 1) := dk_27 (dk_at dksX3_applies_4 0 rfl rfl)
theorem dX3_applies_95 : decode cX3_applies 95 = .ok (.iconst 1, 1) := dk_4 (dk_at dksX3_applies_4 1 rfl rfl)
theorem dX3_applies_96 : decode cX3_applies 96 = .ok (.iadd, 1) := dk_96 (dk_at dksX3_applies_4 2 rfl rfl)
theorem dX3_applies_97 : decode cX3_applies 97 = .ok (.aload_n 3, 1) := dk_45 (dk_at dksX3_applies_4 3 rfl rfl)
theorem dX3_applies_98 : decode cX3_applies 98 = .ok (.invokevirtual 66, 3) := dk_182 0 66 (dk_at dksX3_applies_4 4 rfl rfl)
theorem dX3_applies_101 : decode cX3_applies 101 = .ok (.if_icmp .ge 22, 3) := dk_162 0 22 (dk_at dksX3_applies_4 7 rfl rfl)
theorem dX3_applies_104 : decode cX3_applies 104 = .ok (.aload_n 3, 1) := dk_45 (dk_at dksX3_applies_4 10 rfl rfl)
theorem dX3_applies_105 : decode cX3_applies 105 = .ok (.iload_n 1, 1) := dk_27 (dk_at dksX3_applies_4 11 rfl rfl)
theorem dX3_applies_106 : decode cX3_applies 106 = .ok (.invokevirtual 70, 3) := dk_182 0 70 (dk_at dksX3_applies_4 12 rfl rfl)
theorem dX3_applies_109 : decode cX3_applies 109 = .ok (.aload_n 3, 1) := dk_45 (dk_at dksX3_applies_4 15 rfl rfl)
theorem dX3_applies_110 : decode cX3_applies 110 = .ok (.iload_n 1, 1) := dk_27 (dk_at dksX3_applies_4 16 rfl rfl)
theorem dX3_applies_111 : decode cX3_applies 111 = .ok (.iconst 1, 1) := dk_4 (dk_at dksX3_applies_4 17 rfl rfl)
theorem dX3_applies_112 : decode cX3_applies 112 = .ok (.iadd, 1) := dk_96 (dk_at dksX3_applies_4 18 rfl rfl)
theorem dX3_applies_113 : decode cX3_applies 113 = .ok (.invokevirtual 70, 3) := dk_182 0 70 (dk_at dksX3_applies_4 19 rfl rfl)
theorem dX3_applies_116 : decode cX3_applies 116 = .ok (.if_icmp .eq 7, 3) := dk_159 0 7 (dk_at dksX3_applies_5 0 rfl rfl)
theorem dX3_applies_119 : decode cX3_applies 119 = .ok (.iconst 1, 1) := dk_4 (dk_at dksX3_applies_5 3 rfl rfl)
theorem dX3_applies_120 : decode cX3_applies 120 = .ok (.goto 4, 3) := dk_167 0 4 (dk_at dksX3_applies_5 4 rfl rfl)
theorem dX3_applies_123 : decode cX3_applies 123 = .ok (.iconst 0, 1) := dk_3 (dk_at dksX3_applies_5 7 rfl rfl)
theorem dX3_applies_124 : decode cX3_applies 124 = .ok (.ireturn, 1) := dk_172 (dk_at dksX3_applies_5 8 rfl rfl)
abbrev cX3_applied : ByteArray := prog_16_method_13_code
def yX3_applied : MethodName := ⟨RX3, "applied", "(IIILjava/lang/String;)Ljava/lang/String;"⟩
def dkwX3_applied_3 : List UInt8 := [27, 4, 96, 45, 27, 182, 0, 70, 184, 0, 157, 176]
abbrev dktX3_applied_3 : List UInt8 := dkwX3_applied_3 ++ []
def dkwX3_applied_2 : List UInt8 := [182, 0, 150, 160, 0, 9, 45, 27, 184, 0, 164, 176, 45, 27, 45, 27, 4, 96, 182, 0, 70, 184, 0, 157]
abbrev dktX3_applied_2 : List UInt8 := dkwX3_applied_2 ++ dktX3_applied_3
def dkwX3_applied_1 : List UInt8 := [176, 26, 178, 0, 151, 182, 0, 150, 160, 0, 11, 45, 27, 21, 4, 184, 0, 161, 176, 26, 178, 0, 154]
abbrev dktX3_applied_1 : List UInt8 := dkwX3_applied_1 ++ dktX3_applied_2
def dkwX3_applied_0 : List UInt8 := [16, 48, 28, 96, 146, 54, 4, 26, 178, 0, 144, 182, 0, 150, 160, 0, 11, 45, 27, 21, 4, 184, 0, 157]
abbrev dktX3_applied_0 : List UInt8 := dkwX3_applied_0 ++ dktX3_applied_1
theorem dksX3_applied_0 : cX3_applied.data.toList.drop 0 = dktX3_applied_0 := by decide +kernel
theorem dksX3_applied_1 : cX3_applied.data.toList.drop 24 = dktX3_applied_1 := dk_seg dksX3_applied_0 24 rfl rfl
theorem dksX3_applied_2 : cX3_applied.data.toList.drop 47 = dktX3_applied_2 := dk_seg dksX3_applied_1 23 rfl rfl
theorem dksX3_applied_3 : cX3_applied.data.toList.drop 71 = dktX3_applied_3 := dk_seg dksX3_applied_2 24 rfl rfl
theorem dX3_applied_0 : decode cX3_applied 0 = .ok (.bipush 48, 2) := dk_16 48 (dk_at dksX3_applied_0 0 rfl rfl)
theorem dX3_applied_2 : decode cX3_applied 2 = .ok (.iload_n 2, 1) := dk_28 (dk_at dksX3_applied_0 2 rfl rfl)
theorem dX3_applied_3 : decode cX3_applied 3 = .ok (.iadd, 1) := dk_96 (dk_at dksX3_applied_0 3 rfl rfl)
theorem dX3_applied_4 : decode cX3_applied 4 = .ok (.i2c, 1) := dk_146 (dk_at dksX3_applied_0 4 rfl rfl)
theorem dX3_applied_5 : decode cX3_applied 5 = .ok (.istore 4, 2) := dk_54 4 (dk_at dksX3_applied_0 5 rfl rfl)
theorem dX3_applied_7 : decode cX3_applied 7 = .ok (.iload_n 0, 1) := dk_26 (dk_at dksX3_applied_0 7 rfl rfl)
theorem dX3_applied_8 : decode cX3_applied 8 = .ok (.getstatic 144, 3) := dk_178 0 144 (dk_at dksX3_applied_0 8 rfl rfl)
theorem dX3_applied_11 : decode cX3_applied 11 = .ok (.invokevirtual 150, 3) := dk_182 0 150 (dk_at dksX3_applied_0 11 rfl rfl)
theorem dX3_applied_14 : decode cX3_applied 14 = .ok (.if_icmp .ne 11, 3) := dk_160 0 11 (dk_at dksX3_applied_0 14 rfl rfl)
theorem dX3_applied_17 : decode cX3_applied 17 = .ok (.aload_n 3, 1) := dk_45 (dk_at dksX3_applied_0 17 rfl rfl)
theorem dX3_applied_18 : decode cX3_applied 18 = .ok (.iload_n 1, 1) := dk_27 (dk_at dksX3_applied_0 18 rfl rfl)
theorem dX3_applied_19 : decode cX3_applied 19 = .ok (.iload 4, 2) := dk_21 4 (dk_at dksX3_applied_0 19 rfl rfl)
theorem dX3_applied_21 : decode cX3_applied 21 = .ok (.invokestatic 157, 3) := dk_184 0 157 (dk_at dksX3_applied_0 21 rfl rfl)
theorem dX3_applied_24 : decode cX3_applied 24 = .ok (.areturn, 1) := dk_176 (dk_at dksX3_applied_1 0 rfl rfl)
theorem dX3_applied_25 : decode cX3_applied 25 = .ok (.iload_n 0, 1) := dk_26 (dk_at dksX3_applied_1 1 rfl rfl)
theorem dX3_applied_26 : decode cX3_applied 26 = .ok (.getstatic 151, 3) := dk_178 0 151 (dk_at dksX3_applied_1 2 rfl rfl)
theorem dX3_applied_29 : decode cX3_applied 29 = .ok (.invokevirtual 150, 3) := dk_182 0 150 (dk_at dksX3_applied_1 5 rfl rfl)
theorem dX3_applied_32 : decode cX3_applied 32 = .ok (.if_icmp .ne 11, 3) := dk_160 0 11 (dk_at dksX3_applied_1 8 rfl rfl)
theorem dX3_applied_35 : decode cX3_applied 35 = .ok (.aload_n 3, 1) := dk_45 (dk_at dksX3_applied_1 11 rfl rfl)
theorem dX3_applied_36 : decode cX3_applied 36 = .ok (.iload_n 1, 1) := dk_27 (dk_at dksX3_applied_1 12 rfl rfl)
theorem dX3_applied_37 : decode cX3_applied 37 = .ok (.iload 4, 2) := dk_21 4 (dk_at dksX3_applied_1 13 rfl rfl)
theorem dX3_applied_39 : decode cX3_applied 39 = .ok (.invokestatic 161, 3) := dk_184 0 161 (dk_at dksX3_applied_1 15 rfl rfl)
theorem dX3_applied_42 : decode cX3_applied 42 = .ok (.areturn, 1) := dk_176 (dk_at dksX3_applied_1 18 rfl rfl)
theorem dX3_applied_43 : decode cX3_applied 43 = .ok (.iload_n 0, 1) := dk_26 (dk_at dksX3_applied_1 19 rfl rfl)
theorem dX3_applied_44 : decode cX3_applied 44 = .ok (.getstatic 154, 3) := dk_178 0 154 (dk_at dksX3_applied_1 20 rfl rfl)
theorem dX3_applied_47 : decode cX3_applied 47 = .ok (.invokevirtual 150, 3) := dk_182 0 150 (dk_at dksX3_applied_2 0 rfl rfl)
theorem dX3_applied_50 : decode cX3_applied 50 = .ok (.if_icmp .ne 9, 3) := dk_160 0 9 (dk_at dksX3_applied_2 3 rfl rfl)
theorem dX3_applied_53 : decode cX3_applied 53 = .ok (.aload_n 3, 1) := dk_45 (dk_at dksX3_applied_2 6 rfl rfl)
theorem dX3_applied_54 : decode cX3_applied 54 = .ok (.iload_n 1, 1) := dk_27 (dk_at dksX3_applied_2 7 rfl rfl)
theorem dX3_applied_55 : decode cX3_applied 55 = .ok (.invokestatic 164, 3) := dk_184 0 164 (dk_at dksX3_applied_2 8 rfl rfl)
theorem dX3_applied_58 : decode cX3_applied 58 = .ok (.areturn, 1) := dk_176 (dk_at dksX3_applied_2 11 rfl rfl)
theorem dX3_applied_59 : decode cX3_applied 59 = .ok (.aload_n 3, 1) := dk_45 (dk_at dksX3_applied_2 12 rfl rfl)
theorem dX3_applied_60 : decode cX3_applied 60 = .ok (.iload_n 1, 1) := dk_27 (dk_at dksX3_applied_2 13 rfl rfl)
theorem dX3_applied_61 : decode cX3_applied 61 = .ok (.aload_n 3, 1) := dk_45 (dk_at dksX3_applied_2 14 rfl rfl)
theorem dX3_applied_62 : decode cX3_applied 62 = .ok (.iload_n 1, 1) := dk_27 (dk_at dksX3_applied_2 15 rfl rfl)
theorem dX3_applied_63 : decode cX3_applied 63 = .ok (.iconst 1, 1) := dk_4 (dk_at dksX3_applied_2 16 rfl rfl)
theorem dX3_applied_64 : decode cX3_applied 64 = .ok (.iadd, 1) := dk_96 (dk_at dksX3_applied_2 17 rfl rfl)
theorem dX3_applied_65 : decode cX3_applied 65 = .ok (.invokevirtual 70, 3) := dk_182 0 70 (dk_at dksX3_applied_2 18 rfl rfl)
theorem dX3_applied_68 : decode cX3_applied 68 = .ok (.invokestatic 157, 3) := dk_184 0 157 (dk_at dksX3_applied_2 21 rfl rfl)
theorem dX3_applied_71 : decode cX3_applied 71 = .ok (.iload_n 1, 1) := dk_27 (dk_at dksX3_applied_3 0 rfl rfl)
theorem dX3_applied_72 : decode cX3_applied 72 = .ok (.iconst 1, 1) := dk_4 (dk_at dksX3_applied_3 1 rfl rfl)
theorem dX3_applied_73 : decode cX3_applied 73 = .ok (.iadd, 1) := dk_96 (dk_at dksX3_applied_3 2 rfl rfl)
theorem dX3_applied_74 : decode cX3_applied 74 = .ok (.aload_n 3, 1) := dk_45 (dk_at dksX3_applied_3 3 rfl rfl)
theorem dX3_applied_75 : decode cX3_applied 75 = .ok (.iload_n 1, 1) := dk_27 (dk_at dksX3_applied_3 4 rfl rfl)
theorem dX3_applied_76 : decode cX3_applied 76 = .ok (.invokevirtual 70, 3) := dk_182 0 70 (dk_at dksX3_applied_3 5 rfl rfl)
theorem dX3_applied_79 : decode cX3_applied 79 = .ok (.invokestatic 157, 3) := dk_184 0 157 (dk_at dksX3_applied_3 8 rfl rfl)
theorem dX3_applied_82 : decode cX3_applied 82 = .ok (.areturn, 1) := dk_176 (dk_at dksX3_applied_3 11 rfl rfl)
abbrev cX3_putIn : ByteArray := prog_16_method_11_code
def yX3_putIn : MethodName := ⟨RX3, "putIn", "(Ljava/lang/String;IC)Ljava/lang/String;"⟩
def dkwX3_putIn_2 : List UInt8 := [182, 0, 70, 182, 0, 136, 87, 132, 4, 1, 167, 255, 212, 45, 182, 0, 140, 176]
abbrev dktX3_putIn_2 : List UInt8 := dkwX3_putIn_2 ++ []
def dkwX3_putIn_1 : List UInt8 := [160, 0, 9, 45, 28, 182, 0, 136, 87, 21, 4, 42, 182, 0, 66, 162, 0, 14, 45, 42, 21, 4]
abbrev dktX3_putIn_1 : List UInt8 := dkwX3_putIn_1 ++ dktX3_putIn_2
def dkwX3_putIn_0 : List UInt8 := [187, 0, 133, 89, 183, 0, 135, 78, 3, 54, 4, 21, 4, 42, 182, 0, 66, 163, 0, 41, 21, 4, 27]
abbrev dktX3_putIn_0 : List UInt8 := dkwX3_putIn_0 ++ dktX3_putIn_1
theorem dksX3_putIn_0 : cX3_putIn.data.toList.drop 0 = dktX3_putIn_0 := by decide +kernel
theorem dksX3_putIn_1 : cX3_putIn.data.toList.drop 23 = dktX3_putIn_1 := dk_seg dksX3_putIn_0 23 rfl rfl
theorem dksX3_putIn_2 : cX3_putIn.data.toList.drop 45 = dktX3_putIn_2 := dk_seg dksX3_putIn_1 22 rfl rfl
theorem dX3_putIn_0 : decode cX3_putIn 0 = .ok (.new 133, 3) := dk_187 0 133 (dk_at dksX3_putIn_0 0 rfl rfl)
theorem dX3_putIn_3 : decode cX3_putIn 3 = .ok (.dup, 1) := dk_89 (dk_at dksX3_putIn_0 3 rfl rfl)
theorem dX3_putIn_4 : decode cX3_putIn 4 = .ok (.invokespecial 135, 3) := dk_183 0 135 (dk_at dksX3_putIn_0 4 rfl rfl)
theorem dX3_putIn_7 : decode cX3_putIn 7 = .ok (.astore_n 3, 1) := dk_78 (dk_at dksX3_putIn_0 7 rfl rfl)
theorem dX3_putIn_8 : decode cX3_putIn 8 = .ok (.iconst 0, 1) := dk_3 (dk_at dksX3_putIn_0 8 rfl rfl)
theorem dX3_putIn_9 : decode cX3_putIn 9 = .ok (.istore 4, 2) := dk_54 4 (dk_at dksX3_putIn_0 9 rfl rfl)
theorem dX3_putIn_11 : decode cX3_putIn 11 = .ok (.iload 4, 2) := dk_21 4 (dk_at dksX3_putIn_0 11 rfl rfl)
theorem dX3_putIn_13 : decode cX3_putIn 13 = .ok (.aload_n 0, 1) := dk_42 (dk_at dksX3_putIn_0 13 rfl rfl)
theorem dX3_putIn_14 : decode cX3_putIn 14 = .ok (.invokevirtual 66, 3) := dk_182 0 66 (dk_at dksX3_putIn_0 14 rfl rfl)
theorem dX3_putIn_17 : decode cX3_putIn 17 = .ok (.if_icmp .gt 41, 3) := dk_163 0 41 (dk_at dksX3_putIn_0 17 rfl rfl)
theorem dX3_putIn_20 : decode cX3_putIn 20 = .ok (.iload 4, 2) := dk_21 4 (dk_at dksX3_putIn_0 20 rfl rfl)
theorem dX3_putIn_22 : decode cX3_putIn 22 = .ok (.iload_n 1, 1) := dk_27 (dk_at dksX3_putIn_0 22 rfl rfl)
theorem dX3_putIn_23 : decode cX3_putIn 23 = .ok (.if_icmp .ne 9, 3) := dk_160 0 9 (dk_at dksX3_putIn_1 0 rfl rfl)
theorem dX3_putIn_26 : decode cX3_putIn 26 = .ok (.aload_n 3, 1) := dk_45 (dk_at dksX3_putIn_1 3 rfl rfl)
theorem dX3_putIn_27 : decode cX3_putIn 27 = .ok (.iload_n 2, 1) := dk_28 (dk_at dksX3_putIn_1 4 rfl rfl)
theorem dX3_putIn_28 : decode cX3_putIn 28 = .ok (.invokevirtual 136, 3) := dk_182 0 136 (dk_at dksX3_putIn_1 5 rfl rfl)
theorem dX3_putIn_31 : decode cX3_putIn 31 = .ok (.pop, 1) := dk_87 (dk_at dksX3_putIn_1 8 rfl rfl)
theorem dX3_putIn_32 : decode cX3_putIn 32 = .ok (.iload 4, 2) := dk_21 4 (dk_at dksX3_putIn_1 9 rfl rfl)
theorem dX3_putIn_34 : decode cX3_putIn 34 = .ok (.aload_n 0, 1) := dk_42 (dk_at dksX3_putIn_1 11 rfl rfl)
theorem dX3_putIn_35 : decode cX3_putIn 35 = .ok (.invokevirtual 66, 3) := dk_182 0 66 (dk_at dksX3_putIn_1 12 rfl rfl)
theorem dX3_putIn_38 : decode cX3_putIn 38 = .ok (.if_icmp .ge 14, 3) := dk_162 0 14 (dk_at dksX3_putIn_1 15 rfl rfl)
theorem dX3_putIn_41 : decode cX3_putIn 41 = .ok (.aload_n 3, 1) := dk_45 (dk_at dksX3_putIn_1 18 rfl rfl)
theorem dX3_putIn_42 : decode cX3_putIn 42 = .ok (.aload_n 0, 1) := dk_42 (dk_at dksX3_putIn_1 19 rfl rfl)
theorem dX3_putIn_43 : decode cX3_putIn 43 = .ok (.iload 4, 2) := dk_21 4 (dk_at dksX3_putIn_1 20 rfl rfl)
theorem dX3_putIn_45 : decode cX3_putIn 45 = .ok (.invokevirtual 70, 3) := dk_182 0 70 (dk_at dksX3_putIn_2 0 rfl rfl)
theorem dX3_putIn_48 : decode cX3_putIn 48 = .ok (.invokevirtual 136, 3) := dk_182 0 136 (dk_at dksX3_putIn_2 3 rfl rfl)
theorem dX3_putIn_51 : decode cX3_putIn 51 = .ok (.pop, 1) := dk_87 (dk_at dksX3_putIn_2 6 rfl rfl)
theorem dX3_putIn_52 : decode cX3_putIn 52 = .ok (.iinc 4 1, 3) := dk_132 4 1 (dk_at dksX3_putIn_2 7 rfl rfl)
theorem dX3_putIn_55 : decode cX3_putIn 55 = .ok (.goto (-44), 3) := dk_167 255 212 (dk_at dksX3_putIn_2 10 rfl rfl)
theorem dX3_putIn_58 : decode cX3_putIn 58 = .ok (.aload_n 3, 1) := dk_45 (dk_at dksX3_putIn_2 13 rfl rfl)
theorem dX3_putIn_59 : decode cX3_putIn 59 = .ok (.invokevirtual 140, 3) := dk_182 0 140 (dk_at dksX3_putIn_2 14 rfl rfl)
theorem dX3_putIn_62 : decode cX3_putIn 62 = .ok (.areturn, 1) := dk_176 (dk_at dksX3_putIn_2 17 rfl rfl)
abbrev cX3_reset : ByteArray := prog_16_method_31_code
def yX3_reset : MethodName := ⟨RX3, "reset", "()I"⟩
def dkwX3_reset_2 : List UInt8 := [181, 0, 199, 42, 3, 181, 1, 12, 42, 3, 181, 1, 15, 42, 3, 181, 0, 183, 27, 172]
abbrev dktX3_reset_2 : List UInt8 := dkwX3_reset_2 ++ []
def dkwX3_reset_1 : List UInt8 := [180, 0, 47, 190, 162, 0, 16, 42, 180, 0, 47, 28, 3, 84, 132, 2, 1, 167, 255, 237, 42, 3]
abbrev dktX3_reset_1 : List UInt8 := dkwX3_reset_1 ++ dktX3_reset_2
def dkwX3_reset_0 : List UInt8 := [42, 3, 181, 0, 62, 42, 180, 0, 193, 60, 42, 3, 181, 0, 193, 42, 9, 181, 0, 195, 3, 61, 28, 42]
abbrev dktX3_reset_0 : List UInt8 := dkwX3_reset_0 ++ dktX3_reset_1
theorem dksX3_reset_0 : cX3_reset.data.toList.drop 0 = dktX3_reset_0 := by decide +kernel
theorem dksX3_reset_1 : cX3_reset.data.toList.drop 24 = dktX3_reset_1 := dk_seg dksX3_reset_0 24 rfl rfl
theorem dksX3_reset_2 : cX3_reset.data.toList.drop 46 = dktX3_reset_2 := dk_seg dksX3_reset_1 22 rfl rfl
theorem dX3_reset_0 : decode cX3_reset 0 = .ok (.aload_n 0, 1) := dk_42 (dk_at dksX3_reset_0 0 rfl rfl)
theorem dX3_reset_1 : decode cX3_reset 1 = .ok (.iconst 0, 1) := dk_3 (dk_at dksX3_reset_0 1 rfl rfl)
theorem dX3_reset_2 : decode cX3_reset 2 = .ok (.putfield 62, 3) := dk_181 0 62 (dk_at dksX3_reset_0 2 rfl rfl)
theorem dX3_reset_5 : decode cX3_reset 5 = .ok (.aload_n 0, 1) := dk_42 (dk_at dksX3_reset_0 5 rfl rfl)
theorem dX3_reset_6 : decode cX3_reset 6 = .ok (.getfield 193, 3) := dk_180 0 193 (dk_at dksX3_reset_0 6 rfl rfl)
theorem dX3_reset_9 : decode cX3_reset 9 = .ok (.istore_n 1, 1) := dk_60 (dk_at dksX3_reset_0 9 rfl rfl)
theorem dX3_reset_10 : decode cX3_reset 10 = .ok (.aload_n 0, 1) := dk_42 (dk_at dksX3_reset_0 10 rfl rfl)
theorem dX3_reset_11 : decode cX3_reset 11 = .ok (.iconst 0, 1) := dk_3 (dk_at dksX3_reset_0 11 rfl rfl)
theorem dX3_reset_12 : decode cX3_reset 12 = .ok (.putfield 193, 3) := dk_181 0 193 (dk_at dksX3_reset_0 12 rfl rfl)
theorem dX3_reset_15 : decode cX3_reset 15 = .ok (.aload_n 0, 1) := dk_42 (dk_at dksX3_reset_0 15 rfl rfl)
theorem dX3_reset_16 : decode cX3_reset 16 = .ok (.lconst 0, 1) := dk_9 (dk_at dksX3_reset_0 16 rfl rfl)
theorem dX3_reset_17 : decode cX3_reset 17 = .ok (.putfield 195, 3) := dk_181 0 195 (dk_at dksX3_reset_0 17 rfl rfl)
theorem dX3_reset_20 : decode cX3_reset 20 = .ok (.iconst 0, 1) := dk_3 (dk_at dksX3_reset_0 20 rfl rfl)
theorem dX3_reset_21 : decode cX3_reset 21 = .ok (.istore_n 2, 1) := dk_61 (dk_at dksX3_reset_0 21 rfl rfl)
theorem dX3_reset_22 : decode cX3_reset 22 = .ok (.iload_n 2, 1) := dk_28 (dk_at dksX3_reset_0 22 rfl rfl)
theorem dX3_reset_23 : decode cX3_reset 23 = .ok (.aload_n 0, 1) := dk_42 (dk_at dksX3_reset_0 23 rfl rfl)
theorem dX3_reset_24 : decode cX3_reset 24 = .ok (.getfield 47, 3) := dk_180 0 47 (dk_at dksX3_reset_1 0 rfl rfl)
theorem dX3_reset_27 : decode cX3_reset 27 = .ok (.arraylength, 1) := dk_190 (dk_at dksX3_reset_1 3 rfl rfl)
theorem dX3_reset_28 : decode cX3_reset 28 = .ok (.if_icmp .ge 16, 3) := dk_162 0 16 (dk_at dksX3_reset_1 4 rfl rfl)
theorem dX3_reset_31 : decode cX3_reset 31 = .ok (.aload_n 0, 1) := dk_42 (dk_at dksX3_reset_1 7 rfl rfl)
theorem dX3_reset_32 : decode cX3_reset 32 = .ok (.getfield 47, 3) := dk_180 0 47 (dk_at dksX3_reset_1 8 rfl rfl)
theorem dX3_reset_35 : decode cX3_reset 35 = .ok (.iload_n 2, 1) := dk_28 (dk_at dksX3_reset_1 11 rfl rfl)
theorem dX3_reset_36 : decode cX3_reset 36 = .ok (.iconst 0, 1) := dk_3 (dk_at dksX3_reset_1 12 rfl rfl)
theorem dX3_reset_37 : decode cX3_reset 37 = .ok (.bastore, 1) := dk_84 (dk_at dksX3_reset_1 13 rfl rfl)
theorem dX3_reset_38 : decode cX3_reset 38 = .ok (.iinc 2 1, 3) := dk_132 2 1 (dk_at dksX3_reset_1 14 rfl rfl)
theorem dX3_reset_41 : decode cX3_reset 41 = .ok (.goto (-19), 3) := dk_167 255 237 (dk_at dksX3_reset_1 17 rfl rfl)
theorem dX3_reset_44 : decode cX3_reset 44 = .ok (.aload_n 0, 1) := dk_42 (dk_at dksX3_reset_1 20 rfl rfl)
theorem dX3_reset_45 : decode cX3_reset 45 = .ok (.iconst 0, 1) := dk_3 (dk_at dksX3_reset_1 21 rfl rfl)
theorem dX3_reset_46 : decode cX3_reset 46 = .ok (.putfield 199, 3) := dk_181 0 199 (dk_at dksX3_reset_2 0 rfl rfl)
theorem dX3_reset_49 : decode cX3_reset 49 = .ok (.aload_n 0, 1) := dk_42 (dk_at dksX3_reset_2 3 rfl rfl)
theorem dX3_reset_50 : decode cX3_reset 50 = .ok (.iconst 0, 1) := dk_3 (dk_at dksX3_reset_2 4 rfl rfl)
theorem dX3_reset_51 : decode cX3_reset 51 = .ok (.putfield 268, 3) := dk_181 1 12 (dk_at dksX3_reset_2 5 rfl rfl)
theorem dX3_reset_54 : decode cX3_reset 54 = .ok (.aload_n 0, 1) := dk_42 (dk_at dksX3_reset_2 8 rfl rfl)
theorem dX3_reset_55 : decode cX3_reset 55 = .ok (.iconst 0, 1) := dk_3 (dk_at dksX3_reset_2 9 rfl rfl)
theorem dX3_reset_56 : decode cX3_reset 56 = .ok (.putfield 271, 3) := dk_181 1 15 (dk_at dksX3_reset_2 10 rfl rfl)
theorem dX3_reset_59 : decode cX3_reset 59 = .ok (.aload_n 0, 1) := dk_42 (dk_at dksX3_reset_2 13 rfl rfl)
theorem dX3_reset_60 : decode cX3_reset 60 = .ok (.iconst 0, 1) := dk_3 (dk_at dksX3_reset_2 14 rfl rfl)
theorem dX3_reset_61 : decode cX3_reset 61 = .ok (.putfield 183, 3) := dk_181 0 183 (dk_at dksX3_reset_2 15 rfl rfl)
theorem dX3_reset_64 : decode cX3_reset 64 = .ok (.iload_n 1, 1) := dk_27 (dk_at dksX3_reset_2 18 rfl rfl)
theorem dX3_reset_65 : decode cX3_reset 65 = .ok (.ireturn, 1) := dk_172 (dk_at dksX3_reset_2 19 rfl rfl)
abbrev cX3_runs_2 : ByteArray := prog_16_method_32_code
def yX3_runs_2 : MethodName := ⟨RX3, "runs", "()I"⟩
def dkwX3_runs_2_0 : List UInt8 := [42, 3, 181, 0, 62, 42, 180, 0, 193, 172]
abbrev dktX3_runs_2_0 : List UInt8 := dkwX3_runs_2_0 ++ []
theorem dksX3_runs_2_0 : cX3_runs_2.data.toList.drop 0 = dktX3_runs_2_0 := by decide +kernel
theorem dX3_runs_2_0 : decode cX3_runs_2 0 = .ok (.aload_n 0, 1) := dk_42 (dk_at dksX3_runs_2_0 0 rfl rfl)
theorem dX3_runs_2_1 : decode cX3_runs_2 1 = .ok (.iconst 0, 1) := dk_3 (dk_at dksX3_runs_2_0 1 rfl rfl)
theorem dX3_runs_2_2 : decode cX3_runs_2 2 = .ok (.putfield 62, 3) := dk_181 0 62 (dk_at dksX3_runs_2_0 2 rfl rfl)
theorem dX3_runs_2_5 : decode cX3_runs_2 5 = .ok (.aload_n 0, 1) := dk_42 (dk_at dksX3_runs_2_0 5 rfl rfl)
theorem dX3_runs_2_6 : decode cX3_runs_2 6 = .ok (.getfield 193, 3) := dk_180 0 193 (dk_at dksX3_runs_2_0 6 rfl rfl)
theorem dX3_runs_2_9 : decode cX3_runs_2 9 = .ok (.ireturn, 1) := dk_172 (dk_at dksX3_runs_2_0 9 rfl rfl)
abbrev cX3_totalSteps : ByteArray := prog_16_method_33_code
def yX3_totalSteps : MethodName := ⟨RX3, "totalSteps", "()J"⟩
def dkwX3_totalSteps_0 : List UInt8 := [42, 3, 181, 0, 62, 42, 180, 0, 195, 173]
abbrev dktX3_totalSteps_0 : List UInt8 := dkwX3_totalSteps_0 ++ []
theorem dksX3_totalSteps_0 : cX3_totalSteps.data.toList.drop 0 = dktX3_totalSteps_0 := by decide +kernel
theorem dX3_totalSteps_0 : decode cX3_totalSteps 0 = .ok (.aload_n 0, 1) := dk_42 (dk_at dksX3_totalSteps_0 0 rfl rfl)
theorem dX3_totalSteps_1 : decode cX3_totalSteps 1 = .ok (.iconst 0, 1) := dk_3 (dk_at dksX3_totalSteps_0 1 rfl rfl)
theorem dX3_totalSteps_2 : decode cX3_totalSteps 2 = .ok (.putfield 62, 3) := dk_181 0 62 (dk_at dksX3_totalSteps_0 2 rfl rfl)
theorem dX3_totalSteps_5 : decode cX3_totalSteps 5 = .ok (.aload_n 0, 1) := dk_42 (dk_at dksX3_totalSteps_0 5 rfl rfl)
theorem dX3_totalSteps_6 : decode cX3_totalSteps 6 = .ok (.getfield 195, 3) := dk_180 0 195 (dk_at dksX3_totalSteps_0 6 rfl rfl)
theorem dX3_totalSteps_9 : decode cX3_totalSteps 9 = .ok (.lreturn, 1) := dk_173 (dk_at dksX3_totalSteps_0 9 rfl rfl)
abbrev cX3_covered : ByteArray := prog_16_method_34_code
def yX3_covered : MethodName := ⟨RX3, "covered", "()I"⟩
def dkwX3_covered_0 : List UInt8 := [42, 3, 181, 0, 62, 42, 42, 180, 0, 47, 182, 1, 26, 172]
abbrev dktX3_covered_0 : List UInt8 := dkwX3_covered_0 ++ []
theorem dksX3_covered_0 : cX3_covered.data.toList.drop 0 = dktX3_covered_0 := by decide +kernel
theorem dX3_covered_0 : decode cX3_covered 0 = .ok (.aload_n 0, 1) := dk_42 (dk_at dksX3_covered_0 0 rfl rfl)
theorem dX3_covered_1 : decode cX3_covered 1 = .ok (.iconst 0, 1) := dk_3 (dk_at dksX3_covered_0 1 rfl rfl)
theorem dX3_covered_2 : decode cX3_covered 2 = .ok (.putfield 62, 3) := dk_181 0 62 (dk_at dksX3_covered_0 2 rfl rfl)
theorem dX3_covered_5 : decode cX3_covered 5 = .ok (.aload_n 0, 1) := dk_42 (dk_at dksX3_covered_0 5 rfl rfl)
theorem dX3_covered_6 : decode cX3_covered 6 = .ok (.aload_n 0, 1) := dk_42 (dk_at dksX3_covered_0 6 rfl rfl)
theorem dX3_covered_7 : decode cX3_covered 7 = .ok (.getfield 47, 3) := dk_180 0 47 (dk_at dksX3_covered_0 7 rfl rfl)
theorem dX3_covered_10 : decode cX3_covered 10 = .ok (.invokevirtual 282, 3) := dk_182 1 26 (dk_at dksX3_covered_0 10 rfl rfl)
theorem dX3_covered_13 : decode cX3_covered 13 = .ok (.ireturn, 1) := dk_172 (dk_at dksX3_covered_0 13 rfl rfl)
abbrev cX3_edgeMany : ByteArray := prog_16_method_8_code
def yX3_edgeMany : MethodName := ⟨RX3, "edgeMany", "([Z)I"⟩
def dkwX3_edgeMany_1 : List UInt8 := [132, 3, 1, 167, 255, 233, 28, 172]
abbrev dktX3_edgeMany_1 : List UInt8 := dkwX3_edgeMany_1 ++ []
def dkwX3_edgeMany_0 : List UInt8 := [3, 61, 3, 62, 29, 43, 190, 162, 0, 23, 28, 43, 29, 51, 153, 0, 7, 4, 167, 0, 4, 3, 96, 61]
abbrev dktX3_edgeMany_0 : List UInt8 := dkwX3_edgeMany_0 ++ dktX3_edgeMany_1
theorem dksX3_edgeMany_0 : cX3_edgeMany.data.toList.drop 0 = dktX3_edgeMany_0 := by decide +kernel
theorem dksX3_edgeMany_1 : cX3_edgeMany.data.toList.drop 24 = dktX3_edgeMany_1 := dk_seg dksX3_edgeMany_0 24 rfl rfl
theorem dX3_edgeMany_0 : decode cX3_edgeMany 0 = .ok (.iconst 0, 1) := dk_3 (dk_at dksX3_edgeMany_0 0 rfl rfl)
theorem dX3_edgeMany_1 : decode cX3_edgeMany 1 = .ok (.istore_n 2, 1) := dk_61 (dk_at dksX3_edgeMany_0 1 rfl rfl)
theorem dX3_edgeMany_2 : decode cX3_edgeMany 2 = .ok (.iconst 0, 1) := dk_3 (dk_at dksX3_edgeMany_0 2 rfl rfl)
theorem dX3_edgeMany_3 : decode cX3_edgeMany 3 = .ok (.istore_n 3, 1) := dk_62 (dk_at dksX3_edgeMany_0 3 rfl rfl)
theorem dX3_edgeMany_4 : decode cX3_edgeMany 4 = .ok (.iload_n 3, 1) := dk_29 (dk_at dksX3_edgeMany_0 4 rfl rfl)
theorem dX3_edgeMany_5 : decode cX3_edgeMany 5 = .ok (.aload_n 1, 1) := dk_43 (dk_at dksX3_edgeMany_0 5 rfl rfl)
theorem dX3_edgeMany_6 : decode cX3_edgeMany 6 = .ok (.arraylength, 1) := dk_190 (dk_at dksX3_edgeMany_0 6 rfl rfl)
theorem dX3_edgeMany_7 : decode cX3_edgeMany 7 = .ok (.if_icmp .ge 23, 3) := dk_162 0 23 (dk_at dksX3_edgeMany_0 7 rfl rfl)
theorem dX3_edgeMany_10 : decode cX3_edgeMany 10 = .ok (.iload_n 2, 1) := dk_28 (dk_at dksX3_edgeMany_0 10 rfl rfl)
theorem dX3_edgeMany_11 : decode cX3_edgeMany 11 = .ok (.aload_n 1, 1) := dk_43 (dk_at dksX3_edgeMany_0 11 rfl rfl)
theorem dX3_edgeMany_12 : decode cX3_edgeMany 12 = .ok (.iload_n 3, 1) := dk_29 (dk_at dksX3_edgeMany_0 12 rfl rfl)
theorem dX3_edgeMany_13 : decode cX3_edgeMany 13 = .ok (.baload, 1) := dk_51 (dk_at dksX3_edgeMany_0 13 rfl rfl)
theorem dX3_edgeMany_14 : decode cX3_edgeMany 14 = .ok (.ifCond .eq 7, 3) := dk_153 0 7 (dk_at dksX3_edgeMany_0 14 rfl rfl)
theorem dX3_edgeMany_17 : decode cX3_edgeMany 17 = .ok (.iconst 1, 1) := dk_4 (dk_at dksX3_edgeMany_0 17 rfl rfl)
theorem dX3_edgeMany_18 : decode cX3_edgeMany 18 = .ok (.goto 4, 3) := dk_167 0 4 (dk_at dksX3_edgeMany_0 18 rfl rfl)
theorem dX3_edgeMany_21 : decode cX3_edgeMany 21 = .ok (.iconst 0, 1) := dk_3 (dk_at dksX3_edgeMany_0 21 rfl rfl)
theorem dX3_edgeMany_22 : decode cX3_edgeMany 22 = .ok (.iadd, 1) := dk_96 (dk_at dksX3_edgeMany_0 22 rfl rfl)
theorem dX3_edgeMany_23 : decode cX3_edgeMany 23 = .ok (.istore_n 2, 1) := dk_61 (dk_at dksX3_edgeMany_0 23 rfl rfl)
theorem dX3_edgeMany_24 : decode cX3_edgeMany 24 = .ok (.iinc 3 1, 3) := dk_132 3 1 (dk_at dksX3_edgeMany_1 0 rfl rfl)
theorem dX3_edgeMany_27 : decode cX3_edgeMany 27 = .ok (.goto (-23), 3) := dk_167 255 233 (dk_at dksX3_edgeMany_1 3 rfl rfl)
theorem dX3_edgeMany_30 : decode cX3_edgeMany 30 = .ok (.iload_n 2, 1) := dk_28 (dk_at dksX3_edgeMany_1 6 rfl rfl)
theorem dX3_edgeMany_31 : decode cX3_edgeMany 31 = .ok (.ireturn, 1) := dk_172 (dk_at dksX3_edgeMany_1 7 rfl rfl)
abbrev cX3_isCovered : ByteArray := prog_16_method_35_code
def yX3_isCovered : MethodName := ⟨RX3, "isCovered", "(II)Z"⟩
def dkwX3_isCovered_2 : List UInt8 := [180, 0, 47, 16, 17, 27, 104, 28, 96, 51, 153, 0, 7, 4, 167, 0, 4, 3, 172]
abbrev dktX3_isCovered_2 : List UInt8 := dkwX3_isCovered_2 ++ []
def dkwX3_isCovered_1 : List UInt8 := [133, 184, 0, 213, 153, 0, 7, 3, 167, 0, 4, 4, 181, 0, 62, 42, 180, 0, 62, 154, 0, 21, 42]
abbrev dktX3_isCovered_1 : List UInt8 := dkwX3_isCovered_1 ++ dktX3_isCovered_2
def dkwX3_isCovered_0 : List UInt8 := [42, 27, 133, 9, 42, 180, 0, 102, 4, 100, 133, 184, 0, 213, 153, 0, 21, 28, 133, 9, 42, 180, 0, 102]
abbrev dktX3_isCovered_0 : List UInt8 := dkwX3_isCovered_0 ++ dktX3_isCovered_1
theorem dksX3_isCovered_0 : cX3_isCovered.data.toList.drop 0 = dktX3_isCovered_0 := by decide +kernel
theorem dksX3_isCovered_1 : cX3_isCovered.data.toList.drop 24 = dktX3_isCovered_1 := dk_seg dksX3_isCovered_0 24 rfl rfl
theorem dksX3_isCovered_2 : cX3_isCovered.data.toList.drop 47 = dktX3_isCovered_2 := dk_seg dksX3_isCovered_1 23 rfl rfl
theorem dX3_isCovered_0 : decode cX3_isCovered 0 = .ok (.aload_n 0, 1) := dk_42 (dk_at dksX3_isCovered_0 0 rfl rfl)
theorem dX3_isCovered_1 : decode cX3_isCovered 1 = .ok (.iload_n 1, 1) := dk_27 (dk_at dksX3_isCovered_0 1 rfl rfl)
theorem dX3_isCovered_2 : decode cX3_isCovered 2 = .ok (.i2l, 1) := dk_133 (dk_at dksX3_isCovered_0 2 rfl rfl)
theorem dX3_isCovered_3 : decode cX3_isCovered 3 = .ok (.lconst 0, 1) := dk_9 (dk_at dksX3_isCovered_0 3 rfl rfl)
theorem dX3_isCovered_4 : decode cX3_isCovered 4 = .ok (.aload_n 0, 1) := dk_42 (dk_at dksX3_isCovered_0 4 rfl rfl)
theorem dX3_isCovered_5 : decode cX3_isCovered 5 = .ok (.getfield 102, 3) := dk_180 0 102 (dk_at dksX3_isCovered_0 5 rfl rfl)
theorem dX3_isCovered_8 : decode cX3_isCovered 8 = .ok (.iconst 1, 1) := dk_4 (dk_at dksX3_isCovered_0 8 rfl rfl)
theorem dX3_isCovered_9 : decode cX3_isCovered 9 = .ok (.isub, 1) := dk_100 (dk_at dksX3_isCovered_0 9 rfl rfl)
theorem dX3_isCovered_10 : decode cX3_isCovered 10 = .ok (.i2l, 1) := dk_133 (dk_at dksX3_isCovered_0 10 rfl rfl)
theorem dX3_isCovered_11 : decode cX3_isCovered 11 = .ok (.invokestatic 213, 3) := dk_184 0 213 (dk_at dksX3_isCovered_0 11 rfl rfl)
theorem dX3_isCovered_14 : decode cX3_isCovered 14 = .ok (.ifCond .eq 21, 3) := dk_153 0 21 (dk_at dksX3_isCovered_0 14 rfl rfl)
theorem dX3_isCovered_17 : decode cX3_isCovered 17 = .ok (.iload_n 2, 1) := dk_28 (dk_at dksX3_isCovered_0 17 rfl rfl)
theorem dX3_isCovered_18 : decode cX3_isCovered 18 = .ok (.i2l, 1) := dk_133 (dk_at dksX3_isCovered_0 18 rfl rfl)
theorem dX3_isCovered_19 : decode cX3_isCovered 19 = .ok (.lconst 0, 1) := dk_9 (dk_at dksX3_isCovered_0 19 rfl rfl)
theorem dX3_isCovered_20 : decode cX3_isCovered 20 = .ok (.aload_n 0, 1) := dk_42 (dk_at dksX3_isCovered_0 20 rfl rfl)
theorem dX3_isCovered_21 : decode cX3_isCovered 21 = .ok (.getfield 102, 3) := dk_180 0 102 (dk_at dksX3_isCovered_0 21 rfl rfl)
theorem dX3_isCovered_24 : decode cX3_isCovered 24 = .ok (.i2l, 1) := dk_133 (dk_at dksX3_isCovered_1 0 rfl rfl)
theorem dX3_isCovered_25 : decode cX3_isCovered 25 = .ok (.invokestatic 213, 3) := dk_184 0 213 (dk_at dksX3_isCovered_1 1 rfl rfl)
theorem dX3_isCovered_28 : decode cX3_isCovered 28 = .ok (.ifCond .eq 7, 3) := dk_153 0 7 (dk_at dksX3_isCovered_1 4 rfl rfl)
theorem dX3_isCovered_31 : decode cX3_isCovered 31 = .ok (.iconst 0, 1) := dk_3 (dk_at dksX3_isCovered_1 7 rfl rfl)
theorem dX3_isCovered_32 : decode cX3_isCovered 32 = .ok (.goto 4, 3) := dk_167 0 4 (dk_at dksX3_isCovered_1 8 rfl rfl)
theorem dX3_isCovered_35 : decode cX3_isCovered 35 = .ok (.iconst 1, 1) := dk_4 (dk_at dksX3_isCovered_1 11 rfl rfl)
theorem dX3_isCovered_36 : decode cX3_isCovered 36 = .ok (.putfield 62, 3) := dk_181 0 62 (dk_at dksX3_isCovered_1 12 rfl rfl)
theorem dX3_isCovered_39 : decode cX3_isCovered 39 = .ok (.aload_n 0, 1) := dk_42 (dk_at dksX3_isCovered_1 15 rfl rfl)
theorem dX3_isCovered_40 : decode cX3_isCovered 40 = .ok (.getfield 62, 3) := dk_180 0 62 (dk_at dksX3_isCovered_1 16 rfl rfl)
theorem dX3_isCovered_43 : decode cX3_isCovered 43 = .ok (.ifCond .ne 21, 3) := dk_154 0 21 (dk_at dksX3_isCovered_1 19 rfl rfl)
theorem dX3_isCovered_46 : decode cX3_isCovered 46 = .ok (.aload_n 0, 1) := dk_42 (dk_at dksX3_isCovered_1 22 rfl rfl)
theorem dX3_isCovered_47 : decode cX3_isCovered 47 = .ok (.getfield 47, 3) := dk_180 0 47 (dk_at dksX3_isCovered_2 0 rfl rfl)
theorem dX3_isCovered_50 : decode cX3_isCovered 50 = .ok (.bipush 17, 2) := dk_16 17 (dk_at dksX3_isCovered_2 3 rfl rfl)
theorem dX3_isCovered_52 : decode cX3_isCovered 52 = .ok (.iload_n 1, 1) := dk_27 (dk_at dksX3_isCovered_2 5 rfl rfl)
theorem dX3_isCovered_53 : decode cX3_isCovered 53 = .ok (.imul, 1) := dk_104 (dk_at dksX3_isCovered_2 6 rfl rfl)
theorem dX3_isCovered_54 : decode cX3_isCovered 54 = .ok (.iload_n 2, 1) := dk_28 (dk_at dksX3_isCovered_2 7 rfl rfl)
theorem dX3_isCovered_55 : decode cX3_isCovered 55 = .ok (.iadd, 1) := dk_96 (dk_at dksX3_isCovered_2 8 rfl rfl)
theorem dX3_isCovered_56 : decode cX3_isCovered 56 = .ok (.baload, 1) := dk_51 (dk_at dksX3_isCovered_2 9 rfl rfl)
theorem dX3_isCovered_57 : decode cX3_isCovered 57 = .ok (.ifCond .eq 7, 3) := dk_153 0 7 (dk_at dksX3_isCovered_2 10 rfl rfl)
theorem dX3_isCovered_60 : decode cX3_isCovered 60 = .ok (.iconst 1, 1) := dk_4 (dk_at dksX3_isCovered_2 13 rfl rfl)
theorem dX3_isCovered_61 : decode cX3_isCovered 61 = .ok (.goto 4, 3) := dk_167 0 4 (dk_at dksX3_isCovered_2 14 rfl rfl)
theorem dX3_isCovered_64 : decode cX3_isCovered 64 = .ok (.iconst 0, 1) := dk_3 (dk_at dksX3_isCovered_2 17 rfl rfl)
theorem dX3_isCovered_65 : decode cX3_isCovered 65 = .ok (.ireturn, 1) := dk_172 (dk_at dksX3_isCovered_2 18 rfl rfl)
abbrev cX3_kept : ByteArray := prog_16_method_36_code
def yX3_kept : MethodName := ⟨RX3, "kept", "()I"⟩
def dkwX3_kept_0 : List UInt8 := [42, 3, 181, 0, 62, 42, 180, 0, 199, 172]
abbrev dktX3_kept_0 : List UInt8 := dkwX3_kept_0 ++ []
theorem dksX3_kept_0 : cX3_kept.data.toList.drop 0 = dktX3_kept_0 := by decide +kernel
theorem dX3_kept_0 : decode cX3_kept 0 = .ok (.aload_n 0, 1) := dk_42 (dk_at dksX3_kept_0 0 rfl rfl)
theorem dX3_kept_1 : decode cX3_kept 1 = .ok (.iconst 0, 1) := dk_3 (dk_at dksX3_kept_0 1 rfl rfl)
theorem dX3_kept_2 : decode cX3_kept 2 = .ok (.putfield 62, 3) := dk_181 0 62 (dk_at dksX3_kept_0 2 rfl rfl)
theorem dX3_kept_5 : decode cX3_kept 5 = .ok (.aload_n 0, 1) := dk_42 (dk_at dksX3_kept_0 5 rfl rfl)
theorem dX3_kept_6 : decode cX3_kept 6 = .ok (.getfield 199, 3) := dk_180 0 199 (dk_at dksX3_kept_0 6 rfl rfl)
theorem dX3_kept_9 : decode cX3_kept 9 = .ok (.ireturn, 1) := dk_172 (dk_at dksX3_kept_0 9 rfl rfl)
abbrev cX3_keptAt : ByteArray := prog_16_method_37_code
def yX3_keptAt : MethodName := ⟨RX3, "keptAt", "(I)Ljava/lang/String;"⟩
def dkwX3_keptAt_1 : List UInt8 := [181, 0, 62, 42, 180, 0, 62, 154, 0, 12, 42, 180, 0, 50, 27, 50, 167, 0, 5, 18, 253, 176]
abbrev dktX3_keptAt_1 : List UInt8 := dkwX3_keptAt_1 ++ []
def dkwX3_keptAt_0 : List UInt8 := [42, 27, 133, 9, 42, 180, 0, 199, 4, 100, 133, 184, 0, 213, 153, 0, 7, 3, 167, 0, 4, 4]
abbrev dktX3_keptAt_0 : List UInt8 := dkwX3_keptAt_0 ++ dktX3_keptAt_1
theorem dksX3_keptAt_0 : cX3_keptAt.data.toList.drop 0 = dktX3_keptAt_0 := by decide +kernel
theorem dksX3_keptAt_1 : cX3_keptAt.data.toList.drop 22 = dktX3_keptAt_1 := dk_seg dksX3_keptAt_0 22 rfl rfl
theorem dX3_keptAt_0 : decode cX3_keptAt 0 = .ok (.aload_n 0, 1) := dk_42 (dk_at dksX3_keptAt_0 0 rfl rfl)
theorem dX3_keptAt_1 : decode cX3_keptAt 1 = .ok (.iload_n 1, 1) := dk_27 (dk_at dksX3_keptAt_0 1 rfl rfl)
theorem dX3_keptAt_2 : decode cX3_keptAt 2 = .ok (.i2l, 1) := dk_133 (dk_at dksX3_keptAt_0 2 rfl rfl)
theorem dX3_keptAt_3 : decode cX3_keptAt 3 = .ok (.lconst 0, 1) := dk_9 (dk_at dksX3_keptAt_0 3 rfl rfl)
theorem dX3_keptAt_4 : decode cX3_keptAt 4 = .ok (.aload_n 0, 1) := dk_42 (dk_at dksX3_keptAt_0 4 rfl rfl)
theorem dX3_keptAt_5 : decode cX3_keptAt 5 = .ok (.getfield 199, 3) := dk_180 0 199 (dk_at dksX3_keptAt_0 5 rfl rfl)
theorem dX3_keptAt_8 : decode cX3_keptAt 8 = .ok (.iconst 1, 1) := dk_4 (dk_at dksX3_keptAt_0 8 rfl rfl)
theorem dX3_keptAt_9 : decode cX3_keptAt 9 = .ok (.isub, 1) := dk_100 (dk_at dksX3_keptAt_0 9 rfl rfl)
theorem dX3_keptAt_10 : decode cX3_keptAt 10 = .ok (.i2l, 1) := dk_133 (dk_at dksX3_keptAt_0 10 rfl rfl)
theorem dX3_keptAt_11 : decode cX3_keptAt 11 = .ok (.invokestatic 213, 3) := dk_184 0 213 (dk_at dksX3_keptAt_0 11 rfl rfl)
theorem dX3_keptAt_14 : decode cX3_keptAt 14 = .ok (.ifCond .eq 7, 3) := dk_153 0 7 (dk_at dksX3_keptAt_0 14 rfl rfl)
theorem dX3_keptAt_17 : decode cX3_keptAt 17 = .ok (.iconst 0, 1) := dk_3 (dk_at dksX3_keptAt_0 17 rfl rfl)
theorem dX3_keptAt_18 : decode cX3_keptAt 18 = .ok (.goto 4, 3) := dk_167 0 4 (dk_at dksX3_keptAt_0 18 rfl rfl)
theorem dX3_keptAt_21 : decode cX3_keptAt 21 = .ok (.iconst 1, 1) := dk_4 (dk_at dksX3_keptAt_0 21 rfl rfl)
theorem dX3_keptAt_22 : decode cX3_keptAt 22 = .ok (.putfield 62, 3) := dk_181 0 62 (dk_at dksX3_keptAt_1 0 rfl rfl)
theorem dX3_keptAt_25 : decode cX3_keptAt 25 = .ok (.aload_n 0, 1) := dk_42 (dk_at dksX3_keptAt_1 3 rfl rfl)
theorem dX3_keptAt_26 : decode cX3_keptAt 26 = .ok (.getfield 62, 3) := dk_180 0 62 (dk_at dksX3_keptAt_1 4 rfl rfl)
theorem dX3_keptAt_29 : decode cX3_keptAt 29 = .ok (.ifCond .ne 12, 3) := dk_154 0 12 (dk_at dksX3_keptAt_1 7 rfl rfl)
theorem dX3_keptAt_32 : decode cX3_keptAt 32 = .ok (.aload_n 0, 1) := dk_42 (dk_at dksX3_keptAt_1 10 rfl rfl)
theorem dX3_keptAt_33 : decode cX3_keptAt 33 = .ok (.getfield 50, 3) := dk_180 0 50 (dk_at dksX3_keptAt_1 11 rfl rfl)
theorem dX3_keptAt_36 : decode cX3_keptAt 36 = .ok (.iload_n 1, 1) := dk_27 (dk_at dksX3_keptAt_1 14 rfl rfl)
theorem dX3_keptAt_37 : decode cX3_keptAt 37 = .ok (.aaload, 1) := dk_50 (dk_at dksX3_keptAt_1 15 rfl rfl)
theorem dX3_keptAt_38 : decode cX3_keptAt 38 = .ok (.goto 5, 3) := dk_167 0 5 (dk_at dksX3_keptAt_1 16 rfl rfl)
theorem dX3_keptAt_41 : decode cX3_keptAt 41 = .ok (.ldc 253, 2) := dk_18 253 (dk_at dksX3_keptAt_1 19 rfl rfl)
theorem dX3_keptAt_43 : decode cX3_keptAt 43 = .ok (.areturn, 1) := dk_176 (dk_at dksX3_keptAt_1 21 rfl rfl)
abbrev cX3_queued : ByteArray := prog_16_method_38_code
def yX3_queued : MethodName := ⟨RX3, "queued", "()I"⟩
def dkwX3_queued_0 : List UInt8 := [42, 3, 181, 0, 62, 42, 180, 0, 199, 42, 180, 1, 12, 100, 172]
abbrev dktX3_queued_0 : List UInt8 := dkwX3_queued_0 ++ []
theorem dksX3_queued_0 : cX3_queued.data.toList.drop 0 = dktX3_queued_0 := by decide +kernel
theorem dX3_queued_0 : decode cX3_queued 0 = .ok (.aload_n 0, 1) := dk_42 (dk_at dksX3_queued_0 0 rfl rfl)
theorem dX3_queued_1 : decode cX3_queued 1 = .ok (.iconst 0, 1) := dk_3 (dk_at dksX3_queued_0 1 rfl rfl)
theorem dX3_queued_2 : decode cX3_queued 2 = .ok (.putfield 62, 3) := dk_181 0 62 (dk_at dksX3_queued_0 2 rfl rfl)
theorem dX3_queued_5 : decode cX3_queued 5 = .ok (.aload_n 0, 1) := dk_42 (dk_at dksX3_queued_0 5 rfl rfl)
theorem dX3_queued_6 : decode cX3_queued 6 = .ok (.getfield 199, 3) := dk_180 0 199 (dk_at dksX3_queued_0 6 rfl rfl)
theorem dX3_queued_9 : decode cX3_queued 9 = .ok (.aload_n 0, 1) := dk_42 (dk_at dksX3_queued_0 9 rfl rfl)
theorem dX3_queued_10 : decode cX3_queued 10 = .ok (.getfield 268, 3) := dk_180 1 12 (dk_at dksX3_queued_0 10 rfl rfl)
theorem dX3_queued_13 : decode cX3_queued 13 = .ok (.isub, 1) := dk_100 (dk_at dksX3_queued_0 13 rfl rfl)
theorem dX3_queued_14 : decode cX3_queued 14 = .ok (.ireturn, 1) := dk_172 (dk_at dksX3_queued_0 14 rfl rfl)
abbrev cX3_findings : ByteArray := prog_16_method_39_code
def yX3_findings : MethodName := ⟨RX3, "findings", "()I"⟩
def dkwX3_findings_0 : List UInt8 := [42, 3, 181, 0, 62, 42, 180, 0, 183, 172]
abbrev dktX3_findings_0 : List UInt8 := dkwX3_findings_0 ++ []
theorem dksX3_findings_0 : cX3_findings.data.toList.drop 0 = dktX3_findings_0 := by decide +kernel
theorem dX3_findings_0 : decode cX3_findings 0 = .ok (.aload_n 0, 1) := dk_42 (dk_at dksX3_findings_0 0 rfl rfl)
theorem dX3_findings_1 : decode cX3_findings 1 = .ok (.iconst 0, 1) := dk_3 (dk_at dksX3_findings_0 1 rfl rfl)
theorem dX3_findings_2 : decode cX3_findings 2 = .ok (.putfield 62, 3) := dk_181 0 62 (dk_at dksX3_findings_0 2 rfl rfl)
theorem dX3_findings_5 : decode cX3_findings 5 = .ok (.aload_n 0, 1) := dk_42 (dk_at dksX3_findings_0 5 rfl rfl)
theorem dX3_findings_6 : decode cX3_findings 6 = .ok (.getfield 183, 3) := dk_180 0 183 (dk_at dksX3_findings_0 6 rfl rfl)
theorem dX3_findings_9 : decode cX3_findings 9 = .ok (.ireturn, 1) := dk_172 (dk_at dksX3_findings_0 9 rfl rfl)
abbrev cX3_findingAt : ByteArray := prog_16_method_40_code
def yX3_findingAt : MethodName := ⟨RX3, "findingAt", "(I)LFinding;"⟩
def dkwX3_findingAt_3 : List UInt8 := [183, 1, 32, 176]
abbrev dktX3_findingAt_3 : List UInt8 := dkwX3_findingAt_3 ++ []
def dkwX3_findingAt_2 : List UInt8 := [27, 50, 42, 180, 0, 59, 27, 46, 183, 1, 32, 167, 0, 15, 187, 1, 30, 89, 18, 253, 18, 253, 3]
abbrev dktX3_findingAt_2 : List UInt8 := dkwX3_findingAt_2 ++ dktX3_findingAt_3
def dkwX3_findingAt_1 : List UInt8 := [181, 0, 62, 42, 180, 0, 62, 154, 0, 31, 187, 1, 30, 89, 42, 180, 0, 53, 27, 50, 42, 180, 0, 56]
abbrev dktX3_findingAt_1 : List UInt8 := dkwX3_findingAt_1 ++ dktX3_findingAt_2
def dkwX3_findingAt_0 : List UInt8 := [42, 27, 133, 9, 42, 180, 0, 183, 4, 100, 133, 184, 0, 213, 153, 0, 7, 3, 167, 0, 4, 4]
abbrev dktX3_findingAt_0 : List UInt8 := dkwX3_findingAt_0 ++ dktX3_findingAt_1
theorem dksX3_findingAt_0 : cX3_findingAt.data.toList.drop 0 = dktX3_findingAt_0 := by decide +kernel
theorem dksX3_findingAt_1 : cX3_findingAt.data.toList.drop 22 = dktX3_findingAt_1 := dk_seg dksX3_findingAt_0 22 rfl rfl
theorem dksX3_findingAt_2 : cX3_findingAt.data.toList.drop 46 = dktX3_findingAt_2 := dk_seg dksX3_findingAt_1 24 rfl rfl
theorem dksX3_findingAt_3 : cX3_findingAt.data.toList.drop 69 = dktX3_findingAt_3 := dk_seg dksX3_findingAt_2 23 rfl rfl
theorem dX3_findingAt_0 : decode cX3_findingAt 0 = .ok (.aload_n 0, 1) := dk_42 (dk_at dksX3_findingAt_0 0 rfl rfl)
theorem dX3_findingAt_1 : decode cX3_findingAt 1 = .ok (.iload_n 1, 1) := dk_27 (dk_at dksX3_findingAt_0 1 rfl rfl)
theorem dX3_findingAt_2 : decode cX3_findingAt 2 = .ok (.i2l, 1) := dk_133 (dk_at dksX3_findingAt_0 2 rfl rfl)
theorem dX3_findingAt_3 : decode cX3_findingAt 3 = .ok (.lconst 0, 1) := dk_9 (dk_at dksX3_findingAt_0 3 rfl rfl)
theorem dX3_findingAt_4 : decode cX3_findingAt 4 = .ok (.aload_n 0, 1) := dk_42 (dk_at dksX3_findingAt_0 4 rfl rfl)
theorem dX3_findingAt_5 : decode cX3_findingAt 5 = .ok (.getfield 183, 3) := dk_180 0 183 (dk_at dksX3_findingAt_0 5 rfl rfl)
theorem dX3_findingAt_8 : decode cX3_findingAt 8 = .ok (.iconst 1, 1) := dk_4 (dk_at dksX3_findingAt_0 8 rfl rfl)
theorem dX3_findingAt_9 : decode cX3_findingAt 9 = .ok (.isub, 1) := dk_100 (dk_at dksX3_findingAt_0 9 rfl rfl)
theorem dX3_findingAt_10 : decode cX3_findingAt 10 = .ok (.i2l, 1) := dk_133 (dk_at dksX3_findingAt_0 10 rfl rfl)
theorem dX3_findingAt_11 : decode cX3_findingAt 11 = .ok (.invokestatic 213, 3) := dk_184 0 213 (dk_at dksX3_findingAt_0 11 rfl rfl)
theorem dX3_findingAt_14 : decode cX3_findingAt 14 = .ok (.ifCond .eq 7, 3) := dk_153 0 7 (dk_at dksX3_findingAt_0 14 rfl rfl)
theorem dX3_findingAt_17 : decode cX3_findingAt 17 = .ok (.iconst 0, 1) := dk_3 (dk_at dksX3_findingAt_0 17 rfl rfl)
theorem dX3_findingAt_18 : decode cX3_findingAt 18 = .ok (.goto 4, 3) := dk_167 0 4 (dk_at dksX3_findingAt_0 18 rfl rfl)
theorem dX3_findingAt_21 : decode cX3_findingAt 21 = .ok (.iconst 1, 1) := dk_4 (dk_at dksX3_findingAt_0 21 rfl rfl)
theorem dX3_findingAt_22 : decode cX3_findingAt 22 = .ok (.putfield 62, 3) := dk_181 0 62 (dk_at dksX3_findingAt_1 0 rfl rfl)
theorem dX3_findingAt_25 : decode cX3_findingAt 25 = .ok (.aload_n 0, 1) := dk_42 (dk_at dksX3_findingAt_1 3 rfl rfl)
theorem dX3_findingAt_26 : decode cX3_findingAt 26 = .ok (.getfield 62, 3) := dk_180 0 62 (dk_at dksX3_findingAt_1 4 rfl rfl)
theorem dX3_findingAt_29 : decode cX3_findingAt 29 = .ok (.ifCond .ne 31, 3) := dk_154 0 31 (dk_at dksX3_findingAt_1 7 rfl rfl)
theorem dX3_findingAt_32 : decode cX3_findingAt 32 = .ok (.new 286, 3) := dk_187 1 30 (dk_at dksX3_findingAt_1 10 rfl rfl)
theorem dX3_findingAt_35 : decode cX3_findingAt 35 = .ok (.dup, 1) := dk_89 (dk_at dksX3_findingAt_1 13 rfl rfl)
theorem dX3_findingAt_36 : decode cX3_findingAt 36 = .ok (.aload_n 0, 1) := dk_42 (dk_at dksX3_findingAt_1 14 rfl rfl)
theorem dX3_findingAt_37 : decode cX3_findingAt 37 = .ok (.getfield 53, 3) := dk_180 0 53 (dk_at dksX3_findingAt_1 15 rfl rfl)
theorem dX3_findingAt_40 : decode cX3_findingAt 40 = .ok (.iload_n 1, 1) := dk_27 (dk_at dksX3_findingAt_1 18 rfl rfl)
theorem dX3_findingAt_41 : decode cX3_findingAt 41 = .ok (.aaload, 1) := dk_50 (dk_at dksX3_findingAt_1 19 rfl rfl)
theorem dX3_findingAt_42 : decode cX3_findingAt 42 = .ok (.aload_n 0, 1) := dk_42 (dk_at dksX3_findingAt_1 20 rfl rfl)
theorem dX3_findingAt_43 : decode cX3_findingAt 43 = .ok (.getfield 56, 3) := dk_180 0 56 (dk_at dksX3_findingAt_1 21 rfl rfl)
theorem dX3_findingAt_46 : decode cX3_findingAt 46 = .ok (.iload_n 1, 1) := dk_27 (dk_at dksX3_findingAt_2 0 rfl rfl)
theorem dX3_findingAt_47 : decode cX3_findingAt 47 = .ok (.aaload, 1) := dk_50 (dk_at dksX3_findingAt_2 1 rfl rfl)
theorem dX3_findingAt_48 : decode cX3_findingAt 48 = .ok (.aload_n 0, 1) := dk_42 (dk_at dksX3_findingAt_2 2 rfl rfl)
theorem dX3_findingAt_49 : decode cX3_findingAt 49 = .ok (.getfield 59, 3) := dk_180 0 59 (dk_at dksX3_findingAt_2 3 rfl rfl)
theorem dX3_findingAt_52 : decode cX3_findingAt 52 = .ok (.iload_n 1, 1) := dk_27 (dk_at dksX3_findingAt_2 6 rfl rfl)
theorem dX3_findingAt_53 : decode cX3_findingAt 53 = .ok (.iaload, 1) := dk_46 (dk_at dksX3_findingAt_2 7 rfl rfl)
theorem dX3_findingAt_54 : decode cX3_findingAt 54 = .ok (.invokespecial 288, 3) := dk_183 1 32 (dk_at dksX3_findingAt_2 8 rfl rfl)
theorem dX3_findingAt_57 : decode cX3_findingAt 57 = .ok (.goto 15, 3) := dk_167 0 15 (dk_at dksX3_findingAt_2 11 rfl rfl)
theorem dX3_findingAt_60 : decode cX3_findingAt 60 = .ok (.new 286, 3) := dk_187 1 30 (dk_at dksX3_findingAt_2 14 rfl rfl)
theorem dX3_findingAt_63 : decode cX3_findingAt 63 = .ok (.dup, 1) := dk_89 (dk_at dksX3_findingAt_2 17 rfl rfl)
theorem dX3_findingAt_64 : decode cX3_findingAt 64 = .ok (.ldc 253, 2) := dk_18 253 (dk_at dksX3_findingAt_2 18 rfl rfl)
theorem dX3_findingAt_66 : decode cX3_findingAt 66 = .ok (.ldc 253, 2) := dk_18 253 (dk_at dksX3_findingAt_2 20 rfl rfl)
theorem dX3_findingAt_68 : decode cX3_findingAt 68 = .ok (.iconst 0, 1) := dk_3 (dk_at dksX3_findingAt_2 22 rfl rfl)
theorem dX3_findingAt_69 : decode cX3_findingAt 69 = .ok (.invokespecial 288, 3) := dk_183 1 32 (dk_at dksX3_findingAt_3 0 rfl rfl)
theorem dX3_findingAt_72 : decode cX3_findingAt 72 = .ok (.areturn, 1) := dk_176 (dk_at dksX3_findingAt_3 3 rfl rfl)
abbrev cX3_verdict : ByteArray := prog_16_method_42_code
def yX3_verdict : MethodName := ⟨RX3, "verdict", "(Ljava/lang/String;)LVerdict;"⟩
def dkwX3_verdict_2 : List UInt8 := [176]
abbrev dktX3_verdict_2 : List UInt8 := dkwX3_verdict_2 ++ []
def dkwX3_verdict_1 : List UInt8 := [43, 182, 0, 168, 42, 180, 0, 62, 154, 0, 13, 42, 180, 0, 96, 184, 1, 47, 167, 0, 6, 178, 1, 35]
abbrev dktX3_verdict_1 : List UInt8 := dkwX3_verdict_1 ++ dktX3_verdict_2
def dkwX3_verdict_0 : List UInt8 := [42, 43, 184, 0, 255, 153, 0, 7, 3, 167, 0, 4, 4, 181, 0, 62, 42, 180, 0, 62, 154, 0, 8, 42]
abbrev dktX3_verdict_0 : List UInt8 := dkwX3_verdict_0 ++ dktX3_verdict_1
theorem dksX3_verdict_0 : cX3_verdict.data.toList.drop 0 = dktX3_verdict_0 := by decide +kernel
theorem dksX3_verdict_1 : cX3_verdict.data.toList.drop 24 = dktX3_verdict_1 := dk_seg dksX3_verdict_0 24 rfl rfl
theorem dksX3_verdict_2 : cX3_verdict.data.toList.drop 48 = dktX3_verdict_2 := dk_seg dksX3_verdict_1 24 rfl rfl
theorem dX3_verdict_0 : decode cX3_verdict 0 = .ok (.aload_n 0, 1) := dk_42 (dk_at dksX3_verdict_0 0 rfl rfl)
theorem dX3_verdict_1 : decode cX3_verdict 1 = .ok (.aload_n 1, 1) := dk_43 (dk_at dksX3_verdict_0 1 rfl rfl)
theorem dX3_verdict_2 : decode cX3_verdict 2 = .ok (.invokestatic 255, 3) := dk_184 0 255 (dk_at dksX3_verdict_0 2 rfl rfl)
theorem dX3_verdict_5 : decode cX3_verdict 5 = .ok (.ifCond .eq 7, 3) := dk_153 0 7 (dk_at dksX3_verdict_0 5 rfl rfl)
theorem dX3_verdict_8 : decode cX3_verdict 8 = .ok (.iconst 0, 1) := dk_3 (dk_at dksX3_verdict_0 8 rfl rfl)
theorem dX3_verdict_9 : decode cX3_verdict 9 = .ok (.goto 4, 3) := dk_167 0 4 (dk_at dksX3_verdict_0 9 rfl rfl)
theorem dX3_verdict_12 : decode cX3_verdict 12 = .ok (.iconst 1, 1) := dk_4 (dk_at dksX3_verdict_0 12 rfl rfl)
theorem dX3_verdict_13 : decode cX3_verdict 13 = .ok (.putfield 62, 3) := dk_181 0 62 (dk_at dksX3_verdict_0 13 rfl rfl)
theorem dX3_verdict_16 : decode cX3_verdict 16 = .ok (.aload_n 0, 1) := dk_42 (dk_at dksX3_verdict_0 16 rfl rfl)
theorem dX3_verdict_17 : decode cX3_verdict 17 = .ok (.getfield 62, 3) := dk_180 0 62 (dk_at dksX3_verdict_0 17 rfl rfl)
theorem dX3_verdict_20 : decode cX3_verdict 20 = .ok (.ifCond .ne 8, 3) := dk_154 0 8 (dk_at dksX3_verdict_0 20 rfl rfl)
theorem dX3_verdict_23 : decode cX3_verdict 23 = .ok (.aload_n 0, 1) := dk_42 (dk_at dksX3_verdict_0 23 rfl rfl)
theorem dX3_verdict_24 : decode cX3_verdict 24 = .ok (.aload_n 1, 1) := dk_43 (dk_at dksX3_verdict_1 0 rfl rfl)
theorem dX3_verdict_25 : decode cX3_verdict 25 = .ok (.invokevirtual 168, 3) := dk_182 0 168 (dk_at dksX3_verdict_1 1 rfl rfl)
theorem dX3_verdict_28 : decode cX3_verdict 28 = .ok (.aload_n 0, 1) := dk_42 (dk_at dksX3_verdict_1 4 rfl rfl)
theorem dX3_verdict_29 : decode cX3_verdict 29 = .ok (.getfield 62, 3) := dk_180 0 62 (dk_at dksX3_verdict_1 5 rfl rfl)
theorem dX3_verdict_32 : decode cX3_verdict 32 = .ok (.ifCond .ne 13, 3) := dk_154 0 13 (dk_at dksX3_verdict_1 8 rfl rfl)
theorem dX3_verdict_35 : decode cX3_verdict 35 = .ok (.aload_n 0, 1) := dk_42 (dk_at dksX3_verdict_1 11 rfl rfl)
theorem dX3_verdict_36 : decode cX3_verdict 36 = .ok (.getfield 96, 3) := dk_180 0 96 (dk_at dksX3_verdict_1 12 rfl rfl)
theorem dX3_verdict_39 : decode cX3_verdict 39 = .ok (.invokestatic 303, 3) := dk_184 1 47 (dk_at dksX3_verdict_1 15 rfl rfl)
theorem dX3_verdict_42 : decode cX3_verdict 42 = .ok (.goto 6, 3) := dk_167 0 6 (dk_at dksX3_verdict_1 18 rfl rfl)
theorem dX3_verdict_45 : decode cX3_verdict 45 = .ok (.getstatic 291, 3) := dk_178 1 35 (dk_at dksX3_verdict_1 21 rfl rfl)
theorem dX3_verdict_48 : decode cX3_verdict 48 = .ok (.areturn, 1) := dk_176 (dk_at dksX3_verdict_2 0 rfl rfl)
abbrev cX3_verdictOf : ByteArray := prog_16_method_41_code
def yX3_verdictOf : MethodName := ⟨RX3, "verdictOf", "(I)LVerdict;"⟩
def dkwX3_verdictOf_1 : List UInt8 := [176]
abbrev dktX3_verdictOf_1 : List UInt8 := dkwX3_verdictOf_1 ++ []
def dkwX3_verdictOf_0 : List UInt8 := [26, 154, 0, 9, 178, 1, 35, 167, 0, 17, 26, 4, 160, 0, 9, 178, 1, 41, 167, 0, 6, 178, 1, 44]
abbrev dktX3_verdictOf_0 : List UInt8 := dkwX3_verdictOf_0 ++ dktX3_verdictOf_1
theorem dksX3_verdictOf_0 : cX3_verdictOf.data.toList.drop 0 = dktX3_verdictOf_0 := by decide +kernel
theorem dksX3_verdictOf_1 : cX3_verdictOf.data.toList.drop 24 = dktX3_verdictOf_1 := dk_seg dksX3_verdictOf_0 24 rfl rfl
theorem dX3_verdictOf_0 : decode cX3_verdictOf 0 = .ok (.iload_n 0, 1) := dk_26 (dk_at dksX3_verdictOf_0 0 rfl rfl)
theorem dX3_verdictOf_1 : decode cX3_verdictOf 1 = .ok (.ifCond .ne 9, 3) := dk_154 0 9 (dk_at dksX3_verdictOf_0 1 rfl rfl)
theorem dX3_verdictOf_4 : decode cX3_verdictOf 4 = .ok (.getstatic 291, 3) := dk_178 1 35 (dk_at dksX3_verdictOf_0 4 rfl rfl)
theorem dX3_verdictOf_7 : decode cX3_verdictOf 7 = .ok (.goto 17, 3) := dk_167 0 17 (dk_at dksX3_verdictOf_0 7 rfl rfl)
theorem dX3_verdictOf_10 : decode cX3_verdictOf 10 = .ok (.iload_n 0, 1) := dk_26 (dk_at dksX3_verdictOf_0 10 rfl rfl)
theorem dX3_verdictOf_11 : decode cX3_verdictOf 11 = .ok (.iconst 1, 1) := dk_4 (dk_at dksX3_verdictOf_0 11 rfl rfl)
theorem dX3_verdictOf_12 : decode cX3_verdictOf 12 = .ok (.if_icmp .ne 9, 3) := dk_160 0 9 (dk_at dksX3_verdictOf_0 12 rfl rfl)
theorem dX3_verdictOf_15 : decode cX3_verdictOf 15 = .ok (.getstatic 297, 3) := dk_178 1 41 (dk_at dksX3_verdictOf_0 15 rfl rfl)
theorem dX3_verdictOf_18 : decode cX3_verdictOf 18 = .ok (.goto 6, 3) := dk_167 0 6 (dk_at dksX3_verdictOf_0 18 rfl rfl)
theorem dX3_verdictOf_21 : decode cX3_verdictOf 21 = .ok (.getstatic 300, 3) := dk_178 1 44 (dk_at dksX3_verdictOf_0 21 rfl rfl)
theorem dX3_verdictOf_24 : decode cX3_verdictOf 24 = .ok (.areturn, 1) := dk_176 (dk_at dksX3_verdictOf_1 0 rfl rfl)
abbrev cX3_code : ByteArray := prog_16_method_44_code
def yX3_code : MethodName := ⟨RX3, "code", "(Ljava/lang/String;)I"⟩
def dkwX3_code_0 : List UInt8 := [42, 43, 182, 1, 51, 153, 0, 10, 42, 180, 0, 99, 167, 0, 4, 2, 172]
abbrev dktX3_code_0 : List UInt8 := dkwX3_code_0 ++ []
theorem dksX3_code_0 : cX3_code.data.toList.drop 0 = dktX3_code_0 := by decide +kernel
theorem dX3_code_0 : decode cX3_code 0 = .ok (.aload_n 0, 1) := dk_42 (dk_at dksX3_code_0 0 rfl rfl)
theorem dX3_code_1 : decode cX3_code 1 = .ok (.aload_n 1, 1) := dk_43 (dk_at dksX3_code_0 1 rfl rfl)
theorem dX3_code_2 : decode cX3_code 2 = .ok (.invokevirtual 307, 3) := dk_182 1 51 (dk_at dksX3_code_0 2 rfl rfl)
theorem dX3_code_5 : decode cX3_code 5 = .ok (.ifCond .eq 10, 3) := dk_153 0 10 (dk_at dksX3_code_0 5 rfl rfl)
theorem dX3_code_8 : decode cX3_code 8 = .ok (.aload_n 0, 1) := dk_42 (dk_at dksX3_code_0 8 rfl rfl)
theorem dX3_code_9 : decode cX3_code 9 = .ok (.getfield 99, 3) := dk_180 0 99 (dk_at dksX3_code_0 9 rfl rfl)
theorem dX3_code_12 : decode cX3_code 12 = .ok (.goto 4, 3) := dk_167 0 4 (dk_at dksX3_code_0 12 rfl rfl)
theorem dX3_code_15 : decode cX3_code 15 = .ok (.iconst (-1), 1) := dk_2 (dk_at dksX3_code_0 15 rfl rfl)
theorem dX3_code_16 : decode cX3_code 16 = .ok (.ireturn, 1) := dk_172 (dk_at dksX3_code_0 16 rfl rfl)
abbrev cX3_isFailing : ByteArray := prog_16_method_43_code
def yX3_isFailing : MethodName := ⟨RX3, "isFailing", "(Ljava/lang/String;)Z"⟩
def dkwX3_isFailing_2 : List UInt8 := [180, 0, 62, 154, 0, 7, 4, 167, 0, 4, 3, 172]
abbrev dktX3_isFailing_2 : List UInt8 := dkwX3_isFailing_2 ++ []
def dkwX3_isFailing_1 : List UInt8 := [43, 182, 0, 168, 42, 42, 180, 0, 96, 4, 160, 0, 7, 3, 167, 0, 4, 5, 181, 0, 62, 42]
abbrev dktX3_isFailing_1 : List UInt8 := dkwX3_isFailing_1 ++ dktX3_isFailing_2
def dkwX3_isFailing_0 : List UInt8 := [42, 43, 184, 0, 255, 153, 0, 7, 3, 167, 0, 4, 4, 181, 0, 62, 42, 180, 0, 62, 154, 0, 25, 42]
abbrev dktX3_isFailing_0 : List UInt8 := dkwX3_isFailing_0 ++ dktX3_isFailing_1
theorem dksX3_isFailing_0 : cX3_isFailing.data.toList.drop 0 = dktX3_isFailing_0 := by decide +kernel
theorem dksX3_isFailing_1 : cX3_isFailing.data.toList.drop 24 = dktX3_isFailing_1 := dk_seg dksX3_isFailing_0 24 rfl rfl
theorem dksX3_isFailing_2 : cX3_isFailing.data.toList.drop 46 = dktX3_isFailing_2 := dk_seg dksX3_isFailing_1 22 rfl rfl
theorem dX3_isFailing_0 : decode cX3_isFailing 0 = .ok (.aload_n 0, 1) := dk_42 (dk_at dksX3_isFailing_0 0 rfl rfl)
theorem dX3_isFailing_1 : decode cX3_isFailing 1 = .ok (.aload_n 1, 1) := dk_43 (dk_at dksX3_isFailing_0 1 rfl rfl)
theorem dX3_isFailing_2 : decode cX3_isFailing 2 = .ok (.invokestatic 255, 3) := dk_184 0 255 (dk_at dksX3_isFailing_0 2 rfl rfl)
theorem dX3_isFailing_5 : decode cX3_isFailing 5 = .ok (.ifCond .eq 7, 3) := dk_153 0 7 (dk_at dksX3_isFailing_0 5 rfl rfl)
theorem dX3_isFailing_8 : decode cX3_isFailing 8 = .ok (.iconst 0, 1) := dk_3 (dk_at dksX3_isFailing_0 8 rfl rfl)
theorem dX3_isFailing_9 : decode cX3_isFailing 9 = .ok (.goto 4, 3) := dk_167 0 4 (dk_at dksX3_isFailing_0 9 rfl rfl)
theorem dX3_isFailing_12 : decode cX3_isFailing 12 = .ok (.iconst 1, 1) := dk_4 (dk_at dksX3_isFailing_0 12 rfl rfl)
theorem dX3_isFailing_13 : decode cX3_isFailing 13 = .ok (.putfield 62, 3) := dk_181 0 62 (dk_at dksX3_isFailing_0 13 rfl rfl)
theorem dX3_isFailing_16 : decode cX3_isFailing 16 = .ok (.aload_n 0, 1) := dk_42 (dk_at dksX3_isFailing_0 16 rfl rfl)
theorem dX3_isFailing_17 : decode cX3_isFailing 17 = .ok (.getfield 62, 3) := dk_180 0 62 (dk_at dksX3_isFailing_0 17 rfl rfl)
theorem dX3_isFailing_20 : decode cX3_isFailing 20 = .ok (.ifCond .ne 25, 3) := dk_154 0 25 (dk_at dksX3_isFailing_0 20 rfl rfl)
theorem dX3_isFailing_23 : decode cX3_isFailing 23 = .ok (.aload_n 0, 1) := dk_42 (dk_at dksX3_isFailing_0 23 rfl rfl)
theorem dX3_isFailing_24 : decode cX3_isFailing 24 = .ok (.aload_n 1, 1) := dk_43 (dk_at dksX3_isFailing_1 0 rfl rfl)
theorem dX3_isFailing_25 : decode cX3_isFailing 25 = .ok (.invokevirtual 168, 3) := dk_182 0 168 (dk_at dksX3_isFailing_1 1 rfl rfl)
theorem dX3_isFailing_28 : decode cX3_isFailing 28 = .ok (.aload_n 0, 1) := dk_42 (dk_at dksX3_isFailing_1 4 rfl rfl)
theorem dX3_isFailing_29 : decode cX3_isFailing 29 = .ok (.aload_n 0, 1) := dk_42 (dk_at dksX3_isFailing_1 5 rfl rfl)
theorem dX3_isFailing_30 : decode cX3_isFailing 30 = .ok (.getfield 96, 3) := dk_180 0 96 (dk_at dksX3_isFailing_1 6 rfl rfl)
theorem dX3_isFailing_33 : decode cX3_isFailing 33 = .ok (.iconst 1, 1) := dk_4 (dk_at dksX3_isFailing_1 9 rfl rfl)
theorem dX3_isFailing_34 : decode cX3_isFailing 34 = .ok (.if_icmp .ne 7, 3) := dk_160 0 7 (dk_at dksX3_isFailing_1 10 rfl rfl)
theorem dX3_isFailing_37 : decode cX3_isFailing 37 = .ok (.iconst 0, 1) := dk_3 (dk_at dksX3_isFailing_1 13 rfl rfl)
theorem dX3_isFailing_38 : decode cX3_isFailing 38 = .ok (.goto 4, 3) := dk_167 0 4 (dk_at dksX3_isFailing_1 14 rfl rfl)
theorem dX3_isFailing_41 : decode cX3_isFailing 41 = .ok (.iconst 2, 1) := dk_5 (dk_at dksX3_isFailing_1 17 rfl rfl)
theorem dX3_isFailing_42 : decode cX3_isFailing 42 = .ok (.putfield 62, 3) := dk_181 0 62 (dk_at dksX3_isFailing_1 18 rfl rfl)
theorem dX3_isFailing_45 : decode cX3_isFailing 45 = .ok (.aload_n 0, 1) := dk_42 (dk_at dksX3_isFailing_1 21 rfl rfl)
theorem dX3_isFailing_46 : decode cX3_isFailing 46 = .ok (.getfield 62, 3) := dk_180 0 62 (dk_at dksX3_isFailing_2 0 rfl rfl)
theorem dX3_isFailing_49 : decode cX3_isFailing 49 = .ok (.ifCond .ne 7, 3) := dk_154 0 7 (dk_at dksX3_isFailing_2 3 rfl rfl)
theorem dX3_isFailing_52 : decode cX3_isFailing 52 = .ok (.iconst 1, 1) := dk_4 (dk_at dksX3_isFailing_2 6 rfl rfl)
theorem dX3_isFailing_53 : decode cX3_isFailing 53 = .ok (.goto 4, 3) := dk_167 0 4 (dk_at dksX3_isFailing_2 7 rfl rfl)
theorem dX3_isFailing_56 : decode cX3_isFailing 56 = .ok (.iconst 0, 1) := dk_3 (dk_at dksX3_isFailing_2 10 rfl rfl)
theorem dX3_isFailing_57 : decode cX3_isFailing 57 = .ok (.ireturn, 1) := dk_172 (dk_at dksX3_isFailing_2 11 rfl rfl)
abbrev cX3_steps : ByteArray := prog_16_method_45_code
def yX3_steps : MethodName := ⟨RX3, "steps", "(Ljava/lang/String;)I"⟩
def dkwX3_steps_1 : List UInt8 := [43, 182, 0, 168, 42, 180, 0, 62, 154, 0, 10, 42, 180, 0, 93, 167, 0, 4, 2, 172]
abbrev dktX3_steps_1 : List UInt8 := dkwX3_steps_1 ++ []
def dkwX3_steps_0 : List UInt8 := [42, 43, 184, 0, 255, 153, 0, 7, 3, 167, 0, 4, 4, 181, 0, 62, 42, 180, 0, 62, 154, 0, 8, 42]
abbrev dktX3_steps_0 : List UInt8 := dkwX3_steps_0 ++ dktX3_steps_1
theorem dksX3_steps_0 : cX3_steps.data.toList.drop 0 = dktX3_steps_0 := by decide +kernel
theorem dksX3_steps_1 : cX3_steps.data.toList.drop 24 = dktX3_steps_1 := dk_seg dksX3_steps_0 24 rfl rfl
theorem dX3_steps_0 : decode cX3_steps 0 = .ok (.aload_n 0, 1) := dk_42 (dk_at dksX3_steps_0 0 rfl rfl)
theorem dX3_steps_1 : decode cX3_steps 1 = .ok (.aload_n 1, 1) := dk_43 (dk_at dksX3_steps_0 1 rfl rfl)
theorem dX3_steps_2 : decode cX3_steps 2 = .ok (.invokestatic 255, 3) := dk_184 0 255 (dk_at dksX3_steps_0 2 rfl rfl)
theorem dX3_steps_5 : decode cX3_steps 5 = .ok (.ifCond .eq 7, 3) := dk_153 0 7 (dk_at dksX3_steps_0 5 rfl rfl)
theorem dX3_steps_8 : decode cX3_steps 8 = .ok (.iconst 0, 1) := dk_3 (dk_at dksX3_steps_0 8 rfl rfl)
theorem dX3_steps_9 : decode cX3_steps 9 = .ok (.goto 4, 3) := dk_167 0 4 (dk_at dksX3_steps_0 9 rfl rfl)
theorem dX3_steps_12 : decode cX3_steps 12 = .ok (.iconst 1, 1) := dk_4 (dk_at dksX3_steps_0 12 rfl rfl)
theorem dX3_steps_13 : decode cX3_steps 13 = .ok (.putfield 62, 3) := dk_181 0 62 (dk_at dksX3_steps_0 13 rfl rfl)
theorem dX3_steps_16 : decode cX3_steps 16 = .ok (.aload_n 0, 1) := dk_42 (dk_at dksX3_steps_0 16 rfl rfl)
theorem dX3_steps_17 : decode cX3_steps 17 = .ok (.getfield 62, 3) := dk_180 0 62 (dk_at dksX3_steps_0 17 rfl rfl)
theorem dX3_steps_20 : decode cX3_steps 20 = .ok (.ifCond .ne 8, 3) := dk_154 0 8 (dk_at dksX3_steps_0 20 rfl rfl)
theorem dX3_steps_23 : decode cX3_steps 23 = .ok (.aload_n 0, 1) := dk_42 (dk_at dksX3_steps_0 23 rfl rfl)
theorem dX3_steps_24 : decode cX3_steps 24 = .ok (.aload_n 1, 1) := dk_43 (dk_at dksX3_steps_1 0 rfl rfl)
theorem dX3_steps_25 : decode cX3_steps 25 = .ok (.invokevirtual 168, 3) := dk_182 0 168 (dk_at dksX3_steps_1 1 rfl rfl)
theorem dX3_steps_28 : decode cX3_steps 28 = .ok (.aload_n 0, 1) := dk_42 (dk_at dksX3_steps_1 4 rfl rfl)
theorem dX3_steps_29 : decode cX3_steps 29 = .ok (.getfield 62, 3) := dk_180 0 62 (dk_at dksX3_steps_1 5 rfl rfl)
theorem dX3_steps_32 : decode cX3_steps 32 = .ok (.ifCond .ne 10, 3) := dk_154 0 10 (dk_at dksX3_steps_1 8 rfl rfl)
theorem dX3_steps_35 : decode cX3_steps 35 = .ok (.aload_n 0, 1) := dk_42 (dk_at dksX3_steps_1 11 rfl rfl)
theorem dX3_steps_36 : decode cX3_steps 36 = .ok (.getfield 93, 3) := dk_180 0 93 (dk_at dksX3_steps_1 12 rfl rfl)
theorem dX3_steps_39 : decode cX3_steps 39 = .ok (.goto 4, 3) := dk_167 0 4 (dk_at dksX3_steps_1 15 rfl rfl)
theorem dX3_steps_42 : decode cX3_steps 42 = .ok (.iconst (-1), 1) := dk_2 (dk_at dksX3_steps_1 18 rfl rfl)
theorem dX3_steps_43 : decode cX3_steps 43 = .ok (.ireturn, 1) := dk_172 (dk_at dksX3_steps_1 19 rfl rfl)
abbrev cX3_edges : ByteArray := prog_16_method_46_code
def yX3_edges : MethodName := ⟨RX3, "edges", "(Ljava/lang/String;)I"⟩
def dkwX3_edges_1 : List UInt8 := [43, 182, 0, 168, 42, 180, 0, 62, 154, 0, 14, 42, 42, 180, 0, 40, 182, 1, 26, 167, 0, 4, 2, 172]
abbrev dktX3_edges_1 : List UInt8 := dkwX3_edges_1 ++ []
def dkwX3_edges_0 : List UInt8 := [42, 43, 184, 0, 255, 153, 0, 7, 3, 167, 0, 4, 4, 181, 0, 62, 42, 180, 0, 62, 154, 0, 8, 42]
abbrev dktX3_edges_0 : List UInt8 := dkwX3_edges_0 ++ dktX3_edges_1
theorem dksX3_edges_0 : cX3_edges.data.toList.drop 0 = dktX3_edges_0 := by decide +kernel
theorem dksX3_edges_1 : cX3_edges.data.toList.drop 24 = dktX3_edges_1 := dk_seg dksX3_edges_0 24 rfl rfl
theorem dX3_edges_0 : decode cX3_edges 0 = .ok (.aload_n 0, 1) := dk_42 (dk_at dksX3_edges_0 0 rfl rfl)
theorem dX3_edges_1 : decode cX3_edges 1 = .ok (.aload_n 1, 1) := dk_43 (dk_at dksX3_edges_0 1 rfl rfl)
theorem dX3_edges_2 : decode cX3_edges 2 = .ok (.invokestatic 255, 3) := dk_184 0 255 (dk_at dksX3_edges_0 2 rfl rfl)
theorem dX3_edges_5 : decode cX3_edges 5 = .ok (.ifCond .eq 7, 3) := dk_153 0 7 (dk_at dksX3_edges_0 5 rfl rfl)
theorem dX3_edges_8 : decode cX3_edges 8 = .ok (.iconst 0, 1) := dk_3 (dk_at dksX3_edges_0 8 rfl rfl)
theorem dX3_edges_9 : decode cX3_edges 9 = .ok (.goto 4, 3) := dk_167 0 4 (dk_at dksX3_edges_0 9 rfl rfl)
theorem dX3_edges_12 : decode cX3_edges 12 = .ok (.iconst 1, 1) := dk_4 (dk_at dksX3_edges_0 12 rfl rfl)
theorem dX3_edges_13 : decode cX3_edges 13 = .ok (.putfield 62, 3) := dk_181 0 62 (dk_at dksX3_edges_0 13 rfl rfl)
theorem dX3_edges_16 : decode cX3_edges 16 = .ok (.aload_n 0, 1) := dk_42 (dk_at dksX3_edges_0 16 rfl rfl)
theorem dX3_edges_17 : decode cX3_edges 17 = .ok (.getfield 62, 3) := dk_180 0 62 (dk_at dksX3_edges_0 17 rfl rfl)
theorem dX3_edges_20 : decode cX3_edges 20 = .ok (.ifCond .ne 8, 3) := dk_154 0 8 (dk_at dksX3_edges_0 20 rfl rfl)
theorem dX3_edges_23 : decode cX3_edges 23 = .ok (.aload_n 0, 1) := dk_42 (dk_at dksX3_edges_0 23 rfl rfl)
theorem dX3_edges_24 : decode cX3_edges 24 = .ok (.aload_n 1, 1) := dk_43 (dk_at dksX3_edges_1 0 rfl rfl)
theorem dX3_edges_25 : decode cX3_edges 25 = .ok (.invokevirtual 168, 3) := dk_182 0 168 (dk_at dksX3_edges_1 1 rfl rfl)
theorem dX3_edges_28 : decode cX3_edges 28 = .ok (.aload_n 0, 1) := dk_42 (dk_at dksX3_edges_1 4 rfl rfl)
theorem dX3_edges_29 : decode cX3_edges 29 = .ok (.getfield 62, 3) := dk_180 0 62 (dk_at dksX3_edges_1 5 rfl rfl)
theorem dX3_edges_32 : decode cX3_edges 32 = .ok (.ifCond .ne 14, 3) := dk_154 0 14 (dk_at dksX3_edges_1 8 rfl rfl)
theorem dX3_edges_35 : decode cX3_edges 35 = .ok (.aload_n 0, 1) := dk_42 (dk_at dksX3_edges_1 11 rfl rfl)
theorem dX3_edges_36 : decode cX3_edges 36 = .ok (.aload_n 0, 1) := dk_42 (dk_at dksX3_edges_1 12 rfl rfl)
theorem dX3_edges_37 : decode cX3_edges 37 = .ok (.getfield 40, 3) := dk_180 0 40 (dk_at dksX3_edges_1 13 rfl rfl)
theorem dX3_edges_40 : decode cX3_edges 40 = .ok (.invokevirtual 282, 3) := dk_182 1 26 (dk_at dksX3_edges_1 16 rfl rfl)
theorem dX3_edges_43 : decode cX3_edges 43 = .ok (.goto 4, 3) := dk_167 0 4 (dk_at dksX3_edges_1 19 rfl rfl)
theorem dX3_edges_46 : decode cX3_edges 46 = .ok (.iconst (-1), 1) := dk_2 (dk_at dksX3_edges_1 22 rfl rfl)
theorem dX3_edges_47 : decode cX3_edges 47 = .ok (.ireturn, 1) := dk_172 (dk_at dksX3_edges_1 23 rfl rfl)
abbrev cX3_changed : ByteArray := prog_16_method_47_code
def yX3_changed : MethodName := ⟨RX3, "changed", "(LChange;IILjava/lang/String;)Ljava/lang/String;"⟩
def dkwX3_changed_4 : List UInt8 := [18, 253, 176]
abbrev dktX3_changed_4 : List UInt8 := dkwX3_changed_4 ++ []
def dkwX3_changed_3 : List UInt8 := [181, 0, 62, 42, 180, 0, 62, 154, 0, 17, 43, 182, 0, 150, 28, 29, 25, 4, 184, 1, 22, 167, 0, 5]
abbrev dktX3_changed_3 : List UInt8 := dkwX3_changed_3 ++ dktX3_changed_4
def dkwX3_changed_2 : List UInt8 := [167, 0, 22, 43, 182, 0, 150, 28, 29, 25, 4, 184, 1, 18, 154, 0, 7, 5, 167, 0, 4, 3]
abbrev dktX3_changed_2 : List UInt8 := dkwX3_changed_2 ++ dktX3_changed_3
def dkwX3_changed_1 : List UInt8 := [25, 4, 184, 0, 255, 153, 0, 7, 4, 167, 0, 4, 3, 54, 5, 42, 21, 5, 154, 0, 7, 4]
abbrev dktX3_changed_1 : List UInt8 := dkwX3_changed_1 ++ dktX3_changed_2
def dkwX3_changed_0 : List UInt8 := [28, 133, 9, 20, 0, 233, 184, 0, 213, 153, 0, 27, 29, 133, 9, 20, 0, 233, 184, 0, 213, 153, 0, 15]
abbrev dktX3_changed_0 : List UInt8 := dkwX3_changed_0 ++ dktX3_changed_1
theorem dksX3_changed_0 : cX3_changed.data.toList.drop 0 = dktX3_changed_0 := by decide +kernel
theorem dksX3_changed_1 : cX3_changed.data.toList.drop 24 = dktX3_changed_1 := dk_seg dksX3_changed_0 24 rfl rfl
theorem dksX3_changed_2 : cX3_changed.data.toList.drop 46 = dktX3_changed_2 := dk_seg dksX3_changed_1 22 rfl rfl
theorem dksX3_changed_3 : cX3_changed.data.toList.drop 68 = dktX3_changed_3 := dk_seg dksX3_changed_2 22 rfl rfl
theorem dksX3_changed_4 : cX3_changed.data.toList.drop 92 = dktX3_changed_4 := dk_seg dksX3_changed_3 24 rfl rfl
theorem dX3_changed_0 : decode cX3_changed 0 = .ok (.iload_n 2, 1) := dk_28 (dk_at dksX3_changed_0 0 rfl rfl)
theorem dX3_changed_1 : decode cX3_changed 1 = .ok (.i2l, 1) := dk_133 (dk_at dksX3_changed_0 1 rfl rfl)
theorem dX3_changed_2 : decode cX3_changed 2 = .ok (.lconst 0, 1) := dk_9 (dk_at dksX3_changed_0 2 rfl rfl)
theorem dX3_changed_3 : decode cX3_changed 3 = .ok (.ldc2_w 233, 3) := dk_20 0 233 (dk_at dksX3_changed_0 3 rfl rfl)
theorem dX3_changed_6 : decode cX3_changed 6 = .ok (.invokestatic 213, 3) := dk_184 0 213 (dk_at dksX3_changed_0 6 rfl rfl)
theorem dX3_changed_9 : decode cX3_changed 9 = .ok (.ifCond .eq 27, 3) := dk_153 0 27 (dk_at dksX3_changed_0 9 rfl rfl)
theorem dX3_changed_12 : decode cX3_changed 12 = .ok (.iload_n 3, 1) := dk_29 (dk_at dksX3_changed_0 12 rfl rfl)
theorem dX3_changed_13 : decode cX3_changed 13 = .ok (.i2l, 1) := dk_133 (dk_at dksX3_changed_0 13 rfl rfl)
theorem dX3_changed_14 : decode cX3_changed 14 = .ok (.lconst 0, 1) := dk_9 (dk_at dksX3_changed_0 14 rfl rfl)
theorem dX3_changed_15 : decode cX3_changed 15 = .ok (.ldc2_w 233, 3) := dk_20 0 233 (dk_at dksX3_changed_0 15 rfl rfl)
theorem dX3_changed_18 : decode cX3_changed 18 = .ok (.invokestatic 213, 3) := dk_184 0 213 (dk_at dksX3_changed_0 18 rfl rfl)
theorem dX3_changed_21 : decode cX3_changed 21 = .ok (.ifCond .eq 15, 3) := dk_153 0 15 (dk_at dksX3_changed_0 21 rfl rfl)
theorem dX3_changed_24 : decode cX3_changed 24 = .ok (.aload 4, 2) := dk_25 4 (dk_at dksX3_changed_1 0 rfl rfl)
theorem dX3_changed_26 : decode cX3_changed 26 = .ok (.invokestatic 255, 3) := dk_184 0 255 (dk_at dksX3_changed_1 2 rfl rfl)
theorem dX3_changed_29 : decode cX3_changed 29 = .ok (.ifCond .eq 7, 3) := dk_153 0 7 (dk_at dksX3_changed_1 5 rfl rfl)
theorem dX3_changed_32 : decode cX3_changed 32 = .ok (.iconst 1, 1) := dk_4 (dk_at dksX3_changed_1 8 rfl rfl)
theorem dX3_changed_33 : decode cX3_changed 33 = .ok (.goto 4, 3) := dk_167 0 4 (dk_at dksX3_changed_1 9 rfl rfl)
theorem dX3_changed_36 : decode cX3_changed 36 = .ok (.iconst 0, 1) := dk_3 (dk_at dksX3_changed_1 12 rfl rfl)
theorem dX3_changed_37 : decode cX3_changed 37 = .ok (.istore 5, 2) := dk_54 5 (dk_at dksX3_changed_1 13 rfl rfl)
theorem dX3_changed_39 : decode cX3_changed 39 = .ok (.aload_n 0, 1) := dk_42 (dk_at dksX3_changed_1 15 rfl rfl)
theorem dX3_changed_40 : decode cX3_changed 40 = .ok (.iload 5, 2) := dk_21 5 (dk_at dksX3_changed_1 16 rfl rfl)
theorem dX3_changed_42 : decode cX3_changed 42 = .ok (.ifCond .ne 7, 3) := dk_154 0 7 (dk_at dksX3_changed_1 18 rfl rfl)
theorem dX3_changed_45 : decode cX3_changed 45 = .ok (.iconst 1, 1) := dk_4 (dk_at dksX3_changed_1 21 rfl rfl)
theorem dX3_changed_46 : decode cX3_changed 46 = .ok (.goto 22, 3) := dk_167 0 22 (dk_at dksX3_changed_2 0 rfl rfl)
theorem dX3_changed_49 : decode cX3_changed 49 = .ok (.aload_n 1, 1) := dk_43 (dk_at dksX3_changed_2 3 rfl rfl)
theorem dX3_changed_50 : decode cX3_changed 50 = .ok (.invokevirtual 150, 3) := dk_182 0 150 (dk_at dksX3_changed_2 4 rfl rfl)
theorem dX3_changed_53 : decode cX3_changed 53 = .ok (.iload_n 2, 1) := dk_28 (dk_at dksX3_changed_2 7 rfl rfl)
theorem dX3_changed_54 : decode cX3_changed 54 = .ok (.iload_n 3, 1) := dk_29 (dk_at dksX3_changed_2 8 rfl rfl)
theorem dX3_changed_55 : decode cX3_changed 55 = .ok (.aload 4, 2) := dk_25 4 (dk_at dksX3_changed_2 9 rfl rfl)
theorem dX3_changed_57 : decode cX3_changed 57 = .ok (.invokestatic 274, 3) := dk_184 1 18 (dk_at dksX3_changed_2 11 rfl rfl)
theorem dX3_changed_60 : decode cX3_changed 60 = .ok (.ifCond .ne 7, 3) := dk_154 0 7 (dk_at dksX3_changed_2 14 rfl rfl)
theorem dX3_changed_63 : decode cX3_changed 63 = .ok (.iconst 2, 1) := dk_5 (dk_at dksX3_changed_2 17 rfl rfl)
theorem dX3_changed_64 : decode cX3_changed 64 = .ok (.goto 4, 3) := dk_167 0 4 (dk_at dksX3_changed_2 18 rfl rfl)
theorem dX3_changed_67 : decode cX3_changed 67 = .ok (.iconst 0, 1) := dk_3 (dk_at dksX3_changed_2 21 rfl rfl)
theorem dX3_changed_68 : decode cX3_changed 68 = .ok (.putfield 62, 3) := dk_181 0 62 (dk_at dksX3_changed_3 0 rfl rfl)
theorem dX3_changed_71 : decode cX3_changed 71 = .ok (.aload_n 0, 1) := dk_42 (dk_at dksX3_changed_3 3 rfl rfl)
theorem dX3_changed_72 : decode cX3_changed 72 = .ok (.getfield 62, 3) := dk_180 0 62 (dk_at dksX3_changed_3 4 rfl rfl)
theorem dX3_changed_75 : decode cX3_changed 75 = .ok (.ifCond .ne 17, 3) := dk_154 0 17 (dk_at dksX3_changed_3 7 rfl rfl)
theorem dX3_changed_78 : decode cX3_changed 78 = .ok (.aload_n 1, 1) := dk_43 (dk_at dksX3_changed_3 10 rfl rfl)
theorem dX3_changed_79 : decode cX3_changed 79 = .ok (.invokevirtual 150, 3) := dk_182 0 150 (dk_at dksX3_changed_3 11 rfl rfl)
theorem dX3_changed_82 : decode cX3_changed 82 = .ok (.iload_n 2, 1) := dk_28 (dk_at dksX3_changed_3 14 rfl rfl)
theorem dX3_changed_83 : decode cX3_changed 83 = .ok (.iload_n 3, 1) := dk_29 (dk_at dksX3_changed_3 15 rfl rfl)
theorem dX3_changed_84 : decode cX3_changed 84 = .ok (.aload 4, 2) := dk_25 4 (dk_at dksX3_changed_3 16 rfl rfl)
theorem dX3_changed_86 : decode cX3_changed 86 = .ok (.invokestatic 278, 3) := dk_184 1 22 (dk_at dksX3_changed_3 18 rfl rfl)
theorem dX3_changed_89 : decode cX3_changed 89 = .ok (.goto 5, 3) := dk_167 0 5 (dk_at dksX3_changed_3 21 rfl rfl)
theorem dX3_changed_92 : decode cX3_changed 92 = .ok (.ldc 253, 2) := dk_18 253 (dk_at dksX3_changed_4 0 rfl rfl)
theorem dX3_changed_94 : decode cX3_changed 94 = .ok (.areturn, 1) := dk_176 (dk_at dksX3_changed_4 2 rfl rfl)
abbrev cX3_shrunk : ByteArray := prog_16_method_48_code
def yX3_shrunk : MethodName := ⟨RX3, "shrunk", "(Ljava/lang/String;)Ljava/lang/String;"⟩
def dkwX3_shrunk_0 : List UInt8 := [42, 43, 182, 1, 51, 153, 0, 15, 42, 43, 42, 180, 0, 99, 182, 0, 190, 167, 0, 5, 18, 253, 176]
abbrev dktX3_shrunk_0 : List UInt8 := dkwX3_shrunk_0 ++ []
theorem dksX3_shrunk_0 : cX3_shrunk.data.toList.drop 0 = dktX3_shrunk_0 := by decide +kernel
theorem dX3_shrunk_0 : decode cX3_shrunk 0 = .ok (.aload_n 0, 1) := dk_42 (dk_at dksX3_shrunk_0 0 rfl rfl)
theorem dX3_shrunk_1 : decode cX3_shrunk 1 = .ok (.aload_n 1, 1) := dk_43 (dk_at dksX3_shrunk_0 1 rfl rfl)
theorem dX3_shrunk_2 : decode cX3_shrunk 2 = .ok (.invokevirtual 307, 3) := dk_182 1 51 (dk_at dksX3_shrunk_0 2 rfl rfl)
theorem dX3_shrunk_5 : decode cX3_shrunk 5 = .ok (.ifCond .eq 15, 3) := dk_153 0 15 (dk_at dksX3_shrunk_0 5 rfl rfl)
theorem dX3_shrunk_8 : decode cX3_shrunk 8 = .ok (.aload_n 0, 1) := dk_42 (dk_at dksX3_shrunk_0 8 rfl rfl)
theorem dX3_shrunk_9 : decode cX3_shrunk 9 = .ok (.aload_n 1, 1) := dk_43 (dk_at dksX3_shrunk_0 9 rfl rfl)
theorem dX3_shrunk_10 : decode cX3_shrunk 10 = .ok (.aload_n 0, 1) := dk_42 (dk_at dksX3_shrunk_0 10 rfl rfl)
theorem dX3_shrunk_11 : decode cX3_shrunk 11 = .ok (.getfield 99, 3) := dk_180 0 99 (dk_at dksX3_shrunk_0 11 rfl rfl)
theorem dX3_shrunk_14 : decode cX3_shrunk 14 = .ok (.invokevirtual 190, 3) := dk_182 0 190 (dk_at dksX3_shrunk_0 14 rfl rfl)
theorem dX3_shrunk_17 : decode cX3_shrunk 17 = .ok (.goto 5, 3) := dk_167 0 5 (dk_at dksX3_shrunk_0 17 rfl rfl)
theorem dX3_shrunk_20 : decode cX3_shrunk 20 = .ok (.ldc 253, 2) := dk_18 253 (dk_at dksX3_shrunk_0 20 rfl rfl)
theorem dX3_shrunk_22 : decode cX3_shrunk 22 = .ok (.areturn, 1) := dk_176 (dk_at dksX3_shrunk_0 22 rfl rfl)
abbrev cX3_failingReductions : ByteArray := prog_16_method_49_code
def yX3_failingReductions : MethodName := ⟨RX3, "failingReductions", "(Ljava/lang/String;)I"⟩
def dkwX3_failingReductions_2 : List UInt8 := [167, 0, 4, 3, 96, 62, 132, 4, 1, 167, 255, 222, 29, 172]
abbrev dktX3_failingReductions_2 : List UInt8 := dkwX3_failingReductions_2 ++ []
def dkwX3_failingReductions_1 : List UInt8 := [184, 0, 172, 162, 0, 31, 29, 42, 43, 21, 4, 184, 0, 176, 28, 182, 0, 179, 153, 0, 7, 4]
abbrev dktX3_failingReductions_1 : List UInt8 := dkwX3_failingReductions_1 ++ dktX3_failingReductions_2
def dkwX3_failingReductions_0 : List UInt8 := [42, 43, 182, 1, 51, 154, 0, 5, 2, 172, 42, 180, 0, 99, 61, 3, 62, 3, 54, 4, 21, 4, 43]
abbrev dktX3_failingReductions_0 : List UInt8 := dkwX3_failingReductions_0 ++ dktX3_failingReductions_1
theorem dksX3_failingReductions_0 : cX3_failingReductions.data.toList.drop 0 = dktX3_failingReductions_0 := by decide +kernel
theorem dksX3_failingReductions_1 : cX3_failingReductions.data.toList.drop 23 = dktX3_failingReductions_1 := dk_seg dksX3_failingReductions_0 23 rfl rfl
theorem dksX3_failingReductions_2 : cX3_failingReductions.data.toList.drop 45 = dktX3_failingReductions_2 := dk_seg dksX3_failingReductions_1 22 rfl rfl
theorem dX3_failingReductions_0 : decode cX3_failingReductions 0 = .ok (.aload_n 0, 1) := dk_42 (dk_at dksX3_failingReductions_0 0 rfl rfl)
theorem dX3_failingReductions_1 : decode cX3_failingReductions 1 = .ok (.aload_n 1, 1) := dk_43 (dk_at dksX3_failingReductions_0 1 rfl rfl)
theorem dX3_failingReductions_2 : decode cX3_failingReductions 2 = .ok (.invokevirtual 307, 3) := dk_182 1 51 (dk_at dksX3_failingReductions_0 2 rfl rfl)
theorem dX3_failingReductions_5 : decode cX3_failingReductions 5 = .ok (.ifCond .ne 5, 3) := dk_154 0 5 (dk_at dksX3_failingReductions_0 5 rfl rfl)
theorem dX3_failingReductions_8 : decode cX3_failingReductions 8 = .ok (.iconst (-1), 1) := dk_2 (dk_at dksX3_failingReductions_0 8 rfl rfl)
theorem dX3_failingReductions_9 : decode cX3_failingReductions 9 = .ok (.ireturn, 1) := dk_172 (dk_at dksX3_failingReductions_0 9 rfl rfl)
theorem dX3_failingReductions_10 : decode cX3_failingReductions 10 = .ok (.aload_n 0, 1) := dk_42 (dk_at dksX3_failingReductions_0 10 rfl rfl)
theorem dX3_failingReductions_11 : decode cX3_failingReductions 11 = .ok (.getfield 99, 3) := dk_180 0 99 (dk_at dksX3_failingReductions_0 11 rfl rfl)
theorem dX3_failingReductions_14 : decode cX3_failingReductions 14 = .ok (.istore_n 2, 1) := dk_61 (dk_at dksX3_failingReductions_0 14 rfl rfl)
theorem dX3_failingReductions_15 : decode cX3_failingReductions 15 = .ok (.iconst 0, 1) := dk_3 (dk_at dksX3_failingReductions_0 15 rfl rfl)
theorem dX3_failingReductions_16 : decode cX3_failingReductions 16 = .ok (.istore_n 3, 1) := dk_62 (dk_at dksX3_failingReductions_0 16 rfl rfl)
theorem dX3_failingReductions_17 : decode cX3_failingReductions 17 = .ok (.iconst 0, 1) := dk_3 (dk_at dksX3_failingReductions_0 17 rfl rfl)
theorem dX3_failingReductions_18 : decode cX3_failingReductions 18 = .ok (.istore 4, 2) := dk_54 4 (dk_at dksX3_failingReductions_0 18 rfl rfl)
theorem dX3_failingReductions_20 : decode cX3_failingReductions 20 = .ok (.iload 4, 2) := dk_21 4 (dk_at dksX3_failingReductions_0 20 rfl rfl)
theorem dX3_failingReductions_22 : decode cX3_failingReductions 22 = .ok (.aload_n 1, 1) := dk_43 (dk_at dksX3_failingReductions_0 22 rfl rfl)
theorem dX3_failingReductions_23 : decode cX3_failingReductions 23 = .ok (.invokestatic 172, 3) := dk_184 0 172 (dk_at dksX3_failingReductions_1 0 rfl rfl)
theorem dX3_failingReductions_26 : decode cX3_failingReductions 26 = .ok (.if_icmp .ge 31, 3) := dk_162 0 31 (dk_at dksX3_failingReductions_1 3 rfl rfl)
theorem dX3_failingReductions_29 : decode cX3_failingReductions 29 = .ok (.iload_n 3, 1) := dk_29 (dk_at dksX3_failingReductions_1 6 rfl rfl)
theorem dX3_failingReductions_30 : decode cX3_failingReductions 30 = .ok (.aload_n 0, 1) := dk_42 (dk_at dksX3_failingReductions_1 7 rfl rfl)
theorem dX3_failingReductions_31 : decode cX3_failingReductions 31 = .ok (.aload_n 1, 1) := dk_43 (dk_at dksX3_failingReductions_1 8 rfl rfl)
theorem dX3_failingReductions_32 : decode cX3_failingReductions 32 = .ok (.iload 4, 2) := dk_21 4 (dk_at dksX3_failingReductions_1 9 rfl rfl)
theorem dX3_failingReductions_34 : decode cX3_failingReductions 34 = .ok (.invokestatic 176, 3) := dk_184 0 176 (dk_at dksX3_failingReductions_1 11 rfl rfl)
theorem dX3_failingReductions_37 : decode cX3_failingReductions 37 = .ok (.iload_n 2, 1) := dk_28 (dk_at dksX3_failingReductions_1 14 rfl rfl)
theorem dX3_failingReductions_38 : decode cX3_failingReductions 38 = .ok (.invokevirtual 179, 3) := dk_182 0 179 (dk_at dksX3_failingReductions_1 15 rfl rfl)
theorem dX3_failingReductions_41 : decode cX3_failingReductions 41 = .ok (.ifCond .eq 7, 3) := dk_153 0 7 (dk_at dksX3_failingReductions_1 18 rfl rfl)
theorem dX3_failingReductions_44 : decode cX3_failingReductions 44 = .ok (.iconst 1, 1) := dk_4 (dk_at dksX3_failingReductions_1 21 rfl rfl)
theorem dX3_failingReductions_45 : decode cX3_failingReductions 45 = .ok (.goto 4, 3) := dk_167 0 4 (dk_at dksX3_failingReductions_2 0 rfl rfl)
theorem dX3_failingReductions_48 : decode cX3_failingReductions 48 = .ok (.iconst 0, 1) := dk_3 (dk_at dksX3_failingReductions_2 3 rfl rfl)
theorem dX3_failingReductions_49 : decode cX3_failingReductions 49 = .ok (.iadd, 1) := dk_96 (dk_at dksX3_failingReductions_2 4 rfl rfl)
theorem dX3_failingReductions_50 : decode cX3_failingReductions 50 = .ok (.istore_n 3, 1) := dk_62 (dk_at dksX3_failingReductions_2 5 rfl rfl)
theorem dX3_failingReductions_51 : decode cX3_failingReductions 51 = .ok (.iinc 4 1, 3) := dk_132 4 1 (dk_at dksX3_failingReductions_2 6 rfl rfl)
theorem dX3_failingReductions_54 : decode cX3_failingReductions 54 = .ok (.goto (-34), 3) := dk_167 255 222 (dk_at dksX3_failingReductions_2 9 rfl rfl)
theorem dX3_failingReductions_57 : decode cX3_failingReductions 57 = .ok (.iload_n 3, 1) := dk_29 (dk_at dksX3_failingReductions_2 12 rfl rfl)
theorem dX3_failingReductions_58 : decode cX3_failingReductions 58 = .ok (.ireturn, 1) := dk_172 (dk_at dksX3_failingReductions_2 13 rfl rfl)
abbrev cX3_smallest : ByteArray := prog_16_method_52_code
def yX3_smallest : MethodName := ⟨RX3, "smallest", "(II)Ljava/lang/String;"⟩
def dkwX3_smallest_4 : List UInt8 := [167, 255, 207, 132, 4, 1, 167, 255, 184, 45, 176]
abbrev dktX3_smallest_4 : List UInt8 := dkwX3_smallest_4 ++ []
def dkwX3_smallest_3 : List UInt8 := [182, 0, 179, 153, 0, 16, 21, 4, 21, 5, 184, 1, 58, 78, 42, 3, 181, 0, 62, 132, 5, 1]
abbrev dktX3_smallest_3 : List UInt8 := dkwX3_smallest_3 ++ dktX3_smallest_4
def dkwX3_smallest_2 : List UInt8 := [184, 1, 54, 162, 0, 45, 42, 180, 0, 62, 5, 160, 0, 37, 42, 21, 4, 21, 5, 184, 1, 58, 27]
abbrev dktX3_smallest_2 : List UInt8 := dkwX3_smallest_2 ++ dktX3_smallest_3
def dkwX3_smallest_1 : List UInt8 := [3, 54, 4, 21, 4, 28, 163, 0, 72, 42, 180, 0, 62, 5, 160, 0, 64, 3, 54, 5, 21, 5, 21, 4]
abbrev dktX3_smallest_1 : List UInt8 := dkwX3_smallest_1 ++ dktX3_smallest_2
def dkwX3_smallest_0 : List UInt8 := [42, 28, 133, 9, 20, 0, 211, 184, 0, 213, 153, 0, 7, 5, 167, 0, 4, 4, 181, 0, 62, 18, 253, 78]
abbrev dktX3_smallest_0 : List UInt8 := dkwX3_smallest_0 ++ dktX3_smallest_1
theorem dksX3_smallest_0 : cX3_smallest.data.toList.drop 0 = dktX3_smallest_0 := by decide +kernel
theorem dksX3_smallest_1 : cX3_smallest.data.toList.drop 24 = dktX3_smallest_1 := dk_seg dksX3_smallest_0 24 rfl rfl
theorem dksX3_smallest_2 : cX3_smallest.data.toList.drop 48 = dktX3_smallest_2 := dk_seg dksX3_smallest_1 24 rfl rfl
theorem dksX3_smallest_3 : cX3_smallest.data.toList.drop 71 = dktX3_smallest_3 := dk_seg dksX3_smallest_2 23 rfl rfl
theorem dksX3_smallest_4 : cX3_smallest.data.toList.drop 93 = dktX3_smallest_4 := dk_seg dksX3_smallest_3 22 rfl rfl
theorem dX3_smallest_0 : decode cX3_smallest 0 = .ok (.aload_n 0, 1) := dk_42 (dk_at dksX3_smallest_0 0 rfl rfl)
theorem dX3_smallest_1 : decode cX3_smallest 1 = .ok (.iload_n 2, 1) := dk_28 (dk_at dksX3_smallest_0 1 rfl rfl)
theorem dX3_smallest_2 : decode cX3_smallest 2 = .ok (.i2l, 1) := dk_133 (dk_at dksX3_smallest_0 2 rfl rfl)
theorem dX3_smallest_3 : decode cX3_smallest 3 = .ok (.lconst 0, 1) := dk_9 (dk_at dksX3_smallest_0 3 rfl rfl)
theorem dX3_smallest_4 : decode cX3_smallest 4 = .ok (.ldc2_w 211, 3) := dk_20 0 211 (dk_at dksX3_smallest_0 4 rfl rfl)
theorem dX3_smallest_7 : decode cX3_smallest 7 = .ok (.invokestatic 213, 3) := dk_184 0 213 (dk_at dksX3_smallest_0 7 rfl rfl)
theorem dX3_smallest_10 : decode cX3_smallest 10 = .ok (.ifCond .eq 7, 3) := dk_153 0 7 (dk_at dksX3_smallest_0 10 rfl rfl)
theorem dX3_smallest_13 : decode cX3_smallest 13 = .ok (.iconst 2, 1) := dk_5 (dk_at dksX3_smallest_0 13 rfl rfl)
theorem dX3_smallest_14 : decode cX3_smallest 14 = .ok (.goto 4, 3) := dk_167 0 4 (dk_at dksX3_smallest_0 14 rfl rfl)
theorem dX3_smallest_17 : decode cX3_smallest 17 = .ok (.iconst 1, 1) := dk_4 (dk_at dksX3_smallest_0 17 rfl rfl)
theorem dX3_smallest_18 : decode cX3_smallest 18 = .ok (.putfield 62, 3) := dk_181 0 62 (dk_at dksX3_smallest_0 18 rfl rfl)
theorem dX3_smallest_21 : decode cX3_smallest 21 = .ok (.ldc 253, 2) := dk_18 253 (dk_at dksX3_smallest_0 21 rfl rfl)
theorem dX3_smallest_23 : decode cX3_smallest 23 = .ok (.astore_n 3, 1) := dk_78 (dk_at dksX3_smallest_0 23 rfl rfl)
theorem dX3_smallest_24 : decode cX3_smallest 24 = .ok (.iconst 0, 1) := dk_3 (dk_at dksX3_smallest_1 0 rfl rfl)
theorem dX3_smallest_25 : decode cX3_smallest 25 = .ok (.istore 4, 2) := dk_54 4 (dk_at dksX3_smallest_1 1 rfl rfl)
theorem dX3_smallest_27 : decode cX3_smallest 27 = .ok (.iload 4, 2) := dk_21 4 (dk_at dksX3_smallest_1 3 rfl rfl)
theorem dX3_smallest_29 : decode cX3_smallest 29 = .ok (.iload_n 2, 1) := dk_28 (dk_at dksX3_smallest_1 5 rfl rfl)
theorem dX3_smallest_30 : decode cX3_smallest 30 = .ok (.if_icmp .gt 72, 3) := dk_163 0 72 (dk_at dksX3_smallest_1 6 rfl rfl)
theorem dX3_smallest_33 : decode cX3_smallest 33 = .ok (.aload_n 0, 1) := dk_42 (dk_at dksX3_smallest_1 9 rfl rfl)
theorem dX3_smallest_34 : decode cX3_smallest 34 = .ok (.getfield 62, 3) := dk_180 0 62 (dk_at dksX3_smallest_1 10 rfl rfl)
theorem dX3_smallest_37 : decode cX3_smallest 37 = .ok (.iconst 2, 1) := dk_5 (dk_at dksX3_smallest_1 13 rfl rfl)
theorem dX3_smallest_38 : decode cX3_smallest 38 = .ok (.if_icmp .ne 64, 3) := dk_160 0 64 (dk_at dksX3_smallest_1 14 rfl rfl)
theorem dX3_smallest_41 : decode cX3_smallest 41 = .ok (.iconst 0, 1) := dk_3 (dk_at dksX3_smallest_1 17 rfl rfl)
theorem dX3_smallest_42 : decode cX3_smallest 42 = .ok (.istore 5, 2) := dk_54 5 (dk_at dksX3_smallest_1 18 rfl rfl)
theorem dX3_smallest_44 : decode cX3_smallest 44 = .ok (.iload 5, 2) := dk_21 5 (dk_at dksX3_smallest_1 20 rfl rfl)
theorem dX3_smallest_46 : decode cX3_smallest 46 = .ok (.iload 4, 2) := dk_21 4 (dk_at dksX3_smallest_1 22 rfl rfl)
theorem dX3_smallest_48 : decode cX3_smallest 48 = .ok (.invokestatic 310, 3) := dk_184 1 54 (dk_at dksX3_smallest_2 0 rfl rfl)
theorem dX3_smallest_51 : decode cX3_smallest 51 = .ok (.if_icmp .ge 45, 3) := dk_162 0 45 (dk_at dksX3_smallest_2 3 rfl rfl)
theorem dX3_smallest_54 : decode cX3_smallest 54 = .ok (.aload_n 0, 1) := dk_42 (dk_at dksX3_smallest_2 6 rfl rfl)
theorem dX3_smallest_55 : decode cX3_smallest 55 = .ok (.getfield 62, 3) := dk_180 0 62 (dk_at dksX3_smallest_2 7 rfl rfl)
theorem dX3_smallest_58 : decode cX3_smallest 58 = .ok (.iconst 2, 1) := dk_5 (dk_at dksX3_smallest_2 10 rfl rfl)
theorem dX3_smallest_59 : decode cX3_smallest 59 = .ok (.if_icmp .ne 37, 3) := dk_160 0 37 (dk_at dksX3_smallest_2 11 rfl rfl)
theorem dX3_smallest_62 : decode cX3_smallest 62 = .ok (.aload_n 0, 1) := dk_42 (dk_at dksX3_smallest_2 14 rfl rfl)
theorem dX3_smallest_63 : decode cX3_smallest 63 = .ok (.iload 4, 2) := dk_21 4 (dk_at dksX3_smallest_2 15 rfl rfl)
theorem dX3_smallest_65 : decode cX3_smallest 65 = .ok (.iload 5, 2) := dk_21 5 (dk_at dksX3_smallest_2 17 rfl rfl)
theorem dX3_smallest_67 : decode cX3_smallest 67 = .ok (.invokestatic 314, 3) := dk_184 1 58 (dk_at dksX3_smallest_2 19 rfl rfl)
theorem dX3_smallest_70 : decode cX3_smallest 70 = .ok (.iload_n 1, 1) := dk_27 (dk_at dksX3_smallest_2 22 rfl rfl)
theorem dX3_smallest_71 : decode cX3_smallest 71 = .ok (.invokevirtual 179, 3) := dk_182 0 179 (dk_at dksX3_smallest_3 0 rfl rfl)
theorem dX3_smallest_74 : decode cX3_smallest 74 = .ok (.ifCond .eq 16, 3) := dk_153 0 16 (dk_at dksX3_smallest_3 3 rfl rfl)
theorem dX3_smallest_77 : decode cX3_smallest 77 = .ok (.iload 4, 2) := dk_21 4 (dk_at dksX3_smallest_3 6 rfl rfl)
theorem dX3_smallest_79 : decode cX3_smallest 79 = .ok (.iload 5, 2) := dk_21 5 (dk_at dksX3_smallest_3 8 rfl rfl)
theorem dX3_smallest_81 : decode cX3_smallest 81 = .ok (.invokestatic 314, 3) := dk_184 1 58 (dk_at dksX3_smallest_3 10 rfl rfl)
theorem dX3_smallest_84 : decode cX3_smallest 84 = .ok (.astore_n 3, 1) := dk_78 (dk_at dksX3_smallest_3 13 rfl rfl)
theorem dX3_smallest_85 : decode cX3_smallest 85 = .ok (.aload_n 0, 1) := dk_42 (dk_at dksX3_smallest_3 14 rfl rfl)
theorem dX3_smallest_86 : decode cX3_smallest 86 = .ok (.iconst 0, 1) := dk_3 (dk_at dksX3_smallest_3 15 rfl rfl)
theorem dX3_smallest_87 : decode cX3_smallest 87 = .ok (.putfield 62, 3) := dk_181 0 62 (dk_at dksX3_smallest_3 16 rfl rfl)
theorem dX3_smallest_90 : decode cX3_smallest 90 = .ok (.iinc 5 1, 3) := dk_132 5 1 (dk_at dksX3_smallest_3 19 rfl rfl)
theorem dX3_smallest_93 : decode cX3_smallest 93 = .ok (.goto (-49), 3) := dk_167 255 207 (dk_at dksX3_smallest_4 0 rfl rfl)
theorem dX3_smallest_96 : decode cX3_smallest 96 = .ok (.iinc 4 1, 3) := dk_132 4 1 (dk_at dksX3_smallest_4 3 rfl rfl)
theorem dX3_smallest_99 : decode cX3_smallest 99 = .ok (.goto (-72), 3) := dk_167 255 184 (dk_at dksX3_smallest_4 6 rfl rfl)
theorem dX3_smallest_102 : decode cX3_smallest 102 = .ok (.aload_n 3, 1) := dk_45 (dk_at dksX3_smallest_4 9 rfl rfl)
theorem dX3_smallest_103 : decode cX3_smallest 103 = .ok (.areturn, 1) := dk_176 (dk_at dksX3_smallest_4 10 rfl rfl)
abbrev cX3_inputMany : ByteArray := prog_16_method_50_code
def yX3_inputMany : MethodName := ⟨RX3, "inputMany", "(I)I"⟩
def dkwX3_inputMany_0 : List UInt8 := [4, 6, 26, 104, 120, 172]
abbrev dktX3_inputMany_0 : List UInt8 := dkwX3_inputMany_0 ++ []
theorem dksX3_inputMany_0 : cX3_inputMany.data.toList.drop 0 = dktX3_inputMany_0 := by decide +kernel
theorem dX3_inputMany_0 : decode cX3_inputMany 0 = .ok (.iconst 1, 1) := dk_4 (dk_at dksX3_inputMany_0 0 rfl rfl)
theorem dX3_inputMany_1 : decode cX3_inputMany 1 = .ok (.iconst 3, 1) := dk_6 (dk_at dksX3_inputMany_0 1 rfl rfl)
theorem dX3_inputMany_2 : decode cX3_inputMany 2 = .ok (.iload_n 0, 1) := dk_26 (dk_at dksX3_inputMany_0 2 rfl rfl)
theorem dX3_inputMany_3 : decode cX3_inputMany 3 = .ok (.imul, 1) := dk_104 (dk_at dksX3_inputMany_0 3 rfl rfl)
theorem dX3_inputMany_4 : decode cX3_inputMany 4 = .ok (.ishl, 1) := dk_120 (dk_at dksX3_inputMany_0 4 rfl rfl)
theorem dX3_inputMany_5 : decode cX3_inputMany 5 = .ok (.ireturn, 1) := dk_172 (dk_at dksX3_inputMany_0 5 rfl rfl)
abbrev cX3_inputAt : ByteArray := prog_16_method_51_code
def yX3_inputAt : MethodName := ⟨RX3, "inputAt", "(II)Ljava/lang/String;"⟩
def dkwX3_inputAt_1 : List UInt8 := [16, 7, 126, 96, 146, 182, 0, 136, 87, 132, 3, 255, 167, 255, 232, 44, 182, 0, 140, 176]
abbrev dktX3_inputAt_1 : List UInt8 := dkwX3_inputAt_1 ++ []
def dkwX3_inputAt_0 : List UInt8 := [187, 0, 133, 89, 183, 0, 135, 77, 26, 4, 100, 62, 29, 155, 0, 26, 44, 16, 48, 27, 6, 29, 104, 122]
abbrev dktX3_inputAt_0 : List UInt8 := dkwX3_inputAt_0 ++ dktX3_inputAt_1
theorem dksX3_inputAt_0 : cX3_inputAt.data.toList.drop 0 = dktX3_inputAt_0 := by decide +kernel
theorem dksX3_inputAt_1 : cX3_inputAt.data.toList.drop 24 = dktX3_inputAt_1 := dk_seg dksX3_inputAt_0 24 rfl rfl
theorem dX3_inputAt_0 : decode cX3_inputAt 0 = .ok (.new 133, 3) := dk_187 0 133 (dk_at dksX3_inputAt_0 0 rfl rfl)
theorem dX3_inputAt_3 : decode cX3_inputAt 3 = .ok (.dup, 1) := dk_89 (dk_at dksX3_inputAt_0 3 rfl rfl)
theorem dX3_inputAt_4 : decode cX3_inputAt 4 = .ok (.invokespecial 135, 3) := dk_183 0 135 (dk_at dksX3_inputAt_0 4 rfl rfl)
theorem dX3_inputAt_7 : decode cX3_inputAt 7 = .ok (.astore_n 2, 1) := dk_77 (dk_at dksX3_inputAt_0 7 rfl rfl)
theorem dX3_inputAt_8 : decode cX3_inputAt 8 = .ok (.iload_n 0, 1) := dk_26 (dk_at dksX3_inputAt_0 8 rfl rfl)
theorem dX3_inputAt_9 : decode cX3_inputAt 9 = .ok (.iconst 1, 1) := dk_4 (dk_at dksX3_inputAt_0 9 rfl rfl)
theorem dX3_inputAt_10 : decode cX3_inputAt 10 = .ok (.isub, 1) := dk_100 (dk_at dksX3_inputAt_0 10 rfl rfl)
theorem dX3_inputAt_11 : decode cX3_inputAt 11 = .ok (.istore_n 3, 1) := dk_62 (dk_at dksX3_inputAt_0 11 rfl rfl)
theorem dX3_inputAt_12 : decode cX3_inputAt 12 = .ok (.iload_n 3, 1) := dk_29 (dk_at dksX3_inputAt_0 12 rfl rfl)
theorem dX3_inputAt_13 : decode cX3_inputAt 13 = .ok (.ifCond .lt 26, 3) := dk_155 0 26 (dk_at dksX3_inputAt_0 13 rfl rfl)
theorem dX3_inputAt_16 : decode cX3_inputAt 16 = .ok (.aload_n 2, 1) := dk_44 (dk_at dksX3_inputAt_0 16 rfl rfl)
theorem dX3_inputAt_17 : decode cX3_inputAt 17 = .ok (.bipush 48, 2) := dk_16 48 (dk_at dksX3_inputAt_0 17 rfl rfl)
theorem dX3_inputAt_19 : decode cX3_inputAt 19 = .ok (.iload_n 1, 1) := dk_27 (dk_at dksX3_inputAt_0 19 rfl rfl)
theorem dX3_inputAt_20 : decode cX3_inputAt 20 = .ok (.iconst 3, 1) := dk_6 (dk_at dksX3_inputAt_0 20 rfl rfl)
theorem dX3_inputAt_21 : decode cX3_inputAt 21 = .ok (.iload_n 3, 1) := dk_29 (dk_at dksX3_inputAt_0 21 rfl rfl)
theorem dX3_inputAt_22 : decode cX3_inputAt 22 = .ok (.imul, 1) := dk_104 (dk_at dksX3_inputAt_0 22 rfl rfl)
theorem dX3_inputAt_23 : decode cX3_inputAt 23 = .ok (.ishr, 1) := dk_122 (dk_at dksX3_inputAt_0 23 rfl rfl)
theorem dX3_inputAt_24 : decode cX3_inputAt 24 = .ok (.bipush 7, 2) := dk_16 7 (dk_at dksX3_inputAt_1 0 rfl rfl)
theorem dX3_inputAt_26 : decode cX3_inputAt 26 = .ok (.iand, 1) := dk_126 (dk_at dksX3_inputAt_1 2 rfl rfl)
theorem dX3_inputAt_27 : decode cX3_inputAt 27 = .ok (.iadd, 1) := dk_96 (dk_at dksX3_inputAt_1 3 rfl rfl)
theorem dX3_inputAt_28 : decode cX3_inputAt 28 = .ok (.i2c, 1) := dk_146 (dk_at dksX3_inputAt_1 4 rfl rfl)
theorem dX3_inputAt_29 : decode cX3_inputAt 29 = .ok (.invokevirtual 136, 3) := dk_182 0 136 (dk_at dksX3_inputAt_1 5 rfl rfl)
theorem dX3_inputAt_32 : decode cX3_inputAt 32 = .ok (.pop, 1) := dk_87 (dk_at dksX3_inputAt_1 8 rfl rfl)
theorem dX3_inputAt_33 : decode cX3_inputAt 33 = .ok (.iinc 3 (-1), 3) := dk_132 3 255 (dk_at dksX3_inputAt_1 9 rfl rfl)
theorem dX3_inputAt_36 : decode cX3_inputAt 36 = .ok (.goto (-24), 3) := dk_167 255 232 (dk_at dksX3_inputAt_1 12 rfl rfl)
theorem dX3_inputAt_39 : decode cX3_inputAt 39 = .ok (.aload_n 2, 1) := dk_44 (dk_at dksX3_inputAt_1 15 rfl rfl)
theorem dX3_inputAt_40 : decode cX3_inputAt 40 = .ok (.invokevirtual 140, 3) := dk_182 0 140 (dk_at dksX3_inputAt_1 16 rfl rfl)
theorem dX3_inputAt_43 : decode cX3_inputAt 43 = .ok (.areturn, 1) := dk_176 (dk_at dksX3_inputAt_1 19 rfl rfl)
abbrev cX3_count : ByteArray := prog_16_method_53_code
def yX3_count : MethodName := ⟨RX3, "count", "(LVerdict;I)I"⟩
def dkwX3_count_4 : List UInt8 := [62, 132, 5, 1, 167, 255, 213, 132, 4, 1, 167, 255, 191, 29, 172]
abbrev dktX3_count_4 : List UInt8 := dkwX3_count_4 ++ []
def dkwX3_count_3 : List UInt8 := [184, 1, 58, 182, 0, 168, 29, 42, 180, 0, 96, 184, 1, 47, 43, 166, 0, 7, 4, 167, 0, 4, 3, 96]
abbrev dktX3_count_3 : List UInt8 := dkwX3_count_3 ++ dktX3_count_4
def dkwX3_count_2 : List UInt8 := [180, 0, 62, 154, 0, 58, 3, 54, 5, 21, 5, 21, 4, 184, 1, 54, 162, 0, 39, 42, 21, 4, 21, 5]
abbrev dktX3_count_2 : List UInt8 := dkwX3_count_2 ++ dktX3_count_3
def dkwX3_count_1 : List UInt8 := [180, 0, 62, 154, 0, 7, 3, 167, 0, 4, 2, 62, 3, 54, 4, 21, 4, 28, 163, 0, 65, 42]
abbrev dktX3_count_1 : List UInt8 := dkwX3_count_1 ++ dktX3_count_2
def dkwX3_count_0 : List UInt8 := [42, 28, 133, 9, 20, 0, 211, 184, 0, 213, 153, 0, 7, 3, 167, 0, 4, 4, 181, 0, 62, 42]
abbrev dktX3_count_0 : List UInt8 := dkwX3_count_0 ++ dktX3_count_1
theorem dksX3_count_0 : cX3_count.data.toList.drop 0 = dktX3_count_0 := by decide +kernel
theorem dksX3_count_1 : cX3_count.data.toList.drop 22 = dktX3_count_1 := dk_seg dksX3_count_0 22 rfl rfl
theorem dksX3_count_2 : cX3_count.data.toList.drop 44 = dktX3_count_2 := dk_seg dksX3_count_1 22 rfl rfl
theorem dksX3_count_3 : cX3_count.data.toList.drop 68 = dktX3_count_3 := dk_seg dksX3_count_2 24 rfl rfl
theorem dksX3_count_4 : cX3_count.data.toList.drop 92 = dktX3_count_4 := dk_seg dksX3_count_3 24 rfl rfl
theorem dX3_count_0 : decode cX3_count 0 = .ok (.aload_n 0, 1) := dk_42 (dk_at dksX3_count_0 0 rfl rfl)
theorem dX3_count_1 : decode cX3_count 1 = .ok (.iload_n 2, 1) := dk_28 (dk_at dksX3_count_0 1 rfl rfl)
theorem dX3_count_2 : decode cX3_count 2 = .ok (.i2l, 1) := dk_133 (dk_at dksX3_count_0 2 rfl rfl)
theorem dX3_count_3 : decode cX3_count 3 = .ok (.lconst 0, 1) := dk_9 (dk_at dksX3_count_0 3 rfl rfl)
theorem dX3_count_4 : decode cX3_count 4 = .ok (.ldc2_w 211, 3) := dk_20 0 211 (dk_at dksX3_count_0 4 rfl rfl)
theorem dX3_count_7 : decode cX3_count 7 = .ok (.invokestatic 213, 3) := dk_184 0 213 (dk_at dksX3_count_0 7 rfl rfl)
theorem dX3_count_10 : decode cX3_count 10 = .ok (.ifCond .eq 7, 3) := dk_153 0 7 (dk_at dksX3_count_0 10 rfl rfl)
theorem dX3_count_13 : decode cX3_count 13 = .ok (.iconst 0, 1) := dk_3 (dk_at dksX3_count_0 13 rfl rfl)
theorem dX3_count_14 : decode cX3_count 14 = .ok (.goto 4, 3) := dk_167 0 4 (dk_at dksX3_count_0 14 rfl rfl)
theorem dX3_count_17 : decode cX3_count 17 = .ok (.iconst 1, 1) := dk_4 (dk_at dksX3_count_0 17 rfl rfl)
theorem dX3_count_18 : decode cX3_count 18 = .ok (.putfield 62, 3) := dk_181 0 62 (dk_at dksX3_count_0 18 rfl rfl)
theorem dX3_count_21 : decode cX3_count 21 = .ok (.aload_n 0, 1) := dk_42 (dk_at dksX3_count_0 21 rfl rfl)
theorem dX3_count_22 : decode cX3_count 22 = .ok (.getfield 62, 3) := dk_180 0 62 (dk_at dksX3_count_1 0 rfl rfl)
theorem dX3_count_25 : decode cX3_count 25 = .ok (.ifCond .ne 7, 3) := dk_154 0 7 (dk_at dksX3_count_1 3 rfl rfl)
theorem dX3_count_28 : decode cX3_count 28 = .ok (.iconst 0, 1) := dk_3 (dk_at dksX3_count_1 6 rfl rfl)
theorem dX3_count_29 : decode cX3_count 29 = .ok (.goto 4, 3) := dk_167 0 4 (dk_at dksX3_count_1 7 rfl rfl)
theorem dX3_count_32 : decode cX3_count 32 = .ok (.iconst (-1), 1) := dk_2 (dk_at dksX3_count_1 10 rfl rfl)
theorem dX3_count_33 : decode cX3_count 33 = .ok (.istore_n 3, 1) := dk_62 (dk_at dksX3_count_1 11 rfl rfl)
theorem dX3_count_34 : decode cX3_count 34 = .ok (.iconst 0, 1) := dk_3 (dk_at dksX3_count_1 12 rfl rfl)
theorem dX3_count_35 : decode cX3_count 35 = .ok (.istore 4, 2) := dk_54 4 (dk_at dksX3_count_1 13 rfl rfl)
theorem dX3_count_37 : decode cX3_count 37 = .ok (.iload 4, 2) := dk_21 4 (dk_at dksX3_count_1 15 rfl rfl)
theorem dX3_count_39 : decode cX3_count 39 = .ok (.iload_n 2, 1) := dk_28 (dk_at dksX3_count_1 17 rfl rfl)
theorem dX3_count_40 : decode cX3_count 40 = .ok (.if_icmp .gt 65, 3) := dk_163 0 65 (dk_at dksX3_count_1 18 rfl rfl)
theorem dX3_count_43 : decode cX3_count 43 = .ok (.aload_n 0, 1) := dk_42 (dk_at dksX3_count_1 21 rfl rfl)
theorem dX3_count_44 : decode cX3_count 44 = .ok (.getfield 62, 3) := dk_180 0 62 (dk_at dksX3_count_2 0 rfl rfl)
theorem dX3_count_47 : decode cX3_count 47 = .ok (.ifCond .ne 58, 3) := dk_154 0 58 (dk_at dksX3_count_2 3 rfl rfl)
theorem dX3_count_50 : decode cX3_count 50 = .ok (.iconst 0, 1) := dk_3 (dk_at dksX3_count_2 6 rfl rfl)
theorem dX3_count_51 : decode cX3_count 51 = .ok (.istore 5, 2) := dk_54 5 (dk_at dksX3_count_2 7 rfl rfl)
theorem dX3_count_53 : decode cX3_count 53 = .ok (.iload 5, 2) := dk_21 5 (dk_at dksX3_count_2 9 rfl rfl)
theorem dX3_count_55 : decode cX3_count 55 = .ok (.iload 4, 2) := dk_21 4 (dk_at dksX3_count_2 11 rfl rfl)
theorem dX3_count_57 : decode cX3_count 57 = .ok (.invokestatic 310, 3) := dk_184 1 54 (dk_at dksX3_count_2 13 rfl rfl)
theorem dX3_count_60 : decode cX3_count 60 = .ok (.if_icmp .ge 39, 3) := dk_162 0 39 (dk_at dksX3_count_2 16 rfl rfl)
theorem dX3_count_63 : decode cX3_count 63 = .ok (.aload_n 0, 1) := dk_42 (dk_at dksX3_count_2 19 rfl rfl)
theorem dX3_count_64 : decode cX3_count 64 = .ok (.iload 4, 2) := dk_21 4 (dk_at dksX3_count_2 20 rfl rfl)
theorem dX3_count_66 : decode cX3_count 66 = .ok (.iload 5, 2) := dk_21 5 (dk_at dksX3_count_2 22 rfl rfl)
theorem dX3_count_68 : decode cX3_count 68 = .ok (.invokestatic 314, 3) := dk_184 1 58 (dk_at dksX3_count_3 0 rfl rfl)
theorem dX3_count_71 : decode cX3_count 71 = .ok (.invokevirtual 168, 3) := dk_182 0 168 (dk_at dksX3_count_3 3 rfl rfl)
theorem dX3_count_74 : decode cX3_count 74 = .ok (.iload_n 3, 1) := dk_29 (dk_at dksX3_count_3 6 rfl rfl)
theorem dX3_count_75 : decode cX3_count 75 = .ok (.aload_n 0, 1) := dk_42 (dk_at dksX3_count_3 7 rfl rfl)
theorem dX3_count_76 : decode cX3_count 76 = .ok (.getfield 96, 3) := dk_180 0 96 (dk_at dksX3_count_3 8 rfl rfl)
theorem dX3_count_79 : decode cX3_count 79 = .ok (.invokestatic 303, 3) := dk_184 1 47 (dk_at dksX3_count_3 11 rfl rfl)
theorem dX3_count_82 : decode cX3_count 82 = .ok (.aload_n 1, 1) := dk_43 (dk_at dksX3_count_3 14 rfl rfl)
theorem dX3_count_83 : decode cX3_count 83 = .ok (.if_acmp .ne 7, 3) := dk_166 0 7 (dk_at dksX3_count_3 15 rfl rfl)
theorem dX3_count_86 : decode cX3_count 86 = .ok (.iconst 1, 1) := dk_4 (dk_at dksX3_count_3 18 rfl rfl)
theorem dX3_count_87 : decode cX3_count 87 = .ok (.goto 4, 3) := dk_167 0 4 (dk_at dksX3_count_3 19 rfl rfl)
theorem dX3_count_90 : decode cX3_count 90 = .ok (.iconst 0, 1) := dk_3 (dk_at dksX3_count_3 22 rfl rfl)
theorem dX3_count_91 : decode cX3_count 91 = .ok (.iadd, 1) := dk_96 (dk_at dksX3_count_3 23 rfl rfl)
theorem dX3_count_92 : decode cX3_count 92 = .ok (.istore_n 3, 1) := dk_62 (dk_at dksX3_count_4 0 rfl rfl)
theorem dX3_count_93 : decode cX3_count 93 = .ok (.iinc 5 1, 3) := dk_132 5 1 (dk_at dksX3_count_4 1 rfl rfl)
theorem dX3_count_96 : decode cX3_count 96 = .ok (.goto (-43), 3) := dk_167 255 213 (dk_at dksX3_count_4 4 rfl rfl)
theorem dX3_count_99 : decode cX3_count 99 = .ok (.iinc 4 1, 3) := dk_132 4 1 (dk_at dksX3_count_4 7 rfl rfl)
theorem dX3_count_102 : decode cX3_count 102 = .ok (.goto (-65), 3) := dk_167 255 191 (dk_at dksX3_count_4 10 rfl rfl)
theorem dX3_count_105 : decode cX3_count 105 = .ok (.iload_n 3, 1) := dk_29 (dk_at dksX3_count_4 13 rfl rfl)
theorem dX3_count_106 : decode cX3_count 106 = .ok (.ireturn, 1) := dk_172 (dk_at dksX3_count_4 14 rfl rfl)
abbrev cX3_reachable : ByteArray := prog_16_method_54_code
def yX3_reachable : MethodName := ⟨RX3, "reachable", "(I)I"⟩
def dkwX3_reachable_5 : List UInt8 := [167, 255, 168, 42, 180, 0, 62, 154, 0, 11, 42, 44, 182, 1, 26, 167, 0, 4, 2, 172]
abbrev dktX3_reachable_5 : List UInt8 := dkwX3_reachable_5 ++ []
def dkwX3_reachable_4 : List UInt8 := [153, 0, 7, 4, 167, 0, 4, 3, 84, 132, 5, 1, 167, 255, 217, 132, 4, 1, 167, 255, 189, 132, 3, 1]
abbrev dktX3_reachable_4 : List UInt8 := dkwX3_reachable_4 ++ dktX3_reachable_5
def dkwX3_reachable_3 : List UInt8 := [180, 0, 40, 190, 162, 0, 35, 44, 21, 5, 44, 21, 5, 51, 154, 0, 13, 42, 180, 0, 40, 21, 5, 51]
abbrev dktX3_reachable_3 : List UInt8 := dkwX3_reachable_3 ++ dktX3_reachable_4
def dkwX3_reachable_2 : List UInt8 := [184, 1, 54, 162, 0, 64, 42, 29, 21, 4, 184, 1, 58, 182, 0, 168, 3, 54, 5, 21, 5, 42]
abbrev dktX3_reachable_2 : List UInt8 := dkwX3_reachable_2 ++ dktX3_reachable_3
def dkwX3_reachable_1 : List UInt8 := [188, 4, 77, 3, 62, 29, 27, 163, 0, 89, 42, 180, 0, 62, 154, 0, 82, 3, 54, 4, 21, 4, 29]
abbrev dktX3_reachable_1 : List UInt8 := dkwX3_reachable_1 ++ dktX3_reachable_2
def dkwX3_reachable_0 : List UInt8 := [42, 27, 133, 9, 20, 0, 211, 184, 0, 213, 153, 0, 7, 3, 167, 0, 4, 4, 181, 0, 62, 17, 1, 16]
abbrev dktX3_reachable_0 : List UInt8 := dkwX3_reachable_0 ++ dktX3_reachable_1
theorem dksX3_reachable_0 : cX3_reachable.data.toList.drop 0 = dktX3_reachable_0 := by decide +kernel
theorem dksX3_reachable_1 : cX3_reachable.data.toList.drop 24 = dktX3_reachable_1 := dk_seg dksX3_reachable_0 24 rfl rfl
theorem dksX3_reachable_2 : cX3_reachable.data.toList.drop 47 = dktX3_reachable_2 := dk_seg dksX3_reachable_1 23 rfl rfl
theorem dksX3_reachable_3 : cX3_reachable.data.toList.drop 69 = dktX3_reachable_3 := dk_seg dksX3_reachable_2 22 rfl rfl
theorem dksX3_reachable_4 : cX3_reachable.data.toList.drop 93 = dktX3_reachable_4 := dk_seg dksX3_reachable_3 24 rfl rfl
theorem dksX3_reachable_5 : cX3_reachable.data.toList.drop 117 = dktX3_reachable_5 := dk_seg dksX3_reachable_4 24 rfl rfl
theorem dX3_reachable_0 : decode cX3_reachable 0 = .ok (.aload_n 0, 1) := dk_42 (dk_at dksX3_reachable_0 0 rfl rfl)
theorem dX3_reachable_1 : decode cX3_reachable 1 = .ok (.iload_n 1, 1) := dk_27 (dk_at dksX3_reachable_0 1 rfl rfl)
theorem dX3_reachable_2 : decode cX3_reachable 2 = .ok (.i2l, 1) := dk_133 (dk_at dksX3_reachable_0 2 rfl rfl)
theorem dX3_reachable_3 : decode cX3_reachable 3 = .ok (.lconst 0, 1) := dk_9 (dk_at dksX3_reachable_0 3 rfl rfl)
theorem dX3_reachable_4 : decode cX3_reachable 4 = .ok (.ldc2_w 211, 3) := dk_20 0 211 (dk_at dksX3_reachable_0 4 rfl rfl)
theorem dX3_reachable_7 : decode cX3_reachable 7 = .ok (.invokestatic 213, 3) := dk_184 0 213 (dk_at dksX3_reachable_0 7 rfl rfl)
theorem dX3_reachable_10 : decode cX3_reachable 10 = .ok (.ifCond .eq 7, 3) := dk_153 0 7 (dk_at dksX3_reachable_0 10 rfl rfl)
theorem dX3_reachable_13 : decode cX3_reachable 13 = .ok (.iconst 0, 1) := dk_3 (dk_at dksX3_reachable_0 13 rfl rfl)
theorem dX3_reachable_14 : decode cX3_reachable 14 = .ok (.goto 4, 3) := dk_167 0 4 (dk_at dksX3_reachable_0 14 rfl rfl)
theorem dX3_reachable_17 : decode cX3_reachable 17 = .ok (.iconst 1, 1) := dk_4 (dk_at dksX3_reachable_0 17 rfl rfl)
theorem dX3_reachable_18 : decode cX3_reachable 18 = .ok (.putfield 62, 3) := dk_181 0 62 (dk_at dksX3_reachable_0 18 rfl rfl)
theorem dX3_reachable_21 : decode cX3_reachable 21 = .ok (.sipush 272, 3) := dk_17 1 16 (dk_at dksX3_reachable_0 21 rfl rfl)
theorem dX3_reachable_24 : decode cX3_reachable 24 = .ok (.newarray .boolean, 2) := dk_188_4 (dk_at dksX3_reachable_1 0 rfl rfl)
theorem dX3_reachable_26 : decode cX3_reachable 26 = .ok (.astore_n 2, 1) := dk_77 (dk_at dksX3_reachable_1 2 rfl rfl)
theorem dX3_reachable_27 : decode cX3_reachable 27 = .ok (.iconst 0, 1) := dk_3 (dk_at dksX3_reachable_1 3 rfl rfl)
theorem dX3_reachable_28 : decode cX3_reachable 28 = .ok (.istore_n 3, 1) := dk_62 (dk_at dksX3_reachable_1 4 rfl rfl)
theorem dX3_reachable_29 : decode cX3_reachable 29 = .ok (.iload_n 3, 1) := dk_29 (dk_at dksX3_reachable_1 5 rfl rfl)
theorem dX3_reachable_30 : decode cX3_reachable 30 = .ok (.iload_n 1, 1) := dk_27 (dk_at dksX3_reachable_1 6 rfl rfl)
theorem dX3_reachable_31 : decode cX3_reachable 31 = .ok (.if_icmp .gt 89, 3) := dk_163 0 89 (dk_at dksX3_reachable_1 7 rfl rfl)
theorem dX3_reachable_34 : decode cX3_reachable 34 = .ok (.aload_n 0, 1) := dk_42 (dk_at dksX3_reachable_1 10 rfl rfl)
theorem dX3_reachable_35 : decode cX3_reachable 35 = .ok (.getfield 62, 3) := dk_180 0 62 (dk_at dksX3_reachable_1 11 rfl rfl)
theorem dX3_reachable_38 : decode cX3_reachable 38 = .ok (.ifCond .ne 82, 3) := dk_154 0 82 (dk_at dksX3_reachable_1 14 rfl rfl)
theorem dX3_reachable_41 : decode cX3_reachable 41 = .ok (.iconst 0, 1) := dk_3 (dk_at dksX3_reachable_1 17 rfl rfl)
theorem dX3_reachable_42 : decode cX3_reachable 42 = .ok (.istore 4, 2) := dk_54 4 (dk_at dksX3_reachable_1 18 rfl rfl)
theorem dX3_reachable_44 : decode cX3_reachable 44 = .ok (.iload 4, 2) := dk_21 4 (dk_at dksX3_reachable_1 20 rfl rfl)
theorem dX3_reachable_46 : decode cX3_reachable 46 = .ok (.iload_n 3, 1) := dk_29 (dk_at dksX3_reachable_1 22 rfl rfl)
theorem dX3_reachable_47 : decode cX3_reachable 47 = .ok (.invokestatic 310, 3) := dk_184 1 54 (dk_at dksX3_reachable_2 0 rfl rfl)
theorem dX3_reachable_50 : decode cX3_reachable 50 = .ok (.if_icmp .ge 64, 3) := dk_162 0 64 (dk_at dksX3_reachable_2 3 rfl rfl)
theorem dX3_reachable_53 : decode cX3_reachable 53 = .ok (.aload_n 0, 1) := dk_42 (dk_at dksX3_reachable_2 6 rfl rfl)
theorem dX3_reachable_54 : decode cX3_reachable 54 = .ok (.iload_n 3, 1) := dk_29 (dk_at dksX3_reachable_2 7 rfl rfl)
theorem dX3_reachable_55 : decode cX3_reachable 55 = .ok (.iload 4, 2) := dk_21 4 (dk_at dksX3_reachable_2 8 rfl rfl)
theorem dX3_reachable_57 : decode cX3_reachable 57 = .ok (.invokestatic 314, 3) := dk_184 1 58 (dk_at dksX3_reachable_2 10 rfl rfl)
theorem dX3_reachable_60 : decode cX3_reachable 60 = .ok (.invokevirtual 168, 3) := dk_182 0 168 (dk_at dksX3_reachable_2 13 rfl rfl)
theorem dX3_reachable_63 : decode cX3_reachable 63 = .ok (.iconst 0, 1) := dk_3 (dk_at dksX3_reachable_2 16 rfl rfl)
theorem dX3_reachable_64 : decode cX3_reachable 64 = .ok (.istore 5, 2) := dk_54 5 (dk_at dksX3_reachable_2 17 rfl rfl)
theorem dX3_reachable_66 : decode cX3_reachable 66 = .ok (.iload 5, 2) := dk_21 5 (dk_at dksX3_reachable_2 19 rfl rfl)
theorem dX3_reachable_68 : decode cX3_reachable 68 = .ok (.aload_n 0, 1) := dk_42 (dk_at dksX3_reachable_2 21 rfl rfl)
theorem dX3_reachable_69 : decode cX3_reachable 69 = .ok (.getfield 40, 3) := dk_180 0 40 (dk_at dksX3_reachable_3 0 rfl rfl)
theorem dX3_reachable_72 : decode cX3_reachable 72 = .ok (.arraylength, 1) := dk_190 (dk_at dksX3_reachable_3 3 rfl rfl)
theorem dX3_reachable_73 : decode cX3_reachable 73 = .ok (.if_icmp .ge 35, 3) := dk_162 0 35 (dk_at dksX3_reachable_3 4 rfl rfl)
theorem dX3_reachable_76 : decode cX3_reachable 76 = .ok (.aload_n 2, 1) := dk_44 (dk_at dksX3_reachable_3 7 rfl rfl)
theorem dX3_reachable_77 : decode cX3_reachable 77 = .ok (.iload 5, 2) := dk_21 5 (dk_at dksX3_reachable_3 8 rfl rfl)
theorem dX3_reachable_79 : decode cX3_reachable 79 = .ok (.aload_n 2, 1) := dk_44 (dk_at dksX3_reachable_3 10 rfl rfl)
theorem dX3_reachable_80 : decode cX3_reachable 80 = .ok (.iload 5, 2) := dk_21 5 (dk_at dksX3_reachable_3 11 rfl rfl)
theorem dX3_reachable_82 : decode cX3_reachable 82 = .ok (.baload, 1) := dk_51 (dk_at dksX3_reachable_3 13 rfl rfl)
theorem dX3_reachable_83 : decode cX3_reachable 83 = .ok (.ifCond .ne 13, 3) := dk_154 0 13 (dk_at dksX3_reachable_3 14 rfl rfl)
theorem dX3_reachable_86 : decode cX3_reachable 86 = .ok (.aload_n 0, 1) := dk_42 (dk_at dksX3_reachable_3 17 rfl rfl)
theorem dX3_reachable_87 : decode cX3_reachable 87 = .ok (.getfield 40, 3) := dk_180 0 40 (dk_at dksX3_reachable_3 18 rfl rfl)
theorem dX3_reachable_90 : decode cX3_reachable 90 = .ok (.iload 5, 2) := dk_21 5 (dk_at dksX3_reachable_3 21 rfl rfl)
theorem dX3_reachable_92 : decode cX3_reachable 92 = .ok (.baload, 1) := dk_51 (dk_at dksX3_reachable_3 23 rfl rfl)
theorem dX3_reachable_93 : decode cX3_reachable 93 = .ok (.ifCond .eq 7, 3) := dk_153 0 7 (dk_at dksX3_reachable_4 0 rfl rfl)
theorem dX3_reachable_96 : decode cX3_reachable 96 = .ok (.iconst 1, 1) := dk_4 (dk_at dksX3_reachable_4 3 rfl rfl)
theorem dX3_reachable_97 : decode cX3_reachable 97 = .ok (.goto 4, 3) := dk_167 0 4 (dk_at dksX3_reachable_4 4 rfl rfl)
theorem dX3_reachable_100 : decode cX3_reachable 100 = .ok (.iconst 0, 1) := dk_3 (dk_at dksX3_reachable_4 7 rfl rfl)
theorem dX3_reachable_101 : decode cX3_reachable 101 = .ok (.bastore, 1) := dk_84 (dk_at dksX3_reachable_4 8 rfl rfl)
theorem dX3_reachable_102 : decode cX3_reachable 102 = .ok (.iinc 5 1, 3) := dk_132 5 1 (dk_at dksX3_reachable_4 9 rfl rfl)
theorem dX3_reachable_105 : decode cX3_reachable 105 = .ok (.goto (-39), 3) := dk_167 255 217 (dk_at dksX3_reachable_4 12 rfl rfl)
theorem dX3_reachable_108 : decode cX3_reachable 108 = .ok (.iinc 4 1, 3) := dk_132 4 1 (dk_at dksX3_reachable_4 15 rfl rfl)
theorem dX3_reachable_111 : decode cX3_reachable 111 = .ok (.goto (-67), 3) := dk_167 255 189 (dk_at dksX3_reachable_4 18 rfl rfl)
theorem dX3_reachable_114 : decode cX3_reachable 114 = .ok (.iinc 3 1, 3) := dk_132 3 1 (dk_at dksX3_reachable_4 21 rfl rfl)
theorem dX3_reachable_117 : decode cX3_reachable 117 = .ok (.goto (-88), 3) := dk_167 255 168 (dk_at dksX3_reachable_5 0 rfl rfl)
theorem dX3_reachable_120 : decode cX3_reachable 120 = .ok (.aload_n 0, 1) := dk_42 (dk_at dksX3_reachable_5 3 rfl rfl)
theorem dX3_reachable_121 : decode cX3_reachable 121 = .ok (.getfield 62, 3) := dk_180 0 62 (dk_at dksX3_reachable_5 4 rfl rfl)
theorem dX3_reachable_124 : decode cX3_reachable 124 = .ok (.ifCond .ne 11, 3) := dk_154 0 11 (dk_at dksX3_reachable_5 7 rfl rfl)
theorem dX3_reachable_127 : decode cX3_reachable 127 = .ok (.aload_n 0, 1) := dk_42 (dk_at dksX3_reachable_5 10 rfl rfl)
theorem dX3_reachable_128 : decode cX3_reachable 128 = .ok (.aload_n 2, 1) := dk_44 (dk_at dksX3_reachable_5 11 rfl rfl)
theorem dX3_reachable_129 : decode cX3_reachable 129 = .ok (.invokevirtual 282, 3) := dk_182 1 26 (dk_at dksX3_reachable_5 12 rfl rfl)
theorem dX3_reachable_132 : decode cX3_reachable 132 = .ok (.goto 4, 3) := dk_167 0 4 (dk_at dksX3_reachable_5 15 rfl rfl)
theorem dX3_reachable_135 : decode cX3_reachable 135 = .ok (.iconst (-1), 1) := dk_2 (dk_at dksX3_reachable_5 18 rfl rfl)
theorem dX3_reachable_136 : decode cX3_reachable 136 = .ok (.ireturn, 1) := dk_172 (dk_at dksX3_reachable_5 19 rfl rfl)
abbrev cX3_keptShare : ByteArray := prog_16_method_55_code
def yX3_keptShare : MethodName := ⟨RX3, "keptShare", "()F"⟩
def dkwX3_keptShare_1 : List UInt8 := [180, 0, 199, 134, 42, 180, 0, 193, 134, 110, 167, 0, 4, 11, 174]
abbrev dktX3_keptShare_1 : List UInt8 := dkwX3_keptShare_1 ++ []
def dkwX3_keptShare_0 : List UInt8 := [42, 42, 180, 0, 193, 154, 0, 7, 4, 167, 0, 4, 3, 181, 0, 62, 42, 180, 0, 62, 154, 0, 17, 42]
abbrev dktX3_keptShare_0 : List UInt8 := dkwX3_keptShare_0 ++ dktX3_keptShare_1
theorem dksX3_keptShare_0 : cX3_keptShare.data.toList.drop 0 = dktX3_keptShare_0 := by decide +kernel
theorem dksX3_keptShare_1 : cX3_keptShare.data.toList.drop 24 = dktX3_keptShare_1 := dk_seg dksX3_keptShare_0 24 rfl rfl
theorem dX3_keptShare_0 : decode cX3_keptShare 0 = .ok (.aload_n 0, 1) := dk_42 (dk_at dksX3_keptShare_0 0 rfl rfl)
theorem dX3_keptShare_1 : decode cX3_keptShare 1 = .ok (.aload_n 0, 1) := dk_42 (dk_at dksX3_keptShare_0 1 rfl rfl)
theorem dX3_keptShare_2 : decode cX3_keptShare 2 = .ok (.getfield 193, 3) := dk_180 0 193 (dk_at dksX3_keptShare_0 2 rfl rfl)
theorem dX3_keptShare_5 : decode cX3_keptShare 5 = .ok (.ifCond .ne 7, 3) := dk_154 0 7 (dk_at dksX3_keptShare_0 5 rfl rfl)
theorem dX3_keptShare_8 : decode cX3_keptShare 8 = .ok (.iconst 1, 1) := dk_4 (dk_at dksX3_keptShare_0 8 rfl rfl)
theorem dX3_keptShare_9 : decode cX3_keptShare 9 = .ok (.goto 4, 3) := dk_167 0 4 (dk_at dksX3_keptShare_0 9 rfl rfl)
theorem dX3_keptShare_12 : decode cX3_keptShare 12 = .ok (.iconst 0, 1) := dk_3 (dk_at dksX3_keptShare_0 12 rfl rfl)
theorem dX3_keptShare_13 : decode cX3_keptShare 13 = .ok (.putfield 62, 3) := dk_181 0 62 (dk_at dksX3_keptShare_0 13 rfl rfl)
theorem dX3_keptShare_16 : decode cX3_keptShare 16 = .ok (.aload_n 0, 1) := dk_42 (dk_at dksX3_keptShare_0 16 rfl rfl)
theorem dX3_keptShare_17 : decode cX3_keptShare 17 = .ok (.getfield 62, 3) := dk_180 0 62 (dk_at dksX3_keptShare_0 17 rfl rfl)
theorem dX3_keptShare_20 : decode cX3_keptShare 20 = .ok (.ifCond .ne 17, 3) := dk_154 0 17 (dk_at dksX3_keptShare_0 20 rfl rfl)
theorem dX3_keptShare_23 : decode cX3_keptShare 23 = .ok (.aload_n 0, 1) := dk_42 (dk_at dksX3_keptShare_0 23 rfl rfl)
theorem dX3_keptShare_24 : decode cX3_keptShare 24 = .ok (.getfield 199, 3) := dk_180 0 199 (dk_at dksX3_keptShare_1 0 rfl rfl)
theorem dX3_keptShare_27 : decode cX3_keptShare 27 = .ok (.i2f, 1) := dk_134 (dk_at dksX3_keptShare_1 3 rfl rfl)
theorem dX3_keptShare_28 : decode cX3_keptShare 28 = .ok (.aload_n 0, 1) := dk_42 (dk_at dksX3_keptShare_1 4 rfl rfl)
theorem dX3_keptShare_29 : decode cX3_keptShare 29 = .ok (.getfield 193, 3) := dk_180 0 193 (dk_at dksX3_keptShare_1 5 rfl rfl)
theorem dX3_keptShare_32 : decode cX3_keptShare 32 = .ok (.i2f, 1) := dk_134 (dk_at dksX3_keptShare_1 8 rfl rfl)
theorem dX3_keptShare_33 : decode cX3_keptShare 33 = .ok (.fdiv, 1) := dk_110 (dk_at dksX3_keptShare_1 9 rfl rfl)
theorem dX3_keptShare_34 : decode cX3_keptShare 34 = .ok (.goto 4, 3) := dk_167 0 4 (dk_at dksX3_keptShare_1 10 rfl rfl)
theorem dX3_keptShare_37 : decode cX3_keptShare 37 = .ok (.fconst 0, 1) := dk_11 (dk_at dksX3_keptShare_1 13 rfl rfl)
theorem dX3_keptShare_38 : decode cX3_keptShare 38 = .ok (.freturn, 1) := dk_174 (dk_at dksX3_keptShare_1 14 rfl rfl)
abbrev cX3_meanShrunk : ByteArray := prog_16_method_56_code
def yX3_meanShrunk : MethodName := ⟨RX3, "meanShrunk", "()D"⟩
def dkwX3_meanShrunk_2 : List UInt8 := [42, 180, 0, 62, 154, 0, 14, 27, 135, 42, 180, 0, 183, 135, 111, 167, 0, 4, 14, 175]
abbrev dktX3_meanShrunk_2 : List UInt8 := dkwX3_meanShrunk_2 ++ []
def dkwX3_meanShrunk_1 : List UInt8 := [180, 0, 183, 162, 0, 21, 27, 42, 180, 0, 56, 28, 50, 182, 0, 66, 96, 60, 132, 2, 1, 167, 255, 233]
abbrev dktX3_meanShrunk_1 : List UInt8 := dkwX3_meanShrunk_1 ++ dktX3_meanShrunk_2
def dkwX3_meanShrunk_0 : List UInt8 := [42, 42, 180, 0, 183, 154, 0, 7, 4, 167, 0, 4, 3, 181, 0, 62, 3, 60, 3, 61, 28, 42]
abbrev dktX3_meanShrunk_0 : List UInt8 := dkwX3_meanShrunk_0 ++ dktX3_meanShrunk_1
theorem dksX3_meanShrunk_0 : cX3_meanShrunk.data.toList.drop 0 = dktX3_meanShrunk_0 := by decide +kernel
theorem dksX3_meanShrunk_1 : cX3_meanShrunk.data.toList.drop 22 = dktX3_meanShrunk_1 := dk_seg dksX3_meanShrunk_0 22 rfl rfl
theorem dksX3_meanShrunk_2 : cX3_meanShrunk.data.toList.drop 46 = dktX3_meanShrunk_2 := dk_seg dksX3_meanShrunk_1 24 rfl rfl
theorem dX3_meanShrunk_0 : decode cX3_meanShrunk 0 = .ok (.aload_n 0, 1) := dk_42 (dk_at dksX3_meanShrunk_0 0 rfl rfl)
theorem dX3_meanShrunk_1 : decode cX3_meanShrunk 1 = .ok (.aload_n 0, 1) := dk_42 (dk_at dksX3_meanShrunk_0 1 rfl rfl)
theorem dX3_meanShrunk_2 : decode cX3_meanShrunk 2 = .ok (.getfield 183, 3) := dk_180 0 183 (dk_at dksX3_meanShrunk_0 2 rfl rfl)
theorem dX3_meanShrunk_5 : decode cX3_meanShrunk 5 = .ok (.ifCond .ne 7, 3) := dk_154 0 7 (dk_at dksX3_meanShrunk_0 5 rfl rfl)
theorem dX3_meanShrunk_8 : decode cX3_meanShrunk 8 = .ok (.iconst 1, 1) := dk_4 (dk_at dksX3_meanShrunk_0 8 rfl rfl)
theorem dX3_meanShrunk_9 : decode cX3_meanShrunk 9 = .ok (.goto 4, 3) := dk_167 0 4 (dk_at dksX3_meanShrunk_0 9 rfl rfl)
theorem dX3_meanShrunk_12 : decode cX3_meanShrunk 12 = .ok (.iconst 0, 1) := dk_3 (dk_at dksX3_meanShrunk_0 12 rfl rfl)
theorem dX3_meanShrunk_13 : decode cX3_meanShrunk 13 = .ok (.putfield 62, 3) := dk_181 0 62 (dk_at dksX3_meanShrunk_0 13 rfl rfl)
theorem dX3_meanShrunk_16 : decode cX3_meanShrunk 16 = .ok (.iconst 0, 1) := dk_3 (dk_at dksX3_meanShrunk_0 16 rfl rfl)
theorem dX3_meanShrunk_17 : decode cX3_meanShrunk 17 = .ok (.istore_n 1, 1) := dk_60 (dk_at dksX3_meanShrunk_0 17 rfl rfl)
theorem dX3_meanShrunk_18 : decode cX3_meanShrunk 18 = .ok (.iconst 0, 1) := dk_3 (dk_at dksX3_meanShrunk_0 18 rfl rfl)
theorem dX3_meanShrunk_19 : decode cX3_meanShrunk 19 = .ok (.istore_n 2, 1) := dk_61 (dk_at dksX3_meanShrunk_0 19 rfl rfl)
theorem dX3_meanShrunk_20 : decode cX3_meanShrunk 20 = .ok (.iload_n 2, 1) := dk_28 (dk_at dksX3_meanShrunk_0 20 rfl rfl)
theorem dX3_meanShrunk_21 : decode cX3_meanShrunk 21 = .ok (.aload_n 0, 1) := dk_42 (dk_at dksX3_meanShrunk_0 21 rfl rfl)
theorem dX3_meanShrunk_22 : decode cX3_meanShrunk 22 = .ok (.getfield 183, 3) := dk_180 0 183 (dk_at dksX3_meanShrunk_1 0 rfl rfl)
theorem dX3_meanShrunk_25 : decode cX3_meanShrunk 25 = .ok (.if_icmp .ge 21, 3) := dk_162 0 21 (dk_at dksX3_meanShrunk_1 3 rfl rfl)
theorem dX3_meanShrunk_28 : decode cX3_meanShrunk 28 = .ok (.iload_n 1, 1) := dk_27 (dk_at dksX3_meanShrunk_1 6 rfl rfl)
theorem dX3_meanShrunk_29 : decode cX3_meanShrunk 29 = .ok (.aload_n 0, 1) := dk_42 (dk_at dksX3_meanShrunk_1 7 rfl rfl)
theorem dX3_meanShrunk_30 : decode cX3_meanShrunk 30 = .ok (.getfield 56, 3) := dk_180 0 56 (dk_at dksX3_meanShrunk_1 8 rfl rfl)
theorem dX3_meanShrunk_33 : decode cX3_meanShrunk 33 = .ok (.iload_n 2, 1) := dk_28 (dk_at dksX3_meanShrunk_1 11 rfl rfl)
theorem dX3_meanShrunk_34 : decode cX3_meanShrunk 34 = .ok (.aaload, 1) := dk_50 (dk_at dksX3_meanShrunk_1 12 rfl rfl)
theorem dX3_meanShrunk_35 : decode cX3_meanShrunk 35 = .ok (.invokevirtual 66, 3) := dk_182 0 66 (dk_at dksX3_meanShrunk_1 13 rfl rfl)
theorem dX3_meanShrunk_38 : decode cX3_meanShrunk 38 = .ok (.iadd, 1) := dk_96 (dk_at dksX3_meanShrunk_1 16 rfl rfl)
theorem dX3_meanShrunk_39 : decode cX3_meanShrunk 39 = .ok (.istore_n 1, 1) := dk_60 (dk_at dksX3_meanShrunk_1 17 rfl rfl)
theorem dX3_meanShrunk_40 : decode cX3_meanShrunk 40 = .ok (.iinc 2 1, 3) := dk_132 2 1 (dk_at dksX3_meanShrunk_1 18 rfl rfl)
theorem dX3_meanShrunk_43 : decode cX3_meanShrunk 43 = .ok (.goto (-23), 3) := dk_167 255 233 (dk_at dksX3_meanShrunk_1 21 rfl rfl)
theorem dX3_meanShrunk_46 : decode cX3_meanShrunk 46 = .ok (.aload_n 0, 1) := dk_42 (dk_at dksX3_meanShrunk_2 0 rfl rfl)
theorem dX3_meanShrunk_47 : decode cX3_meanShrunk 47 = .ok (.getfield 62, 3) := dk_180 0 62 (dk_at dksX3_meanShrunk_2 1 rfl rfl)
theorem dX3_meanShrunk_50 : decode cX3_meanShrunk 50 = .ok (.ifCond .ne 14, 3) := dk_154 0 14 (dk_at dksX3_meanShrunk_2 4 rfl rfl)
theorem dX3_meanShrunk_53 : decode cX3_meanShrunk 53 = .ok (.iload_n 1, 1) := dk_27 (dk_at dksX3_meanShrunk_2 7 rfl rfl)
theorem dX3_meanShrunk_54 : decode cX3_meanShrunk 54 = .ok (.i2d, 1) := dk_135 (dk_at dksX3_meanShrunk_2 8 rfl rfl)
theorem dX3_meanShrunk_55 : decode cX3_meanShrunk 55 = .ok (.aload_n 0, 1) := dk_42 (dk_at dksX3_meanShrunk_2 9 rfl rfl)
theorem dX3_meanShrunk_56 : decode cX3_meanShrunk 56 = .ok (.getfield 183, 3) := dk_180 0 183 (dk_at dksX3_meanShrunk_2 10 rfl rfl)
theorem dX3_meanShrunk_59 : decode cX3_meanShrunk 59 = .ok (.i2d, 1) := dk_135 (dk_at dksX3_meanShrunk_2 13 rfl rfl)
theorem dX3_meanShrunk_60 : decode cX3_meanShrunk 60 = .ok (.ddiv, 1) := dk_111 (dk_at dksX3_meanShrunk_2 14 rfl rfl)
theorem dX3_meanShrunk_61 : decode cX3_meanShrunk 61 = .ok (.goto 4, 3) := dk_167 0 4 (dk_at dksX3_meanShrunk_2 15 rfl rfl)
theorem dX3_meanShrunk_64 : decode cX3_meanShrunk 64 = .ok (.dconst 0, 1) := dk_14 (dk_at dksX3_meanShrunk_2 18 rfl rfl)
theorem dX3_meanShrunk_65 : decode cX3_meanShrunk 65 = .ok (.dreturn, 1) := dk_175 (dk_at dksX3_meanShrunk_2 19 rfl rfl)
theorem q47 : (Jvm.Cond.initialized "ShrinkYardModel") ∈ lw_all := lw_g (lw_at lw_m1 14 rfl) rfl
theorem q288 : (Jvm.Cond.selects "ShrinkYardModel" ({ cls := "java/lang/Object", name := "getClass", desc := "()Ljava/lang/Class;" } : Jvm.MethodName) ({ cls := "java/lang/Object", name := "getClass", desc := "()Ljava/lang/Class;" } : Jvm.MethodName)) ∈ lw_all := lw_g (lw_at lw_m2 15 rfl) rfl
theorem q1877 : (Jvm.Cond.instantiable "ShrinkYardModel" (28 : Nat)) ∈ lw_all := lw_g (lw_at lw_m8 164 rfl) rfl
theorem q1879 : (Jvm.Cond.instanceMethod ({ cls := "ShrinkYardModel", name := "<init>", desc := "()V" } : Jvm.MethodName)) ∈ lw_all := lw_g (lw_at lw_m8 166 rfl) rfl
theorem q1880 : (Jvm.Cond.code ({ cls := "ShrinkYardModel", name := "<init>", desc := "()V" } : Jvm.MethodName) prog_16_method_1_code (1 : Nat) (Option.none : Option Jvm.ClassFile.FieldType)) ∈ lw_all := lw_g (lw_at lw_m8 167 rfl) rfl
theorem q1881 : (Jvm.Cond.methodLink "ShrinkYardModel" (1 : Nat) ({ cls := "java/lang/Object", name := "<init>", desc := "()V" } : Jvm.MethodName)) ∈ lw_all := lw_g (lw_at lw_m8 168 rfl) rfl
theorem q1882 : (Jvm.Cond.classLink "ShrinkYardModel" (31 : Nat) "java/lang/String") ∈ lw_all := lw_g (lw_at lw_m8 169 rfl) rfl
theorem q1884 : (Jvm.Cond.fieldLink "ShrinkYardModel" (9 : Nat) "ShrinkYardModel" "ops" "[I") ∈ lw_all := lw_g (lw_at lw_m8 171 rfl) rfl
theorem q1885 : (Jvm.Cond.fieldLink "ShrinkYardModel" (13 : Nat) "ShrinkYardModel" "registers" "[I") ∈ lw_all := lw_g (lw_at lw_m8 172 rfl) rfl
theorem q1886 : (Jvm.Cond.fieldLink "ShrinkYardModel" (16 : Nat) "ShrinkYardModel" "values" "[I") ∈ lw_all := lw_g (lw_at lw_m8 173 rfl) rfl
theorem q1887 : (Jvm.Cond.fieldLink "ShrinkYardModel" (19 : Nat) "ShrinkYardModel" "targets" "[I") ∈ lw_all := lw_g (lw_at lw_m8 174 rfl) rfl
theorem q1888 : (Jvm.Cond.fieldLink "ShrinkYardModel" (102 : Nat) "ShrinkYardModel" "code" "I") ∈ lw_all := lw_g (lw_at lw_m8 175 rfl) rfl
theorem q1889 : (Jvm.Cond.fieldLink "ShrinkYardModel" (22 : Nat) "ShrinkYardModel" "kinds" "[I") ∈ lw_all := lw_g (lw_at lw_m8 176 rfl) rfl
theorem q1890 : (Jvm.Cond.fieldLink "ShrinkYardModel" (25 : Nat) "ShrinkYardModel" "places" "[I") ∈ lw_all := lw_g (lw_at lw_m8 177 rfl) rfl
theorem q1891 : (Jvm.Cond.fieldLink "ShrinkYardModel" (28 : Nat) "ShrinkYardModel" "digits" "[I") ∈ lw_all := lw_g (lw_at lw_m8 178 rfl) rfl
theorem q1892 : (Jvm.Cond.fieldLink "ShrinkYardModel" (235 : Nat) "ShrinkYardModel" "changes" "I") ∈ lw_all := lw_g (lw_at lw_m8 179 rfl) rfl
theorem q1893 : (Jvm.Cond.fieldLink "ShrinkYardModel" (33 : Nat) "ShrinkYardModel" "alternatives" "[Ljava/lang/String;") ∈ lw_all := lw_g (lw_at lw_m8 180 rfl) rfl
theorem q1894 : (Jvm.Cond.fieldLink "ShrinkYardModel" (37 : Nat) "ShrinkYardModel" "alternativeMany" "[I") ∈ lw_all := lw_g (lw_at lw_m8 181 rfl) rfl
theorem q1895 : (Jvm.Cond.fieldLink "ShrinkYardModel" (96 : Nat) "ShrinkYardModel" "end" "I") ∈ lw_all := lw_g (lw_at lw_m8 182 rfl) rfl
theorem q1896 : (Jvm.Cond.fieldLink "ShrinkYardModel" (99 : Nat) "ShrinkYardModel" "told" "I") ∈ lw_all := lw_g (lw_at lw_m8 183 rfl) rfl
theorem q1897 : (Jvm.Cond.fieldLink "ShrinkYardModel" (93 : Nat) "ShrinkYardModel" "steps" "I") ∈ lw_all := lw_g (lw_at lw_m8 184 rfl) rfl
theorem q1898 : (Jvm.Cond.fieldLink "ShrinkYardModel" (40 : Nat) "ShrinkYardModel" "edges" "[Z") ∈ lw_all := lw_g (lw_at lw_m8 185 rfl) rfl
theorem q1899 : (Jvm.Cond.fieldLink "ShrinkYardModel" (44 : Nat) "ShrinkYardModel" "held" "[I") ∈ lw_all := lw_g (lw_at lw_m8 186 rfl) rfl
theorem q1900 : (Jvm.Cond.fieldLink "ShrinkYardModel" (193 : Nat) "ShrinkYardModel" "runs" "I") ∈ lw_all := lw_g (lw_at lw_m8 187 rfl) rfl
theorem q1901 : (Jvm.Cond.fieldLink "ShrinkYardModel" (195 : Nat) "ShrinkYardModel" "total" "J") ∈ lw_all := lw_g (lw_at lw_m8 188 rfl) rfl
theorem q1902 : (Jvm.Cond.fieldLink "ShrinkYardModel" (47 : Nat) "ShrinkYardModel" "covered" "[Z") ∈ lw_all := lw_g (lw_at lw_m8 189 rfl) rfl
theorem q1903 : (Jvm.Cond.fieldLink "ShrinkYardModel" (50 : Nat) "ShrinkYardModel" "kept" "[Ljava/lang/String;") ∈ lw_all := lw_g (lw_at lw_m8 190 rfl) rfl
theorem q1904 : (Jvm.Cond.fieldLink "ShrinkYardModel" (199 : Nat) "ShrinkYardModel" "keptMany" "I") ∈ lw_all := lw_g (lw_at lw_m8 191 rfl) rfl
theorem q1905 : (Jvm.Cond.fieldLink "ShrinkYardModel" (268 : Nat) "ShrinkYardModel" "first" "I") ∈ lw_all := lw_g (lw_at lw_m8 192 rfl) rfl
theorem q1906 : (Jvm.Cond.fieldLink "ShrinkYardModel" (271 : Nat) "ShrinkYardModel" "next" "I") ∈ lw_all := lw_g (lw_at lw_m8 193 rfl) rfl
theorem q1907 : (Jvm.Cond.fieldLink "ShrinkYardModel" (53 : Nat) "ShrinkYardModel" "found" "[Ljava/lang/String;") ∈ lw_all := lw_g (lw_at lw_m8 194 rfl) rfl
theorem q1908 : (Jvm.Cond.fieldLink "ShrinkYardModel" (56 : Nat) "ShrinkYardModel" "shrunkTo" "[Ljava/lang/String;") ∈ lw_all := lw_g (lw_at lw_m8 195 rfl) rfl
theorem q1909 : (Jvm.Cond.fieldLink "ShrinkYardModel" (59 : Nat) "ShrinkYardModel" "codes" "[I") ∈ lw_all := lw_g (lw_at lw_m8 196 rfl) rfl
theorem q1910 : (Jvm.Cond.fieldLink "ShrinkYardModel" (183 : Nat) "ShrinkYardModel" "foundMany" "I") ∈ lw_all := lw_g (lw_at lw_m8 197 rfl) rfl
theorem q1911 : (Jvm.Cond.fieldLink "ShrinkYardModel" (62 : Nat) "ShrinkYardModel" "thrown" "I") ∈ lw_all := lw_g (lw_at lw_m8 198 rfl) rfl
theorem q1912 : (Jvm.Cond.laysFinal "ShrinkYardModel" "ShrinkYardModel" "ops" "[I") ∈ lw_all := lw_g (lw_at lw_m8 199 rfl) rfl
theorem q1913 : (Jvm.Cond.soleField "ShrinkYardModel" "ops") ∈ lw_all := lw_g (lw_at lw_m8 200 rfl) rfl
theorem q1914 : (Jvm.Cond.laysFinal "ShrinkYardModel" "ShrinkYardModel" "registers" "[I") ∈ lw_all := lw_g (lw_at lw_m8 201 rfl) rfl
theorem q1915 : (Jvm.Cond.soleField "ShrinkYardModel" "registers") ∈ lw_all := lw_g (lw_at lw_m8 202 rfl) rfl
theorem q1916 : (Jvm.Cond.laysFinal "ShrinkYardModel" "ShrinkYardModel" "values" "[I") ∈ lw_all := lw_g (lw_at lw_m8 203 rfl) rfl
theorem q1917 : (Jvm.Cond.soleField "ShrinkYardModel" "values") ∈ lw_all := lw_g (lw_at lw_m8 204 rfl) rfl
theorem q1918 : (Jvm.Cond.laysFinal "ShrinkYardModel" "ShrinkYardModel" "targets" "[I") ∈ lw_all := lw_g (lw_at lw_m8 205 rfl) rfl
theorem q1919 : (Jvm.Cond.soleField "ShrinkYardModel" "targets") ∈ lw_all := lw_g (lw_at lw_m8 206 rfl) rfl
theorem q1920 : (Jvm.Cond.lays "ShrinkYardModel" "ShrinkYardModel" "code" "I") ∈ lw_all := lw_g (lw_at lw_m8 207 rfl) rfl
theorem q1921 : (Jvm.Cond.soleField "ShrinkYardModel" "code") ∈ lw_all := lw_g (lw_at lw_m8 208 rfl) rfl
theorem q1922 : (Jvm.Cond.laysFinal "ShrinkYardModel" "ShrinkYardModel" "kinds" "[I") ∈ lw_all := lw_g (lw_at lw_m8 209 rfl) rfl
theorem q1923 : (Jvm.Cond.soleField "ShrinkYardModel" "kinds") ∈ lw_all := lw_g (lw_at lw_m8 210 rfl) rfl
theorem q1924 : (Jvm.Cond.laysFinal "ShrinkYardModel" "ShrinkYardModel" "places" "[I") ∈ lw_all := lw_g (lw_at lw_m8 211 rfl) rfl
theorem q1925 : (Jvm.Cond.soleField "ShrinkYardModel" "places") ∈ lw_all := lw_g (lw_at lw_m8 212 rfl) rfl
theorem q1926 : (Jvm.Cond.laysFinal "ShrinkYardModel" "ShrinkYardModel" "digits" "[I") ∈ lw_all := lw_g (lw_at lw_m8 213 rfl) rfl
theorem q1927 : (Jvm.Cond.soleField "ShrinkYardModel" "digits") ∈ lw_all := lw_g (lw_at lw_m8 214 rfl) rfl
theorem q1928 : (Jvm.Cond.lays "ShrinkYardModel" "ShrinkYardModel" "changes" "I") ∈ lw_all := lw_g (lw_at lw_m8 215 rfl) rfl
theorem q1929 : (Jvm.Cond.soleField "ShrinkYardModel" "changes") ∈ lw_all := lw_g (lw_at lw_m8 216 rfl) rfl
theorem q1930 : (Jvm.Cond.laysFinal "ShrinkYardModel" "ShrinkYardModel" "alternatives" "[Ljava/lang/String;") ∈ lw_all := lw_g (lw_at lw_m8 217 rfl) rfl
theorem q1931 : (Jvm.Cond.soleField "ShrinkYardModel" "alternatives") ∈ lw_all := lw_g (lw_at lw_m8 218 rfl) rfl
theorem q1932 : (Jvm.Cond.laysFinal "ShrinkYardModel" "ShrinkYardModel" "alternativeMany" "[I") ∈ lw_all := lw_g (lw_at lw_m8 219 rfl) rfl
theorem q1933 : (Jvm.Cond.soleField "ShrinkYardModel" "alternativeMany") ∈ lw_all := lw_g (lw_at lw_m8 220 rfl) rfl
theorem q1934 : (Jvm.Cond.lays "ShrinkYardModel" "ShrinkYardModel" "end" "I") ∈ lw_all := lw_g (lw_at lw_m8 221 rfl) rfl
theorem q1935 : (Jvm.Cond.soleField "ShrinkYardModel" "end") ∈ lw_all := lw_g (lw_at lw_m8 222 rfl) rfl
theorem q1936 : (Jvm.Cond.lays "ShrinkYardModel" "ShrinkYardModel" "told" "I") ∈ lw_all := lw_g (lw_at lw_m8 223 rfl) rfl
theorem q1937 : (Jvm.Cond.soleField "ShrinkYardModel" "told") ∈ lw_all := lw_g (lw_at lw_m8 224 rfl) rfl
theorem q1938 : (Jvm.Cond.lays "ShrinkYardModel" "ShrinkYardModel" "steps" "I") ∈ lw_all := lw_g (lw_at lw_m8 225 rfl) rfl
theorem q1939 : (Jvm.Cond.soleField "ShrinkYardModel" "steps") ∈ lw_all := lw_g (lw_at lw_m8 226 rfl) rfl
theorem q1940 : (Jvm.Cond.laysFinal "ShrinkYardModel" "ShrinkYardModel" "edges" "[Z") ∈ lw_all := lw_g (lw_at lw_m8 227 rfl) rfl
theorem q1941 : (Jvm.Cond.soleField "ShrinkYardModel" "edges") ∈ lw_all := lw_g (lw_at lw_m8 228 rfl) rfl
theorem q1942 : (Jvm.Cond.laysFinal "ShrinkYardModel" "ShrinkYardModel" "held" "[I") ∈ lw_all := lw_g (lw_at lw_m8 229 rfl) rfl
theorem q1943 : (Jvm.Cond.soleField "ShrinkYardModel" "held") ∈ lw_all := lw_g (lw_at lw_m8 230 rfl) rfl
theorem q1944 : (Jvm.Cond.lays "ShrinkYardModel" "ShrinkYardModel" "runs" "I") ∈ lw_all := lw_g (lw_at lw_m8 231 rfl) rfl
theorem q1945 : (Jvm.Cond.soleField "ShrinkYardModel" "runs") ∈ lw_all := lw_g (lw_at lw_m8 232 rfl) rfl
theorem q1946 : (Jvm.Cond.lays "ShrinkYardModel" "ShrinkYardModel" "total" "J") ∈ lw_all := lw_g (lw_at lw_m8 233 rfl) rfl
theorem q1947 : (Jvm.Cond.soleField "ShrinkYardModel" "total") ∈ lw_all := lw_g (lw_at lw_m8 234 rfl) rfl
theorem q1948 : (Jvm.Cond.laysFinal "ShrinkYardModel" "ShrinkYardModel" "covered" "[Z") ∈ lw_all := lw_g (lw_at lw_m8 235 rfl) rfl
theorem q1949 : (Jvm.Cond.soleField "ShrinkYardModel" "covered") ∈ lw_all := lw_g (lw_at lw_m8 236 rfl) rfl
theorem q1950 : (Jvm.Cond.lays "ShrinkYardModel" "ShrinkYardModel" "kept" "[Ljava/lang/String;") ∈ lw_all := lw_g (lw_at lw_m8 237 rfl) rfl
theorem q1951 : (Jvm.Cond.soleField "ShrinkYardModel" "kept") ∈ lw_all := lw_g (lw_at lw_m8 238 rfl) rfl
theorem q1952 : (Jvm.Cond.lays "ShrinkYardModel" "ShrinkYardModel" "keptMany" "I") ∈ lw_all := lw_g (lw_at lw_m8 239 rfl) rfl
theorem q1953 : (Jvm.Cond.soleField "ShrinkYardModel" "keptMany") ∈ lw_all := lw_g (lw_at lw_m9 0 rfl) rfl
theorem q1954 : (Jvm.Cond.lays "ShrinkYardModel" "ShrinkYardModel" "first" "I") ∈ lw_all := lw_g (lw_at lw_m9 1 rfl) rfl
theorem q1955 : (Jvm.Cond.soleField "ShrinkYardModel" "first") ∈ lw_all := lw_g (lw_at lw_m9 2 rfl) rfl
theorem q1956 : (Jvm.Cond.lays "ShrinkYardModel" "ShrinkYardModel" "next" "I") ∈ lw_all := lw_g (lw_at lw_m9 3 rfl) rfl
theorem q1957 : (Jvm.Cond.soleField "ShrinkYardModel" "next") ∈ lw_all := lw_g (lw_at lw_m9 4 rfl) rfl
theorem q1958 : (Jvm.Cond.lays "ShrinkYardModel" "ShrinkYardModel" "found" "[Ljava/lang/String;") ∈ lw_all := lw_g (lw_at lw_m9 5 rfl) rfl
theorem q1959 : (Jvm.Cond.soleField "ShrinkYardModel" "found") ∈ lw_all := lw_g (lw_at lw_m9 6 rfl) rfl
theorem q1960 : (Jvm.Cond.lays "ShrinkYardModel" "ShrinkYardModel" "shrunkTo" "[Ljava/lang/String;") ∈ lw_all := lw_g (lw_at lw_m9 7 rfl) rfl
theorem q1961 : (Jvm.Cond.soleField "ShrinkYardModel" "shrunkTo") ∈ lw_all := lw_g (lw_at lw_m9 8 rfl) rfl
theorem q1962 : (Jvm.Cond.lays "ShrinkYardModel" "ShrinkYardModel" "codes" "[I") ∈ lw_all := lw_g (lw_at lw_m9 9 rfl) rfl
theorem q1963 : (Jvm.Cond.soleField "ShrinkYardModel" "codes") ∈ lw_all := lw_g (lw_at lw_m9 10 rfl) rfl
theorem q1964 : (Jvm.Cond.lays "ShrinkYardModel" "ShrinkYardModel" "foundMany" "I") ∈ lw_all := lw_g (lw_at lw_m9 11 rfl) rfl
theorem q1965 : (Jvm.Cond.soleField "ShrinkYardModel" "foundMany") ∈ lw_all := lw_g (lw_at lw_m9 12 rfl) rfl
theorem q1966 : (Jvm.Cond.lays "ShrinkYardModel" "ShrinkYardModel" "thrown" "I") ∈ lw_all := lw_g (lw_at lw_m9 13 rfl) rfl
theorem q1967 : (Jvm.Cond.soleField "ShrinkYardModel" "thrown") ∈ lw_all := lw_g (lw_at lw_m9 14 rfl) rfl
theorem q1968 : (Jvm.Cond.superclass "ShrinkYardModel" "java/lang/Object") ∈ lw_all := lw_g (lw_at lw_m9 15 rfl) rfl
theorem q1971 : (Jvm.Cond.instanceMethod ({ cls := "ShrinkYardModel", name := "thrown", desc := "()I" } : Jvm.MethodName)) ∈ lw_all := lw_g (lw_at lw_m9 18 rfl) rfl
theorem q1972 : (Jvm.Cond.selects "ShrinkYardModel" ({ cls := "ShrinkYardModel", name := "thrown", desc := "()I" } : Jvm.MethodName) ({ cls := "ShrinkYardModel", name := "thrown", desc := "()I" } : Jvm.MethodName)) ∈ lw_all := lw_g (lw_at lw_m9 19 rfl) rfl
theorem q1973 : (Jvm.Cond.code ({ cls := "ShrinkYardModel", name := "thrown", desc := "()I" } : Jvm.MethodName) prog_16_method_2_code (1 : Nat) (Option.some Jvm.ClassFile.FieldType.int)) ∈ lw_all := lw_g (lw_at lw_m9 20 rfl) rfl
theorem q1975 : (Jvm.Cond.instanceMethod ({ cls := "ShrinkYardModel", name := "add", desc := "(LInstruction;)I" } : Jvm.MethodName)) ∈ lw_all := lw_g (lw_at lw_m9 22 rfl) rfl
theorem q1976 : (Jvm.Cond.selects "ShrinkYardModel" ({ cls := "ShrinkYardModel", name := "add", desc := "(LInstruction;)I" } : Jvm.MethodName) ({ cls := "ShrinkYardModel", name := "add", desc := "(LInstruction;)I" } : Jvm.MethodName)) ∈ lw_all := lw_g (lw_at lw_m9 23 rfl) rfl
theorem q1977 : (Jvm.Cond.code ({ cls := "ShrinkYardModel", name := "add", desc := "(LInstruction;)I" } : Jvm.MethodName) prog_16_method_21_code (3 : Nat) (Option.some Jvm.ClassFile.FieldType.int)) ∈ lw_all := lw_g (lw_at lw_m9 24 rfl) rfl
theorem q1978 : (Jvm.Cond.methodLink "ShrinkYardModel" (206 : Nat) ({ cls := "Instruction", name := "register", desc := "()I" } : Jvm.MethodName)) ∈ lw_all := lw_g (lw_at lw_m9 25 rfl) rfl
theorem q1979 : (Jvm.Cond.constantLong "ShrinkYardModel" (211 : Nat) (3 : Int64)) ∈ lw_all := lw_g (lw_at lw_m9 26 rfl) rfl
theorem q1980 : (Jvm.Cond.methodLink "ShrinkYardModel" (213 : Nat) ({ cls := "ShrinkYardModel", name := "in", desc := "(JJJ)Z" } : Jvm.MethodName)) ∈ lw_all := lw_g (lw_at lw_m9 27 rfl) rfl
theorem q1981 : (Jvm.Cond.static ({ cls := "ShrinkYardModel", name := "in", desc := "(JJJ)Z" } : Jvm.MethodName)) ∈ lw_all := lw_g (lw_at lw_m9 28 rfl) rfl
theorem q1982 : (Jvm.Cond.code ({ cls := "ShrinkYardModel", name := "in", desc := "(JJJ)Z" } : Jvm.MethodName) prog_16_method_3_code (6 : Nat) (Option.some Jvm.ClassFile.FieldType.boolean)) ∈ lw_all := lw_g (lw_at lw_m9 29 rfl) rfl
theorem q1983 : (Jvm.Cond.methodLink "ShrinkYardModel" (217 : Nat) ({ cls := "Instruction", name := "value", desc := "()I" } : Jvm.MethodName)) ∈ lw_all := lw_g (lw_at lw_m9 30 rfl) rfl
theorem q1984 : (Jvm.Cond.constantLong "ShrinkYardModel" (220 : Nat) (-99 : Int64)) ∈ lw_all := lw_g (lw_at lw_m9 31 rfl) rfl
theorem q1985 : (Jvm.Cond.constantLong "ShrinkYardModel" (222 : Nat) (99 : Int64)) ∈ lw_all := lw_g (lw_at lw_m9 32 rfl) rfl
theorem q1986 : (Jvm.Cond.methodLink "ShrinkYardModel" (224 : Nat) ({ cls := "Instruction", name := "target", desc := "()I" } : Jvm.MethodName)) ∈ lw_all := lw_g (lw_at lw_m9 33 rfl) rfl
theorem q1987 : (Jvm.Cond.methodLink "ShrinkYardModel" (227 : Nat) ({ cls := "Instruction", name := "op", desc := "()LOp;" } : Jvm.MethodName)) ∈ lw_all := lw_g (lw_at lw_m9 34 rfl) rfl
theorem q1988 : (Jvm.Cond.fieldLink "ShrinkYardModel" (114 : Nat) "Op" "PLUS" "LOp;") ∈ lw_all := lw_g (lw_at lw_m9 35 rfl) rfl
theorem q1989 : (Jvm.Cond.constantLong "ShrinkYardModel" (231 : Nat) (31 : Int64)) ∈ lw_all := lw_g (lw_at lw_m9 36 rfl) rfl
theorem q1990 : (Jvm.Cond.methodLink "ShrinkYardModel" (84 : Nat) ({ cls := "Op", name := "ordinal", desc := "()I" } : Jvm.MethodName)) ∈ lw_all := lw_g (lw_at lw_m9 37 rfl) rfl
theorem q1992 : (Jvm.Cond.instanceMethod ({ cls := "ShrinkYardModel", name := "addChange", desc := "(LChange;II)I" } : Jvm.MethodName)) ∈ lw_all := lw_g (lw_at lw_m9 39 rfl) rfl
theorem q1993 : (Jvm.Cond.selects "ShrinkYardModel" ({ cls := "ShrinkYardModel", name := "addChange", desc := "(LChange;II)I" } : Jvm.MethodName) ({ cls := "ShrinkYardModel", name := "addChange", desc := "(LChange;II)I" } : Jvm.MethodName)) ∈ lw_all := lw_g (lw_at lw_m9 40 rfl) rfl
theorem q1994 : (Jvm.Cond.code ({ cls := "ShrinkYardModel", name := "addChange", desc := "(LChange;II)I" } : Jvm.MethodName) prog_16_method_22_code (4 : Nat) (Option.some Jvm.ClassFile.FieldType.int)) ∈ lw_all := lw_g (lw_at lw_m9 41 rfl) rfl
theorem q1995 : (Jvm.Cond.constantLong "ShrinkYardModel" (233 : Nat) (7 : Int64)) ∈ lw_all := lw_g (lw_at lw_m9 42 rfl) rfl
theorem q1996 : (Jvm.Cond.methodLink "ShrinkYardModel" (150 : Nat) ({ cls := "Change", name := "ordinal", desc := "()I" } : Jvm.MethodName)) ∈ lw_all := lw_g (lw_at lw_m9 43 rfl) rfl
theorem q1998 : (Jvm.Cond.instanceMethod ({ cls := "ShrinkYardModel", name := "addAlternative", desc := "(CLjava/lang/String;)I" } : Jvm.MethodName)) ∈ lw_all := lw_g (lw_at lw_m9 45 rfl) rfl
theorem q1999 : (Jvm.Cond.selects "ShrinkYardModel" ({ cls := "ShrinkYardModel", name := "addAlternative", desc := "(CLjava/lang/String;)I" } : Jvm.MethodName) ({ cls := "ShrinkYardModel", name := "addAlternative", desc := "(CLjava/lang/String;)I" } : Jvm.MethodName)) ∈ lw_all := lw_g (lw_at lw_m9 46 rfl) rfl
theorem q2000 : (Jvm.Cond.code ({ cls := "ShrinkYardModel", name := "addAlternative", desc := "(CLjava/lang/String;)I" } : Jvm.MethodName) prog_16_method_24_code (5 : Nat) (Option.some Jvm.ClassFile.FieldType.int)) ∈ lw_all := lw_g (lw_at lw_m9 47 rfl) rfl
theorem q2001 : (Jvm.Cond.methodLink "ShrinkYardModel" (238 : Nat) ({ cls := "ShrinkYardModel", name := "isSymbol", desc := "(C)Z" } : Jvm.MethodName)) ∈ lw_all := lw_g (lw_at lw_m9 48 rfl) rfl
theorem q2002 : (Jvm.Cond.static ({ cls := "ShrinkYardModel", name := "isSymbol", desc := "(C)Z" } : Jvm.MethodName)) ∈ lw_all := lw_g (lw_at lw_m9 49 rfl) rfl
theorem q2003 : (Jvm.Cond.code ({ cls := "ShrinkYardModel", name := "isSymbol", desc := "(C)Z" } : Jvm.MethodName) prog_16_method_23_code (1 : Nat) (Option.some Jvm.ClassFile.FieldType.boolean)) ∈ lw_all := lw_g (lw_at lw_m9 50 rfl) rfl
theorem q2004 : (Jvm.Cond.methodLink "ShrinkYardModel" (66 : Nat) ({ cls := "java/lang/String", name := "length", desc := "()I" } : Jvm.MethodName)) ∈ lw_all := lw_g (lw_at lw_m9 51 rfl) rfl
theorem q2005 : (Jvm.Cond.methodLink "ShrinkYardModel" (70 : Nat) ({ cls := "java/lang/String", name := "charAt", desc := "(I)C" } : Jvm.MethodName)) ∈ lw_all := lw_g (lw_at lw_m9 52 rfl) rfl
theorem q2006 : (Jvm.Cond.methodLink "ShrinkYardModel" (74 : Nat) ({ cls := "ShrinkYardModel", name := "isDigit", desc := "(C)Z" } : Jvm.MethodName)) ∈ lw_all := lw_g (lw_at lw_m9 53 rfl) rfl
theorem q2007 : (Jvm.Cond.static ({ cls := "ShrinkYardModel", name := "isDigit", desc := "(C)Z" } : Jvm.MethodName)) ∈ lw_all := lw_g (lw_at lw_m9 54 rfl) rfl
theorem q2008 : (Jvm.Cond.code ({ cls := "ShrinkYardModel", name := "isDigit", desc := "(C)Z" } : Jvm.MethodName) prog_16_method_4_code (1 : Nat) (Option.some Jvm.ClassFile.FieldType.boolean)) ∈ lw_all := lw_g (lw_at lw_m9 55 rfl) rfl
theorem q2010 : (Jvm.Cond.instanceMethod ({ cls := "ShrinkYardModel", name := "derive", desc := "(I)Ljava/lang/String;" } : Jvm.MethodName)) ∈ lw_all := lw_g (lw_at lw_m9 57 rfl) rfl
theorem q2011 : (Jvm.Cond.selects "ShrinkYardModel" ({ cls := "ShrinkYardModel", name := "derive", desc := "(I)Ljava/lang/String;" } : Jvm.MethodName) ({ cls := "ShrinkYardModel", name := "derive", desc := "(I)Ljava/lang/String;" } : Jvm.MethodName)) ∈ lw_all := lw_g (lw_at lw_m9 58 rfl) rfl
theorem q2012 : (Jvm.Cond.code ({ cls := "ShrinkYardModel", name := "derive", desc := "(I)Ljava/lang/String;" } : Jvm.MethodName) prog_16_method_27_code (8 : Nat) (Option.some (Jvm.ClassFile.FieldType.object "java/lang/String"))) ∈ lw_all := lw_g (lw_at lw_m9 59 rfl) rfl
theorem q2013 : (Jvm.Cond.stringRef "ShrinkYardModel" (244 : Nat) "A") ∈ lw_tbl := lw_at lw_m9 60 rfl
theorem q2014 : (Jvm.Cond.methodLink "ShrinkYardModel" (246 : Nat) ({ cls := "ShrinkYardModel", name := "symbolAt", desc := "(Ljava/lang/String;)I" } : Jvm.MethodName)) ∈ lw_all := lw_g (lw_at lw_m9 61 rfl) rfl
theorem q2015 : (Jvm.Cond.static ({ cls := "ShrinkYardModel", name := "symbolAt", desc := "(Ljava/lang/String;)I" } : Jvm.MethodName)) ∈ lw_all := lw_g (lw_at lw_m9 62 rfl) rfl
theorem q2016 : (Jvm.Cond.code ({ cls := "ShrinkYardModel", name := "symbolAt", desc := "(Ljava/lang/String;)I" } : Jvm.MethodName) prog_16_method_25_code (2 : Nat) (Option.some Jvm.ClassFile.FieldType.int)) ∈ lw_all := lw_g (lw_at lw_m9 63 rfl) rfl
theorem q2017 : (Jvm.Cond.methodLink "ShrinkYardModel" (249 : Nat) ({ cls := "ShrinkYardModel", name := "replaced", desc := "(Ljava/lang/String;ILjava/lang/String;)Ljava/lang/String;" } : Jvm.MethodName)) ∈ lw_all := lw_g (lw_at lw_m9 64 rfl) rfl
theorem q2018 : (Jvm.Cond.static ({ cls := "ShrinkYardModel", name := "replaced", desc := "(Ljava/lang/String;ILjava/lang/String;)Ljava/lang/String;" } : Jvm.MethodName)) ∈ lw_all := lw_g (lw_at lw_m9 65 rfl) rfl
theorem q2019 : (Jvm.Cond.code ({ cls := "ShrinkYardModel", name := "replaced", desc := "(Ljava/lang/String;ILjava/lang/String;)Ljava/lang/String;" } : Jvm.MethodName) prog_16_method_26_code (5 : Nat) (Option.some (Jvm.ClassFile.FieldType.object "java/lang/String"))) ∈ lw_all := lw_g (lw_at lw_m9 66 rfl) rfl
theorem q2020 : (Jvm.Cond.classLink "ShrinkYardModel" (133 : Nat) "java/lang/StringBuilder") ∈ lw_all := lw_g (lw_at lw_m9 67 rfl) rfl
theorem q2021 : (Jvm.Cond.methodLink "ShrinkYardModel" (135 : Nat) ({ cls := "java/lang/StringBuilder", name := "<init>", desc := "()V" } : Jvm.MethodName)) ∈ lw_all := lw_g (lw_at lw_m9 68 rfl) rfl
theorem q2022 : (Jvm.Cond.methodLink "ShrinkYardModel" (241 : Nat) ({ cls := "java/lang/StringBuilder", name := "append", desc := "(Ljava/lang/String;)Ljava/lang/StringBuilder;" } : Jvm.MethodName)) ∈ lw_all := lw_g (lw_at lw_m9 69 rfl) rfl
theorem q2023 : (Jvm.Cond.methodLink "ShrinkYardModel" (136 : Nat) ({ cls := "java/lang/StringBuilder", name := "append", desc := "(C)Ljava/lang/StringBuilder;" } : Jvm.MethodName)) ∈ lw_all := lw_g (lw_at lw_m9 70 rfl) rfl
theorem q2024 : (Jvm.Cond.methodLink "ShrinkYardModel" (140 : Nat) ({ cls := "java/lang/StringBuilder", name := "toString", desc := "()Ljava/lang/String;" } : Jvm.MethodName)) ∈ lw_all := lw_g (lw_at lw_m9 71 rfl) rfl
theorem q2025 : (Jvm.Cond.stringRef "ShrinkYardModel" (253 : Nat) "") ∈ lw_tbl := lw_at lw_m9 72 rfl
theorem q2027 : (Jvm.Cond.instanceMethod ({ cls := "ShrinkYardModel", name := "take", desc := "(Ljava/lang/String;)Z" } : Jvm.MethodName)) ∈ lw_all := lw_g (lw_at lw_m9 74 rfl) rfl
theorem q2028 : (Jvm.Cond.selects "ShrinkYardModel" ({ cls := "ShrinkYardModel", name := "take", desc := "(Ljava/lang/String;)Z" } : Jvm.MethodName) ({ cls := "ShrinkYardModel", name := "take", desc := "(Ljava/lang/String;)Z" } : Jvm.MethodName)) ∈ lw_all := lw_g (lw_at lw_m9 75 rfl) rfl
theorem q2029 : (Jvm.Cond.code ({ cls := "ShrinkYardModel", name := "take", desc := "(Ljava/lang/String;)Z" } : Jvm.MethodName) prog_16_method_28_code (2 : Nat) (Option.some Jvm.ClassFile.FieldType.boolean)) ∈ lw_all := lw_g (lw_at lw_m9 76 rfl) rfl
theorem q2030 : (Jvm.Cond.methodLink "ShrinkYardModel" (255 : Nat) ({ cls := "ShrinkYardModel", name := "isInput", desc := "(Ljava/lang/String;)Z" } : Jvm.MethodName)) ∈ lw_all := lw_g (lw_at lw_m9 77 rfl) rfl
theorem q2031 : (Jvm.Cond.static ({ cls := "ShrinkYardModel", name := "isInput", desc := "(Ljava/lang/String;)Z" } : Jvm.MethodName)) ∈ lw_all := lw_g (lw_at lw_m9 78 rfl) rfl
theorem q2032 : (Jvm.Cond.code ({ cls := "ShrinkYardModel", name := "isInput", desc := "(Ljava/lang/String;)Z" } : Jvm.MethodName) prog_16_method_5_code (3 : Nat) (Option.some Jvm.ClassFile.FieldType.boolean)) ∈ lw_all := lw_g (lw_at lw_m9 79 rfl) rfl
theorem q2033 : (Jvm.Cond.methodLink "ShrinkYardModel" (259 : Nat) ({ cls := "ShrinkYardModel", name := "takes", desc := "(Ljava/lang/String;)Z" } : Jvm.MethodName)) ∈ lw_all := lw_g (lw_at lw_m9 80 rfl) rfl
theorem q2034 : (Jvm.Cond.privateMethod ({ cls := "ShrinkYardModel", name := "takes", desc := "(Ljava/lang/String;)Z" } : Jvm.MethodName)) ∈ lw_tbl := lw_at lw_m9 81 rfl
theorem q2035 : (Jvm.Cond.instanceMethod ({ cls := "ShrinkYardModel", name := "takes", desc := "(Ljava/lang/String;)Z" } : Jvm.MethodName)) ∈ lw_all := lw_g (lw_at lw_m9 82 rfl) rfl
theorem q2036 : (Jvm.Cond.code ({ cls := "ShrinkYardModel", name := "takes", desc := "(Ljava/lang/String;)Z" } : Jvm.MethodName) prog_16_method_20_code (4 : Nat) (Option.some Jvm.ClassFile.FieldType.boolean)) ∈ lw_all := lw_g (lw_at lw_m9 83 rfl) rfl
theorem q2037 : (Jvm.Cond.methodLink "ShrinkYardModel" (168 : Nat) ({ cls := "ShrinkYardModel", name := "runs", desc := "(Ljava/lang/String;)V" } : Jvm.MethodName)) ∈ lw_all := lw_g (lw_at lw_m9 84 rfl) rfl
theorem q2038 : (Jvm.Cond.privateMethod ({ cls := "ShrinkYardModel", name := "runs", desc := "(Ljava/lang/String;)V" } : Jvm.MethodName)) ∈ lw_tbl := lw_at lw_m9 85 rfl
theorem q2039 : (Jvm.Cond.instanceMethod ({ cls := "ShrinkYardModel", name := "runs", desc := "(Ljava/lang/String;)V" } : Jvm.MethodName)) ∈ lw_all := lw_g (lw_at lw_m9 86 rfl) rfl
theorem q2040 : (Jvm.Cond.code ({ cls := "ShrinkYardModel", name := "runs", desc := "(Ljava/lang/String;)V" } : Jvm.MethodName) prog_16_method_7_code (8 : Nat) (Option.none : Option Jvm.ClassFile.FieldType)) ∈ lw_all := lw_g (lw_at lw_m9 87 rfl) rfl
theorem q2041 : (Jvm.Cond.fieldLink "ShrinkYardModel" (105 : Nat) "Op" "READ" "LOp;") ∈ lw_all := lw_g (lw_at lw_m9 88 rfl) rfl
theorem q2042 : (Jvm.Cond.fieldLink "ShrinkYardModel" (108 : Nat) "Op" "SET" "LOp;") ∈ lw_all := lw_g (lw_at lw_m9 89 rfl) rfl
theorem q2043 : (Jvm.Cond.fieldLink "ShrinkYardModel" (111 : Nat) "Op" "ADD" "LOp;") ∈ lw_all := lw_g (lw_at lw_m9 90 rfl) rfl
theorem q2044 : (Jvm.Cond.fieldLink "ShrinkYardModel" (117 : Nat) "Op" "FAIL" "LOp;") ∈ lw_all := lw_g (lw_at lw_m9 91 rfl) rfl
theorem q2045 : (Jvm.Cond.fieldLink "ShrinkYardModel" (120 : Nat) "Op" "STOP" "LOp;") ∈ lw_all := lw_g (lw_at lw_m9 92 rfl) rfl
theorem q2046 : (Jvm.Cond.methodLink "ShrinkYardModel" (123 : Nat) ({ cls := "ShrinkYardModel", name := "jumps", desc := "(I)Z" } : Jvm.MethodName)) ∈ lw_all := lw_g (lw_at lw_m9 93 rfl) rfl
theorem q2047 : (Jvm.Cond.privateMethod ({ cls := "ShrinkYardModel", name := "jumps", desc := "(I)Z" } : Jvm.MethodName)) ∈ lw_tbl := lw_at lw_m9 94 rfl
theorem q2048 : (Jvm.Cond.instanceMethod ({ cls := "ShrinkYardModel", name := "jumps", desc := "(I)Z" } : Jvm.MethodName)) ∈ lw_all := lw_g (lw_at lw_m9 95 rfl) rfl
theorem q2049 : (Jvm.Cond.code ({ cls := "ShrinkYardModel", name := "jumps", desc := "(I)Z" } : Jvm.MethodName) prog_16_method_6_code (4 : Nat) (Option.some Jvm.ClassFile.FieldType.boolean)) ∈ lw_all := lw_g (lw_at lw_m9 96 rfl) rfl
theorem q2050 : (Jvm.Cond.fieldLink "ShrinkYardModel" (78 : Nat) "Op" "JUMP" "LOp;") ∈ lw_all := lw_g (lw_at lw_m9 97 rfl) rfl
theorem q2051 : (Jvm.Cond.fieldLink "ShrinkYardModel" (87 : Nat) "Op" "LESS" "LOp;") ∈ lw_all := lw_g (lw_at lw_m9 98 rfl) rfl
theorem q2052 : (Jvm.Cond.fieldLink "ShrinkYardModel" (90 : Nat) "Op" "SAME" "LOp;") ∈ lw_all := lw_g (lw_at lw_m9 99 rfl) rfl
theorem q2053 : (Jvm.Cond.methodLink "ShrinkYardModel" (127 : Nat) ({ cls := "java/lang/Math", name := "min", desc := "(II)I" } : Jvm.MethodName)) ∈ lw_all := lw_g (lw_at lw_m9 100 rfl) rfl
theorem q2054 : (Jvm.Cond.methodLink "ShrinkYardModel" (186 : Nat) ({ cls := "ShrinkYardModel", name := "grown", desc := "([Ljava/lang/String;)[Ljava/lang/String;" } : Jvm.MethodName)) ∈ lw_all := lw_g (lw_at lw_m9 101 rfl) rfl
theorem q2055 : (Jvm.Cond.static ({ cls := "ShrinkYardModel", name := "grown", desc := "([Ljava/lang/String;)[Ljava/lang/String;" } : Jvm.MethodName)) ∈ lw_all := lw_g (lw_at lw_m9 102 rfl) rfl
theorem q2056 : (Jvm.Cond.code ({ cls := "ShrinkYardModel", name := "grown", desc := "([Ljava/lang/String;)[Ljava/lang/String;" } : Jvm.MethodName) prog_16_method_18_code (3 : Nat) (Option.some (Jvm.ClassFile.FieldType.array (Jvm.ClassFile.FieldType.object "java/lang/String")))) ∈ lw_all := lw_g (lw_at lw_m9 103 rfl) rfl
theorem q2057 : (Jvm.Cond.methodLink "ShrinkYardModel" (202 : Nat) ({ cls := "ShrinkYardModel", name := "finds", desc := "(Ljava/lang/String;I)V" } : Jvm.MethodName)) ∈ lw_all := lw_g (lw_at lw_m9 104 rfl) rfl
theorem q2058 : (Jvm.Cond.privateMethod ({ cls := "ShrinkYardModel", name := "finds", desc := "(Ljava/lang/String;I)V" } : Jvm.MethodName)) ∈ lw_tbl := lw_at lw_m9 105 rfl
theorem q2059 : (Jvm.Cond.instanceMethod ({ cls := "ShrinkYardModel", name := "finds", desc := "(Ljava/lang/String;I)V" } : Jvm.MethodName)) ∈ lw_all := lw_g (lw_at lw_m9 106 rfl) rfl
theorem q2060 : (Jvm.Cond.code ({ cls := "ShrinkYardModel", name := "finds", desc := "(Ljava/lang/String;I)V" } : Jvm.MethodName) prog_16_method_19_code (6 : Nat) (Option.none : Option Jvm.ClassFile.FieldType)) ∈ lw_all := lw_g (lw_at lw_m9 107 rfl) rfl
theorem q2061 : (Jvm.Cond.methodLink "ShrinkYardModel" (190 : Nat) ({ cls := "ShrinkYardModel", name := "shrinks", desc := "(Ljava/lang/String;I)Ljava/lang/String;" } : Jvm.MethodName)) ∈ lw_all := lw_g (lw_at lw_m9 108 rfl) rfl
theorem q2062 : (Jvm.Cond.privateMethod ({ cls := "ShrinkYardModel", name := "shrinks", desc := "(Ljava/lang/String;I)Ljava/lang/String;" } : Jvm.MethodName)) ∈ lw_tbl := lw_at lw_m9 109 rfl
theorem q2063 : (Jvm.Cond.instanceMethod ({ cls := "ShrinkYardModel", name := "shrinks", desc := "(Ljava/lang/String;I)Ljava/lang/String;" } : Jvm.MethodName)) ∈ lw_all := lw_g (lw_at lw_m9 110 rfl) rfl
theorem q2064 : (Jvm.Cond.code ({ cls := "ShrinkYardModel", name := "shrinks", desc := "(Ljava/lang/String;I)Ljava/lang/String;" } : Jvm.MethodName) prog_16_method_17_code (7 : Nat) (Option.some (Jvm.ClassFile.FieldType.object "java/lang/String"))) ∈ lw_all := lw_g (lw_at lw_m9 111 rfl) rfl
theorem q2065 : (Jvm.Cond.methodLink "ShrinkYardModel" (172 : Nat) ({ cls := "ShrinkYardModel", name := "reductionMany", desc := "(Ljava/lang/String;)I" } : Jvm.MethodName)) ∈ lw_all := lw_g (lw_at lw_m9 112 rfl) rfl
theorem q2066 : (Jvm.Cond.static ({ cls := "ShrinkYardModel", name := "reductionMany", desc := "(Ljava/lang/String;)I" } : Jvm.MethodName)) ∈ lw_all := lw_g (lw_at lw_m9 113 rfl) rfl
theorem q2067 : (Jvm.Cond.code ({ cls := "ShrinkYardModel", name := "reductionMany", desc := "(Ljava/lang/String;)I" } : Jvm.MethodName) prog_16_method_14_code (3 : Nat) (Option.some Jvm.ClassFile.FieldType.int)) ∈ lw_all := lw_g (lw_at lw_m9 114 rfl) rfl
theorem q2068 : (Jvm.Cond.methodLink "ShrinkYardModel" (176 : Nat) ({ cls := "ShrinkYardModel", name := "reduction", desc := "(Ljava/lang/String;I)Ljava/lang/String;" } : Jvm.MethodName)) ∈ lw_all := lw_g (lw_at lw_m9 115 rfl) rfl
theorem q2069 : (Jvm.Cond.static ({ cls := "ShrinkYardModel", name := "reduction", desc := "(Ljava/lang/String;I)Ljava/lang/String;" } : Jvm.MethodName)) ∈ lw_all := lw_g (lw_at lw_m9 116 rfl) rfl
theorem q2070 : (Jvm.Cond.code ({ cls := "ShrinkYardModel", name := "reduction", desc := "(Ljava/lang/String;I)Ljava/lang/String;" } : Jvm.MethodName) prog_16_method_15_code (4 : Nat) (Option.some (Jvm.ClassFile.FieldType.object "java/lang/String"))) ∈ lw_all := lw_g (lw_at lw_m9 117 rfl) rfl
theorem q2071 : (Jvm.Cond.methodLink "ShrinkYardModel" (164 : Nat) ({ cls := "ShrinkYardModel", name := "without", desc := "(Ljava/lang/String;I)Ljava/lang/String;" } : Jvm.MethodName)) ∈ lw_all := lw_g (lw_at lw_m9 118 rfl) rfl
theorem q2072 : (Jvm.Cond.static ({ cls := "ShrinkYardModel", name := "without", desc := "(Ljava/lang/String;I)Ljava/lang/String;" } : Jvm.MethodName)) ∈ lw_all := lw_g (lw_at lw_m9 119 rfl) rfl
theorem q2073 : (Jvm.Cond.code ({ cls := "ShrinkYardModel", name := "without", desc := "(Ljava/lang/String;I)Ljava/lang/String;" } : Jvm.MethodName) prog_16_method_9_code (4 : Nat) (Option.some (Jvm.ClassFile.FieldType.object "java/lang/String"))) ∈ lw_all := lw_g (lw_at lw_m9 120 rfl) rfl
theorem q2074 : (Jvm.Cond.methodLink "ShrinkYardModel" (157 : Nat) ({ cls := "ShrinkYardModel", name := "with", desc := "(Ljava/lang/String;IC)Ljava/lang/String;" } : Jvm.MethodName)) ∈ lw_all := lw_g (lw_at lw_m9 121 rfl) rfl
theorem q2075 : (Jvm.Cond.static ({ cls := "ShrinkYardModel", name := "with", desc := "(Ljava/lang/String;IC)Ljava/lang/String;" } : Jvm.MethodName)) ∈ lw_all := lw_g (lw_at lw_m9 122 rfl) rfl
theorem q2076 : (Jvm.Cond.code ({ cls := "ShrinkYardModel", name := "with", desc := "(Ljava/lang/String;IC)Ljava/lang/String;" } : Jvm.MethodName) prog_16_method_10_code (5 : Nat) (Option.some (Jvm.ClassFile.FieldType.object "java/lang/String"))) ∈ lw_all := lw_g (lw_at lw_m9 123 rfl) rfl
theorem q2077 : (Jvm.Cond.methodLink "ShrinkYardModel" (179 : Nat) ({ cls := "ShrinkYardModel", name := "failsWith", desc := "(Ljava/lang/String;I)Z" } : Jvm.MethodName)) ∈ lw_all := lw_g (lw_at lw_m9 124 rfl) rfl
theorem q2078 : (Jvm.Cond.privateMethod ({ cls := "ShrinkYardModel", name := "failsWith", desc := "(Ljava/lang/String;I)Z" } : Jvm.MethodName)) ∈ lw_tbl := lw_at lw_m9 125 rfl
theorem q2079 : (Jvm.Cond.instanceMethod ({ cls := "ShrinkYardModel", name := "failsWith", desc := "(Ljava/lang/String;I)Z" } : Jvm.MethodName)) ∈ lw_all := lw_g (lw_at lw_m9 126 rfl) rfl
theorem q2080 : (Jvm.Cond.code ({ cls := "ShrinkYardModel", name := "failsWith", desc := "(Ljava/lang/String;I)Z" } : Jvm.MethodName) prog_16_method_16_code (3 : Nat) (Option.some Jvm.ClassFile.FieldType.boolean)) ∈ lw_all := lw_g (lw_at lw_m9 127 rfl) rfl
theorem q2082 : (Jvm.Cond.instanceMethod ({ cls := "ShrinkYardModel", name := "takeDerived", desc := "(I)Z" } : Jvm.MethodName)) ∈ lw_all := lw_g (lw_at lw_m9 129 rfl) rfl
theorem q2083 : (Jvm.Cond.selects "ShrinkYardModel" ({ cls := "ShrinkYardModel", name := "takeDerived", desc := "(I)Z" } : Jvm.MethodName) ({ cls := "ShrinkYardModel", name := "takeDerived", desc := "(I)Z" } : Jvm.MethodName)) ∈ lw_all := lw_g (lw_at lw_m9 130 rfl) rfl
theorem q2084 : (Jvm.Cond.code ({ cls := "ShrinkYardModel", name := "takeDerived", desc := "(I)Z" } : Jvm.MethodName) prog_16_method_29_code (3 : Nat) (Option.some Jvm.ClassFile.FieldType.boolean)) ∈ lw_all := lw_g (lw_at lw_m9 131 rfl) rfl
theorem q2085 : (Jvm.Cond.methodLink "ShrinkYardModel" (262 : Nat) ({ cls := "ShrinkYardModel", name := "derive", desc := "(I)Ljava/lang/String;" } : Jvm.MethodName)) ∈ lw_all := lw_g (lw_at lw_m9 132 rfl) rfl
theorem q2087 : (Jvm.Cond.instanceMethod ({ cls := "ShrinkYardModel", name := "goOn", desc := "(I)I" } : Jvm.MethodName)) ∈ lw_all := lw_g (lw_at lw_m9 134 rfl) rfl
theorem q2088 : (Jvm.Cond.selects "ShrinkYardModel" ({ cls := "ShrinkYardModel", name := "goOn", desc := "(I)I" } : Jvm.MethodName) ({ cls := "ShrinkYardModel", name := "goOn", desc := "(I)I" } : Jvm.MethodName)) ∈ lw_all := lw_g (lw_at lw_m9 135 rfl) rfl
theorem q2089 : (Jvm.Cond.code ({ cls := "ShrinkYardModel", name := "goOn", desc := "(I)I" } : Jvm.MethodName) prog_16_method_30_code (4 : Nat) (Option.some Jvm.ClassFile.FieldType.int)) ∈ lw_all := lw_g (lw_at lw_m9 136 rfl) rfl
theorem q2090 : (Jvm.Cond.constantLong "ShrinkYardModel" (266 : Nat) (200 : Int64)) ∈ lw_all := lw_g (lw_at lw_m9 137 rfl) rfl
theorem q2091 : (Jvm.Cond.methodLink "ShrinkYardModel" (274 : Nat) ({ cls := "ShrinkYardModel", name := "applies", desc := "(IIILjava/lang/String;)Z" } : Jvm.MethodName)) ∈ lw_all := lw_g (lw_at lw_m9 138 rfl) rfl
theorem q2092 : (Jvm.Cond.static ({ cls := "ShrinkYardModel", name := "applies", desc := "(IIILjava/lang/String;)Z" } : Jvm.MethodName)) ∈ lw_all := lw_g (lw_at lw_m9 139 rfl) rfl
theorem q2093 : (Jvm.Cond.code ({ cls := "ShrinkYardModel", name := "applies", desc := "(IIILjava/lang/String;)Z" } : Jvm.MethodName) prog_16_method_12_code (5 : Nat) (Option.some Jvm.ClassFile.FieldType.boolean)) ∈ lw_all := lw_g (lw_at lw_m9 140 rfl) rfl
theorem q2094 : (Jvm.Cond.fieldLink "ShrinkYardModel" (144 : Nat) "Change" "REPLACE" "LChange;") ∈ lw_all := lw_g (lw_at lw_m9 141 rfl) rfl
theorem q2095 : (Jvm.Cond.fieldLink "ShrinkYardModel" (151 : Nat) "Change" "INSERT" "LChange;") ∈ lw_all := lw_g (lw_at lw_m9 142 rfl) rfl
theorem q2096 : (Jvm.Cond.fieldLink "ShrinkYardModel" (154 : Nat) "Change" "DELETE" "LChange;") ∈ lw_all := lw_g (lw_at lw_m9 143 rfl) rfl
theorem q2097 : (Jvm.Cond.methodLink "ShrinkYardModel" (278 : Nat) ({ cls := "ShrinkYardModel", name := "applied", desc := "(IIILjava/lang/String;)Ljava/lang/String;" } : Jvm.MethodName)) ∈ lw_all := lw_g (lw_at lw_m9 144 rfl) rfl
theorem q2098 : (Jvm.Cond.static ({ cls := "ShrinkYardModel", name := "applied", desc := "(IIILjava/lang/String;)Ljava/lang/String;" } : Jvm.MethodName)) ∈ lw_all := lw_g (lw_at lw_m9 145 rfl) rfl
theorem q2099 : (Jvm.Cond.code ({ cls := "ShrinkYardModel", name := "applied", desc := "(IIILjava/lang/String;)Ljava/lang/String;" } : Jvm.MethodName) prog_16_method_13_code (5 : Nat) (Option.some (Jvm.ClassFile.FieldType.object "java/lang/String"))) ∈ lw_all := lw_g (lw_at lw_m9 146 rfl) rfl
theorem q2100 : (Jvm.Cond.methodLink "ShrinkYardModel" (161 : Nat) ({ cls := "ShrinkYardModel", name := "putIn", desc := "(Ljava/lang/String;IC)Ljava/lang/String;" } : Jvm.MethodName)) ∈ lw_all := lw_g (lw_at lw_m9 147 rfl) rfl
theorem q2101 : (Jvm.Cond.static ({ cls := "ShrinkYardModel", name := "putIn", desc := "(Ljava/lang/String;IC)Ljava/lang/String;" } : Jvm.MethodName)) ∈ lw_all := lw_g (lw_at lw_m9 148 rfl) rfl
theorem q2102 : (Jvm.Cond.code ({ cls := "ShrinkYardModel", name := "putIn", desc := "(Ljava/lang/String;IC)Ljava/lang/String;" } : Jvm.MethodName) prog_16_method_11_code (5 : Nat) (Option.some (Jvm.ClassFile.FieldType.object "java/lang/String"))) ∈ lw_all := lw_g (lw_at lw_m9 149 rfl) rfl
theorem q2104 : (Jvm.Cond.instanceMethod ({ cls := "ShrinkYardModel", name := "reset", desc := "()I" } : Jvm.MethodName)) ∈ lw_all := lw_g (lw_at lw_m9 151 rfl) rfl
theorem q2105 : (Jvm.Cond.selects "ShrinkYardModel" ({ cls := "ShrinkYardModel", name := "reset", desc := "()I" } : Jvm.MethodName) ({ cls := "ShrinkYardModel", name := "reset", desc := "()I" } : Jvm.MethodName)) ∈ lw_all := lw_g (lw_at lw_m9 152 rfl) rfl
theorem q2106 : (Jvm.Cond.code ({ cls := "ShrinkYardModel", name := "reset", desc := "()I" } : Jvm.MethodName) prog_16_method_31_code (3 : Nat) (Option.some Jvm.ClassFile.FieldType.int)) ∈ lw_all := lw_g (lw_at lw_m9 153 rfl) rfl
theorem q2108 : (Jvm.Cond.instanceMethod ({ cls := "ShrinkYardModel", name := "runs", desc := "()I" } : Jvm.MethodName)) ∈ lw_all := lw_g (lw_at lw_m9 155 rfl) rfl
theorem q2109 : (Jvm.Cond.selects "ShrinkYardModel" ({ cls := "ShrinkYardModel", name := "runs", desc := "()I" } : Jvm.MethodName) ({ cls := "ShrinkYardModel", name := "runs", desc := "()I" } : Jvm.MethodName)) ∈ lw_all := lw_g (lw_at lw_m9 156 rfl) rfl
theorem q2110 : (Jvm.Cond.code ({ cls := "ShrinkYardModel", name := "runs", desc := "()I" } : Jvm.MethodName) prog_16_method_32_code (1 : Nat) (Option.some Jvm.ClassFile.FieldType.int)) ∈ lw_all := lw_g (lw_at lw_m9 157 rfl) rfl
theorem q2112 : (Jvm.Cond.instanceMethod ({ cls := "ShrinkYardModel", name := "totalSteps", desc := "()J" } : Jvm.MethodName)) ∈ lw_all := lw_g (lw_at lw_m9 159 rfl) rfl
theorem q2113 : (Jvm.Cond.selects "ShrinkYardModel" ({ cls := "ShrinkYardModel", name := "totalSteps", desc := "()J" } : Jvm.MethodName) ({ cls := "ShrinkYardModel", name := "totalSteps", desc := "()J" } : Jvm.MethodName)) ∈ lw_all := lw_g (lw_at lw_m9 160 rfl) rfl
theorem q2114 : (Jvm.Cond.code ({ cls := "ShrinkYardModel", name := "totalSteps", desc := "()J" } : Jvm.MethodName) prog_16_method_33_code (1 : Nat) (Option.some Jvm.ClassFile.FieldType.long)) ∈ lw_all := lw_g (lw_at lw_m9 161 rfl) rfl
theorem q2116 : (Jvm.Cond.instanceMethod ({ cls := "ShrinkYardModel", name := "covered", desc := "()I" } : Jvm.MethodName)) ∈ lw_all := lw_g (lw_at lw_m9 163 rfl) rfl
theorem q2117 : (Jvm.Cond.selects "ShrinkYardModel" ({ cls := "ShrinkYardModel", name := "covered", desc := "()I" } : Jvm.MethodName) ({ cls := "ShrinkYardModel", name := "covered", desc := "()I" } : Jvm.MethodName)) ∈ lw_all := lw_g (lw_at lw_m9 164 rfl) rfl
theorem q2118 : (Jvm.Cond.code ({ cls := "ShrinkYardModel", name := "covered", desc := "()I" } : Jvm.MethodName) prog_16_method_34_code (1 : Nat) (Option.some Jvm.ClassFile.FieldType.int)) ∈ lw_all := lw_g (lw_at lw_m9 165 rfl) rfl
theorem q2119 : (Jvm.Cond.methodLink "ShrinkYardModel" (282 : Nat) ({ cls := "ShrinkYardModel", name := "edgeMany", desc := "([Z)I" } : Jvm.MethodName)) ∈ lw_all := lw_g (lw_at lw_m9 166 rfl) rfl
theorem q2120 : (Jvm.Cond.privateMethod ({ cls := "ShrinkYardModel", name := "edgeMany", desc := "([Z)I" } : Jvm.MethodName)) ∈ lw_tbl := lw_at lw_m9 167 rfl
theorem q2121 : (Jvm.Cond.instanceMethod ({ cls := "ShrinkYardModel", name := "edgeMany", desc := "([Z)I" } : Jvm.MethodName)) ∈ lw_all := lw_g (lw_at lw_m9 168 rfl) rfl
theorem q2122 : (Jvm.Cond.code ({ cls := "ShrinkYardModel", name := "edgeMany", desc := "([Z)I" } : Jvm.MethodName) prog_16_method_8_code (4 : Nat) (Option.some Jvm.ClassFile.FieldType.int)) ∈ lw_all := lw_g (lw_at lw_m9 169 rfl) rfl
theorem q2124 : (Jvm.Cond.instanceMethod ({ cls := "ShrinkYardModel", name := "isCovered", desc := "(II)Z" } : Jvm.MethodName)) ∈ lw_all := lw_g (lw_at lw_m9 171 rfl) rfl
theorem q2125 : (Jvm.Cond.selects "ShrinkYardModel" ({ cls := "ShrinkYardModel", name := "isCovered", desc := "(II)Z" } : Jvm.MethodName) ({ cls := "ShrinkYardModel", name := "isCovered", desc := "(II)Z" } : Jvm.MethodName)) ∈ lw_all := lw_g (lw_at lw_m9 172 rfl) rfl
theorem q2126 : (Jvm.Cond.code ({ cls := "ShrinkYardModel", name := "isCovered", desc := "(II)Z" } : Jvm.MethodName) prog_16_method_35_code (3 : Nat) (Option.some Jvm.ClassFile.FieldType.boolean)) ∈ lw_all := lw_g (lw_at lw_m9 173 rfl) rfl
theorem q2128 : (Jvm.Cond.instanceMethod ({ cls := "ShrinkYardModel", name := "kept", desc := "()I" } : Jvm.MethodName)) ∈ lw_all := lw_g (lw_at lw_m9 175 rfl) rfl
theorem q2129 : (Jvm.Cond.selects "ShrinkYardModel" ({ cls := "ShrinkYardModel", name := "kept", desc := "()I" } : Jvm.MethodName) ({ cls := "ShrinkYardModel", name := "kept", desc := "()I" } : Jvm.MethodName)) ∈ lw_all := lw_g (lw_at lw_m9 176 rfl) rfl
theorem q2130 : (Jvm.Cond.code ({ cls := "ShrinkYardModel", name := "kept", desc := "()I" } : Jvm.MethodName) prog_16_method_36_code (1 : Nat) (Option.some Jvm.ClassFile.FieldType.int)) ∈ lw_all := lw_g (lw_at lw_m9 177 rfl) rfl
theorem q2132 : (Jvm.Cond.instanceMethod ({ cls := "ShrinkYardModel", name := "keptAt", desc := "(I)Ljava/lang/String;" } : Jvm.MethodName)) ∈ lw_all := lw_g (lw_at lw_m9 179 rfl) rfl
theorem q2133 : (Jvm.Cond.selects "ShrinkYardModel" ({ cls := "ShrinkYardModel", name := "keptAt", desc := "(I)Ljava/lang/String;" } : Jvm.MethodName) ({ cls := "ShrinkYardModel", name := "keptAt", desc := "(I)Ljava/lang/String;" } : Jvm.MethodName)) ∈ lw_all := lw_g (lw_at lw_m9 180 rfl) rfl
theorem q2134 : (Jvm.Cond.code ({ cls := "ShrinkYardModel", name := "keptAt", desc := "(I)Ljava/lang/String;" } : Jvm.MethodName) prog_16_method_37_code (2 : Nat) (Option.some (Jvm.ClassFile.FieldType.object "java/lang/String"))) ∈ lw_all := lw_g (lw_at lw_m9 181 rfl) rfl
theorem q2136 : (Jvm.Cond.instanceMethod ({ cls := "ShrinkYardModel", name := "queued", desc := "()I" } : Jvm.MethodName)) ∈ lw_all := lw_g (lw_at lw_m9 183 rfl) rfl
theorem q2137 : (Jvm.Cond.selects "ShrinkYardModel" ({ cls := "ShrinkYardModel", name := "queued", desc := "()I" } : Jvm.MethodName) ({ cls := "ShrinkYardModel", name := "queued", desc := "()I" } : Jvm.MethodName)) ∈ lw_all := lw_g (lw_at lw_m9 184 rfl) rfl
theorem q2138 : (Jvm.Cond.code ({ cls := "ShrinkYardModel", name := "queued", desc := "()I" } : Jvm.MethodName) prog_16_method_38_code (1 : Nat) (Option.some Jvm.ClassFile.FieldType.int)) ∈ lw_all := lw_g (lw_at lw_m9 185 rfl) rfl
theorem q2140 : (Jvm.Cond.instanceMethod ({ cls := "ShrinkYardModel", name := "findings", desc := "()I" } : Jvm.MethodName)) ∈ lw_all := lw_g (lw_at lw_m9 187 rfl) rfl
theorem q2141 : (Jvm.Cond.selects "ShrinkYardModel" ({ cls := "ShrinkYardModel", name := "findings", desc := "()I" } : Jvm.MethodName) ({ cls := "ShrinkYardModel", name := "findings", desc := "()I" } : Jvm.MethodName)) ∈ lw_all := lw_g (lw_at lw_m9 188 rfl) rfl
theorem q2142 : (Jvm.Cond.code ({ cls := "ShrinkYardModel", name := "findings", desc := "()I" } : Jvm.MethodName) prog_16_method_39_code (1 : Nat) (Option.some Jvm.ClassFile.FieldType.int)) ∈ lw_all := lw_g (lw_at lw_m9 189 rfl) rfl
theorem q2144 : (Jvm.Cond.instanceMethod ({ cls := "ShrinkYardModel", name := "findingAt", desc := "(I)LFinding;" } : Jvm.MethodName)) ∈ lw_all := lw_g (lw_at lw_m9 191 rfl) rfl
theorem q2145 : (Jvm.Cond.selects "ShrinkYardModel" ({ cls := "ShrinkYardModel", name := "findingAt", desc := "(I)LFinding;" } : Jvm.MethodName) ({ cls := "ShrinkYardModel", name := "findingAt", desc := "(I)LFinding;" } : Jvm.MethodName)) ∈ lw_all := lw_g (lw_at lw_m9 192 rfl) rfl
theorem q2146 : (Jvm.Cond.code ({ cls := "ShrinkYardModel", name := "findingAt", desc := "(I)LFinding;" } : Jvm.MethodName) prog_16_method_40_code (2 : Nat) (Option.some (Jvm.ClassFile.FieldType.object "Finding"))) ∈ lw_all := lw_g (lw_at lw_m9 193 rfl) rfl
theorem q2147 : (Jvm.Cond.classLink "ShrinkYardModel" (286 : Nat) "Finding") ∈ lw_all := lw_g (lw_at lw_m9 194 rfl) rfl
theorem q2148 : (Jvm.Cond.methodLink "ShrinkYardModel" (288 : Nat) ({ cls := "Finding", name := "<init>", desc := "(Ljava/lang/String;Ljava/lang/String;I)V" } : Jvm.MethodName)) ∈ lw_all := lw_g (lw_at lw_m9 195 rfl) rfl
theorem q2150 : (Jvm.Cond.instanceMethod ({ cls := "ShrinkYardModel", name := "verdict", desc := "(Ljava/lang/String;)LVerdict;" } : Jvm.MethodName)) ∈ lw_all := lw_g (lw_at lw_m9 197 rfl) rfl
theorem q2151 : (Jvm.Cond.selects "ShrinkYardModel" ({ cls := "ShrinkYardModel", name := "verdict", desc := "(Ljava/lang/String;)LVerdict;" } : Jvm.MethodName) ({ cls := "ShrinkYardModel", name := "verdict", desc := "(Ljava/lang/String;)LVerdict;" } : Jvm.MethodName)) ∈ lw_all := lw_g (lw_at lw_m9 198 rfl) rfl
theorem q2152 : (Jvm.Cond.code ({ cls := "ShrinkYardModel", name := "verdict", desc := "(Ljava/lang/String;)LVerdict;" } : Jvm.MethodName) prog_16_method_42_code (2 : Nat) (Option.some (Jvm.ClassFile.FieldType.object "Verdict"))) ∈ lw_all := lw_g (lw_at lw_m9 199 rfl) rfl
theorem q2153 : (Jvm.Cond.methodLink "ShrinkYardModel" (303 : Nat) ({ cls := "ShrinkYardModel", name := "verdictOf", desc := "(I)LVerdict;" } : Jvm.MethodName)) ∈ lw_all := lw_g (lw_at lw_m9 200 rfl) rfl
theorem q2154 : (Jvm.Cond.static ({ cls := "ShrinkYardModel", name := "verdictOf", desc := "(I)LVerdict;" } : Jvm.MethodName)) ∈ lw_all := lw_g (lw_at lw_m9 201 rfl) rfl
theorem q2155 : (Jvm.Cond.code ({ cls := "ShrinkYardModel", name := "verdictOf", desc := "(I)LVerdict;" } : Jvm.MethodName) prog_16_method_41_code (1 : Nat) (Option.some (Jvm.ClassFile.FieldType.object "Verdict"))) ∈ lw_all := lw_g (lw_at lw_m9 202 rfl) rfl
theorem q2156 : (Jvm.Cond.fieldLink "ShrinkYardModel" (291 : Nat) "Verdict" "PASSED" "LVerdict;") ∈ lw_all := lw_g (lw_at lw_m9 203 rfl) rfl
theorem q2157 : (Jvm.Cond.fieldLink "ShrinkYardModel" (297 : Nat) "Verdict" "FAILED" "LVerdict;") ∈ lw_all := lw_g (lw_at lw_m9 204 rfl) rfl
theorem q2158 : (Jvm.Cond.fieldLink "ShrinkYardModel" (300 : Nat) "Verdict" "HUNG" "LVerdict;") ∈ lw_all := lw_g (lw_at lw_m9 205 rfl) rfl
theorem q2160 : (Jvm.Cond.instanceMethod ({ cls := "ShrinkYardModel", name := "code", desc := "(Ljava/lang/String;)I" } : Jvm.MethodName)) ∈ lw_all := lw_g (lw_at lw_m9 207 rfl) rfl
theorem q2161 : (Jvm.Cond.selects "ShrinkYardModel" ({ cls := "ShrinkYardModel", name := "code", desc := "(Ljava/lang/String;)I" } : Jvm.MethodName) ({ cls := "ShrinkYardModel", name := "code", desc := "(Ljava/lang/String;)I" } : Jvm.MethodName)) ∈ lw_all := lw_g (lw_at lw_m9 208 rfl) rfl
theorem q2162 : (Jvm.Cond.code ({ cls := "ShrinkYardModel", name := "code", desc := "(Ljava/lang/String;)I" } : Jvm.MethodName) prog_16_method_44_code (2 : Nat) (Option.some Jvm.ClassFile.FieldType.int)) ∈ lw_all := lw_g (lw_at lw_m9 209 rfl) rfl
theorem q2163 : (Jvm.Cond.methodLink "ShrinkYardModel" (307 : Nat) ({ cls := "ShrinkYardModel", name := "isFailing", desc := "(Ljava/lang/String;)Z" } : Jvm.MethodName)) ∈ lw_all := lw_g (lw_at lw_m9 210 rfl) rfl
theorem q2164 : (Jvm.Cond.privateMethod ({ cls := "ShrinkYardModel", name := "isFailing", desc := "(Ljava/lang/String;)Z" } : Jvm.MethodName)) ∈ lw_tbl := lw_at lw_m9 211 rfl
theorem q2165 : (Jvm.Cond.instanceMethod ({ cls := "ShrinkYardModel", name := "isFailing", desc := "(Ljava/lang/String;)Z" } : Jvm.MethodName)) ∈ lw_all := lw_g (lw_at lw_m9 212 rfl) rfl
theorem q2166 : (Jvm.Cond.code ({ cls := "ShrinkYardModel", name := "isFailing", desc := "(Ljava/lang/String;)Z" } : Jvm.MethodName) prog_16_method_43_code (2 : Nat) (Option.some Jvm.ClassFile.FieldType.boolean)) ∈ lw_all := lw_g (lw_at lw_m9 213 rfl) rfl
theorem q2168 : (Jvm.Cond.instanceMethod ({ cls := "ShrinkYardModel", name := "steps", desc := "(Ljava/lang/String;)I" } : Jvm.MethodName)) ∈ lw_all := lw_g (lw_at lw_m9 215 rfl) rfl
theorem q2169 : (Jvm.Cond.selects "ShrinkYardModel" ({ cls := "ShrinkYardModel", name := "steps", desc := "(Ljava/lang/String;)I" } : Jvm.MethodName) ({ cls := "ShrinkYardModel", name := "steps", desc := "(Ljava/lang/String;)I" } : Jvm.MethodName)) ∈ lw_all := lw_g (lw_at lw_m9 216 rfl) rfl
theorem q2170 : (Jvm.Cond.code ({ cls := "ShrinkYardModel", name := "steps", desc := "(Ljava/lang/String;)I" } : Jvm.MethodName) prog_16_method_45_code (2 : Nat) (Option.some Jvm.ClassFile.FieldType.int)) ∈ lw_all := lw_g (lw_at lw_m9 217 rfl) rfl
theorem q2172 : (Jvm.Cond.instanceMethod ({ cls := "ShrinkYardModel", name := "edges", desc := "(Ljava/lang/String;)I" } : Jvm.MethodName)) ∈ lw_all := lw_g (lw_at lw_m9 219 rfl) rfl
theorem q2173 : (Jvm.Cond.selects "ShrinkYardModel" ({ cls := "ShrinkYardModel", name := "edges", desc := "(Ljava/lang/String;)I" } : Jvm.MethodName) ({ cls := "ShrinkYardModel", name := "edges", desc := "(Ljava/lang/String;)I" } : Jvm.MethodName)) ∈ lw_all := lw_g (lw_at lw_m9 220 rfl) rfl
theorem q2174 : (Jvm.Cond.code ({ cls := "ShrinkYardModel", name := "edges", desc := "(Ljava/lang/String;)I" } : Jvm.MethodName) prog_16_method_46_code (2 : Nat) (Option.some Jvm.ClassFile.FieldType.int)) ∈ lw_all := lw_g (lw_at lw_m9 221 rfl) rfl
theorem q2176 : (Jvm.Cond.instanceMethod ({ cls := "ShrinkYardModel", name := "changed", desc := "(LChange;IILjava/lang/String;)Ljava/lang/String;" } : Jvm.MethodName)) ∈ lw_all := lw_g (lw_at lw_m9 223 rfl) rfl
theorem q2177 : (Jvm.Cond.selects "ShrinkYardModel" ({ cls := "ShrinkYardModel", name := "changed", desc := "(LChange;IILjava/lang/String;)Ljava/lang/String;" } : Jvm.MethodName) ({ cls := "ShrinkYardModel", name := "changed", desc := "(LChange;IILjava/lang/String;)Ljava/lang/String;" } : Jvm.MethodName)) ∈ lw_all := lw_g (lw_at lw_m9 224 rfl) rfl
theorem q2178 : (Jvm.Cond.code ({ cls := "ShrinkYardModel", name := "changed", desc := "(LChange;IILjava/lang/String;)Ljava/lang/String;" } : Jvm.MethodName) prog_16_method_47_code (6 : Nat) (Option.some (Jvm.ClassFile.FieldType.object "java/lang/String"))) ∈ lw_all := lw_g (lw_at lw_m9 225 rfl) rfl
theorem q2180 : (Jvm.Cond.instanceMethod ({ cls := "ShrinkYardModel", name := "shrunk", desc := "(Ljava/lang/String;)Ljava/lang/String;" } : Jvm.MethodName)) ∈ lw_all := lw_g (lw_at lw_m9 227 rfl) rfl
theorem q2181 : (Jvm.Cond.selects "ShrinkYardModel" ({ cls := "ShrinkYardModel", name := "shrunk", desc := "(Ljava/lang/String;)Ljava/lang/String;" } : Jvm.MethodName) ({ cls := "ShrinkYardModel", name := "shrunk", desc := "(Ljava/lang/String;)Ljava/lang/String;" } : Jvm.MethodName)) ∈ lw_all := lw_g (lw_at lw_m9 228 rfl) rfl
theorem q2182 : (Jvm.Cond.code ({ cls := "ShrinkYardModel", name := "shrunk", desc := "(Ljava/lang/String;)Ljava/lang/String;" } : Jvm.MethodName) prog_16_method_48_code (2 : Nat) (Option.some (Jvm.ClassFile.FieldType.object "java/lang/String"))) ∈ lw_all := lw_g (lw_at lw_m9 229 rfl) rfl
theorem q2184 : (Jvm.Cond.instanceMethod ({ cls := "ShrinkYardModel", name := "failingReductions", desc := "(Ljava/lang/String;)I" } : Jvm.MethodName)) ∈ lw_all := lw_g (lw_at lw_m9 231 rfl) rfl
theorem q2185 : (Jvm.Cond.selects "ShrinkYardModel" ({ cls := "ShrinkYardModel", name := "failingReductions", desc := "(Ljava/lang/String;)I" } : Jvm.MethodName) ({ cls := "ShrinkYardModel", name := "failingReductions", desc := "(Ljava/lang/String;)I" } : Jvm.MethodName)) ∈ lw_all := lw_g (lw_at lw_m9 232 rfl) rfl
theorem q2186 : (Jvm.Cond.code ({ cls := "ShrinkYardModel", name := "failingReductions", desc := "(Ljava/lang/String;)I" } : Jvm.MethodName) prog_16_method_49_code (5 : Nat) (Option.some Jvm.ClassFile.FieldType.int)) ∈ lw_all := lw_g (lw_at lw_m9 233 rfl) rfl
theorem q2188 : (Jvm.Cond.instanceMethod ({ cls := "ShrinkYardModel", name := "smallest", desc := "(II)Ljava/lang/String;" } : Jvm.MethodName)) ∈ lw_all := lw_g (lw_at lw_m9 235 rfl) rfl
theorem q2189 : (Jvm.Cond.selects "ShrinkYardModel" ({ cls := "ShrinkYardModel", name := "smallest", desc := "(II)Ljava/lang/String;" } : Jvm.MethodName) ({ cls := "ShrinkYardModel", name := "smallest", desc := "(II)Ljava/lang/String;" } : Jvm.MethodName)) ∈ lw_all := lw_g (lw_at lw_m9 236 rfl) rfl
theorem q2190 : (Jvm.Cond.code ({ cls := "ShrinkYardModel", name := "smallest", desc := "(II)Ljava/lang/String;" } : Jvm.MethodName) prog_16_method_52_code (6 : Nat) (Option.some (Jvm.ClassFile.FieldType.object "java/lang/String"))) ∈ lw_all := lw_g (lw_at lw_m9 237 rfl) rfl
theorem q2191 : (Jvm.Cond.methodLink "ShrinkYardModel" (310 : Nat) ({ cls := "ShrinkYardModel", name := "inputMany", desc := "(I)I" } : Jvm.MethodName)) ∈ lw_all := lw_g (lw_at lw_m9 238 rfl) rfl
theorem q2192 : (Jvm.Cond.static ({ cls := "ShrinkYardModel", name := "inputMany", desc := "(I)I" } : Jvm.MethodName)) ∈ lw_all := lw_g (lw_at lw_m9 239 rfl) rfl
theorem q2193 : (Jvm.Cond.code ({ cls := "ShrinkYardModel", name := "inputMany", desc := "(I)I" } : Jvm.MethodName) prog_16_method_50_code (1 : Nat) (Option.some Jvm.ClassFile.FieldType.int)) ∈ lw_all := lw_g (lw_at lw_m10 0 rfl) rfl
theorem q2194 : (Jvm.Cond.methodLink "ShrinkYardModel" (314 : Nat) ({ cls := "ShrinkYardModel", name := "inputAt", desc := "(II)Ljava/lang/String;" } : Jvm.MethodName)) ∈ lw_all := lw_g (lw_at lw_m10 1 rfl) rfl
theorem q2195 : (Jvm.Cond.static ({ cls := "ShrinkYardModel", name := "inputAt", desc := "(II)Ljava/lang/String;" } : Jvm.MethodName)) ∈ lw_all := lw_g (lw_at lw_m10 2 rfl) rfl
theorem q2196 : (Jvm.Cond.code ({ cls := "ShrinkYardModel", name := "inputAt", desc := "(II)Ljava/lang/String;" } : Jvm.MethodName) prog_16_method_51_code (4 : Nat) (Option.some (Jvm.ClassFile.FieldType.object "java/lang/String"))) ∈ lw_all := lw_g (lw_at lw_m10 3 rfl) rfl
theorem q2198 : (Jvm.Cond.instanceMethod ({ cls := "ShrinkYardModel", name := "count", desc := "(LVerdict;I)I" } : Jvm.MethodName)) ∈ lw_all := lw_g (lw_at lw_m10 5 rfl) rfl
theorem q2199 : (Jvm.Cond.selects "ShrinkYardModel" ({ cls := "ShrinkYardModel", name := "count", desc := "(LVerdict;I)I" } : Jvm.MethodName) ({ cls := "ShrinkYardModel", name := "count", desc := "(LVerdict;I)I" } : Jvm.MethodName)) ∈ lw_all := lw_g (lw_at lw_m10 6 rfl) rfl
theorem q2200 : (Jvm.Cond.code ({ cls := "ShrinkYardModel", name := "count", desc := "(LVerdict;I)I" } : Jvm.MethodName) prog_16_method_53_code (6 : Nat) (Option.some Jvm.ClassFile.FieldType.int)) ∈ lw_all := lw_g (lw_at lw_m10 7 rfl) rfl
theorem q2202 : (Jvm.Cond.instanceMethod ({ cls := "ShrinkYardModel", name := "reachable", desc := "(I)I" } : Jvm.MethodName)) ∈ lw_all := lw_g (lw_at lw_m10 9 rfl) rfl
theorem q2203 : (Jvm.Cond.selects "ShrinkYardModel" ({ cls := "ShrinkYardModel", name := "reachable", desc := "(I)I" } : Jvm.MethodName) ({ cls := "ShrinkYardModel", name := "reachable", desc := "(I)I" } : Jvm.MethodName)) ∈ lw_all := lw_g (lw_at lw_m10 10 rfl) rfl
theorem q2204 : (Jvm.Cond.code ({ cls := "ShrinkYardModel", name := "reachable", desc := "(I)I" } : Jvm.MethodName) prog_16_method_54_code (6 : Nat) (Option.some Jvm.ClassFile.FieldType.int)) ∈ lw_all := lw_g (lw_at lw_m10 11 rfl) rfl
theorem q2206 : (Jvm.Cond.instanceMethod ({ cls := "ShrinkYardModel", name := "keptShare", desc := "()F" } : Jvm.MethodName)) ∈ lw_all := lw_g (lw_at lw_m10 13 rfl) rfl
theorem q2207 : (Jvm.Cond.selects "ShrinkYardModel" ({ cls := "ShrinkYardModel", name := "keptShare", desc := "()F" } : Jvm.MethodName) ({ cls := "ShrinkYardModel", name := "keptShare", desc := "()F" } : Jvm.MethodName)) ∈ lw_all := lw_g (lw_at lw_m10 14 rfl) rfl
theorem q2208 : (Jvm.Cond.code ({ cls := "ShrinkYardModel", name := "keptShare", desc := "()F" } : Jvm.MethodName) prog_16_method_55_code (1 : Nat) (Option.some Jvm.ClassFile.FieldType.float)) ∈ lw_all := lw_g (lw_at lw_m10 15 rfl) rfl
theorem q2210 : (Jvm.Cond.instanceMethod ({ cls := "ShrinkYardModel", name := "meanShrunk", desc := "()D" } : Jvm.MethodName)) ∈ lw_all := lw_g (lw_at lw_m10 17 rfl) rfl
theorem q2211 : (Jvm.Cond.selects "ShrinkYardModel" ({ cls := "ShrinkYardModel", name := "meanShrunk", desc := "()D" } : Jvm.MethodName) ({ cls := "ShrinkYardModel", name := "meanShrunk", desc := "()D" } : Jvm.MethodName)) ∈ lw_all := lw_g (lw_at lw_m10 18 rfl) rfl
theorem q2212 : (Jvm.Cond.code ({ cls := "ShrinkYardModel", name := "meanShrunk", desc := "()D" } : Jvm.MethodName) prog_16_method_56_code (3 : Nat) (Option.some Jvm.ClassFile.FieldType.double)) ∈ lw_all := lw_g (lw_at lw_m10 19 rfl) rfl
theorem q2244 : (Jvm.Cond.castable "ShrinkYardModel" "java/lang/Object") ∈ lw_tbl := lw_at lw_m10 51 rfl
theorem in_X3 : ∀ w ∈ wsX30, w ∈ lw_all := lw_in wsX30 [1912, 1914, 1916, 1918, 1920, 1922, 1924, 1926, 1928, 1930, 1932, 1934, 1936, 1938, 1940, 1942, 1944, 1946, 1948, 1950, 1952, 1954, 1956, 1958, 1960, 1962, 1964, 1966] (by decide +kernel) (by decide +kernel)
