/-! ShrinkYardLaw$Out -/
set_option maxRecDepth 100000
def RX4 : String := "ShrinkYardLaw$Out"
def TX4 : u_T := fun k => match k with
  | 0 => ("ShrinkYardLaw$Out", "n", "J", false)
  | 1 => ("ShrinkYardLaw$Out", "d", "D", false)
  | 2 => ("ShrinkYardLaw$Out", "s", "Ljava/lang/String;", false)
  | 3 => ("ShrinkYardLaw$Out", "theVerdict", "LVerdict;", false)
  | _ => ("ShrinkYardLaw$Out", "theFinding", "LFinding;", false)
def tyX4 : Nat → FieldType := fun k => match k with
  | 0 => .long
  | 1 => .double
  | 2 => .object "java/lang/String"
  | 3 => .object "Verdict"
  | _ => .object "Finding"
abbrev wsX40 : List Cond := u_ws RX4 TX4 5
theorem nmX4 : ∀ a, a < 5 → ∀ b, b < 5 → a ≠ b → (TX4 a).2.1 ≠ (TX4 b).2.1 := by decide +kernel
theorem tyX4_ok : ∀ k, k < 5 → parseFieldDescriptor (TX4 k).2.2.1 = some (tyX4 k) := by decide +kernel
abbrev cX4_init : ByteArray := prog_15_method_1_code
def yX4_init : MethodName := ⟨RX4, "<init>", "()V"⟩
theorem dX4_init_0 : decode cX4_init 0 = .ok (.aload_n 0, 1) := by decide +kernel
theorem dX4_init_1 : decode cX4_init 1 = .ok (.invokespecial 1, 3) := by decide +kernel
theorem dX4_init_4 : decode cX4_init 4 = .ok (.return_, 1) := by decide +kernel
theorem q48 : (Jvm.Cond.initialized "ShrinkYardLaw$Out") ∈ lw_all := lw_g (lw_at lw_m1 15 rfl) rfl
theorem q287 : (Jvm.Cond.selects "ShrinkYardLaw$Out" ({ cls := "java/lang/Object", name := "getClass", desc := "()Ljava/lang/Class;" } : Jvm.MethodName) ({ cls := "java/lang/Object", name := "getClass", desc := "()Ljava/lang/Class;" } : Jvm.MethodName)) ∈ lw_all := lw_g (lw_at lw_m2 14 rfl) rfl
theorem q461 : (Jvm.Cond.instantiable "ShrinkYardLaw$Out" (5 : Nat)) ∈ lw_all := lw_g (lw_at lw_m2 188 rfl) rfl
theorem q463 : (Jvm.Cond.instanceMethod ({ cls := "ShrinkYardLaw$Out", name := "<init>", desc := "()V" } : Jvm.MethodName)) ∈ lw_all := lw_g (lw_at lw_m2 190 rfl) rfl
theorem q464 : (Jvm.Cond.code ({ cls := "ShrinkYardLaw$Out", name := "<init>", desc := "()V" } : Jvm.MethodName) prog_15_method_1_code (1 : Nat) (Option.none : Option Jvm.ClassFile.FieldType)) ∈ lw_all := lw_g (lw_at lw_m2 191 rfl) rfl
theorem q465 : (Jvm.Cond.methodLink "ShrinkYardLaw$Out" (1 : Nat) ({ cls := "java/lang/Object", name := "<init>", desc := "()V" } : Jvm.MethodName)) ∈ lw_all := lw_g (lw_at lw_m2 192 rfl) rfl
theorem q471 : (Jvm.Cond.lays "ShrinkYardLaw$Out" "ShrinkYardLaw$Out" "n" "J") ∈ lw_all := lw_g (lw_at lw_m2 198 rfl) rfl
theorem q472 : (Jvm.Cond.soleField "ShrinkYardLaw$Out" "n") ∈ lw_all := lw_g (lw_at lw_m2 199 rfl) rfl
theorem q473 : (Jvm.Cond.lays "ShrinkYardLaw$Out" "ShrinkYardLaw$Out" "d" "D") ∈ lw_all := lw_g (lw_at lw_m2 200 rfl) rfl
theorem q474 : (Jvm.Cond.soleField "ShrinkYardLaw$Out" "d") ∈ lw_all := lw_g (lw_at lw_m2 201 rfl) rfl
theorem q475 : (Jvm.Cond.lays "ShrinkYardLaw$Out" "ShrinkYardLaw$Out" "s" "Ljava/lang/String;") ∈ lw_all := lw_g (lw_at lw_m2 202 rfl) rfl
theorem q476 : (Jvm.Cond.soleField "ShrinkYardLaw$Out" "s") ∈ lw_all := lw_g (lw_at lw_m2 203 rfl) rfl
theorem q477 : (Jvm.Cond.lays "ShrinkYardLaw$Out" "ShrinkYardLaw$Out" "theVerdict" "LVerdict;") ∈ lw_all := lw_g (lw_at lw_m2 204 rfl) rfl
theorem q478 : (Jvm.Cond.soleField "ShrinkYardLaw$Out" "theVerdict") ∈ lw_all := lw_g (lw_at lw_m2 205 rfl) rfl
theorem q479 : (Jvm.Cond.lays "ShrinkYardLaw$Out" "ShrinkYardLaw$Out" "theFinding" "LFinding;") ∈ lw_all := lw_g (lw_at lw_m2 206 rfl) rfl
theorem q480 : (Jvm.Cond.soleField "ShrinkYardLaw$Out" "theFinding") ∈ lw_all := lw_g (lw_at lw_m2 207 rfl) rfl
theorem q481 : (Jvm.Cond.superclass "ShrinkYardLaw$Out" "java/lang/Object") ∈ lw_all := lw_g (lw_at lw_m2 208 rfl) rfl
theorem q2245 : (Jvm.Cond.castable "ShrinkYardLaw$Out" "java/lang/Object") ∈ lw_tbl := lw_at lw_m10 52 rfl
theorem in_X4 : ∀ w ∈ wsX40, w ∈ lw_all := lw_in wsX40 [471, 473, 475, 477, 479] (by decide +kernel) (by decide +kernel)

/-! Instruction -/
set_option maxRecDepth 100000
def RX5 : String := "Instruction"
def TX5 : u_T := fun k => match k with
  | 0 => ("Instruction", "op", "LOp;", true)
  | 1 => ("Instruction", "register", "I", true)
  | 2 => ("Instruction", "value", "I", true)
  | _ => ("Instruction", "target", "I", true)
def tyX5 : Nat → FieldType := fun k => match k with
  | 0 => .object "Op"
  | 1 => .int
  | 2 => .int
  | _ => .int
abbrev wsX50 : List Cond := u_ws RX5 TX5 4
theorem nmX5 : ∀ a, a < 4 → ∀ b, b < 4 → a ≠ b → (TX5 a).2.1 ≠ (TX5 b).2.1 := by decide +kernel
theorem tyX5_ok : ∀ k, k < 4 → parseFieldDescriptor (TX5 k).2.2.1 = some (tyX5 k) := by decide +kernel
abbrev cX5_init : ByteArray := prog_3_method_1_code
def yX5_init : MethodName := ⟨RX5, "<init>", "(LOp;III)V"⟩
def dkwX5_init_1 : List UInt8 := [181, 0, 20, 177]
abbrev dktX5_init_1 : List UInt8 := dkwX5_init_1 ++ []
def dkwX5_init_0 : List UInt8 := [42, 183, 0, 1, 42, 43, 181, 0, 7, 42, 28, 181, 0, 13, 42, 29, 181, 0, 17, 42, 21, 4]
abbrev dktX5_init_0 : List UInt8 := dkwX5_init_0 ++ dktX5_init_1
theorem dksX5_init_0 : cX5_init.data.toList.drop 0 = dktX5_init_0 := by decide +kernel
theorem dksX5_init_1 : cX5_init.data.toList.drop 22 = dktX5_init_1 := dk_seg dksX5_init_0 22 rfl rfl
theorem dX5_init_0 : decode cX5_init 0 = .ok (.aload_n 0, 1) := dk_42 (dk_at dksX5_init_0 0 rfl rfl)
theorem dX5_init_1 : decode cX5_init 1 = .ok (.invokespecial 1, 3) := dk_183 0 1 (dk_at dksX5_init_0 1 rfl rfl)
theorem dX5_init_4 : decode cX5_init 4 = .ok (.aload_n 0, 1) := dk_42 (dk_at dksX5_init_0 4 rfl rfl)
theorem dX5_init_5 : decode cX5_init 5 = .ok (.aload_n 1, 1) := dk_43 (dk_at dksX5_init_0 5 rfl rfl)
theorem dX5_init_6 : decode cX5_init 6 = .ok (.putfield 7, 3) := dk_181 0 7 (dk_at dksX5_init_0 6 rfl rfl)
theorem dX5_init_9 : decode cX5_init 9 = .ok (.aload_n 0, 1) := dk_42 (dk_at dksX5_init_0 9 rfl rfl)
theorem dX5_init_10 : decode cX5_init 10 = .ok (.iload_n 2, 1) := dk_28 (dk_at dksX5_init_0 10 rfl rfl)
theorem dX5_init_11 : decode cX5_init 11 = .ok (.putfield 13, 3) := dk_181 0 13 (dk_at dksX5_init_0 11 rfl rfl)
theorem dX5_init_14 : decode cX5_init 14 = .ok (.aload_n 0, 1) := dk_42 (dk_at dksX5_init_0 14 rfl rfl)
theorem dX5_init_15 : decode cX5_init 15 = .ok (.iload_n 3, 1) := dk_29 (dk_at dksX5_init_0 15 rfl rfl)
theorem dX5_init_16 : decode cX5_init 16 = .ok (.putfield 17, 3) := dk_181 0 17 (dk_at dksX5_init_0 16 rfl rfl)
theorem dX5_init_19 : decode cX5_init 19 = .ok (.aload_n 0, 1) := dk_42 (dk_at dksX5_init_0 19 rfl rfl)
theorem dX5_init_20 : decode cX5_init 20 = .ok (.iload 4, 2) := dk_21 4 (dk_at dksX5_init_0 20 rfl rfl)
theorem dX5_init_22 : decode cX5_init 22 = .ok (.putfield 20, 3) := dk_181 0 20 (dk_at dksX5_init_1 0 rfl rfl)
theorem dX5_init_25 : decode cX5_init 25 = .ok (.return_, 1) := dk_177 (dk_at dksX5_init_1 3 rfl rfl)
abbrev cX5_op : ByteArray := prog_3_method_2_code
def yX5_op : MethodName := ⟨RX5, "op", "()LOp;"⟩
theorem dX5_op_0 : decode cX5_op 0 = .ok (.aload_n 0, 1) := by decide +kernel
theorem dX5_op_1 : decode cX5_op 1 = .ok (.getfield 7, 3) := by decide +kernel
theorem dX5_op_4 : decode cX5_op 4 = .ok (.areturn, 1) := by decide +kernel
abbrev cX5_register : ByteArray := prog_3_method_3_code
def yX5_register : MethodName := ⟨RX5, "register", "()I"⟩
theorem dX5_register_0 : decode cX5_register 0 = .ok (.aload_n 0, 1) := by decide +kernel
theorem dX5_register_1 : decode cX5_register 1 = .ok (.getfield 13, 3) := by decide +kernel
theorem dX5_register_4 : decode cX5_register 4 = .ok (.ireturn, 1) := by decide +kernel
abbrev cX5_value : ByteArray := prog_3_method_4_code
def yX5_value : MethodName := ⟨RX5, "value", "()I"⟩
theorem dX5_value_0 : decode cX5_value 0 = .ok (.aload_n 0, 1) := by decide +kernel
theorem dX5_value_1 : decode cX5_value 1 = .ok (.getfield 17, 3) := by decide +kernel
theorem dX5_value_4 : decode cX5_value 4 = .ok (.ireturn, 1) := by decide +kernel
abbrev cX5_target : ByteArray := prog_3_method_5_code
def yX5_target : MethodName := ⟨RX5, "target", "()I"⟩
theorem dX5_target_0 : decode cX5_target 0 = .ok (.aload_n 0, 1) := by decide +kernel
theorem dX5_target_1 : decode cX5_target 1 = .ok (.getfield 20, 3) := by decide +kernel
theorem dX5_target_4 : decode cX5_target 4 = .ok (.ireturn, 1) := by decide +kernel
theorem q49 : (Jvm.Cond.initialized "Instruction") ∈ lw_all := lw_g (lw_at lw_m1 16 rfl) rfl
theorem q99 : (Jvm.Cond.instantiable "Instruction" (4 : Nat)) ∈ lw_all := lw_g (lw_at lw_m1 66 rfl) rfl
theorem q101 : (Jvm.Cond.instanceMethod ({ cls := "Instruction", name := "<init>", desc := "(LOp;III)V" } : Jvm.MethodName)) ∈ lw_all := lw_g (lw_at lw_m1 68 rfl) rfl
theorem q102 : (Jvm.Cond.code ({ cls := "Instruction", name := "<init>", desc := "(LOp;III)V" } : Jvm.MethodName) prog_3_method_1_code (5 : Nat) (Option.none : Option Jvm.ClassFile.FieldType)) ∈ lw_all := lw_g (lw_at lw_m1 69 rfl) rfl
theorem q103 : (Jvm.Cond.methodLink "Instruction" (1 : Nat) ({ cls := "java/lang/Object", name := "<init>", desc := "()V" } : Jvm.MethodName)) ∈ lw_all := lw_g (lw_at lw_m1 70 rfl) rfl
theorem q106 : (Jvm.Cond.fieldLink "Instruction" (7 : Nat) "Instruction" "op" "LOp;") ∈ lw_all := lw_g (lw_at lw_m1 73 rfl) rfl
theorem q107 : (Jvm.Cond.fieldLink "Instruction" (13 : Nat) "Instruction" "register" "I") ∈ lw_all := lw_g (lw_at lw_m1 74 rfl) rfl
theorem q108 : (Jvm.Cond.fieldLink "Instruction" (17 : Nat) "Instruction" "value" "I") ∈ lw_all := lw_g (lw_at lw_m1 75 rfl) rfl
theorem q109 : (Jvm.Cond.fieldLink "Instruction" (20 : Nat) "Instruction" "target" "I") ∈ lw_all := lw_g (lw_at lw_m1 76 rfl) rfl
theorem q110 : (Jvm.Cond.laysFinal "Instruction" "Instruction" "op" "LOp;") ∈ lw_all := lw_g (lw_at lw_m1 77 rfl) rfl
theorem q111 : (Jvm.Cond.soleField "Instruction" "op") ∈ lw_all := lw_g (lw_at lw_m1 78 rfl) rfl
theorem q112 : (Jvm.Cond.laysFinal "Instruction" "Instruction" "register" "I") ∈ lw_all := lw_g (lw_at lw_m1 79 rfl) rfl
theorem q113 : (Jvm.Cond.soleField "Instruction" "register") ∈ lw_all := lw_g (lw_at lw_m1 80 rfl) rfl
theorem q114 : (Jvm.Cond.laysFinal "Instruction" "Instruction" "value" "I") ∈ lw_all := lw_g (lw_at lw_m1 81 rfl) rfl
theorem q115 : (Jvm.Cond.soleField "Instruction" "value") ∈ lw_all := lw_g (lw_at lw_m1 82 rfl) rfl
theorem q116 : (Jvm.Cond.laysFinal "Instruction" "Instruction" "target" "I") ∈ lw_all := lw_g (lw_at lw_m1 83 rfl) rfl
theorem q117 : (Jvm.Cond.soleField "Instruction" "target") ∈ lw_all := lw_g (lw_at lw_m1 84 rfl) rfl
theorem q118 : (Jvm.Cond.superclass "Instruction" "java/lang/Object") ∈ lw_all := lw_g (lw_at lw_m1 85 rfl) rfl
theorem q278 : (Jvm.Cond.selects "Instruction" ({ cls := "java/lang/Object", name := "getClass", desc := "()Ljava/lang/Class;" } : Jvm.MethodName) ({ cls := "java/lang/Object", name := "getClass", desc := "()Ljava/lang/Class;" } : Jvm.MethodName)) ∈ lw_all := lw_g (lw_at lw_m2 5 rfl) rfl
theorem q554 : (Jvm.Cond.instanceMethod ({ cls := "Instruction", name := "op", desc := "()LOp;" } : Jvm.MethodName)) ∈ lw_all := lw_g (lw_at lw_m3 41 rfl) rfl
theorem q555 : (Jvm.Cond.selects "Instruction" ({ cls := "Instruction", name := "op", desc := "()LOp;" } : Jvm.MethodName) ({ cls := "Instruction", name := "op", desc := "()LOp;" } : Jvm.MethodName)) ∈ lw_all := lw_g (lw_at lw_m3 42 rfl) rfl
theorem q556 : (Jvm.Cond.code ({ cls := "Instruction", name := "op", desc := "()LOp;" } : Jvm.MethodName) prog_3_method_2_code (1 : Nat) (Option.some (Jvm.ClassFile.FieldType.object "Op"))) ∈ lw_all := lw_g (lw_at lw_m3 43 rfl) rfl
theorem q559 : (Jvm.Cond.instanceMethod ({ cls := "Instruction", name := "register", desc := "()I" } : Jvm.MethodName)) ∈ lw_all := lw_g (lw_at lw_m3 46 rfl) rfl
theorem q560 : (Jvm.Cond.selects "Instruction" ({ cls := "Instruction", name := "register", desc := "()I" } : Jvm.MethodName) ({ cls := "Instruction", name := "register", desc := "()I" } : Jvm.MethodName)) ∈ lw_all := lw_g (lw_at lw_m3 47 rfl) rfl
theorem q561 : (Jvm.Cond.code ({ cls := "Instruction", name := "register", desc := "()I" } : Jvm.MethodName) prog_3_method_3_code (1 : Nat) (Option.some Jvm.ClassFile.FieldType.int)) ∈ lw_all := lw_g (lw_at lw_m3 48 rfl) rfl
theorem q566 : (Jvm.Cond.instanceMethod ({ cls := "Instruction", name := "value", desc := "()I" } : Jvm.MethodName)) ∈ lw_all := lw_g (lw_at lw_m3 53 rfl) rfl
theorem q567 : (Jvm.Cond.selects "Instruction" ({ cls := "Instruction", name := "value", desc := "()I" } : Jvm.MethodName) ({ cls := "Instruction", name := "value", desc := "()I" } : Jvm.MethodName)) ∈ lw_all := lw_g (lw_at lw_m3 54 rfl) rfl
theorem q568 : (Jvm.Cond.code ({ cls := "Instruction", name := "value", desc := "()I" } : Jvm.MethodName) prog_3_method_4_code (1 : Nat) (Option.some Jvm.ClassFile.FieldType.int)) ∈ lw_all := lw_g (lw_at lw_m3 55 rfl) rfl
theorem q570 : (Jvm.Cond.instanceMethod ({ cls := "Instruction", name := "target", desc := "()I" } : Jvm.MethodName)) ∈ lw_all := lw_g (lw_at lw_m3 57 rfl) rfl
theorem q571 : (Jvm.Cond.selects "Instruction" ({ cls := "Instruction", name := "target", desc := "()I" } : Jvm.MethodName) ({ cls := "Instruction", name := "target", desc := "()I" } : Jvm.MethodName)) ∈ lw_all := lw_g (lw_at lw_m3 58 rfl) rfl
theorem q572 : (Jvm.Cond.code ({ cls := "Instruction", name := "target", desc := "()I" } : Jvm.MethodName) prog_3_method_5_code (1 : Nat) (Option.some Jvm.ClassFile.FieldType.int)) ∈ lw_all := lw_g (lw_at lw_m3 59 rfl) rfl
theorem q2246 : (Jvm.Cond.castable "Instruction" "java/lang/Object") ∈ lw_tbl := lw_at lw_m10 53 rfl
theorem in_X5 : ∀ w ∈ wsX50, w ∈ lw_all := lw_in wsX50 [110, 112, 114, 116] (by decide +kernel) (by decide +kernel)

/-! ShrinkYard$Edit -/
set_option maxRecDepth 100000
def RX6 : String := "ShrinkYard$Edit"
abbrev cX6_of : ByteArray := prog_8_method_4_code
def yX6_of : MethodName := ⟨RX6, "of", "(LChange;II)LShrinkYard$Edit;"⟩
def dkwX6_of_4 : List UInt8 := [187, 0, 36, 89, 27, 183, 0, 38, 167, 0, 11, 187, 0, 41, 89, 27, 183, 0, 43, 176]
abbrev dktX6_of_4 : List UInt8 := dkwX6_of_4 ++ []
def dkwX6_of_3 : List UInt8 := [187, 0, 27, 89, 27, 28, 183, 0, 29, 167, 0, 34, 187, 0, 33, 89, 27, 28, 183, 0, 35, 167, 0, 22]
abbrev dktX6_of_3 : List UInt8 := dkwX6_of_3 ++ dktX6_of_4
def dkwX6_of_2 : List UInt8 := [170, 0, 0, 0, 0, 0, 0, 63, 0, 0, 0, 0, 0, 0, 0, 2, 0, 0, 0, 28, 0, 0, 0, 40, 0, 0, 0, 52]
abbrev dktX6_of_2 : List UInt8 := dkwX6_of_2 ++ dktX6_of_3
def dkwX6_of_1 : List UInt8 := [3, 184, 0, 17, 42, 182, 0, 21]
abbrev dktX6_of_1 : List UInt8 := dkwX6_of_1 ++ dktX6_of_2
def dkwX6_of_0 : List UInt8 := [27, 3, 16, 7, 184, 0, 13, 153, 0, 17, 28, 3, 16, 7, 184, 0, 13, 153, 0, 7, 4, 167, 0, 4]
abbrev dktX6_of_0 : List UInt8 := dkwX6_of_0 ++ dktX6_of_1
theorem dksX6_of_0 : cX6_of.data.toList.drop 0 = dktX6_of_0 := by decide +kernel
theorem dksX6_of_1 : cX6_of.data.toList.drop 24 = dktX6_of_1 := dk_seg dksX6_of_0 24 rfl rfl
theorem dksX6_of_2 : cX6_of.data.toList.drop 32 = dktX6_of_2 := dk_seg dksX6_of_1 8 rfl rfl
theorem dksX6_of_3 : cX6_of.data.toList.drop 60 = dktX6_of_3 := dk_seg dksX6_of_2 28 rfl rfl
theorem dksX6_of_4 : cX6_of.data.toList.drop 84 = dktX6_of_4 := dk_seg dksX6_of_3 24 rfl rfl
theorem dX6_of_0 : decode cX6_of 0 = .ok (.iload_n 1, 1) := dk_27 (dk_at dksX6_of_0 0 rfl rfl)
theorem dX6_of_1 : decode cX6_of 1 = .ok (.iconst 0, 1) := dk_3 (dk_at dksX6_of_0 1 rfl rfl)
theorem dX6_of_2 : decode cX6_of 2 = .ok (.bipush 7, 2) := dk_16 7 (dk_at dksX6_of_0 2 rfl rfl)
theorem dX6_of_4 : decode cX6_of 4 = .ok (.invokestatic 13, 3) := dk_184 0 13 (dk_at dksX6_of_0 4 rfl rfl)
theorem dX6_of_7 : decode cX6_of 7 = .ok (.ifCond .eq 17, 3) := dk_153 0 17 (dk_at dksX6_of_0 7 rfl rfl)
theorem dX6_of_10 : decode cX6_of 10 = .ok (.iload_n 2, 1) := dk_28 (dk_at dksX6_of_0 10 rfl rfl)
theorem dX6_of_11 : decode cX6_of 11 = .ok (.iconst 0, 1) := dk_3 (dk_at dksX6_of_0 11 rfl rfl)
theorem dX6_of_12 : decode cX6_of 12 = .ok (.bipush 7, 2) := dk_16 7 (dk_at dksX6_of_0 12 rfl rfl)
theorem dX6_of_14 : decode cX6_of 14 = .ok (.invokestatic 13, 3) := dk_184 0 13 (dk_at dksX6_of_0 14 rfl rfl)
theorem dX6_of_17 : decode cX6_of 17 = .ok (.ifCond .eq 7, 3) := dk_153 0 7 (dk_at dksX6_of_0 17 rfl rfl)
theorem dX6_of_20 : decode cX6_of 20 = .ok (.iconst 1, 1) := dk_4 (dk_at dksX6_of_0 20 rfl rfl)
theorem dX6_of_21 : decode cX6_of 21 = .ok (.goto 4, 3) := dk_167 0 4 (dk_at dksX6_of_0 21 rfl rfl)
theorem dX6_of_24 : decode cX6_of 24 = .ok (.iconst 0, 1) := dk_3 (dk_at dksX6_of_1 0 rfl rfl)
theorem dX6_of_25 : decode cX6_of 25 = .ok (.invokestatic 17, 3) := dk_184 0 17 (dk_at dksX6_of_1 1 rfl rfl)
theorem dX6_of_28 : decode cX6_of 28 = .ok (.aload_n 0, 1) := dk_42 (dk_at dksX6_of_1 4 rfl rfl)
theorem dX6_of_29 : decode cX6_of 29 = .ok (.invokevirtual 21, 3) := dk_182 0 21 (dk_at dksX6_of_1 5 rfl rfl)
theorem dX6_of_32 : decode cX6_of 32 = .ok (.tableswitch 63 0 2 #[28, 40, 52], 28) := by decide +kernel
theorem dX6_of_60 : decode cX6_of 60 = .ok (.new 27, 3) := dk_187 0 27 (dk_at dksX6_of_3 0 rfl rfl)
theorem dX6_of_63 : decode cX6_of 63 = .ok (.dup, 1) := dk_89 (dk_at dksX6_of_3 3 rfl rfl)
theorem dX6_of_64 : decode cX6_of 64 = .ok (.iload_n 1, 1) := dk_27 (dk_at dksX6_of_3 4 rfl rfl)
theorem dX6_of_65 : decode cX6_of 65 = .ok (.iload_n 2, 1) := dk_28 (dk_at dksX6_of_3 5 rfl rfl)
theorem dX6_of_66 : decode cX6_of 66 = .ok (.invokespecial 29, 3) := dk_183 0 29 (dk_at dksX6_of_3 6 rfl rfl)
theorem dX6_of_69 : decode cX6_of 69 = .ok (.goto 34, 3) := dk_167 0 34 (dk_at dksX6_of_3 9 rfl rfl)
theorem dX6_of_72 : decode cX6_of 72 = .ok (.new 33, 3) := dk_187 0 33 (dk_at dksX6_of_3 12 rfl rfl)
theorem dX6_of_75 : decode cX6_of 75 = .ok (.dup, 1) := dk_89 (dk_at dksX6_of_3 15 rfl rfl)
theorem dX6_of_76 : decode cX6_of 76 = .ok (.iload_n 1, 1) := dk_27 (dk_at dksX6_of_3 16 rfl rfl)
theorem dX6_of_77 : decode cX6_of 77 = .ok (.iload_n 2, 1) := dk_28 (dk_at dksX6_of_3 17 rfl rfl)
theorem dX6_of_78 : decode cX6_of 78 = .ok (.invokespecial 35, 3) := dk_183 0 35 (dk_at dksX6_of_3 18 rfl rfl)
theorem dX6_of_81 : decode cX6_of 81 = .ok (.goto 22, 3) := dk_167 0 22 (dk_at dksX6_of_3 21 rfl rfl)
theorem dX6_of_84 : decode cX6_of 84 = .ok (.new 36, 3) := dk_187 0 36 (dk_at dksX6_of_4 0 rfl rfl)
theorem dX6_of_87 : decode cX6_of 87 = .ok (.dup, 1) := dk_89 (dk_at dksX6_of_4 3 rfl rfl)
theorem dX6_of_88 : decode cX6_of 88 = .ok (.iload_n 1, 1) := dk_27 (dk_at dksX6_of_4 4 rfl rfl)
theorem dX6_of_89 : decode cX6_of 89 = .ok (.invokespecial 38, 3) := dk_183 0 38 (dk_at dksX6_of_4 5 rfl rfl)
theorem dX6_of_92 : decode cX6_of 92 = .ok (.goto 11, 3) := dk_167 0 11 (dk_at dksX6_of_4 8 rfl rfl)
theorem dX6_of_95 : decode cX6_of 95 = .ok (.new 41, 3) := dk_187 0 41 (dk_at dksX6_of_4 11 rfl rfl)
theorem dX6_of_98 : decode cX6_of 98 = .ok (.dup, 1) := dk_89 (dk_at dksX6_of_4 14 rfl rfl)
theorem dX6_of_99 : decode cX6_of 99 = .ok (.iload_n 1, 1) := dk_27 (dk_at dksX6_of_4 15 rfl rfl)
theorem dX6_of_100 : decode cX6_of 100 = .ok (.invokespecial 43, 3) := dk_183 0 43 (dk_at dksX6_of_4 16 rfl rfl)
theorem dX6_of_103 : decode cX6_of 103 = .ok (.areturn, 1) := dk_176 (dk_at dksX6_of_4 19 rfl rfl)
abbrev cX6_isDone : ByteArray := prog_8_method_3_code
def yX6_isDone : MethodName := ⟨RX6, "isDone", "(LShrinkYard$Digits;)Z"⟩
def dkwX6_isDone_0 : List UInt8 := [42, 43, 185, 0, 3, 2, 0, 61, 28, 153, 0, 10, 42, 43, 185, 0, 9, 2, 0, 28, 172]
abbrev dktX6_isDone_0 : List UInt8 := dkwX6_isDone_0 ++ []
theorem dksX6_isDone_0 : cX6_isDone.data.toList.drop 0 = dktX6_isDone_0 := by decide +kernel
theorem dX6_isDone_0 : decode cX6_isDone 0 = .ok (.aload_n 0, 1) := dk_42 (dk_at dksX6_isDone_0 0 rfl rfl)
theorem dX6_isDone_1 : decode cX6_isDone 1 = .ok (.aload_n 1, 1) := dk_43 (dk_at dksX6_isDone_0 1 rfl rfl)
theorem dX6_isDone_2 : decode cX6_isDone 2 = .ok (.invokeinterface 3 2, 5) := by decide +kernel
theorem dX6_isDone_7 : decode cX6_isDone 7 = .ok (.istore_n 2, 1) := dk_61 (dk_at dksX6_isDone_0 7 rfl rfl)
theorem dX6_isDone_8 : decode cX6_isDone 8 = .ok (.iload_n 2, 1) := dk_28 (dk_at dksX6_isDone_0 8 rfl rfl)
theorem dX6_isDone_9 : decode cX6_isDone 9 = .ok (.ifCond .eq 10, 3) := dk_153 0 10 (dk_at dksX6_isDone_0 9 rfl rfl)
theorem dX6_isDone_12 : decode cX6_isDone 12 = .ok (.aload_n 0, 1) := dk_42 (dk_at dksX6_isDone_0 12 rfl rfl)
theorem dX6_isDone_13 : decode cX6_isDone 13 = .ok (.aload_n 1, 1) := dk_43 (dk_at dksX6_isDone_0 13 rfl rfl)
theorem dX6_isDone_14 : decode cX6_isDone 14 = .ok (.invokeinterface 9 2, 5) := by decide +kernel
theorem dX6_isDone_19 : decode cX6_isDone 19 = .ok (.iload_n 2, 1) := dk_28 (dk_at dksX6_isDone_0 19 rfl rfl)
theorem dX6_isDone_20 : decode cX6_isDone 20 = .ok (.ireturn, 1) := dk_172 (dk_at dksX6_isDone_0 20 rfl rfl)
theorem q58 : (Jvm.Cond.initialized "ShrinkYard$Edit") ∈ lw_all := lw_g (lw_at lw_m1 25 rfl) rfl
theorem q670 : (Jvm.Cond.static ({ cls := "ShrinkYard$Edit", name := "of", desc := "(LChange;II)LShrinkYard$Edit;" } : Jvm.MethodName)) ∈ lw_all := lw_g (lw_at lw_m3 157 rfl) rfl
theorem q671 : (Jvm.Cond.code ({ cls := "ShrinkYard$Edit", name := "of", desc := "(LChange;II)LShrinkYard$Edit;" } : Jvm.MethodName) prog_8_method_4_code (3 : Nat) (Option.some (Jvm.ClassFile.FieldType.object "ShrinkYard$Edit"))) ∈ lw_all := lw_g (lw_at lw_m3 158 rfl) rfl
theorem q672 : (Jvm.Cond.methodLinkNest "ShrinkYard$Edit" (13 : Nat) ({ cls := "ShrinkYard", name := "isIn", desc := "(III)Z" } : Jvm.MethodName) "ShrinkYard") ∈ lw_tbl := lw_at lw_m3 159 rfl
theorem q673 : (Jvm.Cond.methodLinkNest "ShrinkYard$Edit" (17 : Nat) ({ cls := "ShrinkYard", name := "requireArgument", desc := "(Z)V" } : Jvm.MethodName) "ShrinkYard") ∈ lw_tbl := lw_at lw_m3 160 rfl
theorem q674 : (Jvm.Cond.methodLink "ShrinkYard$Edit" (21 : Nat) ({ cls := "Change", name := "ordinal", desc := "()I" } : Jvm.MethodName)) ∈ lw_all := lw_g (lw_at lw_m3 161 rfl) rfl
theorem q680 : (Jvm.Cond.classLink "ShrinkYard$Edit" (27 : Nat) "ShrinkYard$Replacing") ∈ lw_all := lw_g (lw_at lw_m3 167 rfl) rfl
theorem q682 : (Jvm.Cond.methodLink "ShrinkYard$Edit" (29 : Nat) ({ cls := "ShrinkYard$Replacing", name := "<init>", desc := "(II)V" } : Jvm.MethodName)) ∈ lw_all := lw_g (lw_at lw_m3 169 rfl) rfl
theorem q693 : (Jvm.Cond.classLink "ShrinkYard$Edit" (33 : Nat) "ShrinkYard$Inserting") ∈ lw_all := lw_g (lw_at lw_m3 180 rfl) rfl
theorem q695 : (Jvm.Cond.methodLink "ShrinkYard$Edit" (35 : Nat) ({ cls := "ShrinkYard$Inserting", name := "<init>", desc := "(II)V" } : Jvm.MethodName)) ∈ lw_all := lw_g (lw_at lw_m3 182 rfl) rfl
theorem q706 : (Jvm.Cond.classLink "ShrinkYard$Edit" (36 : Nat) "ShrinkYard$Deleting") ∈ lw_all := lw_g (lw_at lw_m3 193 rfl) rfl
theorem q708 : (Jvm.Cond.methodLink "ShrinkYard$Edit" (38 : Nat) ({ cls := "ShrinkYard$Deleting", name := "<init>", desc := "(I)V" } : Jvm.MethodName)) ∈ lw_all := lw_g (lw_at lw_m3 195 rfl) rfl
theorem q716 : (Jvm.Cond.classLink "ShrinkYard$Edit" (41 : Nat) "ShrinkYard$Swapping") ∈ lw_all := lw_g (lw_at lw_m3 203 rfl) rfl
theorem q718 : (Jvm.Cond.methodLink "ShrinkYard$Edit" (43 : Nat) ({ cls := "ShrinkYard$Swapping", name := "<init>", desc := "(I)V" } : Jvm.MethodName)) ∈ lw_all := lw_g (lw_at lw_m3 205 rfl) rfl
theorem q1591 : (Jvm.Cond.interfaceMethod "ShrinkYard$Edit" "ShrinkYard$Edit" "isDone" "(LShrinkYard$Digits;)Z") ∈ lw_tbl := lw_at lw_m7 118 rfl
theorem q1592 : (Jvm.Cond.declares ({ cls := "ShrinkYard$Edit", name := "isDone", desc := "(LShrinkYard$Digits;)Z" } : Jvm.MethodName)) ∈ lw_tbl := lw_at lw_m7 119 rfl
theorem q1595 : (Jvm.Cond.instanceMethod ({ cls := "ShrinkYard$Edit", name := "isDone", desc := "(LShrinkYard$Digits;)Z" } : Jvm.MethodName)) ∈ lw_all := lw_g (lw_at lw_m7 122 rfl) rfl
theorem q1596 : (Jvm.Cond.publicMethod ({ cls := "ShrinkYard$Edit", name := "isDone", desc := "(LShrinkYard$Digits;)Z" } : Jvm.MethodName)) ∈ lw_tbl := lw_at lw_m7 123 rfl
theorem q1597 : (Jvm.Cond.code ({ cls := "ShrinkYard$Edit", name := "isDone", desc := "(LShrinkYard$Digits;)Z" } : Jvm.MethodName) prog_8_method_3_code (3 : Nat) (Option.some Jvm.ClassFile.FieldType.boolean)) ∈ lw_all := lw_g (lw_at lw_m7 124 rfl) rfl
theorem q1598 : (Jvm.Cond.interfaceEntry "ShrinkYard$Edit" (3 : Nat)) ∈ lw_tbl := lw_at lw_m7 125 rfl
theorem q1599 : (Jvm.Cond.methodLink "ShrinkYard$Edit" (3 : Nat) ({ cls := "ShrinkYard$Edit", name := "fits", desc := "(LShrinkYard$Digits;)Z" } : Jvm.MethodName)) ∈ lw_all := lw_g (lw_at lw_m7 126 rfl) rfl
theorem q1600 : (Jvm.Cond.interfaceMethod "ShrinkYard$Edit" "ShrinkYard$Edit" "fits" "(LShrinkYard$Digits;)Z") ∈ lw_tbl := lw_at lw_m7 127 rfl
theorem q1601 : (Jvm.Cond.declares ({ cls := "ShrinkYard$Edit", name := "fits", desc := "(LShrinkYard$Digits;)Z" } : Jvm.MethodName)) ∈ lw_tbl := lw_at lw_m7 128 rfl
theorem q1661 : (Jvm.Cond.interfaceEntry "ShrinkYard$Edit" (9 : Nat)) ∈ lw_tbl := lw_at lw_m7 188 rfl
theorem q1662 : (Jvm.Cond.methodLink "ShrinkYard$Edit" (9 : Nat) ({ cls := "ShrinkYard$Edit", name := "act", desc := "(LShrinkYard$Digits;)V" } : Jvm.MethodName)) ∈ lw_all := lw_g (lw_at lw_m7 189 rfl) rfl
theorem q1663 : (Jvm.Cond.interfaceMethod "ShrinkYard$Edit" "ShrinkYard$Edit" "act" "(LShrinkYard$Digits;)V") ∈ lw_tbl := lw_at lw_m7 190 rfl
theorem q1664 : (Jvm.Cond.declares ({ cls := "ShrinkYard$Edit", name := "act", desc := "(LShrinkYard$Digits;)V" } : Jvm.MethodName)) ∈ lw_tbl := lw_at lw_m7 191 rfl

/-! ShrinkYard$Replacing -/
set_option maxRecDepth 100000
def RX7 : String := "ShrinkYard$Replacing"
def TX7 : u_T := fun k => match k with
  | 0 => ("ShrinkYard$Replacing", "place", "I", true)
  | _ => ("ShrinkYard$Replacing", "digit", "I", true)
def tyX7 : Nat → FieldType := fun k => match k with
  | 0 => .int
  | _ => .int
abbrev wsX70 : List Cond := u_ws RX7 TX7 2
theorem nmX7 : ∀ a, a < 2 → ∀ b, b < 2 → a ≠ b → (TX7 a).2.1 ≠ (TX7 b).2.1 := by decide +kernel
theorem tyX7_ok : ∀ k, k < 2 → parseFieldDescriptor (TX7 k).2.2.1 = some (tyX7 k) := by decide +kernel
abbrev cX7_init : ByteArray := prog_12_method_1_code
def yX7_init : MethodName := ⟨RX7, "<init>", "(II)V"⟩
def dkwX7_init_0 : List UInt8 := [42, 183, 0, 1, 42, 27, 181, 0, 7, 42, 28, 181, 0, 13, 177]
abbrev dktX7_init_0 : List UInt8 := dkwX7_init_0 ++ []
theorem dksX7_init_0 : cX7_init.data.toList.drop 0 = dktX7_init_0 := by decide +kernel
theorem dX7_init_0 : decode cX7_init 0 = .ok (.aload_n 0, 1) := dk_42 (dk_at dksX7_init_0 0 rfl rfl)
theorem dX7_init_1 : decode cX7_init 1 = .ok (.invokespecial 1, 3) := dk_183 0 1 (dk_at dksX7_init_0 1 rfl rfl)
theorem dX7_init_4 : decode cX7_init 4 = .ok (.aload_n 0, 1) := dk_42 (dk_at dksX7_init_0 4 rfl rfl)
theorem dX7_init_5 : decode cX7_init 5 = .ok (.iload_n 1, 1) := dk_27 (dk_at dksX7_init_0 5 rfl rfl)
theorem dX7_init_6 : decode cX7_init 6 = .ok (.putfield 7, 3) := dk_181 0 7 (dk_at dksX7_init_0 6 rfl rfl)
theorem dX7_init_9 : decode cX7_init 9 = .ok (.aload_n 0, 1) := dk_42 (dk_at dksX7_init_0 9 rfl rfl)
theorem dX7_init_10 : decode cX7_init 10 = .ok (.iload_n 2, 1) := dk_28 (dk_at dksX7_init_0 10 rfl rfl)
theorem dX7_init_11 : decode cX7_init 11 = .ok (.putfield 13, 3) := dk_181 0 13 (dk_at dksX7_init_0 11 rfl rfl)
theorem dX7_init_14 : decode cX7_init 14 = .ok (.return_, 1) := dk_177 (dk_at dksX7_init_0 14 rfl rfl)
abbrev cX7_place : ByteArray := prog_12_method_2_code
def yX7_place : MethodName := ⟨RX7, "place", "()I"⟩
theorem dX7_place_0 : decode cX7_place 0 = .ok (.aload_n 0, 1) := by decide +kernel
theorem dX7_place_1 : decode cX7_place 1 = .ok (.getfield 7, 3) := by decide +kernel
theorem dX7_place_4 : decode cX7_place 4 = .ok (.ireturn, 1) := by decide +kernel
abbrev cX7_fits : ByteArray := prog_12_method_3_code
def yX7_fits : MethodName := ⟨RX7, "fits", "(LShrinkYard$Digits;)Z"⟩
def dkwX7_fits_1 : List UInt8 := [159, 0, 7, 4, 167, 0, 4, 3, 172]
abbrev dktX7_fits_1 : List UInt8 := dkwX7_fits_1 ++ []
def dkwX7_fits_0 : List UInt8 := [42, 43, 3, 182, 0, 16, 153, 0, 23, 43, 180, 0, 20, 42, 180, 0, 7, 46, 42, 180, 0, 13]
abbrev dktX7_fits_0 : List UInt8 := dkwX7_fits_0 ++ dktX7_fits_1
theorem dksX7_fits_0 : cX7_fits.data.toList.drop 0 = dktX7_fits_0 := by decide +kernel
theorem dksX7_fits_1 : cX7_fits.data.toList.drop 22 = dktX7_fits_1 := dk_seg dksX7_fits_0 22 rfl rfl
theorem dX7_fits_0 : decode cX7_fits 0 = .ok (.aload_n 0, 1) := dk_42 (dk_at dksX7_fits_0 0 rfl rfl)
theorem dX7_fits_1 : decode cX7_fits 1 = .ok (.aload_n 1, 1) := dk_43 (dk_at dksX7_fits_0 1 rfl rfl)
theorem dX7_fits_2 : decode cX7_fits 2 = .ok (.iconst 0, 1) := dk_3 (dk_at dksX7_fits_0 2 rfl rfl)
theorem dX7_fits_3 : decode cX7_fits 3 = .ok (.invokevirtual 16, 3) := dk_182 0 16 (dk_at dksX7_fits_0 3 rfl rfl)
theorem dX7_fits_6 : decode cX7_fits 6 = .ok (.ifCond .eq 23, 3) := dk_153 0 23 (dk_at dksX7_fits_0 6 rfl rfl)
theorem dX7_fits_9 : decode cX7_fits 9 = .ok (.aload_n 1, 1) := dk_43 (dk_at dksX7_fits_0 9 rfl rfl)
theorem dX7_fits_10 : decode cX7_fits 10 = .ok (.getfield 20, 3) := dk_180 0 20 (dk_at dksX7_fits_0 10 rfl rfl)
theorem dX7_fits_13 : decode cX7_fits 13 = .ok (.aload_n 0, 1) := dk_42 (dk_at dksX7_fits_0 13 rfl rfl)
theorem dX7_fits_14 : decode cX7_fits 14 = .ok (.getfield 7, 3) := dk_180 0 7 (dk_at dksX7_fits_0 14 rfl rfl)
theorem dX7_fits_17 : decode cX7_fits 17 = .ok (.iaload, 1) := dk_46 (dk_at dksX7_fits_0 17 rfl rfl)
theorem dX7_fits_18 : decode cX7_fits 18 = .ok (.aload_n 0, 1) := dk_42 (dk_at dksX7_fits_0 18 rfl rfl)
theorem dX7_fits_19 : decode cX7_fits 19 = .ok (.getfield 13, 3) := dk_180 0 13 (dk_at dksX7_fits_0 19 rfl rfl)
theorem dX7_fits_22 : decode cX7_fits 22 = .ok (.if_icmp .eq 7, 3) := dk_159 0 7 (dk_at dksX7_fits_1 0 rfl rfl)
theorem dX7_fits_25 : decode cX7_fits 25 = .ok (.iconst 1, 1) := dk_4 (dk_at dksX7_fits_1 3 rfl rfl)
theorem dX7_fits_26 : decode cX7_fits 26 = .ok (.goto 4, 3) := dk_167 0 4 (dk_at dksX7_fits_1 4 rfl rfl)
theorem dX7_fits_29 : decode cX7_fits 29 = .ok (.iconst 0, 1) := dk_3 (dk_at dksX7_fits_1 7 rfl rfl)
theorem dX7_fits_30 : decode cX7_fits 30 = .ok (.ireturn, 1) := dk_172 (dk_at dksX7_fits_1 8 rfl rfl)
abbrev cX7_act : ByteArray := prog_12_method_4_code
def yX7_act : MethodName := ⟨RX7, "act", "(LShrinkYard$Digits;)V"⟩
def dkwX7_act_0 : List UInt8 := [43, 180, 0, 20, 42, 180, 0, 7, 42, 180, 0, 13, 79, 177]
abbrev dktX7_act_0 : List UInt8 := dkwX7_act_0 ++ []
theorem dksX7_act_0 : cX7_act.data.toList.drop 0 = dktX7_act_0 := by decide +kernel
theorem dX7_act_0 : decode cX7_act 0 = .ok (.aload_n 1, 1) := dk_43 (dk_at dksX7_act_0 0 rfl rfl)
theorem dX7_act_1 : decode cX7_act 1 = .ok (.getfield 20, 3) := dk_180 0 20 (dk_at dksX7_act_0 1 rfl rfl)
theorem dX7_act_4 : decode cX7_act 4 = .ok (.aload_n 0, 1) := dk_42 (dk_at dksX7_act_0 4 rfl rfl)
theorem dX7_act_5 : decode cX7_act 5 = .ok (.getfield 7, 3) := dk_180 0 7 (dk_at dksX7_act_0 5 rfl rfl)
theorem dX7_act_8 : decode cX7_act 8 = .ok (.aload_n 0, 1) := dk_42 (dk_at dksX7_act_0 8 rfl rfl)
theorem dX7_act_9 : decode cX7_act 9 = .ok (.getfield 13, 3) := dk_180 0 13 (dk_at dksX7_act_0 9 rfl rfl)
theorem dX7_act_12 : decode cX7_act 12 = .ok (.iastore, 1) := dk_79 (dk_at dksX7_act_0 12 rfl rfl)
theorem dX7_act_13 : decode cX7_act 13 = .ok (.return_, 1) := dk_177 (dk_at dksX7_act_0 13 rfl rfl)
theorem q59 : (Jvm.Cond.initialized "ShrinkYard$Replacing") ∈ lw_all := lw_g (lw_at lw_m1 26 rfl) rfl
theorem q285 : (Jvm.Cond.selects "ShrinkYard$Replacing" ({ cls := "java/lang/Object", name := "getClass", desc := "()Ljava/lang/Class;" } : Jvm.MethodName) ({ cls := "java/lang/Object", name := "getClass", desc := "()Ljava/lang/Class;" } : Jvm.MethodName)) ∈ lw_all := lw_g (lw_at lw_m2 12 rfl) rfl
theorem q681 : (Jvm.Cond.instantiable "ShrinkYard$Replacing" (2 : Nat)) ∈ lw_all := lw_g (lw_at lw_m3 168 rfl) rfl
theorem q683 : (Jvm.Cond.instanceMethod ({ cls := "ShrinkYard$Replacing", name := "<init>", desc := "(II)V" } : Jvm.MethodName)) ∈ lw_all := lw_g (lw_at lw_m3 170 rfl) rfl
theorem q684 : (Jvm.Cond.code ({ cls := "ShrinkYard$Replacing", name := "<init>", desc := "(II)V" } : Jvm.MethodName) prog_12_method_1_code (3 : Nat) (Option.none : Option Jvm.ClassFile.FieldType)) ∈ lw_all := lw_g (lw_at lw_m3 171 rfl) rfl
theorem q685 : (Jvm.Cond.methodLink "ShrinkYard$Replacing" (1 : Nat) ({ cls := "java/lang/Object", name := "<init>", desc := "()V" } : Jvm.MethodName)) ∈ lw_all := lw_g (lw_at lw_m3 172 rfl) rfl
theorem q686 : (Jvm.Cond.fieldLink "ShrinkYard$Replacing" (7 : Nat) "ShrinkYard$Replacing" "place" "I") ∈ lw_all := lw_g (lw_at lw_m3 173 rfl) rfl
theorem q687 : (Jvm.Cond.fieldLink "ShrinkYard$Replacing" (13 : Nat) "ShrinkYard$Replacing" "digit" "I") ∈ lw_all := lw_g (lw_at lw_m3 174 rfl) rfl
theorem q688 : (Jvm.Cond.laysFinal "ShrinkYard$Replacing" "ShrinkYard$Replacing" "place" "I") ∈ lw_all := lw_g (lw_at lw_m3 175 rfl) rfl
theorem q689 : (Jvm.Cond.soleField "ShrinkYard$Replacing" "place") ∈ lw_all := lw_g (lw_at lw_m3 176 rfl) rfl
theorem q690 : (Jvm.Cond.laysFinal "ShrinkYard$Replacing" "ShrinkYard$Replacing" "digit" "I") ∈ lw_all := lw_g (lw_at lw_m3 177 rfl) rfl
theorem q691 : (Jvm.Cond.soleField "ShrinkYard$Replacing" "digit") ∈ lw_all := lw_g (lw_at lw_m3 178 rfl) rfl
theorem q692 : (Jvm.Cond.superclass "ShrinkYard$Replacing" "java/lang/Object") ∈ lw_all := lw_g (lw_at lw_m3 179 rfl) rfl
theorem q1164 : (Jvm.Cond.fieldLinkNest "ShrinkYard$Replacing" (20 : Nat) "ShrinkYard$Digits" "digits" "[I" "ShrinkYard") ∈ lw_tbl := lw_at lw_m5 171 rfl
theorem q1628 : (Jvm.Cond.castable "ShrinkYard$Replacing" "ShrinkYard$Placed") ∈ lw_tbl := lw_at lw_m7 155 rfl
theorem q1629 : (Jvm.Cond.selects "ShrinkYard$Replacing" ({ cls := "ShrinkYard$Placed", name := "place", desc := "()I" } : Jvm.MethodName) ({ cls := "ShrinkYard$Replacing", name := "place", desc := "()I" } : Jvm.MethodName)) ∈ lw_all := lw_g (lw_at lw_m7 156 rfl) rfl
theorem q1630 : (Jvm.Cond.unhidden "ShrinkYard$Replacing" "place" "()I") ∈ lw_tbl := lw_at lw_m7 157 rfl
theorem q1631 : (Jvm.Cond.instanceMethod ({ cls := "ShrinkYard$Replacing", name := "place", desc := "()I" } : Jvm.MethodName)) ∈ lw_all := lw_g (lw_at lw_m7 158 rfl) rfl
theorem q1632 : (Jvm.Cond.publicMethod ({ cls := "ShrinkYard$Replacing", name := "place", desc := "()I" } : Jvm.MethodName)) ∈ lw_tbl := lw_at lw_m7 159 rfl
theorem q1633 : (Jvm.Cond.code ({ cls := "ShrinkYard$Replacing", name := "place", desc := "()I" } : Jvm.MethodName) prog_12_method_2_code (1 : Nat) (Option.some Jvm.ClassFile.FieldType.int)) ∈ lw_all := lw_g (lw_at lw_m7 160 rfl) rfl
theorem q1647 : (Jvm.Cond.castable "ShrinkYard$Replacing" "ShrinkYard$Edit") ∈ lw_tbl := lw_at lw_m7 174 rfl
theorem q1648 : (Jvm.Cond.selects "ShrinkYard$Replacing" ({ cls := "ShrinkYard$Edit", name := "fits", desc := "(LShrinkYard$Digits;)Z" } : Jvm.MethodName) ({ cls := "ShrinkYard$Replacing", name := "fits", desc := "(LShrinkYard$Digits;)Z" } : Jvm.MethodName)) ∈ lw_all := lw_g (lw_at lw_m7 175 rfl) rfl
theorem q1649 : (Jvm.Cond.unhidden "ShrinkYard$Replacing" "fits" "(LShrinkYard$Digits;)Z") ∈ lw_tbl := lw_at lw_m7 176 rfl
theorem q1650 : (Jvm.Cond.instanceMethod ({ cls := "ShrinkYard$Replacing", name := "fits", desc := "(LShrinkYard$Digits;)Z" } : Jvm.MethodName)) ∈ lw_all := lw_g (lw_at lw_m7 177 rfl) rfl
theorem q1651 : (Jvm.Cond.publicMethod ({ cls := "ShrinkYard$Replacing", name := "fits", desc := "(LShrinkYard$Digits;)Z" } : Jvm.MethodName)) ∈ lw_tbl := lw_at lw_m7 178 rfl
theorem q1652 : (Jvm.Cond.code ({ cls := "ShrinkYard$Replacing", name := "fits", desc := "(LShrinkYard$Digits;)Z" } : Jvm.MethodName) prog_12_method_3_code (2 : Nat) (Option.some Jvm.ClassFile.FieldType.boolean)) ∈ lw_all := lw_g (lw_at lw_m7 179 rfl) rfl
theorem q1653 : (Jvm.Cond.unhidden "ShrinkYard$Replacing" "isAt" "(LShrinkYard$Digits;I)Z") ∈ lw_tbl := lw_at lw_m7 180 rfl
theorem q1680 : (Jvm.Cond.selects "ShrinkYard$Replacing" ({ cls := "ShrinkYard$Edit", name := "act", desc := "(LShrinkYard$Digits;)V" } : Jvm.MethodName) ({ cls := "ShrinkYard$Replacing", name := "act", desc := "(LShrinkYard$Digits;)V" } : Jvm.MethodName)) ∈ lw_all := lw_g (lw_at lw_m7 207 rfl) rfl
theorem q1681 : (Jvm.Cond.unhidden "ShrinkYard$Replacing" "act" "(LShrinkYard$Digits;)V") ∈ lw_tbl := lw_at lw_m7 208 rfl
theorem q1682 : (Jvm.Cond.instanceMethod ({ cls := "ShrinkYard$Replacing", name := "act", desc := "(LShrinkYard$Digits;)V" } : Jvm.MethodName)) ∈ lw_all := lw_g (lw_at lw_m7 209 rfl) rfl
theorem q1683 : (Jvm.Cond.publicMethod ({ cls := "ShrinkYard$Replacing", name := "act", desc := "(LShrinkYard$Digits;)V" } : Jvm.MethodName)) ∈ lw_tbl := lw_at lw_m7 210 rfl
theorem q1684 : (Jvm.Cond.code ({ cls := "ShrinkYard$Replacing", name := "act", desc := "(LShrinkYard$Digits;)V" } : Jvm.MethodName) prog_12_method_4_code (2 : Nat) (Option.none : Option Jvm.ClassFile.FieldType)) ∈ lw_all := lw_g (lw_at lw_m7 211 rfl) rfl
theorem q1695 : (Jvm.Cond.unhidden "ShrinkYard$Replacing" "isDone" "(LShrinkYard$Digits;)Z") ∈ lw_tbl := lw_at lw_m7 222 rfl
theorem q2251 : (Jvm.Cond.castable "ShrinkYard$Replacing" "java/lang/Object") ∈ lw_tbl := lw_at lw_m10 58 rfl
theorem in_X7 : ∀ w ∈ wsX70, w ∈ lw_all := lw_in wsX70 [688, 690] (by decide +kernel) (by decide +kernel)

/-! ShrinkYard$Inserting -/
set_option maxRecDepth 100000
def RX8 : String := "ShrinkYard$Inserting"
def TX8 : u_T := fun k => match k with
  | 0 => ("ShrinkYard$Inserting", "place", "I", true)
  | _ => ("ShrinkYard$Inserting", "digit", "I", true)
def tyX8 : Nat → FieldType := fun k => match k with
  | 0 => .int
  | _ => .int
abbrev wsX80 : List Cond := u_ws RX8 TX8 2
theorem nmX8 : ∀ a, a < 2 → ∀ b, b < 2 → a ≠ b → (TX8 a).2.1 ≠ (TX8 b).2.1 := by decide +kernel
theorem tyX8_ok : ∀ k, k < 2 → parseFieldDescriptor (TX8 k).2.2.1 = some (tyX8 k) := by decide +kernel
abbrev cX8_init : ByteArray := prog_9_method_1_code
def yX8_init : MethodName := ⟨RX8, "<init>", "(II)V"⟩
def dkwX8_init_0 : List UInt8 := [42, 183, 0, 3, 42, 27, 181, 0, 9, 42, 28, 181, 0, 15, 177]
abbrev dktX8_init_0 : List UInt8 := dkwX8_init_0 ++ []
theorem dksX8_init_0 : cX8_init.data.toList.drop 0 = dktX8_init_0 := by decide +kernel
theorem dX8_init_0 : decode cX8_init 0 = .ok (.aload_n 0, 1) := dk_42 (dk_at dksX8_init_0 0 rfl rfl)
theorem dX8_init_1 : decode cX8_init 1 = .ok (.invokespecial 3, 3) := dk_183 0 3 (dk_at dksX8_init_0 1 rfl rfl)
theorem dX8_init_4 : decode cX8_init 4 = .ok (.aload_n 0, 1) := dk_42 (dk_at dksX8_init_0 4 rfl rfl)
theorem dX8_init_5 : decode cX8_init 5 = .ok (.iload_n 1, 1) := dk_27 (dk_at dksX8_init_0 5 rfl rfl)
theorem dX8_init_6 : decode cX8_init 6 = .ok (.putfield 9, 3) := dk_181 0 9 (dk_at dksX8_init_0 6 rfl rfl)
theorem dX8_init_9 : decode cX8_init 9 = .ok (.aload_n 0, 1) := dk_42 (dk_at dksX8_init_0 9 rfl rfl)
theorem dX8_init_10 : decode cX8_init 10 = .ok (.iload_n 2, 1) := dk_28 (dk_at dksX8_init_0 10 rfl rfl)
theorem dX8_init_11 : decode cX8_init 11 = .ok (.putfield 15, 3) := dk_181 0 15 (dk_at dksX8_init_0 11 rfl rfl)
theorem dX8_init_14 : decode cX8_init 14 = .ok (.return_, 1) := dk_177 (dk_at dksX8_init_0 14 rfl rfl)
abbrev cX8_place : ByteArray := prog_9_method_2_code
def yX8_place : MethodName := ⟨RX8, "place", "()I"⟩
theorem dX8_place_0 : decode cX8_place 0 = .ok (.aload_n 0, 1) := by decide +kernel
theorem dX8_place_1 : decode cX8_place 1 = .ok (.getfield 9, 3) := by decide +kernel
theorem dX8_place_4 : decode cX8_place 4 = .ok (.ireturn, 1) := by decide +kernel
abbrev cX8_fits : ByteArray := prog_9_method_3_code
def yX8_fits : MethodName := ⟨RX8, "fits", "(LShrinkYard$Digits;)Z"⟩
def dkwX8_fits_0 : List UInt8 := [42, 43, 2, 182, 0, 18, 153, 0, 16, 43, 180, 0, 22, 16, 8, 162, 0, 7, 4, 167, 0, 4, 3, 172]
abbrev dktX8_fits_0 : List UInt8 := dkwX8_fits_0 ++ []
theorem dksX8_fits_0 : cX8_fits.data.toList.drop 0 = dktX8_fits_0 := by decide +kernel
theorem dX8_fits_0 : decode cX8_fits 0 = .ok (.aload_n 0, 1) := dk_42 (dk_at dksX8_fits_0 0 rfl rfl)
theorem dX8_fits_1 : decode cX8_fits 1 = .ok (.aload_n 1, 1) := dk_43 (dk_at dksX8_fits_0 1 rfl rfl)
theorem dX8_fits_2 : decode cX8_fits 2 = .ok (.iconst (-1), 1) := dk_2 (dk_at dksX8_fits_0 2 rfl rfl)
theorem dX8_fits_3 : decode cX8_fits 3 = .ok (.invokevirtual 18, 3) := dk_182 0 18 (dk_at dksX8_fits_0 3 rfl rfl)
theorem dX8_fits_6 : decode cX8_fits 6 = .ok (.ifCond .eq 16, 3) := dk_153 0 16 (dk_at dksX8_fits_0 6 rfl rfl)
theorem dX8_fits_9 : decode cX8_fits 9 = .ok (.aload_n 1, 1) := dk_43 (dk_at dksX8_fits_0 9 rfl rfl)
theorem dX8_fits_10 : decode cX8_fits 10 = .ok (.getfield 22, 3) := dk_180 0 22 (dk_at dksX8_fits_0 10 rfl rfl)
theorem dX8_fits_13 : decode cX8_fits 13 = .ok (.bipush 8, 2) := dk_16 8 (dk_at dksX8_fits_0 13 rfl rfl)
theorem dX8_fits_15 : decode cX8_fits 15 = .ok (.if_icmp .ge 7, 3) := dk_162 0 7 (dk_at dksX8_fits_0 15 rfl rfl)
theorem dX8_fits_18 : decode cX8_fits 18 = .ok (.iconst 1, 1) := dk_4 (dk_at dksX8_fits_0 18 rfl rfl)
theorem dX8_fits_19 : decode cX8_fits 19 = .ok (.goto 4, 3) := dk_167 0 4 (dk_at dksX8_fits_0 19 rfl rfl)
theorem dX8_fits_22 : decode cX8_fits 22 = .ok (.iconst 0, 1) := dk_3 (dk_at dksX8_fits_0 22 rfl rfl)
theorem dX8_fits_23 : decode cX8_fits 23 = .ok (.ireturn, 1) := dk_172 (dk_at dksX8_fits_0 23 rfl rfl)
abbrev cX8_act : ByteArray := prog_9_method_4_code
def yX8_act : MethodName := ⟨RX8, "act", "(LShrinkYard$Digits;)V"⟩
def dkwX8_act_0 : List UInt8 := [43, 42, 180, 0, 9, 42, 180, 0, 15, 182, 0, 27, 177]
abbrev dktX8_act_0 : List UInt8 := dkwX8_act_0 ++ []
theorem dksX8_act_0 : cX8_act.data.toList.drop 0 = dktX8_act_0 := by decide +kernel
theorem dX8_act_0 : decode cX8_act 0 = .ok (.aload_n 1, 1) := dk_43 (dk_at dksX8_act_0 0 rfl rfl)
theorem dX8_act_1 : decode cX8_act 1 = .ok (.aload_n 0, 1) := dk_42 (dk_at dksX8_act_0 1 rfl rfl)
theorem dX8_act_2 : decode cX8_act 2 = .ok (.getfield 9, 3) := dk_180 0 9 (dk_at dksX8_act_0 2 rfl rfl)
theorem dX8_act_5 : decode cX8_act 5 = .ok (.aload_n 0, 1) := dk_42 (dk_at dksX8_act_0 5 rfl rfl)
theorem dX8_act_6 : decode cX8_act 6 = .ok (.getfield 15, 3) := dk_180 0 15 (dk_at dksX8_act_0 6 rfl rfl)
theorem dX8_act_9 : decode cX8_act 9 = .ok (.invokevirtual 27, 3) := dk_182 0 27 (dk_at dksX8_act_0 9 rfl rfl)
theorem dX8_act_12 : decode cX8_act 12 = .ok (.return_, 1) := dk_177 (dk_at dksX8_act_0 12 rfl rfl)
theorem q60 : (Jvm.Cond.initialized "ShrinkYard$Inserting") ∈ lw_all := lw_g (lw_at lw_m1 27 rfl) rfl
theorem q283 : (Jvm.Cond.selects "ShrinkYard$Inserting" ({ cls := "java/lang/Object", name := "getClass", desc := "()Ljava/lang/Class;" } : Jvm.MethodName) ({ cls := "java/lang/Object", name := "getClass", desc := "()Ljava/lang/Class;" } : Jvm.MethodName)) ∈ lw_all := lw_g (lw_at lw_m2 10 rfl) rfl
theorem q694 : (Jvm.Cond.instantiable "ShrinkYard$Inserting" (2 : Nat)) ∈ lw_all := lw_g (lw_at lw_m3 181 rfl) rfl
theorem q696 : (Jvm.Cond.instanceMethod ({ cls := "ShrinkYard$Inserting", name := "<init>", desc := "(II)V" } : Jvm.MethodName)) ∈ lw_all := lw_g (lw_at lw_m3 183 rfl) rfl
theorem q697 : (Jvm.Cond.code ({ cls := "ShrinkYard$Inserting", name := "<init>", desc := "(II)V" } : Jvm.MethodName) prog_9_method_1_code (3 : Nat) (Option.none : Option Jvm.ClassFile.FieldType)) ∈ lw_all := lw_g (lw_at lw_m3 184 rfl) rfl
theorem q698 : (Jvm.Cond.methodLink "ShrinkYard$Inserting" (3 : Nat) ({ cls := "java/lang/Object", name := "<init>", desc := "()V" } : Jvm.MethodName)) ∈ lw_all := lw_g (lw_at lw_m3 185 rfl) rfl
theorem q699 : (Jvm.Cond.fieldLink "ShrinkYard$Inserting" (9 : Nat) "ShrinkYard$Inserting" "place" "I") ∈ lw_all := lw_g (lw_at lw_m3 186 rfl) rfl
theorem q700 : (Jvm.Cond.fieldLink "ShrinkYard$Inserting" (15 : Nat) "ShrinkYard$Inserting" "digit" "I") ∈ lw_all := lw_g (lw_at lw_m3 187 rfl) rfl
theorem q701 : (Jvm.Cond.laysFinal "ShrinkYard$Inserting" "ShrinkYard$Inserting" "place" "I") ∈ lw_all := lw_g (lw_at lw_m3 188 rfl) rfl
theorem q702 : (Jvm.Cond.soleField "ShrinkYard$Inserting" "place") ∈ lw_all := lw_g (lw_at lw_m3 189 rfl) rfl
theorem q703 : (Jvm.Cond.laysFinal "ShrinkYard$Inserting" "ShrinkYard$Inserting" "digit" "I") ∈ lw_all := lw_g (lw_at lw_m3 190 rfl) rfl
theorem q704 : (Jvm.Cond.soleField "ShrinkYard$Inserting" "digit") ∈ lw_all := lw_g (lw_at lw_m3 191 rfl) rfl
theorem q705 : (Jvm.Cond.superclass "ShrinkYard$Inserting" "java/lang/Object") ∈ lw_all := lw_g (lw_at lw_m3 192 rfl) rfl
theorem q1170 : (Jvm.Cond.fieldLinkNest "ShrinkYard$Inserting" (22 : Nat) "ShrinkYard$Digits" "length" "I" "ShrinkYard") ∈ lw_tbl := lw_at lw_m5 177 rfl
theorem q1622 : (Jvm.Cond.castable "ShrinkYard$Inserting" "ShrinkYard$Placed") ∈ lw_tbl := lw_at lw_m7 149 rfl
theorem q1623 : (Jvm.Cond.selects "ShrinkYard$Inserting" ({ cls := "ShrinkYard$Placed", name := "place", desc := "()I" } : Jvm.MethodName) ({ cls := "ShrinkYard$Inserting", name := "place", desc := "()I" } : Jvm.MethodName)) ∈ lw_all := lw_g (lw_at lw_m7 150 rfl) rfl
theorem q1624 : (Jvm.Cond.unhidden "ShrinkYard$Inserting" "place" "()I") ∈ lw_tbl := lw_at lw_m7 151 rfl
theorem q1625 : (Jvm.Cond.instanceMethod ({ cls := "ShrinkYard$Inserting", name := "place", desc := "()I" } : Jvm.MethodName)) ∈ lw_all := lw_g (lw_at lw_m7 152 rfl) rfl
theorem q1626 : (Jvm.Cond.publicMethod ({ cls := "ShrinkYard$Inserting", name := "place", desc := "()I" } : Jvm.MethodName)) ∈ lw_tbl := lw_at lw_m7 153 rfl
theorem q1627 : (Jvm.Cond.code ({ cls := "ShrinkYard$Inserting", name := "place", desc := "()I" } : Jvm.MethodName) prog_9_method_2_code (1 : Nat) (Option.some Jvm.ClassFile.FieldType.int)) ∈ lw_all := lw_g (lw_at lw_m7 154 rfl) rfl
theorem q1640 : (Jvm.Cond.castable "ShrinkYard$Inserting" "ShrinkYard$Edit") ∈ lw_tbl := lw_at lw_m7 167 rfl
theorem q1641 : (Jvm.Cond.selects "ShrinkYard$Inserting" ({ cls := "ShrinkYard$Edit", name := "fits", desc := "(LShrinkYard$Digits;)Z" } : Jvm.MethodName) ({ cls := "ShrinkYard$Inserting", name := "fits", desc := "(LShrinkYard$Digits;)Z" } : Jvm.MethodName)) ∈ lw_all := lw_g (lw_at lw_m7 168 rfl) rfl
theorem q1642 : (Jvm.Cond.unhidden "ShrinkYard$Inserting" "fits" "(LShrinkYard$Digits;)Z") ∈ lw_tbl := lw_at lw_m7 169 rfl
theorem q1643 : (Jvm.Cond.instanceMethod ({ cls := "ShrinkYard$Inserting", name := "fits", desc := "(LShrinkYard$Digits;)Z" } : Jvm.MethodName)) ∈ lw_all := lw_g (lw_at lw_m7 170 rfl) rfl
theorem q1644 : (Jvm.Cond.publicMethod ({ cls := "ShrinkYard$Inserting", name := "fits", desc := "(LShrinkYard$Digits;)Z" } : Jvm.MethodName)) ∈ lw_tbl := lw_at lw_m7 171 rfl
theorem q1645 : (Jvm.Cond.code ({ cls := "ShrinkYard$Inserting", name := "fits", desc := "(LShrinkYard$Digits;)Z" } : Jvm.MethodName) prog_9_method_3_code (2 : Nat) (Option.some Jvm.ClassFile.FieldType.boolean)) ∈ lw_all := lw_g (lw_at lw_m7 172 rfl) rfl
theorem q1646 : (Jvm.Cond.unhidden "ShrinkYard$Inserting" "isAt" "(LShrinkYard$Digits;I)Z") ∈ lw_tbl := lw_at lw_m7 173 rfl
theorem q1671 : (Jvm.Cond.selects "ShrinkYard$Inserting" ({ cls := "ShrinkYard$Edit", name := "act", desc := "(LShrinkYard$Digits;)V" } : Jvm.MethodName) ({ cls := "ShrinkYard$Inserting", name := "act", desc := "(LShrinkYard$Digits;)V" } : Jvm.MethodName)) ∈ lw_all := lw_g (lw_at lw_m7 198 rfl) rfl
theorem q1672 : (Jvm.Cond.unhidden "ShrinkYard$Inserting" "act" "(LShrinkYard$Digits;)V") ∈ lw_tbl := lw_at lw_m7 199 rfl
theorem q1673 : (Jvm.Cond.instanceMethod ({ cls := "ShrinkYard$Inserting", name := "act", desc := "(LShrinkYard$Digits;)V" } : Jvm.MethodName)) ∈ lw_all := lw_g (lw_at lw_m7 200 rfl) rfl
theorem q1674 : (Jvm.Cond.publicMethod ({ cls := "ShrinkYard$Inserting", name := "act", desc := "(LShrinkYard$Digits;)V" } : Jvm.MethodName)) ∈ lw_tbl := lw_at lw_m7 201 rfl
theorem q1675 : (Jvm.Cond.code ({ cls := "ShrinkYard$Inserting", name := "act", desc := "(LShrinkYard$Digits;)V" } : Jvm.MethodName) prog_9_method_4_code (2 : Nat) (Option.none : Option Jvm.ClassFile.FieldType)) ∈ lw_all := lw_g (lw_at lw_m7 202 rfl) rfl
theorem q1676 : (Jvm.Cond.methodLink "ShrinkYard$Inserting" (27 : Nat) ({ cls := "ShrinkYard$Digits", name := "insert", desc := "(II)V" } : Jvm.MethodName)) ∈ lw_all := lw_g (lw_at lw_m7 203 rfl) rfl
theorem q1694 : (Jvm.Cond.unhidden "ShrinkYard$Inserting" "isDone" "(LShrinkYard$Digits;)Z") ∈ lw_tbl := lw_at lw_m7 221 rfl
theorem q2252 : (Jvm.Cond.castable "ShrinkYard$Inserting" "java/lang/Object") ∈ lw_tbl := lw_at lw_m10 59 rfl
theorem in_X8 : ∀ w ∈ wsX80, w ∈ lw_all := lw_in wsX80 [701, 703] (by decide +kernel) (by decide +kernel)

/-! ShrinkYard$Deleting -/
set_option maxRecDepth 100000
def RX9 : String := "ShrinkYard$Deleting"
def TX9 : u_T := fun k => match k with
  | _ => ("ShrinkYard$Deleting", "place", "I", true)
def tyX9 : Nat → FieldType := fun k => match k with
  | _ => .int
abbrev wsX90 : List Cond := u_ws RX9 TX9 1
theorem nmX9 : ∀ a, a < 1 → ∀ b, b < 1 → a ≠ b → (TX9 a).2.1 ≠ (TX9 b).2.1 := by decide +kernel
theorem tyX9_ok : ∀ k, k < 1 → parseFieldDescriptor (TX9 k).2.2.1 = some (tyX9 k) := by decide +kernel
abbrev cX9_init : ByteArray := prog_6_method_1_code
def yX9_init : MethodName := ⟨RX9, "<init>", "(I)V"⟩
def dkwX9_init_0 : List UInt8 := [42, 183, 0, 1, 42, 27, 181, 0, 7, 177]
abbrev dktX9_init_0 : List UInt8 := dkwX9_init_0 ++ []
theorem dksX9_init_0 : cX9_init.data.toList.drop 0 = dktX9_init_0 := by decide +kernel
theorem dX9_init_0 : decode cX9_init 0 = .ok (.aload_n 0, 1) := dk_42 (dk_at dksX9_init_0 0 rfl rfl)
theorem dX9_init_1 : decode cX9_init 1 = .ok (.invokespecial 1, 3) := dk_183 0 1 (dk_at dksX9_init_0 1 rfl rfl)
theorem dX9_init_4 : decode cX9_init 4 = .ok (.aload_n 0, 1) := dk_42 (dk_at dksX9_init_0 4 rfl rfl)
theorem dX9_init_5 : decode cX9_init 5 = .ok (.iload_n 1, 1) := dk_27 (dk_at dksX9_init_0 5 rfl rfl)
theorem dX9_init_6 : decode cX9_init 6 = .ok (.putfield 7, 3) := dk_181 0 7 (dk_at dksX9_init_0 6 rfl rfl)
theorem dX9_init_9 : decode cX9_init 9 = .ok (.return_, 1) := dk_177 (dk_at dksX9_init_0 9 rfl rfl)
abbrev cX9_fits : ByteArray := prog_6_method_3_code
def yX9_fits : MethodName := ⟨RX9, "fits", "(LShrinkYard$Digits;)Z"⟩
def dkwX9_fits_0 : List UInt8 := [42, 43, 3, 182, 0, 13, 172]
abbrev dktX9_fits_0 : List UInt8 := dkwX9_fits_0 ++ []
theorem dksX9_fits_0 : cX9_fits.data.toList.drop 0 = dktX9_fits_0 := by decide +kernel
theorem dX9_fits_0 : decode cX9_fits 0 = .ok (.aload_n 0, 1) := dk_42 (dk_at dksX9_fits_0 0 rfl rfl)
theorem dX9_fits_1 : decode cX9_fits 1 = .ok (.aload_n 1, 1) := dk_43 (dk_at dksX9_fits_0 1 rfl rfl)
theorem dX9_fits_2 : decode cX9_fits 2 = .ok (.iconst 0, 1) := dk_3 (dk_at dksX9_fits_0 2 rfl rfl)
theorem dX9_fits_3 : decode cX9_fits 3 = .ok (.invokevirtual 13, 3) := dk_182 0 13 (dk_at dksX9_fits_0 3 rfl rfl)
theorem dX9_fits_6 : decode cX9_fits 6 = .ok (.ireturn, 1) := dk_172 (dk_at dksX9_fits_0 6 rfl rfl)
abbrev cX9_place : ByteArray := prog_6_method_2_code
def yX9_place : MethodName := ⟨RX9, "place", "()I"⟩
theorem dX9_place_0 : decode cX9_place 0 = .ok (.aload_n 0, 1) := by decide +kernel
theorem dX9_place_1 : decode cX9_place 1 = .ok (.getfield 7, 3) := by decide +kernel
theorem dX9_place_4 : decode cX9_place 4 = .ok (.ireturn, 1) := by decide +kernel
abbrev cX9_act : ByteArray := prog_6_method_4_code
def yX9_act : MethodName := ⟨RX9, "act", "(LShrinkYard$Digits;)V"⟩
def dkwX9_act_0 : List UInt8 := [43, 42, 180, 0, 7, 182, 0, 17, 177]
abbrev dktX9_act_0 : List UInt8 := dkwX9_act_0 ++ []
theorem dksX9_act_0 : cX9_act.data.toList.drop 0 = dktX9_act_0 := by decide +kernel
theorem dX9_act_0 : decode cX9_act 0 = .ok (.aload_n 1, 1) := dk_43 (dk_at dksX9_act_0 0 rfl rfl)
theorem dX9_act_1 : decode cX9_act 1 = .ok (.aload_n 0, 1) := dk_42 (dk_at dksX9_act_0 1 rfl rfl)
theorem dX9_act_2 : decode cX9_act 2 = .ok (.getfield 7, 3) := dk_180 0 7 (dk_at dksX9_act_0 2 rfl rfl)
theorem dX9_act_5 : decode cX9_act 5 = .ok (.invokevirtual 17, 3) := dk_182 0 17 (dk_at dksX9_act_0 5 rfl rfl)
theorem dX9_act_8 : decode cX9_act 8 = .ok (.return_, 1) := dk_177 (dk_at dksX9_act_0 8 rfl rfl)
theorem q61 : (Jvm.Cond.initialized "ShrinkYard$Deleting") ∈ lw_all := lw_g (lw_at lw_m1 28 rfl) rfl
theorem q281 : (Jvm.Cond.selects "ShrinkYard$Deleting" ({ cls := "java/lang/Object", name := "getClass", desc := "()Ljava/lang/Class;" } : Jvm.MethodName) ({ cls := "java/lang/Object", name := "getClass", desc := "()Ljava/lang/Class;" } : Jvm.MethodName)) ∈ lw_all := lw_g (lw_at lw_m2 8 rfl) rfl
theorem q707 : (Jvm.Cond.instantiable "ShrinkYard$Deleting" (1 : Nat)) ∈ lw_all := lw_g (lw_at lw_m3 194 rfl) rfl
theorem q709 : (Jvm.Cond.instanceMethod ({ cls := "ShrinkYard$Deleting", name := "<init>", desc := "(I)V" } : Jvm.MethodName)) ∈ lw_all := lw_g (lw_at lw_m3 196 rfl) rfl
theorem q710 : (Jvm.Cond.code ({ cls := "ShrinkYard$Deleting", name := "<init>", desc := "(I)V" } : Jvm.MethodName) prog_6_method_1_code (2 : Nat) (Option.none : Option Jvm.ClassFile.FieldType)) ∈ lw_all := lw_g (lw_at lw_m3 197 rfl) rfl
theorem q711 : (Jvm.Cond.methodLink "ShrinkYard$Deleting" (1 : Nat) ({ cls := "java/lang/Object", name := "<init>", desc := "()V" } : Jvm.MethodName)) ∈ lw_all := lw_g (lw_at lw_m3 198 rfl) rfl
theorem q712 : (Jvm.Cond.fieldLink "ShrinkYard$Deleting" (7 : Nat) "ShrinkYard$Deleting" "place" "I") ∈ lw_all := lw_g (lw_at lw_m3 199 rfl) rfl
theorem q713 : (Jvm.Cond.laysFinal "ShrinkYard$Deleting" "ShrinkYard$Deleting" "place" "I") ∈ lw_all := lw_g (lw_at lw_m3 200 rfl) rfl
theorem q714 : (Jvm.Cond.soleField "ShrinkYard$Deleting" "place") ∈ lw_all := lw_g (lw_at lw_m3 201 rfl) rfl
theorem q715 : (Jvm.Cond.superclass "ShrinkYard$Deleting" "java/lang/Object") ∈ lw_all := lw_g (lw_at lw_m3 202 rfl) rfl
theorem q1593 : (Jvm.Cond.castable "ShrinkYard$Deleting" "ShrinkYard$Edit") ∈ lw_tbl := lw_at lw_m7 120 rfl
theorem q1594 : (Jvm.Cond.unhidden "ShrinkYard$Deleting" "isDone" "(LShrinkYard$Digits;)Z") ∈ lw_tbl := lw_at lw_m7 121 rfl
theorem q1602 : (Jvm.Cond.selects "ShrinkYard$Deleting" ({ cls := "ShrinkYard$Edit", name := "fits", desc := "(LShrinkYard$Digits;)Z" } : Jvm.MethodName) ({ cls := "ShrinkYard$Deleting", name := "fits", desc := "(LShrinkYard$Digits;)Z" } : Jvm.MethodName)) ∈ lw_all := lw_g (lw_at lw_m7 129 rfl) rfl
theorem q1603 : (Jvm.Cond.unhidden "ShrinkYard$Deleting" "fits" "(LShrinkYard$Digits;)Z") ∈ lw_tbl := lw_at lw_m7 130 rfl
theorem q1604 : (Jvm.Cond.instanceMethod ({ cls := "ShrinkYard$Deleting", name := "fits", desc := "(LShrinkYard$Digits;)Z" } : Jvm.MethodName)) ∈ lw_all := lw_g (lw_at lw_m7 131 rfl) rfl
theorem q1605 : (Jvm.Cond.publicMethod ({ cls := "ShrinkYard$Deleting", name := "fits", desc := "(LShrinkYard$Digits;)Z" } : Jvm.MethodName)) ∈ lw_tbl := lw_at lw_m7 132 rfl
theorem q1606 : (Jvm.Cond.code ({ cls := "ShrinkYard$Deleting", name := "fits", desc := "(LShrinkYard$Digits;)Z" } : Jvm.MethodName) prog_6_method_3_code (2 : Nat) (Option.some Jvm.ClassFile.FieldType.boolean)) ∈ lw_all := lw_g (lw_at lw_m7 133 rfl) rfl
theorem q1608 : (Jvm.Cond.unhidden "ShrinkYard$Deleting" "isAt" "(LShrinkYard$Digits;I)Z") ∈ lw_tbl := lw_at lw_m7 135 rfl
theorem q1616 : (Jvm.Cond.castable "ShrinkYard$Deleting" "ShrinkYard$Placed") ∈ lw_tbl := lw_at lw_m7 143 rfl
theorem q1617 : (Jvm.Cond.selects "ShrinkYard$Deleting" ({ cls := "ShrinkYard$Placed", name := "place", desc := "()I" } : Jvm.MethodName) ({ cls := "ShrinkYard$Deleting", name := "place", desc := "()I" } : Jvm.MethodName)) ∈ lw_all := lw_g (lw_at lw_m7 144 rfl) rfl
theorem q1618 : (Jvm.Cond.unhidden "ShrinkYard$Deleting" "place" "()I") ∈ lw_tbl := lw_at lw_m7 145 rfl
theorem q1619 : (Jvm.Cond.instanceMethod ({ cls := "ShrinkYard$Deleting", name := "place", desc := "()I" } : Jvm.MethodName)) ∈ lw_all := lw_g (lw_at lw_m7 146 rfl) rfl
theorem q1620 : (Jvm.Cond.publicMethod ({ cls := "ShrinkYard$Deleting", name := "place", desc := "()I" } : Jvm.MethodName)) ∈ lw_tbl := lw_at lw_m7 147 rfl
theorem q1621 : (Jvm.Cond.code ({ cls := "ShrinkYard$Deleting", name := "place", desc := "()I" } : Jvm.MethodName) prog_6_method_2_code (1 : Nat) (Option.some Jvm.ClassFile.FieldType.int)) ∈ lw_all := lw_g (lw_at lw_m7 148 rfl) rfl
theorem q1665 : (Jvm.Cond.selects "ShrinkYard$Deleting" ({ cls := "ShrinkYard$Edit", name := "act", desc := "(LShrinkYard$Digits;)V" } : Jvm.MethodName) ({ cls := "ShrinkYard$Deleting", name := "act", desc := "(LShrinkYard$Digits;)V" } : Jvm.MethodName)) ∈ lw_all := lw_g (lw_at lw_m7 192 rfl) rfl
theorem q1666 : (Jvm.Cond.unhidden "ShrinkYard$Deleting" "act" "(LShrinkYard$Digits;)V") ∈ lw_tbl := lw_at lw_m7 193 rfl
theorem q1667 : (Jvm.Cond.instanceMethod ({ cls := "ShrinkYard$Deleting", name := "act", desc := "(LShrinkYard$Digits;)V" } : Jvm.MethodName)) ∈ lw_all := lw_g (lw_at lw_m7 194 rfl) rfl
theorem q1668 : (Jvm.Cond.publicMethod ({ cls := "ShrinkYard$Deleting", name := "act", desc := "(LShrinkYard$Digits;)V" } : Jvm.MethodName)) ∈ lw_tbl := lw_at lw_m7 195 rfl
theorem q1669 : (Jvm.Cond.code ({ cls := "ShrinkYard$Deleting", name := "act", desc := "(LShrinkYard$Digits;)V" } : Jvm.MethodName) prog_6_method_4_code (2 : Nat) (Option.none : Option Jvm.ClassFile.FieldType)) ∈ lw_all := lw_g (lw_at lw_m7 196 rfl) rfl
theorem q1670 : (Jvm.Cond.methodLink "ShrinkYard$Deleting" (17 : Nat) ({ cls := "ShrinkYard$Digits", name := "delete", desc := "(I)V" } : Jvm.MethodName)) ∈ lw_all := lw_g (lw_at lw_m7 197 rfl) rfl
theorem q2253 : (Jvm.Cond.castable "ShrinkYard$Deleting" "java/lang/Object") ∈ lw_tbl := lw_at lw_m10 60 rfl
theorem in_X9 : ∀ w ∈ wsX90, w ∈ lw_all := lw_in wsX90 [713] (by decide +kernel) (by decide +kernel)

/-! ShrinkYard$Swapping -/
set_option maxRecDepth 100000
def RX10 : String := "ShrinkYard$Swapping"
def TX10 : u_T := fun k => match k with
  | _ => ("ShrinkYard$Swapping", "place", "I", true)
def tyX10 : Nat → FieldType := fun k => match k with
  | _ => .int
abbrev wsX100 : List Cond := u_ws RX10 TX10 1
theorem nmX10 : ∀ a, a < 1 → ∀ b, b < 1 → a ≠ b → (TX10 a).2.1 ≠ (TX10 b).2.1 := by decide +kernel
theorem tyX10_ok : ∀ k, k < 1 → parseFieldDescriptor (TX10 k).2.2.1 = some (tyX10 k) := by decide +kernel
abbrev cX10_init : ByteArray := prog_13_method_1_code
def yX10_init : MethodName := ⟨RX10, "<init>", "(I)V"⟩
def dkwX10_init_0 : List UInt8 := [42, 183, 0, 1, 42, 27, 181, 0, 7, 177]
abbrev dktX10_init_0 : List UInt8 := dkwX10_init_0 ++ []
theorem dksX10_init_0 : cX10_init.data.toList.drop 0 = dktX10_init_0 := by decide +kernel
theorem dX10_init_0 : decode cX10_init 0 = .ok (.aload_n 0, 1) := dk_42 (dk_at dksX10_init_0 0 rfl rfl)
theorem dX10_init_1 : decode cX10_init 1 = .ok (.invokespecial 1, 3) := dk_183 0 1 (dk_at dksX10_init_0 1 rfl rfl)
theorem dX10_init_4 : decode cX10_init 4 = .ok (.aload_n 0, 1) := dk_42 (dk_at dksX10_init_0 4 rfl rfl)
theorem dX10_init_5 : decode cX10_init 5 = .ok (.iload_n 1, 1) := dk_27 (dk_at dksX10_init_0 5 rfl rfl)
theorem dX10_init_6 : decode cX10_init 6 = .ok (.putfield 7, 3) := dk_181 0 7 (dk_at dksX10_init_0 6 rfl rfl)
theorem dX10_init_9 : decode cX10_init 9 = .ok (.return_, 1) := dk_177 (dk_at dksX10_init_0 9 rfl rfl)
abbrev cX10_place : ByteArray := prog_13_method_2_code
def yX10_place : MethodName := ⟨RX10, "place", "()I"⟩
theorem dX10_place_0 : decode cX10_place 0 = .ok (.aload_n 0, 1) := by decide +kernel
theorem dX10_place_1 : decode cX10_place 1 = .ok (.getfield 7, 3) := by decide +kernel
theorem dX10_place_4 : decode cX10_place 4 = .ok (.ireturn, 1) := by decide +kernel
abbrev cX10_fits : ByteArray := prog_13_method_3_code
def yX10_fits : MethodName := ⟨RX10, "fits", "(LShrinkYard$Digits;)Z"⟩
def dkwX10_fits_1 : List UInt8 := [180, 0, 7, 4, 96, 46, 159, 0, 7, 4, 167, 0, 4, 3, 172]
abbrev dktX10_fits_1 : List UInt8 := dkwX10_fits_1 ++ []
def dkwX10_fits_0 : List UInt8 := [42, 43, 4, 182, 0, 13, 153, 0, 30, 43, 180, 0, 17, 42, 180, 0, 7, 46, 43, 180, 0, 17, 42]
abbrev dktX10_fits_0 : List UInt8 := dkwX10_fits_0 ++ dktX10_fits_1
theorem dksX10_fits_0 : cX10_fits.data.toList.drop 0 = dktX10_fits_0 := by decide +kernel
theorem dksX10_fits_1 : cX10_fits.data.toList.drop 23 = dktX10_fits_1 := dk_seg dksX10_fits_0 23 rfl rfl
theorem dX10_fits_0 : decode cX10_fits 0 = .ok (.aload_n 0, 1) := dk_42 (dk_at dksX10_fits_0 0 rfl rfl)
theorem dX10_fits_1 : decode cX10_fits 1 = .ok (.aload_n 1, 1) := dk_43 (dk_at dksX10_fits_0 1 rfl rfl)
theorem dX10_fits_2 : decode cX10_fits 2 = .ok (.iconst 1, 1) := dk_4 (dk_at dksX10_fits_0 2 rfl rfl)
theorem dX10_fits_3 : decode cX10_fits 3 = .ok (.invokevirtual 13, 3) := dk_182 0 13 (dk_at dksX10_fits_0 3 rfl rfl)
theorem dX10_fits_6 : decode cX10_fits 6 = .ok (.ifCond .eq 30, 3) := dk_153 0 30 (dk_at dksX10_fits_0 6 rfl rfl)
theorem dX10_fits_9 : decode cX10_fits 9 = .ok (.aload_n 1, 1) := dk_43 (dk_at dksX10_fits_0 9 rfl rfl)
theorem dX10_fits_10 : decode cX10_fits 10 = .ok (.getfield 17, 3) := dk_180 0 17 (dk_at dksX10_fits_0 10 rfl rfl)
theorem dX10_fits_13 : decode cX10_fits 13 = .ok (.aload_n 0, 1) := dk_42 (dk_at dksX10_fits_0 13 rfl rfl)
theorem dX10_fits_14 : decode cX10_fits 14 = .ok (.getfield 7, 3) := dk_180 0 7 (dk_at dksX10_fits_0 14 rfl rfl)
theorem dX10_fits_17 : decode cX10_fits 17 = .ok (.iaload, 1) := dk_46 (dk_at dksX10_fits_0 17 rfl rfl)
theorem dX10_fits_18 : decode cX10_fits 18 = .ok (.aload_n 1, 1) := dk_43 (dk_at dksX10_fits_0 18 rfl rfl)
theorem dX10_fits_19 : decode cX10_fits 19 = .ok (.getfield 17, 3) := dk_180 0 17 (dk_at dksX10_fits_0 19 rfl rfl)
theorem dX10_fits_22 : decode cX10_fits 22 = .ok (.aload_n 0, 1) := dk_42 (dk_at dksX10_fits_0 22 rfl rfl)
theorem dX10_fits_23 : decode cX10_fits 23 = .ok (.getfield 7, 3) := dk_180 0 7 (dk_at dksX10_fits_1 0 rfl rfl)
theorem dX10_fits_26 : decode cX10_fits 26 = .ok (.iconst 1, 1) := dk_4 (dk_at dksX10_fits_1 3 rfl rfl)
theorem dX10_fits_27 : decode cX10_fits 27 = .ok (.iadd, 1) := dk_96 (dk_at dksX10_fits_1 4 rfl rfl)
theorem dX10_fits_28 : decode cX10_fits 28 = .ok (.iaload, 1) := dk_46 (dk_at dksX10_fits_1 5 rfl rfl)
theorem dX10_fits_29 : decode cX10_fits 29 = .ok (.if_icmp .eq 7, 3) := dk_159 0 7 (dk_at dksX10_fits_1 6 rfl rfl)
theorem dX10_fits_32 : decode cX10_fits 32 = .ok (.iconst 1, 1) := dk_4 (dk_at dksX10_fits_1 9 rfl rfl)
theorem dX10_fits_33 : decode cX10_fits 33 = .ok (.goto 4, 3) := dk_167 0 4 (dk_at dksX10_fits_1 10 rfl rfl)
theorem dX10_fits_36 : decode cX10_fits 36 = .ok (.iconst 0, 1) := dk_3 (dk_at dksX10_fits_1 13 rfl rfl)
theorem dX10_fits_37 : decode cX10_fits 37 = .ok (.ireturn, 1) := dk_172 (dk_at dksX10_fits_1 14 rfl rfl)
abbrev cX10_act : ByteArray := prog_13_method_4_code
def yX10_act : MethodName := ⟨RX10, "act", "(LShrinkYard$Digits;)V"⟩
def dkwX10_act_0 : List UInt8 := [43, 42, 180, 0, 7, 182, 0, 23, 177]
abbrev dktX10_act_0 : List UInt8 := dkwX10_act_0 ++ []
theorem dksX10_act_0 : cX10_act.data.toList.drop 0 = dktX10_act_0 := by decide +kernel
theorem dX10_act_0 : decode cX10_act 0 = .ok (.aload_n 1, 1) := dk_43 (dk_at dksX10_act_0 0 rfl rfl)
theorem dX10_act_1 : decode cX10_act 1 = .ok (.aload_n 0, 1) := dk_42 (dk_at dksX10_act_0 1 rfl rfl)
theorem dX10_act_2 : decode cX10_act 2 = .ok (.getfield 7, 3) := dk_180 0 7 (dk_at dksX10_act_0 2 rfl rfl)
theorem dX10_act_5 : decode cX10_act 5 = .ok (.invokevirtual 23, 3) := dk_182 0 23 (dk_at dksX10_act_0 5 rfl rfl)
theorem dX10_act_8 : decode cX10_act 8 = .ok (.return_, 1) := dk_177 (dk_at dksX10_act_0 8 rfl rfl)
theorem q62 : (Jvm.Cond.initialized "ShrinkYard$Swapping") ∈ lw_all := lw_g (lw_at lw_m1 29 rfl) rfl
theorem q286 : (Jvm.Cond.selects "ShrinkYard$Swapping" ({ cls := "java/lang/Object", name := "getClass", desc := "()Ljava/lang/Class;" } : Jvm.MethodName) ({ cls := "java/lang/Object", name := "getClass", desc := "()Ljava/lang/Class;" } : Jvm.MethodName)) ∈ lw_all := lw_g (lw_at lw_m2 13 rfl) rfl
theorem q717 : (Jvm.Cond.instantiable "ShrinkYard$Swapping" (1 : Nat)) ∈ lw_all := lw_g (lw_at lw_m3 204 rfl) rfl
theorem q719 : (Jvm.Cond.instanceMethod ({ cls := "ShrinkYard$Swapping", name := "<init>", desc := "(I)V" } : Jvm.MethodName)) ∈ lw_all := lw_g (lw_at lw_m3 206 rfl) rfl
theorem q720 : (Jvm.Cond.code ({ cls := "ShrinkYard$Swapping", name := "<init>", desc := "(I)V" } : Jvm.MethodName) prog_13_method_1_code (2 : Nat) (Option.none : Option Jvm.ClassFile.FieldType)) ∈ lw_all := lw_g (lw_at lw_m3 207 rfl) rfl
theorem q721 : (Jvm.Cond.methodLink "ShrinkYard$Swapping" (1 : Nat) ({ cls := "java/lang/Object", name := "<init>", desc := "()V" } : Jvm.MethodName)) ∈ lw_all := lw_g (lw_at lw_m3 208 rfl) rfl
theorem q722 : (Jvm.Cond.fieldLink "ShrinkYard$Swapping" (7 : Nat) "ShrinkYard$Swapping" "place" "I") ∈ lw_all := lw_g (lw_at lw_m3 209 rfl) rfl
theorem q723 : (Jvm.Cond.laysFinal "ShrinkYard$Swapping" "ShrinkYard$Swapping" "place" "I") ∈ lw_all := lw_g (lw_at lw_m3 210 rfl) rfl
theorem q724 : (Jvm.Cond.soleField "ShrinkYard$Swapping" "place") ∈ lw_all := lw_g (lw_at lw_m3 211 rfl) rfl
theorem q725 : (Jvm.Cond.superclass "ShrinkYard$Swapping" "java/lang/Object") ∈ lw_all := lw_g (lw_at lw_m3 212 rfl) rfl
theorem q1165 : (Jvm.Cond.fieldLinkNest "ShrinkYard$Swapping" (17 : Nat) "ShrinkYard$Digits" "digits" "[I" "ShrinkYard") ∈ lw_tbl := lw_at lw_m5 172 rfl
theorem q1634 : (Jvm.Cond.castable "ShrinkYard$Swapping" "ShrinkYard$Placed") ∈ lw_tbl := lw_at lw_m7 161 rfl
theorem q1635 : (Jvm.Cond.selects "ShrinkYard$Swapping" ({ cls := "ShrinkYard$Placed", name := "place", desc := "()I" } : Jvm.MethodName) ({ cls := "ShrinkYard$Swapping", name := "place", desc := "()I" } : Jvm.MethodName)) ∈ lw_all := lw_g (lw_at lw_m7 162 rfl) rfl
theorem q1636 : (Jvm.Cond.unhidden "ShrinkYard$Swapping" "place" "()I") ∈ lw_tbl := lw_at lw_m7 163 rfl
theorem q1637 : (Jvm.Cond.instanceMethod ({ cls := "ShrinkYard$Swapping", name := "place", desc := "()I" } : Jvm.MethodName)) ∈ lw_all := lw_g (lw_at lw_m7 164 rfl) rfl
theorem q1638 : (Jvm.Cond.publicMethod ({ cls := "ShrinkYard$Swapping", name := "place", desc := "()I" } : Jvm.MethodName)) ∈ lw_tbl := lw_at lw_m7 165 rfl
theorem q1639 : (Jvm.Cond.code ({ cls := "ShrinkYard$Swapping", name := "place", desc := "()I" } : Jvm.MethodName) prog_13_method_2_code (1 : Nat) (Option.some Jvm.ClassFile.FieldType.int)) ∈ lw_all := lw_g (lw_at lw_m7 166 rfl) rfl
theorem q1654 : (Jvm.Cond.castable "ShrinkYard$Swapping" "ShrinkYard$Edit") ∈ lw_tbl := lw_at lw_m7 181 rfl
theorem q1655 : (Jvm.Cond.selects "ShrinkYard$Swapping" ({ cls := "ShrinkYard$Edit", name := "fits", desc := "(LShrinkYard$Digits;)Z" } : Jvm.MethodName) ({ cls := "ShrinkYard$Swapping", name := "fits", desc := "(LShrinkYard$Digits;)Z" } : Jvm.MethodName)) ∈ lw_all := lw_g (lw_at lw_m7 182 rfl) rfl
theorem q1656 : (Jvm.Cond.unhidden "ShrinkYard$Swapping" "fits" "(LShrinkYard$Digits;)Z") ∈ lw_tbl := lw_at lw_m7 183 rfl
theorem q1657 : (Jvm.Cond.instanceMethod ({ cls := "ShrinkYard$Swapping", name := "fits", desc := "(LShrinkYard$Digits;)Z" } : Jvm.MethodName)) ∈ lw_all := lw_g (lw_at lw_m7 184 rfl) rfl
theorem q1658 : (Jvm.Cond.publicMethod ({ cls := "ShrinkYard$Swapping", name := "fits", desc := "(LShrinkYard$Digits;)Z" } : Jvm.MethodName)) ∈ lw_tbl := lw_at lw_m7 185 rfl
theorem q1659 : (Jvm.Cond.code ({ cls := "ShrinkYard$Swapping", name := "fits", desc := "(LShrinkYard$Digits;)Z" } : Jvm.MethodName) prog_13_method_3_code (2 : Nat) (Option.some Jvm.ClassFile.FieldType.boolean)) ∈ lw_all := lw_g (lw_at lw_m7 186 rfl) rfl
theorem q1660 : (Jvm.Cond.unhidden "ShrinkYard$Swapping" "isAt" "(LShrinkYard$Digits;I)Z") ∈ lw_tbl := lw_at lw_m7 187 rfl
theorem q1685 : (Jvm.Cond.selects "ShrinkYard$Swapping" ({ cls := "ShrinkYard$Edit", name := "act", desc := "(LShrinkYard$Digits;)V" } : Jvm.MethodName) ({ cls := "ShrinkYard$Swapping", name := "act", desc := "(LShrinkYard$Digits;)V" } : Jvm.MethodName)) ∈ lw_all := lw_g (lw_at lw_m7 212 rfl) rfl
theorem q1686 : (Jvm.Cond.unhidden "ShrinkYard$Swapping" "act" "(LShrinkYard$Digits;)V") ∈ lw_tbl := lw_at lw_m7 213 rfl
theorem q1687 : (Jvm.Cond.instanceMethod ({ cls := "ShrinkYard$Swapping", name := "act", desc := "(LShrinkYard$Digits;)V" } : Jvm.MethodName)) ∈ lw_all := lw_g (lw_at lw_m7 214 rfl) rfl
theorem q1688 : (Jvm.Cond.publicMethod ({ cls := "ShrinkYard$Swapping", name := "act", desc := "(LShrinkYard$Digits;)V" } : Jvm.MethodName)) ∈ lw_tbl := lw_at lw_m7 215 rfl
theorem q1689 : (Jvm.Cond.code ({ cls := "ShrinkYard$Swapping", name := "act", desc := "(LShrinkYard$Digits;)V" } : Jvm.MethodName) prog_13_method_4_code (2 : Nat) (Option.none : Option Jvm.ClassFile.FieldType)) ∈ lw_all := lw_g (lw_at lw_m7 216 rfl) rfl
theorem q1690 : (Jvm.Cond.methodLink "ShrinkYard$Swapping" (23 : Nat) ({ cls := "ShrinkYard$Digits", name := "swap", desc := "(I)V" } : Jvm.MethodName)) ∈ lw_all := lw_g (lw_at lw_m7 217 rfl) rfl
theorem q1696 : (Jvm.Cond.unhidden "ShrinkYard$Swapping" "isDone" "(LShrinkYard$Digits;)Z") ∈ lw_tbl := lw_at lw_m7 223 rfl
theorem q2254 : (Jvm.Cond.castable "ShrinkYard$Swapping" "java/lang/Object") ∈ lw_tbl := lw_at lw_m10 61 rfl
theorem in_X10 : ∀ w ∈ wsX100, w ∈ lw_all := lw_in wsX100 [723] (by decide +kernel) (by decide +kernel)

/-! ShrinkYard$Digits -/
set_option maxRecDepth 100000
def RX11 : String := "ShrinkYard$Digits"
def TX11 : u_T := fun k => match k with
  | 0 => ("ShrinkYard$Digits", "digits", "[I", true)
  | _ => ("ShrinkYard$Digits", "length", "I", false)
def tyX11 : Nat → FieldType := fun k => match k with
  | 0 => .array .int
  | _ => .int
abbrev wsX110 : List Cond := u_ws RX11 TX11 2
theorem nmX11 : ∀ a, a < 2 → ∀ b, b < 2 → a ≠ b → (TX11 a).2.1 ≠ (TX11 b).2.1 := by decide +kernel
theorem tyX11_ok : ∀ k, k < 2 → parseFieldDescriptor (TX11 k).2.2.1 = some (tyX11 k) := by decide +kernel
abbrev cX11_init : ByteArray := prog_7_method_1_code
def yX11_init : MethodName := ⟨RX11, "<init>", "()V"⟩
def dkwX11_init_0 : List UInt8 := [42, 183, 0, 3, 42, 16, 8, 188, 10, 181, 0, 9, 177]
abbrev dktX11_init_0 : List UInt8 := dkwX11_init_0 ++ []
theorem dksX11_init_0 : cX11_init.data.toList.drop 0 = dktX11_init_0 := by decide +kernel
theorem dX11_init_0 : decode cX11_init 0 = .ok (.aload_n 0, 1) := dk_42 (dk_at dksX11_init_0 0 rfl rfl)
theorem dX11_init_1 : decode cX11_init 1 = .ok (.invokespecial 3, 3) := dk_183 0 3 (dk_at dksX11_init_0 1 rfl rfl)
theorem dX11_init_4 : decode cX11_init 4 = .ok (.aload_n 0, 1) := dk_42 (dk_at dksX11_init_0 4 rfl rfl)
theorem dX11_init_5 : decode cX11_init 5 = .ok (.bipush 8, 2) := dk_16 8 (dk_at dksX11_init_0 5 rfl rfl)
theorem dX11_init_7 : decode cX11_init 7 = .ok (.newarray .int, 2) := dk_188_10 (dk_at dksX11_init_0 7 rfl rfl)
theorem dX11_init_9 : decode cX11_init 9 = .ok (.putfield 9, 3) := dk_181 0 9 (dk_at dksX11_init_0 9 rfl rfl)
theorem dX11_init_12 : decode cX11_init 12 = .ok (.return_, 1) := dk_177 (dk_at dksX11_init_0 12 rfl rfl)
abbrev cX11_read : ByteArray := prog_7_method_2_code
def yX11_read : MethodName := ⟨RX11, "read", "(Ljava/lang/String;)V"⟩
def dkwX11_read_1 : List UInt8 := [28, 182, 0, 24, 16, 48, 100, 79, 132, 2, 1, 167, 255, 231, 177]
abbrev dktX11_read_1 : List UInt8 := dkwX11_read_1 ++ []
def dkwX11_read_0 : List UInt8 := [42, 43, 182, 0, 15, 181, 0, 21, 3, 61, 28, 42, 180, 0, 21, 162, 0, 23, 42, 180, 0, 9, 28, 43]
abbrev dktX11_read_0 : List UInt8 := dkwX11_read_0 ++ dktX11_read_1
theorem dksX11_read_0 : cX11_read.data.toList.drop 0 = dktX11_read_0 := by decide +kernel
theorem dksX11_read_1 : cX11_read.data.toList.drop 24 = dktX11_read_1 := dk_seg dksX11_read_0 24 rfl rfl
theorem dX11_read_0 : decode cX11_read 0 = .ok (.aload_n 0, 1) := dk_42 (dk_at dksX11_read_0 0 rfl rfl)
theorem dX11_read_1 : decode cX11_read 1 = .ok (.aload_n 1, 1) := dk_43 (dk_at dksX11_read_0 1 rfl rfl)
theorem dX11_read_2 : decode cX11_read 2 = .ok (.invokevirtual 15, 3) := dk_182 0 15 (dk_at dksX11_read_0 2 rfl rfl)
theorem dX11_read_5 : decode cX11_read 5 = .ok (.putfield 21, 3) := dk_181 0 21 (dk_at dksX11_read_0 5 rfl rfl)
theorem dX11_read_8 : decode cX11_read 8 = .ok (.iconst 0, 1) := dk_3 (dk_at dksX11_read_0 8 rfl rfl)
theorem dX11_read_9 : decode cX11_read 9 = .ok (.istore_n 2, 1) := dk_61 (dk_at dksX11_read_0 9 rfl rfl)
theorem dX11_read_10 : decode cX11_read 10 = .ok (.iload_n 2, 1) := dk_28 (dk_at dksX11_read_0 10 rfl rfl)
theorem dX11_read_11 : decode cX11_read 11 = .ok (.aload_n 0, 1) := dk_42 (dk_at dksX11_read_0 11 rfl rfl)
theorem dX11_read_12 : decode cX11_read 12 = .ok (.getfield 21, 3) := dk_180 0 21 (dk_at dksX11_read_0 12 rfl rfl)
theorem dX11_read_15 : decode cX11_read 15 = .ok (.if_icmp .ge 23, 3) := dk_162 0 23 (dk_at dksX11_read_0 15 rfl rfl)
theorem dX11_read_18 : decode cX11_read 18 = .ok (.aload_n 0, 1) := dk_42 (dk_at dksX11_read_0 18 rfl rfl)
theorem dX11_read_19 : decode cX11_read 19 = .ok (.getfield 9, 3) := dk_180 0 9 (dk_at dksX11_read_0 19 rfl rfl)
theorem dX11_read_22 : decode cX11_read 22 = .ok (.iload_n 2, 1) := dk_28 (dk_at dksX11_read_0 22 rfl rfl)
theorem dX11_read_23 : decode cX11_read 23 = .ok (.aload_n 1, 1) := dk_43 (dk_at dksX11_read_0 23 rfl rfl)
theorem dX11_read_24 : decode cX11_read 24 = .ok (.iload_n 2, 1) := dk_28 (dk_at dksX11_read_1 0 rfl rfl)
theorem dX11_read_25 : decode cX11_read 25 = .ok (.invokevirtual 24, 3) := dk_182 0 24 (dk_at dksX11_read_1 1 rfl rfl)
theorem dX11_read_28 : decode cX11_read 28 = .ok (.bipush 48, 2) := dk_16 48 (dk_at dksX11_read_1 4 rfl rfl)
theorem dX11_read_30 : decode cX11_read 30 = .ok (.isub, 1) := dk_100 (dk_at dksX11_read_1 6 rfl rfl)
theorem dX11_read_31 : decode cX11_read 31 = .ok (.iastore, 1) := dk_79 (dk_at dksX11_read_1 7 rfl rfl)
theorem dX11_read_32 : decode cX11_read 32 = .ok (.iinc 2 1, 3) := dk_132 2 1 (dk_at dksX11_read_1 8 rfl rfl)
theorem dX11_read_35 : decode cX11_read 35 = .ok (.goto (-25), 3) := dk_167 255 231 (dk_at dksX11_read_1 11 rfl rfl)
theorem dX11_read_38 : decode cX11_read 38 = .ok (.return_, 1) := dk_177 (dk_at dksX11_read_1 14 rfl rfl)
abbrev cX11_text : ByteArray := prog_7_method_9_code
def yX11_text : MethodName := ⟨RX11, "text", "()Ljava/lang/String;"⟩
def dkwX11_text_1 : List UInt8 := [180, 0, 9, 28, 46, 96, 146, 182, 0, 31, 87, 132, 2, 1, 167, 255, 230, 43, 182, 0, 35, 176]
abbrev dktX11_text_1 : List UInt8 := dkwX11_text_1 ++ []
def dkwX11_text_0 : List UInt8 := [187, 0, 28, 89, 183, 0, 30, 76, 3, 61, 28, 42, 180, 0, 21, 162, 0, 24, 43, 16, 48, 42]
abbrev dktX11_text_0 : List UInt8 := dkwX11_text_0 ++ dktX11_text_1
theorem dksX11_text_0 : cX11_text.data.toList.drop 0 = dktX11_text_0 := by decide +kernel
theorem dksX11_text_1 : cX11_text.data.toList.drop 22 = dktX11_text_1 := dk_seg dksX11_text_0 22 rfl rfl
theorem dX11_text_0 : decode cX11_text 0 = .ok (.new 28, 3) := dk_187 0 28 (dk_at dksX11_text_0 0 rfl rfl)
theorem dX11_text_3 : decode cX11_text 3 = .ok (.dup, 1) := dk_89 (dk_at dksX11_text_0 3 rfl rfl)
theorem dX11_text_4 : decode cX11_text 4 = .ok (.invokespecial 30, 3) := dk_183 0 30 (dk_at dksX11_text_0 4 rfl rfl)
theorem dX11_text_7 : decode cX11_text 7 = .ok (.astore_n 1, 1) := dk_76 (dk_at dksX11_text_0 7 rfl rfl)
theorem dX11_text_8 : decode cX11_text 8 = .ok (.iconst 0, 1) := dk_3 (dk_at dksX11_text_0 8 rfl rfl)
theorem dX11_text_9 : decode cX11_text 9 = .ok (.istore_n 2, 1) := dk_61 (dk_at dksX11_text_0 9 rfl rfl)
theorem dX11_text_10 : decode cX11_text 10 = .ok (.iload_n 2, 1) := dk_28 (dk_at dksX11_text_0 10 rfl rfl)
theorem dX11_text_11 : decode cX11_text 11 = .ok (.aload_n 0, 1) := dk_42 (dk_at dksX11_text_0 11 rfl rfl)
theorem dX11_text_12 : decode cX11_text 12 = .ok (.getfield 21, 3) := dk_180 0 21 (dk_at dksX11_text_0 12 rfl rfl)
theorem dX11_text_15 : decode cX11_text 15 = .ok (.if_icmp .ge 24, 3) := dk_162 0 24 (dk_at dksX11_text_0 15 rfl rfl)
theorem dX11_text_18 : decode cX11_text 18 = .ok (.aload_n 1, 1) := dk_43 (dk_at dksX11_text_0 18 rfl rfl)
theorem dX11_text_19 : decode cX11_text 19 = .ok (.bipush 48, 2) := dk_16 48 (dk_at dksX11_text_0 19 rfl rfl)
theorem dX11_text_21 : decode cX11_text 21 = .ok (.aload_n 0, 1) := dk_42 (dk_at dksX11_text_0 21 rfl rfl)
theorem dX11_text_22 : decode cX11_text 22 = .ok (.getfield 9, 3) := dk_180 0 9 (dk_at dksX11_text_1 0 rfl rfl)
theorem dX11_text_25 : decode cX11_text 25 = .ok (.iload_n 2, 1) := dk_28 (dk_at dksX11_text_1 3 rfl rfl)
theorem dX11_text_26 : decode cX11_text 26 = .ok (.iaload, 1) := dk_46 (dk_at dksX11_text_1 4 rfl rfl)
theorem dX11_text_27 : decode cX11_text 27 = .ok (.iadd, 1) := dk_96 (dk_at dksX11_text_1 5 rfl rfl)
theorem dX11_text_28 : decode cX11_text 28 = .ok (.i2c, 1) := dk_146 (dk_at dksX11_text_1 6 rfl rfl)
theorem dX11_text_29 : decode cX11_text 29 = .ok (.invokevirtual 31, 3) := dk_182 0 31 (dk_at dksX11_text_1 7 rfl rfl)
theorem dX11_text_32 : decode cX11_text 32 = .ok (.pop, 1) := dk_87 (dk_at dksX11_text_1 10 rfl rfl)
theorem dX11_text_33 : decode cX11_text 33 = .ok (.iinc 2 1, 3) := dk_132 2 1 (dk_at dksX11_text_1 11 rfl rfl)
theorem dX11_text_36 : decode cX11_text 36 = .ok (.goto (-26), 3) := dk_167 255 230 (dk_at dksX11_text_1 14 rfl rfl)
theorem dX11_text_39 : decode cX11_text 39 = .ok (.aload_n 1, 1) := dk_43 (dk_at dksX11_text_1 17 rfl rfl)
theorem dX11_text_40 : decode cX11_text 40 = .ok (.invokevirtual 35, 3) := dk_182 0 35 (dk_at dksX11_text_1 18 rfl rfl)
theorem dX11_text_43 : decode cX11_text 43 = .ok (.areturn, 1) := dk_176 (dk_at dksX11_text_1 21 rfl rfl)
abbrev cX11_copy : ByteArray := prog_7_method_3_code
def yX11_copy : MethodName := ⟨RX11, "copy", "(LShrinkYard$Digits;)V"⟩
def dkwX11_copy_1 : List UInt8 := [180, 0, 9, 28, 46, 79, 132, 2, 1, 167, 255, 233, 177]
abbrev dktX11_copy_1 : List UInt8 := dkwX11_copy_1 ++ []
def dkwX11_copy_0 : List UInt8 := [42, 43, 180, 0, 21, 181, 0, 21, 3, 61, 28, 42, 180, 0, 21, 162, 0, 21, 42, 180, 0, 9, 28, 43]
abbrev dktX11_copy_0 : List UInt8 := dkwX11_copy_0 ++ dktX11_copy_1
theorem dksX11_copy_0 : cX11_copy.data.toList.drop 0 = dktX11_copy_0 := by decide +kernel
theorem dksX11_copy_1 : cX11_copy.data.toList.drop 24 = dktX11_copy_1 := dk_seg dksX11_copy_0 24 rfl rfl
theorem dX11_copy_0 : decode cX11_copy 0 = .ok (.aload_n 0, 1) := dk_42 (dk_at dksX11_copy_0 0 rfl rfl)
theorem dX11_copy_1 : decode cX11_copy 1 = .ok (.aload_n 1, 1) := dk_43 (dk_at dksX11_copy_0 1 rfl rfl)
theorem dX11_copy_2 : decode cX11_copy 2 = .ok (.getfield 21, 3) := dk_180 0 21 (dk_at dksX11_copy_0 2 rfl rfl)
theorem dX11_copy_5 : decode cX11_copy 5 = .ok (.putfield 21, 3) := dk_181 0 21 (dk_at dksX11_copy_0 5 rfl rfl)
theorem dX11_copy_8 : decode cX11_copy 8 = .ok (.iconst 0, 1) := dk_3 (dk_at dksX11_copy_0 8 rfl rfl)
theorem dX11_copy_9 : decode cX11_copy 9 = .ok (.istore_n 2, 1) := dk_61 (dk_at dksX11_copy_0 9 rfl rfl)
theorem dX11_copy_10 : decode cX11_copy 10 = .ok (.iload_n 2, 1) := dk_28 (dk_at dksX11_copy_0 10 rfl rfl)
theorem dX11_copy_11 : decode cX11_copy 11 = .ok (.aload_n 0, 1) := dk_42 (dk_at dksX11_copy_0 11 rfl rfl)
theorem dX11_copy_12 : decode cX11_copy 12 = .ok (.getfield 21, 3) := dk_180 0 21 (dk_at dksX11_copy_0 12 rfl rfl)
theorem dX11_copy_15 : decode cX11_copy 15 = .ok (.if_icmp .ge 21, 3) := dk_162 0 21 (dk_at dksX11_copy_0 15 rfl rfl)
theorem dX11_copy_18 : decode cX11_copy 18 = .ok (.aload_n 0, 1) := dk_42 (dk_at dksX11_copy_0 18 rfl rfl)
theorem dX11_copy_19 : decode cX11_copy 19 = .ok (.getfield 9, 3) := dk_180 0 9 (dk_at dksX11_copy_0 19 rfl rfl)
theorem dX11_copy_22 : decode cX11_copy 22 = .ok (.iload_n 2, 1) := dk_28 (dk_at dksX11_copy_0 22 rfl rfl)
theorem dX11_copy_23 : decode cX11_copy 23 = .ok (.aload_n 1, 1) := dk_43 (dk_at dksX11_copy_0 23 rfl rfl)
theorem dX11_copy_24 : decode cX11_copy 24 = .ok (.getfield 9, 3) := dk_180 0 9 (dk_at dksX11_copy_1 0 rfl rfl)
theorem dX11_copy_27 : decode cX11_copy 27 = .ok (.iload_n 2, 1) := dk_28 (dk_at dksX11_copy_1 3 rfl rfl)
theorem dX11_copy_28 : decode cX11_copy 28 = .ok (.iaload, 1) := dk_46 (dk_at dksX11_copy_1 4 rfl rfl)
theorem dX11_copy_29 : decode cX11_copy 29 = .ok (.iastore, 1) := dk_79 (dk_at dksX11_copy_1 5 rfl rfl)
theorem dX11_copy_30 : decode cX11_copy 30 = .ok (.iinc 2 1, 3) := dk_132 2 1 (dk_at dksX11_copy_1 6 rfl rfl)
theorem dX11_copy_33 : decode cX11_copy 33 = .ok (.goto (-23), 3) := dk_167 255 233 (dk_at dksX11_copy_1 9 rfl rfl)
theorem dX11_copy_36 : decode cX11_copy 36 = .ok (.return_, 1) := dk_177 (dk_at dksX11_copy_1 12 rfl rfl)
abbrev cX11_delete : ByteArray := prog_7_method_5_code
def yX11_delete : MethodName := ⟨RX11, "delete", "(I)V"⟩
def dkwX11_delete_1 : List UInt8 := [28, 42, 180, 0, 9, 28, 4, 96, 46, 79, 132, 2, 1, 167, 255, 231, 177]
abbrev dktX11_delete_1 : List UInt8 := dkwX11_delete_1 ++ []
def dkwX11_delete_0 : List UInt8 := [42, 89, 180, 0, 21, 4, 100, 181, 0, 21, 27, 61, 28, 42, 180, 0, 21, 162, 0, 23, 42, 180, 0, 9]
abbrev dktX11_delete_0 : List UInt8 := dkwX11_delete_0 ++ dktX11_delete_1
theorem dksX11_delete_0 : cX11_delete.data.toList.drop 0 = dktX11_delete_0 := by decide +kernel
theorem dksX11_delete_1 : cX11_delete.data.toList.drop 24 = dktX11_delete_1 := dk_seg dksX11_delete_0 24 rfl rfl
theorem dX11_delete_0 : decode cX11_delete 0 = .ok (.aload_n 0, 1) := dk_42 (dk_at dksX11_delete_0 0 rfl rfl)
theorem dX11_delete_1 : decode cX11_delete 1 = .ok (.dup, 1) := dk_89 (dk_at dksX11_delete_0 1 rfl rfl)
theorem dX11_delete_2 : decode cX11_delete 2 = .ok (.getfield 21, 3) := dk_180 0 21 (dk_at dksX11_delete_0 2 rfl rfl)
theorem dX11_delete_5 : decode cX11_delete 5 = .ok (.iconst 1, 1) := dk_4 (dk_at dksX11_delete_0 5 rfl rfl)
theorem dX11_delete_6 : decode cX11_delete 6 = .ok (.isub, 1) := dk_100 (dk_at dksX11_delete_0 6 rfl rfl)
theorem dX11_delete_7 : decode cX11_delete 7 = .ok (.putfield 21, 3) := dk_181 0 21 (dk_at dksX11_delete_0 7 rfl rfl)
theorem dX11_delete_10 : decode cX11_delete 10 = .ok (.iload_n 1, 1) := dk_27 (dk_at dksX11_delete_0 10 rfl rfl)
theorem dX11_delete_11 : decode cX11_delete 11 = .ok (.istore_n 2, 1) := dk_61 (dk_at dksX11_delete_0 11 rfl rfl)
theorem dX11_delete_12 : decode cX11_delete 12 = .ok (.iload_n 2, 1) := dk_28 (dk_at dksX11_delete_0 12 rfl rfl)
theorem dX11_delete_13 : decode cX11_delete 13 = .ok (.aload_n 0, 1) := dk_42 (dk_at dksX11_delete_0 13 rfl rfl)
theorem dX11_delete_14 : decode cX11_delete 14 = .ok (.getfield 21, 3) := dk_180 0 21 (dk_at dksX11_delete_0 14 rfl rfl)
theorem dX11_delete_17 : decode cX11_delete 17 = .ok (.if_icmp .ge 23, 3) := dk_162 0 23 (dk_at dksX11_delete_0 17 rfl rfl)
theorem dX11_delete_20 : decode cX11_delete 20 = .ok (.aload_n 0, 1) := dk_42 (dk_at dksX11_delete_0 20 rfl rfl)
theorem dX11_delete_21 : decode cX11_delete 21 = .ok (.getfield 9, 3) := dk_180 0 9 (dk_at dksX11_delete_0 21 rfl rfl)
theorem dX11_delete_24 : decode cX11_delete 24 = .ok (.iload_n 2, 1) := dk_28 (dk_at dksX11_delete_1 0 rfl rfl)
theorem dX11_delete_25 : decode cX11_delete 25 = .ok (.aload_n 0, 1) := dk_42 (dk_at dksX11_delete_1 1 rfl rfl)
theorem dX11_delete_26 : decode cX11_delete 26 = .ok (.getfield 9, 3) := dk_180 0 9 (dk_at dksX11_delete_1 2 rfl rfl)
theorem dX11_delete_29 : decode cX11_delete 29 = .ok (.iload_n 2, 1) := dk_28 (dk_at dksX11_delete_1 5 rfl rfl)
theorem dX11_delete_30 : decode cX11_delete 30 = .ok (.iconst 1, 1) := dk_4 (dk_at dksX11_delete_1 6 rfl rfl)
theorem dX11_delete_31 : decode cX11_delete 31 = .ok (.iadd, 1) := dk_96 (dk_at dksX11_delete_1 7 rfl rfl)
theorem dX11_delete_32 : decode cX11_delete 32 = .ok (.iaload, 1) := dk_46 (dk_at dksX11_delete_1 8 rfl rfl)
theorem dX11_delete_33 : decode cX11_delete 33 = .ok (.iastore, 1) := dk_79 (dk_at dksX11_delete_1 9 rfl rfl)
theorem dX11_delete_34 : decode cX11_delete 34 = .ok (.iinc 2 1, 3) := dk_132 2 1 (dk_at dksX11_delete_1 10 rfl rfl)
theorem dX11_delete_37 : decode cX11_delete 37 = .ok (.goto (-25), 3) := dk_167 255 231 (dk_at dksX11_delete_1 13 rfl rfl)
theorem dX11_delete_40 : decode cX11_delete 40 = .ok (.return_, 1) := dk_177 (dk_at dksX11_delete_1 16 rfl rfl)
abbrev cX11_insert : ByteArray := prog_7_method_4_code
def yX11_insert : MethodName := ⟨RX11, "insert", "(II)V"⟩
def dkwX11_insert_1 : List UInt8 := [132, 3, 255, 167, 255, 234, 42, 180, 0, 9, 27, 28, 79, 42, 89, 180, 0, 21, 4, 96, 181, 0, 21, 177]
abbrev dktX11_insert_1 : List UInt8 := dkwX11_insert_1 ++ []
def dkwX11_insert_0 : List UInt8 := [42, 180, 0, 21, 62, 29, 27, 164, 0, 23, 42, 180, 0, 9, 29, 42, 180, 0, 9, 29, 4, 100, 46, 79]
abbrev dktX11_insert_0 : List UInt8 := dkwX11_insert_0 ++ dktX11_insert_1
theorem dksX11_insert_0 : cX11_insert.data.toList.drop 0 = dktX11_insert_0 := by decide +kernel
theorem dksX11_insert_1 : cX11_insert.data.toList.drop 24 = dktX11_insert_1 := dk_seg dksX11_insert_0 24 rfl rfl
theorem dX11_insert_0 : decode cX11_insert 0 = .ok (.aload_n 0, 1) := dk_42 (dk_at dksX11_insert_0 0 rfl rfl)
theorem dX11_insert_1 : decode cX11_insert 1 = .ok (.getfield 21, 3) := dk_180 0 21 (dk_at dksX11_insert_0 1 rfl rfl)
theorem dX11_insert_4 : decode cX11_insert 4 = .ok (.istore_n 3, 1) := dk_62 (dk_at dksX11_insert_0 4 rfl rfl)
theorem dX11_insert_5 : decode cX11_insert 5 = .ok (.iload_n 3, 1) := dk_29 (dk_at dksX11_insert_0 5 rfl rfl)
theorem dX11_insert_6 : decode cX11_insert 6 = .ok (.iload_n 1, 1) := dk_27 (dk_at dksX11_insert_0 6 rfl rfl)
theorem dX11_insert_7 : decode cX11_insert 7 = .ok (.if_icmp .le 23, 3) := dk_164 0 23 (dk_at dksX11_insert_0 7 rfl rfl)
theorem dX11_insert_10 : decode cX11_insert 10 = .ok (.aload_n 0, 1) := dk_42 (dk_at dksX11_insert_0 10 rfl rfl)
theorem dX11_insert_11 : decode cX11_insert 11 = .ok (.getfield 9, 3) := dk_180 0 9 (dk_at dksX11_insert_0 11 rfl rfl)
theorem dX11_insert_14 : decode cX11_insert 14 = .ok (.iload_n 3, 1) := dk_29 (dk_at dksX11_insert_0 14 rfl rfl)
theorem dX11_insert_15 : decode cX11_insert 15 = .ok (.aload_n 0, 1) := dk_42 (dk_at dksX11_insert_0 15 rfl rfl)
theorem dX11_insert_16 : decode cX11_insert 16 = .ok (.getfield 9, 3) := dk_180 0 9 (dk_at dksX11_insert_0 16 rfl rfl)
theorem dX11_insert_19 : decode cX11_insert 19 = .ok (.iload_n 3, 1) := dk_29 (dk_at dksX11_insert_0 19 rfl rfl)
theorem dX11_insert_20 : decode cX11_insert 20 = .ok (.iconst 1, 1) := dk_4 (dk_at dksX11_insert_0 20 rfl rfl)
theorem dX11_insert_21 : decode cX11_insert 21 = .ok (.isub, 1) := dk_100 (dk_at dksX11_insert_0 21 rfl rfl)
theorem dX11_insert_22 : decode cX11_insert 22 = .ok (.iaload, 1) := dk_46 (dk_at dksX11_insert_0 22 rfl rfl)
theorem dX11_insert_23 : decode cX11_insert 23 = .ok (.iastore, 1) := dk_79 (dk_at dksX11_insert_0 23 rfl rfl)
theorem dX11_insert_24 : decode cX11_insert 24 = .ok (.iinc 3 (-1), 3) := dk_132 3 255 (dk_at dksX11_insert_1 0 rfl rfl)
theorem dX11_insert_27 : decode cX11_insert 27 = .ok (.goto (-22), 3) := dk_167 255 234 (dk_at dksX11_insert_1 3 rfl rfl)
theorem dX11_insert_30 : decode cX11_insert 30 = .ok (.aload_n 0, 1) := dk_42 (dk_at dksX11_insert_1 6 rfl rfl)
theorem dX11_insert_31 : decode cX11_insert 31 = .ok (.getfield 9, 3) := dk_180 0 9 (dk_at dksX11_insert_1 7 rfl rfl)
theorem dX11_insert_34 : decode cX11_insert 34 = .ok (.iload_n 1, 1) := dk_27 (dk_at dksX11_insert_1 10 rfl rfl)
theorem dX11_insert_35 : decode cX11_insert 35 = .ok (.iload_n 2, 1) := dk_28 (dk_at dksX11_insert_1 11 rfl rfl)
theorem dX11_insert_36 : decode cX11_insert 36 = .ok (.iastore, 1) := dk_79 (dk_at dksX11_insert_1 12 rfl rfl)
theorem dX11_insert_37 : decode cX11_insert 37 = .ok (.aload_n 0, 1) := dk_42 (dk_at dksX11_insert_1 13 rfl rfl)
theorem dX11_insert_38 : decode cX11_insert 38 = .ok (.dup, 1) := dk_89 (dk_at dksX11_insert_1 14 rfl rfl)
theorem dX11_insert_39 : decode cX11_insert 39 = .ok (.getfield 21, 3) := dk_180 0 21 (dk_at dksX11_insert_1 15 rfl rfl)
theorem dX11_insert_42 : decode cX11_insert 42 = .ok (.iconst 1, 1) := dk_4 (dk_at dksX11_insert_1 18 rfl rfl)
theorem dX11_insert_43 : decode cX11_insert 43 = .ok (.iadd, 1) := dk_96 (dk_at dksX11_insert_1 19 rfl rfl)
theorem dX11_insert_44 : decode cX11_insert 44 = .ok (.putfield 21, 3) := dk_181 0 21 (dk_at dksX11_insert_1 20 rfl rfl)
theorem dX11_insert_47 : decode cX11_insert 47 = .ok (.return_, 1) := dk_177 (dk_at dksX11_insert_1 23 rfl rfl)
abbrev cX11_swap : ByteArray := prog_7_method_6_code
def yX11_swap : MethodName := ⟨RX11, "swap", "(I)V"⟩
def dkwX11_swap_1 : List UInt8 := [180, 0, 9, 27, 4, 96, 28, 79, 177]
abbrev dktX11_swap_1 : List UInt8 := dkwX11_swap_1 ++ []
def dkwX11_swap_0 : List UInt8 := [42, 180, 0, 9, 27, 46, 61, 42, 180, 0, 9, 27, 42, 180, 0, 9, 27, 4, 96, 46, 79, 42]
abbrev dktX11_swap_0 : List UInt8 := dkwX11_swap_0 ++ dktX11_swap_1
theorem dksX11_swap_0 : cX11_swap.data.toList.drop 0 = dktX11_swap_0 := by decide +kernel
theorem dksX11_swap_1 : cX11_swap.data.toList.drop 22 = dktX11_swap_1 := dk_seg dksX11_swap_0 22 rfl rfl
theorem dX11_swap_0 : decode cX11_swap 0 = .ok (.aload_n 0, 1) := dk_42 (dk_at dksX11_swap_0 0 rfl rfl)
theorem dX11_swap_1 : decode cX11_swap 1 = .ok (.getfield 9, 3) := dk_180 0 9 (dk_at dksX11_swap_0 1 rfl rfl)
theorem dX11_swap_4 : decode cX11_swap 4 = .ok (.iload_n 1, 1) := dk_27 (dk_at dksX11_swap_0 4 rfl rfl)
theorem dX11_swap_5 : decode cX11_swap 5 = .ok (.iaload, 1) := dk_46 (dk_at dksX11_swap_0 5 rfl rfl)
theorem dX11_swap_6 : decode cX11_swap 6 = .ok (.istore_n 2, 1) := dk_61 (dk_at dksX11_swap_0 6 rfl rfl)
theorem dX11_swap_7 : decode cX11_swap 7 = .ok (.aload_n 0, 1) := dk_42 (dk_at dksX11_swap_0 7 rfl rfl)
theorem dX11_swap_8 : decode cX11_swap 8 = .ok (.getfield 9, 3) := dk_180 0 9 (dk_at dksX11_swap_0 8 rfl rfl)
theorem dX11_swap_11 : decode cX11_swap 11 = .ok (.iload_n 1, 1) := dk_27 (dk_at dksX11_swap_0 11 rfl rfl)
theorem dX11_swap_12 : decode cX11_swap 12 = .ok (.aload_n 0, 1) := dk_42 (dk_at dksX11_swap_0 12 rfl rfl)
theorem dX11_swap_13 : decode cX11_swap 13 = .ok (.getfield 9, 3) := dk_180 0 9 (dk_at dksX11_swap_0 13 rfl rfl)
theorem dX11_swap_16 : decode cX11_swap 16 = .ok (.iload_n 1, 1) := dk_27 (dk_at dksX11_swap_0 16 rfl rfl)
theorem dX11_swap_17 : decode cX11_swap 17 = .ok (.iconst 1, 1) := dk_4 (dk_at dksX11_swap_0 17 rfl rfl)
theorem dX11_swap_18 : decode cX11_swap 18 = .ok (.iadd, 1) := dk_96 (dk_at dksX11_swap_0 18 rfl rfl)
theorem dX11_swap_19 : decode cX11_swap 19 = .ok (.iaload, 1) := dk_46 (dk_at dksX11_swap_0 19 rfl rfl)
theorem dX11_swap_20 : decode cX11_swap 20 = .ok (.iastore, 1) := dk_79 (dk_at dksX11_swap_0 20 rfl rfl)
theorem dX11_swap_21 : decode cX11_swap 21 = .ok (.aload_n 0, 1) := dk_42 (dk_at dksX11_swap_0 21 rfl rfl)
theorem dX11_swap_22 : decode cX11_swap 22 = .ok (.getfield 9, 3) := dk_180 0 9 (dk_at dksX11_swap_1 0 rfl rfl)
theorem dX11_swap_25 : decode cX11_swap 25 = .ok (.iload_n 1, 1) := dk_27 (dk_at dksX11_swap_1 3 rfl rfl)
theorem dX11_swap_26 : decode cX11_swap 26 = .ok (.iconst 1, 1) := dk_4 (dk_at dksX11_swap_1 4 rfl rfl)
theorem dX11_swap_27 : decode cX11_swap 27 = .ok (.iadd, 1) := dk_96 (dk_at dksX11_swap_1 5 rfl rfl)
theorem dX11_swap_28 : decode cX11_swap 28 = .ok (.iload_n 2, 1) := dk_28 (dk_at dksX11_swap_1 6 rfl rfl)
theorem dX11_swap_29 : decode cX11_swap 29 = .ok (.iastore, 1) := dk_79 (dk_at dksX11_swap_1 7 rfl rfl)
theorem dX11_swap_30 : decode cX11_swap 30 = .ok (.return_, 1) := dk_177 (dk_at dksX11_swap_1 8 rfl rfl)
abbrev cX11_clear : ByteArray := prog_7_method_8_code
def yX11_clear : MethodName := ⟨RX11, "clear", "(I)V"⟩
def dkwX11_clear_1 : List UInt8 := [167, 255, 241, 177]
abbrev dktX11_clear_1 : List UInt8 := dkwX11_clear_1 ++ []
def dkwX11_clear_0 : List UInt8 := [42, 27, 181, 0, 21, 3, 61, 28, 27, 162, 0, 16, 42, 180, 0, 9, 28, 3, 79, 132, 2, 1]
abbrev dktX11_clear_0 : List UInt8 := dkwX11_clear_0 ++ dktX11_clear_1
theorem dksX11_clear_0 : cX11_clear.data.toList.drop 0 = dktX11_clear_0 := by decide +kernel
theorem dksX11_clear_1 : cX11_clear.data.toList.drop 22 = dktX11_clear_1 := dk_seg dksX11_clear_0 22 rfl rfl
theorem dX11_clear_0 : decode cX11_clear 0 = .ok (.aload_n 0, 1) := dk_42 (dk_at dksX11_clear_0 0 rfl rfl)
theorem dX11_clear_1 : decode cX11_clear 1 = .ok (.iload_n 1, 1) := dk_27 (dk_at dksX11_clear_0 1 rfl rfl)
theorem dX11_clear_2 : decode cX11_clear 2 = .ok (.putfield 21, 3) := dk_181 0 21 (dk_at dksX11_clear_0 2 rfl rfl)
theorem dX11_clear_5 : decode cX11_clear 5 = .ok (.iconst 0, 1) := dk_3 (dk_at dksX11_clear_0 5 rfl rfl)
theorem dX11_clear_6 : decode cX11_clear 6 = .ok (.istore_n 2, 1) := dk_61 (dk_at dksX11_clear_0 6 rfl rfl)
theorem dX11_clear_7 : decode cX11_clear 7 = .ok (.iload_n 2, 1) := dk_28 (dk_at dksX11_clear_0 7 rfl rfl)
theorem dX11_clear_8 : decode cX11_clear 8 = .ok (.iload_n 1, 1) := dk_27 (dk_at dksX11_clear_0 8 rfl rfl)
theorem dX11_clear_9 : decode cX11_clear 9 = .ok (.if_icmp .ge 16, 3) := dk_162 0 16 (dk_at dksX11_clear_0 9 rfl rfl)
theorem dX11_clear_12 : decode cX11_clear 12 = .ok (.aload_n 0, 1) := dk_42 (dk_at dksX11_clear_0 12 rfl rfl)
theorem dX11_clear_13 : decode cX11_clear 13 = .ok (.getfield 9, 3) := dk_180 0 9 (dk_at dksX11_clear_0 13 rfl rfl)
theorem dX11_clear_16 : decode cX11_clear 16 = .ok (.iload_n 2, 1) := dk_28 (dk_at dksX11_clear_0 16 rfl rfl)
theorem dX11_clear_17 : decode cX11_clear 17 = .ok (.iconst 0, 1) := dk_3 (dk_at dksX11_clear_0 17 rfl rfl)
theorem dX11_clear_18 : decode cX11_clear 18 = .ok (.iastore, 1) := dk_79 (dk_at dksX11_clear_0 18 rfl rfl)
theorem dX11_clear_19 : decode cX11_clear 19 = .ok (.iinc 2 1, 3) := dk_132 2 1 (dk_at dksX11_clear_0 19 rfl rfl)
theorem dX11_clear_22 : decode cX11_clear 22 = .ok (.goto (-15), 3) := dk_167 255 241 (dk_at dksX11_clear_1 0 rfl rfl)
theorem dX11_clear_25 : decode cX11_clear 25 = .ok (.return_, 1) := dk_177 (dk_at dksX11_clear_1 3 rfl rfl)
abbrev cX11_isNext : ByteArray := prog_7_method_7_code
def yX11_isNext : MethodName := ⟨RX11, "isNext", "()Z"⟩
def dkwX11_isNext_2 : List UInt8 := [96, 79, 27, 155, 0, 7, 4, 167, 0, 4, 3, 172]
abbrev dktX11_isNext_2 : List UInt8 := dkwX11_isNext_2 ++ []
def dkwX11_isNext_1 : List UInt8 := [180, 0, 9, 27, 3, 79, 132, 1, 255, 167, 255, 231, 27, 155, 0, 13, 42, 180, 0, 9, 27, 92, 46, 4]
abbrev dktX11_isNext_1 : List UInt8 := dkwX11_isNext_1 ++ dktX11_isNext_2
def dkwX11_isNext_0 : List UInt8 := [42, 180, 0, 21, 4, 100, 60, 27, 155, 0, 27, 42, 180, 0, 9, 27, 46, 16, 7, 160, 0, 16, 42]
abbrev dktX11_isNext_0 : List UInt8 := dkwX11_isNext_0 ++ dktX11_isNext_1
theorem dksX11_isNext_0 : cX11_isNext.data.toList.drop 0 = dktX11_isNext_0 := by decide +kernel
theorem dksX11_isNext_1 : cX11_isNext.data.toList.drop 23 = dktX11_isNext_1 := dk_seg dksX11_isNext_0 23 rfl rfl
theorem dksX11_isNext_2 : cX11_isNext.data.toList.drop 47 = dktX11_isNext_2 := dk_seg dksX11_isNext_1 24 rfl rfl
theorem dX11_isNext_0 : decode cX11_isNext 0 = .ok (.aload_n 0, 1) := dk_42 (dk_at dksX11_isNext_0 0 rfl rfl)
theorem dX11_isNext_1 : decode cX11_isNext 1 = .ok (.getfield 21, 3) := dk_180 0 21 (dk_at dksX11_isNext_0 1 rfl rfl)
theorem dX11_isNext_4 : decode cX11_isNext 4 = .ok (.iconst 1, 1) := dk_4 (dk_at dksX11_isNext_0 4 rfl rfl)
theorem dX11_isNext_5 : decode cX11_isNext 5 = .ok (.isub, 1) := dk_100 (dk_at dksX11_isNext_0 5 rfl rfl)
theorem dX11_isNext_6 : decode cX11_isNext 6 = .ok (.istore_n 1, 1) := dk_60 (dk_at dksX11_isNext_0 6 rfl rfl)
theorem dX11_isNext_7 : decode cX11_isNext 7 = .ok (.iload_n 1, 1) := dk_27 (dk_at dksX11_isNext_0 7 rfl rfl)
theorem dX11_isNext_8 : decode cX11_isNext 8 = .ok (.ifCond .lt 27, 3) := dk_155 0 27 (dk_at dksX11_isNext_0 8 rfl rfl)
theorem dX11_isNext_11 : decode cX11_isNext 11 = .ok (.aload_n 0, 1) := dk_42 (dk_at dksX11_isNext_0 11 rfl rfl)
theorem dX11_isNext_12 : decode cX11_isNext 12 = .ok (.getfield 9, 3) := dk_180 0 9 (dk_at dksX11_isNext_0 12 rfl rfl)
theorem dX11_isNext_15 : decode cX11_isNext 15 = .ok (.iload_n 1, 1) := dk_27 (dk_at dksX11_isNext_0 15 rfl rfl)
theorem dX11_isNext_16 : decode cX11_isNext 16 = .ok (.iaload, 1) := dk_46 (dk_at dksX11_isNext_0 16 rfl rfl)
theorem dX11_isNext_17 : decode cX11_isNext 17 = .ok (.bipush 7, 2) := dk_16 7 (dk_at dksX11_isNext_0 17 rfl rfl)
theorem dX11_isNext_19 : decode cX11_isNext 19 = .ok (.if_icmp .ne 16, 3) := dk_160 0 16 (dk_at dksX11_isNext_0 19 rfl rfl)
theorem dX11_isNext_22 : decode cX11_isNext 22 = .ok (.aload_n 0, 1) := dk_42 (dk_at dksX11_isNext_0 22 rfl rfl)
theorem dX11_isNext_23 : decode cX11_isNext 23 = .ok (.getfield 9, 3) := dk_180 0 9 (dk_at dksX11_isNext_1 0 rfl rfl)
theorem dX11_isNext_26 : decode cX11_isNext 26 = .ok (.iload_n 1, 1) := dk_27 (dk_at dksX11_isNext_1 3 rfl rfl)
theorem dX11_isNext_27 : decode cX11_isNext 27 = .ok (.iconst 0, 1) := dk_3 (dk_at dksX11_isNext_1 4 rfl rfl)
theorem dX11_isNext_28 : decode cX11_isNext 28 = .ok (.iastore, 1) := dk_79 (dk_at dksX11_isNext_1 5 rfl rfl)
theorem dX11_isNext_29 : decode cX11_isNext 29 = .ok (.iinc 1 (-1), 3) := dk_132 1 255 (dk_at dksX11_isNext_1 6 rfl rfl)
theorem dX11_isNext_32 : decode cX11_isNext 32 = .ok (.goto (-25), 3) := dk_167 255 231 (dk_at dksX11_isNext_1 9 rfl rfl)
theorem dX11_isNext_35 : decode cX11_isNext 35 = .ok (.iload_n 1, 1) := dk_27 (dk_at dksX11_isNext_1 12 rfl rfl)
theorem dX11_isNext_36 : decode cX11_isNext 36 = .ok (.ifCond .lt 13, 3) := dk_155 0 13 (dk_at dksX11_isNext_1 13 rfl rfl)
theorem dX11_isNext_39 : decode cX11_isNext 39 = .ok (.aload_n 0, 1) := dk_42 (dk_at dksX11_isNext_1 16 rfl rfl)
theorem dX11_isNext_40 : decode cX11_isNext 40 = .ok (.getfield 9, 3) := dk_180 0 9 (dk_at dksX11_isNext_1 17 rfl rfl)
theorem dX11_isNext_43 : decode cX11_isNext 43 = .ok (.iload_n 1, 1) := dk_27 (dk_at dksX11_isNext_1 20 rfl rfl)
theorem dX11_isNext_44 : decode cX11_isNext 44 = .ok (.dup2, 1) := dk_92 (dk_at dksX11_isNext_1 21 rfl rfl)
theorem dX11_isNext_45 : decode cX11_isNext 45 = .ok (.iaload, 1) := dk_46 (dk_at dksX11_isNext_1 22 rfl rfl)
theorem dX11_isNext_46 : decode cX11_isNext 46 = .ok (.iconst 1, 1) := dk_4 (dk_at dksX11_isNext_1 23 rfl rfl)
theorem dX11_isNext_47 : decode cX11_isNext 47 = .ok (.iadd, 1) := dk_96 (dk_at dksX11_isNext_2 0 rfl rfl)
theorem dX11_isNext_48 : decode cX11_isNext 48 = .ok (.iastore, 1) := dk_79 (dk_at dksX11_isNext_2 1 rfl rfl)
theorem dX11_isNext_49 : decode cX11_isNext 49 = .ok (.iload_n 1, 1) := dk_27 (dk_at dksX11_isNext_2 2 rfl rfl)
theorem dX11_isNext_50 : decode cX11_isNext 50 = .ok (.ifCond .lt 7, 3) := dk_155 0 7 (dk_at dksX11_isNext_2 3 rfl rfl)
theorem dX11_isNext_53 : decode cX11_isNext 53 = .ok (.iconst 1, 1) := dk_4 (dk_at dksX11_isNext_2 6 rfl rfl)
theorem dX11_isNext_54 : decode cX11_isNext 54 = .ok (.goto 4, 3) := dk_167 0 4 (dk_at dksX11_isNext_2 7 rfl rfl)
theorem dX11_isNext_57 : decode cX11_isNext 57 = .ok (.iconst 0, 1) := dk_3 (dk_at dksX11_isNext_2 10 rfl rfl)
theorem dX11_isNext_58 : decode cX11_isNext 58 = .ok (.ireturn, 1) := dk_172 (dk_at dksX11_isNext_2 11 rfl rfl)
theorem q75 : (Jvm.Cond.initialized "ShrinkYard$Digits") ∈ lw_all := lw_g (lw_at lw_m1 42 rfl) rfl
theorem q282 : (Jvm.Cond.selects "ShrinkYard$Digits" ({ cls := "java/lang/Object", name := "getClass", desc := "()Ljava/lang/Class;" } : Jvm.MethodName) ({ cls := "java/lang/Object", name := "getClass", desc := "()Ljava/lang/Class;" } : Jvm.MethodName)) ∈ lw_all := lw_g (lw_at lw_m2 9 rfl) rfl
theorem q1157 : (Jvm.Cond.instantiable "ShrinkYard$Digits" (2 : Nat)) ∈ lw_all := lw_g (lw_at lw_m5 164 rfl) rfl
theorem q1159 : (Jvm.Cond.instanceMethod ({ cls := "ShrinkYard$Digits", name := "<init>", desc := "()V" } : Jvm.MethodName)) ∈ lw_all := lw_g (lw_at lw_m5 166 rfl) rfl
theorem q1160 : (Jvm.Cond.code ({ cls := "ShrinkYard$Digits", name := "<init>", desc := "()V" } : Jvm.MethodName) prog_7_method_1_code (1 : Nat) (Option.none : Option Jvm.ClassFile.FieldType)) ∈ lw_all := lw_g (lw_at lw_m5 167 rfl) rfl
theorem q1161 : (Jvm.Cond.methodLink "ShrinkYard$Digits" (3 : Nat) ({ cls := "java/lang/Object", name := "<init>", desc := "()V" } : Jvm.MethodName)) ∈ lw_all := lw_g (lw_at lw_m5 168 rfl) rfl
theorem q1162 : (Jvm.Cond.fieldLink "ShrinkYard$Digits" (9 : Nat) "ShrinkYard$Digits" "digits" "[I") ∈ lw_all := lw_g (lw_at lw_m5 169 rfl) rfl
theorem q1167 : (Jvm.Cond.fieldLink "ShrinkYard$Digits" (21 : Nat) "ShrinkYard$Digits" "length" "I") ∈ lw_all := lw_g (lw_at lw_m5 174 rfl) rfl
theorem q1172 : (Jvm.Cond.laysFinal "ShrinkYard$Digits" "ShrinkYard$Digits" "digits" "[I") ∈ lw_all := lw_g (lw_at lw_m5 179 rfl) rfl
theorem q1173 : (Jvm.Cond.soleField "ShrinkYard$Digits" "digits") ∈ lw_all := lw_g (lw_at lw_m5 180 rfl) rfl
theorem q1174 : (Jvm.Cond.lays "ShrinkYard$Digits" "ShrinkYard$Digits" "length" "I") ∈ lw_all := lw_g (lw_at lw_m5 181 rfl) rfl
theorem q1175 : (Jvm.Cond.soleField "ShrinkYard$Digits" "length") ∈ lw_all := lw_g (lw_at lw_m5 182 rfl) rfl
theorem q1176 : (Jvm.Cond.superclass "ShrinkYard$Digits" "java/lang/Object") ∈ lw_all := lw_g (lw_at lw_m5 183 rfl) rfl
theorem q1178 : (Jvm.Cond.instanceMethod ({ cls := "ShrinkYard$Digits", name := "read", desc := "(Ljava/lang/String;)V" } : Jvm.MethodName)) ∈ lw_all := lw_g (lw_at lw_m5 185 rfl) rfl
theorem q1179 : (Jvm.Cond.selects "ShrinkYard$Digits" ({ cls := "ShrinkYard$Digits", name := "read", desc := "(Ljava/lang/String;)V" } : Jvm.MethodName) ({ cls := "ShrinkYard$Digits", name := "read", desc := "(Ljava/lang/String;)V" } : Jvm.MethodName)) ∈ lw_all := lw_g (lw_at lw_m5 186 rfl) rfl
theorem q1180 : (Jvm.Cond.code ({ cls := "ShrinkYard$Digits", name := "read", desc := "(Ljava/lang/String;)V" } : Jvm.MethodName) prog_7_method_2_code (3 : Nat) (Option.none : Option Jvm.ClassFile.FieldType)) ∈ lw_all := lw_g (lw_at lw_m5 187 rfl) rfl
theorem q1181 : (Jvm.Cond.methodLink "ShrinkYard$Digits" (15 : Nat) ({ cls := "java/lang/String", name := "length", desc := "()I" } : Jvm.MethodName)) ∈ lw_all := lw_g (lw_at lw_m5 188 rfl) rfl
theorem q1182 : (Jvm.Cond.methodLink "ShrinkYard$Digits" (24 : Nat) ({ cls := "java/lang/String", name := "charAt", desc := "(I)C" } : Jvm.MethodName)) ∈ lw_all := lw_g (lw_at lw_m5 189 rfl) rfl
theorem q1269 : (Jvm.Cond.instanceMethod ({ cls := "ShrinkYard$Digits", name := "text", desc := "()Ljava/lang/String;" } : Jvm.MethodName)) ∈ lw_all := lw_g (lw_at lw_m6 36 rfl) rfl
theorem q1270 : (Jvm.Cond.selects "ShrinkYard$Digits" ({ cls := "ShrinkYard$Digits", name := "text", desc := "()Ljava/lang/String;" } : Jvm.MethodName) ({ cls := "ShrinkYard$Digits", name := "text", desc := "()Ljava/lang/String;" } : Jvm.MethodName)) ∈ lw_all := lw_g (lw_at lw_m6 37 rfl) rfl
theorem q1271 : (Jvm.Cond.code ({ cls := "ShrinkYard$Digits", name := "text", desc := "()Ljava/lang/String;" } : Jvm.MethodName) prog_7_method_9_code (3 : Nat) (Option.some (Jvm.ClassFile.FieldType.object "java/lang/String"))) ∈ lw_all := lw_g (lw_at lw_m6 38 rfl) rfl
theorem q1272 : (Jvm.Cond.classLink "ShrinkYard$Digits" (28 : Nat) "java/lang/StringBuilder") ∈ lw_all := lw_g (lw_at lw_m6 39 rfl) rfl
theorem q1273 : (Jvm.Cond.methodLink "ShrinkYard$Digits" (30 : Nat) ({ cls := "java/lang/StringBuilder", name := "<init>", desc := "()V" } : Jvm.MethodName)) ∈ lw_all := lw_g (lw_at lw_m6 40 rfl) rfl
theorem q1274 : (Jvm.Cond.methodLink "ShrinkYard$Digits" (31 : Nat) ({ cls := "java/lang/StringBuilder", name := "append", desc := "(C)Ljava/lang/StringBuilder;" } : Jvm.MethodName)) ∈ lw_all := lw_g (lw_at lw_m6 41 rfl) rfl
theorem q1275 : (Jvm.Cond.methodLink "ShrinkYard$Digits" (35 : Nat) ({ cls := "java/lang/StringBuilder", name := "toString", desc := "()Ljava/lang/String;" } : Jvm.MethodName)) ∈ lw_all := lw_g (lw_at lw_m6 42 rfl) rfl
theorem q1533 : (Jvm.Cond.instanceMethod ({ cls := "ShrinkYard$Digits", name := "copy", desc := "(LShrinkYard$Digits;)V" } : Jvm.MethodName)) ∈ lw_all := lw_g (lw_at lw_m7 60 rfl) rfl
theorem q1534 : (Jvm.Cond.selects "ShrinkYard$Digits" ({ cls := "ShrinkYard$Digits", name := "copy", desc := "(LShrinkYard$Digits;)V" } : Jvm.MethodName) ({ cls := "ShrinkYard$Digits", name := "copy", desc := "(LShrinkYard$Digits;)V" } : Jvm.MethodName)) ∈ lw_all := lw_g (lw_at lw_m7 61 rfl) rfl
theorem q1535 : (Jvm.Cond.code ({ cls := "ShrinkYard$Digits", name := "copy", desc := "(LShrinkYard$Digits;)V" } : Jvm.MethodName) prog_7_method_3_code (3 : Nat) (Option.none : Option Jvm.ClassFile.FieldType)) ∈ lw_all := lw_g (lw_at lw_m7 62 rfl) rfl
theorem q1541 : (Jvm.Cond.instanceMethod ({ cls := "ShrinkYard$Digits", name := "delete", desc := "(I)V" } : Jvm.MethodName)) ∈ lw_all := lw_g (lw_at lw_m7 68 rfl) rfl
theorem q1542 : (Jvm.Cond.selects "ShrinkYard$Digits" ({ cls := "ShrinkYard$Digits", name := "delete", desc := "(I)V" } : Jvm.MethodName) ({ cls := "ShrinkYard$Digits", name := "delete", desc := "(I)V" } : Jvm.MethodName)) ∈ lw_all := lw_g (lw_at lw_m7 69 rfl) rfl
theorem q1543 : (Jvm.Cond.code ({ cls := "ShrinkYard$Digits", name := "delete", desc := "(I)V" } : Jvm.MethodName) prog_7_method_5_code (3 : Nat) (Option.none : Option Jvm.ClassFile.FieldType)) ∈ lw_all := lw_g (lw_at lw_m7 70 rfl) rfl
theorem q1677 : (Jvm.Cond.instanceMethod ({ cls := "ShrinkYard$Digits", name := "insert", desc := "(II)V" } : Jvm.MethodName)) ∈ lw_all := lw_g (lw_at lw_m7 204 rfl) rfl
theorem q1678 : (Jvm.Cond.selects "ShrinkYard$Digits" ({ cls := "ShrinkYard$Digits", name := "insert", desc := "(II)V" } : Jvm.MethodName) ({ cls := "ShrinkYard$Digits", name := "insert", desc := "(II)V" } : Jvm.MethodName)) ∈ lw_all := lw_g (lw_at lw_m7 205 rfl) rfl
theorem q1679 : (Jvm.Cond.code ({ cls := "ShrinkYard$Digits", name := "insert", desc := "(II)V" } : Jvm.MethodName) prog_7_method_4_code (4 : Nat) (Option.none : Option Jvm.ClassFile.FieldType)) ∈ lw_all := lw_g (lw_at lw_m7 206 rfl) rfl
theorem q1691 : (Jvm.Cond.instanceMethod ({ cls := "ShrinkYard$Digits", name := "swap", desc := "(I)V" } : Jvm.MethodName)) ∈ lw_all := lw_g (lw_at lw_m7 218 rfl) rfl
theorem q1692 : (Jvm.Cond.selects "ShrinkYard$Digits" ({ cls := "ShrinkYard$Digits", name := "swap", desc := "(I)V" } : Jvm.MethodName) ({ cls := "ShrinkYard$Digits", name := "swap", desc := "(I)V" } : Jvm.MethodName)) ∈ lw_all := lw_g (lw_at lw_m7 219 rfl) rfl
theorem q1693 : (Jvm.Cond.code ({ cls := "ShrinkYard$Digits", name := "swap", desc := "(I)V" } : Jvm.MethodName) prog_7_method_6_code (3 : Nat) (Option.none : Option Jvm.ClassFile.FieldType)) ∈ lw_all := lw_g (lw_at lw_m7 220 rfl) rfl
theorem q1818 : (Jvm.Cond.instanceMethod ({ cls := "ShrinkYard$Digits", name := "clear", desc := "(I)V" } : Jvm.MethodName)) ∈ lw_all := lw_g (lw_at lw_m8 105 rfl) rfl
theorem q1819 : (Jvm.Cond.selects "ShrinkYard$Digits" ({ cls := "ShrinkYard$Digits", name := "clear", desc := "(I)V" } : Jvm.MethodName) ({ cls := "ShrinkYard$Digits", name := "clear", desc := "(I)V" } : Jvm.MethodName)) ∈ lw_all := lw_g (lw_at lw_m8 106 rfl) rfl
theorem q1820 : (Jvm.Cond.code ({ cls := "ShrinkYard$Digits", name := "clear", desc := "(I)V" } : Jvm.MethodName) prog_7_method_8_code (3 : Nat) (Option.none : Option Jvm.ClassFile.FieldType)) ∈ lw_all := lw_g (lw_at lw_m8 107 rfl) rfl
theorem q1822 : (Jvm.Cond.instanceMethod ({ cls := "ShrinkYard$Digits", name := "isNext", desc := "()Z" } : Jvm.MethodName)) ∈ lw_all := lw_g (lw_at lw_m8 109 rfl) rfl
theorem q1823 : (Jvm.Cond.selects "ShrinkYard$Digits" ({ cls := "ShrinkYard$Digits", name := "isNext", desc := "()Z" } : Jvm.MethodName) ({ cls := "ShrinkYard$Digits", name := "isNext", desc := "()Z" } : Jvm.MethodName)) ∈ lw_all := lw_g (lw_at lw_m8 110 rfl) rfl
theorem q1824 : (Jvm.Cond.code ({ cls := "ShrinkYard$Digits", name := "isNext", desc := "()Z" } : Jvm.MethodName) prog_7_method_7_code (2 : Nat) (Option.some Jvm.ClassFile.FieldType.boolean)) ∈ lw_all := lw_g (lw_at lw_m8 111 rfl) rfl
theorem q2259 : (Jvm.Cond.castable "ShrinkYard$Digits" "java/lang/Object") ∈ lw_tbl := lw_at lw_m10 66 rfl
theorem in_X11 : ∀ w ∈ wsX110, w ∈ lw_all := lw_in wsX110 [1172, 1174] (by decide +kernel) (by decide +kernel)

/-! Finding -/
set_option maxRecDepth 100000
def RX12 : String := "Finding"
def TX12 : u_T := fun k => match k with
  | 0 => ("Finding", "input", "Ljava/lang/String;", true)
  | 1 => ("Finding", "shrunk", "Ljava/lang/String;", true)
  | _ => ("Finding", "code", "I", true)
def tyX12 : Nat → FieldType := fun k => match k with
  | 0 => .object "java/lang/String"
  | 1 => .object "java/lang/String"
  | _ => .int
abbrev wsX120 : List Cond := u_ws RX12 TX12 3
theorem nmX12 : ∀ a, a < 3 → ∀ b, b < 3 → a ≠ b → (TX12 a).2.1 ≠ (TX12 b).2.1 := by decide +kernel
theorem tyX12_ok : ∀ k, k < 3 → parseFieldDescriptor (TX12 k).2.2.1 = some (tyX12 k) := by decide +kernel
abbrev cX12_input : ByteArray := prog_2_method_2_code
def yX12_input : MethodName := ⟨RX12, "input", "()Ljava/lang/String;"⟩
theorem dX12_input_0 : decode cX12_input 0 = .ok (.aload_n 0, 1) := by decide +kernel
theorem dX12_input_1 : decode cX12_input 1 = .ok (.getfield 7, 3) := by decide +kernel
theorem dX12_input_4 : decode cX12_input 4 = .ok (.areturn, 1) := by decide +kernel
abbrev cX12_shrunk : ByteArray := prog_2_method_3_code
def yX12_shrunk : MethodName := ⟨RX12, "shrunk", "()Ljava/lang/String;"⟩
theorem dX12_shrunk_0 : decode cX12_shrunk 0 = .ok (.aload_n 0, 1) := by decide +kernel
theorem dX12_shrunk_1 : decode cX12_shrunk 1 = .ok (.getfield 13, 3) := by decide +kernel
theorem dX12_shrunk_4 : decode cX12_shrunk 4 = .ok (.areturn, 1) := by decide +kernel
abbrev cX12_code : ByteArray := prog_2_method_4_code
def yX12_code : MethodName := ⟨RX12, "code", "()I"⟩
theorem dX12_code_0 : decode cX12_code 0 = .ok (.aload_n 0, 1) := by decide +kernel
theorem dX12_code_1 : decode cX12_code 1 = .ok (.getfield 16, 3) := by decide +kernel
theorem dX12_code_4 : decode cX12_code 4 = .ok (.ireturn, 1) := by decide +kernel
abbrev cX12_init : ByteArray := prog_2_method_1_code
def yX12_init : MethodName := ⟨RX12, "<init>", "(Ljava/lang/String;Ljava/lang/String;I)V"⟩
def dkwX12_init_0 : List UInt8 := [42, 183, 0, 1, 42, 43, 181, 0, 7, 42, 44, 181, 0, 13, 42, 29, 181, 0, 16, 177]
abbrev dktX12_init_0 : List UInt8 := dkwX12_init_0 ++ []
theorem dksX12_init_0 : cX12_init.data.toList.drop 0 = dktX12_init_0 := by decide +kernel
theorem dX12_init_0 : decode cX12_init 0 = .ok (.aload_n 0, 1) := dk_42 (dk_at dksX12_init_0 0 rfl rfl)
theorem dX12_init_1 : decode cX12_init 1 = .ok (.invokespecial 1, 3) := dk_183 0 1 (dk_at dksX12_init_0 1 rfl rfl)
theorem dX12_init_4 : decode cX12_init 4 = .ok (.aload_n 0, 1) := dk_42 (dk_at dksX12_init_0 4 rfl rfl)
theorem dX12_init_5 : decode cX12_init 5 = .ok (.aload_n 1, 1) := dk_43 (dk_at dksX12_init_0 5 rfl rfl)
theorem dX12_init_6 : decode cX12_init 6 = .ok (.putfield 7, 3) := dk_181 0 7 (dk_at dksX12_init_0 6 rfl rfl)
theorem dX12_init_9 : decode cX12_init 9 = .ok (.aload_n 0, 1) := dk_42 (dk_at dksX12_init_0 9 rfl rfl)
theorem dX12_init_10 : decode cX12_init 10 = .ok (.aload_n 2, 1) := dk_44 (dk_at dksX12_init_0 10 rfl rfl)
theorem dX12_init_11 : decode cX12_init 11 = .ok (.putfield 13, 3) := dk_181 0 13 (dk_at dksX12_init_0 11 rfl rfl)
theorem dX12_init_14 : decode cX12_init 14 = .ok (.aload_n 0, 1) := dk_42 (dk_at dksX12_init_0 14 rfl rfl)
theorem dX12_init_15 : decode cX12_init 15 = .ok (.iload_n 3, 1) := dk_29 (dk_at dksX12_init_0 15 rfl rfl)
theorem dX12_init_16 : decode cX12_init 16 = .ok (.putfield 16, 3) := dk_181 0 16 (dk_at dksX12_init_0 16 rfl rfl)
theorem dX12_init_19 : decode cX12_init 19 = .ok (.return_, 1) := dk_177 (dk_at dksX12_init_0 19 rfl rfl)
theorem q83 : (Jvm.Cond.initialized "Finding") ∈ lw_all := lw_g (lw_at lw_m1 50 rfl) rfl
theorem q87 : (Jvm.Cond.instanceMethod ({ cls := "Finding", name := "input", desc := "()Ljava/lang/String;" } : Jvm.MethodName)) ∈ lw_all := lw_g (lw_at lw_m1 54 rfl) rfl
theorem q88 : (Jvm.Cond.selects "Finding" ({ cls := "Finding", name := "input", desc := "()Ljava/lang/String;" } : Jvm.MethodName) ({ cls := "Finding", name := "input", desc := "()Ljava/lang/String;" } : Jvm.MethodName)) ∈ lw_all := lw_g (lw_at lw_m1 55 rfl) rfl
theorem q89 : (Jvm.Cond.code ({ cls := "Finding", name := "input", desc := "()Ljava/lang/String;" } : Jvm.MethodName) prog_2_method_2_code (1 : Nat) (Option.some (Jvm.ClassFile.FieldType.object "java/lang/String"))) ∈ lw_all := lw_g (lw_at lw_m1 56 rfl) rfl
theorem q91 : (Jvm.Cond.instanceMethod ({ cls := "Finding", name := "shrunk", desc := "()Ljava/lang/String;" } : Jvm.MethodName)) ∈ lw_all := lw_g (lw_at lw_m1 58 rfl) rfl
theorem q92 : (Jvm.Cond.selects "Finding" ({ cls := "Finding", name := "shrunk", desc := "()Ljava/lang/String;" } : Jvm.MethodName) ({ cls := "Finding", name := "shrunk", desc := "()Ljava/lang/String;" } : Jvm.MethodName)) ∈ lw_all := lw_g (lw_at lw_m1 59 rfl) rfl
theorem q93 : (Jvm.Cond.code ({ cls := "Finding", name := "shrunk", desc := "()Ljava/lang/String;" } : Jvm.MethodName) prog_2_method_3_code (1 : Nat) (Option.some (Jvm.ClassFile.FieldType.object "java/lang/String"))) ∈ lw_all := lw_g (lw_at lw_m1 60 rfl) rfl
theorem q95 : (Jvm.Cond.instanceMethod ({ cls := "Finding", name := "code", desc := "()I" } : Jvm.MethodName)) ∈ lw_all := lw_g (lw_at lw_m1 62 rfl) rfl
theorem q96 : (Jvm.Cond.selects "Finding" ({ cls := "Finding", name := "code", desc := "()I" } : Jvm.MethodName) ({ cls := "Finding", name := "code", desc := "()I" } : Jvm.MethodName)) ∈ lw_all := lw_g (lw_at lw_m1 63 rfl) rfl
theorem q97 : (Jvm.Cond.code ({ cls := "Finding", name := "code", desc := "()I" } : Jvm.MethodName) prog_2_method_4_code (1 : Nat) (Option.some Jvm.ClassFile.FieldType.int)) ∈ lw_all := lw_g (lw_at lw_m1 64 rfl) rfl
theorem q277 : (Jvm.Cond.selects "Finding" ({ cls := "java/lang/Object", name := "getClass", desc := "()Ljava/lang/Class;" } : Jvm.MethodName) ({ cls := "java/lang/Object", name := "getClass", desc := "()Ljava/lang/Class;" } : Jvm.MethodName)) ∈ lw_all := lw_g (lw_at lw_m2 4 rfl) rfl
theorem q1527 : (Jvm.Cond.instantiable "Finding" (3 : Nat)) ∈ lw_all := lw_g (lw_at lw_m7 54 rfl) rfl
theorem q1550 : (Jvm.Cond.instanceMethod ({ cls := "Finding", name := "<init>", desc := "(Ljava/lang/String;Ljava/lang/String;I)V" } : Jvm.MethodName)) ∈ lw_all := lw_g (lw_at lw_m7 77 rfl) rfl
theorem q1551 : (Jvm.Cond.code ({ cls := "Finding", name := "<init>", desc := "(Ljava/lang/String;Ljava/lang/String;I)V" } : Jvm.MethodName) prog_2_method_1_code (4 : Nat) (Option.none : Option Jvm.ClassFile.FieldType)) ∈ lw_all := lw_g (lw_at lw_m7 78 rfl) rfl
theorem q1552 : (Jvm.Cond.methodLink "Finding" (1 : Nat) ({ cls := "java/lang/Object", name := "<init>", desc := "()V" } : Jvm.MethodName)) ∈ lw_all := lw_g (lw_at lw_m7 79 rfl) rfl
theorem q1553 : (Jvm.Cond.fieldLink "Finding" (7 : Nat) "Finding" "input" "Ljava/lang/String;") ∈ lw_all := lw_g (lw_at lw_m7 80 rfl) rfl
theorem q1554 : (Jvm.Cond.fieldLink "Finding" (13 : Nat) "Finding" "shrunk" "Ljava/lang/String;") ∈ lw_all := lw_g (lw_at lw_m7 81 rfl) rfl
theorem q1555 : (Jvm.Cond.fieldLink "Finding" (16 : Nat) "Finding" "code" "I") ∈ lw_all := lw_g (lw_at lw_m7 82 rfl) rfl
theorem q1556 : (Jvm.Cond.laysFinal "Finding" "Finding" "input" "Ljava/lang/String;") ∈ lw_all := lw_g (lw_at lw_m7 83 rfl) rfl
theorem q1557 : (Jvm.Cond.soleField "Finding" "input") ∈ lw_all := lw_g (lw_at lw_m7 84 rfl) rfl
theorem q1558 : (Jvm.Cond.laysFinal "Finding" "Finding" "shrunk" "Ljava/lang/String;") ∈ lw_all := lw_g (lw_at lw_m7 85 rfl) rfl
theorem q1559 : (Jvm.Cond.soleField "Finding" "shrunk") ∈ lw_all := lw_g (lw_at lw_m7 86 rfl) rfl
theorem q1560 : (Jvm.Cond.laysFinal "Finding" "Finding" "code" "I") ∈ lw_all := lw_g (lw_at lw_m7 87 rfl) rfl
theorem q1561 : (Jvm.Cond.soleField "Finding" "code") ∈ lw_all := lw_g (lw_at lw_m7 88 rfl) rfl
theorem q1562 : (Jvm.Cond.superclass "Finding" "java/lang/Object") ∈ lw_all := lw_g (lw_at lw_m7 89 rfl) rfl
theorem q2265 : (Jvm.Cond.castable "Finding" "java/lang/Object") ∈ lw_tbl := lw_at lw_m10 72 rfl
theorem in_X12 : ∀ w ∈ wsX120, w ∈ lw_all := lw_in wsX120 [1556, 1558, 1560] (by decide +kernel) (by decide +kernel)

/-! ShrinkYard$Placed -/
set_option maxRecDepth 100000
def RX13 : String := "ShrinkYard$Placed"
abbrev cX13_isAt : ByteArray := prog_11_method_2_code
def yX13_isAt : MethodName := ⟨RX13, "isAt", "(LShrinkYard$Digits;I)Z"⟩
def dkwX13_isAt_0 : List UInt8 := [42, 185, 0, 1, 1, 0, 28, 96, 43, 180, 0, 7, 162, 0, 7, 4, 167, 0, 4, 3, 172]
abbrev dktX13_isAt_0 : List UInt8 := dkwX13_isAt_0 ++ []
theorem dksX13_isAt_0 : cX13_isAt.data.toList.drop 0 = dktX13_isAt_0 := by decide +kernel
theorem dX13_isAt_0 : decode cX13_isAt 0 = .ok (.aload_n 0, 1) := dk_42 (dk_at dksX13_isAt_0 0 rfl rfl)
theorem dX13_isAt_1 : decode cX13_isAt 1 = .ok (.invokeinterface 1 1, 5) := by decide +kernel
theorem dX13_isAt_6 : decode cX13_isAt 6 = .ok (.iload_n 2, 1) := dk_28 (dk_at dksX13_isAt_0 6 rfl rfl)
theorem dX13_isAt_7 : decode cX13_isAt 7 = .ok (.iadd, 1) := dk_96 (dk_at dksX13_isAt_0 7 rfl rfl)
theorem dX13_isAt_8 : decode cX13_isAt 8 = .ok (.aload_n 1, 1) := dk_43 (dk_at dksX13_isAt_0 8 rfl rfl)
theorem dX13_isAt_9 : decode cX13_isAt 9 = .ok (.getfield 7, 3) := dk_180 0 7 (dk_at dksX13_isAt_0 9 rfl rfl)
theorem dX13_isAt_12 : decode cX13_isAt 12 = .ok (.if_icmp .ge 7, 3) := dk_162 0 7 (dk_at dksX13_isAt_0 12 rfl rfl)
theorem dX13_isAt_15 : decode cX13_isAt 15 = .ok (.iconst 1, 1) := dk_4 (dk_at dksX13_isAt_0 15 rfl rfl)
theorem dX13_isAt_16 : decode cX13_isAt 16 = .ok (.goto 4, 3) := dk_167 0 4 (dk_at dksX13_isAt_0 16 rfl rfl)
theorem dX13_isAt_19 : decode cX13_isAt 19 = .ok (.iconst 0, 1) := dk_3 (dk_at dksX13_isAt_0 19 rfl rfl)
theorem dX13_isAt_20 : decode cX13_isAt 20 = .ok (.ireturn, 1) := dk_172 (dk_at dksX13_isAt_0 20 rfl rfl)
theorem q1169 : (Jvm.Cond.fieldLinkNest "ShrinkYard$Placed" (7 : Nat) "ShrinkYard$Digits" "length" "I" "ShrinkYard") ∈ lw_tbl := lw_at lw_m5 176 rfl
theorem q1607 : (Jvm.Cond.declares ({ cls := "ShrinkYard$Placed", name := "isAt", desc := "(LShrinkYard$Digits;I)Z" } : Jvm.MethodName)) ∈ lw_tbl := lw_at lw_m7 134 rfl
theorem q1609 : (Jvm.Cond.instanceMethod ({ cls := "ShrinkYard$Placed", name := "isAt", desc := "(LShrinkYard$Digits;I)Z" } : Jvm.MethodName)) ∈ lw_all := lw_g (lw_at lw_m7 136 rfl) rfl
theorem q1610 : (Jvm.Cond.publicMethod ({ cls := "ShrinkYard$Placed", name := "isAt", desc := "(LShrinkYard$Digits;I)Z" } : Jvm.MethodName)) ∈ lw_tbl := lw_at lw_m7 137 rfl
theorem q1611 : (Jvm.Cond.code ({ cls := "ShrinkYard$Placed", name := "isAt", desc := "(LShrinkYard$Digits;I)Z" } : Jvm.MethodName) prog_11_method_2_code (3 : Nat) (Option.some Jvm.ClassFile.FieldType.boolean)) ∈ lw_all := lw_g (lw_at lw_m7 138 rfl) rfl
theorem q1612 : (Jvm.Cond.interfaceEntry "ShrinkYard$Placed" (1 : Nat)) ∈ lw_tbl := lw_at lw_m7 139 rfl
theorem q1613 : (Jvm.Cond.methodLink "ShrinkYard$Placed" (1 : Nat) ({ cls := "ShrinkYard$Placed", name := "place", desc := "()I" } : Jvm.MethodName)) ∈ lw_all := lw_g (lw_at lw_m7 140 rfl) rfl
theorem q1614 : (Jvm.Cond.interfaceMethod "ShrinkYard$Placed" "ShrinkYard$Placed" "place" "()I") ∈ lw_tbl := lw_at lw_m7 141 rfl
theorem q1615 : (Jvm.Cond.declares ({ cls := "ShrinkYard$Placed", name := "place", desc := "()I" } : Jvm.MethodName)) ∈ lw_tbl := lw_at lw_m7 142 rfl
theorem q2235 : (Jvm.Cond.initialized "ShrinkYard$Placed") ∈ lw_all := lw_g (lw_at lw_m10 42 rfl) rfl
