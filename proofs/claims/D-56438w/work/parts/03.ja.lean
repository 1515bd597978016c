/-! java/util/AbstractCollection -/
set_option maxRecDepth 100000
def RJ0 : String := "java/util/AbstractCollection"
abbrev cJ0_init : ByteArray := prog_46_method_1_code
def yJ0_init : MethodName := ⟨RJ0, "<init>", "()V"⟩
theorem dJ0_init_0 : decode cJ0_init 0 = .ok (.aload_n 0, 1) := by decide +kernel
theorem dJ0_init_1 : decode cJ0_init 1 = .ok (.invokespecial 1, 3) := by decide +kernel
theorem dJ0_init_4 : decode cJ0_init 4 = .ok (.return_, 1) := by decide +kernel
abbrev cJ0_isEmpty : ByteArray := prog_46_method_4_code
def yJ0_isEmpty : MethodName := ⟨RJ0, "isEmpty", "()Z"⟩
def dkwJ0_isEmpty_0 : List UInt8 := [42, 182, 0, 7, 154, 0, 7, 4, 167, 0, 4, 3, 172]
abbrev dktJ0_isEmpty_0 : List UInt8 := dkwJ0_isEmpty_0 ++ []
theorem dksJ0_isEmpty_0 : cJ0_isEmpty.data.toList.drop 0 = dktJ0_isEmpty_0 := by decide +kernel
theorem dJ0_isEmpty_0 : decode cJ0_isEmpty 0 = .ok (.aload_n 0, 1) := dk_42 (dk_at dksJ0_isEmpty_0 0 rfl rfl)
theorem dJ0_isEmpty_1 : decode cJ0_isEmpty 1 = .ok (.invokevirtual 7, 3) := dk_182 0 7 (dk_at dksJ0_isEmpty_0 1 rfl rfl)
theorem dJ0_isEmpty_4 : decode cJ0_isEmpty 4 = .ok (.ifCond .ne 7, 3) := dk_154 0 7 (dk_at dksJ0_isEmpty_0 4 rfl rfl)
theorem dJ0_isEmpty_7 : decode cJ0_isEmpty 7 = .ok (.iconst 1, 1) := dk_4 (dk_at dksJ0_isEmpty_0 7 rfl rfl)
theorem dJ0_isEmpty_8 : decode cJ0_isEmpty 8 = .ok (.goto 4, 3) := dk_167 0 4 (dk_at dksJ0_isEmpty_0 8 rfl rfl)
theorem dJ0_isEmpty_11 : decode cJ0_isEmpty 11 = .ok (.iconst 0, 1) := dk_3 (dk_at dksJ0_isEmpty_0 11 rfl rfl)
theorem dJ0_isEmpty_12 : decode cJ0_isEmpty 12 = .ok (.ireturn, 1) := dk_172 (dk_at dksJ0_isEmpty_0 12 rfl rfl)
theorem q35 : (Jvm.Cond.initialized "java/util/AbstractCollection") ∈ lw_all := lw_g (lw_at lw_m1 2 rfl) rfl
theorem q134 : (Jvm.Cond.instanceMethod ({ cls := "java/util/AbstractCollection", name := "<init>", desc := "()V" } : Jvm.MethodName)) ∈ lw_all := lw_g (lw_at lw_m1 101 rfl) rfl
theorem q135 : (Jvm.Cond.code ({ cls := "java/util/AbstractCollection", name := "<init>", desc := "()V" } : Jvm.MethodName) prog_46_method_1_code (1 : Nat) (Option.none : Option Jvm.ClassFile.FieldType)) ∈ lw_all := lw_g (lw_at lw_m1 102 rfl) rfl
theorem q136 : (Jvm.Cond.methodLink "java/util/AbstractCollection" (1 : Nat) ({ cls := "java/lang/Object", name := "<init>", desc := "()V" } : Jvm.MethodName)) ∈ lw_all := lw_g (lw_at lw_m1 103 rfl) rfl
theorem q1081 : (Jvm.Cond.instanceMethod ({ cls := "java/util/AbstractCollection", name := "isEmpty", desc := "()Z" } : Jvm.MethodName)) ∈ lw_all := lw_g (lw_at lw_m5 88 rfl) rfl
theorem q1082 : (Jvm.Cond.publicMethod ({ cls := "java/util/AbstractCollection", name := "isEmpty", desc := "()Z" } : Jvm.MethodName)) ∈ lw_tbl := lw_at lw_m5 89 rfl
theorem q1083 : (Jvm.Cond.code ({ cls := "java/util/AbstractCollection", name := "isEmpty", desc := "()Z" } : Jvm.MethodName) prog_46_method_4_code (1 : Nat) (Option.some Jvm.ClassFile.FieldType.boolean)) ∈ lw_all := lw_g (lw_at lw_m5 90 rfl) rfl
theorem q1084 : (Jvm.Cond.methodLink "java/util/AbstractCollection" (7 : Nat) ({ cls := "java/util/AbstractCollection", name := "size", desc := "()I" } : Jvm.MethodName)) ∈ lw_all := lw_g (lw_at lw_m5 91 rfl) rfl
theorem q1085 : (Jvm.Cond.declares ({ cls := "java/util/AbstractCollection", name := "size", desc := "()I" } : Jvm.MethodName)) ∈ lw_tbl := lw_at lw_m5 92 rfl
theorem q1086 : (Jvm.Cond.sameMethod "java/util/AbstractCollection" "java/util/AbstractCollection" "size" "()I") ∈ lw_all := lw_g (lw_at lw_m5 93 rfl) rfl
theorem q1580 : (Jvm.Cond.declares ({ cls := "java/util/AbstractCollection", name := "isEmpty", desc := "()Z" } : Jvm.MethodName)) ∈ lw_tbl := lw_at lw_m7 107 rfl

/-! java/util/AbstractList -/
set_option maxRecDepth 100000
def RJ1 : String := "java/util/AbstractList"
abbrev cJ1_init : ByteArray := prog_47_method_1_code
def yJ1_init : MethodName := ⟨RJ1, "<init>", "()V"⟩
def dkwJ1_init_0 : List UInt8 := [42, 183, 0, 1, 42, 3, 181, 0, 7, 177]
abbrev dktJ1_init_0 : List UInt8 := dkwJ1_init_0 ++ []
theorem dksJ1_init_0 : cJ1_init.data.toList.drop 0 = dktJ1_init_0 := by decide +kernel
theorem dJ1_init_0 : decode cJ1_init 0 = .ok (.aload_n 0, 1) := dk_42 (dk_at dksJ1_init_0 0 rfl rfl)
theorem dJ1_init_1 : decode cJ1_init 1 = .ok (.invokespecial 1, 3) := dk_183 0 1 (dk_at dksJ1_init_0 1 rfl rfl)
theorem dJ1_init_4 : decode cJ1_init 4 = .ok (.aload_n 0, 1) := dk_42 (dk_at dksJ1_init_0 4 rfl rfl)
theorem dJ1_init_5 : decode cJ1_init 5 = .ok (.iconst 0, 1) := dk_3 (dk_at dksJ1_init_0 5 rfl rfl)
theorem dJ1_init_6 : decode cJ1_init 6 = .ok (.putfield 7, 3) := dk_181 0 7 (dk_at dksJ1_init_0 6 rfl rfl)
theorem dJ1_init_9 : decode cJ1_init 9 = .ok (.return_, 1) := dk_177 (dk_at dksJ1_init_0 9 rfl rfl)
abbrev cJ1_listIterator : ByteArray := prog_47_method_12_code
def yJ1_listIterator : MethodName := ⟨RJ1, "listIterator", "()Ljava/util/ListIterator;"⟩
def dkwJ1_listIterator_0 : List UInt8 := [42, 3, 182, 0, 47, 176]
abbrev dktJ1_listIterator_0 : List UInt8 := dkwJ1_listIterator_0 ++ []
theorem dksJ1_listIterator_0 : cJ1_listIterator.data.toList.drop 0 = dktJ1_listIterator_0 := by decide +kernel
theorem dJ1_listIterator_0 : decode cJ1_listIterator 0 = .ok (.aload_n 0, 1) := dk_42 (dk_at dksJ1_listIterator_0 0 rfl rfl)
theorem dJ1_listIterator_1 : decode cJ1_listIterator 1 = .ok (.iconst 0, 1) := dk_3 (dk_at dksJ1_listIterator_0 1 rfl rfl)
theorem dJ1_listIterator_2 : decode cJ1_listIterator 2 = .ok (.invokevirtual 47, 3) := dk_182 0 47 (dk_at dksJ1_listIterator_0 2 rfl rfl)
theorem dJ1_listIterator_5 : decode cJ1_listIterator 5 = .ok (.areturn, 1) := dk_176 (dk_at dksJ1_listIterator_0 5 rfl rfl)
theorem q36 : (Jvm.Cond.initialized "java/util/AbstractList") ∈ lw_all := lw_g (lw_at lw_m1 3 rfl) rfl
theorem q131 : (Jvm.Cond.instanceMethod ({ cls := "java/util/AbstractList", name := "<init>", desc := "()V" } : Jvm.MethodName)) ∈ lw_all := lw_g (lw_at lw_m1 98 rfl) rfl
theorem q132 : (Jvm.Cond.code ({ cls := "java/util/AbstractList", name := "<init>", desc := "()V" } : Jvm.MethodName) prog_47_method_1_code (1 : Nat) (Option.none : Option Jvm.ClassFile.FieldType)) ∈ lw_all := lw_g (lw_at lw_m1 99 rfl) rfl
theorem q133 : (Jvm.Cond.methodLink "java/util/AbstractList" (1 : Nat) ({ cls := "java/util/AbstractCollection", name := "<init>", desc := "()V" } : Jvm.MethodName)) ∈ lw_all := lw_g (lw_at lw_m1 100 rfl) rfl
theorem q143 : (Jvm.Cond.fieldLink "java/util/AbstractList" (7 : Nat) "java/util/AbstractList" "modCount" "I") ∈ lw_all := lw_g (lw_at lw_m1 110 rfl) rfl
theorem q156 : (Jvm.Cond.soleField "java/util/AbstractList" "modCount") ∈ lw_all := lw_g (lw_at lw_m1 123 rfl) rfl
theorem q1322 : (Jvm.Cond.declares ({ cls := "java/util/AbstractList", name := "listIterator", desc := "()Ljava/util/ListIterator;" } : Jvm.MethodName)) ∈ lw_tbl := lw_at lw_m6 89 rfl
theorem q1324 : (Jvm.Cond.instanceMethod ({ cls := "java/util/AbstractList", name := "listIterator", desc := "()Ljava/util/ListIterator;" } : Jvm.MethodName)) ∈ lw_all := lw_g (lw_at lw_m6 91 rfl) rfl
theorem q1325 : (Jvm.Cond.code ({ cls := "java/util/AbstractList", name := "listIterator", desc := "()Ljava/util/ListIterator;" } : Jvm.MethodName) prog_47_method_12_code (1 : Nat) (Option.some (Jvm.ClassFile.FieldType.object "java/util/ListIterator"))) ∈ lw_all := lw_g (lw_at lw_m6 92 rfl) rfl
theorem q1326 : (Jvm.Cond.methodLink "java/util/AbstractList" (47 : Nat) ({ cls := "java/util/AbstractList", name := "listIterator", desc := "(I)Ljava/util/ListIterator;" } : Jvm.MethodName)) ∈ lw_all := lw_g (lw_at lw_m6 93 rfl) rfl
theorem q1327 : (Jvm.Cond.instanceMethod ({ cls := "java/util/AbstractList", name := "listIterator", desc := "(I)Ljava/util/ListIterator;" } : Jvm.MethodName)) ∈ lw_all := lw_g (lw_at lw_m6 94 rfl) rfl
theorem q1328 : (Jvm.Cond.sameMethod "java/util/AbstractList" "java/util/AbstractList" "listIterator" "(I)Ljava/util/ListIterator;") ∈ lw_all := lw_g (lw_at lw_m6 95 rfl) rfl
theorem q1397 : (Jvm.Cond.declares ({ cls := "java/util/AbstractList", name := "listIterator", desc := "(I)Ljava/util/ListIterator;" } : Jvm.MethodName)) ∈ lw_tbl := lw_at lw_m6 164 rfl
theorem q1409 : (Jvm.Cond.sameMethod "java/util/AbstractList" "java/util/AbstractCollection" "size" "()I") ∈ lw_all := lw_g (lw_at lw_m6 176 rfl) rfl
theorem q1442 : (Jvm.Cond.declares ({ cls := "java/util/AbstractList", name := "get", desc := "(I)Ljava/lang/Object;" } : Jvm.MethodName)) ∈ lw_tbl := lw_at lw_m6 209 rfl
theorem q1443 : (Jvm.Cond.sameMethod "java/util/AbstractList" "java/util/AbstractList" "get" "(I)Ljava/lang/Object;") ∈ lw_all := lw_g (lw_at lw_m6 210 rfl) rfl

/-! java/util/ArrayList -/
set_option maxRecDepth 100000
def RJ2 : String := "java/util/ArrayList"
def TJ2 : u_T := fun k => match k with
  | 0 => ("java/util/AbstractList", "modCount", "I", false)
  | 1 => ("java/util/ArrayList", "elementData", "[Ljava/lang/Object;", false)
  | _ => ("java/util/ArrayList", "size", "I", false)
def tyJ2 : Nat → FieldType := fun k => match k with
  | 0 => .int
  | 1 => .array (.object "java/lang/Object")
  | _ => .int
abbrev wsJ20 : List Cond := u_ws RJ2 TJ2 3
theorem nmJ2 : ∀ a, a < 3 → ∀ b, b < 3 → a ≠ b → (TJ2 a).2.1 ≠ (TJ2 b).2.1 := by decide +kernel
theorem tyJ2_ok : ∀ k, k < 3 → parseFieldDescriptor (TJ2 k).2.2.1 = some (tyJ2 k) := by decide +kernel
abbrev cJ2_init : ByteArray := prog_51_method_2_code
def yJ2_init : MethodName := ⟨RJ2, "<init>", "()V"⟩
def dkwJ2_init_0 : List UInt8 := [42, 183, 0, 1, 42, 178, 0, 39, 181, 0, 9, 177]
abbrev dktJ2_init_0 : List UInt8 := dkwJ2_init_0 ++ []
theorem dksJ2_init_0 : cJ2_init.data.toList.drop 0 = dktJ2_init_0 := by decide +kernel
theorem dJ2_init_0 : decode cJ2_init 0 = .ok (.aload_n 0, 1) := dk_42 (dk_at dksJ2_init_0 0 rfl rfl)
theorem dJ2_init_1 : decode cJ2_init 1 = .ok (.invokespecial 1, 3) := dk_183 0 1 (dk_at dksJ2_init_0 1 rfl rfl)
theorem dJ2_init_4 : decode cJ2_init 4 = .ok (.aload_n 0, 1) := dk_42 (dk_at dksJ2_init_0 4 rfl rfl)
theorem dJ2_init_5 : decode cJ2_init 5 = .ok (.getstatic 39, 3) := dk_178 0 39 (dk_at dksJ2_init_0 5 rfl rfl)
theorem dJ2_init_8 : decode cJ2_init 8 = .ok (.putfield 9, 3) := dk_181 0 9 (dk_at dksJ2_init_0 8 rfl rfl)
theorem dJ2_init_11 : decode cJ2_init 11 = .ok (.return_, 1) := dk_177 (dk_at dksJ2_init_0 11 rfl rfl)
abbrev cJ2_add : ByteArray := prog_51_method_25_code
def yJ2_add : MethodName := ⟨RJ2, "add", "(Ljava/lang/Object;)Z"⟩
def dkwJ2_add_1 : List UInt8 := [172]
abbrev dktJ2_add_1 : List UInt8 := dkwJ2_add_1 ++ []
def dkwJ2_add_0 : List UInt8 := [42, 89, 180, 0, 63, 4, 96, 181, 0, 63, 42, 43, 42, 180, 0, 9, 42, 180, 0, 48, 182, 0, 131, 4]
abbrev dktJ2_add_0 : List UInt8 := dkwJ2_add_0 ++ dktJ2_add_1
theorem dksJ2_add_0 : cJ2_add.data.toList.drop 0 = dktJ2_add_0 := by decide +kernel
theorem dksJ2_add_1 : cJ2_add.data.toList.drop 24 = dktJ2_add_1 := dk_seg dksJ2_add_0 24 rfl rfl
theorem dJ2_add_0 : decode cJ2_add 0 = .ok (.aload_n 0, 1) := dk_42 (dk_at dksJ2_add_0 0 rfl rfl)
theorem dJ2_add_1 : decode cJ2_add 1 = .ok (.dup, 1) := dk_89 (dk_at dksJ2_add_0 1 rfl rfl)
theorem dJ2_add_2 : decode cJ2_add 2 = .ok (.getfield 63, 3) := dk_180 0 63 (dk_at dksJ2_add_0 2 rfl rfl)
theorem dJ2_add_5 : decode cJ2_add 5 = .ok (.iconst 1, 1) := dk_4 (dk_at dksJ2_add_0 5 rfl rfl)
theorem dJ2_add_6 : decode cJ2_add 6 = .ok (.iadd, 1) := dk_96 (dk_at dksJ2_add_0 6 rfl rfl)
theorem dJ2_add_7 : decode cJ2_add 7 = .ok (.putfield 63, 3) := dk_181 0 63 (dk_at dksJ2_add_0 7 rfl rfl)
theorem dJ2_add_10 : decode cJ2_add 10 = .ok (.aload_n 0, 1) := dk_42 (dk_at dksJ2_add_0 10 rfl rfl)
theorem dJ2_add_11 : decode cJ2_add 11 = .ok (.aload_n 1, 1) := dk_43 (dk_at dksJ2_add_0 11 rfl rfl)
theorem dJ2_add_12 : decode cJ2_add 12 = .ok (.aload_n 0, 1) := dk_42 (dk_at dksJ2_add_0 12 rfl rfl)
theorem dJ2_add_13 : decode cJ2_add 13 = .ok (.getfield 9, 3) := dk_180 0 9 (dk_at dksJ2_add_0 13 rfl rfl)
theorem dJ2_add_16 : decode cJ2_add 16 = .ok (.aload_n 0, 1) := dk_42 (dk_at dksJ2_add_0 16 rfl rfl)
theorem dJ2_add_17 : decode cJ2_add 17 = .ok (.getfield 48, 3) := dk_180 0 48 (dk_at dksJ2_add_0 17 rfl rfl)
theorem dJ2_add_20 : decode cJ2_add 20 = .ok (.invokevirtual 131, 3) := dk_182 0 131 (dk_at dksJ2_add_0 20 rfl rfl)
theorem dJ2_add_23 : decode cJ2_add 23 = .ok (.iconst 1, 1) := dk_4 (dk_at dksJ2_add_0 23 rfl rfl)
theorem dJ2_add_24 : decode cJ2_add 24 = .ok (.ireturn, 1) := dk_172 (dk_at dksJ2_add_1 0 rfl rfl)
abbrev cJ2_add_2 : ByteArray := prog_51_method_24_code
def yJ2_add_2 : MethodName := ⟨RJ2, "add", "(Ljava/lang/Object;[Ljava/lang/Object;I)V"⟩
def dkwJ2_add_2_0 : List UInt8 := [29, 44, 190, 160, 0, 8, 42, 182, 0, 129, 77, 44, 29, 43, 83, 42, 29, 4, 96, 181, 0, 48, 177]
abbrev dktJ2_add_2_0 : List UInt8 := dkwJ2_add_2_0 ++ []
theorem dksJ2_add_2_0 : cJ2_add_2.data.toList.drop 0 = dktJ2_add_2_0 := by decide +kernel
theorem dJ2_add_2_0 : decode cJ2_add_2 0 = .ok (.iload_n 3, 1) := dk_29 (dk_at dksJ2_add_2_0 0 rfl rfl)
theorem dJ2_add_2_1 : decode cJ2_add_2 1 = .ok (.aload_n 2, 1) := dk_44 (dk_at dksJ2_add_2_0 1 rfl rfl)
theorem dJ2_add_2_2 : decode cJ2_add_2 2 = .ok (.arraylength, 1) := dk_190 (dk_at dksJ2_add_2_0 2 rfl rfl)
theorem dJ2_add_2_3 : decode cJ2_add_2 3 = .ok (.if_icmp .ne 8, 3) := dk_160 0 8 (dk_at dksJ2_add_2_0 3 rfl rfl)
theorem dJ2_add_2_6 : decode cJ2_add_2 6 = .ok (.aload_n 0, 1) := dk_42 (dk_at dksJ2_add_2_0 6 rfl rfl)
theorem dJ2_add_2_7 : decode cJ2_add_2 7 = .ok (.invokevirtual 129, 3) := dk_182 0 129 (dk_at dksJ2_add_2_0 7 rfl rfl)
theorem dJ2_add_2_10 : decode cJ2_add_2 10 = .ok (.astore_n 2, 1) := dk_77 (dk_at dksJ2_add_2_0 10 rfl rfl)
theorem dJ2_add_2_11 : decode cJ2_add_2 11 = .ok (.aload_n 2, 1) := dk_44 (dk_at dksJ2_add_2_0 11 rfl rfl)
theorem dJ2_add_2_12 : decode cJ2_add_2 12 = .ok (.iload_n 3, 1) := dk_29 (dk_at dksJ2_add_2_0 12 rfl rfl)
theorem dJ2_add_2_13 : decode cJ2_add_2 13 = .ok (.aload_n 1, 1) := dk_43 (dk_at dksJ2_add_2_0 13 rfl rfl)
theorem dJ2_add_2_14 : decode cJ2_add_2 14 = .ok (.aastore, 1) := dk_83 (dk_at dksJ2_add_2_0 14 rfl rfl)
theorem dJ2_add_2_15 : decode cJ2_add_2 15 = .ok (.aload_n 0, 1) := dk_42 (dk_at dksJ2_add_2_0 15 rfl rfl)
theorem dJ2_add_2_16 : decode cJ2_add_2 16 = .ok (.iload_n 3, 1) := dk_29 (dk_at dksJ2_add_2_0 16 rfl rfl)
theorem dJ2_add_2_17 : decode cJ2_add_2 17 = .ok (.iconst 1, 1) := dk_4 (dk_at dksJ2_add_2_0 17 rfl rfl)
theorem dJ2_add_2_18 : decode cJ2_add_2 18 = .ok (.iadd, 1) := dk_96 (dk_at dksJ2_add_2_0 18 rfl rfl)
theorem dJ2_add_2_19 : decode cJ2_add_2 19 = .ok (.putfield 48, 3) := dk_181 0 48 (dk_at dksJ2_add_2_0 19 rfl rfl)
theorem dJ2_add_2_22 : decode cJ2_add_2 22 = .ok (.return_, 1) := dk_177 (dk_at dksJ2_add_2_0 22 rfl rfl)
abbrev cJ2_grow : ByteArray := prog_51_method_7_code
def yJ2_grow : MethodName := ⟨RJ2, "grow", "()[Ljava/lang/Object;"⟩
def dkwJ2_grow_0 : List UInt8 := [42, 42, 180, 0, 48, 4, 96, 182, 0, 69, 176]
abbrev dktJ2_grow_0 : List UInt8 := dkwJ2_grow_0 ++ []
theorem dksJ2_grow_0 : cJ2_grow.data.toList.drop 0 = dktJ2_grow_0 := by decide +kernel
theorem dJ2_grow_0 : decode cJ2_grow 0 = .ok (.aload_n 0, 1) := dk_42 (dk_at dksJ2_grow_0 0 rfl rfl)
theorem dJ2_grow_1 : decode cJ2_grow 1 = .ok (.aload_n 0, 1) := dk_42 (dk_at dksJ2_grow_0 1 rfl rfl)
theorem dJ2_grow_2 : decode cJ2_grow 2 = .ok (.getfield 48, 3) := dk_180 0 48 (dk_at dksJ2_grow_0 2 rfl rfl)
theorem dJ2_grow_5 : decode cJ2_grow 5 = .ok (.iconst 1, 1) := dk_4 (dk_at dksJ2_grow_0 5 rfl rfl)
theorem dJ2_grow_6 : decode cJ2_grow 6 = .ok (.iadd, 1) := dk_96 (dk_at dksJ2_grow_0 6 rfl rfl)
theorem dJ2_grow_7 : decode cJ2_grow 7 = .ok (.invokevirtual 69, 3) := dk_182 0 69 (dk_at dksJ2_grow_0 7 rfl rfl)
theorem dJ2_grow_10 : decode cJ2_grow 10 = .ok (.areturn, 1) := dk_176 (dk_at dksJ2_grow_0 10 rfl rfl)
abbrev cJ2_grow_2 : ByteArray := prog_51_method_6_code
def yJ2_grow_2 : MethodName := ⟨RJ2, "grow", "(I)[Ljava/lang/Object;"⟩
def dkwJ2_grow_2_2 : List UInt8 := [27, 184, 0, 79, 189, 0, 7, 90, 181, 0, 9, 176]
abbrev dktJ2_grow_2_2 : List UInt8 := dkwJ2_grow_2_2 ++ []
def dkwJ2_grow_2_1 : List UInt8 := [28, 4, 122, 184, 0, 73, 62, 42, 42, 180, 0, 9, 29, 184, 0, 66, 90, 181, 0, 9, 176, 42, 16, 10]
abbrev dktJ2_grow_2_1 : List UInt8 := dkwJ2_grow_2_1 ++ dktJ2_grow_2_2
def dkwJ2_grow_2_0 : List UInt8 := [42, 180, 0, 9, 190, 61, 28, 157, 0, 13, 42, 180, 0, 9, 178, 0, 39, 165, 0, 28, 28, 27, 28, 100]
abbrev dktJ2_grow_2_0 : List UInt8 := dkwJ2_grow_2_0 ++ dktJ2_grow_2_1
theorem dksJ2_grow_2_0 : cJ2_grow_2.data.toList.drop 0 = dktJ2_grow_2_0 := by decide +kernel
theorem dksJ2_grow_2_1 : cJ2_grow_2.data.toList.drop 24 = dktJ2_grow_2_1 := dk_seg dksJ2_grow_2_0 24 rfl rfl
theorem dksJ2_grow_2_2 : cJ2_grow_2.data.toList.drop 48 = dktJ2_grow_2_2 := dk_seg dksJ2_grow_2_1 24 rfl rfl
theorem dJ2_grow_2_0 : decode cJ2_grow_2 0 = .ok (.aload_n 0, 1) := dk_42 (dk_at dksJ2_grow_2_0 0 rfl rfl)
theorem dJ2_grow_2_1 : decode cJ2_grow_2 1 = .ok (.getfield 9, 3) := dk_180 0 9 (dk_at dksJ2_grow_2_0 1 rfl rfl)
theorem dJ2_grow_2_4 : decode cJ2_grow_2 4 = .ok (.arraylength, 1) := dk_190 (dk_at dksJ2_grow_2_0 4 rfl rfl)
theorem dJ2_grow_2_5 : decode cJ2_grow_2 5 = .ok (.istore_n 2, 1) := dk_61 (dk_at dksJ2_grow_2_0 5 rfl rfl)
theorem dJ2_grow_2_6 : decode cJ2_grow_2 6 = .ok (.iload_n 2, 1) := dk_28 (dk_at dksJ2_grow_2_0 6 rfl rfl)
theorem dJ2_grow_2_7 : decode cJ2_grow_2 7 = .ok (.ifCond .gt 13, 3) := dk_157 0 13 (dk_at dksJ2_grow_2_0 7 rfl rfl)
theorem dJ2_grow_2_10 : decode cJ2_grow_2 10 = .ok (.aload_n 0, 1) := dk_42 (dk_at dksJ2_grow_2_0 10 rfl rfl)
theorem dJ2_grow_2_11 : decode cJ2_grow_2 11 = .ok (.getfield 9, 3) := dk_180 0 9 (dk_at dksJ2_grow_2_0 11 rfl rfl)
theorem dJ2_grow_2_14 : decode cJ2_grow_2 14 = .ok (.getstatic 39, 3) := dk_178 0 39 (dk_at dksJ2_grow_2_0 14 rfl rfl)
theorem dJ2_grow_2_17 : decode cJ2_grow_2 17 = .ok (.if_acmp .eq 28, 3) := dk_165 0 28 (dk_at dksJ2_grow_2_0 17 rfl rfl)
theorem dJ2_grow_2_20 : decode cJ2_grow_2 20 = .ok (.iload_n 2, 1) := dk_28 (dk_at dksJ2_grow_2_0 20 rfl rfl)
theorem dJ2_grow_2_21 : decode cJ2_grow_2 21 = .ok (.iload_n 1, 1) := dk_27 (dk_at dksJ2_grow_2_0 21 rfl rfl)
theorem dJ2_grow_2_22 : decode cJ2_grow_2 22 = .ok (.iload_n 2, 1) := dk_28 (dk_at dksJ2_grow_2_0 22 rfl rfl)
theorem dJ2_grow_2_23 : decode cJ2_grow_2 23 = .ok (.isub, 1) := dk_100 (dk_at dksJ2_grow_2_0 23 rfl rfl)
theorem dJ2_grow_2_24 : decode cJ2_grow_2 24 = .ok (.iload_n 2, 1) := dk_28 (dk_at dksJ2_grow_2_1 0 rfl rfl)
theorem dJ2_grow_2_25 : decode cJ2_grow_2 25 = .ok (.iconst 1, 1) := dk_4 (dk_at dksJ2_grow_2_1 1 rfl rfl)
theorem dJ2_grow_2_26 : decode cJ2_grow_2 26 = .ok (.ishr, 1) := dk_122 (dk_at dksJ2_grow_2_1 2 rfl rfl)
theorem dJ2_grow_2_27 : decode cJ2_grow_2 27 = .ok (.invokestatic 73, 3) := dk_184 0 73 (dk_at dksJ2_grow_2_1 3 rfl rfl)
theorem dJ2_grow_2_30 : decode cJ2_grow_2 30 = .ok (.istore_n 3, 1) := dk_62 (dk_at dksJ2_grow_2_1 6 rfl rfl)
theorem dJ2_grow_2_31 : decode cJ2_grow_2 31 = .ok (.aload_n 0, 1) := dk_42 (dk_at dksJ2_grow_2_1 7 rfl rfl)
theorem dJ2_grow_2_32 : decode cJ2_grow_2 32 = .ok (.aload_n 0, 1) := dk_42 (dk_at dksJ2_grow_2_1 8 rfl rfl)
theorem dJ2_grow_2_33 : decode cJ2_grow_2 33 = .ok (.getfield 9, 3) := dk_180 0 9 (dk_at dksJ2_grow_2_1 9 rfl rfl)
theorem dJ2_grow_2_36 : decode cJ2_grow_2 36 = .ok (.iload_n 3, 1) := dk_29 (dk_at dksJ2_grow_2_1 12 rfl rfl)
theorem dJ2_grow_2_37 : decode cJ2_grow_2 37 = .ok (.invokestatic 66, 3) := dk_184 0 66 (dk_at dksJ2_grow_2_1 13 rfl rfl)
theorem dJ2_grow_2_40 : decode cJ2_grow_2 40 = .ok (.dup_x1, 1) := dk_90 (dk_at dksJ2_grow_2_1 16 rfl rfl)
theorem dJ2_grow_2_41 : decode cJ2_grow_2 41 = .ok (.putfield 9, 3) := dk_181 0 9 (dk_at dksJ2_grow_2_1 17 rfl rfl)
theorem dJ2_grow_2_44 : decode cJ2_grow_2 44 = .ok (.areturn, 1) := dk_176 (dk_at dksJ2_grow_2_1 20 rfl rfl)
theorem dJ2_grow_2_45 : decode cJ2_grow_2 45 = .ok (.aload_n 0, 1) := dk_42 (dk_at dksJ2_grow_2_1 21 rfl rfl)
theorem dJ2_grow_2_46 : decode cJ2_grow_2 46 = .ok (.bipush 10, 2) := dk_16 10 (dk_at dksJ2_grow_2_1 22 rfl rfl)
theorem dJ2_grow_2_48 : decode cJ2_grow_2 48 = .ok (.iload_n 1, 1) := dk_27 (dk_at dksJ2_grow_2_2 0 rfl rfl)
theorem dJ2_grow_2_49 : decode cJ2_grow_2 49 = .ok (.invokestatic 79, 3) := dk_184 0 79 (dk_at dksJ2_grow_2_2 1 rfl rfl)
theorem dJ2_grow_2_52 : decode cJ2_grow_2 52 = .ok (.anewarray 7, 3) := dk_189 0 7 (dk_at dksJ2_grow_2_2 4 rfl rfl)
theorem dJ2_grow_2_55 : decode cJ2_grow_2 55 = .ok (.dup_x1, 1) := dk_90 (dk_at dksJ2_grow_2_2 7 rfl rfl)
theorem dJ2_grow_2_56 : decode cJ2_grow_2 56 = .ok (.putfield 9, 3) := dk_181 0 9 (dk_at dksJ2_grow_2_2 8 rfl rfl)
theorem dJ2_grow_2_59 : decode cJ2_grow_2 59 = .ok (.areturn, 1) := dk_176 (dk_at dksJ2_grow_2_2 11 rfl rfl)
abbrev cJ2_clear : ByteArray := prog_51_method_40_code
def yJ2_clear : MethodName := ⟨RJ2, "clear", "()V"⟩
def dkwJ2_clear_1 : List UInt8 := [181, 0, 48, 62, 29, 28, 162, 0, 13, 43, 29, 1, 83, 132, 3, 1, 167, 255, 244, 177]
abbrev dktJ2_clear_1 : List UInt8 := dkwJ2_clear_1 ++ []
def dkwJ2_clear_0 : List UInt8 := [42, 89, 180, 0, 63, 4, 96, 181, 0, 63, 42, 180, 0, 9, 76, 42, 180, 0, 48, 61, 42, 3, 90]
abbrev dktJ2_clear_0 : List UInt8 := dkwJ2_clear_0 ++ dktJ2_clear_1
theorem dksJ2_clear_0 : cJ2_clear.data.toList.drop 0 = dktJ2_clear_0 := by decide +kernel
theorem dksJ2_clear_1 : cJ2_clear.data.toList.drop 23 = dktJ2_clear_1 := dk_seg dksJ2_clear_0 23 rfl rfl
theorem dJ2_clear_0 : decode cJ2_clear 0 = .ok (.aload_n 0, 1) := dk_42 (dk_at dksJ2_clear_0 0 rfl rfl)
theorem dJ2_clear_1 : decode cJ2_clear 1 = .ok (.dup, 1) := dk_89 (dk_at dksJ2_clear_0 1 rfl rfl)
theorem dJ2_clear_2 : decode cJ2_clear 2 = .ok (.getfield 63, 3) := dk_180 0 63 (dk_at dksJ2_clear_0 2 rfl rfl)
theorem dJ2_clear_5 : decode cJ2_clear 5 = .ok (.iconst 1, 1) := dk_4 (dk_at dksJ2_clear_0 5 rfl rfl)
theorem dJ2_clear_6 : decode cJ2_clear 6 = .ok (.iadd, 1) := dk_96 (dk_at dksJ2_clear_0 6 rfl rfl)
theorem dJ2_clear_7 : decode cJ2_clear 7 = .ok (.putfield 63, 3) := dk_181 0 63 (dk_at dksJ2_clear_0 7 rfl rfl)
theorem dJ2_clear_10 : decode cJ2_clear 10 = .ok (.aload_n 0, 1) := dk_42 (dk_at dksJ2_clear_0 10 rfl rfl)
theorem dJ2_clear_11 : decode cJ2_clear 11 = .ok (.getfield 9, 3) := dk_180 0 9 (dk_at dksJ2_clear_0 11 rfl rfl)
theorem dJ2_clear_14 : decode cJ2_clear 14 = .ok (.astore_n 1, 1) := dk_76 (dk_at dksJ2_clear_0 14 rfl rfl)
theorem dJ2_clear_15 : decode cJ2_clear 15 = .ok (.aload_n 0, 1) := dk_42 (dk_at dksJ2_clear_0 15 rfl rfl)
theorem dJ2_clear_16 : decode cJ2_clear 16 = .ok (.getfield 48, 3) := dk_180 0 48 (dk_at dksJ2_clear_0 16 rfl rfl)
theorem dJ2_clear_19 : decode cJ2_clear 19 = .ok (.istore_n 2, 1) := dk_61 (dk_at dksJ2_clear_0 19 rfl rfl)
theorem dJ2_clear_20 : decode cJ2_clear 20 = .ok (.aload_n 0, 1) := dk_42 (dk_at dksJ2_clear_0 20 rfl rfl)
theorem dJ2_clear_21 : decode cJ2_clear 21 = .ok (.iconst 0, 1) := dk_3 (dk_at dksJ2_clear_0 21 rfl rfl)
theorem dJ2_clear_22 : decode cJ2_clear 22 = .ok (.dup_x1, 1) := dk_90 (dk_at dksJ2_clear_0 22 rfl rfl)
theorem dJ2_clear_23 : decode cJ2_clear 23 = .ok (.putfield 48, 3) := dk_181 0 48 (dk_at dksJ2_clear_1 0 rfl rfl)
theorem dJ2_clear_26 : decode cJ2_clear 26 = .ok (.istore_n 3, 1) := dk_62 (dk_at dksJ2_clear_1 3 rfl rfl)
theorem dJ2_clear_27 : decode cJ2_clear 27 = .ok (.iload_n 3, 1) := dk_29 (dk_at dksJ2_clear_1 4 rfl rfl)
theorem dJ2_clear_28 : decode cJ2_clear 28 = .ok (.iload_n 2, 1) := dk_28 (dk_at dksJ2_clear_1 5 rfl rfl)
theorem dJ2_clear_29 : decode cJ2_clear 29 = .ok (.if_icmp .ge 13, 3) := dk_162 0 13 (dk_at dksJ2_clear_1 6 rfl rfl)
theorem dJ2_clear_32 : decode cJ2_clear 32 = .ok (.aload_n 1, 1) := dk_43 (dk_at dksJ2_clear_1 9 rfl rfl)
theorem dJ2_clear_33 : decode cJ2_clear 33 = .ok (.iload_n 3, 1) := dk_29 (dk_at dksJ2_clear_1 10 rfl rfl)
theorem dJ2_clear_34 : decode cJ2_clear 34 = .ok (.aconst_null, 1) := dk_1 (dk_at dksJ2_clear_1 11 rfl rfl)
theorem dJ2_clear_35 : decode cJ2_clear 35 = .ok (.aastore, 1) := dk_83 (dk_at dksJ2_clear_1 12 rfl rfl)
theorem dJ2_clear_36 : decode cJ2_clear 36 = .ok (.iinc 3 1, 3) := dk_132 3 1 (dk_at dksJ2_clear_1 13 rfl rfl)
theorem dJ2_clear_39 : decode cJ2_clear 39 = .ok (.goto (-12), 3) := dk_167 255 244 (dk_at dksJ2_clear_1 16 rfl rfl)
theorem dJ2_clear_42 : decode cJ2_clear 42 = .ok (.return_, 1) := dk_177 (dk_at dksJ2_clear_1 19 rfl rfl)
abbrev cJ2_size : ByteArray := prog_51_method_8_code
def yJ2_size : MethodName := ⟨RJ2, "size", "()I"⟩
theorem dJ2_size_0 : decode cJ2_size 0 = .ok (.aload_n 0, 1) := by decide +kernel
theorem dJ2_size_1 : decode cJ2_size 1 = .ok (.getfield 48, 3) := by decide +kernel
theorem dJ2_size_4 : decode cJ2_size 4 = .ok (.ireturn, 1) := by decide +kernel
abbrev cJ2_get : ByteArray := prog_51_method_20_code
def yJ2_get : MethodName := ⟨RJ2, "get", "(I)Ljava/lang/Object;"⟩
def dkwJ2_get_0 : List UInt8 := [27, 42, 180, 0, 48, 184, 0, 118, 87, 42, 27, 182, 0, 123, 176]
abbrev dktJ2_get_0 : List UInt8 := dkwJ2_get_0 ++ []
theorem dksJ2_get_0 : cJ2_get.data.toList.drop 0 = dktJ2_get_0 := by decide +kernel
theorem dJ2_get_0 : decode cJ2_get 0 = .ok (.iload_n 1, 1) := dk_27 (dk_at dksJ2_get_0 0 rfl rfl)
theorem dJ2_get_1 : decode cJ2_get 1 = .ok (.aload_n 0, 1) := dk_42 (dk_at dksJ2_get_0 1 rfl rfl)
theorem dJ2_get_2 : decode cJ2_get 2 = .ok (.getfield 48, 3) := dk_180 0 48 (dk_at dksJ2_get_0 2 rfl rfl)
theorem dJ2_get_5 : decode cJ2_get 5 = .ok (.invokestatic 118, 3) := dk_184 0 118 (dk_at dksJ2_get_0 5 rfl rfl)
theorem dJ2_get_8 : decode cJ2_get 8 = .ok (.pop, 1) := dk_87 (dk_at dksJ2_get_0 8 rfl rfl)
theorem dJ2_get_9 : decode cJ2_get 9 = .ok (.aload_n 0, 1) := dk_42 (dk_at dksJ2_get_0 9 rfl rfl)
theorem dJ2_get_10 : decode cJ2_get 10 = .ok (.iload_n 1, 1) := dk_27 (dk_at dksJ2_get_0 10 rfl rfl)
theorem dJ2_get_11 : decode cJ2_get 11 = .ok (.invokevirtual 123, 3) := dk_182 0 123 (dk_at dksJ2_get_0 11 rfl rfl)
theorem dJ2_get_14 : decode cJ2_get 14 = .ok (.areturn, 1) := dk_176 (dk_at dksJ2_get_0 14 rfl rfl)
abbrev cJ2_elementData : ByteArray := prog_51_method_18_code
def yJ2_elementData : MethodName := ⟨RJ2, "elementData", "(I)Ljava/lang/Object;"⟩
def dkwJ2_elementData_0 : List UInt8 := [42, 180, 0, 9, 27, 50, 176]
abbrev dktJ2_elementData_0 : List UInt8 := dkwJ2_elementData_0 ++ []
theorem dksJ2_elementData_0 : cJ2_elementData.data.toList.drop 0 = dktJ2_elementData_0 := by decide +kernel
theorem dJ2_elementData_0 : decode cJ2_elementData 0 = .ok (.aload_n 0, 1) := dk_42 (dk_at dksJ2_elementData_0 0 rfl rfl)
theorem dJ2_elementData_1 : decode cJ2_elementData 1 = .ok (.getfield 9, 3) := dk_180 0 9 (dk_at dksJ2_elementData_0 1 rfl rfl)
theorem dJ2_elementData_4 : decode cJ2_elementData 4 = .ok (.iload_n 1, 1) := dk_27 (dk_at dksJ2_elementData_0 4 rfl rfl)
theorem dJ2_elementData_5 : decode cJ2_elementData 5 = .ok (.aaload, 1) := dk_50 (dk_at dksJ2_elementData_0 5 rfl rfl)
theorem dJ2_elementData_6 : decode cJ2_elementData 6 = .ok (.areturn, 1) := dk_176 (dk_at dksJ2_elementData_0 6 rfl rfl)
abbrev cJ2_isEmpty : ByteArray := prog_51_method_9_code
def yJ2_isEmpty : MethodName := ⟨RJ2, "isEmpty", "()Z"⟩
def dkwJ2_isEmpty_0 : List UInt8 := [42, 180, 0, 48, 154, 0, 7, 4, 167, 0, 4, 3, 172]
abbrev dktJ2_isEmpty_0 : List UInt8 := dkwJ2_isEmpty_0 ++ []
theorem dksJ2_isEmpty_0 : cJ2_isEmpty.data.toList.drop 0 = dktJ2_isEmpty_0 := by decide +kernel
theorem dJ2_isEmpty_0 : decode cJ2_isEmpty 0 = .ok (.aload_n 0, 1) := dk_42 (dk_at dksJ2_isEmpty_0 0 rfl rfl)
theorem dJ2_isEmpty_1 : decode cJ2_isEmpty 1 = .ok (.getfield 48, 3) := dk_180 0 48 (dk_at dksJ2_isEmpty_0 1 rfl rfl)
theorem dJ2_isEmpty_4 : decode cJ2_isEmpty 4 = .ok (.ifCond .ne 7, 3) := dk_154 0 7 (dk_at dksJ2_isEmpty_0 4 rfl rfl)
theorem dJ2_isEmpty_7 : decode cJ2_isEmpty 7 = .ok (.iconst 1, 1) := dk_4 (dk_at dksJ2_isEmpty_0 7 rfl rfl)
theorem dJ2_isEmpty_8 : decode cJ2_isEmpty 8 = .ok (.goto 4, 3) := dk_167 0 4 (dk_at dksJ2_isEmpty_0 8 rfl rfl)
theorem dJ2_isEmpty_11 : decode cJ2_isEmpty 11 = .ok (.iconst 0, 1) := dk_3 (dk_at dksJ2_isEmpty_0 11 rfl rfl)
theorem dJ2_isEmpty_12 : decode cJ2_isEmpty 12 = .ok (.ireturn, 1) := dk_172 (dk_at dksJ2_isEmpty_0 12 rfl rfl)
abbrev cJ2_iterator : ByteArray := prog_51_method_55_code
def yJ2_iterator : MethodName := ⟨RJ2, "iterator", "()Ljava/util/Iterator;"⟩
def dkwJ2_iterator_0 : List UInt8 := [187, 1, 11, 89, 42, 183, 1, 13, 176]
abbrev dktJ2_iterator_0 : List UInt8 := dkwJ2_iterator_0 ++ []
theorem dksJ2_iterator_0 : cJ2_iterator.data.toList.drop 0 = dktJ2_iterator_0 := by decide +kernel
theorem dJ2_iterator_0 : decode cJ2_iterator 0 = .ok (.new 267, 3) := dk_187 1 11 (dk_at dksJ2_iterator_0 0 rfl rfl)
theorem dJ2_iterator_3 : decode cJ2_iterator 3 = .ok (.dup, 1) := dk_89 (dk_at dksJ2_iterator_0 3 rfl rfl)
theorem dJ2_iterator_4 : decode cJ2_iterator 4 = .ok (.aload_n 0, 1) := dk_42 (dk_at dksJ2_iterator_0 4 rfl rfl)
theorem dJ2_iterator_5 : decode cJ2_iterator 5 = .ok (.invokespecial 269, 3) := dk_183 1 13 (dk_at dksJ2_iterator_0 5 rfl rfl)
theorem dJ2_iterator_8 : decode cJ2_iterator 8 = .ok (.areturn, 1) := dk_176 (dk_at dksJ2_iterator_0 8 rfl rfl)
abbrev cJ2_listIterator : ByteArray := prog_51_method_53_code
def yJ2_listIterator : MethodName := ⟨RJ2, "listIterator", "(I)Ljava/util/ListIterator;"⟩
def dkwJ2_listIterator_0 : List UInt8 := [42, 27, 182, 0, 135, 187, 1, 6, 89, 42, 27, 183, 1, 8, 176]
abbrev dktJ2_listIterator_0 : List UInt8 := dkwJ2_listIterator_0 ++ []
theorem dksJ2_listIterator_0 : cJ2_listIterator.data.toList.drop 0 = dktJ2_listIterator_0 := by decide +kernel
theorem dJ2_listIterator_0 : decode cJ2_listIterator 0 = .ok (.aload_n 0, 1) := dk_42 (dk_at dksJ2_listIterator_0 0 rfl rfl)
theorem dJ2_listIterator_1 : decode cJ2_listIterator 1 = .ok (.iload_n 1, 1) := dk_27 (dk_at dksJ2_listIterator_0 1 rfl rfl)
theorem dJ2_listIterator_2 : decode cJ2_listIterator 2 = .ok (.invokevirtual 135, 3) := dk_182 0 135 (dk_at dksJ2_listIterator_0 2 rfl rfl)
theorem dJ2_listIterator_5 : decode cJ2_listIterator 5 = .ok (.new 262, 3) := dk_187 1 6 (dk_at dksJ2_listIterator_0 5 rfl rfl)
theorem dJ2_listIterator_8 : decode cJ2_listIterator 8 = .ok (.dup, 1) := dk_89 (dk_at dksJ2_listIterator_0 8 rfl rfl)
theorem dJ2_listIterator_9 : decode cJ2_listIterator 9 = .ok (.aload_n 0, 1) := dk_42 (dk_at dksJ2_listIterator_0 9 rfl rfl)
theorem dJ2_listIterator_10 : decode cJ2_listIterator 10 = .ok (.iload_n 1, 1) := dk_27 (dk_at dksJ2_listIterator_0 10 rfl rfl)
theorem dJ2_listIterator_11 : decode cJ2_listIterator 11 = .ok (.invokespecial 264, 3) := dk_183 1 8 (dk_at dksJ2_listIterator_0 11 rfl rfl)
theorem dJ2_listIterator_14 : decode cJ2_listIterator 14 = .ok (.areturn, 1) := dk_176 (dk_at dksJ2_listIterator_0 14 rfl rfl)
abbrev cJ2_rangeCheckForAdd : ByteArray := prog_51_method_45_code
def yJ2_rangeCheckForAdd : MethodName := ⟨RJ2, "rangeCheckForAdd", "(I)V"⟩
def dkwJ2_rangeCheckForAdd_1 : List UInt8 := [191, 177]
abbrev dktJ2_rangeCheckForAdd_1 : List UInt8 := dkwJ2_rangeCheckForAdd_1 ++ []
def dkwJ2_rangeCheckForAdd_0 : List UInt8 := [27, 42, 180, 0, 48, 163, 0, 7, 27, 156, 0, 16, 187, 0, 187, 89, 42, 27, 182, 0, 198, 183, 0, 193]
abbrev dktJ2_rangeCheckForAdd_0 : List UInt8 := dkwJ2_rangeCheckForAdd_0 ++ dktJ2_rangeCheckForAdd_1
theorem dksJ2_rangeCheckForAdd_0 : cJ2_rangeCheckForAdd.data.toList.drop 0 = dktJ2_rangeCheckForAdd_0 := by decide +kernel
theorem dksJ2_rangeCheckForAdd_1 : cJ2_rangeCheckForAdd.data.toList.drop 24 = dktJ2_rangeCheckForAdd_1 := dk_seg dksJ2_rangeCheckForAdd_0 24 rfl rfl
theorem dJ2_rangeCheckForAdd_0 : decode cJ2_rangeCheckForAdd 0 = .ok (.iload_n 1, 1) := dk_27 (dk_at dksJ2_rangeCheckForAdd_0 0 rfl rfl)
theorem dJ2_rangeCheckForAdd_1 : decode cJ2_rangeCheckForAdd 1 = .ok (.aload_n 0, 1) := dk_42 (dk_at dksJ2_rangeCheckForAdd_0 1 rfl rfl)
theorem dJ2_rangeCheckForAdd_2 : decode cJ2_rangeCheckForAdd 2 = .ok (.getfield 48, 3) := dk_180 0 48 (dk_at dksJ2_rangeCheckForAdd_0 2 rfl rfl)
theorem dJ2_rangeCheckForAdd_5 : decode cJ2_rangeCheckForAdd 5 = .ok (.if_icmp .gt 7, 3) := dk_163 0 7 (dk_at dksJ2_rangeCheckForAdd_0 5 rfl rfl)
theorem dJ2_rangeCheckForAdd_8 : decode cJ2_rangeCheckForAdd 8 = .ok (.iload_n 1, 1) := dk_27 (dk_at dksJ2_rangeCheckForAdd_0 8 rfl rfl)
theorem dJ2_rangeCheckForAdd_9 : decode cJ2_rangeCheckForAdd 9 = .ok (.ifCond .ge 16, 3) := dk_156 0 16 (dk_at dksJ2_rangeCheckForAdd_0 9 rfl rfl)
theorem dJ2_rangeCheckForAdd_12 : decode cJ2_rangeCheckForAdd 12 = .ok (.new 187, 3) := dk_187 0 187 (dk_at dksJ2_rangeCheckForAdd_0 12 rfl rfl)
theorem dJ2_rangeCheckForAdd_15 : decode cJ2_rangeCheckForAdd 15 = .ok (.dup, 1) := dk_89 (dk_at dksJ2_rangeCheckForAdd_0 15 rfl rfl)
theorem dJ2_rangeCheckForAdd_16 : decode cJ2_rangeCheckForAdd 16 = .ok (.aload_n 0, 1) := dk_42 (dk_at dksJ2_rangeCheckForAdd_0 16 rfl rfl)
theorem dJ2_rangeCheckForAdd_17 : decode cJ2_rangeCheckForAdd 17 = .ok (.iload_n 1, 1) := dk_27 (dk_at dksJ2_rangeCheckForAdd_0 17 rfl rfl)
theorem dJ2_rangeCheckForAdd_18 : decode cJ2_rangeCheckForAdd 18 = .ok (.invokevirtual 198, 3) := dk_182 0 198 (dk_at dksJ2_rangeCheckForAdd_0 18 rfl rfl)
theorem dJ2_rangeCheckForAdd_21 : decode cJ2_rangeCheckForAdd 21 = .ok (.invokespecial 193, 3) := dk_183 0 193 (dk_at dksJ2_rangeCheckForAdd_0 21 rfl rfl)
theorem dJ2_rangeCheckForAdd_24 : decode cJ2_rangeCheckForAdd 24 = .ok (.athrow, 1) := dk_191 (dk_at dksJ2_rangeCheckForAdd_1 0 rfl rfl)
theorem dJ2_rangeCheckForAdd_25 : decode cJ2_rangeCheckForAdd 25 = .ok (.return_, 1) := dk_177 (dk_at dksJ2_rangeCheckForAdd_1 1 rfl rfl)
abbrev cJ2_outOfBoundsMsg : ByteArray := prog_51_method_46_code
def yJ2_outOfBoundsMsg : MethodName := ⟨RJ2, "outOfBoundsMsg", "(I)Ljava/lang/String;"⟩
def dkwJ2_outOfBoundsMsg_1 : List UInt8 := [180, 0, 48, 182, 0, 29, 182, 0, 32, 176]
abbrev dktJ2_outOfBoundsMsg_1 : List UInt8 := dkwJ2_outOfBoundsMsg_1 ++ []
def dkwJ2_outOfBoundsMsg_0 : List UInt8 := [187, 0, 20, 89, 183, 0, 22, 18, 201, 182, 0, 25, 27, 182, 0, 29, 18, 203, 182, 0, 25, 42]
abbrev dktJ2_outOfBoundsMsg_0 : List UInt8 := dkwJ2_outOfBoundsMsg_0 ++ dktJ2_outOfBoundsMsg_1
theorem dksJ2_outOfBoundsMsg_0 : cJ2_outOfBoundsMsg.data.toList.drop 0 = dktJ2_outOfBoundsMsg_0 := by decide +kernel
theorem dksJ2_outOfBoundsMsg_1 : cJ2_outOfBoundsMsg.data.toList.drop 22 = dktJ2_outOfBoundsMsg_1 := dk_seg dksJ2_outOfBoundsMsg_0 22 rfl rfl
theorem dJ2_outOfBoundsMsg_0 : decode cJ2_outOfBoundsMsg 0 = .ok (.new 20, 3) := dk_187 0 20 (dk_at dksJ2_outOfBoundsMsg_0 0 rfl rfl)
theorem dJ2_outOfBoundsMsg_3 : decode cJ2_outOfBoundsMsg 3 = .ok (.dup, 1) := dk_89 (dk_at dksJ2_outOfBoundsMsg_0 3 rfl rfl)
theorem dJ2_outOfBoundsMsg_4 : decode cJ2_outOfBoundsMsg 4 = .ok (.invokespecial 22, 3) := dk_183 0 22 (dk_at dksJ2_outOfBoundsMsg_0 4 rfl rfl)
theorem dJ2_outOfBoundsMsg_7 : decode cJ2_outOfBoundsMsg 7 = .ok (.ldc 201, 2) := dk_18 201 (dk_at dksJ2_outOfBoundsMsg_0 7 rfl rfl)
theorem dJ2_outOfBoundsMsg_9 : decode cJ2_outOfBoundsMsg 9 = .ok (.invokevirtual 25, 3) := dk_182 0 25 (dk_at dksJ2_outOfBoundsMsg_0 9 rfl rfl)
theorem dJ2_outOfBoundsMsg_12 : decode cJ2_outOfBoundsMsg 12 = .ok (.iload_n 1, 1) := dk_27 (dk_at dksJ2_outOfBoundsMsg_0 12 rfl rfl)
theorem dJ2_outOfBoundsMsg_13 : decode cJ2_outOfBoundsMsg 13 = .ok (.invokevirtual 29, 3) := dk_182 0 29 (dk_at dksJ2_outOfBoundsMsg_0 13 rfl rfl)
theorem dJ2_outOfBoundsMsg_16 : decode cJ2_outOfBoundsMsg 16 = .ok (.ldc 203, 2) := dk_18 203 (dk_at dksJ2_outOfBoundsMsg_0 16 rfl rfl)
theorem dJ2_outOfBoundsMsg_18 : decode cJ2_outOfBoundsMsg 18 = .ok (.invokevirtual 25, 3) := dk_182 0 25 (dk_at dksJ2_outOfBoundsMsg_0 18 rfl rfl)
theorem dJ2_outOfBoundsMsg_21 : decode cJ2_outOfBoundsMsg 21 = .ok (.aload_n 0, 1) := dk_42 (dk_at dksJ2_outOfBoundsMsg_0 21 rfl rfl)
theorem dJ2_outOfBoundsMsg_22 : decode cJ2_outOfBoundsMsg 22 = .ok (.getfield 48, 3) := dk_180 0 48 (dk_at dksJ2_outOfBoundsMsg_1 0 rfl rfl)
theorem dJ2_outOfBoundsMsg_25 : decode cJ2_outOfBoundsMsg 25 = .ok (.invokevirtual 29, 3) := dk_182 0 29 (dk_at dksJ2_outOfBoundsMsg_1 3 rfl rfl)
theorem dJ2_outOfBoundsMsg_28 : decode cJ2_outOfBoundsMsg 28 = .ok (.invokevirtual 32, 3) := dk_182 0 32 (dk_at dksJ2_outOfBoundsMsg_1 6 rfl rfl)
theorem dJ2_outOfBoundsMsg_31 : decode cJ2_outOfBoundsMsg 31 = .ok (.areturn, 1) := dk_176 (dk_at dksJ2_outOfBoundsMsg_1 9 rfl rfl)
theorem q37 : (Jvm.Cond.initialized "java/util/ArrayList") ∈ lw_all := lw_g (lw_at lw_m1 4 rfl) rfl
theorem q126 : (Jvm.Cond.instantiable "java/util/ArrayList" (3 : Nat)) ∈ lw_all := lw_g (lw_at lw_m1 93 rfl) rfl
theorem q128 : (Jvm.Cond.instanceMethod ({ cls := "java/util/ArrayList", name := "<init>", desc := "()V" } : Jvm.MethodName)) ∈ lw_all := lw_g (lw_at lw_m1 95 rfl) rfl
theorem q129 : (Jvm.Cond.code ({ cls := "java/util/ArrayList", name := "<init>", desc := "()V" } : Jvm.MethodName) prog_51_method_2_code (1 : Nat) (Option.none : Option Jvm.ClassFile.FieldType)) ∈ lw_all := lw_g (lw_at lw_m1 96 rfl) rfl
theorem q130 : (Jvm.Cond.methodLink "java/util/ArrayList" (1 : Nat) ({ cls := "java/util/AbstractList", name := "<init>", desc := "()V" } : Jvm.MethodName)) ∈ lw_all := lw_g (lw_at lw_m1 97 rfl) rfl
theorem q137 : (Jvm.Cond.fieldLink "java/util/ArrayList" (39 : Nat) "java/util/ArrayList" "DEFAULTCAPACITY_EMPTY_ELEMENTDATA" "[Ljava/lang/Object;") ∈ lw_all := lw_g (lw_at lw_m1 104 rfl) rfl
theorem q138 : (Jvm.Cond.laysStatic "java/util/ArrayList" "DEFAULTCAPACITY_EMPTY_ELEMENTDATA" "[Ljava/lang/Object;") ∈ lw_tbl := lw_at lw_m1 105 rfl
theorem q139 : (Jvm.Cond.fieldLink "java/util/ArrayList" (9 : Nat) "java/util/ArrayList" "elementData" "[Ljava/lang/Object;") ∈ lw_all := lw_g (lw_at lw_m1 106 rfl) rfl
theorem q142 : (Jvm.Cond.fieldLink "java/util/ArrayList" (48 : Nat) "java/util/ArrayList" "size" "I") ∈ lw_all := lw_g (lw_at lw_m1 109 rfl) rfl
theorem q147 : (Jvm.Cond.sameField "java/util/ArrayList" "java/util/AbstractList" "modCount" "I") ∈ lw_all := lw_g (lw_at lw_m1 114 rfl) rfl
theorem q150 : (Jvm.Cond.fieldLink "java/util/ArrayList" (63 : Nat) "java/util/ArrayList" "modCount" "I") ∈ lw_all := lw_g (lw_at lw_m1 117 rfl) rfl
theorem q151 : (Jvm.Cond.lays "java/util/ArrayList" "java/util/ArrayList" "elementData" "[Ljava/lang/Object;") ∈ lw_all := lw_g (lw_at lw_m1 118 rfl) rfl
theorem q152 : (Jvm.Cond.soleField "java/util/ArrayList" "elementData") ∈ lw_all := lw_g (lw_at lw_m1 119 rfl) rfl
theorem q153 : (Jvm.Cond.lays "java/util/ArrayList" "java/util/ArrayList" "size" "I") ∈ lw_all := lw_g (lw_at lw_m1 120 rfl) rfl
theorem q154 : (Jvm.Cond.soleField "java/util/ArrayList" "size") ∈ lw_all := lw_g (lw_at lw_m1 121 rfl) rfl
theorem q155 : (Jvm.Cond.lays "java/util/ArrayList" "java/util/AbstractList" "modCount" "I") ∈ lw_all := lw_g (lw_at lw_m1 122 rfl) rfl
theorem q157 : (Jvm.Cond.superclass "java/util/ArrayList" "java/util/AbstractList") ∈ lw_all := lw_g (lw_at lw_m1 124 rfl) rfl
theorem q242 : (Jvm.Cond.castable "java/util/ArrayList" "java/util/List") ∈ lw_tbl := lw_at lw_m1 209 rfl
theorem q243 : (Jvm.Cond.selects "java/util/ArrayList" ({ cls := "java/util/List", name := "add", desc := "(Ljava/lang/Object;)Z" } : Jvm.MethodName) ({ cls := "java/util/ArrayList", name := "add", desc := "(Ljava/lang/Object;)Z" } : Jvm.MethodName)) ∈ lw_all := lw_g (lw_at lw_m1 210 rfl) rfl
theorem q244 : (Jvm.Cond.unhidden "java/util/ArrayList" "add" "(Ljava/lang/Object;)Z") ∈ lw_tbl := lw_at lw_m1 211 rfl
theorem q245 : (Jvm.Cond.instanceMethod ({ cls := "java/util/ArrayList", name := "add", desc := "(Ljava/lang/Object;)Z" } : Jvm.MethodName)) ∈ lw_all := lw_g (lw_at lw_m1 212 rfl) rfl
theorem q246 : (Jvm.Cond.publicMethod ({ cls := "java/util/ArrayList", name := "add", desc := "(Ljava/lang/Object;)Z" } : Jvm.MethodName)) ∈ lw_tbl := lw_at lw_m1 213 rfl
theorem q247 : (Jvm.Cond.code ({ cls := "java/util/ArrayList", name := "add", desc := "(Ljava/lang/Object;)Z" } : Jvm.MethodName) prog_51_method_25_code (2 : Nat) (Option.some Jvm.ClassFile.FieldType.boolean)) ∈ lw_all := lw_g (lw_at lw_m1 214 rfl) rfl
theorem q248 : (Jvm.Cond.methodLink "java/util/ArrayList" (131 : Nat) ({ cls := "java/util/ArrayList", name := "add", desc := "(Ljava/lang/Object;[Ljava/lang/Object;I)V" } : Jvm.MethodName)) ∈ lw_all := lw_g (lw_at lw_m1 215 rfl) rfl
theorem q249 : (Jvm.Cond.privateMethod ({ cls := "java/util/ArrayList", name := "add", desc := "(Ljava/lang/Object;[Ljava/lang/Object;I)V" } : Jvm.MethodName)) ∈ lw_tbl := lw_at lw_m1 216 rfl
theorem q250 : (Jvm.Cond.instanceMethod ({ cls := "java/util/ArrayList", name := "add", desc := "(Ljava/lang/Object;[Ljava/lang/Object;I)V" } : Jvm.MethodName)) ∈ lw_all := lw_g (lw_at lw_m1 217 rfl) rfl
theorem q251 : (Jvm.Cond.code ({ cls := "java/util/ArrayList", name := "add", desc := "(Ljava/lang/Object;[Ljava/lang/Object;I)V" } : Jvm.MethodName) prog_51_method_24_code (4 : Nat) (Option.none : Option Jvm.ClassFile.FieldType)) ∈ lw_all := lw_g (lw_at lw_m1 218 rfl) rfl
theorem q252 : (Jvm.Cond.methodLink "java/util/ArrayList" (129 : Nat) ({ cls := "java/util/ArrayList", name := "grow", desc := "()[Ljava/lang/Object;" } : Jvm.MethodName)) ∈ lw_all := lw_g (lw_at lw_m1 219 rfl) rfl
theorem q253 : (Jvm.Cond.privateMethod ({ cls := "java/util/ArrayList", name := "grow", desc := "()[Ljava/lang/Object;" } : Jvm.MethodName)) ∈ lw_tbl := lw_at lw_m1 220 rfl
theorem q254 : (Jvm.Cond.instanceMethod ({ cls := "java/util/ArrayList", name := "grow", desc := "()[Ljava/lang/Object;" } : Jvm.MethodName)) ∈ lw_all := lw_g (lw_at lw_m1 221 rfl) rfl
theorem q255 : (Jvm.Cond.code ({ cls := "java/util/ArrayList", name := "grow", desc := "()[Ljava/lang/Object;" } : Jvm.MethodName) prog_51_method_7_code (1 : Nat) (Option.some (Jvm.ClassFile.FieldType.array (Jvm.ClassFile.FieldType.object "java/lang/Object")))) ∈ lw_all := lw_g (lw_at lw_m1 222 rfl) rfl
theorem q256 : (Jvm.Cond.methodLink "java/util/ArrayList" (69 : Nat) ({ cls := "java/util/ArrayList", name := "grow", desc := "(I)[Ljava/lang/Object;" } : Jvm.MethodName)) ∈ lw_all := lw_g (lw_at lw_m1 223 rfl) rfl
theorem q257 : (Jvm.Cond.privateMethod ({ cls := "java/util/ArrayList", name := "grow", desc := "(I)[Ljava/lang/Object;" } : Jvm.MethodName)) ∈ lw_tbl := lw_at lw_m1 224 rfl
theorem q258 : (Jvm.Cond.instanceMethod ({ cls := "java/util/ArrayList", name := "grow", desc := "(I)[Ljava/lang/Object;" } : Jvm.MethodName)) ∈ lw_all := lw_g (lw_at lw_m1 225 rfl) rfl
theorem q259 : (Jvm.Cond.code ({ cls := "java/util/ArrayList", name := "grow", desc := "(I)[Ljava/lang/Object;" } : Jvm.MethodName) prog_51_method_6_code (4 : Nat) (Option.some (Jvm.ClassFile.FieldType.array (Jvm.ClassFile.FieldType.object "java/lang/Object")))) ∈ lw_all := lw_g (lw_at lw_m1 226 rfl) rfl
theorem q260 : (Jvm.Cond.methodLink "java/util/ArrayList" (73 : Nat) ({ cls := "jdk/internal/util/ArraysSupport", name := "newLength", desc := "(III)I" } : Jvm.MethodName)) ∈ lw_all := lw_g (lw_at lw_m1 227 rfl) rfl
theorem q270 : (Jvm.Cond.methodLink "java/util/ArrayList" (66 : Nat) ({ cls := "java/util/Arrays", name := "copyOf", desc := "([Ljava/lang/Object;I)[Ljava/lang/Object;" } : Jvm.MethodName)) ∈ lw_all := lw_g (lw_at lw_m1 237 rfl) rfl
theorem q299 : (Jvm.Cond.selects "java/util/ArrayList" ({ cls := "java/lang/Object", name := "getClass", desc := "()Ljava/lang/Class;" } : Jvm.MethodName) ({ cls := "java/lang/Object", name := "getClass", desc := "()Ljava/lang/Class;" } : Jvm.MethodName)) ∈ lw_all := lw_g (lw_at lw_m2 26 rfl) rfl
theorem q320 : (Jvm.Cond.methodLink "java/util/ArrayList" (79 : Nat) ({ cls := "java/lang/Math", name := "max", desc := "(II)I" } : Jvm.MethodName)) ∈ lw_all := lw_g (lw_at lw_m2 47 rfl) rfl
theorem q321 : (Jvm.Cond.classLink "java/util/ArrayList" (7 : Nat) "java/lang/Object") ∈ lw_all := lw_g (lw_at lw_m2 48 rfl) rfl
theorem q400 : (Jvm.Cond.selects "java/util/ArrayList" ({ cls := "java/util/List", name := "clear", desc := "()V" } : Jvm.MethodName) ({ cls := "java/util/ArrayList", name := "clear", desc := "()V" } : Jvm.MethodName)) ∈ lw_all := lw_g (lw_at lw_m2 127 rfl) rfl
theorem q401 : (Jvm.Cond.unhidden "java/util/ArrayList" "clear" "()V") ∈ lw_tbl := lw_at lw_m2 128 rfl
theorem q402 : (Jvm.Cond.instanceMethod ({ cls := "java/util/ArrayList", name := "clear", desc := "()V" } : Jvm.MethodName)) ∈ lw_all := lw_g (lw_at lw_m2 129 rfl) rfl
theorem q403 : (Jvm.Cond.publicMethod ({ cls := "java/util/ArrayList", name := "clear", desc := "()V" } : Jvm.MethodName)) ∈ lw_tbl := lw_at lw_m2 130 rfl
theorem q404 : (Jvm.Cond.code ({ cls := "java/util/ArrayList", name := "clear", desc := "()V" } : Jvm.MethodName) prog_51_method_40_code (4 : Nat) (Option.none : Option Jvm.ClassFile.FieldType)) ∈ lw_all := lw_g (lw_at lw_m2 131 rfl) rfl
theorem q441 : (Jvm.Cond.selects "java/util/ArrayList" ({ cls := "java/util/List", name := "size", desc := "()I" } : Jvm.MethodName) ({ cls := "java/util/ArrayList", name := "size", desc := "()I" } : Jvm.MethodName)) ∈ lw_all := lw_g (lw_at lw_m2 168 rfl) rfl
theorem q442 : (Jvm.Cond.unhidden "java/util/ArrayList" "size" "()I") ∈ lw_tbl := lw_at lw_m2 169 rfl
theorem q443 : (Jvm.Cond.instanceMethod ({ cls := "java/util/ArrayList", name := "size", desc := "()I" } : Jvm.MethodName)) ∈ lw_all := lw_g (lw_at lw_m2 170 rfl) rfl
theorem q444 : (Jvm.Cond.publicMethod ({ cls := "java/util/ArrayList", name := "size", desc := "()I" } : Jvm.MethodName)) ∈ lw_tbl := lw_at lw_m2 171 rfl
theorem q445 : (Jvm.Cond.code ({ cls := "java/util/ArrayList", name := "size", desc := "()I" } : Jvm.MethodName) prog_51_method_8_code (1 : Nat) (Option.some Jvm.ClassFile.FieldType.int)) ∈ lw_all := lw_g (lw_at lw_m2 172 rfl) rfl
theorem q791 : (Jvm.Cond.selects "java/util/ArrayList" ({ cls := "java/util/List", name := "get", desc := "(I)Ljava/lang/Object;" } : Jvm.MethodName) ({ cls := "java/util/ArrayList", name := "get", desc := "(I)Ljava/lang/Object;" } : Jvm.MethodName)) ∈ lw_all := lw_g (lw_at lw_m4 38 rfl) rfl
theorem q792 : (Jvm.Cond.unhidden "java/util/ArrayList" "get" "(I)Ljava/lang/Object;") ∈ lw_tbl := lw_at lw_m4 39 rfl
theorem q793 : (Jvm.Cond.instanceMethod ({ cls := "java/util/ArrayList", name := "get", desc := "(I)Ljava/lang/Object;" } : Jvm.MethodName)) ∈ lw_all := lw_g (lw_at lw_m4 40 rfl) rfl
theorem q794 : (Jvm.Cond.publicMethod ({ cls := "java/util/ArrayList", name := "get", desc := "(I)Ljava/lang/Object;" } : Jvm.MethodName)) ∈ lw_tbl := lw_at lw_m4 41 rfl
theorem q795 : (Jvm.Cond.code ({ cls := "java/util/ArrayList", name := "get", desc := "(I)Ljava/lang/Object;" } : Jvm.MethodName) prog_51_method_20_code (2 : Nat) (Option.some (Jvm.ClassFile.FieldType.object "java/lang/Object"))) ∈ lw_all := lw_g (lw_at lw_m4 42 rfl) rfl
theorem q796 : (Jvm.Cond.methodLink "java/util/ArrayList" (118 : Nat) ({ cls := "java/util/Objects", name := "checkIndex", desc := "(II)I" } : Jvm.MethodName)) ∈ lw_all := lw_g (lw_at lw_m4 43 rfl) rfl
theorem q800 : (Jvm.Cond.methodLink "java/util/ArrayList" (123 : Nat) ({ cls := "java/util/ArrayList", name := "elementData", desc := "(I)Ljava/lang/Object;" } : Jvm.MethodName)) ∈ lw_all := lw_g (lw_at lw_m4 47 rfl) rfl
theorem q801 : (Jvm.Cond.instanceMethod ({ cls := "java/util/ArrayList", name := "elementData", desc := "(I)Ljava/lang/Object;" } : Jvm.MethodName)) ∈ lw_all := lw_g (lw_at lw_m4 48 rfl) rfl
theorem q802 : (Jvm.Cond.selects "java/util/ArrayList" ({ cls := "java/util/ArrayList", name := "elementData", desc := "(I)Ljava/lang/Object;" } : Jvm.MethodName) ({ cls := "java/util/ArrayList", name := "elementData", desc := "(I)Ljava/lang/Object;" } : Jvm.MethodName)) ∈ lw_all := lw_g (lw_at lw_m4 49 rfl) rfl
theorem q803 : (Jvm.Cond.code ({ cls := "java/util/ArrayList", name := "elementData", desc := "(I)Ljava/lang/Object;" } : Jvm.MethodName) prog_51_method_18_code (2 : Nat) (Option.some (Jvm.ClassFile.FieldType.object "java/lang/Object"))) ∈ lw_all := lw_g (lw_at lw_m4 50 rfl) rfl
theorem q1074 : (Jvm.Cond.selects "java/util/ArrayList" ({ cls := "java/util/List", name := "isEmpty", desc := "()Z" } : Jvm.MethodName) ({ cls := "java/util/ArrayList", name := "isEmpty", desc := "()Z" } : Jvm.MethodName)) ∈ lw_all := lw_g (lw_at lw_m5 81 rfl) rfl
theorem q1075 : (Jvm.Cond.unhidden "java/util/ArrayList" "isEmpty" "()Z") ∈ lw_tbl := lw_at lw_m5 82 rfl
theorem q1076 : (Jvm.Cond.instanceMethod ({ cls := "java/util/ArrayList", name := "isEmpty", desc := "()Z" } : Jvm.MethodName)) ∈ lw_all := lw_g (lw_at lw_m5 83 rfl) rfl
theorem q1077 : (Jvm.Cond.publicMethod ({ cls := "java/util/ArrayList", name := "isEmpty", desc := "()Z" } : Jvm.MethodName)) ∈ lw_tbl := lw_at lw_m5 84 rfl
theorem q1078 : (Jvm.Cond.code ({ cls := "java/util/ArrayList", name := "isEmpty", desc := "()Z" } : Jvm.MethodName) prog_51_method_9_code (1 : Nat) (Option.some Jvm.ClassFile.FieldType.boolean)) ∈ lw_all := lw_g (lw_at lw_m5 85 rfl) rfl
theorem q1087 : (Jvm.Cond.selects "java/util/ArrayList" ({ cls := "java/util/AbstractCollection", name := "size", desc := "()I" } : Jvm.MethodName) ({ cls := "java/util/ArrayList", name := "size", desc := "()I" } : Jvm.MethodName)) ∈ lw_all := lw_g (lw_at lw_m5 94 rfl) rfl
theorem q1289 : (Jvm.Cond.selects "java/util/ArrayList" ({ cls := "java/util/List", name := "iterator", desc := "()Ljava/util/Iterator;" } : Jvm.MethodName) ({ cls := "java/util/ArrayList", name := "iterator", desc := "()Ljava/util/Iterator;" } : Jvm.MethodName)) ∈ lw_all := lw_g (lw_at lw_m6 56 rfl) rfl
theorem q1290 : (Jvm.Cond.unhidden "java/util/ArrayList" "iterator" "()Ljava/util/Iterator;") ∈ lw_tbl := lw_at lw_m6 57 rfl
theorem q1291 : (Jvm.Cond.instanceMethod ({ cls := "java/util/ArrayList", name := "iterator", desc := "()Ljava/util/Iterator;" } : Jvm.MethodName)) ∈ lw_all := lw_g (lw_at lw_m6 58 rfl) rfl
theorem q1292 : (Jvm.Cond.publicMethod ({ cls := "java/util/ArrayList", name := "iterator", desc := "()Ljava/util/Iterator;" } : Jvm.MethodName)) ∈ lw_tbl := lw_at lw_m6 59 rfl
theorem q1293 : (Jvm.Cond.code ({ cls := "java/util/ArrayList", name := "iterator", desc := "()Ljava/util/Iterator;" } : Jvm.MethodName) prog_51_method_55_code (1 : Nat) (Option.some (Jvm.ClassFile.FieldType.object "java/util/Iterator"))) ∈ lw_all := lw_g (lw_at lw_m6 60 rfl) rfl
theorem q1294 : (Jvm.Cond.classLink "java/util/ArrayList" (267 : Nat) "java/util/ArrayList$Itr") ∈ lw_all := lw_g (lw_at lw_m6 61 rfl) rfl
theorem q1296 : (Jvm.Cond.methodLink "java/util/ArrayList" (269 : Nat) ({ cls := "java/util/ArrayList$Itr", name := "<init>", desc := "(Ljava/util/ArrayList;)V" } : Jvm.MethodName)) ∈ lw_all := lw_g (lw_at lw_m6 63 rfl) rfl
theorem q1329 : (Jvm.Cond.selects "java/util/ArrayList" ({ cls := "java/util/AbstractList", name := "listIterator", desc := "(I)Ljava/util/ListIterator;" } : Jvm.MethodName) ({ cls := "java/util/ArrayList", name := "listIterator", desc := "(I)Ljava/util/ListIterator;" } : Jvm.MethodName)) ∈ lw_all := lw_g (lw_at lw_m6 96 rfl) rfl
theorem q1330 : (Jvm.Cond.instanceMethod ({ cls := "java/util/ArrayList", name := "listIterator", desc := "(I)Ljava/util/ListIterator;" } : Jvm.MethodName)) ∈ lw_all := lw_g (lw_at lw_m6 97 rfl) rfl
theorem q1331 : (Jvm.Cond.code ({ cls := "java/util/ArrayList", name := "listIterator", desc := "(I)Ljava/util/ListIterator;" } : Jvm.MethodName) prog_51_method_53_code (2 : Nat) (Option.some (Jvm.ClassFile.FieldType.object "java/util/ListIterator"))) ∈ lw_all := lw_g (lw_at lw_m6 98 rfl) rfl
theorem q1332 : (Jvm.Cond.methodLink "java/util/ArrayList" (135 : Nat) ({ cls := "java/util/ArrayList", name := "rangeCheckForAdd", desc := "(I)V" } : Jvm.MethodName)) ∈ lw_all := lw_g (lw_at lw_m6 99 rfl) rfl
theorem q1333 : (Jvm.Cond.privateMethod ({ cls := "java/util/ArrayList", name := "rangeCheckForAdd", desc := "(I)V" } : Jvm.MethodName)) ∈ lw_tbl := lw_at lw_m6 100 rfl
theorem q1334 : (Jvm.Cond.instanceMethod ({ cls := "java/util/ArrayList", name := "rangeCheckForAdd", desc := "(I)V" } : Jvm.MethodName)) ∈ lw_all := lw_g (lw_at lw_m6 101 rfl) rfl
theorem q1335 : (Jvm.Cond.code ({ cls := "java/util/ArrayList", name := "rangeCheckForAdd", desc := "(I)V" } : Jvm.MethodName) prog_51_method_45_code (2 : Nat) (Option.none : Option Jvm.ClassFile.FieldType)) ∈ lw_all := lw_g (lw_at lw_m6 102 rfl) rfl
theorem q1336 : (Jvm.Cond.classLink "java/util/ArrayList" (187 : Nat) "java/lang/IndexOutOfBoundsException") ∈ lw_all := lw_g (lw_at lw_m6 103 rfl) rfl
theorem q1337 : (Jvm.Cond.methodLink "java/util/ArrayList" (198 : Nat) ({ cls := "java/util/ArrayList", name := "outOfBoundsMsg", desc := "(I)Ljava/lang/String;" } : Jvm.MethodName)) ∈ lw_all := lw_g (lw_at lw_m6 104 rfl) rfl
theorem q1338 : (Jvm.Cond.privateMethod ({ cls := "java/util/ArrayList", name := "outOfBoundsMsg", desc := "(I)Ljava/lang/String;" } : Jvm.MethodName)) ∈ lw_tbl := lw_at lw_m6 105 rfl
theorem q1339 : (Jvm.Cond.instanceMethod ({ cls := "java/util/ArrayList", name := "outOfBoundsMsg", desc := "(I)Ljava/lang/String;" } : Jvm.MethodName)) ∈ lw_all := lw_g (lw_at lw_m6 106 rfl) rfl
theorem q1340 : (Jvm.Cond.code ({ cls := "java/util/ArrayList", name := "outOfBoundsMsg", desc := "(I)Ljava/lang/String;" } : Jvm.MethodName) prog_51_method_46_code (2 : Nat) (Option.some (Jvm.ClassFile.FieldType.object "java/lang/String"))) ∈ lw_all := lw_g (lw_at lw_m6 107 rfl) rfl
theorem q1341 : (Jvm.Cond.classLink "java/util/ArrayList" (20 : Nat) "java/lang/StringBuilder") ∈ lw_all := lw_g (lw_at lw_m6 108 rfl) rfl
theorem q1342 : (Jvm.Cond.methodLink "java/util/ArrayList" (22 : Nat) ({ cls := "java/lang/StringBuilder", name := "<init>", desc := "()V" } : Jvm.MethodName)) ∈ lw_all := lw_g (lw_at lw_m6 109 rfl) rfl
theorem q1343 : (Jvm.Cond.stringRef "java/util/ArrayList" (201 : Nat) "Index: ") ∈ lw_tbl := lw_at lw_m6 110 rfl
theorem q1344 : (Jvm.Cond.methodLink "java/util/ArrayList" (25 : Nat) ({ cls := "java/lang/StringBuilder", name := "append", desc := "(Ljava/lang/String;)Ljava/lang/StringBuilder;" } : Jvm.MethodName)) ∈ lw_all := lw_g (lw_at lw_m6 111 rfl) rfl
theorem q1345 : (Jvm.Cond.methodLink "java/util/ArrayList" (29 : Nat) ({ cls := "java/lang/StringBuilder", name := "append", desc := "(I)Ljava/lang/StringBuilder;" } : Jvm.MethodName)) ∈ lw_all := lw_g (lw_at lw_m6 112 rfl) rfl
theorem q1346 : (Jvm.Cond.stringRef "java/util/ArrayList" (203 : Nat) ", Size: ") ∈ lw_tbl := lw_at lw_m6 113 rfl
theorem q1347 : (Jvm.Cond.methodLink "java/util/ArrayList" (32 : Nat) ({ cls := "java/lang/StringBuilder", name := "toString", desc := "()Ljava/lang/String;" } : Jvm.MethodName)) ∈ lw_all := lw_g (lw_at lw_m6 114 rfl) rfl
theorem q1348 : (Jvm.Cond.methodLink "java/util/ArrayList" (193 : Nat) ({ cls := "java/lang/IndexOutOfBoundsException", name := "<init>", desc := "(Ljava/lang/String;)V" } : Jvm.MethodName)) ∈ lw_all := lw_g (lw_at lw_m6 115 rfl) rfl
theorem q1349 : (Jvm.Cond.classLink "java/util/ArrayList" (262 : Nat) "java/util/ArrayList$ListItr") ∈ lw_all := lw_g (lw_at lw_m6 116 rfl) rfl
theorem q1351 : (Jvm.Cond.methodLink "java/util/ArrayList" (264 : Nat) ({ cls := "java/util/ArrayList$ListItr", name := "<init>", desc := "(Ljava/util/ArrayList;I)V" } : Jvm.MethodName)) ∈ lw_all := lw_g (lw_at lw_m6 118 rfl) rfl
theorem q1410 : (Jvm.Cond.selects "java/util/ArrayList" ({ cls := "java/util/AbstractList", name := "size", desc := "()I" } : Jvm.MethodName) ({ cls := "java/util/ArrayList", name := "size", desc := "()I" } : Jvm.MethodName)) ∈ lw_all := lw_g (lw_at lw_m6 177 rfl) rfl
theorem q1444 : (Jvm.Cond.selects "java/util/ArrayList" ({ cls := "java/util/AbstractList", name := "get", desc := "(I)Ljava/lang/Object;" } : Jvm.MethodName) ({ cls := "java/util/ArrayList", name := "get", desc := "(I)Ljava/lang/Object;" } : Jvm.MethodName)) ∈ lw_all := lw_g (lw_at lw_m6 211 rfl) rfl
theorem q2239 : (Jvm.Cond.castable "java/util/ArrayList" "java/lang/Object") ∈ lw_tbl := lw_at lw_m10 46 rfl
theorem in_J2 : ∀ w ∈ wsJ20, w ∈ lw_all := lw_in wsJ20 [155, 151, 153] (by decide +kernel) (by decide +kernel)

/-! java/util/BitSet -/
set_option maxRecDepth 100000
def RJ3 : String := "java/util/BitSet"
def TJ3 : u_T := fun k => match k with
  | 0 => ("java/util/BitSet", "words", "[J", false)
  | 1 => ("java/util/BitSet", "wordsInUse", "I", false)
  | _ => ("java/util/BitSet", "sizeIsSticky", "Z", false)
def tyJ3 : Nat → FieldType := fun k => match k with
  | 0 => .array .long
  | 1 => .int
  | _ => .boolean
abbrev wsJ30 : List Cond := u_ws RJ3 TJ3 3
theorem nmJ3 : ∀ a, a < 3 → ∀ b, b < 3 → a ≠ b → (TJ3 a).2.1 ≠ (TJ3 b).2.1 := by decide +kernel
theorem tyJ3_ok : ∀ k, k < 3 → parseFieldDescriptor (TJ3 k).2.2.1 = some (tyJ3 k) := by decide +kernel
abbrev cJ3_init : ByteArray := prog_55_method_4_code
def yJ3_init : MethodName := ⟨RJ3, "<init>", "()V"⟩
def dkwJ3_init_1 : List UInt8 := [181, 0, 24, 177]
abbrev dktJ3_init_1 : List UInt8 := dkwJ3_init_1 ++ []
def dkwJ3_init_0 : List UInt8 := [42, 183, 0, 21, 42, 3, 181, 0, 7, 42, 3, 181, 0, 24, 42, 16, 64, 182, 0, 27, 42, 3]
abbrev dktJ3_init_0 : List UInt8 := dkwJ3_init_0 ++ dktJ3_init_1
theorem dksJ3_init_0 : cJ3_init.data.toList.drop 0 = dktJ3_init_0 := by decide +kernel
theorem dksJ3_init_1 : cJ3_init.data.toList.drop 22 = dktJ3_init_1 := dk_seg dksJ3_init_0 22 rfl rfl
theorem dJ3_init_0 : decode cJ3_init 0 = .ok (.aload_n 0, 1) := dk_42 (dk_at dksJ3_init_0 0 rfl rfl)
theorem dJ3_init_1 : decode cJ3_init 1 = .ok (.invokespecial 21, 3) := dk_183 0 21 (dk_at dksJ3_init_0 1 rfl rfl)
theorem dJ3_init_4 : decode cJ3_init 4 = .ok (.aload_n 0, 1) := dk_42 (dk_at dksJ3_init_0 4 rfl rfl)
theorem dJ3_init_5 : decode cJ3_init 5 = .ok (.iconst 0, 1) := dk_3 (dk_at dksJ3_init_0 5 rfl rfl)
theorem dJ3_init_6 : decode cJ3_init 6 = .ok (.putfield 7, 3) := dk_181 0 7 (dk_at dksJ3_init_0 6 rfl rfl)
theorem dJ3_init_9 : decode cJ3_init 9 = .ok (.aload_n 0, 1) := dk_42 (dk_at dksJ3_init_0 9 rfl rfl)
theorem dJ3_init_10 : decode cJ3_init 10 = .ok (.iconst 0, 1) := dk_3 (dk_at dksJ3_init_0 10 rfl rfl)
theorem dJ3_init_11 : decode cJ3_init 11 = .ok (.putfield 24, 3) := dk_181 0 24 (dk_at dksJ3_init_0 11 rfl rfl)
theorem dJ3_init_14 : decode cJ3_init 14 = .ok (.aload_n 0, 1) := dk_42 (dk_at dksJ3_init_0 14 rfl rfl)
theorem dJ3_init_15 : decode cJ3_init 15 = .ok (.bipush 64, 2) := dk_16 64 (dk_at dksJ3_init_0 15 rfl rfl)
theorem dJ3_init_17 : decode cJ3_init 17 = .ok (.invokevirtual 27, 3) := dk_182 0 27 (dk_at dksJ3_init_0 17 rfl rfl)
theorem dJ3_init_20 : decode cJ3_init 20 = .ok (.aload_n 0, 1) := dk_42 (dk_at dksJ3_init_0 20 rfl rfl)
theorem dJ3_init_21 : decode cJ3_init 21 = .ok (.iconst 0, 1) := dk_3 (dk_at dksJ3_init_0 21 rfl rfl)
theorem dJ3_init_22 : decode cJ3_init 22 = .ok (.putfield 24, 3) := dk_181 0 24 (dk_at dksJ3_init_1 0 rfl rfl)
theorem dJ3_init_25 : decode cJ3_init 25 = .ok (.return_, 1) := dk_177 (dk_at dksJ3_init_1 3 rfl rfl)
abbrev cJ3_initWords : ByteArray := prog_55_method_6_code
def yJ3_initWords : MethodName := ⟨RJ3, "initWords", "(I)V"⟩
def dkwJ3_initWords_0 : List UInt8 := [42, 27, 4, 100, 184, 0, 52, 4, 96, 188, 11, 181, 0, 11, 177]
abbrev dktJ3_initWords_0 : List UInt8 := dkwJ3_initWords_0 ++ []
theorem dksJ3_initWords_0 : cJ3_initWords.data.toList.drop 0 = dktJ3_initWords_0 := by decide +kernel
theorem dJ3_initWords_0 : decode cJ3_initWords 0 = .ok (.aload_n 0, 1) := dk_42 (dk_at dksJ3_initWords_0 0 rfl rfl)
theorem dJ3_initWords_1 : decode cJ3_initWords 1 = .ok (.iload_n 1, 1) := dk_27 (dk_at dksJ3_initWords_0 1 rfl rfl)
theorem dJ3_initWords_2 : decode cJ3_initWords 2 = .ok (.iconst 1, 1) := dk_4 (dk_at dksJ3_initWords_0 2 rfl rfl)
theorem dJ3_initWords_3 : decode cJ3_initWords 3 = .ok (.isub, 1) := dk_100 (dk_at dksJ3_initWords_0 3 rfl rfl)
theorem dJ3_initWords_4 : decode cJ3_initWords 4 = .ok (.invokestatic 52, 3) := dk_184 0 52 (dk_at dksJ3_initWords_0 4 rfl rfl)
theorem dJ3_initWords_7 : decode cJ3_initWords 7 = .ok (.iconst 1, 1) := dk_4 (dk_at dksJ3_initWords_0 7 rfl rfl)
theorem dJ3_initWords_8 : decode cJ3_initWords 8 = .ok (.iadd, 1) := dk_96 (dk_at dksJ3_initWords_0 8 rfl rfl)
theorem dJ3_initWords_9 : decode cJ3_initWords 9 = .ok (.newarray .long, 2) := dk_188_11 (dk_at dksJ3_initWords_0 9 rfl rfl)
theorem dJ3_initWords_11 : decode cJ3_initWords 11 = .ok (.putfield 11, 3) := dk_181 0 11 (dk_at dksJ3_initWords_0 11 rfl rfl)
theorem dJ3_initWords_14 : decode cJ3_initWords 14 = .ok (.return_, 1) := dk_177 (dk_at dksJ3_initWords_0 14 rfl rfl)
abbrev cJ3_wordIndex : ByteArray := prog_55_method_1_code
def yJ3_wordIndex : MethodName := ⟨RJ3, "wordIndex", "(I)I"⟩
def dkwJ3_wordIndex_0 : List UInt8 := [26, 16, 6, 122, 172]
abbrev dktJ3_wordIndex_0 : List UInt8 := dkwJ3_wordIndex_0 ++ []
theorem dksJ3_wordIndex_0 : cJ3_wordIndex.data.toList.drop 0 = dktJ3_wordIndex_0 := by decide +kernel
theorem dJ3_wordIndex_0 : decode cJ3_wordIndex 0 = .ok (.iload_n 0, 1) := dk_26 (dk_at dksJ3_wordIndex_0 0 rfl rfl)
theorem dJ3_wordIndex_1 : decode cJ3_wordIndex 1 = .ok (.bipush 6, 2) := dk_16 6 (dk_at dksJ3_wordIndex_0 1 rfl rfl)
theorem dJ3_wordIndex_3 : decode cJ3_wordIndex 3 = .ok (.ishr, 1) := dk_122 (dk_at dksJ3_wordIndex_0 3 rfl rfl)
theorem dJ3_wordIndex_4 : decode cJ3_wordIndex 4 = .ok (.ireturn, 1) := dk_172 (dk_at dksJ3_wordIndex_0 4 rfl rfl)
abbrev cJ3_clear : ByteArray := prog_55_method_25_code
def yJ3_clear : MethodName := ⟨RJ3, "clear", "()V"⟩
def dkwJ3_clear_1 : List UInt8 := [167, 255, 232, 177]
abbrev dktJ3_clear_1 : List UInt8 := dkwJ3_clear_1 ++ []
def dkwJ3_clear_0 : List UInt8 := [42, 180, 0, 7, 158, 0, 23, 42, 180, 0, 11, 42, 89, 180, 0, 7, 4, 100, 90, 181, 0, 7, 9, 80]
abbrev dktJ3_clear_0 : List UInt8 := dkwJ3_clear_0 ++ dktJ3_clear_1
theorem dksJ3_clear_0 : cJ3_clear.data.toList.drop 0 = dktJ3_clear_0 := by decide +kernel
theorem dksJ3_clear_1 : cJ3_clear.data.toList.drop 24 = dktJ3_clear_1 := dk_seg dksJ3_clear_0 24 rfl rfl
theorem dJ3_clear_0 : decode cJ3_clear 0 = .ok (.aload_n 0, 1) := dk_42 (dk_at dksJ3_clear_0 0 rfl rfl)
theorem dJ3_clear_1 : decode cJ3_clear 1 = .ok (.getfield 7, 3) := dk_180 0 7 (dk_at dksJ3_clear_0 1 rfl rfl)
theorem dJ3_clear_4 : decode cJ3_clear 4 = .ok (.ifCond .le 23, 3) := dk_158 0 23 (dk_at dksJ3_clear_0 4 rfl rfl)
theorem dJ3_clear_7 : decode cJ3_clear 7 = .ok (.aload_n 0, 1) := dk_42 (dk_at dksJ3_clear_0 7 rfl rfl)
theorem dJ3_clear_8 : decode cJ3_clear 8 = .ok (.getfield 11, 3) := dk_180 0 11 (dk_at dksJ3_clear_0 8 rfl rfl)
theorem dJ3_clear_11 : decode cJ3_clear 11 = .ok (.aload_n 0, 1) := dk_42 (dk_at dksJ3_clear_0 11 rfl rfl)
theorem dJ3_clear_12 : decode cJ3_clear 12 = .ok (.dup, 1) := dk_89 (dk_at dksJ3_clear_0 12 rfl rfl)
theorem dJ3_clear_13 : decode cJ3_clear 13 = .ok (.getfield 7, 3) := dk_180 0 7 (dk_at dksJ3_clear_0 13 rfl rfl)
theorem dJ3_clear_16 : decode cJ3_clear 16 = .ok (.iconst 1, 1) := dk_4 (dk_at dksJ3_clear_0 16 rfl rfl)
theorem dJ3_clear_17 : decode cJ3_clear 17 = .ok (.isub, 1) := dk_100 (dk_at dksJ3_clear_0 17 rfl rfl)
theorem dJ3_clear_18 : decode cJ3_clear 18 = .ok (.dup_x1, 1) := dk_90 (dk_at dksJ3_clear_0 18 rfl rfl)
theorem dJ3_clear_19 : decode cJ3_clear 19 = .ok (.putfield 7, 3) := dk_181 0 7 (dk_at dksJ3_clear_0 19 rfl rfl)
theorem dJ3_clear_22 : decode cJ3_clear 22 = .ok (.lconst 0, 1) := dk_9 (dk_at dksJ3_clear_0 22 rfl rfl)
theorem dJ3_clear_23 : decode cJ3_clear 23 = .ok (.lastore, 1) := dk_80 (dk_at dksJ3_clear_0 23 rfl rfl)
theorem dJ3_clear_24 : decode cJ3_clear 24 = .ok (.goto (-24), 3) := dk_167 255 232 (dk_at dksJ3_clear_1 0 rfl rfl)
theorem dJ3_clear_27 : decode cJ3_clear 27 = .ok (.return_, 1) := dk_177 (dk_at dksJ3_clear_1 3 rfl rfl)
abbrev cJ3_cardinality : ByteArray := prog_55_method_35_code
def yJ3_cardinality : MethodName := ⟨RJ3, "cardinality", "()I"⟩
def dkwJ3_cardinality_1 : List UInt8 := [132, 2, 1, 167, 255, 233, 27, 172]
abbrev dktJ3_cardinality_1 : List UInt8 := dkwJ3_cardinality_1 ++ []
def dkwJ3_cardinality_0 : List UInt8 := [3, 60, 3, 61, 28, 42, 180, 0, 7, 162, 0, 21, 27, 42, 180, 0, 11, 28, 47, 184, 0, 196, 96, 60]
abbrev dktJ3_cardinality_0 : List UInt8 := dkwJ3_cardinality_0 ++ dktJ3_cardinality_1
theorem dksJ3_cardinality_0 : cJ3_cardinality.data.toList.drop 0 = dktJ3_cardinality_0 := by decide +kernel
theorem dksJ3_cardinality_1 : cJ3_cardinality.data.toList.drop 24 = dktJ3_cardinality_1 := dk_seg dksJ3_cardinality_0 24 rfl rfl
theorem dJ3_cardinality_0 : decode cJ3_cardinality 0 = .ok (.iconst 0, 1) := dk_3 (dk_at dksJ3_cardinality_0 0 rfl rfl)
theorem dJ3_cardinality_1 : decode cJ3_cardinality 1 = .ok (.istore_n 1, 1) := dk_60 (dk_at dksJ3_cardinality_0 1 rfl rfl)
theorem dJ3_cardinality_2 : decode cJ3_cardinality 2 = .ok (.iconst 0, 1) := dk_3 (dk_at dksJ3_cardinality_0 2 rfl rfl)
theorem dJ3_cardinality_3 : decode cJ3_cardinality 3 = .ok (.istore_n 2, 1) := dk_61 (dk_at dksJ3_cardinality_0 3 rfl rfl)
theorem dJ3_cardinality_4 : decode cJ3_cardinality 4 = .ok (.iload_n 2, 1) := dk_28 (dk_at dksJ3_cardinality_0 4 rfl rfl)
theorem dJ3_cardinality_5 : decode cJ3_cardinality 5 = .ok (.aload_n 0, 1) := dk_42 (dk_at dksJ3_cardinality_0 5 rfl rfl)
theorem dJ3_cardinality_6 : decode cJ3_cardinality 6 = .ok (.getfield 7, 3) := dk_180 0 7 (dk_at dksJ3_cardinality_0 6 rfl rfl)
theorem dJ3_cardinality_9 : decode cJ3_cardinality 9 = .ok (.if_icmp .ge 21, 3) := dk_162 0 21 (dk_at dksJ3_cardinality_0 9 rfl rfl)
theorem dJ3_cardinality_12 : decode cJ3_cardinality 12 = .ok (.iload_n 1, 1) := dk_27 (dk_at dksJ3_cardinality_0 12 rfl rfl)
theorem dJ3_cardinality_13 : decode cJ3_cardinality 13 = .ok (.aload_n 0, 1) := dk_42 (dk_at dksJ3_cardinality_0 13 rfl rfl)
theorem dJ3_cardinality_14 : decode cJ3_cardinality 14 = .ok (.getfield 11, 3) := dk_180 0 11 (dk_at dksJ3_cardinality_0 14 rfl rfl)
theorem dJ3_cardinality_17 : decode cJ3_cardinality 17 = .ok (.iload_n 2, 1) := dk_28 (dk_at dksJ3_cardinality_0 17 rfl rfl)
theorem dJ3_cardinality_18 : decode cJ3_cardinality 18 = .ok (.laload, 1) := dk_47 (dk_at dksJ3_cardinality_0 18 rfl rfl)
theorem dJ3_cardinality_19 : decode cJ3_cardinality 19 = .ok (.invokestatic 196, 3) := dk_184 0 196 (dk_at dksJ3_cardinality_0 19 rfl rfl)
theorem dJ3_cardinality_22 : decode cJ3_cardinality 22 = .ok (.iadd, 1) := dk_96 (dk_at dksJ3_cardinality_0 22 rfl rfl)
theorem dJ3_cardinality_23 : decode cJ3_cardinality 23 = .ok (.istore_n 1, 1) := dk_60 (dk_at dksJ3_cardinality_0 23 rfl rfl)
theorem dJ3_cardinality_24 : decode cJ3_cardinality 24 = .ok (.iinc 2 1, 3) := dk_132 2 1 (dk_at dksJ3_cardinality_1 0 rfl rfl)
theorem dJ3_cardinality_27 : decode cJ3_cardinality 27 = .ok (.goto (-23), 3) := dk_167 255 233 (dk_at dksJ3_cardinality_1 3 rfl rfl)
theorem dJ3_cardinality_30 : decode cJ3_cardinality 30 = .ok (.iload_n 1, 1) := dk_27 (dk_at dksJ3_cardinality_1 6 rfl rfl)
theorem dJ3_cardinality_31 : decode cJ3_cardinality 31 = .ok (.ireturn, 1) := dk_172 (dk_at dksJ3_cardinality_1 7 rfl rfl)
abbrev cJ3_set : ByteArray := prog_55_method_19_code
def yJ3_set : MethodName := ⟨RJ3, "set", "(I)V"⟩
def dkwJ3_set_2 : List UInt8 := [10, 27, 121, 129, 80, 42, 182, 0, 56, 177]
abbrev dktJ3_set_2 : List UInt8 := dkwJ3_set_2 ++ []
def dkwJ3_set_1 : List UInt8 := [182, 0, 45, 183, 0, 146, 191, 27, 184, 0, 52, 61, 42, 28, 182, 0, 155, 42, 180, 0, 11, 28, 92, 47]
abbrev dktJ3_set_1 : List UInt8 := dkwJ3_set_1 ++ dktJ3_set_2
def dkwJ3_set_0 : List UInt8 := [27, 156, 0, 30, 187, 0, 142, 89, 187, 0, 33, 89, 183, 0, 35, 18, 153, 182, 0, 38, 27, 182, 0, 42]
abbrev dktJ3_set_0 : List UInt8 := dkwJ3_set_0 ++ dktJ3_set_1
theorem dksJ3_set_0 : cJ3_set.data.toList.drop 0 = dktJ3_set_0 := by decide +kernel
theorem dksJ3_set_1 : cJ3_set.data.toList.drop 24 = dktJ3_set_1 := dk_seg dksJ3_set_0 24 rfl rfl
theorem dksJ3_set_2 : cJ3_set.data.toList.drop 48 = dktJ3_set_2 := dk_seg dksJ3_set_1 24 rfl rfl
theorem dJ3_set_0 : decode cJ3_set 0 = .ok (.iload_n 1, 1) := dk_27 (dk_at dksJ3_set_0 0 rfl rfl)
theorem dJ3_set_1 : decode cJ3_set 1 = .ok (.ifCond .ge 30, 3) := dk_156 0 30 (dk_at dksJ3_set_0 1 rfl rfl)
theorem dJ3_set_4 : decode cJ3_set 4 = .ok (.new 142, 3) := dk_187 0 142 (dk_at dksJ3_set_0 4 rfl rfl)
theorem dJ3_set_7 : decode cJ3_set 7 = .ok (.dup, 1) := dk_89 (dk_at dksJ3_set_0 7 rfl rfl)
theorem dJ3_set_8 : decode cJ3_set 8 = .ok (.new 33, 3) := dk_187 0 33 (dk_at dksJ3_set_0 8 rfl rfl)
theorem dJ3_set_11 : decode cJ3_set 11 = .ok (.dup, 1) := dk_89 (dk_at dksJ3_set_0 11 rfl rfl)
theorem dJ3_set_12 : decode cJ3_set 12 = .ok (.invokespecial 35, 3) := dk_183 0 35 (dk_at dksJ3_set_0 12 rfl rfl)
theorem dJ3_set_15 : decode cJ3_set 15 = .ok (.ldc 153, 2) := dk_18 153 (dk_at dksJ3_set_0 15 rfl rfl)
theorem dJ3_set_17 : decode cJ3_set 17 = .ok (.invokevirtual 38, 3) := dk_182 0 38 (dk_at dksJ3_set_0 17 rfl rfl)
theorem dJ3_set_20 : decode cJ3_set 20 = .ok (.iload_n 1, 1) := dk_27 (dk_at dksJ3_set_0 20 rfl rfl)
theorem dJ3_set_21 : decode cJ3_set 21 = .ok (.invokevirtual 42, 3) := dk_182 0 42 (dk_at dksJ3_set_0 21 rfl rfl)
theorem dJ3_set_24 : decode cJ3_set 24 = .ok (.invokevirtual 45, 3) := dk_182 0 45 (dk_at dksJ3_set_1 0 rfl rfl)
theorem dJ3_set_27 : decode cJ3_set 27 = .ok (.invokespecial 146, 3) := dk_183 0 146 (dk_at dksJ3_set_1 3 rfl rfl)
theorem dJ3_set_30 : decode cJ3_set 30 = .ok (.athrow, 1) := dk_191 (dk_at dksJ3_set_1 6 rfl rfl)
theorem dJ3_set_31 : decode cJ3_set 31 = .ok (.iload_n 1, 1) := dk_27 (dk_at dksJ3_set_1 7 rfl rfl)
theorem dJ3_set_32 : decode cJ3_set 32 = .ok (.invokestatic 52, 3) := dk_184 0 52 (dk_at dksJ3_set_1 8 rfl rfl)
theorem dJ3_set_35 : decode cJ3_set 35 = .ok (.istore_n 2, 1) := dk_61 (dk_at dksJ3_set_1 11 rfl rfl)
theorem dJ3_set_36 : decode cJ3_set 36 = .ok (.aload_n 0, 1) := dk_42 (dk_at dksJ3_set_1 12 rfl rfl)
theorem dJ3_set_37 : decode cJ3_set 37 = .ok (.iload_n 2, 1) := dk_28 (dk_at dksJ3_set_1 13 rfl rfl)
theorem dJ3_set_38 : decode cJ3_set 38 = .ok (.invokevirtual 155, 3) := dk_182 0 155 (dk_at dksJ3_set_1 14 rfl rfl)
theorem dJ3_set_41 : decode cJ3_set 41 = .ok (.aload_n 0, 1) := dk_42 (dk_at dksJ3_set_1 17 rfl rfl)
theorem dJ3_set_42 : decode cJ3_set 42 = .ok (.getfield 11, 3) := dk_180 0 11 (dk_at dksJ3_set_1 18 rfl rfl)
theorem dJ3_set_45 : decode cJ3_set 45 = .ok (.iload_n 2, 1) := dk_28 (dk_at dksJ3_set_1 21 rfl rfl)
theorem dJ3_set_46 : decode cJ3_set 46 = .ok (.dup2, 1) := dk_92 (dk_at dksJ3_set_1 22 rfl rfl)
theorem dJ3_set_47 : decode cJ3_set 47 = .ok (.laload, 1) := dk_47 (dk_at dksJ3_set_1 23 rfl rfl)
theorem dJ3_set_48 : decode cJ3_set 48 = .ok (.lconst 1, 1) := dk_10 (dk_at dksJ3_set_2 0 rfl rfl)
theorem dJ3_set_49 : decode cJ3_set 49 = .ok (.iload_n 1, 1) := dk_27 (dk_at dksJ3_set_2 1 rfl rfl)
theorem dJ3_set_50 : decode cJ3_set 50 = .ok (.lshl, 1) := dk_121 (dk_at dksJ3_set_2 2 rfl rfl)
theorem dJ3_set_51 : decode cJ3_set 51 = .ok (.lor, 1) := dk_129 (dk_at dksJ3_set_2 3 rfl rfl)
theorem dJ3_set_52 : decode cJ3_set 52 = .ok (.lastore, 1) := dk_80 (dk_at dksJ3_set_2 4 rfl rfl)
theorem dJ3_set_53 : decode cJ3_set 53 = .ok (.aload_n 0, 1) := dk_42 (dk_at dksJ3_set_2 5 rfl rfl)
theorem dJ3_set_54 : decode cJ3_set 54 = .ok (.invokevirtual 56, 3) := dk_182 0 56 (dk_at dksJ3_set_2 6 rfl rfl)
theorem dJ3_set_57 : decode cJ3_set 57 = .ok (.return_, 1) := dk_177 (dk_at dksJ3_set_2 9 rfl rfl)
abbrev cJ3_expandTo : ByteArray := prog_55_method_15_code
def yJ3_expandTo : MethodName := ⟨RJ3, "expandTo", "(I)V"⟩
def dkwJ3_expandTo_0 : List UInt8 := [27, 4, 96, 61, 42, 180, 0, 7, 28, 162, 0, 13, 42, 28, 182, 0, 139, 42, 28, 181, 0, 7, 177]
abbrev dktJ3_expandTo_0 : List UInt8 := dkwJ3_expandTo_0 ++ []
theorem dksJ3_expandTo_0 : cJ3_expandTo.data.toList.drop 0 = dktJ3_expandTo_0 := by decide +kernel
theorem dJ3_expandTo_0 : decode cJ3_expandTo 0 = .ok (.iload_n 1, 1) := dk_27 (dk_at dksJ3_expandTo_0 0 rfl rfl)
theorem dJ3_expandTo_1 : decode cJ3_expandTo 1 = .ok (.iconst 1, 1) := dk_4 (dk_at dksJ3_expandTo_0 1 rfl rfl)
theorem dJ3_expandTo_2 : decode cJ3_expandTo 2 = .ok (.iadd, 1) := dk_96 (dk_at dksJ3_expandTo_0 2 rfl rfl)
theorem dJ3_expandTo_3 : decode cJ3_expandTo 3 = .ok (.istore_n 2, 1) := dk_61 (dk_at dksJ3_expandTo_0 3 rfl rfl)
theorem dJ3_expandTo_4 : decode cJ3_expandTo 4 = .ok (.aload_n 0, 1) := dk_42 (dk_at dksJ3_expandTo_0 4 rfl rfl)
theorem dJ3_expandTo_5 : decode cJ3_expandTo 5 = .ok (.getfield 7, 3) := dk_180 0 7 (dk_at dksJ3_expandTo_0 5 rfl rfl)
theorem dJ3_expandTo_8 : decode cJ3_expandTo 8 = .ok (.iload_n 2, 1) := dk_28 (dk_at dksJ3_expandTo_0 8 rfl rfl)
theorem dJ3_expandTo_9 : decode cJ3_expandTo 9 = .ok (.if_icmp .ge 13, 3) := dk_162 0 13 (dk_at dksJ3_expandTo_0 9 rfl rfl)
theorem dJ3_expandTo_12 : decode cJ3_expandTo 12 = .ok (.aload_n 0, 1) := dk_42 (dk_at dksJ3_expandTo_0 12 rfl rfl)
theorem dJ3_expandTo_13 : decode cJ3_expandTo 13 = .ok (.iload_n 2, 1) := dk_28 (dk_at dksJ3_expandTo_0 13 rfl rfl)
theorem dJ3_expandTo_14 : decode cJ3_expandTo 14 = .ok (.invokevirtual 139, 3) := dk_182 0 139 (dk_at dksJ3_expandTo_0 14 rfl rfl)
theorem dJ3_expandTo_17 : decode cJ3_expandTo 17 = .ok (.aload_n 0, 1) := dk_42 (dk_at dksJ3_expandTo_0 17 rfl rfl)
theorem dJ3_expandTo_18 : decode cJ3_expandTo 18 = .ok (.iload_n 2, 1) := dk_28 (dk_at dksJ3_expandTo_0 18 rfl rfl)
theorem dJ3_expandTo_19 : decode cJ3_expandTo 19 = .ok (.putfield 7, 3) := dk_181 0 7 (dk_at dksJ3_expandTo_0 19 rfl rfl)
theorem dJ3_expandTo_22 : decode cJ3_expandTo 22 = .ok (.return_, 1) := dk_177 (dk_at dksJ3_expandTo_0 22 rfl rfl)
abbrev cJ3_ensureCapacity : ByteArray := prog_55_method_14_code
def yJ3_ensureCapacity : MethodName := ⟨RJ3, "ensureCapacity", "(I)V"⟩
def dkwJ3_ensureCapacity_1 : List UInt8 := [180, 0, 11, 28, 184, 0, 59, 181, 0, 11, 42, 3, 181, 0, 24, 177]
abbrev dktJ3_ensureCapacity_1 : List UInt8 := dkwJ3_ensureCapacity_1 ++ []
def dkwJ3_ensureCapacity_0 : List UInt8 := [42, 180, 0, 11, 190, 27, 162, 0, 32, 5, 42, 180, 0, 11, 190, 104, 27, 184, 0, 133, 61, 42, 42]
abbrev dktJ3_ensureCapacity_0 : List UInt8 := dkwJ3_ensureCapacity_0 ++ dktJ3_ensureCapacity_1
theorem dksJ3_ensureCapacity_0 : cJ3_ensureCapacity.data.toList.drop 0 = dktJ3_ensureCapacity_0 := by decide +kernel
theorem dksJ3_ensureCapacity_1 : cJ3_ensureCapacity.data.toList.drop 23 = dktJ3_ensureCapacity_1 := dk_seg dksJ3_ensureCapacity_0 23 rfl rfl
theorem dJ3_ensureCapacity_0 : decode cJ3_ensureCapacity 0 = .ok (.aload_n 0, 1) := dk_42 (dk_at dksJ3_ensureCapacity_0 0 rfl rfl)
theorem dJ3_ensureCapacity_1 : decode cJ3_ensureCapacity 1 = .ok (.getfield 11, 3) := dk_180 0 11 (dk_at dksJ3_ensureCapacity_0 1 rfl rfl)
theorem dJ3_ensureCapacity_4 : decode cJ3_ensureCapacity 4 = .ok (.arraylength, 1) := dk_190 (dk_at dksJ3_ensureCapacity_0 4 rfl rfl)
theorem dJ3_ensureCapacity_5 : decode cJ3_ensureCapacity 5 = .ok (.iload_n 1, 1) := dk_27 (dk_at dksJ3_ensureCapacity_0 5 rfl rfl)
theorem dJ3_ensureCapacity_6 : decode cJ3_ensureCapacity 6 = .ok (.if_icmp .ge 32, 3) := dk_162 0 32 (dk_at dksJ3_ensureCapacity_0 6 rfl rfl)
theorem dJ3_ensureCapacity_9 : decode cJ3_ensureCapacity 9 = .ok (.iconst 2, 1) := dk_5 (dk_at dksJ3_ensureCapacity_0 9 rfl rfl)
theorem dJ3_ensureCapacity_10 : decode cJ3_ensureCapacity 10 = .ok (.aload_n 0, 1) := dk_42 (dk_at dksJ3_ensureCapacity_0 10 rfl rfl)
theorem dJ3_ensureCapacity_11 : decode cJ3_ensureCapacity 11 = .ok (.getfield 11, 3) := dk_180 0 11 (dk_at dksJ3_ensureCapacity_0 11 rfl rfl)
theorem dJ3_ensureCapacity_14 : decode cJ3_ensureCapacity 14 = .ok (.arraylength, 1) := dk_190 (dk_at dksJ3_ensureCapacity_0 14 rfl rfl)
theorem dJ3_ensureCapacity_15 : decode cJ3_ensureCapacity 15 = .ok (.imul, 1) := dk_104 (dk_at dksJ3_ensureCapacity_0 15 rfl rfl)
theorem dJ3_ensureCapacity_16 : decode cJ3_ensureCapacity 16 = .ok (.iload_n 1, 1) := dk_27 (dk_at dksJ3_ensureCapacity_0 16 rfl rfl)
theorem dJ3_ensureCapacity_17 : decode cJ3_ensureCapacity 17 = .ok (.invokestatic 133, 3) := dk_184 0 133 (dk_at dksJ3_ensureCapacity_0 17 rfl rfl)
theorem dJ3_ensureCapacity_20 : decode cJ3_ensureCapacity 20 = .ok (.istore_n 2, 1) := dk_61 (dk_at dksJ3_ensureCapacity_0 20 rfl rfl)
theorem dJ3_ensureCapacity_21 : decode cJ3_ensureCapacity 21 = .ok (.aload_n 0, 1) := dk_42 (dk_at dksJ3_ensureCapacity_0 21 rfl rfl)
theorem dJ3_ensureCapacity_22 : decode cJ3_ensureCapacity 22 = .ok (.aload_n 0, 1) := dk_42 (dk_at dksJ3_ensureCapacity_0 22 rfl rfl)
theorem dJ3_ensureCapacity_23 : decode cJ3_ensureCapacity 23 = .ok (.getfield 11, 3) := dk_180 0 11 (dk_at dksJ3_ensureCapacity_1 0 rfl rfl)
theorem dJ3_ensureCapacity_26 : decode cJ3_ensureCapacity 26 = .ok (.iload_n 2, 1) := dk_28 (dk_at dksJ3_ensureCapacity_1 3 rfl rfl)
theorem dJ3_ensureCapacity_27 : decode cJ3_ensureCapacity 27 = .ok (.invokestatic 59, 3) := dk_184 0 59 (dk_at dksJ3_ensureCapacity_1 4 rfl rfl)
theorem dJ3_ensureCapacity_30 : decode cJ3_ensureCapacity 30 = .ok (.putfield 11, 3) := dk_181 0 11 (dk_at dksJ3_ensureCapacity_1 7 rfl rfl)
theorem dJ3_ensureCapacity_33 : decode cJ3_ensureCapacity 33 = .ok (.aload_n 0, 1) := dk_42 (dk_at dksJ3_ensureCapacity_1 10 rfl rfl)
theorem dJ3_ensureCapacity_34 : decode cJ3_ensureCapacity 34 = .ok (.iconst 0, 1) := dk_3 (dk_at dksJ3_ensureCapacity_1 11 rfl rfl)
theorem dJ3_ensureCapacity_35 : decode cJ3_ensureCapacity 35 = .ok (.putfield 24, 3) := dk_181 0 24 (dk_at dksJ3_ensureCapacity_1 12 rfl rfl)
theorem dJ3_ensureCapacity_38 : decode cJ3_ensureCapacity 38 = .ok (.return_, 1) := dk_177 (dk_at dksJ3_ensureCapacity_1 15 rfl rfl)
abbrev cJ3_checkInvariants : ByteArray := prog_55_method_2_code
def yJ3_checkInvariants : MethodName := ⟨RJ3, "checkInvariants", "()V"⟩
def dkwJ3_checkInvariants_4 : List UInt8 := [180, 0, 7, 47, 9, 148, 153, 0, 11, 187, 0, 15, 89, 183, 0, 17, 191, 177]
abbrev dktJ3_checkInvariants_4 : List UInt8 := dkwJ3_checkInvariants_4 ++ []
def dkwJ3_checkInvariants_3 : List UInt8 := [178, 0, 3, 154, 0, 37, 42, 180, 0, 7, 42, 180, 0, 11, 190, 159, 0, 25, 42, 180, 0, 11, 42]
abbrev dktJ3_checkInvariants_3 : List UInt8 := dkwJ3_checkInvariants_3 ++ dktJ3_checkInvariants_4
def dkwJ3_checkInvariants_2 : List UInt8 := [155, 0, 15, 42, 180, 0, 7, 42, 180, 0, 11, 190, 164, 0, 11, 187, 0, 15, 89, 183, 0, 17, 191]
abbrev dktJ3_checkInvariants_2 : List UInt8 := dkwJ3_checkInvariants_2 ++ dktJ3_checkInvariants_3
def dkwJ3_checkInvariants_1 : List UInt8 := [9, 148, 154, 0, 11, 187, 0, 15, 89, 183, 0, 17, 191, 178, 0, 3, 154, 0, 30, 42, 180, 0, 7]
abbrev dktJ3_checkInvariants_1 : List UInt8 := dkwJ3_checkInvariants_1 ++ dktJ3_checkInvariants_2
def dkwJ3_checkInvariants_0 : List UInt8 := [178, 0, 3, 154, 0, 34, 42, 180, 0, 7, 153, 0, 27, 42, 180, 0, 11, 42, 180, 0, 7, 4, 100, 47]
abbrev dktJ3_checkInvariants_0 : List UInt8 := dkwJ3_checkInvariants_0 ++ dktJ3_checkInvariants_1
theorem dksJ3_checkInvariants_0 : cJ3_checkInvariants.data.toList.drop 0 = dktJ3_checkInvariants_0 := by decide +kernel
theorem dksJ3_checkInvariants_1 : cJ3_checkInvariants.data.toList.drop 24 = dktJ3_checkInvariants_1 := dk_seg dksJ3_checkInvariants_0 24 rfl rfl
theorem dksJ3_checkInvariants_2 : cJ3_checkInvariants.data.toList.drop 47 = dktJ3_checkInvariants_2 := dk_seg dksJ3_checkInvariants_1 23 rfl rfl
theorem dksJ3_checkInvariants_3 : cJ3_checkInvariants.data.toList.drop 70 = dktJ3_checkInvariants_3 := dk_seg dksJ3_checkInvariants_2 23 rfl rfl
theorem dksJ3_checkInvariants_4 : cJ3_checkInvariants.data.toList.drop 93 = dktJ3_checkInvariants_4 := dk_seg dksJ3_checkInvariants_3 23 rfl rfl
theorem dJ3_checkInvariants_0 : decode cJ3_checkInvariants 0 = .ok (.getstatic 3, 3) := dk_178 0 3 (dk_at dksJ3_checkInvariants_0 0 rfl rfl)
theorem dJ3_checkInvariants_3 : decode cJ3_checkInvariants 3 = .ok (.ifCond .ne 34, 3) := dk_154 0 34 (dk_at dksJ3_checkInvariants_0 3 rfl rfl)
theorem dJ3_checkInvariants_6 : decode cJ3_checkInvariants 6 = .ok (.aload_n 0, 1) := dk_42 (dk_at dksJ3_checkInvariants_0 6 rfl rfl)
theorem dJ3_checkInvariants_7 : decode cJ3_checkInvariants 7 = .ok (.getfield 7, 3) := dk_180 0 7 (dk_at dksJ3_checkInvariants_0 7 rfl rfl)
theorem dJ3_checkInvariants_10 : decode cJ3_checkInvariants 10 = .ok (.ifCond .eq 27, 3) := dk_153 0 27 (dk_at dksJ3_checkInvariants_0 10 rfl rfl)
theorem dJ3_checkInvariants_13 : decode cJ3_checkInvariants 13 = .ok (.aload_n 0, 1) := dk_42 (dk_at dksJ3_checkInvariants_0 13 rfl rfl)
theorem dJ3_checkInvariants_14 : decode cJ3_checkInvariants 14 = .ok (.getfield 11, 3) := dk_180 0 11 (dk_at dksJ3_checkInvariants_0 14 rfl rfl)
theorem dJ3_checkInvariants_17 : decode cJ3_checkInvariants 17 = .ok (.aload_n 0, 1) := dk_42 (dk_at dksJ3_checkInvariants_0 17 rfl rfl)
theorem dJ3_checkInvariants_18 : decode cJ3_checkInvariants 18 = .ok (.getfield 7, 3) := dk_180 0 7 (dk_at dksJ3_checkInvariants_0 18 rfl rfl)
theorem dJ3_checkInvariants_21 : decode cJ3_checkInvariants 21 = .ok (.iconst 1, 1) := dk_4 (dk_at dksJ3_checkInvariants_0 21 rfl rfl)
theorem dJ3_checkInvariants_22 : decode cJ3_checkInvariants 22 = .ok (.isub, 1) := dk_100 (dk_at dksJ3_checkInvariants_0 22 rfl rfl)
theorem dJ3_checkInvariants_23 : decode cJ3_checkInvariants 23 = .ok (.laload, 1) := dk_47 (dk_at dksJ3_checkInvariants_0 23 rfl rfl)
theorem dJ3_checkInvariants_24 : decode cJ3_checkInvariants 24 = .ok (.lconst 0, 1) := dk_9 (dk_at dksJ3_checkInvariants_1 0 rfl rfl)
theorem dJ3_checkInvariants_25 : decode cJ3_checkInvariants 25 = .ok (.lcmp, 1) := dk_148 (dk_at dksJ3_checkInvariants_1 1 rfl rfl)
theorem dJ3_checkInvariants_26 : decode cJ3_checkInvariants 26 = .ok (.ifCond .ne 11, 3) := dk_154 0 11 (dk_at dksJ3_checkInvariants_1 2 rfl rfl)
theorem dJ3_checkInvariants_29 : decode cJ3_checkInvariants 29 = .ok (.new 15, 3) := dk_187 0 15 (dk_at dksJ3_checkInvariants_1 5 rfl rfl)
theorem dJ3_checkInvariants_32 : decode cJ3_checkInvariants 32 = .ok (.dup, 1) := dk_89 (dk_at dksJ3_checkInvariants_1 8 rfl rfl)
theorem dJ3_checkInvariants_33 : decode cJ3_checkInvariants 33 = .ok (.invokespecial 17, 3) := dk_183 0 17 (dk_at dksJ3_checkInvariants_1 9 rfl rfl)
theorem dJ3_checkInvariants_36 : decode cJ3_checkInvariants 36 = .ok (.athrow, 1) := dk_191 (dk_at dksJ3_checkInvariants_1 12 rfl rfl)
theorem dJ3_checkInvariants_37 : decode cJ3_checkInvariants 37 = .ok (.getstatic 3, 3) := dk_178 0 3 (dk_at dksJ3_checkInvariants_1 13 rfl rfl)
theorem dJ3_checkInvariants_40 : decode cJ3_checkInvariants 40 = .ok (.ifCond .ne 30, 3) := dk_154 0 30 (dk_at dksJ3_checkInvariants_1 16 rfl rfl)
theorem dJ3_checkInvariants_43 : decode cJ3_checkInvariants 43 = .ok (.aload_n 0, 1) := dk_42 (dk_at dksJ3_checkInvariants_1 19 rfl rfl)
theorem dJ3_checkInvariants_44 : decode cJ3_checkInvariants 44 = .ok (.getfield 7, 3) := dk_180 0 7 (dk_at dksJ3_checkInvariants_1 20 rfl rfl)
theorem dJ3_checkInvariants_47 : decode cJ3_checkInvariants 47 = .ok (.ifCond .lt 15, 3) := dk_155 0 15 (dk_at dksJ3_checkInvariants_2 0 rfl rfl)
theorem dJ3_checkInvariants_50 : decode cJ3_checkInvariants 50 = .ok (.aload_n 0, 1) := dk_42 (dk_at dksJ3_checkInvariants_2 3 rfl rfl)
theorem dJ3_checkInvariants_51 : decode cJ3_checkInvariants 51 = .ok (.getfield 7, 3) := dk_180 0 7 (dk_at dksJ3_checkInvariants_2 4 rfl rfl)
theorem dJ3_checkInvariants_54 : decode cJ3_checkInvariants 54 = .ok (.aload_n 0, 1) := dk_42 (dk_at dksJ3_checkInvariants_2 7 rfl rfl)
theorem dJ3_checkInvariants_55 : decode cJ3_checkInvariants 55 = .ok (.getfield 11, 3) := dk_180 0 11 (dk_at dksJ3_checkInvariants_2 8 rfl rfl)
theorem dJ3_checkInvariants_58 : decode cJ3_checkInvariants 58 = .ok (.arraylength, 1) := dk_190 (dk_at dksJ3_checkInvariants_2 11 rfl rfl)
theorem dJ3_checkInvariants_59 : decode cJ3_checkInvariants 59 = .ok (.if_icmp .le 11, 3) := dk_164 0 11 (dk_at dksJ3_checkInvariants_2 12 rfl rfl)
theorem dJ3_checkInvariants_62 : decode cJ3_checkInvariants 62 = .ok (.new 15, 3) := dk_187 0 15 (dk_at dksJ3_checkInvariants_2 15 rfl rfl)
theorem dJ3_checkInvariants_65 : decode cJ3_checkInvariants 65 = .ok (.dup, 1) := dk_89 (dk_at dksJ3_checkInvariants_2 18 rfl rfl)
theorem dJ3_checkInvariants_66 : decode cJ3_checkInvariants 66 = .ok (.invokespecial 17, 3) := dk_183 0 17 (dk_at dksJ3_checkInvariants_2 19 rfl rfl)
theorem dJ3_checkInvariants_69 : decode cJ3_checkInvariants 69 = .ok (.athrow, 1) := dk_191 (dk_at dksJ3_checkInvariants_2 22 rfl rfl)
theorem dJ3_checkInvariants_70 : decode cJ3_checkInvariants 70 = .ok (.getstatic 3, 3) := dk_178 0 3 (dk_at dksJ3_checkInvariants_3 0 rfl rfl)
theorem dJ3_checkInvariants_73 : decode cJ3_checkInvariants 73 = .ok (.ifCond .ne 37, 3) := dk_154 0 37 (dk_at dksJ3_checkInvariants_3 3 rfl rfl)
theorem dJ3_checkInvariants_76 : decode cJ3_checkInvariants 76 = .ok (.aload_n 0, 1) := dk_42 (dk_at dksJ3_checkInvariants_3 6 rfl rfl)
theorem dJ3_checkInvariants_77 : decode cJ3_checkInvariants 77 = .ok (.getfield 7, 3) := dk_180 0 7 (dk_at dksJ3_checkInvariants_3 7 rfl rfl)
theorem dJ3_checkInvariants_80 : decode cJ3_checkInvariants 80 = .ok (.aload_n 0, 1) := dk_42 (dk_at dksJ3_checkInvariants_3 10 rfl rfl)
theorem dJ3_checkInvariants_81 : decode cJ3_checkInvariants 81 = .ok (.getfield 11, 3) := dk_180 0 11 (dk_at dksJ3_checkInvariants_3 11 rfl rfl)
theorem dJ3_checkInvariants_84 : decode cJ3_checkInvariants 84 = .ok (.arraylength, 1) := dk_190 (dk_at dksJ3_checkInvariants_3 14 rfl rfl)
theorem dJ3_checkInvariants_85 : decode cJ3_checkInvariants 85 = .ok (.if_icmp .eq 25, 3) := dk_159 0 25 (dk_at dksJ3_checkInvariants_3 15 rfl rfl)
theorem dJ3_checkInvariants_88 : decode cJ3_checkInvariants 88 = .ok (.aload_n 0, 1) := dk_42 (dk_at dksJ3_checkInvariants_3 18 rfl rfl)
theorem dJ3_checkInvariants_89 : decode cJ3_checkInvariants 89 = .ok (.getfield 11, 3) := dk_180 0 11 (dk_at dksJ3_checkInvariants_3 19 rfl rfl)
theorem dJ3_checkInvariants_92 : decode cJ3_checkInvariants 92 = .ok (.aload_n 0, 1) := dk_42 (dk_at dksJ3_checkInvariants_3 22 rfl rfl)
theorem dJ3_checkInvariants_93 : decode cJ3_checkInvariants 93 = .ok (.getfield 7, 3) := dk_180 0 7 (dk_at dksJ3_checkInvariants_4 0 rfl rfl)
theorem dJ3_checkInvariants_96 : decode cJ3_checkInvariants 96 = .ok (.laload, 1) := dk_47 (dk_at dksJ3_checkInvariants_4 3 rfl rfl)
theorem dJ3_checkInvariants_97 : decode cJ3_checkInvariants 97 = .ok (.lconst 0, 1) := dk_9 (dk_at dksJ3_checkInvariants_4 4 rfl rfl)
theorem dJ3_checkInvariants_98 : decode cJ3_checkInvariants 98 = .ok (.lcmp, 1) := dk_148 (dk_at dksJ3_checkInvariants_4 5 rfl rfl)
theorem dJ3_checkInvariants_99 : decode cJ3_checkInvariants 99 = .ok (.ifCond .eq 11, 3) := dk_153 0 11 (dk_at dksJ3_checkInvariants_4 6 rfl rfl)
theorem dJ3_checkInvariants_102 : decode cJ3_checkInvariants 102 = .ok (.new 15, 3) := dk_187 0 15 (dk_at dksJ3_checkInvariants_4 9 rfl rfl)
theorem dJ3_checkInvariants_105 : decode cJ3_checkInvariants 105 = .ok (.dup, 1) := dk_89 (dk_at dksJ3_checkInvariants_4 12 rfl rfl)
theorem dJ3_checkInvariants_106 : decode cJ3_checkInvariants 106 = .ok (.invokespecial 17, 3) := dk_183 0 17 (dk_at dksJ3_checkInvariants_4 13 rfl rfl)
theorem dJ3_checkInvariants_109 : decode cJ3_checkInvariants 109 = .ok (.athrow, 1) := dk_191 (dk_at dksJ3_checkInvariants_4 16 rfl rfl)
theorem dJ3_checkInvariants_110 : decode cJ3_checkInvariants 110 = .ok (.return_, 1) := dk_177 (dk_at dksJ3_checkInvariants_4 17 rfl rfl)
abbrev cJ3_or : ByteArray := prog_55_method_37_code
def yJ3_or : MethodName := ⟨RJ3, "or", "(Ljava/util/BitSet;)V"⟩
def dkwJ3_or_4 : List UInt8 := [180, 0, 7, 28, 100, 184, 0, 199, 42, 182, 0, 56, 177]
abbrev dktJ3_or_4 : List UInt8 := dkwJ3_or_4 ++ []
def dkwJ3_or_3 : List UInt8 := [167, 255, 233, 28, 43, 180, 0, 7, 162, 0, 22, 43, 180, 0, 11, 28, 42, 180, 0, 11, 28, 42]
abbrev dktJ3_or_3 : List UInt8 := dkwJ3_or_3 ++ dktJ3_or_4
def dkwJ3_or_2 : List UInt8 := [29, 28, 162, 0, 24, 42, 180, 0, 11, 29, 92, 47, 43, 180, 0, 11, 29, 47, 129, 80, 132, 3, 1]
abbrev dktJ3_or_2 : List UInt8 := dkwJ3_or_2 ++ dktJ3_or_3
def dkwJ3_or_1 : List UInt8 := [180, 0, 7, 162, 0, 19, 42, 43, 180, 0, 7, 182, 0, 139, 42, 43, 180, 0, 7, 181, 0, 7, 3, 62]
abbrev dktJ3_or_1 : List UInt8 := dkwJ3_or_1 ++ dktJ3_or_2
def dkwJ3_or_0 : List UInt8 := [42, 43, 166, 0, 4, 177, 42, 180, 0, 7, 43, 180, 0, 7, 184, 0, 193, 61, 42, 180, 0, 7, 43]
abbrev dktJ3_or_0 : List UInt8 := dkwJ3_or_0 ++ dktJ3_or_1
theorem dksJ3_or_0 : cJ3_or.data.toList.drop 0 = dktJ3_or_0 := by decide +kernel
theorem dksJ3_or_1 : cJ3_or.data.toList.drop 23 = dktJ3_or_1 := dk_seg dksJ3_or_0 23 rfl rfl
theorem dksJ3_or_2 : cJ3_or.data.toList.drop 47 = dktJ3_or_2 := dk_seg dksJ3_or_1 24 rfl rfl
theorem dksJ3_or_3 : cJ3_or.data.toList.drop 70 = dktJ3_or_3 := dk_seg dksJ3_or_2 23 rfl rfl
theorem dksJ3_or_4 : cJ3_or.data.toList.drop 92 = dktJ3_or_4 := dk_seg dksJ3_or_3 22 rfl rfl
theorem dJ3_or_0 : decode cJ3_or 0 = .ok (.aload_n 0, 1) := dk_42 (dk_at dksJ3_or_0 0 rfl rfl)
theorem dJ3_or_1 : decode cJ3_or 1 = .ok (.aload_n 1, 1) := dk_43 (dk_at dksJ3_or_0 1 rfl rfl)
theorem dJ3_or_2 : decode cJ3_or 2 = .ok (.if_acmp .ne 4, 3) := dk_166 0 4 (dk_at dksJ3_or_0 2 rfl rfl)
theorem dJ3_or_5 : decode cJ3_or 5 = .ok (.return_, 1) := dk_177 (dk_at dksJ3_or_0 5 rfl rfl)
theorem dJ3_or_6 : decode cJ3_or 6 = .ok (.aload_n 0, 1) := dk_42 (dk_at dksJ3_or_0 6 rfl rfl)
theorem dJ3_or_7 : decode cJ3_or 7 = .ok (.getfield 7, 3) := dk_180 0 7 (dk_at dksJ3_or_0 7 rfl rfl)
theorem dJ3_or_10 : decode cJ3_or 10 = .ok (.aload_n 1, 1) := dk_43 (dk_at dksJ3_or_0 10 rfl rfl)
theorem dJ3_or_11 : decode cJ3_or 11 = .ok (.getfield 7, 3) := dk_180 0 7 (dk_at dksJ3_or_0 11 rfl rfl)
theorem dJ3_or_14 : decode cJ3_or 14 = .ok (.invokestatic 193, 3) := dk_184 0 193 (dk_at dksJ3_or_0 14 rfl rfl)
theorem dJ3_or_17 : decode cJ3_or 17 = .ok (.istore_n 2, 1) := dk_61 (dk_at dksJ3_or_0 17 rfl rfl)
theorem dJ3_or_18 : decode cJ3_or 18 = .ok (.aload_n 0, 1) := dk_42 (dk_at dksJ3_or_0 18 rfl rfl)
theorem dJ3_or_19 : decode cJ3_or 19 = .ok (.getfield 7, 3) := dk_180 0 7 (dk_at dksJ3_or_0 19 rfl rfl)
theorem dJ3_or_22 : decode cJ3_or 22 = .ok (.aload_n 1, 1) := dk_43 (dk_at dksJ3_or_0 22 rfl rfl)
theorem dJ3_or_23 : decode cJ3_or 23 = .ok (.getfield 7, 3) := dk_180 0 7 (dk_at dksJ3_or_1 0 rfl rfl)
theorem dJ3_or_26 : decode cJ3_or 26 = .ok (.if_icmp .ge 19, 3) := dk_162 0 19 (dk_at dksJ3_or_1 3 rfl rfl)
theorem dJ3_or_29 : decode cJ3_or 29 = .ok (.aload_n 0, 1) := dk_42 (dk_at dksJ3_or_1 6 rfl rfl)
theorem dJ3_or_30 : decode cJ3_or 30 = .ok (.aload_n 1, 1) := dk_43 (dk_at dksJ3_or_1 7 rfl rfl)
theorem dJ3_or_31 : decode cJ3_or 31 = .ok (.getfield 7, 3) := dk_180 0 7 (dk_at dksJ3_or_1 8 rfl rfl)
theorem dJ3_or_34 : decode cJ3_or 34 = .ok (.invokevirtual 139, 3) := dk_182 0 139 (dk_at dksJ3_or_1 11 rfl rfl)
theorem dJ3_or_37 : decode cJ3_or 37 = .ok (.aload_n 0, 1) := dk_42 (dk_at dksJ3_or_1 14 rfl rfl)
theorem dJ3_or_38 : decode cJ3_or 38 = .ok (.aload_n 1, 1) := dk_43 (dk_at dksJ3_or_1 15 rfl rfl)
theorem dJ3_or_39 : decode cJ3_or 39 = .ok (.getfield 7, 3) := dk_180 0 7 (dk_at dksJ3_or_1 16 rfl rfl)
theorem dJ3_or_42 : decode cJ3_or 42 = .ok (.putfield 7, 3) := dk_181 0 7 (dk_at dksJ3_or_1 19 rfl rfl)
theorem dJ3_or_45 : decode cJ3_or 45 = .ok (.iconst 0, 1) := dk_3 (dk_at dksJ3_or_1 22 rfl rfl)
theorem dJ3_or_46 : decode cJ3_or 46 = .ok (.istore_n 3, 1) := dk_62 (dk_at dksJ3_or_1 23 rfl rfl)
theorem dJ3_or_47 : decode cJ3_or 47 = .ok (.iload_n 3, 1) := dk_29 (dk_at dksJ3_or_2 0 rfl rfl)
theorem dJ3_or_48 : decode cJ3_or 48 = .ok (.iload_n 2, 1) := dk_28 (dk_at dksJ3_or_2 1 rfl rfl)
theorem dJ3_or_49 : decode cJ3_or 49 = .ok (.if_icmp .ge 24, 3) := dk_162 0 24 (dk_at dksJ3_or_2 2 rfl rfl)
theorem dJ3_or_52 : decode cJ3_or 52 = .ok (.aload_n 0, 1) := dk_42 (dk_at dksJ3_or_2 5 rfl rfl)
theorem dJ3_or_53 : decode cJ3_or 53 = .ok (.getfield 11, 3) := dk_180 0 11 (dk_at dksJ3_or_2 6 rfl rfl)
theorem dJ3_or_56 : decode cJ3_or 56 = .ok (.iload_n 3, 1) := dk_29 (dk_at dksJ3_or_2 9 rfl rfl)
theorem dJ3_or_57 : decode cJ3_or 57 = .ok (.dup2, 1) := dk_92 (dk_at dksJ3_or_2 10 rfl rfl)
theorem dJ3_or_58 : decode cJ3_or 58 = .ok (.laload, 1) := dk_47 (dk_at dksJ3_or_2 11 rfl rfl)
theorem dJ3_or_59 : decode cJ3_or 59 = .ok (.aload_n 1, 1) := dk_43 (dk_at dksJ3_or_2 12 rfl rfl)
theorem dJ3_or_60 : decode cJ3_or 60 = .ok (.getfield 11, 3) := dk_180 0 11 (dk_at dksJ3_or_2 13 rfl rfl)
theorem dJ3_or_63 : decode cJ3_or 63 = .ok (.iload_n 3, 1) := dk_29 (dk_at dksJ3_or_2 16 rfl rfl)
theorem dJ3_or_64 : decode cJ3_or 64 = .ok (.laload, 1) := dk_47 (dk_at dksJ3_or_2 17 rfl rfl)
theorem dJ3_or_65 : decode cJ3_or 65 = .ok (.lor, 1) := dk_129 (dk_at dksJ3_or_2 18 rfl rfl)
theorem dJ3_or_66 : decode cJ3_or 66 = .ok (.lastore, 1) := dk_80 (dk_at dksJ3_or_2 19 rfl rfl)
theorem dJ3_or_67 : decode cJ3_or 67 = .ok (.iinc 3 1, 3) := dk_132 3 1 (dk_at dksJ3_or_2 20 rfl rfl)
theorem dJ3_or_70 : decode cJ3_or 70 = .ok (.goto (-23), 3) := dk_167 255 233 (dk_at dksJ3_or_3 0 rfl rfl)
theorem dJ3_or_73 : decode cJ3_or 73 = .ok (.iload_n 2, 1) := dk_28 (dk_at dksJ3_or_3 3 rfl rfl)
theorem dJ3_or_74 : decode cJ3_or 74 = .ok (.aload_n 1, 1) := dk_43 (dk_at dksJ3_or_3 4 rfl rfl)
theorem dJ3_or_75 : decode cJ3_or 75 = .ok (.getfield 7, 3) := dk_180 0 7 (dk_at dksJ3_or_3 5 rfl rfl)
theorem dJ3_or_78 : decode cJ3_or 78 = .ok (.if_icmp .ge 22, 3) := dk_162 0 22 (dk_at dksJ3_or_3 8 rfl rfl)
theorem dJ3_or_81 : decode cJ3_or 81 = .ok (.aload_n 1, 1) := dk_43 (dk_at dksJ3_or_3 11 rfl rfl)
theorem dJ3_or_82 : decode cJ3_or 82 = .ok (.getfield 11, 3) := dk_180 0 11 (dk_at dksJ3_or_3 12 rfl rfl)
theorem dJ3_or_85 : decode cJ3_or 85 = .ok (.iload_n 2, 1) := dk_28 (dk_at dksJ3_or_3 15 rfl rfl)
theorem dJ3_or_86 : decode cJ3_or 86 = .ok (.aload_n 0, 1) := dk_42 (dk_at dksJ3_or_3 16 rfl rfl)
theorem dJ3_or_87 : decode cJ3_or 87 = .ok (.getfield 11, 3) := dk_180 0 11 (dk_at dksJ3_or_3 17 rfl rfl)
theorem dJ3_or_90 : decode cJ3_or 90 = .ok (.iload_n 2, 1) := dk_28 (dk_at dksJ3_or_3 20 rfl rfl)
theorem dJ3_or_91 : decode cJ3_or 91 = .ok (.aload_n 0, 1) := dk_42 (dk_at dksJ3_or_3 21 rfl rfl)
theorem dJ3_or_92 : decode cJ3_or 92 = .ok (.getfield 7, 3) := dk_180 0 7 (dk_at dksJ3_or_4 0 rfl rfl)
theorem dJ3_or_95 : decode cJ3_or 95 = .ok (.iload_n 2, 1) := dk_28 (dk_at dksJ3_or_4 3 rfl rfl)
theorem dJ3_or_96 : decode cJ3_or 96 = .ok (.isub, 1) := dk_100 (dk_at dksJ3_or_4 4 rfl rfl)
theorem dJ3_or_97 : decode cJ3_or 97 = .ok (.invokestatic 199, 3) := dk_184 0 199 (dk_at dksJ3_or_4 5 rfl rfl)
theorem dJ3_or_100 : decode cJ3_or 100 = .ok (.aload_n 0, 1) := dk_42 (dk_at dksJ3_or_4 8 rfl rfl)
theorem dJ3_or_101 : decode cJ3_or 101 = .ok (.invokevirtual 56, 3) := dk_182 0 56 (dk_at dksJ3_or_4 9 rfl rfl)
theorem dJ3_or_104 : decode cJ3_or 104 = .ok (.return_, 1) := dk_177 (dk_at dksJ3_or_4 12 rfl rfl)
abbrev cJ3_get : ByteArray := prog_55_method_26_code
def yJ3_get : MethodName := ⟨RJ3, "get", "(I)Z"⟩
def dkwJ3_get_2 : List UInt8 := [42, 180, 0, 11, 28, 47, 10, 27, 121, 127, 9, 148, 153, 0, 7, 4, 167, 0, 4, 3, 172]
abbrev dktJ3_get_2 : List UInt8 := dkwJ3_get_2 ++ []
def dkwJ3_get_1 : List UInt8 := [182, 0, 45, 183, 0, 146, 191, 42, 182, 0, 56, 27, 184, 0, 52, 61, 28, 42, 180, 0, 7, 162, 0, 22]
abbrev dktJ3_get_1 : List UInt8 := dkwJ3_get_1 ++ dktJ3_get_2
def dkwJ3_get_0 : List UInt8 := [27, 156, 0, 30, 187, 0, 142, 89, 187, 0, 33, 89, 183, 0, 35, 18, 153, 182, 0, 38, 27, 182, 0, 42]
abbrev dktJ3_get_0 : List UInt8 := dkwJ3_get_0 ++ dktJ3_get_1
theorem dksJ3_get_0 : cJ3_get.data.toList.drop 0 = dktJ3_get_0 := by decide +kernel
theorem dksJ3_get_1 : cJ3_get.data.toList.drop 24 = dktJ3_get_1 := dk_seg dksJ3_get_0 24 rfl rfl
theorem dksJ3_get_2 : cJ3_get.data.toList.drop 48 = dktJ3_get_2 := dk_seg dksJ3_get_1 24 rfl rfl
theorem dJ3_get_0 : decode cJ3_get 0 = .ok (.iload_n 1, 1) := dk_27 (dk_at dksJ3_get_0 0 rfl rfl)
theorem dJ3_get_1 : decode cJ3_get 1 = .ok (.ifCond .ge 30, 3) := dk_156 0 30 (dk_at dksJ3_get_0 1 rfl rfl)
theorem dJ3_get_4 : decode cJ3_get 4 = .ok (.new 142, 3) := dk_187 0 142 (dk_at dksJ3_get_0 4 rfl rfl)
theorem dJ3_get_7 : decode cJ3_get 7 = .ok (.dup, 1) := dk_89 (dk_at dksJ3_get_0 7 rfl rfl)
theorem dJ3_get_8 : decode cJ3_get 8 = .ok (.new 33, 3) := dk_187 0 33 (dk_at dksJ3_get_0 8 rfl rfl)
theorem dJ3_get_11 : decode cJ3_get 11 = .ok (.dup, 1) := dk_89 (dk_at dksJ3_get_0 11 rfl rfl)
theorem dJ3_get_12 : decode cJ3_get 12 = .ok (.invokespecial 35, 3) := dk_183 0 35 (dk_at dksJ3_get_0 12 rfl rfl)
theorem dJ3_get_15 : decode cJ3_get 15 = .ok (.ldc 153, 2) := dk_18 153 (dk_at dksJ3_get_0 15 rfl rfl)
theorem dJ3_get_17 : decode cJ3_get 17 = .ok (.invokevirtual 38, 3) := dk_182 0 38 (dk_at dksJ3_get_0 17 rfl rfl)
theorem dJ3_get_20 : decode cJ3_get 20 = .ok (.iload_n 1, 1) := dk_27 (dk_at dksJ3_get_0 20 rfl rfl)
theorem dJ3_get_21 : decode cJ3_get 21 = .ok (.invokevirtual 42, 3) := dk_182 0 42 (dk_at dksJ3_get_0 21 rfl rfl)
theorem dJ3_get_24 : decode cJ3_get 24 = .ok (.invokevirtual 45, 3) := dk_182 0 45 (dk_at dksJ3_get_1 0 rfl rfl)
theorem dJ3_get_27 : decode cJ3_get 27 = .ok (.invokespecial 146, 3) := dk_183 0 146 (dk_at dksJ3_get_1 3 rfl rfl)
theorem dJ3_get_30 : decode cJ3_get 30 = .ok (.athrow, 1) := dk_191 (dk_at dksJ3_get_1 6 rfl rfl)
theorem dJ3_get_31 : decode cJ3_get 31 = .ok (.aload_n 0, 1) := dk_42 (dk_at dksJ3_get_1 7 rfl rfl)
theorem dJ3_get_32 : decode cJ3_get 32 = .ok (.invokevirtual 56, 3) := dk_182 0 56 (dk_at dksJ3_get_1 8 rfl rfl)
theorem dJ3_get_35 : decode cJ3_get 35 = .ok (.iload_n 1, 1) := dk_27 (dk_at dksJ3_get_1 11 rfl rfl)
theorem dJ3_get_36 : decode cJ3_get 36 = .ok (.invokestatic 52, 3) := dk_184 0 52 (dk_at dksJ3_get_1 12 rfl rfl)
theorem dJ3_get_39 : decode cJ3_get 39 = .ok (.istore_n 2, 1) := dk_61 (dk_at dksJ3_get_1 15 rfl rfl)
theorem dJ3_get_40 : decode cJ3_get 40 = .ok (.iload_n 2, 1) := dk_28 (dk_at dksJ3_get_1 16 rfl rfl)
theorem dJ3_get_41 : decode cJ3_get 41 = .ok (.aload_n 0, 1) := dk_42 (dk_at dksJ3_get_1 17 rfl rfl)
theorem dJ3_get_42 : decode cJ3_get 42 = .ok (.getfield 7, 3) := dk_180 0 7 (dk_at dksJ3_get_1 18 rfl rfl)
theorem dJ3_get_45 : decode cJ3_get 45 = .ok (.if_icmp .ge 22, 3) := dk_162 0 22 (dk_at dksJ3_get_1 21 rfl rfl)
theorem dJ3_get_48 : decode cJ3_get 48 = .ok (.aload_n 0, 1) := dk_42 (dk_at dksJ3_get_2 0 rfl rfl)
theorem dJ3_get_49 : decode cJ3_get 49 = .ok (.getfield 11, 3) := dk_180 0 11 (dk_at dksJ3_get_2 1 rfl rfl)
theorem dJ3_get_52 : decode cJ3_get 52 = .ok (.iload_n 2, 1) := dk_28 (dk_at dksJ3_get_2 4 rfl rfl)
theorem dJ3_get_53 : decode cJ3_get 53 = .ok (.laload, 1) := dk_47 (dk_at dksJ3_get_2 5 rfl rfl)
theorem dJ3_get_54 : decode cJ3_get 54 = .ok (.lconst 1, 1) := dk_10 (dk_at dksJ3_get_2 6 rfl rfl)
theorem dJ3_get_55 : decode cJ3_get 55 = .ok (.iload_n 1, 1) := dk_27 (dk_at dksJ3_get_2 7 rfl rfl)
theorem dJ3_get_56 : decode cJ3_get 56 = .ok (.lshl, 1) := dk_121 (dk_at dksJ3_get_2 8 rfl rfl)
theorem dJ3_get_57 : decode cJ3_get 57 = .ok (.land, 1) := dk_127 (dk_at dksJ3_get_2 9 rfl rfl)
theorem dJ3_get_58 : decode cJ3_get 58 = .ok (.lconst 0, 1) := dk_9 (dk_at dksJ3_get_2 10 rfl rfl)
theorem dJ3_get_59 : decode cJ3_get 59 = .ok (.lcmp, 1) := dk_148 (dk_at dksJ3_get_2 11 rfl rfl)
theorem dJ3_get_60 : decode cJ3_get 60 = .ok (.ifCond .eq 7, 3) := dk_153 0 7 (dk_at dksJ3_get_2 12 rfl rfl)
theorem dJ3_get_63 : decode cJ3_get 63 = .ok (.iconst 1, 1) := dk_4 (dk_at dksJ3_get_2 15 rfl rfl)
theorem dJ3_get_64 : decode cJ3_get 64 = .ok (.goto 4, 3) := dk_167 0 4 (dk_at dksJ3_get_2 16 rfl rfl)
theorem dJ3_get_67 : decode cJ3_get 67 = .ok (.iconst 0, 1) := dk_3 (dk_at dksJ3_get_2 19 rfl rfl)
theorem dJ3_get_68 : decode cJ3_get 68 = .ok (.ireturn, 1) := dk_172 (dk_at dksJ3_get_2 20 rfl rfl)
theorem q39 : (Jvm.Cond.initialized "java/util/BitSet") ∈ lw_all := lw_g (lw_at lw_m1 6 rfl) rfl
theorem q165 : (Jvm.Cond.instantiable "java/util/BitSet" (3 : Nat)) ∈ lw_all := lw_g (lw_at lw_m1 132 rfl) rfl
theorem q167 : (Jvm.Cond.instanceMethod ({ cls := "java/util/BitSet", name := "<init>", desc := "()V" } : Jvm.MethodName)) ∈ lw_all := lw_g (lw_at lw_m1 134 rfl) rfl
theorem q168 : (Jvm.Cond.code ({ cls := "java/util/BitSet", name := "<init>", desc := "()V" } : Jvm.MethodName) prog_55_method_4_code (1 : Nat) (Option.none : Option Jvm.ClassFile.FieldType)) ∈ lw_all := lw_g (lw_at lw_m1 135 rfl) rfl
theorem q169 : (Jvm.Cond.methodLink "java/util/BitSet" (21 : Nat) ({ cls := "java/lang/Object", name := "<init>", desc := "()V" } : Jvm.MethodName)) ∈ lw_all := lw_g (lw_at lw_m1 136 rfl) rfl
theorem q170 : (Jvm.Cond.methodLink "java/util/BitSet" (27 : Nat) ({ cls := "java/util/BitSet", name := "initWords", desc := "(I)V" } : Jvm.MethodName)) ∈ lw_all := lw_g (lw_at lw_m1 137 rfl) rfl
theorem q171 : (Jvm.Cond.privateMethod ({ cls := "java/util/BitSet", name := "initWords", desc := "(I)V" } : Jvm.MethodName)) ∈ lw_tbl := lw_at lw_m1 138 rfl
theorem q172 : (Jvm.Cond.instanceMethod ({ cls := "java/util/BitSet", name := "initWords", desc := "(I)V" } : Jvm.MethodName)) ∈ lw_all := lw_g (lw_at lw_m1 139 rfl) rfl
theorem q173 : (Jvm.Cond.code ({ cls := "java/util/BitSet", name := "initWords", desc := "(I)V" } : Jvm.MethodName) prog_55_method_6_code (2 : Nat) (Option.none : Option Jvm.ClassFile.FieldType)) ∈ lw_all := lw_g (lw_at lw_m1 140 rfl) rfl
theorem q174 : (Jvm.Cond.methodLink "java/util/BitSet" (52 : Nat) ({ cls := "java/util/BitSet", name := "wordIndex", desc := "(I)I" } : Jvm.MethodName)) ∈ lw_all := lw_g (lw_at lw_m1 141 rfl) rfl
theorem q175 : (Jvm.Cond.static ({ cls := "java/util/BitSet", name := "wordIndex", desc := "(I)I" } : Jvm.MethodName)) ∈ lw_all := lw_g (lw_at lw_m1 142 rfl) rfl
theorem q176 : (Jvm.Cond.code ({ cls := "java/util/BitSet", name := "wordIndex", desc := "(I)I" } : Jvm.MethodName) prog_55_method_1_code (1 : Nat) (Option.some Jvm.ClassFile.FieldType.int)) ∈ lw_all := lw_g (lw_at lw_m1 143 rfl) rfl
theorem q177 : (Jvm.Cond.fieldLink "java/util/BitSet" (11 : Nat) "java/util/BitSet" "words" "[J") ∈ lw_all := lw_g (lw_at lw_m1 144 rfl) rfl
theorem q178 : (Jvm.Cond.fieldLink "java/util/BitSet" (7 : Nat) "java/util/BitSet" "wordsInUse" "I") ∈ lw_all := lw_g (lw_at lw_m1 145 rfl) rfl
theorem q179 : (Jvm.Cond.fieldLink "java/util/BitSet" (24 : Nat) "java/util/BitSet" "sizeIsSticky" "Z") ∈ lw_all := lw_g (lw_at lw_m1 146 rfl) rfl
theorem q180 : (Jvm.Cond.lays "java/util/BitSet" "java/util/BitSet" "words" "[J") ∈ lw_all := lw_g (lw_at lw_m1 147 rfl) rfl
theorem q181 : (Jvm.Cond.soleField "java/util/BitSet" "words") ∈ lw_all := lw_g (lw_at lw_m1 148 rfl) rfl
theorem q182 : (Jvm.Cond.lays "java/util/BitSet" "java/util/BitSet" "wordsInUse" "I") ∈ lw_all := lw_g (lw_at lw_m1 149 rfl) rfl
theorem q183 : (Jvm.Cond.soleField "java/util/BitSet" "wordsInUse") ∈ lw_all := lw_g (lw_at lw_m1 150 rfl) rfl
theorem q184 : (Jvm.Cond.lays "java/util/BitSet" "java/util/BitSet" "sizeIsSticky" "Z") ∈ lw_all := lw_g (lw_at lw_m1 151 rfl) rfl
theorem q185 : (Jvm.Cond.soleField "java/util/BitSet" "sizeIsSticky") ∈ lw_all := lw_g (lw_at lw_m1 152 rfl) rfl
theorem q186 : (Jvm.Cond.superclass "java/util/BitSet" "java/lang/Object") ∈ lw_all := lw_g (lw_at lw_m1 153 rfl) rfl
theorem q302 : (Jvm.Cond.selects "java/util/BitSet" ({ cls := "java/lang/Object", name := "getClass", desc := "()Ljava/lang/Class;" } : Jvm.MethodName) ({ cls := "java/lang/Object", name := "getClass", desc := "()Ljava/lang/Class;" } : Jvm.MethodName)) ∈ lw_all := lw_g (lw_at lw_m2 29 rfl) rfl
theorem q393 : (Jvm.Cond.instanceMethod ({ cls := "java/util/BitSet", name := "clear", desc := "()V" } : Jvm.MethodName)) ∈ lw_all := lw_g (lw_at lw_m2 120 rfl) rfl
theorem q394 : (Jvm.Cond.selects "java/util/BitSet" ({ cls := "java/util/BitSet", name := "clear", desc := "()V" } : Jvm.MethodName) ({ cls := "java/util/BitSet", name := "clear", desc := "()V" } : Jvm.MethodName)) ∈ lw_all := lw_g (lw_at lw_m2 121 rfl) rfl
theorem q395 : (Jvm.Cond.code ({ cls := "java/util/BitSet", name := "clear", desc := "()V" } : Jvm.MethodName) prog_55_method_25_code (1 : Nat) (Option.none : Option Jvm.ClassFile.FieldType)) ∈ lw_all := lw_g (lw_at lw_m2 122 rfl) rfl
theorem q424 : (Jvm.Cond.instanceMethod ({ cls := "java/util/BitSet", name := "cardinality", desc := "()I" } : Jvm.MethodName)) ∈ lw_all := lw_g (lw_at lw_m2 151 rfl) rfl
theorem q425 : (Jvm.Cond.selects "java/util/BitSet" ({ cls := "java/util/BitSet", name := "cardinality", desc := "()I" } : Jvm.MethodName) ({ cls := "java/util/BitSet", name := "cardinality", desc := "()I" } : Jvm.MethodName)) ∈ lw_all := lw_g (lw_at lw_m2 152 rfl) rfl
theorem q426 : (Jvm.Cond.code ({ cls := "java/util/BitSet", name := "cardinality", desc := "()I" } : Jvm.MethodName) prog_55_method_35_code (3 : Nat) (Option.some Jvm.ClassFile.FieldType.int)) ∈ lw_all := lw_g (lw_at lw_m2 153 rfl) rfl
theorem q427 : (Jvm.Cond.methodLink "java/util/BitSet" (196 : Nat) ({ cls := "java/lang/Long", name := "bitCount", desc := "(J)I" } : Jvm.MethodName)) ∈ lw_all := lw_g (lw_at lw_m2 154 rfl) rfl
theorem q1223 : (Jvm.Cond.instanceMethod ({ cls := "java/util/BitSet", name := "set", desc := "(I)V" } : Jvm.MethodName)) ∈ lw_all := lw_g (lw_at lw_m5 230 rfl) rfl
theorem q1224 : (Jvm.Cond.selects "java/util/BitSet" ({ cls := "java/util/BitSet", name := "set", desc := "(I)V" } : Jvm.MethodName) ({ cls := "java/util/BitSet", name := "set", desc := "(I)V" } : Jvm.MethodName)) ∈ lw_all := lw_g (lw_at lw_m5 231 rfl) rfl
theorem q1225 : (Jvm.Cond.code ({ cls := "java/util/BitSet", name := "set", desc := "(I)V" } : Jvm.MethodName) prog_55_method_19_code (3 : Nat) (Option.none : Option Jvm.ClassFile.FieldType)) ∈ lw_all := lw_g (lw_at lw_m5 232 rfl) rfl
theorem q1226 : (Jvm.Cond.classLink "java/util/BitSet" (142 : Nat) "java/lang/IndexOutOfBoundsException") ∈ lw_all := lw_g (lw_at lw_m5 233 rfl) rfl
theorem q1227 : (Jvm.Cond.classLink "java/util/BitSet" (33 : Nat) "java/lang/StringBuilder") ∈ lw_all := lw_g (lw_at lw_m5 234 rfl) rfl
theorem q1228 : (Jvm.Cond.methodLink "java/util/BitSet" (35 : Nat) ({ cls := "java/lang/StringBuilder", name := "<init>", desc := "()V" } : Jvm.MethodName)) ∈ lw_all := lw_g (lw_at lw_m5 235 rfl) rfl
theorem q1229 : (Jvm.Cond.stringRef "java/util/BitSet" (153 : Nat) "bitIndex < 0: ") ∈ lw_tbl := lw_at lw_m5 236 rfl
theorem q1230 : (Jvm.Cond.methodLink "java/util/BitSet" (38 : Nat) ({ cls := "java/lang/StringBuilder", name := "append", desc := "(Ljava/lang/String;)Ljava/lang/StringBuilder;" } : Jvm.MethodName)) ∈ lw_all := lw_g (lw_at lw_m5 237 rfl) rfl
theorem q1231 : (Jvm.Cond.methodLink "java/util/BitSet" (42 : Nat) ({ cls := "java/lang/StringBuilder", name := "append", desc := "(I)Ljava/lang/StringBuilder;" } : Jvm.MethodName)) ∈ lw_all := lw_g (lw_at lw_m5 238 rfl) rfl
theorem q1232 : (Jvm.Cond.methodLink "java/util/BitSet" (45 : Nat) ({ cls := "java/lang/StringBuilder", name := "toString", desc := "()Ljava/lang/String;" } : Jvm.MethodName)) ∈ lw_all := lw_g (lw_at lw_m5 239 rfl) rfl
theorem q1233 : (Jvm.Cond.methodLink "java/util/BitSet" (146 : Nat) ({ cls := "java/lang/IndexOutOfBoundsException", name := "<init>", desc := "(Ljava/lang/String;)V" } : Jvm.MethodName)) ∈ lw_all := lw_g (lw_at lw_m6 0 rfl) rfl
theorem q1234 : (Jvm.Cond.methodLink "java/util/BitSet" (155 : Nat) ({ cls := "java/util/BitSet", name := "expandTo", desc := "(I)V" } : Jvm.MethodName)) ∈ lw_all := lw_g (lw_at lw_m6 1 rfl) rfl
theorem q1235 : (Jvm.Cond.privateMethod ({ cls := "java/util/BitSet", name := "expandTo", desc := "(I)V" } : Jvm.MethodName)) ∈ lw_tbl := lw_at lw_m6 2 rfl
theorem q1236 : (Jvm.Cond.instanceMethod ({ cls := "java/util/BitSet", name := "expandTo", desc := "(I)V" } : Jvm.MethodName)) ∈ lw_all := lw_g (lw_at lw_m6 3 rfl) rfl
theorem q1237 : (Jvm.Cond.code ({ cls := "java/util/BitSet", name := "expandTo", desc := "(I)V" } : Jvm.MethodName) prog_55_method_15_code (3 : Nat) (Option.none : Option Jvm.ClassFile.FieldType)) ∈ lw_all := lw_g (lw_at lw_m6 4 rfl) rfl
theorem q1238 : (Jvm.Cond.methodLink "java/util/BitSet" (139 : Nat) ({ cls := "java/util/BitSet", name := "ensureCapacity", desc := "(I)V" } : Jvm.MethodName)) ∈ lw_all := lw_g (lw_at lw_m6 5 rfl) rfl
theorem q1239 : (Jvm.Cond.privateMethod ({ cls := "java/util/BitSet", name := "ensureCapacity", desc := "(I)V" } : Jvm.MethodName)) ∈ lw_tbl := lw_at lw_m6 6 rfl
theorem q1240 : (Jvm.Cond.instanceMethod ({ cls := "java/util/BitSet", name := "ensureCapacity", desc := "(I)V" } : Jvm.MethodName)) ∈ lw_all := lw_g (lw_at lw_m6 7 rfl) rfl
theorem q1241 : (Jvm.Cond.code ({ cls := "java/util/BitSet", name := "ensureCapacity", desc := "(I)V" } : Jvm.MethodName) prog_55_method_14_code (3 : Nat) (Option.none : Option Jvm.ClassFile.FieldType)) ∈ lw_all := lw_g (lw_at lw_m6 8 rfl) rfl
theorem q1242 : (Jvm.Cond.methodLink "java/util/BitSet" (133 : Nat) ({ cls := "java/lang/Math", name := "max", desc := "(II)I" } : Jvm.MethodName)) ∈ lw_all := lw_g (lw_at lw_m6 9 rfl) rfl
theorem q1243 : (Jvm.Cond.methodLink "java/util/BitSet" (59 : Nat) ({ cls := "java/util/Arrays", name := "copyOf", desc := "([JI)[J" } : Jvm.MethodName)) ∈ lw_all := lw_g (lw_at lw_m6 10 rfl) rfl
theorem q1251 : (Jvm.Cond.methodLink "java/util/BitSet" (56 : Nat) ({ cls := "java/util/BitSet", name := "checkInvariants", desc := "()V" } : Jvm.MethodName)) ∈ lw_all := lw_g (lw_at lw_m6 18 rfl) rfl
theorem q1252 : (Jvm.Cond.privateMethod ({ cls := "java/util/BitSet", name := "checkInvariants", desc := "()V" } : Jvm.MethodName)) ∈ lw_tbl := lw_at lw_m6 19 rfl
theorem q1253 : (Jvm.Cond.instanceMethod ({ cls := "java/util/BitSet", name := "checkInvariants", desc := "()V" } : Jvm.MethodName)) ∈ lw_all := lw_g (lw_at lw_m6 20 rfl) rfl
theorem q1254 : (Jvm.Cond.code ({ cls := "java/util/BitSet", name := "checkInvariants", desc := "()V" } : Jvm.MethodName) prog_55_method_2_code (1 : Nat) (Option.none : Option Jvm.ClassFile.FieldType)) ∈ lw_all := lw_g (lw_at lw_m6 21 rfl) rfl
theorem q1255 : (Jvm.Cond.fieldLink "java/util/BitSet" (3 : Nat) "java/util/BitSet" "$assertionsDisabled" "Z") ∈ lw_all := lw_g (lw_at lw_m6 22 rfl) rfl
theorem q1256 : (Jvm.Cond.laysStatic "java/util/BitSet" "$assertionsDisabled" "Z") ∈ lw_tbl := lw_at lw_m6 23 rfl
theorem q1262 : (Jvm.Cond.instanceMethod ({ cls := "java/util/BitSet", name := "or", desc := "(Ljava/util/BitSet;)V" } : Jvm.MethodName)) ∈ lw_all := lw_g (lw_at lw_m6 29 rfl) rfl
theorem q1263 : (Jvm.Cond.selects "java/util/BitSet" ({ cls := "java/util/BitSet", name := "or", desc := "(Ljava/util/BitSet;)V" } : Jvm.MethodName) ({ cls := "java/util/BitSet", name := "or", desc := "(Ljava/util/BitSet;)V" } : Jvm.MethodName)) ∈ lw_all := lw_g (lw_at lw_m6 30 rfl) rfl
theorem q1264 : (Jvm.Cond.code ({ cls := "java/util/BitSet", name := "or", desc := "(Ljava/util/BitSet;)V" } : Jvm.MethodName) prog_55_method_37_code (4 : Nat) (Option.none : Option Jvm.ClassFile.FieldType)) ∈ lw_all := lw_g (lw_at lw_m6 31 rfl) rfl
theorem q1265 : (Jvm.Cond.methodLink "java/util/BitSet" (193 : Nat) ({ cls := "java/lang/Math", name := "min", desc := "(II)I" } : Jvm.MethodName)) ∈ lw_all := lw_g (lw_at lw_m6 32 rfl) rfl
theorem q1266 : (Jvm.Cond.methodLink "java/util/BitSet" (199 : Nat) ({ cls := "java/lang/System", name := "arraycopy", desc := "(Ljava/lang/Object;ILjava/lang/Object;II)V" } : Jvm.MethodName)) ∈ lw_all := lw_g (lw_at lw_m6 33 rfl) rfl
theorem q1737 : (Jvm.Cond.instanceMethod ({ cls := "java/util/BitSet", name := "get", desc := "(I)Z" } : Jvm.MethodName)) ∈ lw_all := lw_g (lw_at lw_m8 24 rfl) rfl
theorem q1738 : (Jvm.Cond.selects "java/util/BitSet" ({ cls := "java/util/BitSet", name := "get", desc := "(I)Z" } : Jvm.MethodName) ({ cls := "java/util/BitSet", name := "get", desc := "(I)Z" } : Jvm.MethodName)) ∈ lw_all := lw_g (lw_at lw_m8 25 rfl) rfl
theorem q1739 : (Jvm.Cond.code ({ cls := "java/util/BitSet", name := "get", desc := "(I)Z" } : Jvm.MethodName) prog_55_method_26_code (3 : Nat) (Option.some Jvm.ClassFile.FieldType.boolean)) ∈ lw_all := lw_g (lw_at lw_m8 26 rfl) rfl
theorem q2241 : (Jvm.Cond.castable "java/util/BitSet" "java/lang/Object") ∈ lw_tbl := lw_at lw_m10 48 rfl
theorem in_J3 : ∀ w ∈ wsJ30, w ∈ lw_all := lw_in wsJ30 [180, 182, 184] (by decide +kernel) (by decide +kernel)

/-! java/util/AbstractSequentialList -/
set_option maxRecDepth 100000
def RJ4 : String := "java/util/AbstractSequentialList"
abbrev cJ4_init : ByteArray := prog_50_method_1_code
def yJ4_init : MethodName := ⟨RJ4, "<init>", "()V"⟩
theorem dJ4_init_0 : decode cJ4_init 0 = .ok (.aload_n 0, 1) := by decide +kernel
theorem dJ4_init_1 : decode cJ4_init 1 = .ok (.invokespecial 1, 3) := by decide +kernel
theorem dJ4_init_4 : decode cJ4_init 4 = .ok (.return_, 1) := by decide +kernel
abbrev cJ4_iterator : ByteArray := prog_50_method_7_code
def yJ4_iterator : MethodName := ⟨RJ4, "iterator", "()Ljava/util/Iterator;"⟩
theorem dJ4_iterator_0 : decode cJ4_iterator 0 = .ok (.aload_n 0, 1) := by decide +kernel
theorem dJ4_iterator_1 : decode cJ4_iterator 1 = .ok (.invokevirtual 65, 3) := by decide +kernel
theorem dJ4_iterator_4 : decode cJ4_iterator 4 = .ok (.areturn, 1) := by decide +kernel
theorem q40 : (Jvm.Cond.initialized "java/util/AbstractSequentialList") ∈ lw_all := lw_g (lw_at lw_m1 7 rfl) rfl
theorem q223 : (Jvm.Cond.instanceMethod ({ cls := "java/util/AbstractSequentialList", name := "<init>", desc := "()V" } : Jvm.MethodName)) ∈ lw_all := lw_g (lw_at lw_m1 190 rfl) rfl
theorem q224 : (Jvm.Cond.code ({ cls := "java/util/AbstractSequentialList", name := "<init>", desc := "()V" } : Jvm.MethodName) prog_50_method_1_code (1 : Nat) (Option.none : Option Jvm.ClassFile.FieldType)) ∈ lw_all := lw_g (lw_at lw_m1 191 rfl) rfl
theorem q225 : (Jvm.Cond.methodLink "java/util/AbstractSequentialList" (1 : Nat) ({ cls := "java/util/AbstractList", name := "<init>", desc := "()V" } : Jvm.MethodName)) ∈ lw_all := lw_g (lw_at lw_m1 192 rfl) rfl
theorem q1317 : (Jvm.Cond.instanceMethod ({ cls := "java/util/AbstractSequentialList", name := "iterator", desc := "()Ljava/util/Iterator;" } : Jvm.MethodName)) ∈ lw_all := lw_g (lw_at lw_m6 84 rfl) rfl
theorem q1318 : (Jvm.Cond.publicMethod ({ cls := "java/util/AbstractSequentialList", name := "iterator", desc := "()Ljava/util/Iterator;" } : Jvm.MethodName)) ∈ lw_tbl := lw_at lw_m6 85 rfl
theorem q1319 : (Jvm.Cond.code ({ cls := "java/util/AbstractSequentialList", name := "iterator", desc := "()Ljava/util/Iterator;" } : Jvm.MethodName) prog_50_method_7_code (1 : Nat) (Option.some (Jvm.ClassFile.FieldType.object "java/util/Iterator"))) ∈ lw_all := lw_g (lw_at lw_m6 86 rfl) rfl
theorem q1320 : (Jvm.Cond.methodLink "java/util/AbstractSequentialList" (65 : Nat) ({ cls := "java/util/AbstractSequentialList", name := "listIterator", desc := "()Ljava/util/ListIterator;" } : Jvm.MethodName)) ∈ lw_all := lw_g (lw_at lw_m6 87 rfl) rfl
theorem q1321 : (Jvm.Cond.sameMethod "java/util/AbstractSequentialList" "java/util/AbstractList" "listIterator" "()Ljava/util/ListIterator;") ∈ lw_all := lw_g (lw_at lw_m6 88 rfl) rfl
