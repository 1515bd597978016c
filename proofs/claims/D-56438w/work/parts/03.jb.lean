/-! java/util/LinkedList -/
set_option maxRecDepth 100000
def RJ5 : String := "java/util/LinkedList"
def TJ5 : u_T := fun k => match k with
  | 0 => ("java/util/AbstractList", "modCount", "I", false)
  | 1 => ("java/util/LinkedList", "size", "I", false)
  | 2 => ("java/util/LinkedList", "first", "Ljava/util/LinkedList$Node;", false)
  | _ => ("java/util/LinkedList", "last", "Ljava/util/LinkedList$Node;", false)
def tyJ5 : Nat → FieldType := fun k => match k with
  | 0 => .int
  | 1 => .int
  | 2 => .object "java/util/LinkedList$Node"
  | _ => .object "java/util/LinkedList$Node"
abbrev wsJ50 : List Cond := u_ws RJ5 TJ5 4
theorem nmJ5 : ∀ a, a < 4 → ∀ b, b < 4 → a ≠ b → (TJ5 a).2.1 ≠ (TJ5 b).2.1 := by decide +kernel
theorem tyJ5_ok : ∀ k, k < 4 → parseFieldDescriptor (TJ5 k).2.2.1 = some (tyJ5 k) := by decide +kernel
abbrev cJ5_init : ByteArray := prog_59_method_1_code
def yJ5_init : MethodName := ⟨RJ5, "<init>", "()V"⟩
def dkwJ5_init_0 : List UInt8 := [42, 183, 0, 1, 42, 3, 181, 0, 7, 177]
abbrev dktJ5_init_0 : List UInt8 := dkwJ5_init_0 ++ []
theorem dksJ5_init_0 : cJ5_init.data.toList.drop 0 = dktJ5_init_0 := by decide +kernel
theorem dJ5_init_0 : decode cJ5_init 0 = .ok (.aload_n 0, 1) := dk_42 (dk_at dksJ5_init_0 0 rfl rfl)
theorem dJ5_init_1 : decode cJ5_init 1 = .ok (.invokespecial 1, 3) := dk_183 0 1 (dk_at dksJ5_init_0 1 rfl rfl)
theorem dJ5_init_4 : decode cJ5_init 4 = .ok (.aload_n 0, 1) := dk_42 (dk_at dksJ5_init_0 4 rfl rfl)
theorem dJ5_init_5 : decode cJ5_init 5 = .ok (.iconst 0, 1) := dk_3 (dk_at dksJ5_init_0 5 rfl rfl)
theorem dJ5_init_6 : decode cJ5_init 6 = .ok (.putfield 7, 3) := dk_181 0 7 (dk_at dksJ5_init_0 6 rfl rfl)
theorem dJ5_init_9 : decode cJ5_init 9 = .ok (.return_, 1) := dk_177 (dk_at dksJ5_init_0 9 rfl rfl)
abbrev cJ5_add : ByteArray := prog_59_method_17_code
def yJ5_add : MethodName := ⟨RJ5, "add", "(Ljava/lang/Object;)Z"⟩
def dkwJ5_add_0 : List UInt8 := [42, 43, 182, 0, 57, 4, 172]
abbrev dktJ5_add_0 : List UInt8 := dkwJ5_add_0 ++ []
theorem dksJ5_add_0 : cJ5_add.data.toList.drop 0 = dktJ5_add_0 := by decide +kernel
theorem dJ5_add_0 : decode cJ5_add 0 = .ok (.aload_n 0, 1) := dk_42 (dk_at dksJ5_add_0 0 rfl rfl)
theorem dJ5_add_1 : decode cJ5_add 1 = .ok (.aload_n 1, 1) := dk_43 (dk_at dksJ5_add_0 1 rfl rfl)
theorem dJ5_add_2 : decode cJ5_add 2 = .ok (.invokevirtual 57, 3) := dk_182 0 57 (dk_at dksJ5_add_0 2 rfl rfl)
theorem dJ5_add_5 : decode cJ5_add 5 = .ok (.iconst 1, 1) := dk_4 (dk_at dksJ5_add_0 5 rfl rfl)
theorem dJ5_add_6 : decode cJ5_add 6 = .ok (.ireturn, 1) := dk_172 (dk_at dksJ5_add_0 6 rfl rfl)
abbrev cJ5_linkLast : ByteArray := prog_59_method_4_code
def yJ5_linkLast : MethodName := ⟨RJ5, "linkLast", "(Ljava/lang/Object;)V"⟩
def dkwJ5_linkLast_2 : List UInt8 := [181, 0, 7, 42, 89, 180, 0, 33, 4, 96, 181, 0, 33, 177]
abbrev dktJ5_linkLast_2 : List UInt8 := dkwJ5_linkLast_2 ++ []
def dkwJ5_linkLast_1 : List UInt8 := [199, 0, 11, 42, 45, 181, 0, 18, 167, 0, 8, 44, 45, 181, 0, 36, 42, 89, 180, 0, 7, 4, 96]
abbrev dktJ5_linkLast_1 : List UInt8 := dkwJ5_linkLast_1 ++ dktJ5_linkLast_2
def dkwJ5_linkLast_0 : List UInt8 := [42, 180, 0, 27, 77, 187, 0, 22, 89, 44, 43, 1, 183, 0, 24, 78, 42, 45, 181, 0, 27, 44]
abbrev dktJ5_linkLast_0 : List UInt8 := dkwJ5_linkLast_0 ++ dktJ5_linkLast_1
theorem dksJ5_linkLast_0 : cJ5_linkLast.data.toList.drop 0 = dktJ5_linkLast_0 := by decide +kernel
theorem dksJ5_linkLast_1 : cJ5_linkLast.data.toList.drop 22 = dktJ5_linkLast_1 := dk_seg dksJ5_linkLast_0 22 rfl rfl
theorem dksJ5_linkLast_2 : cJ5_linkLast.data.toList.drop 45 = dktJ5_linkLast_2 := dk_seg dksJ5_linkLast_1 23 rfl rfl
theorem dJ5_linkLast_0 : decode cJ5_linkLast 0 = .ok (.aload_n 0, 1) := dk_42 (dk_at dksJ5_linkLast_0 0 rfl rfl)
theorem dJ5_linkLast_1 : decode cJ5_linkLast 1 = .ok (.getfield 27, 3) := dk_180 0 27 (dk_at dksJ5_linkLast_0 1 rfl rfl)
theorem dJ5_linkLast_4 : decode cJ5_linkLast 4 = .ok (.astore_n 2, 1) := dk_77 (dk_at dksJ5_linkLast_0 4 rfl rfl)
theorem dJ5_linkLast_5 : decode cJ5_linkLast 5 = .ok (.new 22, 3) := dk_187 0 22 (dk_at dksJ5_linkLast_0 5 rfl rfl)
theorem dJ5_linkLast_8 : decode cJ5_linkLast 8 = .ok (.dup, 1) := dk_89 (dk_at dksJ5_linkLast_0 8 rfl rfl)
theorem dJ5_linkLast_9 : decode cJ5_linkLast 9 = .ok (.aload_n 2, 1) := dk_44 (dk_at dksJ5_linkLast_0 9 rfl rfl)
theorem dJ5_linkLast_10 : decode cJ5_linkLast 10 = .ok (.aload_n 1, 1) := dk_43 (dk_at dksJ5_linkLast_0 10 rfl rfl)
theorem dJ5_linkLast_11 : decode cJ5_linkLast 11 = .ok (.aconst_null, 1) := dk_1 (dk_at dksJ5_linkLast_0 11 rfl rfl)
theorem dJ5_linkLast_12 : decode cJ5_linkLast 12 = .ok (.invokespecial 24, 3) := dk_183 0 24 (dk_at dksJ5_linkLast_0 12 rfl rfl)
theorem dJ5_linkLast_15 : decode cJ5_linkLast 15 = .ok (.astore_n 3, 1) := dk_78 (dk_at dksJ5_linkLast_0 15 rfl rfl)
theorem dJ5_linkLast_16 : decode cJ5_linkLast 16 = .ok (.aload_n 0, 1) := dk_42 (dk_at dksJ5_linkLast_0 16 rfl rfl)
theorem dJ5_linkLast_17 : decode cJ5_linkLast 17 = .ok (.aload_n 3, 1) := dk_45 (dk_at dksJ5_linkLast_0 17 rfl rfl)
theorem dJ5_linkLast_18 : decode cJ5_linkLast 18 = .ok (.putfield 27, 3) := dk_181 0 27 (dk_at dksJ5_linkLast_0 18 rfl rfl)
theorem dJ5_linkLast_21 : decode cJ5_linkLast 21 = .ok (.aload_n 2, 1) := dk_44 (dk_at dksJ5_linkLast_0 21 rfl rfl)
theorem dJ5_linkLast_22 : decode cJ5_linkLast 22 = .ok (.ifnonnull 11, 3) := dk_199 0 11 (dk_at dksJ5_linkLast_1 0 rfl rfl)
theorem dJ5_linkLast_25 : decode cJ5_linkLast 25 = .ok (.aload_n 0, 1) := dk_42 (dk_at dksJ5_linkLast_1 3 rfl rfl)
theorem dJ5_linkLast_26 : decode cJ5_linkLast 26 = .ok (.aload_n 3, 1) := dk_45 (dk_at dksJ5_linkLast_1 4 rfl rfl)
theorem dJ5_linkLast_27 : decode cJ5_linkLast 27 = .ok (.putfield 18, 3) := dk_181 0 18 (dk_at dksJ5_linkLast_1 5 rfl rfl)
theorem dJ5_linkLast_30 : decode cJ5_linkLast 30 = .ok (.goto 8, 3) := dk_167 0 8 (dk_at dksJ5_linkLast_1 8 rfl rfl)
theorem dJ5_linkLast_33 : decode cJ5_linkLast 33 = .ok (.aload_n 2, 1) := dk_44 (dk_at dksJ5_linkLast_1 11 rfl rfl)
theorem dJ5_linkLast_34 : decode cJ5_linkLast 34 = .ok (.aload_n 3, 1) := dk_45 (dk_at dksJ5_linkLast_1 12 rfl rfl)
theorem dJ5_linkLast_35 : decode cJ5_linkLast 35 = .ok (.putfield 36, 3) := dk_181 0 36 (dk_at dksJ5_linkLast_1 13 rfl rfl)
theorem dJ5_linkLast_38 : decode cJ5_linkLast 38 = .ok (.aload_n 0, 1) := dk_42 (dk_at dksJ5_linkLast_1 16 rfl rfl)
theorem dJ5_linkLast_39 : decode cJ5_linkLast 39 = .ok (.dup, 1) := dk_89 (dk_at dksJ5_linkLast_1 17 rfl rfl)
theorem dJ5_linkLast_40 : decode cJ5_linkLast 40 = .ok (.getfield 7, 3) := dk_180 0 7 (dk_at dksJ5_linkLast_1 18 rfl rfl)
theorem dJ5_linkLast_43 : decode cJ5_linkLast 43 = .ok (.iconst 1, 1) := dk_4 (dk_at dksJ5_linkLast_1 21 rfl rfl)
theorem dJ5_linkLast_44 : decode cJ5_linkLast 44 = .ok (.iadd, 1) := dk_96 (dk_at dksJ5_linkLast_1 22 rfl rfl)
theorem dJ5_linkLast_45 : decode cJ5_linkLast 45 = .ok (.putfield 7, 3) := dk_181 0 7 (dk_at dksJ5_linkLast_2 0 rfl rfl)
theorem dJ5_linkLast_48 : decode cJ5_linkLast 48 = .ok (.aload_n 0, 1) := dk_42 (dk_at dksJ5_linkLast_2 3 rfl rfl)
theorem dJ5_linkLast_49 : decode cJ5_linkLast 49 = .ok (.dup, 1) := dk_89 (dk_at dksJ5_linkLast_2 4 rfl rfl)
theorem dJ5_linkLast_50 : decode cJ5_linkLast 50 = .ok (.getfield 33, 3) := dk_180 0 33 (dk_at dksJ5_linkLast_2 5 rfl rfl)
theorem dJ5_linkLast_53 : decode cJ5_linkLast 53 = .ok (.iconst 1, 1) := dk_4 (dk_at dksJ5_linkLast_2 8 rfl rfl)
theorem dJ5_linkLast_54 : decode cJ5_linkLast 54 = .ok (.iadd, 1) := dk_96 (dk_at dksJ5_linkLast_2 9 rfl rfl)
theorem dJ5_linkLast_55 : decode cJ5_linkLast 55 = .ok (.putfield 33, 3) := dk_181 0 33 (dk_at dksJ5_linkLast_2 10 rfl rfl)
theorem dJ5_linkLast_58 : decode cJ5_linkLast 58 = .ok (.return_, 1) := dk_177 (dk_at dksJ5_linkLast_2 13 rfl rfl)
abbrev cJ5_clear : ByteArray := prog_59_method_21_code
def yJ5_clear : MethodName := ⟨RJ5, "clear", "()V"⟩
def dkwJ5_clear_2 : List UInt8 := [181, 0, 7, 42, 89, 180, 0, 33, 4, 96, 181, 0, 33, 177]
abbrev dktJ5_clear_2 : List UInt8 := dkwJ5_clear_2 ++ []
def dkwJ5_clear_1 : List UInt8 := [43, 1, 181, 0, 30, 44, 76, 167, 255, 230, 42, 42, 1, 90, 181, 0, 27, 181, 0, 18, 42, 3]
abbrev dktJ5_clear_1 : List UInt8 := dkwJ5_clear_1 ++ dktJ5_clear_2
def dkwJ5_clear_0 : List UInt8 := [42, 180, 0, 18, 76, 43, 198, 0, 28, 43, 180, 0, 36, 77, 43, 1, 181, 0, 39, 43, 1, 181, 0, 36]
abbrev dktJ5_clear_0 : List UInt8 := dkwJ5_clear_0 ++ dktJ5_clear_1
theorem dksJ5_clear_0 : cJ5_clear.data.toList.drop 0 = dktJ5_clear_0 := by decide +kernel
theorem dksJ5_clear_1 : cJ5_clear.data.toList.drop 24 = dktJ5_clear_1 := dk_seg dksJ5_clear_0 24 rfl rfl
theorem dksJ5_clear_2 : cJ5_clear.data.toList.drop 46 = dktJ5_clear_2 := dk_seg dksJ5_clear_1 22 rfl rfl
theorem dJ5_clear_0 : decode cJ5_clear 0 = .ok (.aload_n 0, 1) := dk_42 (dk_at dksJ5_clear_0 0 rfl rfl)
theorem dJ5_clear_1 : decode cJ5_clear 1 = .ok (.getfield 18, 3) := dk_180 0 18 (dk_at dksJ5_clear_0 1 rfl rfl)
theorem dJ5_clear_4 : decode cJ5_clear 4 = .ok (.astore_n 1, 1) := dk_76 (dk_at dksJ5_clear_0 4 rfl rfl)
theorem dJ5_clear_5 : decode cJ5_clear 5 = .ok (.aload_n 1, 1) := dk_43 (dk_at dksJ5_clear_0 5 rfl rfl)
theorem dJ5_clear_6 : decode cJ5_clear 6 = .ok (.ifnull 28, 3) := dk_198 0 28 (dk_at dksJ5_clear_0 6 rfl rfl)
theorem dJ5_clear_9 : decode cJ5_clear 9 = .ok (.aload_n 1, 1) := dk_43 (dk_at dksJ5_clear_0 9 rfl rfl)
theorem dJ5_clear_10 : decode cJ5_clear 10 = .ok (.getfield 36, 3) := dk_180 0 36 (dk_at dksJ5_clear_0 10 rfl rfl)
theorem dJ5_clear_13 : decode cJ5_clear 13 = .ok (.astore_n 2, 1) := dk_77 (dk_at dksJ5_clear_0 13 rfl rfl)
theorem dJ5_clear_14 : decode cJ5_clear 14 = .ok (.aload_n 1, 1) := dk_43 (dk_at dksJ5_clear_0 14 rfl rfl)
theorem dJ5_clear_15 : decode cJ5_clear 15 = .ok (.aconst_null, 1) := dk_1 (dk_at dksJ5_clear_0 15 rfl rfl)
theorem dJ5_clear_16 : decode cJ5_clear 16 = .ok (.putfield 39, 3) := dk_181 0 39 (dk_at dksJ5_clear_0 16 rfl rfl)
theorem dJ5_clear_19 : decode cJ5_clear 19 = .ok (.aload_n 1, 1) := dk_43 (dk_at dksJ5_clear_0 19 rfl rfl)
theorem dJ5_clear_20 : decode cJ5_clear 20 = .ok (.aconst_null, 1) := dk_1 (dk_at dksJ5_clear_0 20 rfl rfl)
theorem dJ5_clear_21 : decode cJ5_clear 21 = .ok (.putfield 36, 3) := dk_181 0 36 (dk_at dksJ5_clear_0 21 rfl rfl)
theorem dJ5_clear_24 : decode cJ5_clear 24 = .ok (.aload_n 1, 1) := dk_43 (dk_at dksJ5_clear_1 0 rfl rfl)
theorem dJ5_clear_25 : decode cJ5_clear 25 = .ok (.aconst_null, 1) := dk_1 (dk_at dksJ5_clear_1 1 rfl rfl)
theorem dJ5_clear_26 : decode cJ5_clear 26 = .ok (.putfield 30, 3) := dk_181 0 30 (dk_at dksJ5_clear_1 2 rfl rfl)
theorem dJ5_clear_29 : decode cJ5_clear 29 = .ok (.aload_n 2, 1) := dk_44 (dk_at dksJ5_clear_1 5 rfl rfl)
theorem dJ5_clear_30 : decode cJ5_clear 30 = .ok (.astore_n 1, 1) := dk_76 (dk_at dksJ5_clear_1 6 rfl rfl)
theorem dJ5_clear_31 : decode cJ5_clear 31 = .ok (.goto (-26), 3) := dk_167 255 230 (dk_at dksJ5_clear_1 7 rfl rfl)
theorem dJ5_clear_34 : decode cJ5_clear 34 = .ok (.aload_n 0, 1) := dk_42 (dk_at dksJ5_clear_1 10 rfl rfl)
theorem dJ5_clear_35 : decode cJ5_clear 35 = .ok (.aload_n 0, 1) := dk_42 (dk_at dksJ5_clear_1 11 rfl rfl)
theorem dJ5_clear_36 : decode cJ5_clear 36 = .ok (.aconst_null, 1) := dk_1 (dk_at dksJ5_clear_1 12 rfl rfl)
theorem dJ5_clear_37 : decode cJ5_clear 37 = .ok (.dup_x1, 1) := dk_90 (dk_at dksJ5_clear_1 13 rfl rfl)
theorem dJ5_clear_38 : decode cJ5_clear 38 = .ok (.putfield 27, 3) := dk_181 0 27 (dk_at dksJ5_clear_1 14 rfl rfl)
theorem dJ5_clear_41 : decode cJ5_clear 41 = .ok (.putfield 18, 3) := dk_181 0 18 (dk_at dksJ5_clear_1 17 rfl rfl)
theorem dJ5_clear_44 : decode cJ5_clear 44 = .ok (.aload_n 0, 1) := dk_42 (dk_at dksJ5_clear_1 20 rfl rfl)
theorem dJ5_clear_45 : decode cJ5_clear 45 = .ok (.iconst 0, 1) := dk_3 (dk_at dksJ5_clear_1 21 rfl rfl)
theorem dJ5_clear_46 : decode cJ5_clear 46 = .ok (.putfield 7, 3) := dk_181 0 7 (dk_at dksJ5_clear_2 0 rfl rfl)
theorem dJ5_clear_49 : decode cJ5_clear 49 = .ok (.aload_n 0, 1) := dk_42 (dk_at dksJ5_clear_2 3 rfl rfl)
theorem dJ5_clear_50 : decode cJ5_clear 50 = .ok (.dup, 1) := dk_89 (dk_at dksJ5_clear_2 4 rfl rfl)
theorem dJ5_clear_51 : decode cJ5_clear 51 = .ok (.getfield 33, 3) := dk_180 0 33 (dk_at dksJ5_clear_2 5 rfl rfl)
theorem dJ5_clear_54 : decode cJ5_clear 54 = .ok (.iconst 1, 1) := dk_4 (dk_at dksJ5_clear_2 8 rfl rfl)
theorem dJ5_clear_55 : decode cJ5_clear 55 = .ok (.iadd, 1) := dk_96 (dk_at dksJ5_clear_2 9 rfl rfl)
theorem dJ5_clear_56 : decode cJ5_clear 56 = .ok (.putfield 33, 3) := dk_181 0 33 (dk_at dksJ5_clear_2 10 rfl rfl)
theorem dJ5_clear_59 : decode cJ5_clear 59 = .ok (.return_, 1) := dk_177 (dk_at dksJ5_clear_2 13 rfl rfl)
abbrev cJ5_size : ByteArray := prog_59_method_16_code
def yJ5_size : MethodName := ⟨RJ5, "size", "()I"⟩
theorem dJ5_size_0 : decode cJ5_size 0 = .ok (.aload_n 0, 1) := by decide +kernel
theorem dJ5_size_1 : decode cJ5_size 1 = .ok (.getfield 7, 3) := by decide +kernel
theorem dJ5_size_4 : decode cJ5_size 4 = .ok (.ireturn, 1) := by decide +kernel
abbrev cJ5_get : ByteArray := prog_59_method_22_code
def yJ5_get : MethodName := ⟨RJ5, "get", "(I)Ljava/lang/Object;"⟩
def dkwJ5_get_0 : List UInt8 := [42, 27, 182, 0, 90, 42, 27, 182, 0, 86, 180, 0, 39, 176]
abbrev dktJ5_get_0 : List UInt8 := dkwJ5_get_0 ++ []
theorem dksJ5_get_0 : cJ5_get.data.toList.drop 0 = dktJ5_get_0 := by decide +kernel
theorem dJ5_get_0 : decode cJ5_get 0 = .ok (.aload_n 0, 1) := dk_42 (dk_at dksJ5_get_0 0 rfl rfl)
theorem dJ5_get_1 : decode cJ5_get 1 = .ok (.iload_n 1, 1) := dk_27 (dk_at dksJ5_get_0 1 rfl rfl)
theorem dJ5_get_2 : decode cJ5_get 2 = .ok (.invokevirtual 90, 3) := dk_182 0 90 (dk_at dksJ5_get_0 2 rfl rfl)
theorem dJ5_get_5 : decode cJ5_get 5 = .ok (.aload_n 0, 1) := dk_42 (dk_at dksJ5_get_0 5 rfl rfl)
theorem dJ5_get_6 : decode cJ5_get 6 = .ok (.iload_n 1, 1) := dk_27 (dk_at dksJ5_get_0 6 rfl rfl)
theorem dJ5_get_7 : decode cJ5_get 7 = .ok (.invokevirtual 86, 3) := dk_182 0 86 (dk_at dksJ5_get_0 7 rfl rfl)
theorem dJ5_get_10 : decode cJ5_get 10 = .ok (.getfield 39, 3) := dk_180 0 39 (dk_at dksJ5_get_0 10 rfl rfl)
theorem dJ5_get_13 : decode cJ5_get 13 = .ok (.areturn, 1) := dk_176 (dk_at dksJ5_get_0 13 rfl rfl)
abbrev cJ5_checkElementIndex : ByteArray := prog_59_method_29_code
def yJ5_checkElementIndex : MethodName := ⟨RJ5, "checkElementIndex", "(I)V"⟩
def dkwJ5_checkElementIndex_0 : List UInt8 := [42, 27, 182, 0, 115, 154, 0, 16, 187, 0, 119, 89, 42, 27, 182, 0, 121, 183, 0, 125, 191, 177]
abbrev dktJ5_checkElementIndex_0 : List UInt8 := dkwJ5_checkElementIndex_0 ++ []
theorem dksJ5_checkElementIndex_0 : cJ5_checkElementIndex.data.toList.drop 0 = dktJ5_checkElementIndex_0 := by decide +kernel
theorem dJ5_checkElementIndex_0 : decode cJ5_checkElementIndex 0 = .ok (.aload_n 0, 1) := dk_42 (dk_at dksJ5_checkElementIndex_0 0 rfl rfl)
theorem dJ5_checkElementIndex_1 : decode cJ5_checkElementIndex 1 = .ok (.iload_n 1, 1) := dk_27 (dk_at dksJ5_checkElementIndex_0 1 rfl rfl)
theorem dJ5_checkElementIndex_2 : decode cJ5_checkElementIndex 2 = .ok (.invokevirtual 115, 3) := dk_182 0 115 (dk_at dksJ5_checkElementIndex_0 2 rfl rfl)
theorem dJ5_checkElementIndex_5 : decode cJ5_checkElementIndex 5 = .ok (.ifCond .ne 16, 3) := dk_154 0 16 (dk_at dksJ5_checkElementIndex_0 5 rfl rfl)
theorem dJ5_checkElementIndex_8 : decode cJ5_checkElementIndex 8 = .ok (.new 119, 3) := dk_187 0 119 (dk_at dksJ5_checkElementIndex_0 8 rfl rfl)
theorem dJ5_checkElementIndex_11 : decode cJ5_checkElementIndex 11 = .ok (.dup, 1) := dk_89 (dk_at dksJ5_checkElementIndex_0 11 rfl rfl)
theorem dJ5_checkElementIndex_12 : decode cJ5_checkElementIndex 12 = .ok (.aload_n 0, 1) := dk_42 (dk_at dksJ5_checkElementIndex_0 12 rfl rfl)
theorem dJ5_checkElementIndex_13 : decode cJ5_checkElementIndex 13 = .ok (.iload_n 1, 1) := dk_27 (dk_at dksJ5_checkElementIndex_0 13 rfl rfl)
theorem dJ5_checkElementIndex_14 : decode cJ5_checkElementIndex 14 = .ok (.invokevirtual 121, 3) := dk_182 0 121 (dk_at dksJ5_checkElementIndex_0 14 rfl rfl)
theorem dJ5_checkElementIndex_17 : decode cJ5_checkElementIndex 17 = .ok (.invokespecial 125, 3) := dk_183 0 125 (dk_at dksJ5_checkElementIndex_0 17 rfl rfl)
theorem dJ5_checkElementIndex_20 : decode cJ5_checkElementIndex 20 = .ok (.athrow, 1) := dk_191 (dk_at dksJ5_checkElementIndex_0 20 rfl rfl)
theorem dJ5_checkElementIndex_21 : decode cJ5_checkElementIndex 21 = .ok (.return_, 1) := dk_177 (dk_at dksJ5_checkElementIndex_0 21 rfl rfl)
abbrev cJ5_isElementIndex : ByteArray := prog_59_method_26_code
def yJ5_isElementIndex : MethodName := ⟨RJ5, "isElementIndex", "(I)Z"⟩
def dkwJ5_isElementIndex_0 : List UInt8 := [27, 155, 0, 15, 27, 42, 180, 0, 7, 162, 0, 7, 4, 167, 0, 4, 3, 172]
abbrev dktJ5_isElementIndex_0 : List UInt8 := dkwJ5_isElementIndex_0 ++ []
theorem dksJ5_isElementIndex_0 : cJ5_isElementIndex.data.toList.drop 0 = dktJ5_isElementIndex_0 := by decide +kernel
theorem dJ5_isElementIndex_0 : decode cJ5_isElementIndex 0 = .ok (.iload_n 1, 1) := dk_27 (dk_at dksJ5_isElementIndex_0 0 rfl rfl)
theorem dJ5_isElementIndex_1 : decode cJ5_isElementIndex 1 = .ok (.ifCond .lt 15, 3) := dk_155 0 15 (dk_at dksJ5_isElementIndex_0 1 rfl rfl)
theorem dJ5_isElementIndex_4 : decode cJ5_isElementIndex 4 = .ok (.iload_n 1, 1) := dk_27 (dk_at dksJ5_isElementIndex_0 4 rfl rfl)
theorem dJ5_isElementIndex_5 : decode cJ5_isElementIndex 5 = .ok (.aload_n 0, 1) := dk_42 (dk_at dksJ5_isElementIndex_0 5 rfl rfl)
theorem dJ5_isElementIndex_6 : decode cJ5_isElementIndex 6 = .ok (.getfield 7, 3) := dk_180 0 7 (dk_at dksJ5_isElementIndex_0 6 rfl rfl)
theorem dJ5_isElementIndex_9 : decode cJ5_isElementIndex 9 = .ok (.if_icmp .ge 7, 3) := dk_162 0 7 (dk_at dksJ5_isElementIndex_0 9 rfl rfl)
theorem dJ5_isElementIndex_12 : decode cJ5_isElementIndex 12 = .ok (.iconst 1, 1) := dk_4 (dk_at dksJ5_isElementIndex_0 12 rfl rfl)
theorem dJ5_isElementIndex_13 : decode cJ5_isElementIndex 13 = .ok (.goto 4, 3) := dk_167 0 4 (dk_at dksJ5_isElementIndex_0 13 rfl rfl)
theorem dJ5_isElementIndex_16 : decode cJ5_isElementIndex 16 = .ok (.iconst 0, 1) := dk_3 (dk_at dksJ5_isElementIndex_0 16 rfl rfl)
theorem dJ5_isElementIndex_17 : decode cJ5_isElementIndex 17 = .ok (.ireturn, 1) := dk_172 (dk_at dksJ5_isElementIndex_0 17 rfl rfl)
abbrev cJ5_outOfBoundsMsg : ByteArray := prog_59_method_28_code
def yJ5_outOfBoundsMsg : MethodName := ⟨RJ5, "outOfBoundsMsg", "(I)Ljava/lang/String;"⟩
def dkwJ5_outOfBoundsMsg_1 : List UInt8 := [180, 0, 7, 182, 0, 106, 182, 0, 111, 176]
abbrev dktJ5_outOfBoundsMsg_1 : List UInt8 := dkwJ5_outOfBoundsMsg_1 ++ []
def dkwJ5_outOfBoundsMsg_0 : List UInt8 := [187, 0, 97, 89, 183, 0, 99, 18, 100, 182, 0, 102, 27, 182, 0, 106, 18, 109, 182, 0, 102, 42]
abbrev dktJ5_outOfBoundsMsg_0 : List UInt8 := dkwJ5_outOfBoundsMsg_0 ++ dktJ5_outOfBoundsMsg_1
theorem dksJ5_outOfBoundsMsg_0 : cJ5_outOfBoundsMsg.data.toList.drop 0 = dktJ5_outOfBoundsMsg_0 := by decide +kernel
theorem dksJ5_outOfBoundsMsg_1 : cJ5_outOfBoundsMsg.data.toList.drop 22 = dktJ5_outOfBoundsMsg_1 := dk_seg dksJ5_outOfBoundsMsg_0 22 rfl rfl
theorem dJ5_outOfBoundsMsg_0 : decode cJ5_outOfBoundsMsg 0 = .ok (.new 97, 3) := dk_187 0 97 (dk_at dksJ5_outOfBoundsMsg_0 0 rfl rfl)
theorem dJ5_outOfBoundsMsg_3 : decode cJ5_outOfBoundsMsg 3 = .ok (.dup, 1) := dk_89 (dk_at dksJ5_outOfBoundsMsg_0 3 rfl rfl)
theorem dJ5_outOfBoundsMsg_4 : decode cJ5_outOfBoundsMsg 4 = .ok (.invokespecial 99, 3) := dk_183 0 99 (dk_at dksJ5_outOfBoundsMsg_0 4 rfl rfl)
theorem dJ5_outOfBoundsMsg_7 : decode cJ5_outOfBoundsMsg 7 = .ok (.ldc 100, 2) := dk_18 100 (dk_at dksJ5_outOfBoundsMsg_0 7 rfl rfl)
theorem dJ5_outOfBoundsMsg_9 : decode cJ5_outOfBoundsMsg 9 = .ok (.invokevirtual 102, 3) := dk_182 0 102 (dk_at dksJ5_outOfBoundsMsg_0 9 rfl rfl)
theorem dJ5_outOfBoundsMsg_12 : decode cJ5_outOfBoundsMsg 12 = .ok (.iload_n 1, 1) := dk_27 (dk_at dksJ5_outOfBoundsMsg_0 12 rfl rfl)
theorem dJ5_outOfBoundsMsg_13 : decode cJ5_outOfBoundsMsg 13 = .ok (.invokevirtual 106, 3) := dk_182 0 106 (dk_at dksJ5_outOfBoundsMsg_0 13 rfl rfl)
theorem dJ5_outOfBoundsMsg_16 : decode cJ5_outOfBoundsMsg 16 = .ok (.ldc 109, 2) := dk_18 109 (dk_at dksJ5_outOfBoundsMsg_0 16 rfl rfl)
theorem dJ5_outOfBoundsMsg_18 : decode cJ5_outOfBoundsMsg 18 = .ok (.invokevirtual 102, 3) := dk_182 0 102 (dk_at dksJ5_outOfBoundsMsg_0 18 rfl rfl)
theorem dJ5_outOfBoundsMsg_21 : decode cJ5_outOfBoundsMsg 21 = .ok (.aload_n 0, 1) := dk_42 (dk_at dksJ5_outOfBoundsMsg_0 21 rfl rfl)
theorem dJ5_outOfBoundsMsg_22 : decode cJ5_outOfBoundsMsg 22 = .ok (.getfield 7, 3) := dk_180 0 7 (dk_at dksJ5_outOfBoundsMsg_1 0 rfl rfl)
theorem dJ5_outOfBoundsMsg_25 : decode cJ5_outOfBoundsMsg 25 = .ok (.invokevirtual 106, 3) := dk_182 0 106 (dk_at dksJ5_outOfBoundsMsg_1 3 rfl rfl)
theorem dJ5_outOfBoundsMsg_28 : decode cJ5_outOfBoundsMsg 28 = .ok (.invokevirtual 111, 3) := dk_182 0 111 (dk_at dksJ5_outOfBoundsMsg_1 6 rfl rfl)
theorem dJ5_outOfBoundsMsg_31 : decode cJ5_outOfBoundsMsg 31 = .ok (.areturn, 1) := dk_176 (dk_at dksJ5_outOfBoundsMsg_1 9 rfl rfl)
abbrev cJ5_node : ByteArray := prog_59_method_31_code
def yJ5_node : MethodName := ⟨RJ5, "node", "(I)Ljava/util/LinkedList$Node;"⟩
def dkwJ5_node_2 : List UInt8 := [29, 27, 164, 0, 14, 44, 180, 0, 30, 77, 132, 3, 255, 167, 255, 243, 44, 176]
abbrev dktJ5_node_2 : List UInt8 := dkwJ5_node_2 ++ []
def dkwJ5_node_1 : List UInt8 := [180, 0, 36, 77, 132, 3, 1, 167, 255, 243, 44, 176, 42, 180, 0, 27, 77, 42, 180, 0, 7, 4, 100, 62]
abbrev dktJ5_node_1 : List UInt8 := dkwJ5_node_1 ++ dktJ5_node_2
def dkwJ5_node_0 : List UInt8 := [27, 42, 180, 0, 7, 4, 122, 162, 0, 28, 42, 180, 0, 18, 77, 3, 62, 29, 27, 162, 0, 14, 44]
abbrev dktJ5_node_0 : List UInt8 := dkwJ5_node_0 ++ dktJ5_node_1
theorem dksJ5_node_0 : cJ5_node.data.toList.drop 0 = dktJ5_node_0 := by decide +kernel
theorem dksJ5_node_1 : cJ5_node.data.toList.drop 23 = dktJ5_node_1 := dk_seg dksJ5_node_0 23 rfl rfl
theorem dksJ5_node_2 : cJ5_node.data.toList.drop 47 = dktJ5_node_2 := dk_seg dksJ5_node_1 24 rfl rfl
theorem dJ5_node_0 : decode cJ5_node 0 = .ok (.iload_n 1, 1) := dk_27 (dk_at dksJ5_node_0 0 rfl rfl)
theorem dJ5_node_1 : decode cJ5_node 1 = .ok (.aload_n 0, 1) := dk_42 (dk_at dksJ5_node_0 1 rfl rfl)
theorem dJ5_node_2 : decode cJ5_node 2 = .ok (.getfield 7, 3) := dk_180 0 7 (dk_at dksJ5_node_0 2 rfl rfl)
theorem dJ5_node_5 : decode cJ5_node 5 = .ok (.iconst 1, 1) := dk_4 (dk_at dksJ5_node_0 5 rfl rfl)
theorem dJ5_node_6 : decode cJ5_node 6 = .ok (.ishr, 1) := dk_122 (dk_at dksJ5_node_0 6 rfl rfl)
theorem dJ5_node_7 : decode cJ5_node 7 = .ok (.if_icmp .ge 28, 3) := dk_162 0 28 (dk_at dksJ5_node_0 7 rfl rfl)
theorem dJ5_node_10 : decode cJ5_node 10 = .ok (.aload_n 0, 1) := dk_42 (dk_at dksJ5_node_0 10 rfl rfl)
theorem dJ5_node_11 : decode cJ5_node 11 = .ok (.getfield 18, 3) := dk_180 0 18 (dk_at dksJ5_node_0 11 rfl rfl)
theorem dJ5_node_14 : decode cJ5_node 14 = .ok (.astore_n 2, 1) := dk_77 (dk_at dksJ5_node_0 14 rfl rfl)
theorem dJ5_node_15 : decode cJ5_node 15 = .ok (.iconst 0, 1) := dk_3 (dk_at dksJ5_node_0 15 rfl rfl)
theorem dJ5_node_16 : decode cJ5_node 16 = .ok (.istore_n 3, 1) := dk_62 (dk_at dksJ5_node_0 16 rfl rfl)
theorem dJ5_node_17 : decode cJ5_node 17 = .ok (.iload_n 3, 1) := dk_29 (dk_at dksJ5_node_0 17 rfl rfl)
theorem dJ5_node_18 : decode cJ5_node 18 = .ok (.iload_n 1, 1) := dk_27 (dk_at dksJ5_node_0 18 rfl rfl)
theorem dJ5_node_19 : decode cJ5_node 19 = .ok (.if_icmp .ge 14, 3) := dk_162 0 14 (dk_at dksJ5_node_0 19 rfl rfl)
theorem dJ5_node_22 : decode cJ5_node 22 = .ok (.aload_n 2, 1) := dk_44 (dk_at dksJ5_node_0 22 rfl rfl)
theorem dJ5_node_23 : decode cJ5_node 23 = .ok (.getfield 36, 3) := dk_180 0 36 (dk_at dksJ5_node_1 0 rfl rfl)
theorem dJ5_node_26 : decode cJ5_node 26 = .ok (.astore_n 2, 1) := dk_77 (dk_at dksJ5_node_1 3 rfl rfl)
theorem dJ5_node_27 : decode cJ5_node 27 = .ok (.iinc 3 1, 3) := dk_132 3 1 (dk_at dksJ5_node_1 4 rfl rfl)
theorem dJ5_node_30 : decode cJ5_node 30 = .ok (.goto (-13), 3) := dk_167 255 243 (dk_at dksJ5_node_1 7 rfl rfl)
theorem dJ5_node_33 : decode cJ5_node 33 = .ok (.aload_n 2, 1) := dk_44 (dk_at dksJ5_node_1 10 rfl rfl)
theorem dJ5_node_34 : decode cJ5_node 34 = .ok (.areturn, 1) := dk_176 (dk_at dksJ5_node_1 11 rfl rfl)
theorem dJ5_node_35 : decode cJ5_node 35 = .ok (.aload_n 0, 1) := dk_42 (dk_at dksJ5_node_1 12 rfl rfl)
theorem dJ5_node_36 : decode cJ5_node 36 = .ok (.getfield 27, 3) := dk_180 0 27 (dk_at dksJ5_node_1 13 rfl rfl)
theorem dJ5_node_39 : decode cJ5_node 39 = .ok (.astore_n 2, 1) := dk_77 (dk_at dksJ5_node_1 16 rfl rfl)
theorem dJ5_node_40 : decode cJ5_node 40 = .ok (.aload_n 0, 1) := dk_42 (dk_at dksJ5_node_1 17 rfl rfl)
theorem dJ5_node_41 : decode cJ5_node 41 = .ok (.getfield 7, 3) := dk_180 0 7 (dk_at dksJ5_node_1 18 rfl rfl)
theorem dJ5_node_44 : decode cJ5_node 44 = .ok (.iconst 1, 1) := dk_4 (dk_at dksJ5_node_1 21 rfl rfl)
theorem dJ5_node_45 : decode cJ5_node 45 = .ok (.isub, 1) := dk_100 (dk_at dksJ5_node_1 22 rfl rfl)
theorem dJ5_node_46 : decode cJ5_node 46 = .ok (.istore_n 3, 1) := dk_62 (dk_at dksJ5_node_1 23 rfl rfl)
theorem dJ5_node_47 : decode cJ5_node 47 = .ok (.iload_n 3, 1) := dk_29 (dk_at dksJ5_node_2 0 rfl rfl)
theorem dJ5_node_48 : decode cJ5_node 48 = .ok (.iload_n 1, 1) := dk_27 (dk_at dksJ5_node_2 1 rfl rfl)
theorem dJ5_node_49 : decode cJ5_node 49 = .ok (.if_icmp .le 14, 3) := dk_164 0 14 (dk_at dksJ5_node_2 2 rfl rfl)
theorem dJ5_node_52 : decode cJ5_node 52 = .ok (.aload_n 2, 1) := dk_44 (dk_at dksJ5_node_2 5 rfl rfl)
theorem dJ5_node_53 : decode cJ5_node 53 = .ok (.getfield 30, 3) := dk_180 0 30 (dk_at dksJ5_node_2 6 rfl rfl)
theorem dJ5_node_56 : decode cJ5_node 56 = .ok (.astore_n 2, 1) := dk_77 (dk_at dksJ5_node_2 9 rfl rfl)
theorem dJ5_node_57 : decode cJ5_node 57 = .ok (.iinc 3 (-1), 3) := dk_132 3 255 (dk_at dksJ5_node_2 10 rfl rfl)
theorem dJ5_node_60 : decode cJ5_node 60 = .ok (.goto (-13), 3) := dk_167 255 243 (dk_at dksJ5_node_2 13 rfl rfl)
theorem dJ5_node_63 : decode cJ5_node 63 = .ok (.aload_n 2, 1) := dk_44 (dk_at dksJ5_node_2 16 rfl rfl)
theorem dJ5_node_64 : decode cJ5_node 64 = .ok (.areturn, 1) := dk_176 (dk_at dksJ5_node_2 17 rfl rfl)
abbrev cJ5_addLast : ByteArray := prog_59_method_14_code
def yJ5_addLast : MethodName := ⟨RJ5, "addLast", "(Ljava/lang/Object;)V"⟩
def dkwJ5_addLast_0 : List UInt8 := [42, 43, 182, 0, 57, 177]
abbrev dktJ5_addLast_0 : List UInt8 := dkwJ5_addLast_0 ++ []
theorem dksJ5_addLast_0 : cJ5_addLast.data.toList.drop 0 = dktJ5_addLast_0 := by decide +kernel
theorem dJ5_addLast_0 : decode cJ5_addLast 0 = .ok (.aload_n 0, 1) := dk_42 (dk_at dksJ5_addLast_0 0 rfl rfl)
theorem dJ5_addLast_1 : decode cJ5_addLast 1 = .ok (.aload_n 1, 1) := dk_43 (dk_at dksJ5_addLast_0 1 rfl rfl)
theorem dJ5_addLast_2 : decode cJ5_addLast 2 = .ok (.invokevirtual 57, 3) := dk_182 0 57 (dk_at dksJ5_addLast_0 2 rfl rfl)
theorem dJ5_addLast_5 : decode cJ5_addLast 5 = .ok (.return_, 1) := dk_177 (dk_at dksJ5_addLast_0 5 rfl rfl)
abbrev cJ5_listIterator : ByteArray := prog_59_method_49_code
def yJ5_listIterator : MethodName := ⟨RJ5, "listIterator", "(I)Ljava/util/ListIterator;"⟩
def dkwJ5_listIterator_0 : List UInt8 := [42, 27, 182, 0, 76, 187, 0, 150, 89, 42, 27, 183, 0, 152, 176]
abbrev dktJ5_listIterator_0 : List UInt8 := dkwJ5_listIterator_0 ++ []
theorem dksJ5_listIterator_0 : cJ5_listIterator.data.toList.drop 0 = dktJ5_listIterator_0 := by decide +kernel
theorem dJ5_listIterator_0 : decode cJ5_listIterator 0 = .ok (.aload_n 0, 1) := dk_42 (dk_at dksJ5_listIterator_0 0 rfl rfl)
theorem dJ5_listIterator_1 : decode cJ5_listIterator 1 = .ok (.iload_n 1, 1) := dk_27 (dk_at dksJ5_listIterator_0 1 rfl rfl)
theorem dJ5_listIterator_2 : decode cJ5_listIterator 2 = .ok (.invokevirtual 76, 3) := dk_182 0 76 (dk_at dksJ5_listIterator_0 2 rfl rfl)
theorem dJ5_listIterator_5 : decode cJ5_listIterator 5 = .ok (.new 150, 3) := dk_187 0 150 (dk_at dksJ5_listIterator_0 5 rfl rfl)
theorem dJ5_listIterator_8 : decode cJ5_listIterator 8 = .ok (.dup, 1) := dk_89 (dk_at dksJ5_listIterator_0 8 rfl rfl)
theorem dJ5_listIterator_9 : decode cJ5_listIterator 9 = .ok (.aload_n 0, 1) := dk_42 (dk_at dksJ5_listIterator_0 9 rfl rfl)
theorem dJ5_listIterator_10 : decode cJ5_listIterator 10 = .ok (.iload_n 1, 1) := dk_27 (dk_at dksJ5_listIterator_0 10 rfl rfl)
theorem dJ5_listIterator_11 : decode cJ5_listIterator 11 = .ok (.invokespecial 152, 3) := dk_183 0 152 (dk_at dksJ5_listIterator_0 11 rfl rfl)
theorem dJ5_listIterator_14 : decode cJ5_listIterator 14 = .ok (.areturn, 1) := dk_176 (dk_at dksJ5_listIterator_0 14 rfl rfl)
abbrev cJ5_checkPositionIndex : ByteArray := prog_59_method_30_code
def yJ5_checkPositionIndex : MethodName := ⟨RJ5, "checkPositionIndex", "(I)V"⟩
def dkwJ5_checkPositionIndex_0 : List UInt8 := [42, 27, 182, 0, 128, 154, 0, 16, 187, 0, 119, 89, 42, 27, 182, 0, 121, 183, 0, 125, 191, 177]
abbrev dktJ5_checkPositionIndex_0 : List UInt8 := dkwJ5_checkPositionIndex_0 ++ []
theorem dksJ5_checkPositionIndex_0 : cJ5_checkPositionIndex.data.toList.drop 0 = dktJ5_checkPositionIndex_0 := by decide +kernel
theorem dJ5_checkPositionIndex_0 : decode cJ5_checkPositionIndex 0 = .ok (.aload_n 0, 1) := dk_42 (dk_at dksJ5_checkPositionIndex_0 0 rfl rfl)
theorem dJ5_checkPositionIndex_1 : decode cJ5_checkPositionIndex 1 = .ok (.iload_n 1, 1) := dk_27 (dk_at dksJ5_checkPositionIndex_0 1 rfl rfl)
theorem dJ5_checkPositionIndex_2 : decode cJ5_checkPositionIndex 2 = .ok (.invokevirtual 128, 3) := dk_182 0 128 (dk_at dksJ5_checkPositionIndex_0 2 rfl rfl)
theorem dJ5_checkPositionIndex_5 : decode cJ5_checkPositionIndex 5 = .ok (.ifCond .ne 16, 3) := dk_154 0 16 (dk_at dksJ5_checkPositionIndex_0 5 rfl rfl)
theorem dJ5_checkPositionIndex_8 : decode cJ5_checkPositionIndex 8 = .ok (.new 119, 3) := dk_187 0 119 (dk_at dksJ5_checkPositionIndex_0 8 rfl rfl)
theorem dJ5_checkPositionIndex_11 : decode cJ5_checkPositionIndex 11 = .ok (.dup, 1) := dk_89 (dk_at dksJ5_checkPositionIndex_0 11 rfl rfl)
theorem dJ5_checkPositionIndex_12 : decode cJ5_checkPositionIndex 12 = .ok (.aload_n 0, 1) := dk_42 (dk_at dksJ5_checkPositionIndex_0 12 rfl rfl)
theorem dJ5_checkPositionIndex_13 : decode cJ5_checkPositionIndex 13 = .ok (.iload_n 1, 1) := dk_27 (dk_at dksJ5_checkPositionIndex_0 13 rfl rfl)
theorem dJ5_checkPositionIndex_14 : decode cJ5_checkPositionIndex 14 = .ok (.invokevirtual 121, 3) := dk_182 0 121 (dk_at dksJ5_checkPositionIndex_0 14 rfl rfl)
theorem dJ5_checkPositionIndex_17 : decode cJ5_checkPositionIndex 17 = .ok (.invokespecial 125, 3) := dk_183 0 125 (dk_at dksJ5_checkPositionIndex_0 17 rfl rfl)
theorem dJ5_checkPositionIndex_20 : decode cJ5_checkPositionIndex 20 = .ok (.athrow, 1) := dk_191 (dk_at dksJ5_checkPositionIndex_0 20 rfl rfl)
theorem dJ5_checkPositionIndex_21 : decode cJ5_checkPositionIndex 21 = .ok (.return_, 1) := dk_177 (dk_at dksJ5_checkPositionIndex_0 21 rfl rfl)
abbrev cJ5_isPositionIndex : ByteArray := prog_59_method_27_code
def yJ5_isPositionIndex : MethodName := ⟨RJ5, "isPositionIndex", "(I)Z"⟩
def dkwJ5_isPositionIndex_0 : List UInt8 := [27, 155, 0, 15, 27, 42, 180, 0, 7, 163, 0, 7, 4, 167, 0, 4, 3, 172]
abbrev dktJ5_isPositionIndex_0 : List UInt8 := dkwJ5_isPositionIndex_0 ++ []
theorem dksJ5_isPositionIndex_0 : cJ5_isPositionIndex.data.toList.drop 0 = dktJ5_isPositionIndex_0 := by decide +kernel
theorem dJ5_isPositionIndex_0 : decode cJ5_isPositionIndex 0 = .ok (.iload_n 1, 1) := dk_27 (dk_at dksJ5_isPositionIndex_0 0 rfl rfl)
theorem dJ5_isPositionIndex_1 : decode cJ5_isPositionIndex 1 = .ok (.ifCond .lt 15, 3) := dk_155 0 15 (dk_at dksJ5_isPositionIndex_0 1 rfl rfl)
theorem dJ5_isPositionIndex_4 : decode cJ5_isPositionIndex 4 = .ok (.iload_n 1, 1) := dk_27 (dk_at dksJ5_isPositionIndex_0 4 rfl rfl)
theorem dJ5_isPositionIndex_5 : decode cJ5_isPositionIndex 5 = .ok (.aload_n 0, 1) := dk_42 (dk_at dksJ5_isPositionIndex_0 5 rfl rfl)
theorem dJ5_isPositionIndex_6 : decode cJ5_isPositionIndex 6 = .ok (.getfield 7, 3) := dk_180 0 7 (dk_at dksJ5_isPositionIndex_0 6 rfl rfl)
theorem dJ5_isPositionIndex_9 : decode cJ5_isPositionIndex 9 = .ok (.if_icmp .gt 7, 3) := dk_163 0 7 (dk_at dksJ5_isPositionIndex_0 9 rfl rfl)
theorem dJ5_isPositionIndex_12 : decode cJ5_isPositionIndex 12 = .ok (.iconst 1, 1) := dk_4 (dk_at dksJ5_isPositionIndex_0 12 rfl rfl)
theorem dJ5_isPositionIndex_13 : decode cJ5_isPositionIndex 13 = .ok (.goto 4, 3) := dk_167 0 4 (dk_at dksJ5_isPositionIndex_0 13 rfl rfl)
theorem dJ5_isPositionIndex_16 : decode cJ5_isPositionIndex 16 = .ok (.iconst 0, 1) := dk_3 (dk_at dksJ5_isPositionIndex_0 16 rfl rfl)
theorem dJ5_isPositionIndex_17 : decode cJ5_isPositionIndex 17 = .ok (.ireturn, 1) := dk_172 (dk_at dksJ5_isPositionIndex_0 17 rfl rfl)
abbrev cJ5_getFirst : ByteArray := prog_59_method_9_code
def yJ5_getFirst : MethodName := ⟨RJ5, "getFirst", "()Ljava/lang/Object;"⟩
def dkwJ5_getFirst_0 : List UInt8 := [42, 180, 0, 18, 76, 43, 199, 0, 11, 187, 0, 43, 89, 183, 0, 45, 191, 43, 180, 0, 39, 176]
abbrev dktJ5_getFirst_0 : List UInt8 := dkwJ5_getFirst_0 ++ []
theorem dksJ5_getFirst_0 : cJ5_getFirst.data.toList.drop 0 = dktJ5_getFirst_0 := by decide +kernel
theorem dJ5_getFirst_0 : decode cJ5_getFirst 0 = .ok (.aload_n 0, 1) := dk_42 (dk_at dksJ5_getFirst_0 0 rfl rfl)
theorem dJ5_getFirst_1 : decode cJ5_getFirst 1 = .ok (.getfield 18, 3) := dk_180 0 18 (dk_at dksJ5_getFirst_0 1 rfl rfl)
theorem dJ5_getFirst_4 : decode cJ5_getFirst 4 = .ok (.astore_n 1, 1) := dk_76 (dk_at dksJ5_getFirst_0 4 rfl rfl)
theorem dJ5_getFirst_5 : decode cJ5_getFirst 5 = .ok (.aload_n 1, 1) := dk_43 (dk_at dksJ5_getFirst_0 5 rfl rfl)
theorem dJ5_getFirst_6 : decode cJ5_getFirst 6 = .ok (.ifnonnull 11, 3) := dk_199 0 11 (dk_at dksJ5_getFirst_0 6 rfl rfl)
theorem dJ5_getFirst_9 : decode cJ5_getFirst 9 = .ok (.new 43, 3) := dk_187 0 43 (dk_at dksJ5_getFirst_0 9 rfl rfl)
theorem dJ5_getFirst_12 : decode cJ5_getFirst 12 = .ok (.dup, 1) := dk_89 (dk_at dksJ5_getFirst_0 12 rfl rfl)
theorem dJ5_getFirst_13 : decode cJ5_getFirst 13 = .ok (.invokespecial 45, 3) := dk_183 0 45 (dk_at dksJ5_getFirst_0 13 rfl rfl)
theorem dJ5_getFirst_16 : decode cJ5_getFirst 16 = .ok (.athrow, 1) := dk_191 (dk_at dksJ5_getFirst_0 16 rfl rfl)
theorem dJ5_getFirst_17 : decode cJ5_getFirst 17 = .ok (.aload_n 1, 1) := dk_43 (dk_at dksJ5_getFirst_0 17 rfl rfl)
theorem dJ5_getFirst_18 : decode cJ5_getFirst 18 = .ok (.getfield 39, 3) := dk_180 0 39 (dk_at dksJ5_getFirst_0 18 rfl rfl)
theorem dJ5_getFirst_21 : decode cJ5_getFirst 21 = .ok (.areturn, 1) := dk_176 (dk_at dksJ5_getFirst_0 21 rfl rfl)
abbrev cJ5_removeFirst : ByteArray := prog_59_method_11_code
def yJ5_removeFirst : MethodName := ⟨RJ5, "removeFirst", "()Ljava/lang/Object;"⟩
def dkwJ5_removeFirst_0 : List UInt8 := [42, 180, 0, 18, 76, 43, 199, 0, 11, 187, 0, 43, 89, 183, 0, 45, 191, 42, 43, 182, 0, 46, 176]
abbrev dktJ5_removeFirst_0 : List UInt8 := dkwJ5_removeFirst_0 ++ []
theorem dksJ5_removeFirst_0 : cJ5_removeFirst.data.toList.drop 0 = dktJ5_removeFirst_0 := by decide +kernel
theorem dJ5_removeFirst_0 : decode cJ5_removeFirst 0 = .ok (.aload_n 0, 1) := dk_42 (dk_at dksJ5_removeFirst_0 0 rfl rfl)
theorem dJ5_removeFirst_1 : decode cJ5_removeFirst 1 = .ok (.getfield 18, 3) := dk_180 0 18 (dk_at dksJ5_removeFirst_0 1 rfl rfl)
theorem dJ5_removeFirst_4 : decode cJ5_removeFirst 4 = .ok (.astore_n 1, 1) := dk_76 (dk_at dksJ5_removeFirst_0 4 rfl rfl)
theorem dJ5_removeFirst_5 : decode cJ5_removeFirst 5 = .ok (.aload_n 1, 1) := dk_43 (dk_at dksJ5_removeFirst_0 5 rfl rfl)
theorem dJ5_removeFirst_6 : decode cJ5_removeFirst 6 = .ok (.ifnonnull 11, 3) := dk_199 0 11 (dk_at dksJ5_removeFirst_0 6 rfl rfl)
theorem dJ5_removeFirst_9 : decode cJ5_removeFirst 9 = .ok (.new 43, 3) := dk_187 0 43 (dk_at dksJ5_removeFirst_0 9 rfl rfl)
theorem dJ5_removeFirst_12 : decode cJ5_removeFirst 12 = .ok (.dup, 1) := dk_89 (dk_at dksJ5_removeFirst_0 12 rfl rfl)
theorem dJ5_removeFirst_13 : decode cJ5_removeFirst 13 = .ok (.invokespecial 45, 3) := dk_183 0 45 (dk_at dksJ5_removeFirst_0 13 rfl rfl)
theorem dJ5_removeFirst_16 : decode cJ5_removeFirst 16 = .ok (.athrow, 1) := dk_191 (dk_at dksJ5_removeFirst_0 16 rfl rfl)
theorem dJ5_removeFirst_17 : decode cJ5_removeFirst 17 = .ok (.aload_n 0, 1) := dk_42 (dk_at dksJ5_removeFirst_0 17 rfl rfl)
theorem dJ5_removeFirst_18 : decode cJ5_removeFirst 18 = .ok (.aload_n 1, 1) := dk_43 (dk_at dksJ5_removeFirst_0 18 rfl rfl)
theorem dJ5_removeFirst_19 : decode cJ5_removeFirst 19 = .ok (.invokevirtual 46, 3) := dk_182 0 46 (dk_at dksJ5_removeFirst_0 19 rfl rfl)
theorem dJ5_removeFirst_22 : decode cJ5_removeFirst 22 = .ok (.areturn, 1) := dk_176 (dk_at dksJ5_removeFirst_0 22 rfl rfl)
abbrev cJ5_unlinkFirst : ByteArray := prog_59_method_6_code
def yJ5_unlinkFirst : MethodName := ⟨RJ5, "unlinkFirst", "(Ljava/util/LinkedList$Node;)Ljava/lang/Object;"⟩
def dkwJ5_unlinkFirst_2 : List UInt8 := [180, 0, 7, 4, 100, 181, 0, 7, 42, 89, 180, 0, 33, 4, 96, 181, 0, 33, 44, 176]
abbrev dktJ5_unlinkFirst_2 : List UInt8 := dkwJ5_unlinkFirst_2 ++ []
def dkwJ5_unlinkFirst_1 : List UInt8 := [181, 0, 18, 45, 199, 0, 11, 42, 1, 181, 0, 27, 167, 0, 8, 45, 1, 181, 0, 30, 42, 89]
abbrev dktJ5_unlinkFirst_1 : List UInt8 := dkwJ5_unlinkFirst_1 ++ dktJ5_unlinkFirst_2
def dkwJ5_unlinkFirst_0 : List UInt8 := [43, 180, 0, 39, 77, 43, 180, 0, 36, 78, 43, 1, 181, 0, 39, 43, 1, 181, 0, 36, 42, 45]
abbrev dktJ5_unlinkFirst_0 : List UInt8 := dkwJ5_unlinkFirst_0 ++ dktJ5_unlinkFirst_1
theorem dksJ5_unlinkFirst_0 : cJ5_unlinkFirst.data.toList.drop 0 = dktJ5_unlinkFirst_0 := by decide +kernel
theorem dksJ5_unlinkFirst_1 : cJ5_unlinkFirst.data.toList.drop 22 = dktJ5_unlinkFirst_1 := dk_seg dksJ5_unlinkFirst_0 22 rfl rfl
theorem dksJ5_unlinkFirst_2 : cJ5_unlinkFirst.data.toList.drop 44 = dktJ5_unlinkFirst_2 := dk_seg dksJ5_unlinkFirst_1 22 rfl rfl
theorem dJ5_unlinkFirst_0 : decode cJ5_unlinkFirst 0 = .ok (.aload_n 1, 1) := dk_43 (dk_at dksJ5_unlinkFirst_0 0 rfl rfl)
theorem dJ5_unlinkFirst_1 : decode cJ5_unlinkFirst 1 = .ok (.getfield 39, 3) := dk_180 0 39 (dk_at dksJ5_unlinkFirst_0 1 rfl rfl)
theorem dJ5_unlinkFirst_4 : decode cJ5_unlinkFirst 4 = .ok (.astore_n 2, 1) := dk_77 (dk_at dksJ5_unlinkFirst_0 4 rfl rfl)
theorem dJ5_unlinkFirst_5 : decode cJ5_unlinkFirst 5 = .ok (.aload_n 1, 1) := dk_43 (dk_at dksJ5_unlinkFirst_0 5 rfl rfl)
theorem dJ5_unlinkFirst_6 : decode cJ5_unlinkFirst 6 = .ok (.getfield 36, 3) := dk_180 0 36 (dk_at dksJ5_unlinkFirst_0 6 rfl rfl)
theorem dJ5_unlinkFirst_9 : decode cJ5_unlinkFirst 9 = .ok (.astore_n 3, 1) := dk_78 (dk_at dksJ5_unlinkFirst_0 9 rfl rfl)
theorem dJ5_unlinkFirst_10 : decode cJ5_unlinkFirst 10 = .ok (.aload_n 1, 1) := dk_43 (dk_at dksJ5_unlinkFirst_0 10 rfl rfl)
theorem dJ5_unlinkFirst_11 : decode cJ5_unlinkFirst 11 = .ok (.aconst_null, 1) := dk_1 (dk_at dksJ5_unlinkFirst_0 11 rfl rfl)
theorem dJ5_unlinkFirst_12 : decode cJ5_unlinkFirst 12 = .ok (.putfield 39, 3) := dk_181 0 39 (dk_at dksJ5_unlinkFirst_0 12 rfl rfl)
theorem dJ5_unlinkFirst_15 : decode cJ5_unlinkFirst 15 = .ok (.aload_n 1, 1) := dk_43 (dk_at dksJ5_unlinkFirst_0 15 rfl rfl)
theorem dJ5_unlinkFirst_16 : decode cJ5_unlinkFirst 16 = .ok (.aconst_null, 1) := dk_1 (dk_at dksJ5_unlinkFirst_0 16 rfl rfl)
theorem dJ5_unlinkFirst_17 : decode cJ5_unlinkFirst 17 = .ok (.putfield 36, 3) := dk_181 0 36 (dk_at dksJ5_unlinkFirst_0 17 rfl rfl)
theorem dJ5_unlinkFirst_20 : decode cJ5_unlinkFirst 20 = .ok (.aload_n 0, 1) := dk_42 (dk_at dksJ5_unlinkFirst_0 20 rfl rfl)
theorem dJ5_unlinkFirst_21 : decode cJ5_unlinkFirst 21 = .ok (.aload_n 3, 1) := dk_45 (dk_at dksJ5_unlinkFirst_0 21 rfl rfl)
theorem dJ5_unlinkFirst_22 : decode cJ5_unlinkFirst 22 = .ok (.putfield 18, 3) := dk_181 0 18 (dk_at dksJ5_unlinkFirst_1 0 rfl rfl)
theorem dJ5_unlinkFirst_25 : decode cJ5_unlinkFirst 25 = .ok (.aload_n 3, 1) := dk_45 (dk_at dksJ5_unlinkFirst_1 3 rfl rfl)
theorem dJ5_unlinkFirst_26 : decode cJ5_unlinkFirst 26 = .ok (.ifnonnull 11, 3) := dk_199 0 11 (dk_at dksJ5_unlinkFirst_1 4 rfl rfl)
theorem dJ5_unlinkFirst_29 : decode cJ5_unlinkFirst 29 = .ok (.aload_n 0, 1) := dk_42 (dk_at dksJ5_unlinkFirst_1 7 rfl rfl)
theorem dJ5_unlinkFirst_30 : decode cJ5_unlinkFirst 30 = .ok (.aconst_null, 1) := dk_1 (dk_at dksJ5_unlinkFirst_1 8 rfl rfl)
theorem dJ5_unlinkFirst_31 : decode cJ5_unlinkFirst 31 = .ok (.putfield 27, 3) := dk_181 0 27 (dk_at dksJ5_unlinkFirst_1 9 rfl rfl)
theorem dJ5_unlinkFirst_34 : decode cJ5_unlinkFirst 34 = .ok (.goto 8, 3) := dk_167 0 8 (dk_at dksJ5_unlinkFirst_1 12 rfl rfl)
theorem dJ5_unlinkFirst_37 : decode cJ5_unlinkFirst 37 = .ok (.aload_n 3, 1) := dk_45 (dk_at dksJ5_unlinkFirst_1 15 rfl rfl)
theorem dJ5_unlinkFirst_38 : decode cJ5_unlinkFirst 38 = .ok (.aconst_null, 1) := dk_1 (dk_at dksJ5_unlinkFirst_1 16 rfl rfl)
theorem dJ5_unlinkFirst_39 : decode cJ5_unlinkFirst 39 = .ok (.putfield 30, 3) := dk_181 0 30 (dk_at dksJ5_unlinkFirst_1 17 rfl rfl)
theorem dJ5_unlinkFirst_42 : decode cJ5_unlinkFirst 42 = .ok (.aload_n 0, 1) := dk_42 (dk_at dksJ5_unlinkFirst_1 20 rfl rfl)
theorem dJ5_unlinkFirst_43 : decode cJ5_unlinkFirst 43 = .ok (.dup, 1) := dk_89 (dk_at dksJ5_unlinkFirst_1 21 rfl rfl)
theorem dJ5_unlinkFirst_44 : decode cJ5_unlinkFirst 44 = .ok (.getfield 7, 3) := dk_180 0 7 (dk_at dksJ5_unlinkFirst_2 0 rfl rfl)
theorem dJ5_unlinkFirst_47 : decode cJ5_unlinkFirst 47 = .ok (.iconst 1, 1) := dk_4 (dk_at dksJ5_unlinkFirst_2 3 rfl rfl)
theorem dJ5_unlinkFirst_48 : decode cJ5_unlinkFirst 48 = .ok (.isub, 1) := dk_100 (dk_at dksJ5_unlinkFirst_2 4 rfl rfl)
theorem dJ5_unlinkFirst_49 : decode cJ5_unlinkFirst 49 = .ok (.putfield 7, 3) := dk_181 0 7 (dk_at dksJ5_unlinkFirst_2 5 rfl rfl)
theorem dJ5_unlinkFirst_52 : decode cJ5_unlinkFirst 52 = .ok (.aload_n 0, 1) := dk_42 (dk_at dksJ5_unlinkFirst_2 8 rfl rfl)
theorem dJ5_unlinkFirst_53 : decode cJ5_unlinkFirst 53 = .ok (.dup, 1) := dk_89 (dk_at dksJ5_unlinkFirst_2 9 rfl rfl)
theorem dJ5_unlinkFirst_54 : decode cJ5_unlinkFirst 54 = .ok (.getfield 33, 3) := dk_180 0 33 (dk_at dksJ5_unlinkFirst_2 10 rfl rfl)
theorem dJ5_unlinkFirst_57 : decode cJ5_unlinkFirst 57 = .ok (.iconst 1, 1) := dk_4 (dk_at dksJ5_unlinkFirst_2 13 rfl rfl)
theorem dJ5_unlinkFirst_58 : decode cJ5_unlinkFirst 58 = .ok (.iadd, 1) := dk_96 (dk_at dksJ5_unlinkFirst_2 14 rfl rfl)
theorem dJ5_unlinkFirst_59 : decode cJ5_unlinkFirst 59 = .ok (.putfield 33, 3) := dk_181 0 33 (dk_at dksJ5_unlinkFirst_2 15 rfl rfl)
theorem dJ5_unlinkFirst_62 : decode cJ5_unlinkFirst 62 = .ok (.aload_n 2, 1) := dk_44 (dk_at dksJ5_unlinkFirst_2 18 rfl rfl)
theorem dJ5_unlinkFirst_63 : decode cJ5_unlinkFirst 63 = .ok (.areturn, 1) := dk_176 (dk_at dksJ5_unlinkFirst_2 19 rfl rfl)
theorem q41 : (Jvm.Cond.initialized "java/util/LinkedList") ∈ lw_all := lw_g (lw_at lw_m1 8 rfl) rfl
theorem q145 : (Jvm.Cond.sameField "java/util/LinkedList" "java/util/AbstractList" "modCount" "I") ∈ lw_all := lw_g (lw_at lw_m1 112 rfl) rfl
theorem q149 : (Jvm.Cond.fieldLink "java/util/LinkedList" (33 : Nat) "java/util/LinkedList" "modCount" "I") ∈ lw_all := lw_g (lw_at lw_m1 116 rfl) rfl
theorem q218 : (Jvm.Cond.instantiable "java/util/LinkedList" (4 : Nat)) ∈ lw_all := lw_g (lw_at lw_m1 185 rfl) rfl
theorem q220 : (Jvm.Cond.instanceMethod ({ cls := "java/util/LinkedList", name := "<init>", desc := "()V" } : Jvm.MethodName)) ∈ lw_all := lw_g (lw_at lw_m1 187 rfl) rfl
theorem q221 : (Jvm.Cond.code ({ cls := "java/util/LinkedList", name := "<init>", desc := "()V" } : Jvm.MethodName) prog_59_method_1_code (1 : Nat) (Option.none : Option Jvm.ClassFile.FieldType)) ∈ lw_all := lw_g (lw_at lw_m1 188 rfl) rfl
theorem q222 : (Jvm.Cond.methodLink "java/util/LinkedList" (1 : Nat) ({ cls := "java/util/AbstractSequentialList", name := "<init>", desc := "()V" } : Jvm.MethodName)) ∈ lw_all := lw_g (lw_at lw_m1 189 rfl) rfl
theorem q226 : (Jvm.Cond.fieldLink "java/util/LinkedList" (7 : Nat) "java/util/LinkedList" "size" "I") ∈ lw_all := lw_g (lw_at lw_m1 193 rfl) rfl
theorem q228 : (Jvm.Cond.fieldLink "java/util/LinkedList" (18 : Nat) "java/util/LinkedList" "first" "Ljava/util/LinkedList$Node;") ∈ lw_all := lw_g (lw_at lw_m1 195 rfl) rfl
theorem q229 : (Jvm.Cond.fieldLink "java/util/LinkedList" (27 : Nat) "java/util/LinkedList" "last" "Ljava/util/LinkedList$Node;") ∈ lw_all := lw_g (lw_at lw_m1 196 rfl) rfl
theorem q230 : (Jvm.Cond.lays "java/util/LinkedList" "java/util/LinkedList" "size" "I") ∈ lw_all := lw_g (lw_at lw_m1 197 rfl) rfl
theorem q231 : (Jvm.Cond.soleField "java/util/LinkedList" "size") ∈ lw_all := lw_g (lw_at lw_m1 198 rfl) rfl
theorem q232 : (Jvm.Cond.lays "java/util/LinkedList" "java/util/LinkedList" "first" "Ljava/util/LinkedList$Node;") ∈ lw_all := lw_g (lw_at lw_m1 199 rfl) rfl
theorem q233 : (Jvm.Cond.soleField "java/util/LinkedList" "first") ∈ lw_all := lw_g (lw_at lw_m1 200 rfl) rfl
theorem q234 : (Jvm.Cond.lays "java/util/LinkedList" "java/util/LinkedList" "last" "Ljava/util/LinkedList$Node;") ∈ lw_all := lw_g (lw_at lw_m1 201 rfl) rfl
theorem q235 : (Jvm.Cond.soleField "java/util/LinkedList" "last") ∈ lw_all := lw_g (lw_at lw_m1 202 rfl) rfl
theorem q236 : (Jvm.Cond.lays "java/util/LinkedList" "java/util/AbstractList" "modCount" "I") ∈ lw_all := lw_g (lw_at lw_m1 203 rfl) rfl
theorem q237 : (Jvm.Cond.superclass "java/util/LinkedList" "java/util/AbstractSequentialList") ∈ lw_all := lw_g (lw_at lw_m1 204 rfl) rfl
theorem q303 : (Jvm.Cond.selects "java/util/LinkedList" ({ cls := "java/lang/Object", name := "getClass", desc := "()Ljava/lang/Class;" } : Jvm.MethodName) ({ cls := "java/lang/Object", name := "getClass", desc := "()Ljava/lang/Class;" } : Jvm.MethodName)) ∈ lw_all := lw_g (lw_at lw_m2 30 rfl) rfl
theorem q322 : (Jvm.Cond.castable "java/util/LinkedList" "java/util/List") ∈ lw_tbl := lw_at lw_m2 49 rfl
theorem q323 : (Jvm.Cond.selects "java/util/LinkedList" ({ cls := "java/util/List", name := "add", desc := "(Ljava/lang/Object;)Z" } : Jvm.MethodName) ({ cls := "java/util/LinkedList", name := "add", desc := "(Ljava/lang/Object;)Z" } : Jvm.MethodName)) ∈ lw_all := lw_g (lw_at lw_m2 50 rfl) rfl
theorem q324 : (Jvm.Cond.unhidden "java/util/LinkedList" "add" "(Ljava/lang/Object;)Z") ∈ lw_tbl := lw_at lw_m2 51 rfl
theorem q325 : (Jvm.Cond.instanceMethod ({ cls := "java/util/LinkedList", name := "add", desc := "(Ljava/lang/Object;)Z" } : Jvm.MethodName)) ∈ lw_all := lw_g (lw_at lw_m2 52 rfl) rfl
theorem q326 : (Jvm.Cond.publicMethod ({ cls := "java/util/LinkedList", name := "add", desc := "(Ljava/lang/Object;)Z" } : Jvm.MethodName)) ∈ lw_tbl := lw_at lw_m2 53 rfl
theorem q327 : (Jvm.Cond.code ({ cls := "java/util/LinkedList", name := "add", desc := "(Ljava/lang/Object;)Z" } : Jvm.MethodName) prog_59_method_17_code (2 : Nat) (Option.some Jvm.ClassFile.FieldType.boolean)) ∈ lw_all := lw_g (lw_at lw_m2 54 rfl) rfl
theorem q328 : (Jvm.Cond.methodLink "java/util/LinkedList" (57 : Nat) ({ cls := "java/util/LinkedList", name := "linkLast", desc := "(Ljava/lang/Object;)V" } : Jvm.MethodName)) ∈ lw_all := lw_g (lw_at lw_m2 55 rfl) rfl
theorem q329 : (Jvm.Cond.instanceMethod ({ cls := "java/util/LinkedList", name := "linkLast", desc := "(Ljava/lang/Object;)V" } : Jvm.MethodName)) ∈ lw_all := lw_g (lw_at lw_m2 56 rfl) rfl
theorem q330 : (Jvm.Cond.selects "java/util/LinkedList" ({ cls := "java/util/LinkedList", name := "linkLast", desc := "(Ljava/lang/Object;)V" } : Jvm.MethodName) ({ cls := "java/util/LinkedList", name := "linkLast", desc := "(Ljava/lang/Object;)V" } : Jvm.MethodName)) ∈ lw_all := lw_g (lw_at lw_m2 57 rfl) rfl
theorem q331 : (Jvm.Cond.code ({ cls := "java/util/LinkedList", name := "linkLast", desc := "(Ljava/lang/Object;)V" } : Jvm.MethodName) prog_59_method_4_code (4 : Nat) (Option.none : Option Jvm.ClassFile.FieldType)) ∈ lw_all := lw_g (lw_at lw_m2 58 rfl) rfl
theorem q332 : (Jvm.Cond.classLink "java/util/LinkedList" (22 : Nat) "java/util/LinkedList$Node") ∈ lw_all := lw_g (lw_at lw_m2 59 rfl) rfl
theorem q334 : (Jvm.Cond.methodLink "java/util/LinkedList" (24 : Nat) ({ cls := "java/util/LinkedList$Node", name := "<init>", desc := "(Ljava/util/LinkedList$Node;Ljava/lang/Object;Ljava/util/LinkedList$Node;)V" } : Jvm.MethodName)) ∈ lw_all := lw_g (lw_at lw_m2 61 rfl) rfl
theorem q340 : (Jvm.Cond.fieldLink "java/util/LinkedList" (39 : Nat) "java/util/LinkedList$Node" "item" "Ljava/lang/Object;") ∈ lw_all := lw_g (lw_at lw_m2 67 rfl) rfl
theorem q343 : (Jvm.Cond.fieldLink "java/util/LinkedList" (36 : Nat) "java/util/LinkedList$Node" "next" "Ljava/util/LinkedList$Node;") ∈ lw_all := lw_g (lw_at lw_m2 70 rfl) rfl
theorem q345 : (Jvm.Cond.fieldLink "java/util/LinkedList" (30 : Nat) "java/util/LinkedList$Node" "prev" "Ljava/util/LinkedList$Node;") ∈ lw_all := lw_g (lw_at lw_m2 72 rfl) rfl
theorem q405 : (Jvm.Cond.selects "java/util/LinkedList" ({ cls := "java/util/List", name := "clear", desc := "()V" } : Jvm.MethodName) ({ cls := "java/util/LinkedList", name := "clear", desc := "()V" } : Jvm.MethodName)) ∈ lw_all := lw_g (lw_at lw_m2 132 rfl) rfl
theorem q406 : (Jvm.Cond.unhidden "java/util/LinkedList" "clear" "()V") ∈ lw_tbl := lw_at lw_m2 133 rfl
theorem q407 : (Jvm.Cond.instanceMethod ({ cls := "java/util/LinkedList", name := "clear", desc := "()V" } : Jvm.MethodName)) ∈ lw_all := lw_g (lw_at lw_m2 134 rfl) rfl
theorem q408 : (Jvm.Cond.publicMethod ({ cls := "java/util/LinkedList", name := "clear", desc := "()V" } : Jvm.MethodName)) ∈ lw_tbl := lw_at lw_m2 135 rfl
theorem q409 : (Jvm.Cond.code ({ cls := "java/util/LinkedList", name := "clear", desc := "()V" } : Jvm.MethodName) prog_59_method_21_code (3 : Nat) (Option.none : Option Jvm.ClassFile.FieldType)) ∈ lw_all := lw_g (lw_at lw_m2 136 rfl) rfl
theorem q446 : (Jvm.Cond.selects "java/util/LinkedList" ({ cls := "java/util/List", name := "size", desc := "()I" } : Jvm.MethodName) ({ cls := "java/util/LinkedList", name := "size", desc := "()I" } : Jvm.MethodName)) ∈ lw_all := lw_g (lw_at lw_m2 173 rfl) rfl
theorem q447 : (Jvm.Cond.unhidden "java/util/LinkedList" "size" "()I") ∈ lw_tbl := lw_at lw_m2 174 rfl
theorem q448 : (Jvm.Cond.instanceMethod ({ cls := "java/util/LinkedList", name := "size", desc := "()I" } : Jvm.MethodName)) ∈ lw_all := lw_g (lw_at lw_m2 175 rfl) rfl
theorem q449 : (Jvm.Cond.publicMethod ({ cls := "java/util/LinkedList", name := "size", desc := "()I" } : Jvm.MethodName)) ∈ lw_tbl := lw_at lw_m2 176 rfl
theorem q450 : (Jvm.Cond.code ({ cls := "java/util/LinkedList", name := "size", desc := "()I" } : Jvm.MethodName) prog_59_method_16_code (1 : Nat) (Option.some Jvm.ClassFile.FieldType.int)) ∈ lw_all := lw_g (lw_at lw_m2 177 rfl) rfl
theorem q804 : (Jvm.Cond.selects "java/util/LinkedList" ({ cls := "java/util/List", name := "get", desc := "(I)Ljava/lang/Object;" } : Jvm.MethodName) ({ cls := "java/util/LinkedList", name := "get", desc := "(I)Ljava/lang/Object;" } : Jvm.MethodName)) ∈ lw_all := lw_g (lw_at lw_m4 51 rfl) rfl
theorem q805 : (Jvm.Cond.unhidden "java/util/LinkedList" "get" "(I)Ljava/lang/Object;") ∈ lw_tbl := lw_at lw_m4 52 rfl
theorem q806 : (Jvm.Cond.instanceMethod ({ cls := "java/util/LinkedList", name := "get", desc := "(I)Ljava/lang/Object;" } : Jvm.MethodName)) ∈ lw_all := lw_g (lw_at lw_m4 53 rfl) rfl
theorem q807 : (Jvm.Cond.publicMethod ({ cls := "java/util/LinkedList", name := "get", desc := "(I)Ljava/lang/Object;" } : Jvm.MethodName)) ∈ lw_tbl := lw_at lw_m4 54 rfl
theorem q808 : (Jvm.Cond.code ({ cls := "java/util/LinkedList", name := "get", desc := "(I)Ljava/lang/Object;" } : Jvm.MethodName) prog_59_method_22_code (2 : Nat) (Option.some (Jvm.ClassFile.FieldType.object "java/lang/Object"))) ∈ lw_all := lw_g (lw_at lw_m4 55 rfl) rfl
theorem q809 : (Jvm.Cond.methodLink "java/util/LinkedList" (90 : Nat) ({ cls := "java/util/LinkedList", name := "checkElementIndex", desc := "(I)V" } : Jvm.MethodName)) ∈ lw_all := lw_g (lw_at lw_m4 56 rfl) rfl
theorem q810 : (Jvm.Cond.privateMethod ({ cls := "java/util/LinkedList", name := "checkElementIndex", desc := "(I)V" } : Jvm.MethodName)) ∈ lw_tbl := lw_at lw_m4 57 rfl
theorem q811 : (Jvm.Cond.instanceMethod ({ cls := "java/util/LinkedList", name := "checkElementIndex", desc := "(I)V" } : Jvm.MethodName)) ∈ lw_all := lw_g (lw_at lw_m4 58 rfl) rfl
theorem q812 : (Jvm.Cond.code ({ cls := "java/util/LinkedList", name := "checkElementIndex", desc := "(I)V" } : Jvm.MethodName) prog_59_method_29_code (2 : Nat) (Option.none : Option Jvm.ClassFile.FieldType)) ∈ lw_all := lw_g (lw_at lw_m4 59 rfl) rfl
theorem q813 : (Jvm.Cond.methodLink "java/util/LinkedList" (115 : Nat) ({ cls := "java/util/LinkedList", name := "isElementIndex", desc := "(I)Z" } : Jvm.MethodName)) ∈ lw_all := lw_g (lw_at lw_m4 60 rfl) rfl
theorem q814 : (Jvm.Cond.privateMethod ({ cls := "java/util/LinkedList", name := "isElementIndex", desc := "(I)Z" } : Jvm.MethodName)) ∈ lw_tbl := lw_at lw_m4 61 rfl
theorem q815 : (Jvm.Cond.instanceMethod ({ cls := "java/util/LinkedList", name := "isElementIndex", desc := "(I)Z" } : Jvm.MethodName)) ∈ lw_all := lw_g (lw_at lw_m4 62 rfl) rfl
theorem q816 : (Jvm.Cond.code ({ cls := "java/util/LinkedList", name := "isElementIndex", desc := "(I)Z" } : Jvm.MethodName) prog_59_method_26_code (2 : Nat) (Option.some Jvm.ClassFile.FieldType.boolean)) ∈ lw_all := lw_g (lw_at lw_m4 63 rfl) rfl
theorem q817 : (Jvm.Cond.classLink "java/util/LinkedList" (119 : Nat) "java/lang/IndexOutOfBoundsException") ∈ lw_all := lw_g (lw_at lw_m4 64 rfl) rfl
theorem q826 : (Jvm.Cond.methodLink "java/util/LinkedList" (121 : Nat) ({ cls := "java/util/LinkedList", name := "outOfBoundsMsg", desc := "(I)Ljava/lang/String;" } : Jvm.MethodName)) ∈ lw_all := lw_g (lw_at lw_m4 73 rfl) rfl
theorem q827 : (Jvm.Cond.privateMethod ({ cls := "java/util/LinkedList", name := "outOfBoundsMsg", desc := "(I)Ljava/lang/String;" } : Jvm.MethodName)) ∈ lw_tbl := lw_at lw_m4 74 rfl
theorem q828 : (Jvm.Cond.instanceMethod ({ cls := "java/util/LinkedList", name := "outOfBoundsMsg", desc := "(I)Ljava/lang/String;" } : Jvm.MethodName)) ∈ lw_all := lw_g (lw_at lw_m4 75 rfl) rfl
theorem q829 : (Jvm.Cond.code ({ cls := "java/util/LinkedList", name := "outOfBoundsMsg", desc := "(I)Ljava/lang/String;" } : Jvm.MethodName) prog_59_method_28_code (2 : Nat) (Option.some (Jvm.ClassFile.FieldType.object "java/lang/String"))) ∈ lw_all := lw_g (lw_at lw_m4 76 rfl) rfl
theorem q830 : (Jvm.Cond.classLink "java/util/LinkedList" (97 : Nat) "java/lang/StringBuilder") ∈ lw_all := lw_g (lw_at lw_m4 77 rfl) rfl
theorem q832 : (Jvm.Cond.methodLink "java/util/LinkedList" (99 : Nat) ({ cls := "java/lang/StringBuilder", name := "<init>", desc := "()V" } : Jvm.MethodName)) ∈ lw_all := lw_g (lw_at lw_m4 79 rfl) rfl
theorem q860 : (Jvm.Cond.stringRef "java/util/LinkedList" (100 : Nat) "Index: ") ∈ lw_tbl := lw_at lw_m4 107 rfl
theorem q861 : (Jvm.Cond.methodLink "java/util/LinkedList" (102 : Nat) ({ cls := "java/lang/StringBuilder", name := "append", desc := "(Ljava/lang/String;)Ljava/lang/StringBuilder;" } : Jvm.MethodName)) ∈ lw_all := lw_g (lw_at lw_m4 108 rfl) rfl
theorem q947 : (Jvm.Cond.methodLink "java/util/LinkedList" (106 : Nat) ({ cls := "java/lang/StringBuilder", name := "append", desc := "(I)Ljava/lang/StringBuilder;" } : Jvm.MethodName)) ∈ lw_all := lw_g (lw_at lw_m4 194 rfl) rfl
theorem q972 : (Jvm.Cond.stringRef "java/util/LinkedList" (109 : Nat) ", Size: ") ∈ lw_tbl := lw_at lw_m4 219 rfl
theorem q973 : (Jvm.Cond.methodLink "java/util/LinkedList" (111 : Nat) ({ cls := "java/lang/StringBuilder", name := "toString", desc := "()Ljava/lang/String;" } : Jvm.MethodName)) ∈ lw_all := lw_g (lw_at lw_m4 220 rfl) rfl
theorem q1049 : (Jvm.Cond.methodLink "java/util/LinkedList" (125 : Nat) ({ cls := "java/lang/IndexOutOfBoundsException", name := "<init>", desc := "(Ljava/lang/String;)V" } : Jvm.MethodName)) ∈ lw_all := lw_g (lw_at lw_m5 56 rfl) rfl
theorem q1055 : (Jvm.Cond.methodLink "java/util/LinkedList" (86 : Nat) ({ cls := "java/util/LinkedList", name := "node", desc := "(I)Ljava/util/LinkedList$Node;" } : Jvm.MethodName)) ∈ lw_all := lw_g (lw_at lw_m5 62 rfl) rfl
theorem q1056 : (Jvm.Cond.instanceMethod ({ cls := "java/util/LinkedList", name := "node", desc := "(I)Ljava/util/LinkedList$Node;" } : Jvm.MethodName)) ∈ lw_all := lw_g (lw_at lw_m5 63 rfl) rfl
theorem q1057 : (Jvm.Cond.selects "java/util/LinkedList" ({ cls := "java/util/LinkedList", name := "node", desc := "(I)Ljava/util/LinkedList$Node;" } : Jvm.MethodName) ({ cls := "java/util/LinkedList", name := "node", desc := "(I)Ljava/util/LinkedList$Node;" } : Jvm.MethodName)) ∈ lw_all := lw_g (lw_at lw_m5 64 rfl) rfl
theorem q1058 : (Jvm.Cond.code ({ cls := "java/util/LinkedList", name := "node", desc := "(I)Ljava/util/LinkedList$Node;" } : Jvm.MethodName) prog_59_method_31_code (4 : Nat) (Option.some (Jvm.ClassFile.FieldType.object "java/util/LinkedList$Node"))) ∈ lw_all := lw_g (lw_at lw_m5 65 rfl) rfl
theorem q1079 : (Jvm.Cond.selects "java/util/LinkedList" ({ cls := "java/util/List", name := "isEmpty", desc := "()Z" } : Jvm.MethodName) ({ cls := "java/util/AbstractCollection", name := "isEmpty", desc := "()Z" } : Jvm.MethodName)) ∈ lw_all := lw_g (lw_at lw_m5 86 rfl) rfl
theorem q1080 : (Jvm.Cond.unhidden "java/util/LinkedList" "isEmpty" "()Z") ∈ lw_tbl := lw_at lw_m5 87 rfl
theorem q1088 : (Jvm.Cond.selects "java/util/LinkedList" ({ cls := "java/util/AbstractCollection", name := "size", desc := "()I" } : Jvm.MethodName) ({ cls := "java/util/LinkedList", name := "size", desc := "()I" } : Jvm.MethodName)) ∈ lw_all := lw_g (lw_at lw_m5 95 rfl) rfl
theorem q1277 : (Jvm.Cond.instanceMethod ({ cls := "java/util/LinkedList", name := "addLast", desc := "(Ljava/lang/Object;)V" } : Jvm.MethodName)) ∈ lw_all := lw_g (lw_at lw_m6 44 rfl) rfl
theorem q1278 : (Jvm.Cond.selects "java/util/LinkedList" ({ cls := "java/util/LinkedList", name := "addLast", desc := "(Ljava/lang/Object;)V" } : Jvm.MethodName) ({ cls := "java/util/LinkedList", name := "addLast", desc := "(Ljava/lang/Object;)V" } : Jvm.MethodName)) ∈ lw_all := lw_g (lw_at lw_m6 45 rfl) rfl
theorem q1279 : (Jvm.Cond.code ({ cls := "java/util/LinkedList", name := "addLast", desc := "(Ljava/lang/Object;)V" } : Jvm.MethodName) prog_59_method_14_code (2 : Nat) (Option.none : Option Jvm.ClassFile.FieldType)) ∈ lw_all := lw_g (lw_at lw_m6 46 rfl) rfl
theorem q1315 : (Jvm.Cond.selects "java/util/LinkedList" ({ cls := "java/util/List", name := "iterator", desc := "()Ljava/util/Iterator;" } : Jvm.MethodName) ({ cls := "java/util/AbstractSequentialList", name := "iterator", desc := "()Ljava/util/Iterator;" } : Jvm.MethodName)) ∈ lw_all := lw_g (lw_at lw_m6 82 rfl) rfl
theorem q1316 : (Jvm.Cond.unhidden "java/util/LinkedList" "iterator" "()Ljava/util/Iterator;") ∈ lw_tbl := lw_at lw_m6 83 rfl
theorem q1323 : (Jvm.Cond.selects "java/util/LinkedList" ({ cls := "java/util/AbstractSequentialList", name := "listIterator", desc := "()Ljava/util/ListIterator;" } : Jvm.MethodName) ({ cls := "java/util/AbstractList", name := "listIterator", desc := "()Ljava/util/ListIterator;" } : Jvm.MethodName)) ∈ lw_all := lw_g (lw_at lw_m6 90 rfl) rfl
theorem q1363 : (Jvm.Cond.selects "java/util/LinkedList" ({ cls := "java/util/AbstractList", name := "listIterator", desc := "(I)Ljava/util/ListIterator;" } : Jvm.MethodName) ({ cls := "java/util/LinkedList", name := "listIterator", desc := "(I)Ljava/util/ListIterator;" } : Jvm.MethodName)) ∈ lw_all := lw_g (lw_at lw_m6 130 rfl) rfl
theorem q1364 : (Jvm.Cond.instanceMethod ({ cls := "java/util/LinkedList", name := "listIterator", desc := "(I)Ljava/util/ListIterator;" } : Jvm.MethodName)) ∈ lw_all := lw_g (lw_at lw_m6 131 rfl) rfl
theorem q1365 : (Jvm.Cond.code ({ cls := "java/util/LinkedList", name := "listIterator", desc := "(I)Ljava/util/ListIterator;" } : Jvm.MethodName) prog_59_method_49_code (2 : Nat) (Option.some (Jvm.ClassFile.FieldType.object "java/util/ListIterator"))) ∈ lw_all := lw_g (lw_at lw_m6 132 rfl) rfl
theorem q1366 : (Jvm.Cond.methodLink "java/util/LinkedList" (76 : Nat) ({ cls := "java/util/LinkedList", name := "checkPositionIndex", desc := "(I)V" } : Jvm.MethodName)) ∈ lw_all := lw_g (lw_at lw_m6 133 rfl) rfl
theorem q1367 : (Jvm.Cond.privateMethod ({ cls := "java/util/LinkedList", name := "checkPositionIndex", desc := "(I)V" } : Jvm.MethodName)) ∈ lw_tbl := lw_at lw_m6 134 rfl
theorem q1368 : (Jvm.Cond.instanceMethod ({ cls := "java/util/LinkedList", name := "checkPositionIndex", desc := "(I)V" } : Jvm.MethodName)) ∈ lw_all := lw_g (lw_at lw_m6 135 rfl) rfl
theorem q1369 : (Jvm.Cond.code ({ cls := "java/util/LinkedList", name := "checkPositionIndex", desc := "(I)V" } : Jvm.MethodName) prog_59_method_30_code (2 : Nat) (Option.none : Option Jvm.ClassFile.FieldType)) ∈ lw_all := lw_g (lw_at lw_m6 136 rfl) rfl
theorem q1370 : (Jvm.Cond.methodLink "java/util/LinkedList" (128 : Nat) ({ cls := "java/util/LinkedList", name := "isPositionIndex", desc := "(I)Z" } : Jvm.MethodName)) ∈ lw_all := lw_g (lw_at lw_m6 137 rfl) rfl
theorem q1371 : (Jvm.Cond.privateMethod ({ cls := "java/util/LinkedList", name := "isPositionIndex", desc := "(I)Z" } : Jvm.MethodName)) ∈ lw_tbl := lw_at lw_m6 138 rfl
theorem q1372 : (Jvm.Cond.instanceMethod ({ cls := "java/util/LinkedList", name := "isPositionIndex", desc := "(I)Z" } : Jvm.MethodName)) ∈ lw_all := lw_g (lw_at lw_m6 139 rfl) rfl
theorem q1373 : (Jvm.Cond.code ({ cls := "java/util/LinkedList", name := "isPositionIndex", desc := "(I)Z" } : Jvm.MethodName) prog_59_method_27_code (2 : Nat) (Option.some Jvm.ClassFile.FieldType.boolean)) ∈ lw_all := lw_g (lw_at lw_m6 140 rfl) rfl
theorem q1374 : (Jvm.Cond.classLink "java/util/LinkedList" (150 : Nat) "java/util/LinkedList$ListItr") ∈ lw_all := lw_g (lw_at lw_m6 141 rfl) rfl
theorem q1376 : (Jvm.Cond.methodLink "java/util/LinkedList" (152 : Nat) ({ cls := "java/util/LinkedList$ListItr", name := "<init>", desc := "(Ljava/util/LinkedList;I)V" } : Jvm.MethodName)) ∈ lw_all := lw_g (lw_at lw_m6 143 rfl) rfl
theorem q1411 : (Jvm.Cond.selects "java/util/LinkedList" ({ cls := "java/util/AbstractList", name := "size", desc := "()I" } : Jvm.MethodName) ({ cls := "java/util/LinkedList", name := "size", desc := "()I" } : Jvm.MethodName)) ∈ lw_all := lw_g (lw_at lw_m6 178 rfl) rfl
theorem q1445 : (Jvm.Cond.selects "java/util/LinkedList" ({ cls := "java/util/AbstractList", name := "get", desc := "(I)Ljava/lang/Object;" } : Jvm.MethodName) ({ cls := "java/util/LinkedList", name := "get", desc := "(I)Ljava/lang/Object;" } : Jvm.MethodName)) ∈ lw_all := lw_g (lw_at lw_m6 212 rfl) rfl
theorem q1579 : (Jvm.Cond.sameMethod "java/util/LinkedList" "java/util/AbstractCollection" "isEmpty" "()Z") ∈ lw_all := lw_g (lw_at lw_m7 106 rfl) rfl
theorem q1581 : (Jvm.Cond.selects "java/util/LinkedList" ({ cls := "java/util/LinkedList", name := "isEmpty", desc := "()Z" } : Jvm.MethodName) ({ cls := "java/util/AbstractCollection", name := "isEmpty", desc := "()Z" } : Jvm.MethodName)) ∈ lw_all := lw_g (lw_at lw_m7 108 rfl) rfl
theorem q1583 : (Jvm.Cond.instanceMethod ({ cls := "java/util/LinkedList", name := "getFirst", desc := "()Ljava/lang/Object;" } : Jvm.MethodName)) ∈ lw_all := lw_g (lw_at lw_m7 110 rfl) rfl
theorem q1584 : (Jvm.Cond.selects "java/util/LinkedList" ({ cls := "java/util/LinkedList", name := "getFirst", desc := "()Ljava/lang/Object;" } : Jvm.MethodName) ({ cls := "java/util/LinkedList", name := "getFirst", desc := "()Ljava/lang/Object;" } : Jvm.MethodName)) ∈ lw_all := lw_g (lw_at lw_m7 111 rfl) rfl
theorem q1585 : (Jvm.Cond.code ({ cls := "java/util/LinkedList", name := "getFirst", desc := "()Ljava/lang/Object;" } : Jvm.MethodName) prog_59_method_9_code (2 : Nat) (Option.some (Jvm.ClassFile.FieldType.object "java/lang/Object"))) ∈ lw_all := lw_g (lw_at lw_m7 112 rfl) rfl
theorem q1586 : (Jvm.Cond.classLink "java/util/LinkedList" (43 : Nat) "java/util/NoSuchElementException") ∈ lw_all := lw_g (lw_at lw_m7 113 rfl) rfl
theorem q1587 : (Jvm.Cond.methodLink "java/util/LinkedList" (45 : Nat) ({ cls := "java/util/NoSuchElementException", name := "<init>", desc := "()V" } : Jvm.MethodName)) ∈ lw_all := lw_g (lw_at lw_m7 114 rfl) rfl
theorem q1698 : (Jvm.Cond.instanceMethod ({ cls := "java/util/LinkedList", name := "removeFirst", desc := "()Ljava/lang/Object;" } : Jvm.MethodName)) ∈ lw_all := lw_g (lw_at lw_m7 225 rfl) rfl
theorem q1699 : (Jvm.Cond.selects "java/util/LinkedList" ({ cls := "java/util/LinkedList", name := "removeFirst", desc := "()Ljava/lang/Object;" } : Jvm.MethodName) ({ cls := "java/util/LinkedList", name := "removeFirst", desc := "()Ljava/lang/Object;" } : Jvm.MethodName)) ∈ lw_all := lw_g (lw_at lw_m7 226 rfl) rfl
theorem q1700 : (Jvm.Cond.code ({ cls := "java/util/LinkedList", name := "removeFirst", desc := "()Ljava/lang/Object;" } : Jvm.MethodName) prog_59_method_11_code (2 : Nat) (Option.some (Jvm.ClassFile.FieldType.object "java/lang/Object"))) ∈ lw_all := lw_g (lw_at lw_m7 227 rfl) rfl
theorem q1701 : (Jvm.Cond.methodLink "java/util/LinkedList" (46 : Nat) ({ cls := "java/util/LinkedList", name := "unlinkFirst", desc := "(Ljava/util/LinkedList$Node;)Ljava/lang/Object;" } : Jvm.MethodName)) ∈ lw_all := lw_g (lw_at lw_m7 228 rfl) rfl
theorem q1702 : (Jvm.Cond.privateMethod ({ cls := "java/util/LinkedList", name := "unlinkFirst", desc := "(Ljava/util/LinkedList$Node;)Ljava/lang/Object;" } : Jvm.MethodName)) ∈ lw_tbl := lw_at lw_m7 229 rfl
theorem q1703 : (Jvm.Cond.instanceMethod ({ cls := "java/util/LinkedList", name := "unlinkFirst", desc := "(Ljava/util/LinkedList$Node;)Ljava/lang/Object;" } : Jvm.MethodName)) ∈ lw_all := lw_g (lw_at lw_m7 230 rfl) rfl
theorem q1704 : (Jvm.Cond.code ({ cls := "java/util/LinkedList", name := "unlinkFirst", desc := "(Ljava/util/LinkedList$Node;)Ljava/lang/Object;" } : Jvm.MethodName) prog_59_method_6_code (4 : Nat) (Option.some (Jvm.ClassFile.FieldType.object "java/lang/Object"))) ∈ lw_all := lw_g (lw_at lw_m7 231 rfl) rfl
theorem q2221 : (Jvm.Cond.selects "java/util/LinkedList" ({ cls := "java/util/LinkedList", name := "clear", desc := "()V" } : Jvm.MethodName) ({ cls := "java/util/LinkedList", name := "clear", desc := "()V" } : Jvm.MethodName)) ∈ lw_all := lw_g (lw_at lw_m10 28 rfl) rfl
theorem q2222 : (Jvm.Cond.selects "java/util/LinkedList" ({ cls := "java/util/LinkedList", name := "size", desc := "()I" } : Jvm.MethodName) ({ cls := "java/util/LinkedList", name := "size", desc := "()I" } : Jvm.MethodName)) ∈ lw_all := lw_g (lw_at lw_m10 29 rfl) rfl
theorem q2242 : (Jvm.Cond.castable "java/util/LinkedList" "java/lang/Object") ∈ lw_tbl := lw_at lw_m10 49 rfl
theorem in_J5 : ∀ w ∈ wsJ50, w ∈ lw_all := lw_in wsJ50 [236, 230, 232, 234] (by decide +kernel) (by decide +kernel)

/-! jdk/internal/util/ArraysSupport -/
set_option maxRecDepth 100000
def RJ6 : String := "jdk/internal/util/ArraysSupport"
abbrev cJ6_newLength : ByteArray := prog_69_method_27_code
def yJ6_newLength : MethodName := ⟨RJ6, "newLength", "(III)I"⟩
def dkwJ6_newLength_1 : List UInt8 := [184, 0, 201, 172]
abbrev dktJ6_newLength_1 : List UInt8 := dkwJ6_newLength_1 ++ []
def dkwJ6_newLength_0 : List UInt8 := [26, 27, 28, 184, 0, 194, 96, 62, 3, 29, 162, 0, 11, 29, 18, 200, 163, 0, 5, 29, 172, 26, 27]
abbrev dktJ6_newLength_0 : List UInt8 := dkwJ6_newLength_0 ++ dktJ6_newLength_1
theorem dksJ6_newLength_0 : cJ6_newLength.data.toList.drop 0 = dktJ6_newLength_0 := by decide +kernel
theorem dksJ6_newLength_1 : cJ6_newLength.data.toList.drop 23 = dktJ6_newLength_1 := dk_seg dksJ6_newLength_0 23 rfl rfl
theorem dJ6_newLength_0 : decode cJ6_newLength 0 = .ok (.iload_n 0, 1) := dk_26 (dk_at dksJ6_newLength_0 0 rfl rfl)
theorem dJ6_newLength_1 : decode cJ6_newLength 1 = .ok (.iload_n 1, 1) := dk_27 (dk_at dksJ6_newLength_0 1 rfl rfl)
theorem dJ6_newLength_2 : decode cJ6_newLength 2 = .ok (.iload_n 2, 1) := dk_28 (dk_at dksJ6_newLength_0 2 rfl rfl)
theorem dJ6_newLength_3 : decode cJ6_newLength 3 = .ok (.invokestatic 194, 3) := dk_184 0 194 (dk_at dksJ6_newLength_0 3 rfl rfl)
theorem dJ6_newLength_6 : decode cJ6_newLength 6 = .ok (.iadd, 1) := dk_96 (dk_at dksJ6_newLength_0 6 rfl rfl)
theorem dJ6_newLength_7 : decode cJ6_newLength 7 = .ok (.istore_n 3, 1) := dk_62 (dk_at dksJ6_newLength_0 7 rfl rfl)
theorem dJ6_newLength_8 : decode cJ6_newLength 8 = .ok (.iconst 0, 1) := dk_3 (dk_at dksJ6_newLength_0 8 rfl rfl)
theorem dJ6_newLength_9 : decode cJ6_newLength 9 = .ok (.iload_n 3, 1) := dk_29 (dk_at dksJ6_newLength_0 9 rfl rfl)
theorem dJ6_newLength_10 : decode cJ6_newLength 10 = .ok (.if_icmp .ge 11, 3) := dk_162 0 11 (dk_at dksJ6_newLength_0 10 rfl rfl)
theorem dJ6_newLength_13 : decode cJ6_newLength 13 = .ok (.iload_n 3, 1) := dk_29 (dk_at dksJ6_newLength_0 13 rfl rfl)
theorem dJ6_newLength_14 : decode cJ6_newLength 14 = .ok (.ldc 200, 2) := dk_18 200 (dk_at dksJ6_newLength_0 14 rfl rfl)
theorem dJ6_newLength_16 : decode cJ6_newLength 16 = .ok (.if_icmp .gt 5, 3) := dk_163 0 5 (dk_at dksJ6_newLength_0 16 rfl rfl)
theorem dJ6_newLength_19 : decode cJ6_newLength 19 = .ok (.iload_n 3, 1) := dk_29 (dk_at dksJ6_newLength_0 19 rfl rfl)
theorem dJ6_newLength_20 : decode cJ6_newLength 20 = .ok (.ireturn, 1) := dk_172 (dk_at dksJ6_newLength_0 20 rfl rfl)
theorem dJ6_newLength_21 : decode cJ6_newLength 21 = .ok (.iload_n 0, 1) := dk_26 (dk_at dksJ6_newLength_0 21 rfl rfl)
theorem dJ6_newLength_22 : decode cJ6_newLength 22 = .ok (.iload_n 1, 1) := dk_27 (dk_at dksJ6_newLength_0 22 rfl rfl)
theorem dJ6_newLength_23 : decode cJ6_newLength 23 = .ok (.invokestatic 201, 3) := dk_184 0 201 (dk_at dksJ6_newLength_1 0 rfl rfl)
theorem dJ6_newLength_26 : decode cJ6_newLength 26 = .ok (.ireturn, 1) := dk_172 (dk_at dksJ6_newLength_1 3 rfl rfl)
abbrev cJ6_hugeLength : ByteArray := prog_69_method_28_code
def yJ6_hugeLength : MethodName := ⟨RJ6, "hugeLength", "(II)I"⟩
def dkwJ6_hugeLength_2 : List UInt8 := [191, 28, 18, 200, 163, 0, 6, 18, 200, 172, 28, 172]
abbrev dktJ6_hugeLength_2 : List UInt8 := dkwJ6_hugeLength_2 ++ []
def dkwJ6_hugeLength_1 : List UInt8 := [26, 182, 0, 98, 18, 208, 182, 0, 94, 27, 182, 0, 98, 18, 210, 182, 0, 94, 182, 0, 101, 183, 0, 212]
abbrev dktJ6_hugeLength_1 : List UInt8 := dkwJ6_hugeLength_1 ++ dktJ6_hugeLength_2
def dkwJ6_hugeLength_0 : List UInt8 := [26, 27, 96, 61, 28, 156, 0, 44, 187, 0, 204, 89, 187, 0, 89, 89, 183, 0, 91, 18, 206, 182, 0, 94]
abbrev dktJ6_hugeLength_0 : List UInt8 := dkwJ6_hugeLength_0 ++ dktJ6_hugeLength_1
theorem dksJ6_hugeLength_0 : cJ6_hugeLength.data.toList.drop 0 = dktJ6_hugeLength_0 := by decide +kernel
theorem dksJ6_hugeLength_1 : cJ6_hugeLength.data.toList.drop 24 = dktJ6_hugeLength_1 := dk_seg dksJ6_hugeLength_0 24 rfl rfl
theorem dksJ6_hugeLength_2 : cJ6_hugeLength.data.toList.drop 48 = dktJ6_hugeLength_2 := dk_seg dksJ6_hugeLength_1 24 rfl rfl
theorem dJ6_hugeLength_0 : decode cJ6_hugeLength 0 = .ok (.iload_n 0, 1) := dk_26 (dk_at dksJ6_hugeLength_0 0 rfl rfl)
theorem dJ6_hugeLength_1 : decode cJ6_hugeLength 1 = .ok (.iload_n 1, 1) := dk_27 (dk_at dksJ6_hugeLength_0 1 rfl rfl)
theorem dJ6_hugeLength_2 : decode cJ6_hugeLength 2 = .ok (.iadd, 1) := dk_96 (dk_at dksJ6_hugeLength_0 2 rfl rfl)
theorem dJ6_hugeLength_3 : decode cJ6_hugeLength 3 = .ok (.istore_n 2, 1) := dk_61 (dk_at dksJ6_hugeLength_0 3 rfl rfl)
theorem dJ6_hugeLength_4 : decode cJ6_hugeLength 4 = .ok (.iload_n 2, 1) := dk_28 (dk_at dksJ6_hugeLength_0 4 rfl rfl)
theorem dJ6_hugeLength_5 : decode cJ6_hugeLength 5 = .ok (.ifCond .ge 44, 3) := dk_156 0 44 (dk_at dksJ6_hugeLength_0 5 rfl rfl)
theorem dJ6_hugeLength_8 : decode cJ6_hugeLength 8 = .ok (.new 204, 3) := dk_187 0 204 (dk_at dksJ6_hugeLength_0 8 rfl rfl)
theorem dJ6_hugeLength_11 : decode cJ6_hugeLength 11 = .ok (.dup, 1) := dk_89 (dk_at dksJ6_hugeLength_0 11 rfl rfl)
theorem dJ6_hugeLength_12 : decode cJ6_hugeLength 12 = .ok (.new 89, 3) := dk_187 0 89 (dk_at dksJ6_hugeLength_0 12 rfl rfl)
theorem dJ6_hugeLength_15 : decode cJ6_hugeLength 15 = .ok (.dup, 1) := dk_89 (dk_at dksJ6_hugeLength_0 15 rfl rfl)
theorem dJ6_hugeLength_16 : decode cJ6_hugeLength 16 = .ok (.invokespecial 91, 3) := dk_183 0 91 (dk_at dksJ6_hugeLength_0 16 rfl rfl)
theorem dJ6_hugeLength_19 : decode cJ6_hugeLength 19 = .ok (.ldc 206, 2) := dk_18 206 (dk_at dksJ6_hugeLength_0 19 rfl rfl)
theorem dJ6_hugeLength_21 : decode cJ6_hugeLength 21 = .ok (.invokevirtual 94, 3) := dk_182 0 94 (dk_at dksJ6_hugeLength_0 21 rfl rfl)
theorem dJ6_hugeLength_24 : decode cJ6_hugeLength 24 = .ok (.iload_n 0, 1) := dk_26 (dk_at dksJ6_hugeLength_1 0 rfl rfl)
theorem dJ6_hugeLength_25 : decode cJ6_hugeLength 25 = .ok (.invokevirtual 98, 3) := dk_182 0 98 (dk_at dksJ6_hugeLength_1 1 rfl rfl)
theorem dJ6_hugeLength_28 : decode cJ6_hugeLength 28 = .ok (.ldc 208, 2) := dk_18 208 (dk_at dksJ6_hugeLength_1 4 rfl rfl)
theorem dJ6_hugeLength_30 : decode cJ6_hugeLength 30 = .ok (.invokevirtual 94, 3) := dk_182 0 94 (dk_at dksJ6_hugeLength_1 6 rfl rfl)
theorem dJ6_hugeLength_33 : decode cJ6_hugeLength 33 = .ok (.iload_n 1, 1) := dk_27 (dk_at dksJ6_hugeLength_1 9 rfl rfl)
theorem dJ6_hugeLength_34 : decode cJ6_hugeLength 34 = .ok (.invokevirtual 98, 3) := dk_182 0 98 (dk_at dksJ6_hugeLength_1 10 rfl rfl)
theorem dJ6_hugeLength_37 : decode cJ6_hugeLength 37 = .ok (.ldc 210, 2) := dk_18 210 (dk_at dksJ6_hugeLength_1 13 rfl rfl)
theorem dJ6_hugeLength_39 : decode cJ6_hugeLength 39 = .ok (.invokevirtual 94, 3) := dk_182 0 94 (dk_at dksJ6_hugeLength_1 15 rfl rfl)
theorem dJ6_hugeLength_42 : decode cJ6_hugeLength 42 = .ok (.invokevirtual 101, 3) := dk_182 0 101 (dk_at dksJ6_hugeLength_1 18 rfl rfl)
theorem dJ6_hugeLength_45 : decode cJ6_hugeLength 45 = .ok (.invokespecial 212, 3) := dk_183 0 212 (dk_at dksJ6_hugeLength_1 21 rfl rfl)
theorem dJ6_hugeLength_48 : decode cJ6_hugeLength 48 = .ok (.athrow, 1) := dk_191 (dk_at dksJ6_hugeLength_2 0 rfl rfl)
theorem dJ6_hugeLength_49 : decode cJ6_hugeLength 49 = .ok (.iload_n 2, 1) := dk_28 (dk_at dksJ6_hugeLength_2 1 rfl rfl)
theorem dJ6_hugeLength_50 : decode cJ6_hugeLength 50 = .ok (.ldc 200, 2) := dk_18 200 (dk_at dksJ6_hugeLength_2 2 rfl rfl)
theorem dJ6_hugeLength_52 : decode cJ6_hugeLength 52 = .ok (.if_icmp .gt 6, 3) := dk_163 0 6 (dk_at dksJ6_hugeLength_2 4 rfl rfl)
theorem dJ6_hugeLength_55 : decode cJ6_hugeLength 55 = .ok (.ldc 200, 2) := dk_18 200 (dk_at dksJ6_hugeLength_2 7 rfl rfl)
theorem dJ6_hugeLength_57 : decode cJ6_hugeLength 57 = .ok (.ireturn, 1) := dk_172 (dk_at dksJ6_hugeLength_2 9 rfl rfl)
theorem dJ6_hugeLength_58 : decode cJ6_hugeLength 58 = .ok (.iload_n 2, 1) := dk_28 (dk_at dksJ6_hugeLength_2 10 rfl rfl)
theorem dJ6_hugeLength_59 : decode cJ6_hugeLength 59 = .ok (.ireturn, 1) := dk_172 (dk_at dksJ6_hugeLength_2 11 rfl rfl)
theorem q42 : (Jvm.Cond.initialized "jdk/internal/util/ArraysSupport") ∈ lw_all := lw_g (lw_at lw_m1 9 rfl) rfl
theorem q261 : (Jvm.Cond.static ({ cls := "jdk/internal/util/ArraysSupport", name := "newLength", desc := "(III)I" } : Jvm.MethodName)) ∈ lw_all := lw_g (lw_at lw_m1 228 rfl) rfl
theorem q262 : (Jvm.Cond.code ({ cls := "jdk/internal/util/ArraysSupport", name := "newLength", desc := "(III)I" } : Jvm.MethodName) prog_69_method_27_code (4 : Nat) (Option.some Jvm.ClassFile.FieldType.int)) ∈ lw_all := lw_g (lw_at lw_m1 229 rfl) rfl
theorem q263 : (Jvm.Cond.methodLink "jdk/internal/util/ArraysSupport" (194 : Nat) ({ cls := "java/lang/Math", name := "max", desc := "(II)I" } : Jvm.MethodName)) ∈ lw_all := lw_g (lw_at lw_m1 230 rfl) rfl
theorem q266 : (Jvm.Cond.constant "jdk/internal/util/ArraysSupport" (200 : Nat) (2147483639 : Int32)) ∈ lw_all := lw_g (lw_at lw_m1 233 rfl) rfl
theorem q267 : (Jvm.Cond.methodLink "jdk/internal/util/ArraysSupport" (201 : Nat) ({ cls := "jdk/internal/util/ArraysSupport", name := "hugeLength", desc := "(II)I" } : Jvm.MethodName)) ∈ lw_all := lw_g (lw_at lw_m1 234 rfl) rfl
theorem q268 : (Jvm.Cond.static ({ cls := "jdk/internal/util/ArraysSupport", name := "hugeLength", desc := "(II)I" } : Jvm.MethodName)) ∈ lw_all := lw_g (lw_at lw_m1 235 rfl) rfl
theorem q269 : (Jvm.Cond.code ({ cls := "jdk/internal/util/ArraysSupport", name := "hugeLength", desc := "(II)I" } : Jvm.MethodName) prog_69_method_28_code (3 : Nat) (Option.some Jvm.ClassFile.FieldType.int)) ∈ lw_all := lw_g (lw_at lw_m1 236 rfl) rfl

/-! java/lang/Math -/
set_option maxRecDepth 100000
def RJ7 : String := "java/lang/Math"
abbrev cJ7_max : ByteArray := prog_34_method_65_code
def yJ7_max : MethodName := ⟨RJ7, "max", "(II)I"⟩
def dkwJ7_max_0 : List UInt8 := [26, 27, 161, 0, 7, 26, 167, 0, 4, 27, 172]
abbrev dktJ7_max_0 : List UInt8 := dkwJ7_max_0 ++ []
theorem dksJ7_max_0 : cJ7_max.data.toList.drop 0 = dktJ7_max_0 := by decide +kernel
theorem dJ7_max_0 : decode cJ7_max 0 = .ok (.iload_n 0, 1) := dk_26 (dk_at dksJ7_max_0 0 rfl rfl)
theorem dJ7_max_1 : decode cJ7_max 1 = .ok (.iload_n 1, 1) := dk_27 (dk_at dksJ7_max_0 1 rfl rfl)
theorem dJ7_max_2 : decode cJ7_max 2 = .ok (.if_icmp .lt 7, 3) := dk_161 0 7 (dk_at dksJ7_max_0 2 rfl rfl)
theorem dJ7_max_5 : decode cJ7_max 5 = .ok (.iload_n 0, 1) := dk_26 (dk_at dksJ7_max_0 5 rfl rfl)
theorem dJ7_max_6 : decode cJ7_max 6 = .ok (.goto 4, 3) := dk_167 0 4 (dk_at dksJ7_max_0 6 rfl rfl)
theorem dJ7_max_9 : decode cJ7_max 9 = .ok (.iload_n 1, 1) := dk_27 (dk_at dksJ7_max_0 9 rfl rfl)
theorem dJ7_max_10 : decode cJ7_max 10 = .ok (.ireturn, 1) := dk_172 (dk_at dksJ7_max_0 10 rfl rfl)
abbrev cJ7_min : ByteArray := prog_34_method_69_code
def yJ7_min : MethodName := ⟨RJ7, "min", "(II)I"⟩
def dkwJ7_min_0 : List UInt8 := [26, 27, 163, 0, 7, 26, 167, 0, 4, 27, 172]
abbrev dktJ7_min_0 : List UInt8 := dkwJ7_min_0 ++ []
theorem dksJ7_min_0 : cJ7_min.data.toList.drop 0 = dktJ7_min_0 := by decide +kernel
theorem dJ7_min_0 : decode cJ7_min 0 = .ok (.iload_n 0, 1) := dk_26 (dk_at dksJ7_min_0 0 rfl rfl)
theorem dJ7_min_1 : decode cJ7_min 1 = .ok (.iload_n 1, 1) := dk_27 (dk_at dksJ7_min_0 1 rfl rfl)
theorem dJ7_min_2 : decode cJ7_min 2 = .ok (.if_icmp .gt 7, 3) := dk_163 0 7 (dk_at dksJ7_min_0 2 rfl rfl)
theorem dJ7_min_5 : decode cJ7_min 5 = .ok (.iload_n 0, 1) := dk_26 (dk_at dksJ7_min_0 5 rfl rfl)
theorem dJ7_min_6 : decode cJ7_min 6 = .ok (.goto 4, 3) := dk_167 0 4 (dk_at dksJ7_min_0 6 rfl rfl)
theorem dJ7_min_9 : decode cJ7_min 9 = .ok (.iload_n 1, 1) := dk_27 (dk_at dksJ7_min_0 9 rfl rfl)
theorem dJ7_min_10 : decode cJ7_min 10 = .ok (.ireturn, 1) := dk_172 (dk_at dksJ7_min_0 10 rfl rfl)
abbrev cJ7_floorMod : ByteArray := prog_34_method_50_code
def yJ7_floorMod : MethodName := ⟨RJ7, "floorMod", "(II)I"⟩
def dkwJ7_floorMod_0 : List UInt8 := [26, 27, 112, 61, 26, 27, 130, 156, 0, 11, 28, 153, 0, 7, 28, 27, 96, 172, 28, 172]
abbrev dktJ7_floorMod_0 : List UInt8 := dkwJ7_floorMod_0 ++ []
theorem dksJ7_floorMod_0 : cJ7_floorMod.data.toList.drop 0 = dktJ7_floorMod_0 := by decide +kernel
theorem dJ7_floorMod_0 : decode cJ7_floorMod 0 = .ok (.iload_n 0, 1) := dk_26 (dk_at dksJ7_floorMod_0 0 rfl rfl)
theorem dJ7_floorMod_1 : decode cJ7_floorMod 1 = .ok (.iload_n 1, 1) := dk_27 (dk_at dksJ7_floorMod_0 1 rfl rfl)
theorem dJ7_floorMod_2 : decode cJ7_floorMod 2 = .ok (.irem, 1) := dk_112 (dk_at dksJ7_floorMod_0 2 rfl rfl)
theorem dJ7_floorMod_3 : decode cJ7_floorMod 3 = .ok (.istore_n 2, 1) := dk_61 (dk_at dksJ7_floorMod_0 3 rfl rfl)
theorem dJ7_floorMod_4 : decode cJ7_floorMod 4 = .ok (.iload_n 0, 1) := dk_26 (dk_at dksJ7_floorMod_0 4 rfl rfl)
theorem dJ7_floorMod_5 : decode cJ7_floorMod 5 = .ok (.iload_n 1, 1) := dk_27 (dk_at dksJ7_floorMod_0 5 rfl rfl)
theorem dJ7_floorMod_6 : decode cJ7_floorMod 6 = .ok (.ixor, 1) := dk_130 (dk_at dksJ7_floorMod_0 6 rfl rfl)
theorem dJ7_floorMod_7 : decode cJ7_floorMod 7 = .ok (.ifCond .ge 11, 3) := dk_156 0 11 (dk_at dksJ7_floorMod_0 7 rfl rfl)
theorem dJ7_floorMod_10 : decode cJ7_floorMod 10 = .ok (.iload_n 2, 1) := dk_28 (dk_at dksJ7_floorMod_0 10 rfl rfl)
theorem dJ7_floorMod_11 : decode cJ7_floorMod 11 = .ok (.ifCond .eq 7, 3) := dk_153 0 7 (dk_at dksJ7_floorMod_0 11 rfl rfl)
theorem dJ7_floorMod_14 : decode cJ7_floorMod 14 = .ok (.iload_n 2, 1) := dk_28 (dk_at dksJ7_floorMod_0 14 rfl rfl)
theorem dJ7_floorMod_15 : decode cJ7_floorMod 15 = .ok (.iload_n 1, 1) := dk_27 (dk_at dksJ7_floorMod_0 15 rfl rfl)
theorem dJ7_floorMod_16 : decode cJ7_floorMod 16 = .ok (.iadd, 1) := dk_96 (dk_at dksJ7_floorMod_0 16 rfl rfl)
theorem dJ7_floorMod_17 : decode cJ7_floorMod 17 = .ok (.ireturn, 1) := dk_172 (dk_at dksJ7_floorMod_0 17 rfl rfl)
theorem dJ7_floorMod_18 : decode cJ7_floorMod 18 = .ok (.iload_n 2, 1) := dk_28 (dk_at dksJ7_floorMod_0 18 rfl rfl)
theorem dJ7_floorMod_19 : decode cJ7_floorMod 19 = .ok (.ireturn, 1) := dk_172 (dk_at dksJ7_floorMod_0 19 rfl rfl)
theorem q43 : (Jvm.Cond.initialized "java/lang/Math") ∈ lw_all := lw_g (lw_at lw_m1 10 rfl) rfl
theorem q264 : (Jvm.Cond.static ({ cls := "java/lang/Math", name := "max", desc := "(II)I" } : Jvm.MethodName)) ∈ lw_all := lw_g (lw_at lw_m1 231 rfl) rfl
theorem q265 : (Jvm.Cond.code ({ cls := "java/lang/Math", name := "max", desc := "(II)I" } : Jvm.MethodName) prog_34_method_65_code (2 : Nat) (Option.some Jvm.ClassFile.FieldType.int)) ∈ lw_all := lw_g (lw_at lw_m1 232 rfl) rfl
theorem q315 : (Jvm.Cond.static ({ cls := "java/lang/Math", name := "min", desc := "(II)I" } : Jvm.MethodName)) ∈ lw_all := lw_g (lw_at lw_m2 42 rfl) rfl
theorem q316 : (Jvm.Cond.code ({ cls := "java/lang/Math", name := "min", desc := "(II)I" } : Jvm.MethodName) prog_34_method_69_code (2 : Nat) (Option.some Jvm.ClassFile.FieldType.int)) ∈ lw_all := lw_g (lw_at lw_m2 43 rfl) rfl
theorem q486 : (Jvm.Cond.static ({ cls := "java/lang/Math", name := "floorMod", desc := "(II)I" } : Jvm.MethodName)) ∈ lw_all := lw_g (lw_at lw_m2 213 rfl) rfl
theorem q487 : (Jvm.Cond.code ({ cls := "java/lang/Math", name := "floorMod", desc := "(II)I" } : Jvm.MethodName) prog_34_method_50_code (3 : Nat) (Option.some Jvm.ClassFile.FieldType.int)) ∈ lw_all := lw_g (lw_at lw_m2 214 rfl) rfl

/-! java/util/Arrays -/
set_option maxRecDepth 100000
def RJ8 : String := "java/util/Arrays"
abbrev cJ8_copyOf : ByteArray := prog_54_method_119_code
def yJ8_copyOf : MethodName := ⟨RJ8, "copyOf", "([Ljava/lang/Object;I)[Ljava/lang/Object;"⟩
def dkwJ8_copyOf_0 : List UInt8 := [42, 27, 42, 182, 0, 86, 184, 1, 44, 176]
abbrev dktJ8_copyOf_0 : List UInt8 := dkwJ8_copyOf_0 ++ []
theorem dksJ8_copyOf_0 : cJ8_copyOf.data.toList.drop 0 = dktJ8_copyOf_0 := by decide +kernel
theorem dJ8_copyOf_0 : decode cJ8_copyOf 0 = .ok (.aload_n 0, 1) := dk_42 (dk_at dksJ8_copyOf_0 0 rfl rfl)
theorem dJ8_copyOf_1 : decode cJ8_copyOf 1 = .ok (.iload_n 1, 1) := dk_27 (dk_at dksJ8_copyOf_0 1 rfl rfl)
theorem dJ8_copyOf_2 : decode cJ8_copyOf 2 = .ok (.aload_n 0, 1) := dk_42 (dk_at dksJ8_copyOf_0 2 rfl rfl)
theorem dJ8_copyOf_3 : decode cJ8_copyOf 3 = .ok (.invokevirtual 86, 3) := dk_182 0 86 (dk_at dksJ8_copyOf_0 3 rfl rfl)
theorem dJ8_copyOf_6 : decode cJ8_copyOf 6 = .ok (.invokestatic 300, 3) := dk_184 1 44 (dk_at dksJ8_copyOf_0 6 rfl rfl)
theorem dJ8_copyOf_9 : decode cJ8_copyOf 9 = .ok (.areturn, 1) := dk_176 (dk_at dksJ8_copyOf_0 9 rfl rfl)
abbrev cJ8_copyOf_2 : ByteArray := prog_54_method_120_code
def yJ8_copyOf_2 : MethodName := ⟨RJ8, "copyOf", "([Ljava/lang/Object;ILjava/lang/Class;)[Ljava/lang/Object;"⟩
def dkwJ8_copyOf_2_1 : List UInt8 := [78, 42, 3, 45, 3, 42, 190, 27, 184, 1, 48, 184, 0, 150, 45, 176]
abbrev dktJ8_copyOf_2_1 : List UInt8 := dkwJ8_copyOf_2_1 ++ []
def dkwJ8_copyOf_2_0 : List UInt8 := [44, 18, 110, 166, 0, 10, 27, 189, 0, 2, 167, 0, 14, 44, 182, 0, 90, 27, 184, 0, 95, 192, 0, 110]
abbrev dktJ8_copyOf_2_0 : List UInt8 := dkwJ8_copyOf_2_0 ++ dktJ8_copyOf_2_1
theorem dksJ8_copyOf_2_0 : cJ8_copyOf_2.data.toList.drop 0 = dktJ8_copyOf_2_0 := by decide +kernel
theorem dksJ8_copyOf_2_1 : cJ8_copyOf_2.data.toList.drop 24 = dktJ8_copyOf_2_1 := dk_seg dksJ8_copyOf_2_0 24 rfl rfl
theorem dJ8_copyOf_2_0 : decode cJ8_copyOf_2 0 = .ok (.aload_n 2, 1) := dk_44 (dk_at dksJ8_copyOf_2_0 0 rfl rfl)
theorem dJ8_copyOf_2_1 : decode cJ8_copyOf_2 1 = .ok (.ldc 110, 2) := dk_18 110 (dk_at dksJ8_copyOf_2_0 1 rfl rfl)
theorem dJ8_copyOf_2_3 : decode cJ8_copyOf_2 3 = .ok (.if_acmp .ne 10, 3) := dk_166 0 10 (dk_at dksJ8_copyOf_2_0 3 rfl rfl)
theorem dJ8_copyOf_2_6 : decode cJ8_copyOf_2 6 = .ok (.iload_n 1, 1) := dk_27 (dk_at dksJ8_copyOf_2_0 6 rfl rfl)
theorem dJ8_copyOf_2_7 : decode cJ8_copyOf_2 7 = .ok (.anewarray 2, 3) := dk_189 0 2 (dk_at dksJ8_copyOf_2_0 7 rfl rfl)
theorem dJ8_copyOf_2_10 : decode cJ8_copyOf_2 10 = .ok (.goto 14, 3) := dk_167 0 14 (dk_at dksJ8_copyOf_2_0 10 rfl rfl)
theorem dJ8_copyOf_2_13 : decode cJ8_copyOf_2 13 = .ok (.aload_n 2, 1) := dk_44 (dk_at dksJ8_copyOf_2_0 13 rfl rfl)
theorem dJ8_copyOf_2_14 : decode cJ8_copyOf_2 14 = .ok (.invokevirtual 90, 3) := dk_182 0 90 (dk_at dksJ8_copyOf_2_0 14 rfl rfl)
theorem dJ8_copyOf_2_17 : decode cJ8_copyOf_2 17 = .ok (.iload_n 1, 1) := dk_27 (dk_at dksJ8_copyOf_2_0 17 rfl rfl)
theorem dJ8_copyOf_2_18 : decode cJ8_copyOf_2 18 = .ok (.invokestatic 95, 3) := dk_184 0 95 (dk_at dksJ8_copyOf_2_0 18 rfl rfl)
theorem dJ8_copyOf_2_21 : decode cJ8_copyOf_2 21 = .ok (.checkcast 110, 3) := dk_192 0 110 (dk_at dksJ8_copyOf_2_0 21 rfl rfl)
theorem dJ8_copyOf_2_24 : decode cJ8_copyOf_2 24 = .ok (.astore_n 3, 1) := dk_78 (dk_at dksJ8_copyOf_2_1 0 rfl rfl)
theorem dJ8_copyOf_2_25 : decode cJ8_copyOf_2 25 = .ok (.aload_n 0, 1) := dk_42 (dk_at dksJ8_copyOf_2_1 1 rfl rfl)
theorem dJ8_copyOf_2_26 : decode cJ8_copyOf_2 26 = .ok (.iconst 0, 1) := dk_3 (dk_at dksJ8_copyOf_2_1 2 rfl rfl)
theorem dJ8_copyOf_2_27 : decode cJ8_copyOf_2 27 = .ok (.aload_n 3, 1) := dk_45 (dk_at dksJ8_copyOf_2_1 3 rfl rfl)
theorem dJ8_copyOf_2_28 : decode cJ8_copyOf_2 28 = .ok (.iconst 0, 1) := dk_3 (dk_at dksJ8_copyOf_2_1 4 rfl rfl)
theorem dJ8_copyOf_2_29 : decode cJ8_copyOf_2 29 = .ok (.aload_n 0, 1) := dk_42 (dk_at dksJ8_copyOf_2_1 5 rfl rfl)
theorem dJ8_copyOf_2_30 : decode cJ8_copyOf_2 30 = .ok (.arraylength, 1) := dk_190 (dk_at dksJ8_copyOf_2_1 6 rfl rfl)
theorem dJ8_copyOf_2_31 : decode cJ8_copyOf_2 31 = .ok (.iload_n 1, 1) := dk_27 (dk_at dksJ8_copyOf_2_1 7 rfl rfl)
theorem dJ8_copyOf_2_32 : decode cJ8_copyOf_2 32 = .ok (.invokestatic 304, 3) := dk_184 1 48 (dk_at dksJ8_copyOf_2_1 8 rfl rfl)
theorem dJ8_copyOf_2_35 : decode cJ8_copyOf_2 35 = .ok (.invokestatic 150, 3) := dk_184 0 150 (dk_at dksJ8_copyOf_2_1 11 rfl rfl)
theorem dJ8_copyOf_2_38 : decode cJ8_copyOf_2 38 = .ok (.aload_n 3, 1) := dk_45 (dk_at dksJ8_copyOf_2_1 14 rfl rfl)
theorem dJ8_copyOf_2_39 : decode cJ8_copyOf_2 39 = .ok (.areturn, 1) := dk_176 (dk_at dksJ8_copyOf_2_1 15 rfl rfl)
abbrev cJ8_copyOf_3 : ByteArray := prog_54_method_121_code
def yJ8_copyOf_3 : MethodName := ⟨RJ8, "copyOf", "([BI)[B"⟩
def dkwJ8_copyOf_3_1 : List UInt8 := [27, 184, 1, 48, 184, 0, 150, 44, 176]
abbrev dktJ8_copyOf_3_1 : List UInt8 := dkwJ8_copyOf_3_1 ++ []
def dkwJ8_copyOf_3_0 : List UInt8 := [27, 42, 190, 160, 0, 11, 42, 182, 1, 54, 192, 1, 55, 176, 27, 188, 8, 77, 42, 3, 44, 3, 42, 190]
abbrev dktJ8_copyOf_3_0 : List UInt8 := dkwJ8_copyOf_3_0 ++ dktJ8_copyOf_3_1
theorem dksJ8_copyOf_3_0 : cJ8_copyOf_3.data.toList.drop 0 = dktJ8_copyOf_3_0 := by decide +kernel
theorem dksJ8_copyOf_3_1 : cJ8_copyOf_3.data.toList.drop 24 = dktJ8_copyOf_3_1 := dk_seg dksJ8_copyOf_3_0 24 rfl rfl
theorem dJ8_copyOf_3_0 : decode cJ8_copyOf_3 0 = .ok (.iload_n 1, 1) := dk_27 (dk_at dksJ8_copyOf_3_0 0 rfl rfl)
theorem dJ8_copyOf_3_1 : decode cJ8_copyOf_3 1 = .ok (.aload_n 0, 1) := dk_42 (dk_at dksJ8_copyOf_3_0 1 rfl rfl)
theorem dJ8_copyOf_3_2 : decode cJ8_copyOf_3 2 = .ok (.arraylength, 1) := dk_190 (dk_at dksJ8_copyOf_3_0 2 rfl rfl)
theorem dJ8_copyOf_3_3 : decode cJ8_copyOf_3 3 = .ok (.if_icmp .ne 11, 3) := dk_160 0 11 (dk_at dksJ8_copyOf_3_0 3 rfl rfl)
theorem dJ8_copyOf_3_6 : decode cJ8_copyOf_3 6 = .ok (.aload_n 0, 1) := dk_42 (dk_at dksJ8_copyOf_3_0 6 rfl rfl)
theorem dJ8_copyOf_3_7 : decode cJ8_copyOf_3 7 = .ok (.invokevirtual 310, 3) := dk_182 1 54 (dk_at dksJ8_copyOf_3_0 7 rfl rfl)
theorem dJ8_copyOf_3_10 : decode cJ8_copyOf_3 10 = .ok (.checkcast 311, 3) := dk_192 1 55 (dk_at dksJ8_copyOf_3_0 10 rfl rfl)
theorem dJ8_copyOf_3_13 : decode cJ8_copyOf_3 13 = .ok (.areturn, 1) := dk_176 (dk_at dksJ8_copyOf_3_0 13 rfl rfl)
theorem dJ8_copyOf_3_14 : decode cJ8_copyOf_3 14 = .ok (.iload_n 1, 1) := dk_27 (dk_at dksJ8_copyOf_3_0 14 rfl rfl)
theorem dJ8_copyOf_3_15 : decode cJ8_copyOf_3 15 = .ok (.newarray .byte, 2) := dk_188_8 (dk_at dksJ8_copyOf_3_0 15 rfl rfl)
theorem dJ8_copyOf_3_17 : decode cJ8_copyOf_3 17 = .ok (.astore_n 2, 1) := dk_77 (dk_at dksJ8_copyOf_3_0 17 rfl rfl)
theorem dJ8_copyOf_3_18 : decode cJ8_copyOf_3 18 = .ok (.aload_n 0, 1) := dk_42 (dk_at dksJ8_copyOf_3_0 18 rfl rfl)
theorem dJ8_copyOf_3_19 : decode cJ8_copyOf_3 19 = .ok (.iconst 0, 1) := dk_3 (dk_at dksJ8_copyOf_3_0 19 rfl rfl)
theorem dJ8_copyOf_3_20 : decode cJ8_copyOf_3 20 = .ok (.aload_n 2, 1) := dk_44 (dk_at dksJ8_copyOf_3_0 20 rfl rfl)
theorem dJ8_copyOf_3_21 : decode cJ8_copyOf_3 21 = .ok (.iconst 0, 1) := dk_3 (dk_at dksJ8_copyOf_3_0 21 rfl rfl)
theorem dJ8_copyOf_3_22 : decode cJ8_copyOf_3 22 = .ok (.aload_n 0, 1) := dk_42 (dk_at dksJ8_copyOf_3_0 22 rfl rfl)
theorem dJ8_copyOf_3_23 : decode cJ8_copyOf_3 23 = .ok (.arraylength, 1) := dk_190 (dk_at dksJ8_copyOf_3_0 23 rfl rfl)
theorem dJ8_copyOf_3_24 : decode cJ8_copyOf_3 24 = .ok (.iload_n 1, 1) := dk_27 (dk_at dksJ8_copyOf_3_1 0 rfl rfl)
theorem dJ8_copyOf_3_25 : decode cJ8_copyOf_3 25 = .ok (.invokestatic 304, 3) := dk_184 1 48 (dk_at dksJ8_copyOf_3_1 1 rfl rfl)
theorem dJ8_copyOf_3_28 : decode cJ8_copyOf_3 28 = .ok (.invokestatic 150, 3) := dk_184 0 150 (dk_at dksJ8_copyOf_3_1 4 rfl rfl)
theorem dJ8_copyOf_3_31 : decode cJ8_copyOf_3 31 = .ok (.aload_n 2, 1) := dk_44 (dk_at dksJ8_copyOf_3_1 7 rfl rfl)
theorem dJ8_copyOf_3_32 : decode cJ8_copyOf_3 32 = .ok (.areturn, 1) := dk_176 (dk_at dksJ8_copyOf_3_1 8 rfl rfl)
abbrev cJ8_copyOfRange : ByteArray := prog_54_method_132_code
def yJ8_copyOfRange : MethodName := ⟨RJ8, "copyOfRange", "([BII)[B"⟩
def dkwJ8_copyOfRange_1 : List UInt8 := [176]
abbrev dktJ8_copyOfRange_1 : List UInt8 := dkwJ8_copyOfRange_1 ++ []
def dkwJ8_copyOfRange_0 : List UInt8 := [27, 154, 0, 9, 28, 42, 190, 159, 0, 10, 42, 27, 28, 184, 1, 83, 176, 42, 182, 1, 54, 192, 1, 55]
abbrev dktJ8_copyOfRange_0 : List UInt8 := dkwJ8_copyOfRange_0 ++ dktJ8_copyOfRange_1
theorem dksJ8_copyOfRange_0 : cJ8_copyOfRange.data.toList.drop 0 = dktJ8_copyOfRange_0 := by decide +kernel
theorem dksJ8_copyOfRange_1 : cJ8_copyOfRange.data.toList.drop 24 = dktJ8_copyOfRange_1 := dk_seg dksJ8_copyOfRange_0 24 rfl rfl
theorem dJ8_copyOfRange_0 : decode cJ8_copyOfRange 0 = .ok (.iload_n 1, 1) := dk_27 (dk_at dksJ8_copyOfRange_0 0 rfl rfl)
theorem dJ8_copyOfRange_1 : decode cJ8_copyOfRange 1 = .ok (.ifCond .ne 9, 3) := dk_154 0 9 (dk_at dksJ8_copyOfRange_0 1 rfl rfl)
theorem dJ8_copyOfRange_4 : decode cJ8_copyOfRange 4 = .ok (.iload_n 2, 1) := dk_28 (dk_at dksJ8_copyOfRange_0 4 rfl rfl)
theorem dJ8_copyOfRange_5 : decode cJ8_copyOfRange 5 = .ok (.aload_n 0, 1) := dk_42 (dk_at dksJ8_copyOfRange_0 5 rfl rfl)
theorem dJ8_copyOfRange_6 : decode cJ8_copyOfRange 6 = .ok (.arraylength, 1) := dk_190 (dk_at dksJ8_copyOfRange_0 6 rfl rfl)
theorem dJ8_copyOfRange_7 : decode cJ8_copyOfRange 7 = .ok (.if_icmp .eq 10, 3) := dk_159 0 10 (dk_at dksJ8_copyOfRange_0 7 rfl rfl)
theorem dJ8_copyOfRange_10 : decode cJ8_copyOfRange 10 = .ok (.aload_n 0, 1) := dk_42 (dk_at dksJ8_copyOfRange_0 10 rfl rfl)
theorem dJ8_copyOfRange_11 : decode cJ8_copyOfRange 11 = .ok (.iload_n 1, 1) := dk_27 (dk_at dksJ8_copyOfRange_0 11 rfl rfl)
theorem dJ8_copyOfRange_12 : decode cJ8_copyOfRange 12 = .ok (.iload_n 2, 1) := dk_28 (dk_at dksJ8_copyOfRange_0 12 rfl rfl)
theorem dJ8_copyOfRange_13 : decode cJ8_copyOfRange 13 = .ok (.invokestatic 339, 3) := dk_184 1 83 (dk_at dksJ8_copyOfRange_0 13 rfl rfl)
theorem dJ8_copyOfRange_16 : decode cJ8_copyOfRange 16 = .ok (.areturn, 1) := dk_176 (dk_at dksJ8_copyOfRange_0 16 rfl rfl)
theorem dJ8_copyOfRange_17 : decode cJ8_copyOfRange 17 = .ok (.aload_n 0, 1) := dk_42 (dk_at dksJ8_copyOfRange_0 17 rfl rfl)
theorem dJ8_copyOfRange_18 : decode cJ8_copyOfRange 18 = .ok (.invokevirtual 310, 3) := dk_182 1 54 (dk_at dksJ8_copyOfRange_0 18 rfl rfl)
theorem dJ8_copyOfRange_21 : decode cJ8_copyOfRange 21 = .ok (.checkcast 311, 3) := dk_192 1 55 (dk_at dksJ8_copyOfRange_0 21 rfl rfl)
theorem dJ8_copyOfRange_24 : decode cJ8_copyOfRange 24 = .ok (.areturn, 1) := dk_176 (dk_at dksJ8_copyOfRange_1 0 rfl rfl)
abbrev cJ8_copyOfRangeByte : ByteArray := prog_54_method_133_code
def yJ8_copyOfRangeByte : MethodName := ⟨RJ8, "copyOfRangeByte", "([BII)[B"⟩
def dkwJ8_copyOfRangeByte_1 : List UInt8 := [184, 1, 48, 184, 0, 150, 25, 4, 176]
abbrev dktJ8_copyOfRangeByte_1 : List UInt8 := dkwJ8_copyOfRangeByte_1 ++ []
def dkwJ8_copyOfRangeByte_0 : List UInt8 := [27, 28, 184, 1, 87, 28, 27, 100, 62, 29, 188, 8, 58, 4, 42, 27, 25, 4, 3, 42, 190, 27, 100, 29]
abbrev dktJ8_copyOfRangeByte_0 : List UInt8 := dkwJ8_copyOfRangeByte_0 ++ dktJ8_copyOfRangeByte_1
theorem dksJ8_copyOfRangeByte_0 : cJ8_copyOfRangeByte.data.toList.drop 0 = dktJ8_copyOfRangeByte_0 := by decide +kernel
theorem dksJ8_copyOfRangeByte_1 : cJ8_copyOfRangeByte.data.toList.drop 24 = dktJ8_copyOfRangeByte_1 := dk_seg dksJ8_copyOfRangeByte_0 24 rfl rfl
theorem dJ8_copyOfRangeByte_0 : decode cJ8_copyOfRangeByte 0 = .ok (.iload_n 1, 1) := dk_27 (dk_at dksJ8_copyOfRangeByte_0 0 rfl rfl)
theorem dJ8_copyOfRangeByte_1 : decode cJ8_copyOfRangeByte 1 = .ok (.iload_n 2, 1) := dk_28 (dk_at dksJ8_copyOfRangeByte_0 1 rfl rfl)
theorem dJ8_copyOfRangeByte_2 : decode cJ8_copyOfRangeByte 2 = .ok (.invokestatic 343, 3) := dk_184 1 87 (dk_at dksJ8_copyOfRangeByte_0 2 rfl rfl)
theorem dJ8_copyOfRangeByte_5 : decode cJ8_copyOfRangeByte 5 = .ok (.iload_n 2, 1) := dk_28 (dk_at dksJ8_copyOfRangeByte_0 5 rfl rfl)
theorem dJ8_copyOfRangeByte_6 : decode cJ8_copyOfRangeByte 6 = .ok (.iload_n 1, 1) := dk_27 (dk_at dksJ8_copyOfRangeByte_0 6 rfl rfl)
theorem dJ8_copyOfRangeByte_7 : decode cJ8_copyOfRangeByte 7 = .ok (.isub, 1) := dk_100 (dk_at dksJ8_copyOfRangeByte_0 7 rfl rfl)
theorem dJ8_copyOfRangeByte_8 : decode cJ8_copyOfRangeByte 8 = .ok (.istore_n 3, 1) := dk_62 (dk_at dksJ8_copyOfRangeByte_0 8 rfl rfl)
theorem dJ8_copyOfRangeByte_9 : decode cJ8_copyOfRangeByte 9 = .ok (.iload_n 3, 1) := dk_29 (dk_at dksJ8_copyOfRangeByte_0 9 rfl rfl)
theorem dJ8_copyOfRangeByte_10 : decode cJ8_copyOfRangeByte 10 = .ok (.newarray .byte, 2) := dk_188_8 (dk_at dksJ8_copyOfRangeByte_0 10 rfl rfl)
theorem dJ8_copyOfRangeByte_12 : decode cJ8_copyOfRangeByte 12 = .ok (.astore 4, 2) := dk_58 4 (dk_at dksJ8_copyOfRangeByte_0 12 rfl rfl)
theorem dJ8_copyOfRangeByte_14 : decode cJ8_copyOfRangeByte 14 = .ok (.aload_n 0, 1) := dk_42 (dk_at dksJ8_copyOfRangeByte_0 14 rfl rfl)
theorem dJ8_copyOfRangeByte_15 : decode cJ8_copyOfRangeByte 15 = .ok (.iload_n 1, 1) := dk_27 (dk_at dksJ8_copyOfRangeByte_0 15 rfl rfl)
theorem dJ8_copyOfRangeByte_16 : decode cJ8_copyOfRangeByte 16 = .ok (.aload 4, 2) := dk_25 4 (dk_at dksJ8_copyOfRangeByte_0 16 rfl rfl)
theorem dJ8_copyOfRangeByte_18 : decode cJ8_copyOfRangeByte 18 = .ok (.iconst 0, 1) := dk_3 (dk_at dksJ8_copyOfRangeByte_0 18 rfl rfl)
theorem dJ8_copyOfRangeByte_19 : decode cJ8_copyOfRangeByte 19 = .ok (.aload_n 0, 1) := dk_42 (dk_at dksJ8_copyOfRangeByte_0 19 rfl rfl)
theorem dJ8_copyOfRangeByte_20 : decode cJ8_copyOfRangeByte 20 = .ok (.arraylength, 1) := dk_190 (dk_at dksJ8_copyOfRangeByte_0 20 rfl rfl)
theorem dJ8_copyOfRangeByte_21 : decode cJ8_copyOfRangeByte 21 = .ok (.iload_n 1, 1) := dk_27 (dk_at dksJ8_copyOfRangeByte_0 21 rfl rfl)
theorem dJ8_copyOfRangeByte_22 : decode cJ8_copyOfRangeByte 22 = .ok (.isub, 1) := dk_100 (dk_at dksJ8_copyOfRangeByte_0 22 rfl rfl)
theorem dJ8_copyOfRangeByte_23 : decode cJ8_copyOfRangeByte 23 = .ok (.iload_n 3, 1) := dk_29 (dk_at dksJ8_copyOfRangeByte_0 23 rfl rfl)
theorem dJ8_copyOfRangeByte_24 : decode cJ8_copyOfRangeByte 24 = .ok (.invokestatic 304, 3) := dk_184 1 48 (dk_at dksJ8_copyOfRangeByte_1 0 rfl rfl)
theorem dJ8_copyOfRangeByte_27 : decode cJ8_copyOfRangeByte 27 = .ok (.invokestatic 150, 3) := dk_184 0 150 (dk_at dksJ8_copyOfRangeByte_1 3 rfl rfl)
theorem dJ8_copyOfRangeByte_30 : decode cJ8_copyOfRangeByte 30 = .ok (.aload 4, 2) := dk_25 4 (dk_at dksJ8_copyOfRangeByte_1 6 rfl rfl)
theorem dJ8_copyOfRangeByte_32 : decode cJ8_copyOfRangeByte 32 = .ok (.areturn, 1) := dk_176 (dk_at dksJ8_copyOfRangeByte_1 8 rfl rfl)
abbrev cJ8_checkLength : ByteArray := prog_54_method_131_code
def yJ8_checkLength : MethodName := ⟨RJ8, "checkLength", "(II)V"⟩
def dkwJ8_checkLength_1 : List UInt8 := [182, 0, 50, 27, 182, 0, 54, 182, 0, 61, 183, 0, 65, 191, 177]
abbrev dktJ8_checkLength_1 : List UInt8 := dkwJ8_checkLength_1 ++ []
def dkwJ8_checkLength_0 : List UInt8 := [27, 26, 162, 0, 35, 187, 0, 43, 89, 187, 0, 45, 89, 183, 0, 47, 26, 182, 0, 54, 19, 1, 81]
abbrev dktJ8_checkLength_0 : List UInt8 := dkwJ8_checkLength_0 ++ dktJ8_checkLength_1
theorem dksJ8_checkLength_0 : cJ8_checkLength.data.toList.drop 0 = dktJ8_checkLength_0 := by decide +kernel
theorem dksJ8_checkLength_1 : cJ8_checkLength.data.toList.drop 23 = dktJ8_checkLength_1 := dk_seg dksJ8_checkLength_0 23 rfl rfl
theorem dJ8_checkLength_0 : decode cJ8_checkLength 0 = .ok (.iload_n 1, 1) := dk_27 (dk_at dksJ8_checkLength_0 0 rfl rfl)
theorem dJ8_checkLength_1 : decode cJ8_checkLength 1 = .ok (.iload_n 0, 1) := dk_26 (dk_at dksJ8_checkLength_0 1 rfl rfl)
theorem dJ8_checkLength_2 : decode cJ8_checkLength 2 = .ok (.if_icmp .ge 35, 3) := dk_162 0 35 (dk_at dksJ8_checkLength_0 2 rfl rfl)
theorem dJ8_checkLength_5 : decode cJ8_checkLength 5 = .ok (.new 43, 3) := dk_187 0 43 (dk_at dksJ8_checkLength_0 5 rfl rfl)
theorem dJ8_checkLength_8 : decode cJ8_checkLength 8 = .ok (.dup, 1) := dk_89 (dk_at dksJ8_checkLength_0 8 rfl rfl)
theorem dJ8_checkLength_9 : decode cJ8_checkLength 9 = .ok (.new 45, 3) := dk_187 0 45 (dk_at dksJ8_checkLength_0 9 rfl rfl)
theorem dJ8_checkLength_12 : decode cJ8_checkLength 12 = .ok (.dup, 1) := dk_89 (dk_at dksJ8_checkLength_0 12 rfl rfl)
theorem dJ8_checkLength_13 : decode cJ8_checkLength 13 = .ok (.invokespecial 47, 3) := dk_183 0 47 (dk_at dksJ8_checkLength_0 13 rfl rfl)
theorem dJ8_checkLength_16 : decode cJ8_checkLength 16 = .ok (.iload_n 0, 1) := dk_26 (dk_at dksJ8_checkLength_0 16 rfl rfl)
theorem dJ8_checkLength_17 : decode cJ8_checkLength 17 = .ok (.invokevirtual 54, 3) := dk_182 0 54 (dk_at dksJ8_checkLength_0 17 rfl rfl)
theorem dJ8_checkLength_20 : decode cJ8_checkLength 20 = .ok (.ldc_w 337, 3) := dk_19 1 81 (dk_at dksJ8_checkLength_0 20 rfl rfl)
theorem dJ8_checkLength_23 : decode cJ8_checkLength 23 = .ok (.invokevirtual 50, 3) := dk_182 0 50 (dk_at dksJ8_checkLength_1 0 rfl rfl)
theorem dJ8_checkLength_26 : decode cJ8_checkLength 26 = .ok (.iload_n 1, 1) := dk_27 (dk_at dksJ8_checkLength_1 3 rfl rfl)
theorem dJ8_checkLength_27 : decode cJ8_checkLength 27 = .ok (.invokevirtual 54, 3) := dk_182 0 54 (dk_at dksJ8_checkLength_1 4 rfl rfl)
theorem dJ8_checkLength_30 : decode cJ8_checkLength 30 = .ok (.invokevirtual 61, 3) := dk_182 0 61 (dk_at dksJ8_checkLength_1 7 rfl rfl)
theorem dJ8_checkLength_33 : decode cJ8_checkLength 33 = .ok (.invokespecial 65, 3) := dk_183 0 65 (dk_at dksJ8_checkLength_1 10 rfl rfl)
theorem dJ8_checkLength_36 : decode cJ8_checkLength 36 = .ok (.athrow, 1) := dk_191 (dk_at dksJ8_checkLength_1 13 rfl rfl)
theorem dJ8_checkLength_37 : decode cJ8_checkLength 37 = .ok (.return_, 1) := dk_177 (dk_at dksJ8_checkLength_1 14 rfl rfl)
abbrev cJ8_copyOf_4 : ByteArray := prog_54_method_124_code
def yJ8_copyOf_4 : MethodName := ⟨RJ8, "copyOf", "([JI)[J"⟩
def dkwJ8_copyOf_4_1 : List UInt8 := [27, 184, 1, 48, 184, 0, 150, 44, 176]
abbrev dktJ8_copyOf_4_1 : List UInt8 := dkwJ8_copyOf_4_1 ++ []
def dkwJ8_copyOf_4_0 : List UInt8 := [27, 42, 190, 160, 0, 11, 42, 182, 1, 63, 192, 1, 64, 176, 27, 188, 11, 77, 42, 3, 44, 3, 42, 190]
abbrev dktJ8_copyOf_4_0 : List UInt8 := dkwJ8_copyOf_4_0 ++ dktJ8_copyOf_4_1
theorem dksJ8_copyOf_4_0 : cJ8_copyOf_4.data.toList.drop 0 = dktJ8_copyOf_4_0 := by decide +kernel
theorem dksJ8_copyOf_4_1 : cJ8_copyOf_4.data.toList.drop 24 = dktJ8_copyOf_4_1 := dk_seg dksJ8_copyOf_4_0 24 rfl rfl
theorem dJ8_copyOf_4_0 : decode cJ8_copyOf_4 0 = .ok (.iload_n 1, 1) := dk_27 (dk_at dksJ8_copyOf_4_0 0 rfl rfl)
theorem dJ8_copyOf_4_1 : decode cJ8_copyOf_4 1 = .ok (.aload_n 0, 1) := dk_42 (dk_at dksJ8_copyOf_4_0 1 rfl rfl)
theorem dJ8_copyOf_4_2 : decode cJ8_copyOf_4 2 = .ok (.arraylength, 1) := dk_190 (dk_at dksJ8_copyOf_4_0 2 rfl rfl)
theorem dJ8_copyOf_4_3 : decode cJ8_copyOf_4 3 = .ok (.if_icmp .ne 11, 3) := dk_160 0 11 (dk_at dksJ8_copyOf_4_0 3 rfl rfl)
theorem dJ8_copyOf_4_6 : decode cJ8_copyOf_4 6 = .ok (.aload_n 0, 1) := dk_42 (dk_at dksJ8_copyOf_4_0 6 rfl rfl)
theorem dJ8_copyOf_4_7 : decode cJ8_copyOf_4 7 = .ok (.invokevirtual 319, 3) := dk_182 1 63 (dk_at dksJ8_copyOf_4_0 7 rfl rfl)
theorem dJ8_copyOf_4_10 : decode cJ8_copyOf_4 10 = .ok (.checkcast 320, 3) := dk_192 1 64 (dk_at dksJ8_copyOf_4_0 10 rfl rfl)
theorem dJ8_copyOf_4_13 : decode cJ8_copyOf_4 13 = .ok (.areturn, 1) := dk_176 (dk_at dksJ8_copyOf_4_0 13 rfl rfl)
theorem dJ8_copyOf_4_14 : decode cJ8_copyOf_4 14 = .ok (.iload_n 1, 1) := dk_27 (dk_at dksJ8_copyOf_4_0 14 rfl rfl)
theorem dJ8_copyOf_4_15 : decode cJ8_copyOf_4 15 = .ok (.newarray .long, 2) := dk_188_11 (dk_at dksJ8_copyOf_4_0 15 rfl rfl)
theorem dJ8_copyOf_4_17 : decode cJ8_copyOf_4 17 = .ok (.astore_n 2, 1) := dk_77 (dk_at dksJ8_copyOf_4_0 17 rfl rfl)
theorem dJ8_copyOf_4_18 : decode cJ8_copyOf_4 18 = .ok (.aload_n 0, 1) := dk_42 (dk_at dksJ8_copyOf_4_0 18 rfl rfl)
theorem dJ8_copyOf_4_19 : decode cJ8_copyOf_4 19 = .ok (.iconst 0, 1) := dk_3 (dk_at dksJ8_copyOf_4_0 19 rfl rfl)
theorem dJ8_copyOf_4_20 : decode cJ8_copyOf_4 20 = .ok (.aload_n 2, 1) := dk_44 (dk_at dksJ8_copyOf_4_0 20 rfl rfl)
theorem dJ8_copyOf_4_21 : decode cJ8_copyOf_4 21 = .ok (.iconst 0, 1) := dk_3 (dk_at dksJ8_copyOf_4_0 21 rfl rfl)
theorem dJ8_copyOf_4_22 : decode cJ8_copyOf_4 22 = .ok (.aload_n 0, 1) := dk_42 (dk_at dksJ8_copyOf_4_0 22 rfl rfl)
theorem dJ8_copyOf_4_23 : decode cJ8_copyOf_4 23 = .ok (.arraylength, 1) := dk_190 (dk_at dksJ8_copyOf_4_0 23 rfl rfl)
theorem dJ8_copyOf_4_24 : decode cJ8_copyOf_4 24 = .ok (.iload_n 1, 1) := dk_27 (dk_at dksJ8_copyOf_4_1 0 rfl rfl)
theorem dJ8_copyOf_4_25 : decode cJ8_copyOf_4 25 = .ok (.invokestatic 304, 3) := dk_184 1 48 (dk_at dksJ8_copyOf_4_1 1 rfl rfl)
theorem dJ8_copyOf_4_28 : decode cJ8_copyOf_4 28 = .ok (.invokestatic 150, 3) := dk_184 0 150 (dk_at dksJ8_copyOf_4_1 4 rfl rfl)
theorem dJ8_copyOf_4_31 : decode cJ8_copyOf_4 31 = .ok (.aload_n 2, 1) := dk_44 (dk_at dksJ8_copyOf_4_1 7 rfl rfl)
theorem dJ8_copyOf_4_32 : decode cJ8_copyOf_4 32 = .ok (.areturn, 1) := dk_176 (dk_at dksJ8_copyOf_4_1 8 rfl rfl)
theorem q44 : (Jvm.Cond.initialized "java/util/Arrays") ∈ lw_all := lw_g (lw_at lw_m1 11 rfl) rfl
theorem q271 : (Jvm.Cond.static ({ cls := "java/util/Arrays", name := "copyOf", desc := "([Ljava/lang/Object;I)[Ljava/lang/Object;" } : Jvm.MethodName)) ∈ lw_all := lw_g (lw_at lw_m1 238 rfl) rfl
theorem q272 : (Jvm.Cond.code ({ cls := "java/util/Arrays", name := "copyOf", desc := "([Ljava/lang/Object;I)[Ljava/lang/Object;" } : Jvm.MethodName) prog_54_method_119_code (2 : Nat) (Option.some (Jvm.ClassFile.FieldType.array (Jvm.ClassFile.FieldType.object "java/lang/Object")))) ∈ lw_all := lw_g (lw_at lw_m1 239 rfl) rfl
theorem q273 : (Jvm.Cond.methodLink "java/util/Arrays" (86 : Nat) ({ cls := "java/lang/Object", name := "getClass", desc := "()Ljava/lang/Class;" } : Jvm.MethodName)) ∈ lw_all := lw_g (lw_at lw_m2 0 rfl) rfl
theorem q308 : (Jvm.Cond.methodLink "java/util/Arrays" (300 : Nat) ({ cls := "java/util/Arrays", name := "copyOf", desc := "([Ljava/lang/Object;ILjava/lang/Class;)[Ljava/lang/Object;" } : Jvm.MethodName)) ∈ lw_all := lw_g (lw_at lw_m2 35 rfl) rfl
theorem q309 : (Jvm.Cond.static ({ cls := "java/util/Arrays", name := "copyOf", desc := "([Ljava/lang/Object;ILjava/lang/Class;)[Ljava/lang/Object;" } : Jvm.MethodName)) ∈ lw_all := lw_g (lw_at lw_m2 36 rfl) rfl
theorem q310 : (Jvm.Cond.code ({ cls := "java/util/Arrays", name := "copyOf", desc := "([Ljava/lang/Object;ILjava/lang/Class;)[Ljava/lang/Object;" } : Jvm.MethodName) prog_54_method_120_code (4 : Nat) (Option.some (Jvm.ClassFile.FieldType.array (Jvm.ClassFile.FieldType.object "java/lang/Object")))) ∈ lw_all := lw_g (lw_at lw_m2 37 rfl) rfl
theorem q311 : (Jvm.Cond.classLink "java/util/Arrays" (110 : Nat) "[Ljava/lang/Object;") ∈ lw_all := lw_g (lw_at lw_m2 38 rfl) rfl
theorem q313 : (Jvm.Cond.classLink "java/util/Arrays" (2 : Nat) "java/lang/Object") ∈ lw_all := lw_g (lw_at lw_m2 40 rfl) rfl
theorem q314 : (Jvm.Cond.methodLink "java/util/Arrays" (304 : Nat) ({ cls := "java/lang/Math", name := "min", desc := "(II)I" } : Jvm.MethodName)) ∈ lw_all := lw_g (lw_at lw_m2 41 rfl) rfl
theorem q317 : (Jvm.Cond.methodLink "java/util/Arrays" (150 : Nat) ({ cls := "java/lang/System", name := "arraycopy", desc := "(Ljava/lang/Object;ILjava/lang/Object;II)V" } : Jvm.MethodName)) ∈ lw_all := lw_g (lw_at lw_m2 44 rfl) rfl
theorem q883 : (Jvm.Cond.static ({ cls := "java/util/Arrays", name := "copyOf", desc := "([BI)[B" } : Jvm.MethodName)) ∈ lw_all := lw_g (lw_at lw_m4 130 rfl) rfl
theorem q884 : (Jvm.Cond.code ({ cls := "java/util/Arrays", name := "copyOf", desc := "([BI)[B" } : Jvm.MethodName) prog_54_method_121_code (3 : Nat) (Option.some (Jvm.ClassFile.FieldType.array Jvm.ClassFile.FieldType.byte))) ∈ lw_all := lw_g (lw_at lw_m4 131 rfl) rfl
theorem q885 : (Jvm.Cond.methodLink "java/util/Arrays" (310 : Nat) ({ cls := "[B", name := "clone", desc := "()Ljava/lang/Object;" } : Jvm.MethodName)) ∈ lw_all := lw_g (lw_at lw_m4 132 rfl) rfl
theorem q891 : (Jvm.Cond.classLink "java/util/Arrays" (311 : Nat) "[B") ∈ lw_all := lw_g (lw_at lw_m4 138 rfl) rfl
theorem q1001 : (Jvm.Cond.static ({ cls := "java/util/Arrays", name := "copyOfRange", desc := "([BII)[B" } : Jvm.MethodName)) ∈ lw_all := lw_g (lw_at lw_m5 8 rfl) rfl
theorem q1002 : (Jvm.Cond.code ({ cls := "java/util/Arrays", name := "copyOfRange", desc := "([BII)[B" } : Jvm.MethodName) prog_54_method_132_code (3 : Nat) (Option.some (Jvm.ClassFile.FieldType.array Jvm.ClassFile.FieldType.byte))) ∈ lw_all := lw_g (lw_at lw_m5 9 rfl) rfl
theorem q1003 : (Jvm.Cond.methodLink "java/util/Arrays" (339 : Nat) ({ cls := "java/util/Arrays", name := "copyOfRangeByte", desc := "([BII)[B" } : Jvm.MethodName)) ∈ lw_all := lw_g (lw_at lw_m5 10 rfl) rfl
theorem q1004 : (Jvm.Cond.static ({ cls := "java/util/Arrays", name := "copyOfRangeByte", desc := "([BII)[B" } : Jvm.MethodName)) ∈ lw_all := lw_g (lw_at lw_m5 11 rfl) rfl
theorem q1005 : (Jvm.Cond.code ({ cls := "java/util/Arrays", name := "copyOfRangeByte", desc := "([BII)[B" } : Jvm.MethodName) prog_54_method_133_code (5 : Nat) (Option.some (Jvm.ClassFile.FieldType.array Jvm.ClassFile.FieldType.byte))) ∈ lw_all := lw_g (lw_at lw_m5 12 rfl) rfl
theorem q1006 : (Jvm.Cond.methodLink "java/util/Arrays" (343 : Nat) ({ cls := "java/util/Arrays", name := "checkLength", desc := "(II)V" } : Jvm.MethodName)) ∈ lw_all := lw_g (lw_at lw_m5 13 rfl) rfl
theorem q1007 : (Jvm.Cond.static ({ cls := "java/util/Arrays", name := "checkLength", desc := "(II)V" } : Jvm.MethodName)) ∈ lw_all := lw_g (lw_at lw_m5 14 rfl) rfl
theorem q1008 : (Jvm.Cond.code ({ cls := "java/util/Arrays", name := "checkLength", desc := "(II)V" } : Jvm.MethodName) prog_54_method_131_code (2 : Nat) (Option.none : Option Jvm.ClassFile.FieldType)) ∈ lw_all := lw_g (lw_at lw_m5 15 rfl) rfl
theorem q1009 : (Jvm.Cond.classLink "java/util/Arrays" (43 : Nat) "java/lang/IllegalArgumentException") ∈ lw_all := lw_g (lw_at lw_m5 16 rfl) rfl
theorem q1010 : (Jvm.Cond.classLink "java/util/Arrays" (45 : Nat) "java/lang/StringBuilder") ∈ lw_all := lw_g (lw_at lw_m5 17 rfl) rfl
theorem q1011 : (Jvm.Cond.methodLink "java/util/Arrays" (47 : Nat) ({ cls := "java/lang/StringBuilder", name := "<init>", desc := "()V" } : Jvm.MethodName)) ∈ lw_all := lw_g (lw_at lw_m5 18 rfl) rfl
theorem q1012 : (Jvm.Cond.methodLink "java/util/Arrays" (54 : Nat) ({ cls := "java/lang/StringBuilder", name := "append", desc := "(I)Ljava/lang/StringBuilder;" } : Jvm.MethodName)) ∈ lw_all := lw_g (lw_at lw_m5 19 rfl) rfl
theorem q1013 : (Jvm.Cond.stringRef "java/util/Arrays" (337 : Nat) " > ") ∈ lw_tbl := lw_at lw_m5 20 rfl
theorem q1014 : (Jvm.Cond.methodLink "java/util/Arrays" (50 : Nat) ({ cls := "java/lang/StringBuilder", name := "append", desc := "(Ljava/lang/String;)Ljava/lang/StringBuilder;" } : Jvm.MethodName)) ∈ lw_all := lw_g (lw_at lw_m5 21 rfl) rfl
theorem q1015 : (Jvm.Cond.methodLink "java/util/Arrays" (61 : Nat) ({ cls := "java/lang/StringBuilder", name := "toString", desc := "()Ljava/lang/String;" } : Jvm.MethodName)) ∈ lw_all := lw_g (lw_at lw_m5 22 rfl) rfl
theorem q1016 : (Jvm.Cond.methodLink "java/util/Arrays" (65 : Nat) ({ cls := "java/lang/IllegalArgumentException", name := "<init>", desc := "(Ljava/lang/String;)V" } : Jvm.MethodName)) ∈ lw_all := lw_g (lw_at lw_m5 23 rfl) rfl
theorem q1244 : (Jvm.Cond.static ({ cls := "java/util/Arrays", name := "copyOf", desc := "([JI)[J" } : Jvm.MethodName)) ∈ lw_all := lw_g (lw_at lw_m6 11 rfl) rfl
theorem q1245 : (Jvm.Cond.code ({ cls := "java/util/Arrays", name := "copyOf", desc := "([JI)[J" } : Jvm.MethodName) prog_54_method_124_code (3 : Nat) (Option.some (Jvm.ClassFile.FieldType.array Jvm.ClassFile.FieldType.long))) ∈ lw_all := lw_g (lw_at lw_m6 12 rfl) rfl
theorem q1246 : (Jvm.Cond.methodLink "java/util/Arrays" (319 : Nat) ({ cls := "[J", name := "clone", desc := "()Ljava/lang/Object;" } : Jvm.MethodName)) ∈ lw_all := lw_g (lw_at lw_m6 13 rfl) rfl
theorem q1250 : (Jvm.Cond.classLink "java/util/Arrays" (320 : Nat) "[J") ∈ lw_all := lw_g (lw_at lw_m6 17 rfl) rfl

/-! java/util/LinkedList$Node -/
set_option maxRecDepth 100000
def RJ9 : String := "java/util/LinkedList$Node"
def TJ9 : u_T := fun k => match k with
  | 0 => ("java/util/LinkedList$Node", "item", "Ljava/lang/Object;", false)
  | 1 => ("java/util/LinkedList$Node", "next", "Ljava/util/LinkedList$Node;", false)
  | _ => ("java/util/LinkedList$Node", "prev", "Ljava/util/LinkedList$Node;", false)
def tyJ9 : Nat → FieldType := fun k => match k with
  | 0 => .object "java/lang/Object"
  | 1 => .object "java/util/LinkedList$Node"
  | _ => .object "java/util/LinkedList$Node"
abbrev wsJ90 : List Cond := u_ws RJ9 TJ9 3
theorem nmJ9 : ∀ a, a < 3 → ∀ b, b < 3 → a ≠ b → (TJ9 a).2.1 ≠ (TJ9 b).2.1 := by decide +kernel
theorem tyJ9_ok : ∀ k, k < 3 → parseFieldDescriptor (TJ9 k).2.2.1 = some (tyJ9 k) := by decide +kernel
abbrev cJ9_init : ByteArray := prog_61_method_1_code
def yJ9_init : MethodName := ⟨RJ9, "<init>", "(Ljava/util/LinkedList$Node;Ljava/lang/Object;Ljava/util/LinkedList$Node;)V"⟩
def dkwJ9_init_0 : List UInt8 := [42, 183, 0, 1, 42, 44, 181, 0, 7, 42, 45, 181, 0, 13, 42, 43, 181, 0, 17, 177]
abbrev dktJ9_init_0 : List UInt8 := dkwJ9_init_0 ++ []
theorem dksJ9_init_0 : cJ9_init.data.toList.drop 0 = dktJ9_init_0 := by decide +kernel
theorem dJ9_init_0 : decode cJ9_init 0 = .ok (.aload_n 0, 1) := dk_42 (dk_at dksJ9_init_0 0 rfl rfl)
theorem dJ9_init_1 : decode cJ9_init 1 = .ok (.invokespecial 1, 3) := dk_183 0 1 (dk_at dksJ9_init_0 1 rfl rfl)
theorem dJ9_init_4 : decode cJ9_init 4 = .ok (.aload_n 0, 1) := dk_42 (dk_at dksJ9_init_0 4 rfl rfl)
theorem dJ9_init_5 : decode cJ9_init 5 = .ok (.aload_n 2, 1) := dk_44 (dk_at dksJ9_init_0 5 rfl rfl)
theorem dJ9_init_6 : decode cJ9_init 6 = .ok (.putfield 7, 3) := dk_181 0 7 (dk_at dksJ9_init_0 6 rfl rfl)
theorem dJ9_init_9 : decode cJ9_init 9 = .ok (.aload_n 0, 1) := dk_42 (dk_at dksJ9_init_0 9 rfl rfl)
theorem dJ9_init_10 : decode cJ9_init 10 = .ok (.aload_n 3, 1) := dk_45 (dk_at dksJ9_init_0 10 rfl rfl)
theorem dJ9_init_11 : decode cJ9_init 11 = .ok (.putfield 13, 3) := dk_181 0 13 (dk_at dksJ9_init_0 11 rfl rfl)
theorem dJ9_init_14 : decode cJ9_init 14 = .ok (.aload_n 0, 1) := dk_42 (dk_at dksJ9_init_0 14 rfl rfl)
theorem dJ9_init_15 : decode cJ9_init 15 = .ok (.aload_n 1, 1) := dk_43 (dk_at dksJ9_init_0 15 rfl rfl)
theorem dJ9_init_16 : decode cJ9_init 16 = .ok (.putfield 17, 3) := dk_181 0 17 (dk_at dksJ9_init_0 16 rfl rfl)
theorem dJ9_init_19 : decode cJ9_init 19 = .ok (.return_, 1) := dk_177 (dk_at dksJ9_init_0 19 rfl rfl)
theorem q46 : (Jvm.Cond.initialized "java/util/LinkedList$Node") ∈ lw_all := lw_g (lw_at lw_m1 13 rfl) rfl
theorem q305 : (Jvm.Cond.selects "java/util/LinkedList$Node" ({ cls := "java/lang/Object", name := "getClass", desc := "()Ljava/lang/Class;" } : Jvm.MethodName) ({ cls := "java/lang/Object", name := "getClass", desc := "()Ljava/lang/Class;" } : Jvm.MethodName)) ∈ lw_all := lw_g (lw_at lw_m2 32 rfl) rfl
theorem q333 : (Jvm.Cond.instantiable "java/util/LinkedList$Node" (3 : Nat)) ∈ lw_all := lw_g (lw_at lw_m2 60 rfl) rfl
theorem q335 : (Jvm.Cond.instanceMethod ({ cls := "java/util/LinkedList$Node", name := "<init>", desc := "(Ljava/util/LinkedList$Node;Ljava/lang/Object;Ljava/util/LinkedList$Node;)V" } : Jvm.MethodName)) ∈ lw_all := lw_g (lw_at lw_m2 62 rfl) rfl
theorem q336 : (Jvm.Cond.code ({ cls := "java/util/LinkedList$Node", name := "<init>", desc := "(Ljava/util/LinkedList$Node;Ljava/lang/Object;Ljava/util/LinkedList$Node;)V" } : Jvm.MethodName) prog_61_method_1_code (4 : Nat) (Option.none : Option Jvm.ClassFile.FieldType)) ∈ lw_all := lw_g (lw_at lw_m2 63 rfl) rfl
theorem q337 : (Jvm.Cond.methodLink "java/util/LinkedList$Node" (1 : Nat) ({ cls := "java/lang/Object", name := "<init>", desc := "()V" } : Jvm.MethodName)) ∈ lw_all := lw_g (lw_at lw_m2 64 rfl) rfl
theorem q338 : (Jvm.Cond.fieldLink "java/util/LinkedList$Node" (7 : Nat) "java/util/LinkedList$Node" "item" "Ljava/lang/Object;") ∈ lw_all := lw_g (lw_at lw_m2 65 rfl) rfl
theorem q341 : (Jvm.Cond.fieldLink "java/util/LinkedList$Node" (13 : Nat) "java/util/LinkedList$Node" "next" "Ljava/util/LinkedList$Node;") ∈ lw_all := lw_g (lw_at lw_m2 68 rfl) rfl
theorem q344 : (Jvm.Cond.fieldLink "java/util/LinkedList$Node" (17 : Nat) "java/util/LinkedList$Node" "prev" "Ljava/util/LinkedList$Node;") ∈ lw_all := lw_g (lw_at lw_m2 71 rfl) rfl
theorem q346 : (Jvm.Cond.lays "java/util/LinkedList$Node" "java/util/LinkedList$Node" "item" "Ljava/lang/Object;") ∈ lw_all := lw_g (lw_at lw_m2 73 rfl) rfl
theorem q347 : (Jvm.Cond.soleField "java/util/LinkedList$Node" "item") ∈ lw_all := lw_g (lw_at lw_m2 74 rfl) rfl
theorem q348 : (Jvm.Cond.lays "java/util/LinkedList$Node" "java/util/LinkedList$Node" "next" "Ljava/util/LinkedList$Node;") ∈ lw_all := lw_g (lw_at lw_m2 75 rfl) rfl
theorem q349 : (Jvm.Cond.soleField "java/util/LinkedList$Node" "next") ∈ lw_all := lw_g (lw_at lw_m2 76 rfl) rfl
theorem q350 : (Jvm.Cond.lays "java/util/LinkedList$Node" "java/util/LinkedList$Node" "prev" "Ljava/util/LinkedList$Node;") ∈ lw_all := lw_g (lw_at lw_m2 77 rfl) rfl
theorem q351 : (Jvm.Cond.soleField "java/util/LinkedList$Node" "prev") ∈ lw_all := lw_g (lw_at lw_m2 78 rfl) rfl
theorem q352 : (Jvm.Cond.superclass "java/util/LinkedList$Node" "java/lang/Object") ∈ lw_all := lw_g (lw_at lw_m2 79 rfl) rfl
theorem q2243 : (Jvm.Cond.castable "java/util/LinkedList$Node" "java/lang/Object") ∈ lw_tbl := lw_at lw_m10 50 rfl
theorem in_J9 : ∀ w ∈ wsJ90, w ∈ lw_all := lw_in wsJ90 [346, 348, 350] (by decide +kernel) (by decide +kernel)

/-! java/lang/Enum -/
set_option maxRecDepth 100000
def RJ10 : String := "java/lang/Enum"
abbrev cJ10_ordinal : ByteArray := prog_26_method_2_code
def yJ10_ordinal : MethodName := ⟨RJ10, "ordinal", "()I"⟩
theorem dJ10_ordinal_0 : decode cJ10_ordinal 0 = .ok (.aload_n 0, 1) := by decide +kernel
theorem dJ10_ordinal_1 : decode cJ10_ordinal 1 = .ok (.getfield 7, 3) := by decide +kernel
theorem dJ10_ordinal_4 : decode cJ10_ordinal 4 = .ok (.ireturn, 1) := by decide +kernel
theorem q50 : (Jvm.Cond.initialized "java/lang/Enum") ∈ lw_all := lw_g (lw_at lw_m1 17 rfl) rfl
theorem q676 : (Jvm.Cond.declares ({ cls := "java/lang/Enum", name := "ordinal", desc := "()I" } : Jvm.MethodName)) ∈ lw_tbl := lw_at lw_m3 163 rfl
theorem q678 : (Jvm.Cond.instanceMethod ({ cls := "java/lang/Enum", name := "ordinal", desc := "()I" } : Jvm.MethodName)) ∈ lw_all := lw_g (lw_at lw_m3 165 rfl) rfl
theorem q679 : (Jvm.Cond.code ({ cls := "java/lang/Enum", name := "ordinal", desc := "()I" } : Jvm.MethodName) prog_26_method_2_code (1 : Nat) (Option.some Jvm.ClassFile.FieldType.int)) ∈ lw_all := lw_g (lw_at lw_m3 166 rfl) rfl
theorem q2278 : (Jvm.Cond.fieldLink "java/lang/Enum" (7 : Nat) "java/lang/Enum" "ordinal" "I") ∈ lw_all := lw_g (lw_at lw_m10 85 rfl) rfl

/-! java/lang/Throwable -/
set_option maxRecDepth 100000
def RJ11 : String := "java/lang/Throwable"
def TJ11 : u_T := fun k => match k with
  | 0 => ("java/lang/Throwable", "cause", "Ljava/lang/Throwable;", false)
  | 1 => ("java/lang/Throwable", "stackTrace", "[Ljava/lang/StackTraceElement;", false)
  | 2 => ("java/lang/Throwable", "suppressedExceptions", "Ljava/util/List;", false)
  | 3 => ("java/lang/Throwable", "detailMessage", "Ljava/lang/String;", false)
  | _ => ("java/lang/Throwable", "backtrace", "Ljava/lang/Object;", false)
def tyJ11 : Nat → FieldType := fun k => match k with
  | 0 => .object "java/lang/Throwable"
  | 1 => .array (.object "java/lang/StackTraceElement")
  | 2 => .object "java/util/List"
  | 3 => .object "java/lang/String"
  | _ => .object "java/lang/Object"
abbrev wsJ110 : List Cond := u_ws RJ11 TJ11 5
theorem nmJ11 : ∀ a, a < 5 → ∀ b, b < 5 → a ≠ b → (TJ11 a).2.1 ≠ (TJ11 b).2.1 := by decide +kernel
theorem tyJ11_ok : ∀ k, k < 5 → parseFieldDescriptor (TJ11 k).2.2.1 = some (tyJ11 k) := by decide +kernel
abbrev cJ11_init : ByteArray := prog_42_method_1_code
def yJ11_init : MethodName := ⟨RJ11, "<init>", "()V"⟩
def dkwJ11_init_1 : List UInt8 := [182, 0, 27, 87, 177]
abbrev dktJ11_init_1 : List UInt8 := dkwJ11_init_1 ++ []
def dkwJ11_init_0 : List UInt8 := [42, 183, 0, 1, 42, 42, 181, 0, 7, 42, 178, 0, 13, 181, 0, 17, 42, 178, 0, 20, 181, 0, 24, 42]
abbrev dktJ11_init_0 : List UInt8 := dkwJ11_init_0 ++ dktJ11_init_1
theorem dksJ11_init_0 : cJ11_init.data.toList.drop 0 = dktJ11_init_0 := by decide +kernel
theorem dksJ11_init_1 : cJ11_init.data.toList.drop 24 = dktJ11_init_1 := dk_seg dksJ11_init_0 24 rfl rfl
theorem dJ11_init_0 : decode cJ11_init 0 = .ok (.aload_n 0, 1) := dk_42 (dk_at dksJ11_init_0 0 rfl rfl)
theorem dJ11_init_1 : decode cJ11_init 1 = .ok (.invokespecial 1, 3) := dk_183 0 1 (dk_at dksJ11_init_0 1 rfl rfl)
theorem dJ11_init_4 : decode cJ11_init 4 = .ok (.aload_n 0, 1) := dk_42 (dk_at dksJ11_init_0 4 rfl rfl)
theorem dJ11_init_5 : decode cJ11_init 5 = .ok (.aload_n 0, 1) := dk_42 (dk_at dksJ11_init_0 5 rfl rfl)
theorem dJ11_init_6 : decode cJ11_init 6 = .ok (.putfield 7, 3) := dk_181 0 7 (dk_at dksJ11_init_0 6 rfl rfl)
theorem dJ11_init_9 : decode cJ11_init 9 = .ok (.aload_n 0, 1) := dk_42 (dk_at dksJ11_init_0 9 rfl rfl)
theorem dJ11_init_10 : decode cJ11_init 10 = .ok (.getstatic 13, 3) := dk_178 0 13 (dk_at dksJ11_init_0 10 rfl rfl)
theorem dJ11_init_13 : decode cJ11_init 13 = .ok (.putfield 17, 3) := dk_181 0 17 (dk_at dksJ11_init_0 13 rfl rfl)
theorem dJ11_init_16 : decode cJ11_init 16 = .ok (.aload_n 0, 1) := dk_42 (dk_at dksJ11_init_0 16 rfl rfl)
theorem dJ11_init_17 : decode cJ11_init 17 = .ok (.getstatic 20, 3) := dk_178 0 20 (dk_at dksJ11_init_0 17 rfl rfl)
theorem dJ11_init_20 : decode cJ11_init 20 = .ok (.putfield 24, 3) := dk_181 0 24 (dk_at dksJ11_init_0 20 rfl rfl)
theorem dJ11_init_23 : decode cJ11_init 23 = .ok (.aload_n 0, 1) := dk_42 (dk_at dksJ11_init_0 23 rfl rfl)
theorem dJ11_init_24 : decode cJ11_init 24 = .ok (.invokevirtual 27, 3) := dk_182 0 27 (dk_at dksJ11_init_1 0 rfl rfl)
theorem dJ11_init_27 : decode cJ11_init 27 = .ok (.pop, 1) := dk_87 (dk_at dksJ11_init_1 3 rfl rfl)
theorem dJ11_init_28 : decode cJ11_init 28 = .ok (.return_, 1) := dk_177 (dk_at dksJ11_init_1 4 rfl rfl)
abbrev cJ11_init_2 : ByteArray := prog_42_method_2_code
def yJ11_init_2 : MethodName := ⟨RJ11, "<init>", "(Ljava/lang/String;)V"⟩
def dkwJ11_init_2_1 : List UInt8 := [182, 0, 27, 87, 42, 43, 181, 0, 31, 177]
abbrev dktJ11_init_2_1 : List UInt8 := dkwJ11_init_2_1 ++ []
def dkwJ11_init_2_0 : List UInt8 := [42, 183, 0, 1, 42, 42, 181, 0, 7, 42, 178, 0, 13, 181, 0, 17, 42, 178, 0, 20, 181, 0, 24, 42]
abbrev dktJ11_init_2_0 : List UInt8 := dkwJ11_init_2_0 ++ dktJ11_init_2_1
theorem dksJ11_init_2_0 : cJ11_init_2.data.toList.drop 0 = dktJ11_init_2_0 := by decide +kernel
theorem dksJ11_init_2_1 : cJ11_init_2.data.toList.drop 24 = dktJ11_init_2_1 := dk_seg dksJ11_init_2_0 24 rfl rfl
theorem dJ11_init_2_0 : decode cJ11_init_2 0 = .ok (.aload_n 0, 1) := dk_42 (dk_at dksJ11_init_2_0 0 rfl rfl)
theorem dJ11_init_2_1 : decode cJ11_init_2 1 = .ok (.invokespecial 1, 3) := dk_183 0 1 (dk_at dksJ11_init_2_0 1 rfl rfl)
theorem dJ11_init_2_4 : decode cJ11_init_2 4 = .ok (.aload_n 0, 1) := dk_42 (dk_at dksJ11_init_2_0 4 rfl rfl)
theorem dJ11_init_2_5 : decode cJ11_init_2 5 = .ok (.aload_n 0, 1) := dk_42 (dk_at dksJ11_init_2_0 5 rfl rfl)
theorem dJ11_init_2_6 : decode cJ11_init_2 6 = .ok (.putfield 7, 3) := dk_181 0 7 (dk_at dksJ11_init_2_0 6 rfl rfl)
theorem dJ11_init_2_9 : decode cJ11_init_2 9 = .ok (.aload_n 0, 1) := dk_42 (dk_at dksJ11_init_2_0 9 rfl rfl)
theorem dJ11_init_2_10 : decode cJ11_init_2 10 = .ok (.getstatic 13, 3) := dk_178 0 13 (dk_at dksJ11_init_2_0 10 rfl rfl)
theorem dJ11_init_2_13 : decode cJ11_init_2 13 = .ok (.putfield 17, 3) := dk_181 0 17 (dk_at dksJ11_init_2_0 13 rfl rfl)
theorem dJ11_init_2_16 : decode cJ11_init_2 16 = .ok (.aload_n 0, 1) := dk_42 (dk_at dksJ11_init_2_0 16 rfl rfl)
theorem dJ11_init_2_17 : decode cJ11_init_2 17 = .ok (.getstatic 20, 3) := dk_178 0 20 (dk_at dksJ11_init_2_0 17 rfl rfl)
theorem dJ11_init_2_20 : decode cJ11_init_2 20 = .ok (.putfield 24, 3) := dk_181 0 24 (dk_at dksJ11_init_2_0 20 rfl rfl)
theorem dJ11_init_2_23 : decode cJ11_init_2 23 = .ok (.aload_n 0, 1) := dk_42 (dk_at dksJ11_init_2_0 23 rfl rfl)
theorem dJ11_init_2_24 : decode cJ11_init_2 24 = .ok (.invokevirtual 27, 3) := dk_182 0 27 (dk_at dksJ11_init_2_1 0 rfl rfl)
theorem dJ11_init_2_27 : decode cJ11_init_2 27 = .ok (.pop, 1) := dk_87 (dk_at dksJ11_init_2_1 3 rfl rfl)
theorem dJ11_init_2_28 : decode cJ11_init_2 28 = .ok (.aload_n 0, 1) := dk_42 (dk_at dksJ11_init_2_1 4 rfl rfl)
theorem dJ11_init_2_29 : decode cJ11_init_2 29 = .ok (.aload_n 1, 1) := dk_43 (dk_at dksJ11_init_2_1 5 rfl rfl)
theorem dJ11_init_2_30 : decode cJ11_init_2 30 = .ok (.putfield 31, 3) := dk_181 0 31 (dk_at dksJ11_init_2_1 6 rfl rfl)
theorem dJ11_init_2_33 : decode cJ11_init_2 33 = .ok (.return_, 1) := dk_177 (dk_at dksJ11_init_2_1 9 rfl rfl)
abbrev cJ11_init_3 : ByteArray := prog_42_method_4_code
def yJ11_init_3 : MethodName := ⟨RJ11, "<init>", "(Ljava/lang/Throwable;)V"⟩
def dkwJ11_init_3_2 : List UInt8 := [181, 0, 7, 177]
abbrev dktJ11_init_3_2 : List UInt8 := dkwJ11_init_3_2 ++ []
def dkwJ11_init_3_1 : List UInt8 := [182, 0, 27, 87, 42, 43, 199, 0, 7, 1, 167, 0, 7, 43, 182, 0, 35, 181, 0, 31, 42, 43]
abbrev dktJ11_init_3_1 : List UInt8 := dkwJ11_init_3_1 ++ dktJ11_init_3_2
def dkwJ11_init_3_0 : List UInt8 := [42, 183, 0, 1, 42, 42, 181, 0, 7, 42, 178, 0, 13, 181, 0, 17, 42, 178, 0, 20, 181, 0, 24, 42]
abbrev dktJ11_init_3_0 : List UInt8 := dkwJ11_init_3_0 ++ dktJ11_init_3_1
theorem dksJ11_init_3_0 : cJ11_init_3.data.toList.drop 0 = dktJ11_init_3_0 := by decide +kernel
theorem dksJ11_init_3_1 : cJ11_init_3.data.toList.drop 24 = dktJ11_init_3_1 := dk_seg dksJ11_init_3_0 24 rfl rfl
theorem dksJ11_init_3_2 : cJ11_init_3.data.toList.drop 46 = dktJ11_init_3_2 := dk_seg dksJ11_init_3_1 22 rfl rfl
theorem dJ11_init_3_0 : decode cJ11_init_3 0 = .ok (.aload_n 0, 1) := dk_42 (dk_at dksJ11_init_3_0 0 rfl rfl)
theorem dJ11_init_3_1 : decode cJ11_init_3 1 = .ok (.invokespecial 1, 3) := dk_183 0 1 (dk_at dksJ11_init_3_0 1 rfl rfl)
theorem dJ11_init_3_4 : decode cJ11_init_3 4 = .ok (.aload_n 0, 1) := dk_42 (dk_at dksJ11_init_3_0 4 rfl rfl)
theorem dJ11_init_3_5 : decode cJ11_init_3 5 = .ok (.aload_n 0, 1) := dk_42 (dk_at dksJ11_init_3_0 5 rfl rfl)
theorem dJ11_init_3_6 : decode cJ11_init_3 6 = .ok (.putfield 7, 3) := dk_181 0 7 (dk_at dksJ11_init_3_0 6 rfl rfl)
theorem dJ11_init_3_9 : decode cJ11_init_3 9 = .ok (.aload_n 0, 1) := dk_42 (dk_at dksJ11_init_3_0 9 rfl rfl)
theorem dJ11_init_3_10 : decode cJ11_init_3 10 = .ok (.getstatic 13, 3) := dk_178 0 13 (dk_at dksJ11_init_3_0 10 rfl rfl)
theorem dJ11_init_3_13 : decode cJ11_init_3 13 = .ok (.putfield 17, 3) := dk_181 0 17 (dk_at dksJ11_init_3_0 13 rfl rfl)
theorem dJ11_init_3_16 : decode cJ11_init_3 16 = .ok (.aload_n 0, 1) := dk_42 (dk_at dksJ11_init_3_0 16 rfl rfl)
theorem dJ11_init_3_17 : decode cJ11_init_3 17 = .ok (.getstatic 20, 3) := dk_178 0 20 (dk_at dksJ11_init_3_0 17 rfl rfl)
theorem dJ11_init_3_20 : decode cJ11_init_3 20 = .ok (.putfield 24, 3) := dk_181 0 24 (dk_at dksJ11_init_3_0 20 rfl rfl)
theorem dJ11_init_3_23 : decode cJ11_init_3 23 = .ok (.aload_n 0, 1) := dk_42 (dk_at dksJ11_init_3_0 23 rfl rfl)
theorem dJ11_init_3_24 : decode cJ11_init_3 24 = .ok (.invokevirtual 27, 3) := dk_182 0 27 (dk_at dksJ11_init_3_1 0 rfl rfl)
theorem dJ11_init_3_27 : decode cJ11_init_3 27 = .ok (.pop, 1) := dk_87 (dk_at dksJ11_init_3_1 3 rfl rfl)
theorem dJ11_init_3_28 : decode cJ11_init_3 28 = .ok (.aload_n 0, 1) := dk_42 (dk_at dksJ11_init_3_1 4 rfl rfl)
theorem dJ11_init_3_29 : decode cJ11_init_3 29 = .ok (.aload_n 1, 1) := dk_43 (dk_at dksJ11_init_3_1 5 rfl rfl)
theorem dJ11_init_3_30 : decode cJ11_init_3 30 = .ok (.ifnonnull 7, 3) := dk_199 0 7 (dk_at dksJ11_init_3_1 6 rfl rfl)
theorem dJ11_init_3_33 : decode cJ11_init_3 33 = .ok (.aconst_null, 1) := dk_1 (dk_at dksJ11_init_3_1 9 rfl rfl)
theorem dJ11_init_3_34 : decode cJ11_init_3 34 = .ok (.goto 7, 3) := dk_167 0 7 (dk_at dksJ11_init_3_1 10 rfl rfl)
theorem dJ11_init_3_37 : decode cJ11_init_3 37 = .ok (.aload_n 1, 1) := dk_43 (dk_at dksJ11_init_3_1 13 rfl rfl)
theorem dJ11_init_3_38 : decode cJ11_init_3 38 = .ok (.invokevirtual 35, 3) := dk_182 0 35 (dk_at dksJ11_init_3_1 14 rfl rfl)
theorem dJ11_init_3_41 : decode cJ11_init_3 41 = .ok (.putfield 31, 3) := dk_181 0 31 (dk_at dksJ11_init_3_1 17 rfl rfl)
theorem dJ11_init_3_44 : decode cJ11_init_3 44 = .ok (.aload_n 0, 1) := dk_42 (dk_at dksJ11_init_3_1 20 rfl rfl)
theorem dJ11_init_3_45 : decode cJ11_init_3 45 = .ok (.aload_n 1, 1) := dk_43 (dk_at dksJ11_init_3_1 21 rfl rfl)
theorem dJ11_init_3_46 : decode cJ11_init_3 46 = .ok (.putfield 7, 3) := dk_181 0 7 (dk_at dksJ11_init_3_2 0 rfl rfl)
theorem dJ11_init_3_49 : decode cJ11_init_3 49 = .ok (.return_, 1) := dk_177 (dk_at dksJ11_init_3_2 3 rfl rfl)
abbrev cJ11_toString : ByteArray := prog_42_method_11_code
def yJ11_toString : MethodName := ⟨RJ11, "toString", "()Ljava/lang/String;"⟩
def dkwJ11_toString_1 : List UInt8 := [43, 182, 0, 49, 18, 81, 182, 0, 49, 44, 182, 0, 49, 182, 0, 60, 167, 0, 4, 43, 176]
abbrev dktJ11_toString_1 : List UInt8 := dkwJ11_toString_1 ++ []
def dkwJ11_toString_0 : List UInt8 := [42, 182, 0, 69, 182, 0, 73, 76, 42, 182, 0, 78, 77, 44, 198, 0, 29, 187, 0, 44, 89, 183, 0, 46]
abbrev dktJ11_toString_0 : List UInt8 := dkwJ11_toString_0 ++ dktJ11_toString_1
theorem dksJ11_toString_0 : cJ11_toString.data.toList.drop 0 = dktJ11_toString_0 := by decide +kernel
theorem dksJ11_toString_1 : cJ11_toString.data.toList.drop 24 = dktJ11_toString_1 := dk_seg dksJ11_toString_0 24 rfl rfl
theorem dJ11_toString_0 : decode cJ11_toString 0 = .ok (.aload_n 0, 1) := dk_42 (dk_at dksJ11_toString_0 0 rfl rfl)
theorem dJ11_toString_1 : decode cJ11_toString 1 = .ok (.invokevirtual 69, 3) := dk_182 0 69 (dk_at dksJ11_toString_0 1 rfl rfl)
theorem dJ11_toString_4 : decode cJ11_toString 4 = .ok (.invokevirtual 73, 3) := dk_182 0 73 (dk_at dksJ11_toString_0 4 rfl rfl)
theorem dJ11_toString_7 : decode cJ11_toString 7 = .ok (.astore_n 1, 1) := dk_76 (dk_at dksJ11_toString_0 7 rfl rfl)
theorem dJ11_toString_8 : decode cJ11_toString 8 = .ok (.aload_n 0, 1) := dk_42 (dk_at dksJ11_toString_0 8 rfl rfl)
theorem dJ11_toString_9 : decode cJ11_toString 9 = .ok (.invokevirtual 78, 3) := dk_182 0 78 (dk_at dksJ11_toString_0 9 rfl rfl)
theorem dJ11_toString_12 : decode cJ11_toString 12 = .ok (.astore_n 2, 1) := dk_77 (dk_at dksJ11_toString_0 12 rfl rfl)
theorem dJ11_toString_13 : decode cJ11_toString 13 = .ok (.aload_n 2, 1) := dk_44 (dk_at dksJ11_toString_0 13 rfl rfl)
theorem dJ11_toString_14 : decode cJ11_toString 14 = .ok (.ifnull 29, 3) := dk_198 0 29 (dk_at dksJ11_toString_0 14 rfl rfl)
theorem dJ11_toString_17 : decode cJ11_toString 17 = .ok (.new 44, 3) := dk_187 0 44 (dk_at dksJ11_toString_0 17 rfl rfl)
theorem dJ11_toString_20 : decode cJ11_toString 20 = .ok (.dup, 1) := dk_89 (dk_at dksJ11_toString_0 20 rfl rfl)
theorem dJ11_toString_21 : decode cJ11_toString 21 = .ok (.invokespecial 46, 3) := dk_183 0 46 (dk_at dksJ11_toString_0 21 rfl rfl)
theorem dJ11_toString_24 : decode cJ11_toString 24 = .ok (.aload_n 1, 1) := dk_43 (dk_at dksJ11_toString_1 0 rfl rfl)
theorem dJ11_toString_25 : decode cJ11_toString 25 = .ok (.invokevirtual 49, 3) := dk_182 0 49 (dk_at dksJ11_toString_1 1 rfl rfl)
theorem dJ11_toString_28 : decode cJ11_toString 28 = .ok (.ldc 81, 2) := dk_18 81 (dk_at dksJ11_toString_1 4 rfl rfl)
theorem dJ11_toString_30 : decode cJ11_toString 30 = .ok (.invokevirtual 49, 3) := dk_182 0 49 (dk_at dksJ11_toString_1 6 rfl rfl)
theorem dJ11_toString_33 : decode cJ11_toString 33 = .ok (.aload_n 2, 1) := dk_44 (dk_at dksJ11_toString_1 9 rfl rfl)
theorem dJ11_toString_34 : decode cJ11_toString 34 = .ok (.invokevirtual 49, 3) := dk_182 0 49 (dk_at dksJ11_toString_1 10 rfl rfl)
theorem dJ11_toString_37 : decode cJ11_toString 37 = .ok (.invokevirtual 60, 3) := dk_182 0 60 (dk_at dksJ11_toString_1 13 rfl rfl)
theorem dJ11_toString_40 : decode cJ11_toString 40 = .ok (.goto 4, 3) := dk_167 0 4 (dk_at dksJ11_toString_1 16 rfl rfl)
theorem dJ11_toString_43 : decode cJ11_toString 43 = .ok (.aload_n 1, 1) := dk_43 (dk_at dksJ11_toString_1 19 rfl rfl)
theorem dJ11_toString_44 : decode cJ11_toString 44 = .ok (.areturn, 1) := dk_176 (dk_at dksJ11_toString_1 20 rfl rfl)
abbrev cJ11_getLocalizedMessage : ByteArray := prog_42_method_7_code
def yJ11_getLocalizedMessage : MethodName := ⟨RJ11, "getLocalizedMessage", "()Ljava/lang/String;"⟩
theorem dJ11_getLocalizedMessage_0 : decode cJ11_getLocalizedMessage 0 = .ok (.aload_n 0, 1) := by decide +kernel
theorem dJ11_getLocalizedMessage_1 : decode cJ11_getLocalizedMessage 1 = .ok (.invokevirtual 39, 3) := by decide +kernel
theorem dJ11_getLocalizedMessage_4 : decode cJ11_getLocalizedMessage 4 = .ok (.areturn, 1) := by decide +kernel
abbrev cJ11_getMessage : ByteArray := prog_42_method_6_code
def yJ11_getMessage : MethodName := ⟨RJ11, "getMessage", "()Ljava/lang/String;"⟩
theorem dJ11_getMessage_0 : decode cJ11_getMessage 0 = .ok (.aload_n 0, 1) := by decide +kernel
theorem dJ11_getMessage_1 : decode cJ11_getMessage 1 = .ok (.getfield 31, 3) := by decide +kernel
theorem dJ11_getMessage_4 : decode cJ11_getMessage 4 = .ok (.areturn, 1) := by decide +kernel
theorem q52 : (Jvm.Cond.initialized "java/lang/Throwable") ∈ lw_all := lw_g (lw_at lw_m1 19 rfl) rfl
theorem q583 : (Jvm.Cond.declares ({ cls := "java/lang/Throwable", name := "<init>", desc := "()V" } : Jvm.MethodName)) ∈ lw_tbl := lw_at lw_m3 70 rfl
theorem q584 : (Jvm.Cond.declares ({ cls := "java/lang/Throwable", name := "<init>", desc := "(Ljava/lang/String;)V" } : Jvm.MethodName)) ∈ lw_tbl := lw_at lw_m3 71 rfl
theorem q588 : (Jvm.Cond.lays "java/lang/Throwable" "java/lang/Throwable" "cause" "Ljava/lang/Throwable;") ∈ lw_all := lw_g (lw_at lw_m3 75 rfl) rfl
theorem q590 : (Jvm.Cond.lays "java/lang/Throwable" "java/lang/Throwable" "stackTrace" "[Ljava/lang/StackTraceElement;") ∈ lw_all := lw_g (lw_at lw_m3 77 rfl) rfl
theorem q592 : (Jvm.Cond.lays "java/lang/Throwable" "java/lang/Throwable" "suppressedExceptions" "Ljava/util/List;") ∈ lw_all := lw_g (lw_at lw_m3 79 rfl) rfl
theorem q594 : (Jvm.Cond.lays "java/lang/Throwable" "java/lang/Throwable" "detailMessage" "Ljava/lang/String;") ∈ lw_all := lw_g (lw_at lw_m3 81 rfl) rfl
theorem q596 : (Jvm.Cond.lays "java/lang/Throwable" "java/lang/Throwable" "backtrace" "Ljava/lang/Object;") ∈ lw_all := lw_g (lw_at lw_m3 83 rfl) rfl
theorem q597 : (Jvm.Cond.fieldLink "java/lang/Throwable" (198 : Nat) "java/lang/Throwable" "backtrace" "Ljava/lang/Object;") ∈ lw_all := lw_g (lw_at lw_m3 84 rfl) rfl
theorem q598 : (Jvm.Cond.superclass "java/lang/Throwable" "java/lang/Object") ∈ lw_all := lw_g (lw_at lw_m3 85 rfl) rfl
theorem q599 : (Jvm.Cond.instanceMethod ({ cls := "java/lang/Throwable", name := "<init>", desc := "()V" } : Jvm.MethodName)) ∈ lw_all := lw_g (lw_at lw_m3 86 rfl) rfl
theorem q600 : (Jvm.Cond.code ({ cls := "java/lang/Throwable", name := "<init>", desc := "()V" } : Jvm.MethodName) prog_42_method_1_code (1 : Nat) (Option.none : Option Jvm.ClassFile.FieldType)) ∈ lw_all := lw_g (lw_at lw_m3 87 rfl) rfl
theorem q601 : (Jvm.Cond.methodLink "java/lang/Throwable" (1 : Nat) ({ cls := "java/lang/Object", name := "<init>", desc := "()V" } : Jvm.MethodName)) ∈ lw_all := lw_g (lw_at lw_m3 88 rfl) rfl
theorem q602 : (Jvm.Cond.fieldLink "java/lang/Throwable" (13 : Nat) "java/lang/Throwable" "UNASSIGNED_STACK" "[Ljava/lang/StackTraceElement;") ∈ lw_all := lw_g (lw_at lw_m3 89 rfl) rfl
theorem q603 : (Jvm.Cond.laysStatic "java/lang/Throwable" "UNASSIGNED_STACK" "[Ljava/lang/StackTraceElement;") ∈ lw_tbl := lw_at lw_m3 90 rfl
theorem q604 : (Jvm.Cond.fieldLink "java/lang/Throwable" (20 : Nat) "java/lang/Throwable" "SUPPRESSED_SENTINEL" "Ljava/util/List;") ∈ lw_all := lw_g (lw_at lw_m3 91 rfl) rfl
theorem q605 : (Jvm.Cond.laysStatic "java/lang/Throwable" "SUPPRESSED_SENTINEL" "Ljava/util/List;") ∈ lw_tbl := lw_at lw_m3 92 rfl
theorem q606 : (Jvm.Cond.methodLink "java/lang/Throwable" (27 : Nat) ({ cls := "java/lang/Throwable", name := "fillInStackTrace", desc := "()Ljava/lang/Throwable;" } : Jvm.MethodName)) ∈ lw_all := lw_g (lw_at lw_m3 93 rfl) rfl
theorem q607 : (Jvm.Cond.instanceMethod ({ cls := "java/lang/Throwable", name := "fillInStackTrace", desc := "()Ljava/lang/Throwable;" } : Jvm.MethodName)) ∈ lw_all := lw_g (lw_at lw_m3 94 rfl) rfl
theorem q608 : (Jvm.Cond.sameMethod "java/lang/Throwable" "java/lang/Throwable" "fillInStackTrace" "()Ljava/lang/Throwable;") ∈ lw_all := lw_g (lw_at lw_m3 95 rfl) rfl
theorem q615 : (Jvm.Cond.codeSync ({ cls := "java/lang/Throwable", name := "fillInStackTrace", desc := "()Ljava/lang/Throwable;" } : Jvm.MethodName) prog_42_method_18_code (1 : Nat) (Option.some (Jvm.ClassFile.FieldType.object "java/lang/Throwable"))) ∈ lw_all := lw_g (lw_at lw_m3 102 rfl) rfl
theorem q616 : (Jvm.Cond.methodLink "java/lang/Throwable" (202 : Nat) ({ cls := "java/lang/Throwable", name := "fillInStackTrace", desc := "(I)Ljava/lang/Throwable;" } : Jvm.MethodName)) ∈ lw_all := lw_g (lw_at lw_m3 103 rfl) rfl
theorem q617 : (Jvm.Cond.privateMethod ({ cls := "java/lang/Throwable", name := "fillInStackTrace", desc := "(I)Ljava/lang/Throwable;" } : Jvm.MethodName)) ∈ lw_tbl := lw_at lw_m3 104 rfl
theorem q618 : (Jvm.Cond.instanceMethod ({ cls := "java/lang/Throwable", name := "fillInStackTrace", desc := "(I)Ljava/lang/Throwable;" } : Jvm.MethodName)) ∈ lw_all := lw_g (lw_at lw_m3 105 rfl) rfl
theorem q619 : (Jvm.Cond.instantiable "java/lang/Throwable" (6 : Nat)) ∈ lw_all := lw_g (lw_at lw_m3 106 rfl) rfl
theorem q620 : (Jvm.Cond.native ({ cls := "java/lang/Throwable", name := "fillInStackTrace", desc := "(I)Ljava/lang/Throwable;" } : Jvm.MethodName)) ∈ lw_all := lw_g (lw_at lw_m3 107 rfl) rfl
theorem q631 : (Jvm.Cond.fieldLink "java/lang/Throwable" (198 : Nat) "java/lang/Throwable" "backtrace" "Ljava/lang/Object;") ∈ lw_all := lw_g (lw_at lw_m3 118 rfl) rfl
theorem q632 : (Jvm.Cond.fieldLink "java/lang/Throwable" (31 : Nat) "java/lang/Throwable" "detailMessage" "Ljava/lang/String;") ∈ lw_all := lw_g (lw_at lw_m3 119 rfl) rfl
theorem q633 : (Jvm.Cond.fieldLink "java/lang/Throwable" (7 : Nat) "java/lang/Throwable" "cause" "Ljava/lang/Throwable;") ∈ lw_all := lw_g (lw_at lw_m3 120 rfl) rfl
theorem q634 : (Jvm.Cond.fieldLink "java/lang/Throwable" (17 : Nat) "java/lang/Throwable" "stackTrace" "[Ljava/lang/StackTraceElement;") ∈ lw_all := lw_g (lw_at lw_m3 121 rfl) rfl
theorem q635 : (Jvm.Cond.fieldLink "java/lang/Throwable" (24 : Nat) "java/lang/Throwable" "suppressedExceptions" "Ljava/util/List;") ∈ lw_all := lw_g (lw_at lw_m3 122 rfl) rfl
theorem q636 : (Jvm.Cond.soleField "java/lang/Throwable" "backtrace") ∈ lw_all := lw_g (lw_at lw_m3 123 rfl) rfl
theorem q637 : (Jvm.Cond.soleField "java/lang/Throwable" "detailMessage") ∈ lw_all := lw_g (lw_at lw_m3 124 rfl) rfl
theorem q638 : (Jvm.Cond.soleField "java/lang/Throwable" "cause") ∈ lw_all := lw_g (lw_at lw_m3 125 rfl) rfl
theorem q639 : (Jvm.Cond.soleField "java/lang/Throwable" "stackTrace") ∈ lw_all := lw_g (lw_at lw_m3 126 rfl) rfl
theorem q641 : (Jvm.Cond.soleField "java/lang/Throwable" "depth") ∈ lw_all := lw_g (lw_at lw_m3 128 rfl) rfl
theorem q642 : (Jvm.Cond.soleField "java/lang/Throwable" "suppressedExceptions") ∈ lw_all := lw_g (lw_at lw_m3 129 rfl) rfl
theorem q1026 : (Jvm.Cond.instanceMethod ({ cls := "java/lang/Throwable", name := "<init>", desc := "(Ljava/lang/String;)V" } : Jvm.MethodName)) ∈ lw_all := lw_g (lw_at lw_m5 33 rfl) rfl
theorem q1027 : (Jvm.Cond.code ({ cls := "java/lang/Throwable", name := "<init>", desc := "(Ljava/lang/String;)V" } : Jvm.MethodName) prog_42_method_2_code (2 : Nat) (Option.none : Option Jvm.ClassFile.FieldType)) ∈ lw_all := lw_g (lw_at lw_m5 34 rfl) rfl
theorem q1457 : (Jvm.Cond.instanceMethod ({ cls := "java/lang/Throwable", name := "<init>", desc := "(Ljava/lang/Throwable;)V" } : Jvm.MethodName)) ∈ lw_all := lw_g (lw_at lw_m6 224 rfl) rfl
theorem q1458 : (Jvm.Cond.code ({ cls := "java/lang/Throwable", name := "<init>", desc := "(Ljava/lang/Throwable;)V" } : Jvm.MethodName) prog_42_method_4_code (2 : Nat) (Option.none : Option Jvm.ClassFile.FieldType)) ∈ lw_all := lw_g (lw_at lw_m6 225 rfl) rfl
theorem q1459 : (Jvm.Cond.methodLink "java/lang/Throwable" (35 : Nat) ({ cls := "java/lang/Throwable", name := "toString", desc := "()Ljava/lang/String;" } : Jvm.MethodName)) ∈ lw_all := lw_g (lw_at lw_m6 226 rfl) rfl
theorem q1460 : (Jvm.Cond.instanceMethod ({ cls := "java/lang/Throwable", name := "toString", desc := "()Ljava/lang/String;" } : Jvm.MethodName)) ∈ lw_all := lw_g (lw_at lw_m6 227 rfl) rfl
theorem q1461 : (Jvm.Cond.sameMethod "java/lang/Throwable" "java/lang/Throwable" "toString" "()Ljava/lang/String;") ∈ lw_all := lw_g (lw_at lw_m6 228 rfl) rfl
theorem q1469 : (Jvm.Cond.code ({ cls := "java/lang/Throwable", name := "toString", desc := "()Ljava/lang/String;" } : Jvm.MethodName) prog_42_method_11_code (3 : Nat) (Option.some (Jvm.ClassFile.FieldType.object "java/lang/String"))) ∈ lw_all := lw_g (lw_at lw_m6 236 rfl) rfl
theorem q1470 : (Jvm.Cond.methodLink "java/lang/Throwable" (69 : Nat) ({ cls := "java/lang/Object", name := "getClass", desc := "()Ljava/lang/Class;" } : Jvm.MethodName)) ∈ lw_all := lw_g (lw_at lw_m6 237 rfl) rfl
theorem q1471 : (Jvm.Cond.methodLink "java/lang/Throwable" (78 : Nat) ({ cls := "java/lang/Throwable", name := "getLocalizedMessage", desc := "()Ljava/lang/String;" } : Jvm.MethodName)) ∈ lw_all := lw_g (lw_at lw_m6 238 rfl) rfl
theorem q1472 : (Jvm.Cond.instanceMethod ({ cls := "java/lang/Throwable", name := "getLocalizedMessage", desc := "()Ljava/lang/String;" } : Jvm.MethodName)) ∈ lw_all := lw_g (lw_at lw_m6 239 rfl) rfl
theorem q1473 : (Jvm.Cond.sameMethod "java/lang/Throwable" "java/lang/Throwable" "getLocalizedMessage" "()Ljava/lang/String;") ∈ lw_all := lw_g (lw_at lw_m7 0 rfl) rfl
theorem q1481 : (Jvm.Cond.code ({ cls := "java/lang/Throwable", name := "getLocalizedMessage", desc := "()Ljava/lang/String;" } : Jvm.MethodName) prog_42_method_7_code (1 : Nat) (Option.some (Jvm.ClassFile.FieldType.object "java/lang/String"))) ∈ lw_all := lw_g (lw_at lw_m7 8 rfl) rfl
theorem q1482 : (Jvm.Cond.methodLink "java/lang/Throwable" (39 : Nat) ({ cls := "java/lang/Throwable", name := "getMessage", desc := "()Ljava/lang/String;" } : Jvm.MethodName)) ∈ lw_all := lw_g (lw_at lw_m7 9 rfl) rfl
theorem q1483 : (Jvm.Cond.instanceMethod ({ cls := "java/lang/Throwable", name := "getMessage", desc := "()Ljava/lang/String;" } : Jvm.MethodName)) ∈ lw_all := lw_g (lw_at lw_m7 10 rfl) rfl
theorem q1484 : (Jvm.Cond.sameMethod "java/lang/Throwable" "java/lang/Throwable" "getMessage" "()Ljava/lang/String;") ∈ lw_all := lw_g (lw_at lw_m7 11 rfl) rfl
theorem q1492 : (Jvm.Cond.code ({ cls := "java/lang/Throwable", name := "getMessage", desc := "()Ljava/lang/String;" } : Jvm.MethodName) prog_42_method_6_code (1 : Nat) (Option.some (Jvm.ClassFile.FieldType.object "java/lang/String"))) ∈ lw_all := lw_g (lw_at lw_m7 19 rfl) rfl
theorem q1493 : (Jvm.Cond.classLink "java/lang/Throwable" (44 : Nat) "java/lang/StringBuilder") ∈ lw_all := lw_g (lw_at lw_m7 20 rfl) rfl
theorem q1494 : (Jvm.Cond.methodLink "java/lang/Throwable" (46 : Nat) ({ cls := "java/lang/StringBuilder", name := "<init>", desc := "()V" } : Jvm.MethodName)) ∈ lw_all := lw_g (lw_at lw_m7 21 rfl) rfl
theorem q1495 : (Jvm.Cond.methodLink "java/lang/Throwable" (49 : Nat) ({ cls := "java/lang/StringBuilder", name := "append", desc := "(Ljava/lang/String;)Ljava/lang/StringBuilder;" } : Jvm.MethodName)) ∈ lw_all := lw_g (lw_at lw_m7 22 rfl) rfl
theorem q1496 : (Jvm.Cond.stringRef "java/lang/Throwable" (81 : Nat) ": ") ∈ lw_tbl := lw_at lw_m7 23 rfl
theorem q1497 : (Jvm.Cond.methodLink "java/lang/Throwable" (60 : Nat) ({ cls := "java/lang/StringBuilder", name := "toString", desc := "()Ljava/lang/String;" } : Jvm.MethodName)) ∈ lw_all := lw_g (lw_at lw_m7 24 rfl) rfl
theorem q2223 : (Jvm.Cond.sameMethod "java/lang/Throwable" "java/lang/Throwable" "fillInStackTrace" "(I)Ljava/lang/Throwable;") ∈ lw_all := lw_g (lw_at lw_m10 30 rfl) rfl
theorem q2268 : (Jvm.Cond.castable "java/lang/Throwable" "java/lang/Object") ∈ lw_tbl := lw_at lw_m10 75 rfl
theorem in_J11 : ∀ w ∈ wsJ110, w ∈ lw_all := lw_in wsJ110 [588, 590, 592, 594, 596] (by decide +kernel) (by decide +kernel)

/-! java/lang/Exception -/
set_option maxRecDepth 100000
def RJ12 : String := "java/lang/Exception"
abbrev cJ12_init : ByteArray := prog_27_method_1_code
def yJ12_init : MethodName := ⟨RJ12, "<init>", "()V"⟩
theorem dJ12_init_0 : decode cJ12_init 0 = .ok (.aload_n 0, 1) := by decide +kernel
theorem dJ12_init_1 : decode cJ12_init 1 = .ok (.invokespecial 1, 3) := by decide +kernel
theorem dJ12_init_4 : decode cJ12_init 4 = .ok (.return_, 1) := by decide +kernel
abbrev cJ12_init_2 : ByteArray := prog_27_method_2_code
def yJ12_init_2 : MethodName := ⟨RJ12, "<init>", "(Ljava/lang/String;)V"⟩
def dkwJ12_init_2_0 : List UInt8 := [42, 43, 183, 0, 7, 177]
abbrev dktJ12_init_2_0 : List UInt8 := dkwJ12_init_2_0 ++ []
theorem dksJ12_init_2_0 : cJ12_init_2.data.toList.drop 0 = dktJ12_init_2_0 := by decide +kernel
theorem dJ12_init_2_0 : decode cJ12_init_2 0 = .ok (.aload_n 0, 1) := dk_42 (dk_at dksJ12_init_2_0 0 rfl rfl)
theorem dJ12_init_2_1 : decode cJ12_init_2 1 = .ok (.aload_n 1, 1) := dk_43 (dk_at dksJ12_init_2_0 1 rfl rfl)
theorem dJ12_init_2_2 : decode cJ12_init_2 2 = .ok (.invokespecial 7, 3) := dk_183 0 7 (dk_at dksJ12_init_2_0 2 rfl rfl)
theorem dJ12_init_2_5 : decode cJ12_init_2 5 = .ok (.return_, 1) := dk_177 (dk_at dksJ12_init_2_0 5 rfl rfl)
abbrev cJ12_init_3 : ByteArray := prog_27_method_4_code
def yJ12_init_3 : MethodName := ⟨RJ12, "<init>", "(Ljava/lang/Throwable;)V"⟩
def dkwJ12_init_3_0 : List UInt8 := [42, 43, 183, 0, 13, 177]
abbrev dktJ12_init_3_0 : List UInt8 := dkwJ12_init_3_0 ++ []
theorem dksJ12_init_3_0 : cJ12_init_3.data.toList.drop 0 = dktJ12_init_3_0 := by decide +kernel
theorem dJ12_init_3_0 : decode cJ12_init_3 0 = .ok (.aload_n 0, 1) := dk_42 (dk_at dksJ12_init_3_0 0 rfl rfl)
theorem dJ12_init_3_1 : decode cJ12_init_3 1 = .ok (.aload_n 1, 1) := dk_43 (dk_at dksJ12_init_3_0 1 rfl rfl)
theorem dJ12_init_3_2 : decode cJ12_init_3 2 = .ok (.invokespecial 13, 3) := dk_183 0 13 (dk_at dksJ12_init_3_0 2 rfl rfl)
theorem dJ12_init_3_5 : decode cJ12_init_3 5 = .ok (.return_, 1) := dk_177 (dk_at dksJ12_init_3_0 5 rfl rfl)
theorem q53 : (Jvm.Cond.initialized "java/lang/Exception") ∈ lw_all := lw_g (lw_at lw_m1 20 rfl) rfl
theorem q581 : (Jvm.Cond.declares ({ cls := "java/lang/Exception", name := "<init>", desc := "()V" } : Jvm.MethodName)) ∈ lw_tbl := lw_at lw_m3 68 rfl
theorem q582 : (Jvm.Cond.declares ({ cls := "java/lang/Exception", name := "<init>", desc := "(Ljava/lang/String;)V" } : Jvm.MethodName)) ∈ lw_tbl := lw_at lw_m3 69 rfl
theorem q628 : (Jvm.Cond.instanceMethod ({ cls := "java/lang/Exception", name := "<init>", desc := "()V" } : Jvm.MethodName)) ∈ lw_all := lw_g (lw_at lw_m3 115 rfl) rfl
theorem q629 : (Jvm.Cond.code ({ cls := "java/lang/Exception", name := "<init>", desc := "()V" } : Jvm.MethodName) prog_27_method_1_code (1 : Nat) (Option.none : Option Jvm.ClassFile.FieldType)) ∈ lw_all := lw_g (lw_at lw_m3 116 rfl) rfl
theorem q630 : (Jvm.Cond.methodLink "java/lang/Exception" (1 : Nat) ({ cls := "java/lang/Throwable", name := "<init>", desc := "()V" } : Jvm.MethodName)) ∈ lw_all := lw_g (lw_at lw_m3 117 rfl) rfl
theorem q1023 : (Jvm.Cond.instanceMethod ({ cls := "java/lang/Exception", name := "<init>", desc := "(Ljava/lang/String;)V" } : Jvm.MethodName)) ∈ lw_all := lw_g (lw_at lw_m5 30 rfl) rfl
theorem q1024 : (Jvm.Cond.code ({ cls := "java/lang/Exception", name := "<init>", desc := "(Ljava/lang/String;)V" } : Jvm.MethodName) prog_27_method_2_code (2 : Nat) (Option.none : Option Jvm.ClassFile.FieldType)) ∈ lw_all := lw_g (lw_at lw_m5 31 rfl) rfl
theorem q1025 : (Jvm.Cond.methodLink "java/lang/Exception" (7 : Nat) ({ cls := "java/lang/Throwable", name := "<init>", desc := "(Ljava/lang/String;)V" } : Jvm.MethodName)) ∈ lw_all := lw_g (lw_at lw_m5 32 rfl) rfl
theorem q1454 : (Jvm.Cond.instanceMethod ({ cls := "java/lang/Exception", name := "<init>", desc := "(Ljava/lang/Throwable;)V" } : Jvm.MethodName)) ∈ lw_all := lw_g (lw_at lw_m6 221 rfl) rfl
theorem q1455 : (Jvm.Cond.code ({ cls := "java/lang/Exception", name := "<init>", desc := "(Ljava/lang/Throwable;)V" } : Jvm.MethodName) prog_27_method_4_code (2 : Nat) (Option.none : Option Jvm.ClassFile.FieldType)) ∈ lw_all := lw_g (lw_at lw_m6 222 rfl) rfl
theorem q1456 : (Jvm.Cond.methodLink "java/lang/Exception" (13 : Nat) ({ cls := "java/lang/Throwable", name := "<init>", desc := "(Ljava/lang/Throwable;)V" } : Jvm.MethodName)) ∈ lw_all := lw_g (lw_at lw_m6 223 rfl) rfl

/-! java/lang/RuntimeException -/
set_option maxRecDepth 100000
def RJ13 : String := "java/lang/RuntimeException"
abbrev cJ13_init : ByteArray := prog_36_method_1_code
def yJ13_init : MethodName := ⟨RJ13, "<init>", "()V"⟩
theorem dJ13_init_0 : decode cJ13_init 0 = .ok (.aload_n 0, 1) := by decide +kernel
theorem dJ13_init_1 : decode cJ13_init 1 = .ok (.invokespecial 1, 3) := by decide +kernel
theorem dJ13_init_4 : decode cJ13_init 4 = .ok (.return_, 1) := by decide +kernel
abbrev cJ13_init_2 : ByteArray := prog_36_method_2_code
def yJ13_init_2 : MethodName := ⟨RJ13, "<init>", "(Ljava/lang/String;)V"⟩
def dkwJ13_init_2_0 : List UInt8 := [42, 43, 183, 0, 7, 177]
abbrev dktJ13_init_2_0 : List UInt8 := dkwJ13_init_2_0 ++ []
theorem dksJ13_init_2_0 : cJ13_init_2.data.toList.drop 0 = dktJ13_init_2_0 := by decide +kernel
theorem dJ13_init_2_0 : decode cJ13_init_2 0 = .ok (.aload_n 0, 1) := dk_42 (dk_at dksJ13_init_2_0 0 rfl rfl)
theorem dJ13_init_2_1 : decode cJ13_init_2 1 = .ok (.aload_n 1, 1) := dk_43 (dk_at dksJ13_init_2_0 1 rfl rfl)
theorem dJ13_init_2_2 : decode cJ13_init_2 2 = .ok (.invokespecial 7, 3) := dk_183 0 7 (dk_at dksJ13_init_2_0 2 rfl rfl)
theorem dJ13_init_2_5 : decode cJ13_init_2 5 = .ok (.return_, 1) := dk_177 (dk_at dksJ13_init_2_0 5 rfl rfl)
abbrev cJ13_init_3 : ByteArray := prog_36_method_4_code
def yJ13_init_3 : MethodName := ⟨RJ13, "<init>", "(Ljava/lang/Throwable;)V"⟩
def dkwJ13_init_3_0 : List UInt8 := [42, 43, 183, 0, 13, 177]
abbrev dktJ13_init_3_0 : List UInt8 := dkwJ13_init_3_0 ++ []
theorem dksJ13_init_3_0 : cJ13_init_3.data.toList.drop 0 = dktJ13_init_3_0 := by decide +kernel
theorem dJ13_init_3_0 : decode cJ13_init_3 0 = .ok (.aload_n 0, 1) := dk_42 (dk_at dksJ13_init_3_0 0 rfl rfl)
theorem dJ13_init_3_1 : decode cJ13_init_3 1 = .ok (.aload_n 1, 1) := dk_43 (dk_at dksJ13_init_3_0 1 rfl rfl)
theorem dJ13_init_3_2 : decode cJ13_init_3 2 = .ok (.invokespecial 13, 3) := dk_183 0 13 (dk_at dksJ13_init_3_0 2 rfl rfl)
theorem dJ13_init_3_5 : decode cJ13_init_3 5 = .ok (.return_, 1) := dk_177 (dk_at dksJ13_init_3_0 5 rfl rfl)
theorem q54 : (Jvm.Cond.initialized "java/lang/RuntimeException") ∈ lw_all := lw_g (lw_at lw_m1 21 rfl) rfl
theorem q579 : (Jvm.Cond.declares ({ cls := "java/lang/RuntimeException", name := "<init>", desc := "()V" } : Jvm.MethodName)) ∈ lw_tbl := lw_at lw_m3 66 rfl
theorem q580 : (Jvm.Cond.declares ({ cls := "java/lang/RuntimeException", name := "<init>", desc := "(Ljava/lang/String;)V" } : Jvm.MethodName)) ∈ lw_tbl := lw_at lw_m3 67 rfl
theorem q625 : (Jvm.Cond.instanceMethod ({ cls := "java/lang/RuntimeException", name := "<init>", desc := "()V" } : Jvm.MethodName)) ∈ lw_all := lw_g (lw_at lw_m3 112 rfl) rfl
theorem q626 : (Jvm.Cond.code ({ cls := "java/lang/RuntimeException", name := "<init>", desc := "()V" } : Jvm.MethodName) prog_36_method_1_code (1 : Nat) (Option.none : Option Jvm.ClassFile.FieldType)) ∈ lw_all := lw_g (lw_at lw_m3 113 rfl) rfl
theorem q627 : (Jvm.Cond.methodLink "java/lang/RuntimeException" (1 : Nat) ({ cls := "java/lang/Exception", name := "<init>", desc := "()V" } : Jvm.MethodName)) ∈ lw_all := lw_g (lw_at lw_m3 114 rfl) rfl
theorem q1020 : (Jvm.Cond.instanceMethod ({ cls := "java/lang/RuntimeException", name := "<init>", desc := "(Ljava/lang/String;)V" } : Jvm.MethodName)) ∈ lw_all := lw_g (lw_at lw_m5 27 rfl) rfl
theorem q1021 : (Jvm.Cond.code ({ cls := "java/lang/RuntimeException", name := "<init>", desc := "(Ljava/lang/String;)V" } : Jvm.MethodName) prog_36_method_2_code (2 : Nat) (Option.none : Option Jvm.ClassFile.FieldType)) ∈ lw_all := lw_g (lw_at lw_m5 28 rfl) rfl
theorem q1022 : (Jvm.Cond.methodLink "java/lang/RuntimeException" (7 : Nat) ({ cls := "java/lang/Exception", name := "<init>", desc := "(Ljava/lang/String;)V" } : Jvm.MethodName)) ∈ lw_all := lw_g (lw_at lw_m5 29 rfl) rfl
theorem q1451 : (Jvm.Cond.instanceMethod ({ cls := "java/lang/RuntimeException", name := "<init>", desc := "(Ljava/lang/Throwable;)V" } : Jvm.MethodName)) ∈ lw_all := lw_g (lw_at lw_m6 218 rfl) rfl
theorem q1452 : (Jvm.Cond.code ({ cls := "java/lang/RuntimeException", name := "<init>", desc := "(Ljava/lang/Throwable;)V" } : Jvm.MethodName) prog_36_method_4_code (2 : Nat) (Option.none : Option Jvm.ClassFile.FieldType)) ∈ lw_all := lw_g (lw_at lw_m6 219 rfl) rfl
theorem q1453 : (Jvm.Cond.methodLink "java/lang/RuntimeException" (13 : Nat) ({ cls := "java/lang/Exception", name := "<init>", desc := "(Ljava/lang/Throwable;)V" } : Jvm.MethodName)) ∈ lw_all := lw_g (lw_at lw_m6 220 rfl) rfl

/-! java/lang/IllegalArgumentException -/
set_option maxRecDepth 100000
def RJ14 : String := "java/lang/IllegalArgumentException"
def TJ14 : u_T := fun k => match k with
  | 0 => ("java/lang/Throwable", "cause", "Ljava/lang/Throwable;", false)
  | 1 => ("java/lang/Throwable", "stackTrace", "[Ljava/lang/StackTraceElement;", false)
  | 2 => ("java/lang/Throwable", "suppressedExceptions", "Ljava/util/List;", false)
  | 3 => ("java/lang/Throwable", "detailMessage", "Ljava/lang/String;", false)
  | 4 => ("java/lang/Throwable", "backtrace", "Ljava/lang/Object;", false)
  | _ => ("java/lang/Throwable", "depth", "I", false)
def tyJ14 : Nat → FieldType := fun k => match k with
  | 0 => .object "java/lang/Throwable"
  | 1 => .array (.object "java/lang/StackTraceElement")
  | 2 => .object "java/util/List"
  | 3 => .object "java/lang/String"
  | 4 => .object "java/lang/Object"
  | _ => .int
abbrev wsJ140 : List Cond := u_ws RJ14 TJ14 6
theorem nmJ14 : ∀ a, a < 6 → ∀ b, b < 6 → a ≠ b → (TJ14 a).2.1 ≠ (TJ14 b).2.1 := by decide +kernel
theorem tyJ14_ok : ∀ k, k < 6 → parseFieldDescriptor (TJ14 k).2.2.1 = some (tyJ14 k) := by decide +kernel
abbrev cJ14_init : ByteArray := prog_28_method_1_code
def yJ14_init : MethodName := ⟨RJ14, "<init>", "()V"⟩
theorem dJ14_init_0 : decode cJ14_init 0 = .ok (.aload_n 0, 1) := by decide +kernel
theorem dJ14_init_1 : decode cJ14_init 1 = .ok (.invokespecial 1, 3) := by decide +kernel
theorem dJ14_init_4 : decode cJ14_init 4 = .ok (.return_, 1) := by decide +kernel
abbrev cJ14_init_2 : ByteArray := prog_28_method_2_code
def yJ14_init_2 : MethodName := ⟨RJ14, "<init>", "(Ljava/lang/String;)V"⟩
def dkwJ14_init_2_0 : List UInt8 := [42, 43, 183, 0, 7, 177]
abbrev dktJ14_init_2_0 : List UInt8 := dkwJ14_init_2_0 ++ []
theorem dksJ14_init_2_0 : cJ14_init_2.data.toList.drop 0 = dktJ14_init_2_0 := by decide +kernel
theorem dJ14_init_2_0 : decode cJ14_init_2 0 = .ok (.aload_n 0, 1) := dk_42 (dk_at dksJ14_init_2_0 0 rfl rfl)
theorem dJ14_init_2_1 : decode cJ14_init_2 1 = .ok (.aload_n 1, 1) := dk_43 (dk_at dksJ14_init_2_0 1 rfl rfl)
theorem dJ14_init_2_2 : decode cJ14_init_2 2 = .ok (.invokespecial 7, 3) := dk_183 0 7 (dk_at dksJ14_init_2_0 2 rfl rfl)
theorem dJ14_init_2_5 : decode cJ14_init_2 5 = .ok (.return_, 1) := dk_177 (dk_at dksJ14_init_2_0 5 rfl rfl)
theorem q55 : (Jvm.Cond.initialized "java/lang/IllegalArgumentException") ∈ lw_all := lw_g (lw_at lw_m1 22 rfl) rfl
theorem q292 : (Jvm.Cond.selects "java/lang/IllegalArgumentException" ({ cls := "java/lang/Object", name := "getClass", desc := "()Ljava/lang/Class;" } : Jvm.MethodName) ({ cls := "java/lang/Object", name := "getClass", desc := "()Ljava/lang/Class;" } : Jvm.MethodName)) ∈ lw_all := lw_g (lw_at lw_m2 19 rfl) rfl
theorem q577 : (Jvm.Cond.instantiable "java/lang/IllegalArgumentException" (6 : Nat)) ∈ lw_all := lw_g (lw_at lw_m3 64 rfl) rfl
theorem q578 : (Jvm.Cond.castable "java/lang/IllegalArgumentException" "java/lang/IllegalArgumentException") ∈ lw_tbl := lw_at lw_m3 65 rfl
theorem q585 : (Jvm.Cond.selects "java/lang/IllegalArgumentException" ({ cls := "java/lang/Throwable", name := "fillInStackTrace", desc := "(I)Ljava/lang/Throwable;" } : Jvm.MethodName) ({ cls := "java/lang/Throwable", name := "fillInStackTrace", desc := "(I)Ljava/lang/Throwable;" } : Jvm.MethodName)) ∈ lw_all := lw_g (lw_at lw_m3 72 rfl) rfl
theorem q586 : (Jvm.Cond.selects "java/lang/IllegalArgumentException" ({ cls := "java/lang/Throwable", name := "fillInStackTrace", desc := "()Ljava/lang/Throwable;" } : Jvm.MethodName) ({ cls := "java/lang/Throwable", name := "fillInStackTrace", desc := "()Ljava/lang/Throwable;" } : Jvm.MethodName)) ∈ lw_all := lw_g (lw_at lw_m3 73 rfl) rfl
theorem q587 : (Jvm.Cond.lays "java/lang/IllegalArgumentException" "java/lang/Throwable" "cause" "Ljava/lang/Throwable;") ∈ lw_all := lw_g (lw_at lw_m3 74 rfl) rfl
theorem q589 : (Jvm.Cond.lays "java/lang/IllegalArgumentException" "java/lang/Throwable" "stackTrace" "[Ljava/lang/StackTraceElement;") ∈ lw_all := lw_g (lw_at lw_m3 76 rfl) rfl
theorem q591 : (Jvm.Cond.lays "java/lang/IllegalArgumentException" "java/lang/Throwable" "suppressedExceptions" "Ljava/util/List;") ∈ lw_all := lw_g (lw_at lw_m3 78 rfl) rfl
theorem q593 : (Jvm.Cond.lays "java/lang/IllegalArgumentException" "java/lang/Throwable" "detailMessage" "Ljava/lang/String;") ∈ lw_all := lw_g (lw_at lw_m3 80 rfl) rfl
theorem q595 : (Jvm.Cond.lays "java/lang/IllegalArgumentException" "java/lang/Throwable" "backtrace" "Ljava/lang/Object;") ∈ lw_all := lw_g (lw_at lw_m3 82 rfl) rfl
theorem q622 : (Jvm.Cond.instanceMethod ({ cls := "java/lang/IllegalArgumentException", name := "<init>", desc := "()V" } : Jvm.MethodName)) ∈ lw_all := lw_g (lw_at lw_m3 109 rfl) rfl
theorem q623 : (Jvm.Cond.code ({ cls := "java/lang/IllegalArgumentException", name := "<init>", desc := "()V" } : Jvm.MethodName) prog_28_method_1_code (1 : Nat) (Option.none : Option Jvm.ClassFile.FieldType)) ∈ lw_all := lw_g (lw_at lw_m3 110 rfl) rfl
theorem q624 : (Jvm.Cond.methodLink "java/lang/IllegalArgumentException" (1 : Nat) ({ cls := "java/lang/RuntimeException", name := "<init>", desc := "()V" } : Jvm.MethodName)) ∈ lw_all := lw_g (lw_at lw_m3 111 rfl) rfl
theorem q640 : (Jvm.Cond.lays "java/lang/IllegalArgumentException" "java/lang/Throwable" "depth" "I") ∈ lw_all := lw_g (lw_at lw_m3 127 rfl) rfl
theorem q643 : (Jvm.Cond.superclass "java/lang/IllegalArgumentException" "java/lang/RuntimeException") ∈ lw_all := lw_g (lw_at lw_m3 130 rfl) rfl
theorem q1017 : (Jvm.Cond.instanceMethod ({ cls := "java/lang/IllegalArgumentException", name := "<init>", desc := "(Ljava/lang/String;)V" } : Jvm.MethodName)) ∈ lw_all := lw_g (lw_at lw_m5 24 rfl) rfl
theorem q1018 : (Jvm.Cond.code ({ cls := "java/lang/IllegalArgumentException", name := "<init>", desc := "(Ljava/lang/String;)V" } : Jvm.MethodName) prog_28_method_2_code (2 : Nat) (Option.none : Option Jvm.ClassFile.FieldType)) ∈ lw_all := lw_g (lw_at lw_m5 25 rfl) rfl
theorem q1019 : (Jvm.Cond.methodLink "java/lang/IllegalArgumentException" (7 : Nat) ({ cls := "java/lang/RuntimeException", name := "<init>", desc := "(Ljava/lang/String;)V" } : Jvm.MethodName)) ∈ lw_all := lw_g (lw_at lw_m5 26 rfl) rfl
theorem q1464 : (Jvm.Cond.selects "java/lang/IllegalArgumentException" ({ cls := "java/lang/Throwable", name := "toString", desc := "()Ljava/lang/String;" } : Jvm.MethodName) ({ cls := "java/lang/Throwable", name := "toString", desc := "()Ljava/lang/String;" } : Jvm.MethodName)) ∈ lw_all := lw_g (lw_at lw_m6 231 rfl) rfl
theorem q1476 : (Jvm.Cond.selects "java/lang/IllegalArgumentException" ({ cls := "java/lang/Throwable", name := "getLocalizedMessage", desc := "()Ljava/lang/String;" } : Jvm.MethodName) ({ cls := "java/lang/Throwable", name := "getLocalizedMessage", desc := "()Ljava/lang/String;" } : Jvm.MethodName)) ∈ lw_all := lw_g (lw_at lw_m7 3 rfl) rfl
theorem q1487 : (Jvm.Cond.selects "java/lang/IllegalArgumentException" ({ cls := "java/lang/Throwable", name := "getMessage", desc := "()Ljava/lang/String;" } : Jvm.MethodName) ({ cls := "java/lang/Throwable", name := "getMessage", desc := "()Ljava/lang/String;" } : Jvm.MethodName)) ∈ lw_all := lw_g (lw_at lw_m7 14 rfl) rfl
theorem q2248 : (Jvm.Cond.castable "java/lang/IllegalArgumentException" "java/lang/Object") ∈ lw_tbl := lw_at lw_m10 55 rfl
theorem in_J14 : ∀ w ∈ wsJ140, w ∈ lw_all := lw_in wsJ140 [587, 589, 591, 593, 595, 640] (by decide +kernel) (by decide +kernel)

/-! java/lang/IllegalStateException -/
set_option maxRecDepth 100000
def RJ15 : String := "java/lang/IllegalStateException"
def TJ15 : u_T := fun k => match k with
  | 0 => ("java/lang/Throwable", "cause", "Ljava/lang/Throwable;", false)
  | 1 => ("java/lang/Throwable", "stackTrace", "[Ljava/lang/StackTraceElement;", false)
  | 2 => ("java/lang/Throwable", "suppressedExceptions", "Ljava/util/List;", false)
  | 3 => ("java/lang/Throwable", "detailMessage", "Ljava/lang/String;", false)
  | 4 => ("java/lang/Throwable", "backtrace", "Ljava/lang/Object;", false)
  | _ => ("java/lang/Throwable", "depth", "I", false)
def tyJ15 : Nat → FieldType := fun k => match k with
  | 0 => .object "java/lang/Throwable"
  | 1 => .array (.object "java/lang/StackTraceElement")
  | 2 => .object "java/util/List"
  | 3 => .object "java/lang/String"
  | 4 => .object "java/lang/Object"
  | _ => .int
abbrev wsJ150 : List Cond := u_ws RJ15 TJ15 6
theorem nmJ15 : ∀ a, a < 6 → ∀ b, b < 6 → a ≠ b → (TJ15 a).2.1 ≠ (TJ15 b).2.1 := by decide +kernel
theorem tyJ15_ok : ∀ k, k < 6 → parseFieldDescriptor (TJ15 k).2.2.1 = some (tyJ15 k) := by decide +kernel
abbrev cJ15_init : ByteArray := prog_29_method_1_code
def yJ15_init : MethodName := ⟨RJ15, "<init>", "()V"⟩
theorem dJ15_init_0 : decode cJ15_init 0 = .ok (.aload_n 0, 1) := by decide +kernel
theorem dJ15_init_1 : decode cJ15_init 1 = .ok (.invokespecial 1, 3) := by decide +kernel
theorem dJ15_init_4 : decode cJ15_init 4 = .ok (.return_, 1) := by decide +kernel
theorem q56 : (Jvm.Cond.initialized "java/lang/IllegalStateException") ∈ lw_all := lw_g (lw_at lw_m1 23 rfl) rfl
theorem q293 : (Jvm.Cond.selects "java/lang/IllegalStateException" ({ cls := "java/lang/Object", name := "getClass", desc := "()Ljava/lang/Class;" } : Jvm.MethodName) ({ cls := "java/lang/Object", name := "getClass", desc := "()Ljava/lang/Class;" } : Jvm.MethodName)) ∈ lw_all := lw_g (lw_at lw_m2 20 rfl) rfl
theorem q611 : (Jvm.Cond.selects "java/lang/IllegalStateException" ({ cls := "java/lang/Throwable", name := "fillInStackTrace", desc := "()Ljava/lang/Throwable;" } : Jvm.MethodName) ({ cls := "java/lang/Throwable", name := "fillInStackTrace", desc := "()Ljava/lang/Throwable;" } : Jvm.MethodName)) ∈ lw_all := lw_g (lw_at lw_m3 98 rfl) rfl
theorem q648 : (Jvm.Cond.instantiable "java/lang/IllegalStateException" (6 : Nat)) ∈ lw_all := lw_g (lw_at lw_m3 135 rfl) rfl
theorem q649 : (Jvm.Cond.castable "java/lang/IllegalStateException" "java/lang/IllegalStateException") ∈ lw_tbl := lw_at lw_m3 136 rfl
theorem q650 : (Jvm.Cond.selects "java/lang/IllegalStateException" ({ cls := "java/lang/Throwable", name := "fillInStackTrace", desc := "(I)Ljava/lang/Throwable;" } : Jvm.MethodName) ({ cls := "java/lang/Throwable", name := "fillInStackTrace", desc := "(I)Ljava/lang/Throwable;" } : Jvm.MethodName)) ∈ lw_all := lw_g (lw_at lw_m3 137 rfl) rfl
theorem q651 : (Jvm.Cond.lays "java/lang/IllegalStateException" "java/lang/Throwable" "cause" "Ljava/lang/Throwable;") ∈ lw_all := lw_g (lw_at lw_m3 138 rfl) rfl
theorem q652 : (Jvm.Cond.lays "java/lang/IllegalStateException" "java/lang/Throwable" "stackTrace" "[Ljava/lang/StackTraceElement;") ∈ lw_all := lw_g (lw_at lw_m3 139 rfl) rfl
theorem q653 : (Jvm.Cond.lays "java/lang/IllegalStateException" "java/lang/Throwable" "suppressedExceptions" "Ljava/util/List;") ∈ lw_all := lw_g (lw_at lw_m3 140 rfl) rfl
theorem q654 : (Jvm.Cond.lays "java/lang/IllegalStateException" "java/lang/Throwable" "detailMessage" "Ljava/lang/String;") ∈ lw_all := lw_g (lw_at lw_m3 141 rfl) rfl
theorem q655 : (Jvm.Cond.lays "java/lang/IllegalStateException" "java/lang/Throwable" "backtrace" "Ljava/lang/Object;") ∈ lw_all := lw_g (lw_at lw_m3 142 rfl) rfl
theorem q657 : (Jvm.Cond.instanceMethod ({ cls := "java/lang/IllegalStateException", name := "<init>", desc := "()V" } : Jvm.MethodName)) ∈ lw_all := lw_g (lw_at lw_m3 144 rfl) rfl
theorem q658 : (Jvm.Cond.code ({ cls := "java/lang/IllegalStateException", name := "<init>", desc := "()V" } : Jvm.MethodName) prog_29_method_1_code (1 : Nat) (Option.none : Option Jvm.ClassFile.FieldType)) ∈ lw_all := lw_g (lw_at lw_m3 145 rfl) rfl
theorem q659 : (Jvm.Cond.methodLink "java/lang/IllegalStateException" (1 : Nat) ({ cls := "java/lang/RuntimeException", name := "<init>", desc := "()V" } : Jvm.MethodName)) ∈ lw_all := lw_g (lw_at lw_m3 146 rfl) rfl
theorem q660 : (Jvm.Cond.lays "java/lang/IllegalStateException" "java/lang/Throwable" "depth" "I") ∈ lw_all := lw_g (lw_at lw_m3 147 rfl) rfl
theorem q661 : (Jvm.Cond.superclass "java/lang/IllegalStateException" "java/lang/RuntimeException") ∈ lw_all := lw_g (lw_at lw_m3 148 rfl) rfl
theorem q1465 : (Jvm.Cond.selects "java/lang/IllegalStateException" ({ cls := "java/lang/Throwable", name := "toString", desc := "()Ljava/lang/String;" } : Jvm.MethodName) ({ cls := "java/lang/Throwable", name := "toString", desc := "()Ljava/lang/String;" } : Jvm.MethodName)) ∈ lw_all := lw_g (lw_at lw_m6 232 rfl) rfl
theorem q1477 : (Jvm.Cond.selects "java/lang/IllegalStateException" ({ cls := "java/lang/Throwable", name := "getLocalizedMessage", desc := "()Ljava/lang/String;" } : Jvm.MethodName) ({ cls := "java/lang/Throwable", name := "getLocalizedMessage", desc := "()Ljava/lang/String;" } : Jvm.MethodName)) ∈ lw_all := lw_g (lw_at lw_m7 4 rfl) rfl
theorem q1488 : (Jvm.Cond.selects "java/lang/IllegalStateException" ({ cls := "java/lang/Throwable", name := "getMessage", desc := "()Ljava/lang/String;" } : Jvm.MethodName) ({ cls := "java/lang/Throwable", name := "getMessage", desc := "()Ljava/lang/String;" } : Jvm.MethodName)) ∈ lw_all := lw_g (lw_at lw_m7 15 rfl) rfl
theorem q2249 : (Jvm.Cond.castable "java/lang/IllegalStateException" "java/lang/Object") ∈ lw_tbl := lw_at lw_m10 56 rfl
theorem in_J15 : ∀ w ∈ wsJ150, w ∈ lw_all := lw_in wsJ150 [651, 652, 653, 654, 655, 660] (by decide +kernel) (by decide +kernel)
