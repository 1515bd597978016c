/-! java/lang/String -/
set_option maxRecDepth 100000
def RJ16 : String := "java/lang/String"
def TJ16 : u_T := fun k => match k with
  | 0 => ("java/lang/String", "value", "[B", true)
  | 1 => ("java/lang/String", "coder", "B", true)
  | 2 => ("java/lang/String", "hash", "I", false)
  | _ => ("java/lang/String", "hashIsZero", "Z", false)
def tyJ16 : Nat → FieldType := fun k => match k with
  | 0 => .array .byte
  | 1 => .byte
  | 2 => .int
  | _ => .boolean
abbrev wsJ160 : List Cond := u_ws RJ16 TJ16 4
theorem nmJ16 : ∀ a, a < 4 → ∀ b, b < 4 → a ≠ b → (TJ16 a).2.1 ≠ (TJ16 b).2.1 := by decide +kernel
theorem tyJ16_ok : ∀ k, k < 4 → parseFieldDescriptor (TJ16 k).2.2.1 = some (tyJ16 k) := by decide +kernel
abbrev cJ16_length : ByteArray := prog_37_method_54_code
def yJ16_length : MethodName := ⟨RJ16, "length", "()I"⟩
def dkwJ16_length_0 : List UInt8 := [42, 180, 0, 9, 190, 42, 182, 1, 79, 122, 172]
abbrev dktJ16_length_0 : List UInt8 := dkwJ16_length_0 ++ []
theorem dksJ16_length_0 : cJ16_length.data.toList.drop 0 = dktJ16_length_0 := by decide +kernel
theorem dJ16_length_0 : decode cJ16_length 0 = .ok (.aload_n 0, 1) := dk_42 (dk_at dksJ16_length_0 0 rfl rfl)
theorem dJ16_length_1 : decode cJ16_length 1 = .ok (.getfield 9, 3) := dk_180 0 9 (dk_at dksJ16_length_0 1 rfl rfl)
theorem dJ16_length_4 : decode cJ16_length 4 = .ok (.arraylength, 1) := dk_190 (dk_at dksJ16_length_0 4 rfl rfl)
theorem dJ16_length_5 : decode cJ16_length 5 = .ok (.aload_n 0, 1) := dk_42 (dk_at dksJ16_length_0 5 rfl rfl)
theorem dJ16_length_6 : decode cJ16_length 6 = .ok (.invokevirtual 335, 3) := dk_182 1 79 (dk_at dksJ16_length_0 6 rfl rfl)
theorem dJ16_length_9 : decode cJ16_length 9 = .ok (.ishr, 1) := dk_122 (dk_at dksJ16_length_0 9 rfl rfl)
theorem dJ16_length_10 : decode cJ16_length 10 = .ok (.ireturn, 1) := dk_172 (dk_at dksJ16_length_0 10 rfl rfl)
abbrev cJ16_coder : ByteArray := prog_37_method_152_code
def yJ16_coder : MethodName := ⟨RJ16, "coder", "()B"⟩
def dkwJ16_coder_0 : List UInt8 := [178, 0, 38, 153, 0, 10, 42, 180, 0, 15, 167, 0, 4, 4, 172]
abbrev dktJ16_coder_0 : List UInt8 := dkwJ16_coder_0 ++ []
theorem dksJ16_coder_0 : cJ16_coder.data.toList.drop 0 = dktJ16_coder_0 := by decide +kernel
theorem dJ16_coder_0 : decode cJ16_coder 0 = .ok (.getstatic 38, 3) := dk_178 0 38 (dk_at dksJ16_coder_0 0 rfl rfl)
theorem dJ16_coder_3 : decode cJ16_coder 3 = .ok (.ifCond .eq 10, 3) := dk_153 0 10 (dk_at dksJ16_coder_0 3 rfl rfl)
theorem dJ16_coder_6 : decode cJ16_coder 6 = .ok (.aload_n 0, 1) := dk_42 (dk_at dksJ16_coder_0 6 rfl rfl)
theorem dJ16_coder_7 : decode cJ16_coder 7 = .ok (.getfield 15, 3) := dk_180 0 15 (dk_at dksJ16_coder_0 7 rfl rfl)
theorem dJ16_coder_10 : decode cJ16_coder 10 = .ok (.goto 4, 3) := dk_167 0 4 (dk_at dksJ16_coder_0 10 rfl rfl)
theorem dJ16_coder_13 : decode cJ16_coder 13 = .ok (.iconst 1, 1) := dk_4 (dk_at dksJ16_coder_0 13 rfl rfl)
theorem dJ16_coder_14 : decode cJ16_coder 14 = .ok (.ireturn, 1) := dk_172 (dk_at dksJ16_coder_0 14 rfl rfl)
abbrev cJ16_charAt : ByteArray := prog_37_method_56_code
def yJ16_charAt : MethodName := ⟨RJ16, "charAt", "(I)C"⟩
def dkwJ16_charAt_1 : List UInt8 := [172]
abbrev dktJ16_charAt_1 : List UInt8 := dkwJ16_charAt_1 ++ []
def dkwJ16_charAt_0 : List UInt8 := [42, 182, 1, 236, 153, 0, 12, 42, 180, 0, 9, 27, 184, 1, 239, 172, 42, 180, 0, 9, 27, 184, 1, 242]
abbrev dktJ16_charAt_0 : List UInt8 := dkwJ16_charAt_0 ++ dktJ16_charAt_1
theorem dksJ16_charAt_0 : cJ16_charAt.data.toList.drop 0 = dktJ16_charAt_0 := by decide +kernel
theorem dksJ16_charAt_1 : cJ16_charAt.data.toList.drop 24 = dktJ16_charAt_1 := dk_seg dksJ16_charAt_0 24 rfl rfl
theorem dJ16_charAt_0 : decode cJ16_charAt 0 = .ok (.aload_n 0, 1) := dk_42 (dk_at dksJ16_charAt_0 0 rfl rfl)
theorem dJ16_charAt_1 : decode cJ16_charAt 1 = .ok (.invokevirtual 492, 3) := dk_182 1 236 (dk_at dksJ16_charAt_0 1 rfl rfl)
theorem dJ16_charAt_4 : decode cJ16_charAt 4 = .ok (.ifCond .eq 12, 3) := dk_153 0 12 (dk_at dksJ16_charAt_0 4 rfl rfl)
theorem dJ16_charAt_7 : decode cJ16_charAt 7 = .ok (.aload_n 0, 1) := dk_42 (dk_at dksJ16_charAt_0 7 rfl rfl)
theorem dJ16_charAt_8 : decode cJ16_charAt 8 = .ok (.getfield 9, 3) := dk_180 0 9 (dk_at dksJ16_charAt_0 8 rfl rfl)
theorem dJ16_charAt_11 : decode cJ16_charAt 11 = .ok (.iload_n 1, 1) := dk_27 (dk_at dksJ16_charAt_0 11 rfl rfl)
theorem dJ16_charAt_12 : decode cJ16_charAt 12 = .ok (.invokestatic 495, 3) := dk_184 1 239 (dk_at dksJ16_charAt_0 12 rfl rfl)
theorem dJ16_charAt_15 : decode cJ16_charAt 15 = .ok (.ireturn, 1) := dk_172 (dk_at dksJ16_charAt_0 15 rfl rfl)
theorem dJ16_charAt_16 : decode cJ16_charAt 16 = .ok (.aload_n 0, 1) := dk_42 (dk_at dksJ16_charAt_0 16 rfl rfl)
theorem dJ16_charAt_17 : decode cJ16_charAt 17 = .ok (.getfield 9, 3) := dk_180 0 9 (dk_at dksJ16_charAt_0 17 rfl rfl)
theorem dJ16_charAt_20 : decode cJ16_charAt 20 = .ok (.iload_n 1, 1) := dk_27 (dk_at dksJ16_charAt_0 20 rfl rfl)
theorem dJ16_charAt_21 : decode cJ16_charAt 21 = .ok (.invokestatic 498, 3) := dk_184 1 242 (dk_at dksJ16_charAt_0 21 rfl rfl)
theorem dJ16_charAt_24 : decode cJ16_charAt 24 = .ok (.ireturn, 1) := dk_172 (dk_at dksJ16_charAt_1 0 rfl rfl)
abbrev cJ16_isLatin1 : ByteArray := prog_37_method_154_code
def yJ16_isLatin1 : MethodName := ⟨RJ16, "isLatin1", "()Z"⟩
def dkwJ16_isLatin1_0 : List UInt8 := [178, 0, 38, 153, 0, 14, 42, 180, 0, 15, 154, 0, 7, 4, 167, 0, 4, 3, 172]
abbrev dktJ16_isLatin1_0 : List UInt8 := dkwJ16_isLatin1_0 ++ []
theorem dksJ16_isLatin1_0 : cJ16_isLatin1.data.toList.drop 0 = dktJ16_isLatin1_0 := by decide +kernel
theorem dJ16_isLatin1_0 : decode cJ16_isLatin1 0 = .ok (.getstatic 38, 3) := dk_178 0 38 (dk_at dksJ16_isLatin1_0 0 rfl rfl)
theorem dJ16_isLatin1_3 : decode cJ16_isLatin1 3 = .ok (.ifCond .eq 14, 3) := dk_153 0 14 (dk_at dksJ16_isLatin1_0 3 rfl rfl)
theorem dJ16_isLatin1_6 : decode cJ16_isLatin1 6 = .ok (.aload_n 0, 1) := dk_42 (dk_at dksJ16_isLatin1_0 6 rfl rfl)
theorem dJ16_isLatin1_7 : decode cJ16_isLatin1 7 = .ok (.getfield 15, 3) := dk_180 0 15 (dk_at dksJ16_isLatin1_0 7 rfl rfl)
theorem dJ16_isLatin1_10 : decode cJ16_isLatin1 10 = .ok (.ifCond .ne 7, 3) := dk_154 0 7 (dk_at dksJ16_isLatin1_0 10 rfl rfl)
theorem dJ16_isLatin1_13 : decode cJ16_isLatin1 13 = .ok (.iconst 1, 1) := dk_4 (dk_at dksJ16_isLatin1_0 13 rfl rfl)
theorem dJ16_isLatin1_14 : decode cJ16_isLatin1 14 = .ok (.goto 4, 3) := dk_167 0 4 (dk_at dksJ16_isLatin1_0 14 rfl rfl)
theorem dJ16_isLatin1_17 : decode cJ16_isLatin1 17 = .ok (.iconst 0, 1) := dk_3 (dk_at dksJ16_isLatin1_0 17 rfl rfl)
theorem dJ16_isLatin1_18 : decode cJ16_isLatin1 18 = .ok (.ireturn, 1) := dk_172 (dk_at dksJ16_isLatin1_0 18 rfl rfl)
abbrev cJ16_checkIndex : ByteArray := prog_37_method_155_code
def yJ16_checkIndex : MethodName := ⟨RJ16, "checkIndex", "(II)V"⟩
def dkwJ16_checkIndex_0 : List UInt8 := [26, 27, 178, 4, 29, 184, 4, 35, 87, 177]
abbrev dktJ16_checkIndex_0 : List UInt8 := dkwJ16_checkIndex_0 ++ []
theorem dksJ16_checkIndex_0 : cJ16_checkIndex.data.toList.drop 0 = dktJ16_checkIndex_0 := by decide +kernel
theorem dJ16_checkIndex_0 : decode cJ16_checkIndex 0 = .ok (.iload_n 0, 1) := dk_26 (dk_at dksJ16_checkIndex_0 0 rfl rfl)
theorem dJ16_checkIndex_1 : decode cJ16_checkIndex 1 = .ok (.iload_n 1, 1) := dk_27 (dk_at dksJ16_checkIndex_0 1 rfl rfl)
theorem dJ16_checkIndex_2 : decode cJ16_checkIndex 2 = .ok (.getstatic 1053, 3) := dk_178 4 29 (dk_at dksJ16_checkIndex_0 2 rfl rfl)
theorem dJ16_checkIndex_5 : decode cJ16_checkIndex 5 = .ok (.invokestatic 1059, 3) := dk_184 4 35 (dk_at dksJ16_checkIndex_0 5 rfl rfl)
theorem dJ16_checkIndex_8 : decode cJ16_checkIndex 8 = .ok (.pop, 1) := dk_87 (dk_at dksJ16_checkIndex_0 8 rfl rfl)
theorem dJ16_checkIndex_9 : decode cJ16_checkIndex 9 = .ok (.return_, 1) := dk_177 (dk_at dksJ16_checkIndex_0 9 rfl rfl)
abbrev cJ16_checkBoundsBeginEnd : ByteArray := prog_37_method_158_code
def yJ16_checkBoundsBeginEnd : MethodName := ⟨RJ16, "checkBoundsBeginEnd", "(III)V"⟩
def dkwJ16_checkBoundsBeginEnd_0 : List UInt8 := [26, 27, 28, 178, 4, 29, 184, 4, 38, 87, 177]
abbrev dktJ16_checkBoundsBeginEnd_0 : List UInt8 := dkwJ16_checkBoundsBeginEnd_0 ++ []
theorem dksJ16_checkBoundsBeginEnd_0 : cJ16_checkBoundsBeginEnd.data.toList.drop 0 = dktJ16_checkBoundsBeginEnd_0 := by decide +kernel
theorem dJ16_checkBoundsBeginEnd_0 : decode cJ16_checkBoundsBeginEnd 0 = .ok (.iload_n 0, 1) := dk_26 (dk_at dksJ16_checkBoundsBeginEnd_0 0 rfl rfl)
theorem dJ16_checkBoundsBeginEnd_1 : decode cJ16_checkBoundsBeginEnd 1 = .ok (.iload_n 1, 1) := dk_27 (dk_at dksJ16_checkBoundsBeginEnd_0 1 rfl rfl)
theorem dJ16_checkBoundsBeginEnd_2 : decode cJ16_checkBoundsBeginEnd 2 = .ok (.iload_n 2, 1) := dk_28 (dk_at dksJ16_checkBoundsBeginEnd_0 2 rfl rfl)
theorem dJ16_checkBoundsBeginEnd_3 : decode cJ16_checkBoundsBeginEnd 3 = .ok (.getstatic 1053, 3) := dk_178 4 29 (dk_at dksJ16_checkBoundsBeginEnd_0 3 rfl rfl)
theorem dJ16_checkBoundsBeginEnd_6 : decode cJ16_checkBoundsBeginEnd 6 = .ok (.invokestatic 1062, 3) := dk_184 4 38 (dk_at dksJ16_checkBoundsBeginEnd_0 6 rfl rfl)
theorem dJ16_checkBoundsBeginEnd_9 : decode cJ16_checkBoundsBeginEnd 9 = .ok (.pop, 1) := dk_87 (dk_at dksJ16_checkBoundsBeginEnd_0 9 rfl rfl)
theorem dJ16_checkBoundsBeginEnd_10 : decode cJ16_checkBoundsBeginEnd 10 = .ok (.return_, 1) := dk_177 (dk_at dksJ16_checkBoundsBeginEnd_0 10 rfl rfl)
abbrev cJ16_checkBoundsOffCount : ByteArray := prog_37_method_157_code
def yJ16_checkBoundsOffCount : MethodName := ⟨RJ16, "checkBoundsOffCount", "(III)I"⟩
def dkwJ16_checkBoundsOffCount_0 : List UInt8 := [26, 27, 28, 178, 4, 29, 184, 4, 41, 172]
abbrev dktJ16_checkBoundsOffCount_0 : List UInt8 := dkwJ16_checkBoundsOffCount_0 ++ []
theorem dksJ16_checkBoundsOffCount_0 : cJ16_checkBoundsOffCount.data.toList.drop 0 = dktJ16_checkBoundsOffCount_0 := by decide +kernel
theorem dJ16_checkBoundsOffCount_0 : decode cJ16_checkBoundsOffCount 0 = .ok (.iload_n 0, 1) := dk_26 (dk_at dksJ16_checkBoundsOffCount_0 0 rfl rfl)
theorem dJ16_checkBoundsOffCount_1 : decode cJ16_checkBoundsOffCount 1 = .ok (.iload_n 1, 1) := dk_27 (dk_at dksJ16_checkBoundsOffCount_0 1 rfl rfl)
theorem dJ16_checkBoundsOffCount_2 : decode cJ16_checkBoundsOffCount 2 = .ok (.iload_n 2, 1) := dk_28 (dk_at dksJ16_checkBoundsOffCount_0 2 rfl rfl)
theorem dJ16_checkBoundsOffCount_3 : decode cJ16_checkBoundsOffCount 3 = .ok (.getstatic 1053, 3) := dk_178 4 29 (dk_at dksJ16_checkBoundsOffCount_0 3 rfl rfl)
theorem dJ16_checkBoundsOffCount_6 : decode cJ16_checkBoundsOffCount 6 = .ok (.invokestatic 1065, 3) := dk_184 4 41 (dk_at dksJ16_checkBoundsOffCount_0 6 rfl rfl)
theorem dJ16_checkBoundsOffCount_9 : decode cJ16_checkBoundsOffCount 9 = .ok (.ireturn, 1) := dk_172 (dk_at dksJ16_checkBoundsOffCount_0 9 rfl rfl)
abbrev cJ16_getBytes : ByteArray := prog_37_method_147_code
def yJ16_getBytes : MethodName := ⟨RJ16, "getBytes", "([BIB)V"⟩
def dkwJ16_getBytes_1 : List UInt8 := [184, 0, 212, 167, 0, 18, 42, 180, 0, 9, 3, 43, 28, 42, 180, 0, 9, 190, 184, 0, 106, 177]
abbrev dktJ16_getBytes_1 : List UInt8 := dkwJ16_getBytes_1 ++ []
def dkwJ16_getBytes_0 : List UInt8 := [42, 182, 1, 79, 29, 160, 0, 23, 42, 180, 0, 9, 3, 43, 28, 29, 120, 42, 180, 0, 9, 190]
abbrev dktJ16_getBytes_0 : List UInt8 := dkwJ16_getBytes_0 ++ dktJ16_getBytes_1
theorem dksJ16_getBytes_0 : cJ16_getBytes.data.toList.drop 0 = dktJ16_getBytes_0 := by decide +kernel
theorem dksJ16_getBytes_1 : cJ16_getBytes.data.toList.drop 22 = dktJ16_getBytes_1 := dk_seg dksJ16_getBytes_0 22 rfl rfl
theorem dJ16_getBytes_0 : decode cJ16_getBytes 0 = .ok (.aload_n 0, 1) := dk_42 (dk_at dksJ16_getBytes_0 0 rfl rfl)
theorem dJ16_getBytes_1 : decode cJ16_getBytes 1 = .ok (.invokevirtual 335, 3) := dk_182 1 79 (dk_at dksJ16_getBytes_0 1 rfl rfl)
theorem dJ16_getBytes_4 : decode cJ16_getBytes 4 = .ok (.iload_n 3, 1) := dk_29 (dk_at dksJ16_getBytes_0 4 rfl rfl)
theorem dJ16_getBytes_5 : decode cJ16_getBytes 5 = .ok (.if_icmp .ne 23, 3) := dk_160 0 23 (dk_at dksJ16_getBytes_0 5 rfl rfl)
theorem dJ16_getBytes_8 : decode cJ16_getBytes 8 = .ok (.aload_n 0, 1) := dk_42 (dk_at dksJ16_getBytes_0 8 rfl rfl)
theorem dJ16_getBytes_9 : decode cJ16_getBytes 9 = .ok (.getfield 9, 3) := dk_180 0 9 (dk_at dksJ16_getBytes_0 9 rfl rfl)
theorem dJ16_getBytes_12 : decode cJ16_getBytes 12 = .ok (.iconst 0, 1) := dk_3 (dk_at dksJ16_getBytes_0 12 rfl rfl)
theorem dJ16_getBytes_13 : decode cJ16_getBytes 13 = .ok (.aload_n 1, 1) := dk_43 (dk_at dksJ16_getBytes_0 13 rfl rfl)
theorem dJ16_getBytes_14 : decode cJ16_getBytes 14 = .ok (.iload_n 2, 1) := dk_28 (dk_at dksJ16_getBytes_0 14 rfl rfl)
theorem dJ16_getBytes_15 : decode cJ16_getBytes 15 = .ok (.iload_n 3, 1) := dk_29 (dk_at dksJ16_getBytes_0 15 rfl rfl)
theorem dJ16_getBytes_16 : decode cJ16_getBytes 16 = .ok (.ishl, 1) := dk_120 (dk_at dksJ16_getBytes_0 16 rfl rfl)
theorem dJ16_getBytes_17 : decode cJ16_getBytes 17 = .ok (.aload_n 0, 1) := dk_42 (dk_at dksJ16_getBytes_0 17 rfl rfl)
theorem dJ16_getBytes_18 : decode cJ16_getBytes 18 = .ok (.getfield 9, 3) := dk_180 0 9 (dk_at dksJ16_getBytes_0 18 rfl rfl)
theorem dJ16_getBytes_21 : decode cJ16_getBytes 21 = .ok (.arraylength, 1) := dk_190 (dk_at dksJ16_getBytes_0 21 rfl rfl)
theorem dJ16_getBytes_22 : decode cJ16_getBytes 22 = .ok (.invokestatic 212, 3) := dk_184 0 212 (dk_at dksJ16_getBytes_1 0 rfl rfl)
theorem dJ16_getBytes_25 : decode cJ16_getBytes 25 = .ok (.goto 18, 3) := dk_167 0 18 (dk_at dksJ16_getBytes_1 3 rfl rfl)
theorem dJ16_getBytes_28 : decode cJ16_getBytes 28 = .ok (.aload_n 0, 1) := dk_42 (dk_at dksJ16_getBytes_1 6 rfl rfl)
theorem dJ16_getBytes_29 : decode cJ16_getBytes 29 = .ok (.getfield 9, 3) := dk_180 0 9 (dk_at dksJ16_getBytes_1 7 rfl rfl)
theorem dJ16_getBytes_32 : decode cJ16_getBytes 32 = .ok (.iconst 0, 1) := dk_3 (dk_at dksJ16_getBytes_1 10 rfl rfl)
theorem dJ16_getBytes_33 : decode cJ16_getBytes 33 = .ok (.aload_n 1, 1) := dk_43 (dk_at dksJ16_getBytes_1 11 rfl rfl)
theorem dJ16_getBytes_34 : decode cJ16_getBytes 34 = .ok (.iload_n 2, 1) := dk_28 (dk_at dksJ16_getBytes_1 12 rfl rfl)
theorem dJ16_getBytes_35 : decode cJ16_getBytes 35 = .ok (.aload_n 0, 1) := dk_42 (dk_at dksJ16_getBytes_1 13 rfl rfl)
theorem dJ16_getBytes_36 : decode cJ16_getBytes 36 = .ok (.getfield 9, 3) := dk_180 0 9 (dk_at dksJ16_getBytes_1 14 rfl rfl)
theorem dJ16_getBytes_39 : decode cJ16_getBytes 39 = .ok (.arraylength, 1) := dk_190 (dk_at dksJ16_getBytes_1 17 rfl rfl)
theorem dJ16_getBytes_40 : decode cJ16_getBytes 40 = .ok (.invokestatic 106, 3) := dk_184 0 106 (dk_at dksJ16_getBytes_1 18 rfl rfl)
theorem dJ16_getBytes_43 : decode cJ16_getBytes 43 = .ok (.return_, 1) := dk_177 (dk_at dksJ16_getBytes_1 21 rfl rfl)
abbrev cJ16_init : ByteArray := prog_37_method_53_code
def yJ16_init : MethodName := ⟨RJ16, "<init>", "(Ljava/lang/StringBuilder;)V"⟩
def dkwJ16_init_0 : List UInt8 := [42, 43, 1, 183, 1, 233, 177]
abbrev dktJ16_init_0 : List UInt8 := dkwJ16_init_0 ++ []
theorem dksJ16_init_0 : cJ16_init.data.toList.drop 0 = dktJ16_init_0 := by decide +kernel
theorem dJ16_init_0 : decode cJ16_init 0 = .ok (.aload_n 0, 1) := dk_42 (dk_at dksJ16_init_0 0 rfl rfl)
theorem dJ16_init_1 : decode cJ16_init 1 = .ok (.aload_n 1, 1) := dk_43 (dk_at dksJ16_init_0 1 rfl rfl)
theorem dJ16_init_2 : decode cJ16_init 2 = .ok (.aconst_null, 1) := dk_1 (dk_at dksJ16_init_0 2 rfl rfl)
theorem dJ16_init_3 : decode cJ16_init 3 = .ok (.invokespecial 489, 3) := dk_183 1 233 (dk_at dksJ16_init_0 3 rfl rfl)
theorem dJ16_init_6 : decode cJ16_init 6 = .ok (.return_, 1) := dk_177 (dk_at dksJ16_init_0 6 rfl rfl)
abbrev cJ16_init_2 : ByteArray := prog_37_method_150_code
def yJ16_init_2 : MethodName := ⟨RJ16, "<init>", "(Ljava/lang/AbstractStringBuilder;Ljava/lang/Void;)V"⟩
def dkwJ16_init_2_4 : List UInt8 := [181, 0, 9, 177]
abbrev dktJ16_init_2_4 : List UInt8 := dkwJ16_init_2_4 ++ []
def dkwJ16_init_2_3 : List UInt8 := [184, 0, 47, 181, 0, 15, 177, 42, 4, 181, 0, 15, 42, 45, 3, 21, 4, 4, 120, 184, 0, 54]
abbrev dktJ16_init_2_3 : List UInt8 := dkwJ16_init_2_3 ++ dktJ16_init_2_4
def dkwJ16_init_2_2 : List UInt8 := [180, 4, 24, 153, 0, 28, 42, 45, 3, 21, 4, 184, 4, 27, 181, 0, 9, 42, 42, 180, 0, 9, 21, 4]
abbrev dktJ16_init_2_2 : List UInt8 := dkwJ16_init_2_2 ++ dktJ16_init_2_3
def dkwJ16_init_2_1 : List UInt8 := [181, 0, 15, 42, 45, 3, 21, 4, 184, 0, 54, 181, 0, 9, 167, 0, 59, 178, 0, 38, 153, 0, 35, 43]
abbrev dktJ16_init_2_1 : List UInt8 := dkwJ16_init_2_1 ++ dktJ16_init_2_2
def dkwJ16_init_2_0 : List UInt8 := [42, 183, 0, 1, 43, 182, 2, 40, 78, 43, 182, 2, 37, 54, 4, 43, 182, 4, 23, 153, 0, 22, 42, 3]
abbrev dktJ16_init_2_0 : List UInt8 := dkwJ16_init_2_0 ++ dktJ16_init_2_1
theorem dksJ16_init_2_0 : cJ16_init_2.data.toList.drop 0 = dktJ16_init_2_0 := by decide +kernel
theorem dksJ16_init_2_1 : cJ16_init_2.data.toList.drop 24 = dktJ16_init_2_1 := dk_seg dksJ16_init_2_0 24 rfl rfl
theorem dksJ16_init_2_2 : cJ16_init_2.data.toList.drop 48 = dktJ16_init_2_2 := dk_seg dksJ16_init_2_1 24 rfl rfl
theorem dksJ16_init_2_3 : cJ16_init_2.data.toList.drop 72 = dktJ16_init_2_3 := dk_seg dksJ16_init_2_2 24 rfl rfl
theorem dksJ16_init_2_4 : cJ16_init_2.data.toList.drop 94 = dktJ16_init_2_4 := dk_seg dksJ16_init_2_3 22 rfl rfl
theorem dJ16_init_2_0 : decode cJ16_init_2 0 = .ok (.aload_n 0, 1) := dk_42 (dk_at dksJ16_init_2_0 0 rfl rfl)
theorem dJ16_init_2_1 : decode cJ16_init_2 1 = .ok (.invokespecial 1, 3) := dk_183 0 1 (dk_at dksJ16_init_2_0 1 rfl rfl)
theorem dJ16_init_2_4 : decode cJ16_init_2 4 = .ok (.aload_n 1, 1) := dk_43 (dk_at dksJ16_init_2_0 4 rfl rfl)
theorem dJ16_init_2_5 : decode cJ16_init_2 5 = .ok (.invokevirtual 552, 3) := dk_182 2 40 (dk_at dksJ16_init_2_0 5 rfl rfl)
theorem dJ16_init_2_8 : decode cJ16_init_2 8 = .ok (.astore_n 3, 1) := dk_78 (dk_at dksJ16_init_2_0 8 rfl rfl)
theorem dJ16_init_2_9 : decode cJ16_init_2 9 = .ok (.aload_n 1, 1) := dk_43 (dk_at dksJ16_init_2_0 9 rfl rfl)
theorem dJ16_init_2_10 : decode cJ16_init_2 10 = .ok (.invokevirtual 549, 3) := dk_182 2 37 (dk_at dksJ16_init_2_0 10 rfl rfl)
theorem dJ16_init_2_13 : decode cJ16_init_2 13 = .ok (.istore 4, 2) := dk_54 4 (dk_at dksJ16_init_2_0 13 rfl rfl)
theorem dJ16_init_2_15 : decode cJ16_init_2 15 = .ok (.aload_n 1, 1) := dk_43 (dk_at dksJ16_init_2_0 15 rfl rfl)
theorem dJ16_init_2_16 : decode cJ16_init_2 16 = .ok (.invokevirtual 1047, 3) := dk_182 4 23 (dk_at dksJ16_init_2_0 16 rfl rfl)
theorem dJ16_init_2_19 : decode cJ16_init_2 19 = .ok (.ifCond .eq 22, 3) := dk_153 0 22 (dk_at dksJ16_init_2_0 19 rfl rfl)
theorem dJ16_init_2_22 : decode cJ16_init_2 22 = .ok (.aload_n 0, 1) := dk_42 (dk_at dksJ16_init_2_0 22 rfl rfl)
theorem dJ16_init_2_23 : decode cJ16_init_2 23 = .ok (.iconst 0, 1) := dk_3 (dk_at dksJ16_init_2_0 23 rfl rfl)
theorem dJ16_init_2_24 : decode cJ16_init_2 24 = .ok (.putfield 15, 3) := dk_181 0 15 (dk_at dksJ16_init_2_1 0 rfl rfl)
theorem dJ16_init_2_27 : decode cJ16_init_2 27 = .ok (.aload_n 0, 1) := dk_42 (dk_at dksJ16_init_2_1 3 rfl rfl)
theorem dJ16_init_2_28 : decode cJ16_init_2 28 = .ok (.aload_n 3, 1) := dk_45 (dk_at dksJ16_init_2_1 4 rfl rfl)
theorem dJ16_init_2_29 : decode cJ16_init_2 29 = .ok (.iconst 0, 1) := dk_3 (dk_at dksJ16_init_2_1 5 rfl rfl)
theorem dJ16_init_2_30 : decode cJ16_init_2 30 = .ok (.iload 4, 2) := dk_21 4 (dk_at dksJ16_init_2_1 6 rfl rfl)
theorem dJ16_init_2_32 : decode cJ16_init_2 32 = .ok (.invokestatic 54, 3) := dk_184 0 54 (dk_at dksJ16_init_2_1 8 rfl rfl)
theorem dJ16_init_2_35 : decode cJ16_init_2 35 = .ok (.putfield 9, 3) := dk_181 0 9 (dk_at dksJ16_init_2_1 11 rfl rfl)
theorem dJ16_init_2_38 : decode cJ16_init_2 38 = .ok (.goto 59, 3) := dk_167 0 59 (dk_at dksJ16_init_2_1 14 rfl rfl)
theorem dJ16_init_2_41 : decode cJ16_init_2 41 = .ok (.getstatic 38, 3) := dk_178 0 38 (dk_at dksJ16_init_2_1 17 rfl rfl)
theorem dJ16_init_2_44 : decode cJ16_init_2 44 = .ok (.ifCond .eq 35, 3) := dk_153 0 35 (dk_at dksJ16_init_2_1 20 rfl rfl)
theorem dJ16_init_2_47 : decode cJ16_init_2 47 = .ok (.aload_n 1, 1) := dk_43 (dk_at dksJ16_init_2_1 23 rfl rfl)
theorem dJ16_init_2_48 : decode cJ16_init_2 48 = .ok (.getfield 1048, 3) := dk_180 4 24 (dk_at dksJ16_init_2_2 0 rfl rfl)
theorem dJ16_init_2_51 : decode cJ16_init_2 51 = .ok (.ifCond .eq 28, 3) := dk_153 0 28 (dk_at dksJ16_init_2_2 3 rfl rfl)
theorem dJ16_init_2_54 : decode cJ16_init_2 54 = .ok (.aload_n 0, 1) := dk_42 (dk_at dksJ16_init_2_2 6 rfl rfl)
theorem dJ16_init_2_55 : decode cJ16_init_2 55 = .ok (.aload_n 3, 1) := dk_45 (dk_at dksJ16_init_2_2 7 rfl rfl)
theorem dJ16_init_2_56 : decode cJ16_init_2 56 = .ok (.iconst 0, 1) := dk_3 (dk_at dksJ16_init_2_2 8 rfl rfl)
theorem dJ16_init_2_57 : decode cJ16_init_2 57 = .ok (.iload 4, 2) := dk_21 4 (dk_at dksJ16_init_2_2 9 rfl rfl)
theorem dJ16_init_2_59 : decode cJ16_init_2 59 = .ok (.invokestatic 1051, 3) := dk_184 4 27 (dk_at dksJ16_init_2_2 11 rfl rfl)
theorem dJ16_init_2_62 : decode cJ16_init_2 62 = .ok (.putfield 9, 3) := dk_181 0 9 (dk_at dksJ16_init_2_2 14 rfl rfl)
theorem dJ16_init_2_65 : decode cJ16_init_2 65 = .ok (.aload_n 0, 1) := dk_42 (dk_at dksJ16_init_2_2 17 rfl rfl)
theorem dJ16_init_2_66 : decode cJ16_init_2 66 = .ok (.aload_n 0, 1) := dk_42 (dk_at dksJ16_init_2_2 18 rfl rfl)
theorem dJ16_init_2_67 : decode cJ16_init_2 67 = .ok (.getfield 9, 3) := dk_180 0 9 (dk_at dksJ16_init_2_2 19 rfl rfl)
theorem dJ16_init_2_70 : decode cJ16_init_2 70 = .ok (.iload 4, 2) := dk_21 4 (dk_at dksJ16_init_2_2 22 rfl rfl)
theorem dJ16_init_2_72 : decode cJ16_init_2 72 = .ok (.invokestatic 47, 3) := dk_184 0 47 (dk_at dksJ16_init_2_3 0 rfl rfl)
theorem dJ16_init_2_75 : decode cJ16_init_2 75 = .ok (.putfield 15, 3) := dk_181 0 15 (dk_at dksJ16_init_2_3 3 rfl rfl)
theorem dJ16_init_2_78 : decode cJ16_init_2 78 = .ok (.return_, 1) := dk_177 (dk_at dksJ16_init_2_3 6 rfl rfl)
theorem dJ16_init_2_79 : decode cJ16_init_2 79 = .ok (.aload_n 0, 1) := dk_42 (dk_at dksJ16_init_2_3 7 rfl rfl)
theorem dJ16_init_2_80 : decode cJ16_init_2 80 = .ok (.iconst 1, 1) := dk_4 (dk_at dksJ16_init_2_3 8 rfl rfl)
theorem dJ16_init_2_81 : decode cJ16_init_2 81 = .ok (.putfield 15, 3) := dk_181 0 15 (dk_at dksJ16_init_2_3 9 rfl rfl)
theorem dJ16_init_2_84 : decode cJ16_init_2 84 = .ok (.aload_n 0, 1) := dk_42 (dk_at dksJ16_init_2_3 12 rfl rfl)
theorem dJ16_init_2_85 : decode cJ16_init_2 85 = .ok (.aload_n 3, 1) := dk_45 (dk_at dksJ16_init_2_3 13 rfl rfl)
theorem dJ16_init_2_86 : decode cJ16_init_2 86 = .ok (.iconst 0, 1) := dk_3 (dk_at dksJ16_init_2_3 14 rfl rfl)
theorem dJ16_init_2_87 : decode cJ16_init_2 87 = .ok (.iload 4, 2) := dk_21 4 (dk_at dksJ16_init_2_3 15 rfl rfl)
theorem dJ16_init_2_89 : decode cJ16_init_2 89 = .ok (.iconst 1, 1) := dk_4 (dk_at dksJ16_init_2_3 17 rfl rfl)
theorem dJ16_init_2_90 : decode cJ16_init_2 90 = .ok (.ishl, 1) := dk_120 (dk_at dksJ16_init_2_3 18 rfl rfl)
theorem dJ16_init_2_91 : decode cJ16_init_2 91 = .ok (.invokestatic 54, 3) := dk_184 0 54 (dk_at dksJ16_init_2_3 19 rfl rfl)
theorem dJ16_init_2_94 : decode cJ16_init_2 94 = .ok (.putfield 9, 3) := dk_181 0 9 (dk_at dksJ16_init_2_4 0 rfl rfl)
theorem dJ16_init_2_97 : decode cJ16_init_2 97 = .ok (.return_, 1) := dk_177 (dk_at dksJ16_init_2_4 3 rfl rfl)
abbrev cJ16_equals : ByteArray := prog_37_method_66_code
def yJ16_equals : MethodName := ⟨RJ16, "equals", "(Ljava/lang/Object;)Z"⟩
def dkwJ16_equals_2 : List UInt8 := [184, 2, 29, 153, 0, 7, 4, 167, 0, 4, 3, 172]
abbrev dktJ16_equals_2 : List UInt8 := dkwJ16_equals_2 ++ []
def dkwJ16_equals_1 : List UInt8 := [153, 0, 14, 42, 180, 0, 15, 44, 180, 0, 15, 160, 0, 21, 42, 180, 0, 9, 44, 180, 0, 9]
abbrev dktJ16_equals_1 : List UInt8 := dkwJ16_equals_1 ++ dktJ16_equals_2
def dkwJ16_equals_0 : List UInt8 := [42, 43, 166, 0, 5, 4, 172, 43, 193, 0, 10, 153, 0, 43, 43, 192, 0, 10, 77, 178, 0, 38]
abbrev dktJ16_equals_0 : List UInt8 := dkwJ16_equals_0 ++ dktJ16_equals_1
theorem dksJ16_equals_0 : cJ16_equals.data.toList.drop 0 = dktJ16_equals_0 := by decide +kernel
theorem dksJ16_equals_1 : cJ16_equals.data.toList.drop 22 = dktJ16_equals_1 := dk_seg dksJ16_equals_0 22 rfl rfl
theorem dksJ16_equals_2 : cJ16_equals.data.toList.drop 44 = dktJ16_equals_2 := dk_seg dksJ16_equals_1 22 rfl rfl
theorem dJ16_equals_0 : decode cJ16_equals 0 = .ok (.aload_n 0, 1) := dk_42 (dk_at dksJ16_equals_0 0 rfl rfl)
theorem dJ16_equals_1 : decode cJ16_equals 1 = .ok (.aload_n 1, 1) := dk_43 (dk_at dksJ16_equals_0 1 rfl rfl)
theorem dJ16_equals_2 : decode cJ16_equals 2 = .ok (.if_acmp .ne 5, 3) := dk_166 0 5 (dk_at dksJ16_equals_0 2 rfl rfl)
theorem dJ16_equals_5 : decode cJ16_equals 5 = .ok (.iconst 1, 1) := dk_4 (dk_at dksJ16_equals_0 5 rfl rfl)
theorem dJ16_equals_6 : decode cJ16_equals 6 = .ok (.ireturn, 1) := dk_172 (dk_at dksJ16_equals_0 6 rfl rfl)
theorem dJ16_equals_7 : decode cJ16_equals 7 = .ok (.aload_n 1, 1) := dk_43 (dk_at dksJ16_equals_0 7 rfl rfl)
theorem dJ16_equals_8 : decode cJ16_equals 8 = .ok (.instanceof 10, 3) := dk_193 0 10 (dk_at dksJ16_equals_0 8 rfl rfl)
theorem dJ16_equals_11 : decode cJ16_equals 11 = .ok (.ifCond .eq 43, 3) := dk_153 0 43 (dk_at dksJ16_equals_0 11 rfl rfl)
theorem dJ16_equals_14 : decode cJ16_equals 14 = .ok (.aload_n 1, 1) := dk_43 (dk_at dksJ16_equals_0 14 rfl rfl)
theorem dJ16_equals_15 : decode cJ16_equals 15 = .ok (.checkcast 10, 3) := dk_192 0 10 (dk_at dksJ16_equals_0 15 rfl rfl)
theorem dJ16_equals_18 : decode cJ16_equals 18 = .ok (.astore_n 2, 1) := dk_77 (dk_at dksJ16_equals_0 18 rfl rfl)
theorem dJ16_equals_19 : decode cJ16_equals 19 = .ok (.getstatic 38, 3) := dk_178 0 38 (dk_at dksJ16_equals_0 19 rfl rfl)
theorem dJ16_equals_22 : decode cJ16_equals 22 = .ok (.ifCond .eq 14, 3) := dk_153 0 14 (dk_at dksJ16_equals_1 0 rfl rfl)
theorem dJ16_equals_25 : decode cJ16_equals 25 = .ok (.aload_n 0, 1) := dk_42 (dk_at dksJ16_equals_1 3 rfl rfl)
theorem dJ16_equals_26 : decode cJ16_equals 26 = .ok (.getfield 15, 3) := dk_180 0 15 (dk_at dksJ16_equals_1 4 rfl rfl)
theorem dJ16_equals_29 : decode cJ16_equals 29 = .ok (.aload_n 2, 1) := dk_44 (dk_at dksJ16_equals_1 7 rfl rfl)
theorem dJ16_equals_30 : decode cJ16_equals 30 = .ok (.getfield 15, 3) := dk_180 0 15 (dk_at dksJ16_equals_1 8 rfl rfl)
theorem dJ16_equals_33 : decode cJ16_equals 33 = .ok (.if_icmp .ne 21, 3) := dk_160 0 21 (dk_at dksJ16_equals_1 11 rfl rfl)
theorem dJ16_equals_36 : decode cJ16_equals 36 = .ok (.aload_n 0, 1) := dk_42 (dk_at dksJ16_equals_1 14 rfl rfl)
theorem dJ16_equals_37 : decode cJ16_equals 37 = .ok (.getfield 9, 3) := dk_180 0 9 (dk_at dksJ16_equals_1 15 rfl rfl)
theorem dJ16_equals_40 : decode cJ16_equals 40 = .ok (.aload_n 2, 1) := dk_44 (dk_at dksJ16_equals_1 18 rfl rfl)
theorem dJ16_equals_41 : decode cJ16_equals 41 = .ok (.getfield 9, 3) := dk_180 0 9 (dk_at dksJ16_equals_1 19 rfl rfl)
theorem dJ16_equals_44 : decode cJ16_equals 44 = .ok (.invokestatic 541, 3) := dk_184 2 29 (dk_at dksJ16_equals_2 0 rfl rfl)
theorem dJ16_equals_47 : decode cJ16_equals 47 = .ok (.ifCond .eq 7, 3) := dk_153 0 7 (dk_at dksJ16_equals_2 3 rfl rfl)
theorem dJ16_equals_50 : decode cJ16_equals 50 = .ok (.iconst 1, 1) := dk_4 (dk_at dksJ16_equals_2 6 rfl rfl)
theorem dJ16_equals_51 : decode cJ16_equals 51 = .ok (.goto 4, 3) := dk_167 0 4 (dk_at dksJ16_equals_2 7 rfl rfl)
theorem dJ16_equals_54 : decode cJ16_equals 54 = .ok (.iconst 0, 1) := dk_3 (dk_at dksJ16_equals_2 10 rfl rfl)
theorem dJ16_equals_55 : decode cJ16_equals 55 = .ok (.ireturn, 1) := dk_172 (dk_at dksJ16_equals_2 11 rfl rfl)
theorem q63 : (Jvm.Cond.initialized "java/lang/String") ∈ lw_all := lw_g (lw_at lw_m1 30 rfl) rfl
theorem q295 : (Jvm.Cond.selects "java/lang/String" ({ cls := "java/lang/Object", name := "getClass", desc := "()Ljava/lang/Class;" } : Jvm.MethodName) ({ cls := "java/lang/Object", name := "getClass", desc := "()Ljava/lang/Class;" } : Jvm.MethodName)) ∈ lw_all := lw_g (lw_at lw_m2 22 rfl) rfl
theorem q740 : (Jvm.Cond.instanceMethod ({ cls := "java/lang/String", name := "length", desc := "()I" } : Jvm.MethodName)) ∈ lw_all := lw_g (lw_at lw_m3 227 rfl) rfl
theorem q741 : (Jvm.Cond.selects "java/lang/String" ({ cls := "java/lang/String", name := "length", desc := "()I" } : Jvm.MethodName) ({ cls := "java/lang/String", name := "length", desc := "()I" } : Jvm.MethodName)) ∈ lw_all := lw_g (lw_at lw_m3 228 rfl) rfl
theorem q742 : (Jvm.Cond.code ({ cls := "java/lang/String", name := "length", desc := "()I" } : Jvm.MethodName) prog_37_method_54_code (1 : Nat) (Option.some Jvm.ClassFile.FieldType.int)) ∈ lw_all := lw_g (lw_at lw_m3 229 rfl) rfl
theorem q743 : (Jvm.Cond.methodLink "java/lang/String" (335 : Nat) ({ cls := "java/lang/String", name := "coder", desc := "()B" } : Jvm.MethodName)) ∈ lw_all := lw_g (lw_at lw_m3 230 rfl) rfl
theorem q744 : (Jvm.Cond.instanceMethod ({ cls := "java/lang/String", name := "coder", desc := "()B" } : Jvm.MethodName)) ∈ lw_all := lw_g (lw_at lw_m3 231 rfl) rfl
theorem q745 : (Jvm.Cond.selects "java/lang/String" ({ cls := "java/lang/String", name := "coder", desc := "()B" } : Jvm.MethodName) ({ cls := "java/lang/String", name := "coder", desc := "()B" } : Jvm.MethodName)) ∈ lw_all := lw_g (lw_at lw_m3 232 rfl) rfl
theorem q746 : (Jvm.Cond.code ({ cls := "java/lang/String", name := "coder", desc := "()B" } : Jvm.MethodName) prog_37_method_152_code (1 : Nat) (Option.some Jvm.ClassFile.FieldType.byte)) ∈ lw_all := lw_g (lw_at lw_m3 233 rfl) rfl
theorem q747 : (Jvm.Cond.fieldLink "java/lang/String" (38 : Nat) "java/lang/String" "COMPACT_STRINGS" "Z") ∈ lw_all := lw_g (lw_at lw_m3 234 rfl) rfl
theorem q748 : (Jvm.Cond.laysStatic "java/lang/String" "COMPACT_STRINGS" "Z") ∈ lw_tbl := lw_at lw_m3 235 rfl
theorem q750 : (Jvm.Cond.instanceMethod ({ cls := "java/lang/String", name := "charAt", desc := "(I)C" } : Jvm.MethodName)) ∈ lw_all := lw_g (lw_at lw_m3 237 rfl) rfl
theorem q751 : (Jvm.Cond.selects "java/lang/String" ({ cls := "java/lang/String", name := "charAt", desc := "(I)C" } : Jvm.MethodName) ({ cls := "java/lang/String", name := "charAt", desc := "(I)C" } : Jvm.MethodName)) ∈ lw_all := lw_g (lw_at lw_m3 238 rfl) rfl
theorem q752 : (Jvm.Cond.code ({ cls := "java/lang/String", name := "charAt", desc := "(I)C" } : Jvm.MethodName) prog_37_method_56_code (2 : Nat) (Option.some Jvm.ClassFile.FieldType.char)) ∈ lw_all := lw_g (lw_at lw_m3 239 rfl) rfl
theorem q753 : (Jvm.Cond.methodLink "java/lang/String" (492 : Nat) ({ cls := "java/lang/String", name := "isLatin1", desc := "()Z" } : Jvm.MethodName)) ∈ lw_all := lw_g (lw_at lw_m4 0 rfl) rfl
theorem q754 : (Jvm.Cond.instanceMethod ({ cls := "java/lang/String", name := "isLatin1", desc := "()Z" } : Jvm.MethodName)) ∈ lw_all := lw_g (lw_at lw_m4 1 rfl) rfl
theorem q755 : (Jvm.Cond.selects "java/lang/String" ({ cls := "java/lang/String", name := "isLatin1", desc := "()Z" } : Jvm.MethodName) ({ cls := "java/lang/String", name := "isLatin1", desc := "()Z" } : Jvm.MethodName)) ∈ lw_all := lw_g (lw_at lw_m4 2 rfl) rfl
theorem q756 : (Jvm.Cond.code ({ cls := "java/lang/String", name := "isLatin1", desc := "()Z" } : Jvm.MethodName) prog_37_method_154_code (1 : Nat) (Option.some Jvm.ClassFile.FieldType.boolean)) ∈ lw_all := lw_g (lw_at lw_m4 3 rfl) rfl
theorem q757 : (Jvm.Cond.methodLink "java/lang/String" (495 : Nat) ({ cls := "java/lang/StringLatin1", name := "charAt", desc := "([BI)C" } : Jvm.MethodName)) ∈ lw_all := lw_g (lw_at lw_m4 4 rfl) rfl
theorem q761 : (Jvm.Cond.static ({ cls := "java/lang/String", name := "checkIndex", desc := "(II)V" } : Jvm.MethodName)) ∈ lw_all := lw_g (lw_at lw_m4 8 rfl) rfl
theorem q762 : (Jvm.Cond.code ({ cls := "java/lang/String", name := "checkIndex", desc := "(II)V" } : Jvm.MethodName) prog_37_method_155_code (2 : Nat) (Option.none : Option Jvm.ClassFile.FieldType)) ∈ lw_all := lw_g (lw_at lw_m4 9 rfl) rfl
theorem q763 : (Jvm.Cond.fieldLink "java/lang/String" (1053 : Nat) "jdk/internal/util/Preconditions" "SIOOBE_FORMATTER" "Ljava/util/function/BiFunction;") ∈ lw_all := lw_g (lw_at lw_m4 10 rfl) rfl
theorem q765 : (Jvm.Cond.methodLink "java/lang/String" (1059 : Nat) ({ cls := "jdk/internal/util/Preconditions", name := "checkIndex", desc := "(IILjava/util/function/BiFunction;)I" } : Jvm.MethodName)) ∈ lw_all := lw_g (lw_at lw_m4 12 rfl) rfl
theorem q768 : (Jvm.Cond.methodLink "java/lang/String" (498 : Nat) ({ cls := "java/lang/StringUTF16", name := "charAt", desc := "([BI)C" } : Jvm.MethodName)) ∈ lw_all := lw_g (lw_at lw_m4 15 rfl) rfl
theorem q849 : (Jvm.Cond.fieldLink "java/lang/String" (1048 : Nat) "java/lang/AbstractStringBuilder" "maybeLatin1" "Z") ∈ lw_all := lw_g (lw_at lw_m4 96 rfl) rfl
theorem q904 : (Jvm.Cond.static ({ cls := "java/lang/String", name := "checkBoundsBeginEnd", desc := "(III)V" } : Jvm.MethodName)) ∈ lw_all := lw_g (lw_at lw_m4 151 rfl) rfl
theorem q905 : (Jvm.Cond.code ({ cls := "java/lang/String", name := "checkBoundsBeginEnd", desc := "(III)V" } : Jvm.MethodName) prog_37_method_158_code (3 : Nat) (Option.none : Option Jvm.ClassFile.FieldType)) ∈ lw_all := lw_g (lw_at lw_m4 152 rfl) rfl
theorem q906 : (Jvm.Cond.methodLink "java/lang/String" (1062 : Nat) ({ cls := "jdk/internal/util/Preconditions", name := "checkFromToIndex", desc := "(IIILjava/util/function/BiFunction;)I" } : Jvm.MethodName)) ∈ lw_all := lw_g (lw_at lw_m4 153 rfl) rfl
theorem q936 : (Jvm.Cond.static ({ cls := "java/lang/String", name := "checkBoundsOffCount", desc := "(III)I" } : Jvm.MethodName)) ∈ lw_all := lw_g (lw_at lw_m4 183 rfl) rfl
theorem q937 : (Jvm.Cond.code ({ cls := "java/lang/String", name := "checkBoundsOffCount", desc := "(III)I" } : Jvm.MethodName) prog_37_method_157_code (3 : Nat) (Option.some Jvm.ClassFile.FieldType.int)) ∈ lw_all := lw_g (lw_at lw_m4 184 rfl) rfl
theorem q938 : (Jvm.Cond.methodLink "java/lang/String" (1065 : Nat) ({ cls := "jdk/internal/util/Preconditions", name := "checkFromIndexSize", desc := "(IIILjava/util/function/BiFunction;)I" } : Jvm.MethodName)) ∈ lw_all := lw_g (lw_at lw_m4 185 rfl) rfl
theorem q942 : (Jvm.Cond.instanceMethod ({ cls := "java/lang/String", name := "getBytes", desc := "([BIB)V" } : Jvm.MethodName)) ∈ lw_all := lw_g (lw_at lw_m4 189 rfl) rfl
theorem q943 : (Jvm.Cond.selects "java/lang/String" ({ cls := "java/lang/String", name := "getBytes", desc := "([BIB)V" } : Jvm.MethodName) ({ cls := "java/lang/String", name := "getBytes", desc := "([BIB)V" } : Jvm.MethodName)) ∈ lw_all := lw_g (lw_at lw_m4 190 rfl) rfl
theorem q944 : (Jvm.Cond.code ({ cls := "java/lang/String", name := "getBytes", desc := "([BIB)V" } : Jvm.MethodName) prog_37_method_147_code (4 : Nat) (Option.none : Option Jvm.ClassFile.FieldType)) ∈ lw_all := lw_g (lw_at lw_m4 191 rfl) rfl
theorem q945 : (Jvm.Cond.methodLink "java/lang/String" (212 : Nat) ({ cls := "java/lang/System", name := "arraycopy", desc := "(Ljava/lang/Object;ILjava/lang/Object;II)V" } : Jvm.MethodName)) ∈ lw_all := lw_g (lw_at lw_m4 192 rfl) rfl
theorem q946 : (Jvm.Cond.methodLink "java/lang/String" (106 : Nat) ({ cls := "java/lang/StringLatin1", name := "inflate", desc := "([BI[BII)V" } : Jvm.MethodName)) ∈ lw_all := lw_g (lw_at lw_m4 193 rfl) rfl
theorem q978 : (Jvm.Cond.instantiable "java/lang/String" (4 : Nat)) ∈ lw_all := lw_g (lw_at lw_m4 225 rfl) rfl
theorem q980 : (Jvm.Cond.instanceMethod ({ cls := "java/lang/String", name := "<init>", desc := "(Ljava/lang/StringBuilder;)V" } : Jvm.MethodName)) ∈ lw_all := lw_g (lw_at lw_m4 227 rfl) rfl
theorem q981 : (Jvm.Cond.code ({ cls := "java/lang/String", name := "<init>", desc := "(Ljava/lang/StringBuilder;)V" } : Jvm.MethodName) prog_37_method_53_code (2 : Nat) (Option.none : Option Jvm.ClassFile.FieldType)) ∈ lw_all := lw_g (lw_at lw_m4 228 rfl) rfl
theorem q982 : (Jvm.Cond.methodLink "java/lang/String" (489 : Nat) ({ cls := "java/lang/String", name := "<init>", desc := "(Ljava/lang/AbstractStringBuilder;Ljava/lang/Void;)V" } : Jvm.MethodName)) ∈ lw_all := lw_g (lw_at lw_m4 229 rfl) rfl
theorem q983 : (Jvm.Cond.instanceMethod ({ cls := "java/lang/String", name := "<init>", desc := "(Ljava/lang/AbstractStringBuilder;Ljava/lang/Void;)V" } : Jvm.MethodName)) ∈ lw_all := lw_g (lw_at lw_m4 230 rfl) rfl
theorem q984 : (Jvm.Cond.code ({ cls := "java/lang/String", name := "<init>", desc := "(Ljava/lang/AbstractStringBuilder;Ljava/lang/Void;)V" } : Jvm.MethodName) prog_37_method_150_code (5 : Nat) (Option.none : Option Jvm.ClassFile.FieldType)) ∈ lw_all := lw_g (lw_at lw_m4 231 rfl) rfl
theorem q985 : (Jvm.Cond.methodLink "java/lang/String" (1 : Nat) ({ cls := "java/lang/Object", name := "<init>", desc := "()V" } : Jvm.MethodName)) ∈ lw_all := lw_g (lw_at lw_m4 232 rfl) rfl
theorem q986 : (Jvm.Cond.methodLink "java/lang/String" (552 : Nat) ({ cls := "java/lang/AbstractStringBuilder", name := "getValue", desc := "()[B" } : Jvm.MethodName)) ∈ lw_all := lw_g (lw_at lw_m4 233 rfl) rfl
theorem q991 : (Jvm.Cond.methodLink "java/lang/String" (549 : Nat) ({ cls := "java/lang/AbstractStringBuilder", name := "length", desc := "()I" } : Jvm.MethodName)) ∈ lw_all := lw_g (lw_at lw_m4 238 rfl) rfl
theorem q999 : (Jvm.Cond.methodLink "java/lang/String" (1047 : Nat) ({ cls := "java/lang/AbstractStringBuilder", name := "isLatin1", desc := "()Z" } : Jvm.MethodName)) ∈ lw_all := lw_g (lw_at lw_m5 6 rfl) rfl
theorem q1000 : (Jvm.Cond.methodLink "java/lang/String" (54 : Nat) ({ cls := "java/util/Arrays", name := "copyOfRange", desc := "([BII)[B" } : Jvm.MethodName)) ∈ lw_all := lw_g (lw_at lw_m5 7 rfl) rfl
theorem q1028 : (Jvm.Cond.methodLink "java/lang/String" (1051 : Nat) ({ cls := "java/lang/StringUTF16", name := "compress", desc := "([BII)[B" } : Jvm.MethodName)) ∈ lw_all := lw_g (lw_at lw_m5 35 rfl) rfl
theorem q1035 : (Jvm.Cond.methodLink "java/lang/String" (47 : Nat) ({ cls := "java/lang/StringUTF16", name := "coderFromArrayLen", desc := "([BI)B" } : Jvm.MethodName)) ∈ lw_all := lw_g (lw_at lw_m5 42 rfl) rfl
theorem q1038 : (Jvm.Cond.fieldLink "java/lang/String" (9 : Nat) "java/lang/String" "value" "[B") ∈ lw_all := lw_g (lw_at lw_m5 45 rfl) rfl
theorem q1039 : (Jvm.Cond.fieldLink "java/lang/String" (15 : Nat) "java/lang/String" "coder" "B") ∈ lw_all := lw_g (lw_at lw_m5 46 rfl) rfl
theorem q1040 : (Jvm.Cond.laysFinal "java/lang/String" "java/lang/String" "value" "[B") ∈ lw_all := lw_g (lw_at lw_m5 47 rfl) rfl
theorem q1041 : (Jvm.Cond.soleField "java/lang/String" "value") ∈ lw_all := lw_g (lw_at lw_m5 48 rfl) rfl
theorem q1042 : (Jvm.Cond.laysFinal "java/lang/String" "java/lang/String" "coder" "B") ∈ lw_all := lw_g (lw_at lw_m5 49 rfl) rfl
theorem q1043 : (Jvm.Cond.soleField "java/lang/String" "coder") ∈ lw_all := lw_g (lw_at lw_m5 50 rfl) rfl
theorem q1044 : (Jvm.Cond.lays "java/lang/String" "java/lang/String" "hash" "I") ∈ lw_all := lw_g (lw_at lw_m5 51 rfl) rfl
theorem q1045 : (Jvm.Cond.soleField "java/lang/String" "hash") ∈ lw_all := lw_g (lw_at lw_m5 52 rfl) rfl
theorem q1046 : (Jvm.Cond.lays "java/lang/String" "java/lang/String" "hashIsZero" "Z") ∈ lw_all := lw_g (lw_at lw_m5 53 rfl) rfl
theorem q1047 : (Jvm.Cond.soleField "java/lang/String" "hashIsZero") ∈ lw_all := lw_g (lw_at lw_m5 54 rfl) rfl
theorem q1048 : (Jvm.Cond.superclass "java/lang/String" "java/lang/Object") ∈ lw_all := lw_g (lw_at lw_m5 55 rfl) rfl
theorem q2214 : (Jvm.Cond.instanceMethod ({ cls := "java/lang/String", name := "equals", desc := "(Ljava/lang/Object;)Z" } : Jvm.MethodName)) ∈ lw_all := lw_g (lw_at lw_m10 21 rfl) rfl
theorem q2215 : (Jvm.Cond.selects "java/lang/String" ({ cls := "java/lang/String", name := "equals", desc := "(Ljava/lang/Object;)Z" } : Jvm.MethodName) ({ cls := "java/lang/String", name := "equals", desc := "(Ljava/lang/Object;)Z" } : Jvm.MethodName)) ∈ lw_all := lw_g (lw_at lw_m10 22 rfl) rfl
theorem q2216 : (Jvm.Cond.code ({ cls := "java/lang/String", name := "equals", desc := "(Ljava/lang/Object;)Z" } : Jvm.MethodName) prog_37_method_66_code (3 : Nat) (Option.some Jvm.ClassFile.FieldType.boolean)) ∈ lw_all := lw_g (lw_at lw_m10 23 rfl) rfl
theorem q2217 : (Jvm.Cond.classLink "java/lang/String" (10 : Nat) "java/lang/String") ∈ lw_all := lw_g (lw_at lw_m10 24 rfl) rfl
theorem q2218 : (Jvm.Cond.methodLink "java/lang/String" (541 : Nat) ({ cls := "java/lang/StringLatin1", name := "equals", desc := "([B[B)Z" } : Jvm.MethodName)) ∈ lw_all := lw_g (lw_at lw_m10 25 rfl) rfl
theorem q2237 : (Jvm.Cond.castable "java/lang/String" "java/lang/Object") ∈ lw_tbl := lw_at lw_m10 44 rfl
theorem in_J16 : ∀ w ∈ wsJ160, w ∈ lw_all := lw_in wsJ160 [1040, 1042, 1044, 1046] (by decide +kernel) (by decide +kernel)

/-! java/lang/StringLatin1 -/
set_option maxRecDepth 100000
def RJ17 : String := "java/lang/StringLatin1"
abbrev cJ17_charAt : ByteArray := prog_39_method_2_code
def yJ17_charAt : MethodName := ⟨RJ17, "charAt", "([BI)C"⟩
def dkwJ17_charAt_0 : List UInt8 := [27, 42, 190, 184, 0, 9, 42, 27, 51, 17, 0, 255, 126, 146, 172]
abbrev dktJ17_charAt_0 : List UInt8 := dkwJ17_charAt_0 ++ []
theorem dksJ17_charAt_0 : cJ17_charAt.data.toList.drop 0 = dktJ17_charAt_0 := by decide +kernel
theorem dJ17_charAt_0 : decode cJ17_charAt 0 = .ok (.iload_n 1, 1) := dk_27 (dk_at dksJ17_charAt_0 0 rfl rfl)
theorem dJ17_charAt_1 : decode cJ17_charAt 1 = .ok (.aload_n 0, 1) := dk_42 (dk_at dksJ17_charAt_0 1 rfl rfl)
theorem dJ17_charAt_2 : decode cJ17_charAt 2 = .ok (.arraylength, 1) := dk_190 (dk_at dksJ17_charAt_0 2 rfl rfl)
theorem dJ17_charAt_3 : decode cJ17_charAt 3 = .ok (.invokestatic 9, 3) := dk_184 0 9 (dk_at dksJ17_charAt_0 3 rfl rfl)
theorem dJ17_charAt_6 : decode cJ17_charAt 6 = .ok (.aload_n 0, 1) := dk_42 (dk_at dksJ17_charAt_0 6 rfl rfl)
theorem dJ17_charAt_7 : decode cJ17_charAt 7 = .ok (.iload_n 1, 1) := dk_27 (dk_at dksJ17_charAt_0 7 rfl rfl)
theorem dJ17_charAt_8 : decode cJ17_charAt 8 = .ok (.baload, 1) := dk_51 (dk_at dksJ17_charAt_0 8 rfl rfl)
theorem dJ17_charAt_9 : decode cJ17_charAt 9 = .ok (.sipush 255, 3) := dk_17 0 255 (dk_at dksJ17_charAt_0 9 rfl rfl)
theorem dJ17_charAt_12 : decode cJ17_charAt 12 = .ok (.iand, 1) := dk_126 (dk_at dksJ17_charAt_0 12 rfl rfl)
theorem dJ17_charAt_13 : decode cJ17_charAt 13 = .ok (.i2c, 1) := dk_146 (dk_at dksJ17_charAt_0 13 rfl rfl)
theorem dJ17_charAt_14 : decode cJ17_charAt 14 = .ok (.ireturn, 1) := dk_172 (dk_at dksJ17_charAt_0 14 rfl rfl)
abbrev cJ17_inflate : ByteArray := prog_39_method_50_code
def yJ17_inflate : MethodName := ⟨RJ17, "inflate", "([BI[BII)V"⟩
def dkwJ17_inflate_0 : List UInt8 := [42, 27, 44, 29, 21, 4, 184, 0, 240, 177]
abbrev dktJ17_inflate_0 : List UInt8 := dkwJ17_inflate_0 ++ []
theorem dksJ17_inflate_0 : cJ17_inflate.data.toList.drop 0 = dktJ17_inflate_0 := by decide +kernel
theorem dJ17_inflate_0 : decode cJ17_inflate 0 = .ok (.aload_n 0, 1) := dk_42 (dk_at dksJ17_inflate_0 0 rfl rfl)
theorem dJ17_inflate_1 : decode cJ17_inflate 1 = .ok (.iload_n 1, 1) := dk_27 (dk_at dksJ17_inflate_0 1 rfl rfl)
theorem dJ17_inflate_2 : decode cJ17_inflate 2 = .ok (.aload_n 2, 1) := dk_44 (dk_at dksJ17_inflate_0 2 rfl rfl)
theorem dJ17_inflate_3 : decode cJ17_inflate 3 = .ok (.iload_n 3, 1) := dk_29 (dk_at dksJ17_inflate_0 3 rfl rfl)
theorem dJ17_inflate_4 : decode cJ17_inflate 4 = .ok (.iload 4, 2) := dk_21 4 (dk_at dksJ17_inflate_0 4 rfl rfl)
theorem dJ17_inflate_6 : decode cJ17_inflate 6 = .ok (.invokestatic 240, 3) := dk_184 0 240 (dk_at dksJ17_inflate_0 6 rfl rfl)
theorem dJ17_inflate_9 : decode cJ17_inflate 9 = .ok (.return_, 1) := dk_177 (dk_at dksJ17_inflate_0 9 rfl rfl)
abbrev cJ17_canEncode : ByteArray := prog_39_method_3_code
def yJ17_canEncode : MethodName := ⟨RJ17, "canEncode", "(C)Z"⟩
def dkwJ17_canEncode_0 : List UInt8 := [26, 17, 0, 255, 163, 0, 7, 4, 167, 0, 4, 3, 172]
abbrev dktJ17_canEncode_0 : List UInt8 := dkwJ17_canEncode_0 ++ []
theorem dksJ17_canEncode_0 : cJ17_canEncode.data.toList.drop 0 = dktJ17_canEncode_0 := by decide +kernel
theorem dJ17_canEncode_0 : decode cJ17_canEncode 0 = .ok (.iload_n 0, 1) := dk_26 (dk_at dksJ17_canEncode_0 0 rfl rfl)
theorem dJ17_canEncode_1 : decode cJ17_canEncode 1 = .ok (.sipush 255, 3) := dk_17 0 255 (dk_at dksJ17_canEncode_0 1 rfl rfl)
theorem dJ17_canEncode_4 : decode cJ17_canEncode 4 = .ok (.if_icmp .gt 7, 3) := dk_163 0 7 (dk_at dksJ17_canEncode_0 4 rfl rfl)
theorem dJ17_canEncode_7 : decode cJ17_canEncode 7 = .ok (.iconst 1, 1) := dk_4 (dk_at dksJ17_canEncode_0 7 rfl rfl)
theorem dJ17_canEncode_8 : decode cJ17_canEncode 8 = .ok (.goto 4, 3) := dk_167 0 4 (dk_at dksJ17_canEncode_0 8 rfl rfl)
theorem dJ17_canEncode_11 : decode cJ17_canEncode 11 = .ok (.iconst 0, 1) := dk_3 (dk_at dksJ17_canEncode_0 11 rfl rfl)
theorem dJ17_canEncode_12 : decode cJ17_canEncode 12 = .ok (.ireturn, 1) := dk_172 (dk_at dksJ17_canEncode_0 12 rfl rfl)
abbrev cJ17_equals : ByteArray := prog_39_method_13_code
def yJ17_equals : MethodName := ⟨RJ17, "equals", "([B[B)Z"⟩
def dkwJ17_equals_1 : List UInt8 := [3, 172, 132, 2, 1, 167, 255, 236, 4, 172, 3, 172]
abbrev dktJ17_equals_1 : List UInt8 := dkwJ17_equals_1 ++ []
def dkwJ17_equals_0 : List UInt8 := [42, 190, 43, 190, 160, 0, 30, 3, 61, 28, 42, 190, 162, 0, 20, 42, 28, 51, 43, 28, 51, 159, 0, 5]
abbrev dktJ17_equals_0 : List UInt8 := dkwJ17_equals_0 ++ dktJ17_equals_1
theorem dksJ17_equals_0 : cJ17_equals.data.toList.drop 0 = dktJ17_equals_0 := by decide +kernel
theorem dksJ17_equals_1 : cJ17_equals.data.toList.drop 24 = dktJ17_equals_1 := dk_seg dksJ17_equals_0 24 rfl rfl
theorem dJ17_equals_0 : decode cJ17_equals 0 = .ok (.aload_n 0, 1) := dk_42 (dk_at dksJ17_equals_0 0 rfl rfl)
theorem dJ17_equals_1 : decode cJ17_equals 1 = .ok (.arraylength, 1) := dk_190 (dk_at dksJ17_equals_0 1 rfl rfl)
theorem dJ17_equals_2 : decode cJ17_equals 2 = .ok (.aload_n 1, 1) := dk_43 (dk_at dksJ17_equals_0 2 rfl rfl)
theorem dJ17_equals_3 : decode cJ17_equals 3 = .ok (.arraylength, 1) := dk_190 (dk_at dksJ17_equals_0 3 rfl rfl)
theorem dJ17_equals_4 : decode cJ17_equals 4 = .ok (.if_icmp .ne 30, 3) := dk_160 0 30 (dk_at dksJ17_equals_0 4 rfl rfl)
theorem dJ17_equals_7 : decode cJ17_equals 7 = .ok (.iconst 0, 1) := dk_3 (dk_at dksJ17_equals_0 7 rfl rfl)
theorem dJ17_equals_8 : decode cJ17_equals 8 = .ok (.istore_n 2, 1) := dk_61 (dk_at dksJ17_equals_0 8 rfl rfl)
theorem dJ17_equals_9 : decode cJ17_equals 9 = .ok (.iload_n 2, 1) := dk_28 (dk_at dksJ17_equals_0 9 rfl rfl)
theorem dJ17_equals_10 : decode cJ17_equals 10 = .ok (.aload_n 0, 1) := dk_42 (dk_at dksJ17_equals_0 10 rfl rfl)
theorem dJ17_equals_11 : decode cJ17_equals 11 = .ok (.arraylength, 1) := dk_190 (dk_at dksJ17_equals_0 11 rfl rfl)
theorem dJ17_equals_12 : decode cJ17_equals 12 = .ok (.if_icmp .ge 20, 3) := dk_162 0 20 (dk_at dksJ17_equals_0 12 rfl rfl)
theorem dJ17_equals_15 : decode cJ17_equals 15 = .ok (.aload_n 0, 1) := dk_42 (dk_at dksJ17_equals_0 15 rfl rfl)
theorem dJ17_equals_16 : decode cJ17_equals 16 = .ok (.iload_n 2, 1) := dk_28 (dk_at dksJ17_equals_0 16 rfl rfl)
theorem dJ17_equals_17 : decode cJ17_equals 17 = .ok (.baload, 1) := dk_51 (dk_at dksJ17_equals_0 17 rfl rfl)
theorem dJ17_equals_18 : decode cJ17_equals 18 = .ok (.aload_n 1, 1) := dk_43 (dk_at dksJ17_equals_0 18 rfl rfl)
theorem dJ17_equals_19 : decode cJ17_equals 19 = .ok (.iload_n 2, 1) := dk_28 (dk_at dksJ17_equals_0 19 rfl rfl)
theorem dJ17_equals_20 : decode cJ17_equals 20 = .ok (.baload, 1) := dk_51 (dk_at dksJ17_equals_0 20 rfl rfl)
theorem dJ17_equals_21 : decode cJ17_equals 21 = .ok (.if_icmp .eq 5, 3) := dk_159 0 5 (dk_at dksJ17_equals_0 21 rfl rfl)
theorem dJ17_equals_24 : decode cJ17_equals 24 = .ok (.iconst 0, 1) := dk_3 (dk_at dksJ17_equals_1 0 rfl rfl)
theorem dJ17_equals_25 : decode cJ17_equals 25 = .ok (.ireturn, 1) := dk_172 (dk_at dksJ17_equals_1 1 rfl rfl)
theorem dJ17_equals_26 : decode cJ17_equals 26 = .ok (.iinc 2 1, 3) := dk_132 2 1 (dk_at dksJ17_equals_1 2 rfl rfl)
theorem dJ17_equals_29 : decode cJ17_equals 29 = .ok (.goto (-20), 3) := dk_167 255 236 (dk_at dksJ17_equals_1 5 rfl rfl)
theorem dJ17_equals_32 : decode cJ17_equals 32 = .ok (.iconst 1, 1) := dk_4 (dk_at dksJ17_equals_1 8 rfl rfl)
theorem dJ17_equals_33 : decode cJ17_equals 33 = .ok (.ireturn, 1) := dk_172 (dk_at dksJ17_equals_1 9 rfl rfl)
theorem dJ17_equals_34 : decode cJ17_equals 34 = .ok (.iconst 0, 1) := dk_3 (dk_at dksJ17_equals_1 10 rfl rfl)
theorem dJ17_equals_35 : decode cJ17_equals 35 = .ok (.ireturn, 1) := dk_172 (dk_at dksJ17_equals_1 11 rfl rfl)
theorem q64 : (Jvm.Cond.initialized "java/lang/StringLatin1") ∈ lw_all := lw_g (lw_at lw_m1 31 rfl) rfl
theorem q758 : (Jvm.Cond.static ({ cls := "java/lang/StringLatin1", name := "charAt", desc := "([BI)C" } : Jvm.MethodName)) ∈ lw_all := lw_g (lw_at lw_m4 5 rfl) rfl
theorem q759 : (Jvm.Cond.code ({ cls := "java/lang/StringLatin1", name := "charAt", desc := "([BI)C" } : Jvm.MethodName) prog_39_method_2_code (2 : Nat) (Option.some Jvm.ClassFile.FieldType.char)) ∈ lw_all := lw_g (lw_at lw_m4 6 rfl) rfl
theorem q760 : (Jvm.Cond.methodLink "java/lang/StringLatin1" (9 : Nat) ({ cls := "java/lang/String", name := "checkIndex", desc := "(II)V" } : Jvm.MethodName)) ∈ lw_all := lw_g (lw_at lw_m4 7 rfl) rfl
theorem q927 : (Jvm.Cond.static ({ cls := "java/lang/StringLatin1", name := "inflate", desc := "([BI[BII)V" } : Jvm.MethodName)) ∈ lw_all := lw_g (lw_at lw_m4 174 rfl) rfl
theorem q928 : (Jvm.Cond.code ({ cls := "java/lang/StringLatin1", name := "inflate", desc := "([BI[BII)V" } : Jvm.MethodName) prog_39_method_50_code (5 : Nat) (Option.none : Option Jvm.ClassFile.FieldType)) ∈ lw_all := lw_g (lw_at lw_m4 175 rfl) rfl
theorem q929 : (Jvm.Cond.methodLink "java/lang/StringLatin1" (240 : Nat) ({ cls := "java/lang/StringUTF16", name := "inflate", desc := "([BI[BII)V" } : Jvm.MethodName)) ∈ lw_all := lw_g (lw_at lw_m4 176 rfl) rfl
theorem q1121 : (Jvm.Cond.static ({ cls := "java/lang/StringLatin1", name := "canEncode", desc := "(C)Z" } : Jvm.MethodName)) ∈ lw_all := lw_g (lw_at lw_m5 128 rfl) rfl
theorem q1122 : (Jvm.Cond.code ({ cls := "java/lang/StringLatin1", name := "canEncode", desc := "(C)Z" } : Jvm.MethodName) prog_39_method_3_code (1 : Nat) (Option.some Jvm.ClassFile.FieldType.boolean)) ∈ lw_all := lw_g (lw_at lw_m5 129 rfl) rfl
theorem q2219 : (Jvm.Cond.static ({ cls := "java/lang/StringLatin1", name := "equals", desc := "([B[B)Z" } : Jvm.MethodName)) ∈ lw_all := lw_g (lw_at lw_m10 26 rfl) rfl
theorem q2220 : (Jvm.Cond.code ({ cls := "java/lang/StringLatin1", name := "equals", desc := "([B[B)Z" } : Jvm.MethodName) prog_39_method_13_code (3 : Nat) (Option.some Jvm.ClassFile.FieldType.boolean)) ∈ lw_all := lw_g (lw_at lw_m10 27 rfl) rfl

/-! jdk/internal/util/Preconditions -/
set_option maxRecDepth 100000
def RJ18 : String := "jdk/internal/util/Preconditions"
abbrev cJ18_checkIndex : ByteArray := prog_70_method_11_code
def yJ18_checkIndex : MethodName := ⟨RJ18, "checkIndex", "(IILjava/util/function/BiFunction;)I"⟩
def dkwJ18_checkIndex_0 : List UInt8 := [26, 155, 0, 8, 26, 27, 161, 0, 10, 44, 26, 27, 184, 0, 95, 191, 26, 172]
abbrev dktJ18_checkIndex_0 : List UInt8 := dkwJ18_checkIndex_0 ++ []
theorem dksJ18_checkIndex_0 : cJ18_checkIndex.data.toList.drop 0 = dktJ18_checkIndex_0 := by decide +kernel
theorem dJ18_checkIndex_0 : decode cJ18_checkIndex 0 = .ok (.iload_n 0, 1) := dk_26 (dk_at dksJ18_checkIndex_0 0 rfl rfl)
theorem dJ18_checkIndex_1 : decode cJ18_checkIndex 1 = .ok (.ifCond .lt 8, 3) := dk_155 0 8 (dk_at dksJ18_checkIndex_0 1 rfl rfl)
theorem dJ18_checkIndex_4 : decode cJ18_checkIndex 4 = .ok (.iload_n 0, 1) := dk_26 (dk_at dksJ18_checkIndex_0 4 rfl rfl)
theorem dJ18_checkIndex_5 : decode cJ18_checkIndex 5 = .ok (.iload_n 1, 1) := dk_27 (dk_at dksJ18_checkIndex_0 5 rfl rfl)
theorem dJ18_checkIndex_6 : decode cJ18_checkIndex 6 = .ok (.if_icmp .lt 10, 3) := dk_161 0 10 (dk_at dksJ18_checkIndex_0 6 rfl rfl)
theorem dJ18_checkIndex_9 : decode cJ18_checkIndex 9 = .ok (.aload_n 2, 1) := dk_44 (dk_at dksJ18_checkIndex_0 9 rfl rfl)
theorem dJ18_checkIndex_10 : decode cJ18_checkIndex 10 = .ok (.iload_n 0, 1) := dk_26 (dk_at dksJ18_checkIndex_0 10 rfl rfl)
theorem dJ18_checkIndex_11 : decode cJ18_checkIndex 11 = .ok (.iload_n 1, 1) := dk_27 (dk_at dksJ18_checkIndex_0 11 rfl rfl)
theorem dJ18_checkIndex_12 : decode cJ18_checkIndex 12 = .ok (.invokestatic 95, 3) := dk_184 0 95 (dk_at dksJ18_checkIndex_0 12 rfl rfl)
theorem dJ18_checkIndex_15 : decode cJ18_checkIndex 15 = .ok (.athrow, 1) := dk_191 (dk_at dksJ18_checkIndex_0 15 rfl rfl)
theorem dJ18_checkIndex_16 : decode cJ18_checkIndex 16 = .ok (.iload_n 0, 1) := dk_26 (dk_at dksJ18_checkIndex_0 16 rfl rfl)
theorem dJ18_checkIndex_17 : decode cJ18_checkIndex 17 = .ok (.ireturn, 1) := dk_172 (dk_at dksJ18_checkIndex_0 17 rfl rfl)
abbrev cJ18_checkFromToIndex : ByteArray := prog_70_method_12_code
def yJ18_checkFromToIndex : MethodName := ⟨RJ18, "checkFromToIndex", "(IIILjava/util/function/BiFunction;)I"⟩
def dkwJ18_checkFromToIndex_0 : List UInt8 := [26, 155, 0, 13, 26, 27, 163, 0, 8, 27, 28, 164, 0, 11, 45, 26, 27, 28, 184, 0, 99, 191, 26, 172]
abbrev dktJ18_checkFromToIndex_0 : List UInt8 := dkwJ18_checkFromToIndex_0 ++ []
theorem dksJ18_checkFromToIndex_0 : cJ18_checkFromToIndex.data.toList.drop 0 = dktJ18_checkFromToIndex_0 := by decide +kernel
theorem dJ18_checkFromToIndex_0 : decode cJ18_checkFromToIndex 0 = .ok (.iload_n 0, 1) := dk_26 (dk_at dksJ18_checkFromToIndex_0 0 rfl rfl)
theorem dJ18_checkFromToIndex_1 : decode cJ18_checkFromToIndex 1 = .ok (.ifCond .lt 13, 3) := dk_155 0 13 (dk_at dksJ18_checkFromToIndex_0 1 rfl rfl)
theorem dJ18_checkFromToIndex_4 : decode cJ18_checkFromToIndex 4 = .ok (.iload_n 0, 1) := dk_26 (dk_at dksJ18_checkFromToIndex_0 4 rfl rfl)
theorem dJ18_checkFromToIndex_5 : decode cJ18_checkFromToIndex 5 = .ok (.iload_n 1, 1) := dk_27 (dk_at dksJ18_checkFromToIndex_0 5 rfl rfl)
theorem dJ18_checkFromToIndex_6 : decode cJ18_checkFromToIndex 6 = .ok (.if_icmp .gt 8, 3) := dk_163 0 8 (dk_at dksJ18_checkFromToIndex_0 6 rfl rfl)
theorem dJ18_checkFromToIndex_9 : decode cJ18_checkFromToIndex 9 = .ok (.iload_n 1, 1) := dk_27 (dk_at dksJ18_checkFromToIndex_0 9 rfl rfl)
theorem dJ18_checkFromToIndex_10 : decode cJ18_checkFromToIndex 10 = .ok (.iload_n 2, 1) := dk_28 (dk_at dksJ18_checkFromToIndex_0 10 rfl rfl)
theorem dJ18_checkFromToIndex_11 : decode cJ18_checkFromToIndex 11 = .ok (.if_icmp .le 11, 3) := dk_164 0 11 (dk_at dksJ18_checkFromToIndex_0 11 rfl rfl)
theorem dJ18_checkFromToIndex_14 : decode cJ18_checkFromToIndex 14 = .ok (.aload_n 3, 1) := dk_45 (dk_at dksJ18_checkFromToIndex_0 14 rfl rfl)
theorem dJ18_checkFromToIndex_15 : decode cJ18_checkFromToIndex 15 = .ok (.iload_n 0, 1) := dk_26 (dk_at dksJ18_checkFromToIndex_0 15 rfl rfl)
theorem dJ18_checkFromToIndex_16 : decode cJ18_checkFromToIndex 16 = .ok (.iload_n 1, 1) := dk_27 (dk_at dksJ18_checkFromToIndex_0 16 rfl rfl)
theorem dJ18_checkFromToIndex_17 : decode cJ18_checkFromToIndex 17 = .ok (.iload_n 2, 1) := dk_28 (dk_at dksJ18_checkFromToIndex_0 17 rfl rfl)
theorem dJ18_checkFromToIndex_18 : decode cJ18_checkFromToIndex 18 = .ok (.invokestatic 99, 3) := dk_184 0 99 (dk_at dksJ18_checkFromToIndex_0 18 rfl rfl)
theorem dJ18_checkFromToIndex_21 : decode cJ18_checkFromToIndex 21 = .ok (.athrow, 1) := dk_191 (dk_at dksJ18_checkFromToIndex_0 21 rfl rfl)
theorem dJ18_checkFromToIndex_22 : decode cJ18_checkFromToIndex 22 = .ok (.iload_n 0, 1) := dk_26 (dk_at dksJ18_checkFromToIndex_0 22 rfl rfl)
theorem dJ18_checkFromToIndex_23 : decode cJ18_checkFromToIndex 23 = .ok (.ireturn, 1) := dk_172 (dk_at dksJ18_checkFromToIndex_0 23 rfl rfl)
abbrev cJ18_checkFromIndexSize : ByteArray := prog_70_method_13_code
def yJ18_checkFromIndexSize : MethodName := ⟨RJ18, "checkFromIndexSize", "(IIILjava/util/function/BiFunction;)I"⟩
def dkwJ18_checkFromIndexSize_1 : List UInt8 := [172]
abbrev dktJ18_checkFromIndexSize_1 : List UInt8 := dkwJ18_checkFromIndexSize_1 ++ []
def dkwJ18_checkFromIndexSize_0 : List UInt8 := [28, 26, 128, 27, 128, 155, 0, 10, 27, 28, 26, 100, 164, 0, 11, 45, 26, 27, 28, 184, 0, 103, 191, 26]
abbrev dktJ18_checkFromIndexSize_0 : List UInt8 := dkwJ18_checkFromIndexSize_0 ++ dktJ18_checkFromIndexSize_1
theorem dksJ18_checkFromIndexSize_0 : cJ18_checkFromIndexSize.data.toList.drop 0 = dktJ18_checkFromIndexSize_0 := by decide +kernel
theorem dksJ18_checkFromIndexSize_1 : cJ18_checkFromIndexSize.data.toList.drop 24 = dktJ18_checkFromIndexSize_1 := dk_seg dksJ18_checkFromIndexSize_0 24 rfl rfl
theorem dJ18_checkFromIndexSize_0 : decode cJ18_checkFromIndexSize 0 = .ok (.iload_n 2, 1) := dk_28 (dk_at dksJ18_checkFromIndexSize_0 0 rfl rfl)
theorem dJ18_checkFromIndexSize_1 : decode cJ18_checkFromIndexSize 1 = .ok (.iload_n 0, 1) := dk_26 (dk_at dksJ18_checkFromIndexSize_0 1 rfl rfl)
theorem dJ18_checkFromIndexSize_2 : decode cJ18_checkFromIndexSize 2 = .ok (.ior, 1) := dk_128 (dk_at dksJ18_checkFromIndexSize_0 2 rfl rfl)
theorem dJ18_checkFromIndexSize_3 : decode cJ18_checkFromIndexSize 3 = .ok (.iload_n 1, 1) := dk_27 (dk_at dksJ18_checkFromIndexSize_0 3 rfl rfl)
theorem dJ18_checkFromIndexSize_4 : decode cJ18_checkFromIndexSize 4 = .ok (.ior, 1) := dk_128 (dk_at dksJ18_checkFromIndexSize_0 4 rfl rfl)
theorem dJ18_checkFromIndexSize_5 : decode cJ18_checkFromIndexSize 5 = .ok (.ifCond .lt 10, 3) := dk_155 0 10 (dk_at dksJ18_checkFromIndexSize_0 5 rfl rfl)
theorem dJ18_checkFromIndexSize_8 : decode cJ18_checkFromIndexSize 8 = .ok (.iload_n 1, 1) := dk_27 (dk_at dksJ18_checkFromIndexSize_0 8 rfl rfl)
theorem dJ18_checkFromIndexSize_9 : decode cJ18_checkFromIndexSize 9 = .ok (.iload_n 2, 1) := dk_28 (dk_at dksJ18_checkFromIndexSize_0 9 rfl rfl)
theorem dJ18_checkFromIndexSize_10 : decode cJ18_checkFromIndexSize 10 = .ok (.iload_n 0, 1) := dk_26 (dk_at dksJ18_checkFromIndexSize_0 10 rfl rfl)
theorem dJ18_checkFromIndexSize_11 : decode cJ18_checkFromIndexSize 11 = .ok (.isub, 1) := dk_100 (dk_at dksJ18_checkFromIndexSize_0 11 rfl rfl)
theorem dJ18_checkFromIndexSize_12 : decode cJ18_checkFromIndexSize 12 = .ok (.if_icmp .le 11, 3) := dk_164 0 11 (dk_at dksJ18_checkFromIndexSize_0 12 rfl rfl)
theorem dJ18_checkFromIndexSize_15 : decode cJ18_checkFromIndexSize 15 = .ok (.aload_n 3, 1) := dk_45 (dk_at dksJ18_checkFromIndexSize_0 15 rfl rfl)
theorem dJ18_checkFromIndexSize_16 : decode cJ18_checkFromIndexSize 16 = .ok (.iload_n 0, 1) := dk_26 (dk_at dksJ18_checkFromIndexSize_0 16 rfl rfl)
theorem dJ18_checkFromIndexSize_17 : decode cJ18_checkFromIndexSize 17 = .ok (.iload_n 1, 1) := dk_27 (dk_at dksJ18_checkFromIndexSize_0 17 rfl rfl)
theorem dJ18_checkFromIndexSize_18 : decode cJ18_checkFromIndexSize 18 = .ok (.iload_n 2, 1) := dk_28 (dk_at dksJ18_checkFromIndexSize_0 18 rfl rfl)
theorem dJ18_checkFromIndexSize_19 : decode cJ18_checkFromIndexSize 19 = .ok (.invokestatic 103, 3) := dk_184 0 103 (dk_at dksJ18_checkFromIndexSize_0 19 rfl rfl)
theorem dJ18_checkFromIndexSize_22 : decode cJ18_checkFromIndexSize 22 = .ok (.athrow, 1) := dk_191 (dk_at dksJ18_checkFromIndexSize_0 22 rfl rfl)
theorem dJ18_checkFromIndexSize_23 : decode cJ18_checkFromIndexSize 23 = .ok (.iload_n 0, 1) := dk_26 (dk_at dksJ18_checkFromIndexSize_0 23 rfl rfl)
theorem dJ18_checkFromIndexSize_24 : decode cJ18_checkFromIndexSize 24 = .ok (.ireturn, 1) := dk_172 (dk_at dksJ18_checkFromIndexSize_1 0 rfl rfl)
theorem q65 : (Jvm.Cond.initialized "jdk/internal/util/Preconditions") ∈ lw_all := lw_g (lw_at lw_m1 32 rfl) rfl
theorem q764 : (Jvm.Cond.laysStatic "jdk/internal/util/Preconditions" "SIOOBE_FORMATTER" "Ljava/util/function/BiFunction;") ∈ lw_tbl := lw_at lw_m4 11 rfl
theorem q766 : (Jvm.Cond.static ({ cls := "jdk/internal/util/Preconditions", name := "checkIndex", desc := "(IILjava/util/function/BiFunction;)I" } : Jvm.MethodName)) ∈ lw_all := lw_g (lw_at lw_m4 13 rfl) rfl
theorem q767 : (Jvm.Cond.code ({ cls := "jdk/internal/util/Preconditions", name := "checkIndex", desc := "(IILjava/util/function/BiFunction;)I" } : Jvm.MethodName) prog_70_method_11_code (3 : Nat) (Option.some Jvm.ClassFile.FieldType.int)) ∈ lw_all := lw_g (lw_at lw_m4 14 rfl) rfl
theorem q907 : (Jvm.Cond.static ({ cls := "jdk/internal/util/Preconditions", name := "checkFromToIndex", desc := "(IIILjava/util/function/BiFunction;)I" } : Jvm.MethodName)) ∈ lw_all := lw_g (lw_at lw_m4 154 rfl) rfl
theorem q908 : (Jvm.Cond.code ({ cls := "jdk/internal/util/Preconditions", name := "checkFromToIndex", desc := "(IIILjava/util/function/BiFunction;)I" } : Jvm.MethodName) prog_70_method_12_code (4 : Nat) (Option.some Jvm.ClassFile.FieldType.int)) ∈ lw_all := lw_g (lw_at lw_m4 155 rfl) rfl
theorem q939 : (Jvm.Cond.static ({ cls := "jdk/internal/util/Preconditions", name := "checkFromIndexSize", desc := "(IIILjava/util/function/BiFunction;)I" } : Jvm.MethodName)) ∈ lw_all := lw_g (lw_at lw_m4 186 rfl) rfl
theorem q940 : (Jvm.Cond.code ({ cls := "jdk/internal/util/Preconditions", name := "checkFromIndexSize", desc := "(IIILjava/util/function/BiFunction;)I" } : Jvm.MethodName) prog_70_method_13_code (4 : Nat) (Option.some Jvm.ClassFile.FieldType.int)) ∈ lw_all := lw_g (lw_at lw_m4 187 rfl) rfl

/-! java/lang/StringUTF16 -/
set_option maxRecDepth 100000
def RJ19 : String := "java/lang/StringUTF16"
abbrev cJ19_charAt : ByteArray := prog_40_method_83_code
def yJ19_charAt : MethodName := ⟨RJ19, "charAt", "([BI)C"⟩
def dkwJ19_charAt_0 : List UInt8 := [27, 42, 184, 0, 67, 42, 27, 184, 0, 71, 172]
abbrev dktJ19_charAt_0 : List UInt8 := dkwJ19_charAt_0 ++ []
theorem dksJ19_charAt_0 : cJ19_charAt.data.toList.drop 0 = dktJ19_charAt_0 := by decide +kernel
theorem dJ19_charAt_0 : decode cJ19_charAt 0 = .ok (.iload_n 1, 1) := dk_27 (dk_at dksJ19_charAt_0 0 rfl rfl)
theorem dJ19_charAt_1 : decode cJ19_charAt 1 = .ok (.aload_n 0, 1) := dk_42 (dk_at dksJ19_charAt_0 1 rfl rfl)
theorem dJ19_charAt_2 : decode cJ19_charAt 2 = .ok (.invokestatic 67, 3) := dk_184 0 67 (dk_at dksJ19_charAt_0 2 rfl rfl)
theorem dJ19_charAt_5 : decode cJ19_charAt 5 = .ok (.aload_n 0, 1) := dk_42 (dk_at dksJ19_charAt_0 5 rfl rfl)
theorem dJ19_charAt_6 : decode cJ19_charAt 6 = .ok (.iload_n 1, 1) := dk_27 (dk_at dksJ19_charAt_0 6 rfl rfl)
theorem dJ19_charAt_7 : decode cJ19_charAt 7 = .ok (.invokestatic 71, 3) := dk_184 0 71 (dk_at dksJ19_charAt_0 7 rfl rfl)
theorem dJ19_charAt_10 : decode cJ19_charAt 10 = .ok (.ireturn, 1) := dk_172 (dk_at dksJ19_charAt_0 10 rfl rfl)
abbrev cJ19_checkIndex : ByteArray := prog_40_method_91_code
def yJ19_checkIndex : MethodName := ⟨RJ19, "checkIndex", "(I[B)V"⟩
def dkwJ19_checkIndex_0 : List UInt8 := [26, 43, 184, 0, 48, 184, 1, 158, 177]
abbrev dktJ19_checkIndex_0 : List UInt8 := dkwJ19_checkIndex_0 ++ []
theorem dksJ19_checkIndex_0 : cJ19_checkIndex.data.toList.drop 0 = dktJ19_checkIndex_0 := by decide +kernel
theorem dJ19_checkIndex_0 : decode cJ19_checkIndex 0 = .ok (.iload_n 0, 1) := dk_26 (dk_at dksJ19_checkIndex_0 0 rfl rfl)
theorem dJ19_checkIndex_1 : decode cJ19_checkIndex 1 = .ok (.aload_n 1, 1) := dk_43 (dk_at dksJ19_checkIndex_0 1 rfl rfl)
theorem dJ19_checkIndex_2 : decode cJ19_checkIndex 2 = .ok (.invokestatic 48, 3) := dk_184 0 48 (dk_at dksJ19_checkIndex_0 2 rfl rfl)
theorem dJ19_checkIndex_5 : decode cJ19_checkIndex 5 = .ok (.invokestatic 414, 3) := dk_184 1 158 (dk_at dksJ19_checkIndex_0 5 rfl rfl)
theorem dJ19_checkIndex_8 : decode cJ19_checkIndex 8 = .ok (.return_, 1) := dk_177 (dk_at dksJ19_checkIndex_0 8 rfl rfl)
abbrev cJ19_length : ByteArray := prog_40_method_6_code
def yJ19_length : MethodName := ⟨RJ19, "length", "([B)I"⟩
def dkwJ19_length_0 : List UInt8 := [42, 190, 4, 122, 172]
abbrev dktJ19_length_0 : List UInt8 := dkwJ19_length_0 ++ []
theorem dksJ19_length_0 : cJ19_length.data.toList.drop 0 = dktJ19_length_0 := by decide +kernel
theorem dJ19_length_0 : decode cJ19_length 0 = .ok (.aload_n 0, 1) := dk_42 (dk_at dksJ19_length_0 0 rfl rfl)
theorem dJ19_length_1 : decode cJ19_length 1 = .ok (.arraylength, 1) := dk_190 (dk_at dksJ19_length_0 1 rfl rfl)
theorem dJ19_length_2 : decode cJ19_length 2 = .ok (.iconst 1, 1) := dk_4 (dk_at dksJ19_length_0 2 rfl rfl)
theorem dJ19_length_3 : decode cJ19_length 3 = .ok (.ishr, 1) := dk_122 (dk_at dksJ19_length_0 3 rfl rfl)
theorem dJ19_length_4 : decode cJ19_length 4 = .ok (.ireturn, 1) := dk_172 (dk_at dksJ19_length_0 4 rfl rfl)
abbrev cJ19_getChar : ByteArray := prog_40_method_5_code
def yJ19_getChar : MethodName := ⟨RJ19, "getChar", "([BI)C"⟩
def dkwJ19_getChar_2 : List UInt8 := [51, 17, 0, 255, 126, 178, 0, 63, 120, 128, 146, 172]
abbrev dktJ19_getChar_2 : List UInt8 := dkwJ19_getChar_2 ++ []
def dkwJ19_getChar_1 : List UInt8 := [183, 0, 56, 191, 27, 4, 120, 60, 42, 27, 132, 1, 1, 51, 17, 0, 255, 126, 178, 0, 59, 120, 42, 27]
abbrev dktJ19_getChar_1 : List UInt8 := dkwJ19_getChar_1 ++ dktJ19_getChar_2
def dkwJ19_getChar_0 : List UInt8 := [178, 0, 44, 154, 0, 25, 27, 155, 0, 11, 27, 42, 184, 0, 48, 161, 0, 13, 187, 0, 52, 89, 18, 54]
abbrev dktJ19_getChar_0 : List UInt8 := dkwJ19_getChar_0 ++ dktJ19_getChar_1
theorem dksJ19_getChar_0 : cJ19_getChar.data.toList.drop 0 = dktJ19_getChar_0 := by decide +kernel
theorem dksJ19_getChar_1 : cJ19_getChar.data.toList.drop 24 = dktJ19_getChar_1 := dk_seg dksJ19_getChar_0 24 rfl rfl
theorem dksJ19_getChar_2 : cJ19_getChar.data.toList.drop 48 = dktJ19_getChar_2 := dk_seg dksJ19_getChar_1 24 rfl rfl
theorem dJ19_getChar_0 : decode cJ19_getChar 0 = .ok (.getstatic 44, 3) := dk_178 0 44 (dk_at dksJ19_getChar_0 0 rfl rfl)
theorem dJ19_getChar_3 : decode cJ19_getChar 3 = .ok (.ifCond .ne 25, 3) := dk_154 0 25 (dk_at dksJ19_getChar_0 3 rfl rfl)
theorem dJ19_getChar_6 : decode cJ19_getChar 6 = .ok (.iload_n 1, 1) := dk_27 (dk_at dksJ19_getChar_0 6 rfl rfl)
theorem dJ19_getChar_7 : decode cJ19_getChar 7 = .ok (.ifCond .lt 11, 3) := dk_155 0 11 (dk_at dksJ19_getChar_0 7 rfl rfl)
theorem dJ19_getChar_10 : decode cJ19_getChar 10 = .ok (.iload_n 1, 1) := dk_27 (dk_at dksJ19_getChar_0 10 rfl rfl)
theorem dJ19_getChar_11 : decode cJ19_getChar 11 = .ok (.aload_n 0, 1) := dk_42 (dk_at dksJ19_getChar_0 11 rfl rfl)
theorem dJ19_getChar_12 : decode cJ19_getChar 12 = .ok (.invokestatic 48, 3) := dk_184 0 48 (dk_at dksJ19_getChar_0 12 rfl rfl)
theorem dJ19_getChar_15 : decode cJ19_getChar 15 = .ok (.if_icmp .lt 13, 3) := dk_161 0 13 (dk_at dksJ19_getChar_0 15 rfl rfl)
theorem dJ19_getChar_18 : decode cJ19_getChar 18 = .ok (.new 52, 3) := dk_187 0 52 (dk_at dksJ19_getChar_0 18 rfl rfl)
theorem dJ19_getChar_21 : decode cJ19_getChar 21 = .ok (.dup, 1) := dk_89 (dk_at dksJ19_getChar_0 21 rfl rfl)
theorem dJ19_getChar_22 : decode cJ19_getChar 22 = .ok (.ldc 54, 2) := dk_18 54 (dk_at dksJ19_getChar_0 22 rfl rfl)
theorem dJ19_getChar_24 : decode cJ19_getChar 24 = .ok (.invokespecial 56, 3) := dk_183 0 56 (dk_at dksJ19_getChar_1 0 rfl rfl)
theorem dJ19_getChar_27 : decode cJ19_getChar 27 = .ok (.athrow, 1) := dk_191 (dk_at dksJ19_getChar_1 3 rfl rfl)
theorem dJ19_getChar_28 : decode cJ19_getChar 28 = .ok (.iload_n 1, 1) := dk_27 (dk_at dksJ19_getChar_1 4 rfl rfl)
theorem dJ19_getChar_29 : decode cJ19_getChar 29 = .ok (.iconst 1, 1) := dk_4 (dk_at dksJ19_getChar_1 5 rfl rfl)
theorem dJ19_getChar_30 : decode cJ19_getChar 30 = .ok (.ishl, 1) := dk_120 (dk_at dksJ19_getChar_1 6 rfl rfl)
theorem dJ19_getChar_31 : decode cJ19_getChar 31 = .ok (.istore_n 1, 1) := dk_60 (dk_at dksJ19_getChar_1 7 rfl rfl)
theorem dJ19_getChar_32 : decode cJ19_getChar 32 = .ok (.aload_n 0, 1) := dk_42 (dk_at dksJ19_getChar_1 8 rfl rfl)
theorem dJ19_getChar_33 : decode cJ19_getChar 33 = .ok (.iload_n 1, 1) := dk_27 (dk_at dksJ19_getChar_1 9 rfl rfl)
theorem dJ19_getChar_34 : decode cJ19_getChar 34 = .ok (.iinc 1 1, 3) := dk_132 1 1 (dk_at dksJ19_getChar_1 10 rfl rfl)
theorem dJ19_getChar_37 : decode cJ19_getChar 37 = .ok (.baload, 1) := dk_51 (dk_at dksJ19_getChar_1 13 rfl rfl)
theorem dJ19_getChar_38 : decode cJ19_getChar 38 = .ok (.sipush 255, 3) := dk_17 0 255 (dk_at dksJ19_getChar_1 14 rfl rfl)
theorem dJ19_getChar_41 : decode cJ19_getChar 41 = .ok (.iand, 1) := dk_126 (dk_at dksJ19_getChar_1 17 rfl rfl)
theorem dJ19_getChar_42 : decode cJ19_getChar 42 = .ok (.getstatic 59, 3) := dk_178 0 59 (dk_at dksJ19_getChar_1 18 rfl rfl)
theorem dJ19_getChar_45 : decode cJ19_getChar 45 = .ok (.ishl, 1) := dk_120 (dk_at dksJ19_getChar_1 21 rfl rfl)
theorem dJ19_getChar_46 : decode cJ19_getChar 46 = .ok (.aload_n 0, 1) := dk_42 (dk_at dksJ19_getChar_1 22 rfl rfl)
theorem dJ19_getChar_47 : decode cJ19_getChar 47 = .ok (.iload_n 1, 1) := dk_27 (dk_at dksJ19_getChar_1 23 rfl rfl)
theorem dJ19_getChar_48 : decode cJ19_getChar 48 = .ok (.baload, 1) := dk_51 (dk_at dksJ19_getChar_2 0 rfl rfl)
theorem dJ19_getChar_49 : decode cJ19_getChar 49 = .ok (.sipush 255, 3) := dk_17 0 255 (dk_at dksJ19_getChar_2 1 rfl rfl)
theorem dJ19_getChar_52 : decode cJ19_getChar 52 = .ok (.iand, 1) := dk_126 (dk_at dksJ19_getChar_2 4 rfl rfl)
theorem dJ19_getChar_53 : decode cJ19_getChar 53 = .ok (.getstatic 63, 3) := dk_178 0 63 (dk_at dksJ19_getChar_2 5 rfl rfl)
theorem dJ19_getChar_56 : decode cJ19_getChar 56 = .ok (.ishl, 1) := dk_120 (dk_at dksJ19_getChar_2 8 rfl rfl)
theorem dJ19_getChar_57 : decode cJ19_getChar 57 = .ok (.ior, 1) := dk_128 (dk_at dksJ19_getChar_2 9 rfl rfl)
theorem dJ19_getChar_58 : decode cJ19_getChar 58 = .ok (.i2c, 1) := dk_146 (dk_at dksJ19_getChar_2 10 rfl rfl)
theorem dJ19_getChar_59 : decode cJ19_getChar 59 = .ok (.ireturn, 1) := dk_172 (dk_at dksJ19_getChar_2 11 rfl rfl)
abbrev cJ19_newBytesFor : ByteArray := prog_40_method_2_code
def yJ19_newBytesFor : MethodName := ⟨RJ19, "newBytesFor", "(I)[B"⟩
def dkwJ19_newBytesFor_0 : List UInt8 := [26, 184, 0, 11, 188, 8, 176]
abbrev dktJ19_newBytesFor_0 : List UInt8 := dkwJ19_newBytesFor_0 ++ []
theorem dksJ19_newBytesFor_0 : cJ19_newBytesFor.data.toList.drop 0 = dktJ19_newBytesFor_0 := by decide +kernel
theorem dJ19_newBytesFor_0 : decode cJ19_newBytesFor 0 = .ok (.iload_n 0, 1) := dk_26 (dk_at dksJ19_newBytesFor_0 0 rfl rfl)
theorem dJ19_newBytesFor_1 : decode cJ19_newBytesFor 1 = .ok (.invokestatic 11, 3) := dk_184 0 11 (dk_at dksJ19_newBytesFor_0 1 rfl rfl)
theorem dJ19_newBytesFor_4 : decode cJ19_newBytesFor 4 = .ok (.newarray .byte, 2) := dk_188_8 (dk_at dksJ19_newBytesFor_0 4 rfl rfl)
theorem dJ19_newBytesFor_6 : decode cJ19_newBytesFor 6 = .ok (.areturn, 1) := dk_176 (dk_at dksJ19_newBytesFor_0 6 rfl rfl)
abbrev cJ19_newBytesLength : ByteArray := prog_40_method_3_code
def yJ19_newBytesLength : MethodName := ⟨RJ19, "newBytesLength", "(I)I"⟩
def dkwJ19_newBytesLength_2 : List UInt8 := [182, 0, 32, 182, 0, 37, 183, 0, 41, 191, 26, 4, 120, 172]
abbrev dktJ19_newBytesLength_2 : List UInt8 := dkwJ19_newBytesLength_2 ++ []
def dkwJ19_newBytesLength_1 : List UInt8 := [187, 0, 23, 89, 183, 0, 25, 18, 26, 182, 0, 28, 26, 182, 0, 32, 18, 35, 182, 0, 28, 18, 20]
abbrev dktJ19_newBytesLength_1 : List UInt8 := dkwJ19_newBytesLength_1 ++ dktJ19_newBytesLength_2
def dkwJ19_newBytesLength_0 : List UInt8 := [26, 156, 0, 11, 187, 0, 17, 89, 183, 0, 19, 191, 26, 18, 20, 161, 0, 40, 187, 0, 21, 89]
abbrev dktJ19_newBytesLength_0 : List UInt8 := dkwJ19_newBytesLength_0 ++ dktJ19_newBytesLength_1
theorem dksJ19_newBytesLength_0 : cJ19_newBytesLength.data.toList.drop 0 = dktJ19_newBytesLength_0 := by decide +kernel
theorem dksJ19_newBytesLength_1 : cJ19_newBytesLength.data.toList.drop 22 = dktJ19_newBytesLength_1 := dk_seg dksJ19_newBytesLength_0 22 rfl rfl
theorem dksJ19_newBytesLength_2 : cJ19_newBytesLength.data.toList.drop 45 = dktJ19_newBytesLength_2 := dk_seg dksJ19_newBytesLength_1 23 rfl rfl
theorem dJ19_newBytesLength_0 : decode cJ19_newBytesLength 0 = .ok (.iload_n 0, 1) := dk_26 (dk_at dksJ19_newBytesLength_0 0 rfl rfl)
theorem dJ19_newBytesLength_1 : decode cJ19_newBytesLength 1 = .ok (.ifCond .ge 11, 3) := dk_156 0 11 (dk_at dksJ19_newBytesLength_0 1 rfl rfl)
theorem dJ19_newBytesLength_4 : decode cJ19_newBytesLength 4 = .ok (.new 17, 3) := dk_187 0 17 (dk_at dksJ19_newBytesLength_0 4 rfl rfl)
theorem dJ19_newBytesLength_7 : decode cJ19_newBytesLength 7 = .ok (.dup, 1) := dk_89 (dk_at dksJ19_newBytesLength_0 7 rfl rfl)
theorem dJ19_newBytesLength_8 : decode cJ19_newBytesLength 8 = .ok (.invokespecial 19, 3) := dk_183 0 19 (dk_at dksJ19_newBytesLength_0 8 rfl rfl)
theorem dJ19_newBytesLength_11 : decode cJ19_newBytesLength 11 = .ok (.athrow, 1) := dk_191 (dk_at dksJ19_newBytesLength_0 11 rfl rfl)
theorem dJ19_newBytesLength_12 : decode cJ19_newBytesLength 12 = .ok (.iload_n 0, 1) := dk_26 (dk_at dksJ19_newBytesLength_0 12 rfl rfl)
theorem dJ19_newBytesLength_13 : decode cJ19_newBytesLength 13 = .ok (.ldc 20, 2) := dk_18 20 (dk_at dksJ19_newBytesLength_0 13 rfl rfl)
theorem dJ19_newBytesLength_15 : decode cJ19_newBytesLength 15 = .ok (.if_icmp .lt 40, 3) := dk_161 0 40 (dk_at dksJ19_newBytesLength_0 15 rfl rfl)
theorem dJ19_newBytesLength_18 : decode cJ19_newBytesLength 18 = .ok (.new 21, 3) := dk_187 0 21 (dk_at dksJ19_newBytesLength_0 18 rfl rfl)
theorem dJ19_newBytesLength_21 : decode cJ19_newBytesLength 21 = .ok (.dup, 1) := dk_89 (dk_at dksJ19_newBytesLength_0 21 rfl rfl)
theorem dJ19_newBytesLength_22 : decode cJ19_newBytesLength 22 = .ok (.new 23, 3) := dk_187 0 23 (dk_at dksJ19_newBytesLength_1 0 rfl rfl)
theorem dJ19_newBytesLength_25 : decode cJ19_newBytesLength 25 = .ok (.dup, 1) := dk_89 (dk_at dksJ19_newBytesLength_1 3 rfl rfl)
theorem dJ19_newBytesLength_26 : decode cJ19_newBytesLength 26 = .ok (.invokespecial 25, 3) := dk_183 0 25 (dk_at dksJ19_newBytesLength_1 4 rfl rfl)
theorem dJ19_newBytesLength_29 : decode cJ19_newBytesLength 29 = .ok (.ldc 26, 2) := dk_18 26 (dk_at dksJ19_newBytesLength_1 7 rfl rfl)
theorem dJ19_newBytesLength_31 : decode cJ19_newBytesLength 31 = .ok (.invokevirtual 28, 3) := dk_182 0 28 (dk_at dksJ19_newBytesLength_1 9 rfl rfl)
theorem dJ19_newBytesLength_34 : decode cJ19_newBytesLength 34 = .ok (.iload_n 0, 1) := dk_26 (dk_at dksJ19_newBytesLength_1 12 rfl rfl)
theorem dJ19_newBytesLength_35 : decode cJ19_newBytesLength 35 = .ok (.invokevirtual 32, 3) := dk_182 0 32 (dk_at dksJ19_newBytesLength_1 13 rfl rfl)
theorem dJ19_newBytesLength_38 : decode cJ19_newBytesLength 38 = .ok (.ldc 35, 2) := dk_18 35 (dk_at dksJ19_newBytesLength_1 16 rfl rfl)
theorem dJ19_newBytesLength_40 : decode cJ19_newBytesLength 40 = .ok (.invokevirtual 28, 3) := dk_182 0 28 (dk_at dksJ19_newBytesLength_1 18 rfl rfl)
theorem dJ19_newBytesLength_43 : decode cJ19_newBytesLength 43 = .ok (.ldc 20, 2) := dk_18 20 (dk_at dksJ19_newBytesLength_1 21 rfl rfl)
theorem dJ19_newBytesLength_45 : decode cJ19_newBytesLength 45 = .ok (.invokevirtual 32, 3) := dk_182 0 32 (dk_at dksJ19_newBytesLength_2 0 rfl rfl)
theorem dJ19_newBytesLength_48 : decode cJ19_newBytesLength 48 = .ok (.invokevirtual 37, 3) := dk_182 0 37 (dk_at dksJ19_newBytesLength_2 3 rfl rfl)
theorem dJ19_newBytesLength_51 : decode cJ19_newBytesLength 51 = .ok (.invokespecial 41, 3) := dk_183 0 41 (dk_at dksJ19_newBytesLength_2 6 rfl rfl)
theorem dJ19_newBytesLength_54 : decode cJ19_newBytesLength 54 = .ok (.athrow, 1) := dk_191 (dk_at dksJ19_newBytesLength_2 9 rfl rfl)
theorem dJ19_newBytesLength_55 : decode cJ19_newBytesLength 55 = .ok (.iload_n 0, 1) := dk_26 (dk_at dksJ19_newBytesLength_2 10 rfl rfl)
theorem dJ19_newBytesLength_56 : decode cJ19_newBytesLength 56 = .ok (.iconst 1, 1) := dk_4 (dk_at dksJ19_newBytesLength_2 11 rfl rfl)
theorem dJ19_newBytesLength_57 : decode cJ19_newBytesLength 57 = .ok (.ishl, 1) := dk_120 (dk_at dksJ19_newBytesLength_2 12 rfl rfl)
theorem dJ19_newBytesLength_58 : decode cJ19_newBytesLength 58 = .ok (.ireturn, 1) := dk_172 (dk_at dksJ19_newBytesLength_2 13 rfl rfl)
abbrev cJ19_putCharsAt : ByteArray := prog_40_method_81_code
def yJ19_putCharsAt : MethodName := ⟨RJ19, "putCharsAt", "([BICCCC)I"⟩
def dkwJ19_putCharsAt_3 : List UInt8 := [21, 6, 172]
abbrev dktJ19_putCharsAt_3 : List UInt8 := dkwJ19_putCharsAt_3 ++ []
def dkwJ19_putCharsAt_2 : List UInt8 := [184, 0, 111, 178, 0, 44, 154, 0, 17, 27, 21, 6, 159, 0, 11, 187, 0, 52, 89, 183, 0, 66, 191]
abbrev dktJ19_putCharsAt_2 : List UInt8 := dkwJ19_putCharsAt_2 ++ dktJ19_putCharsAt_3
def dkwJ19_putCharsAt_1 : List UInt8 := [132, 1, 1, 29, 184, 0, 111, 42, 27, 132, 1, 1, 21, 4, 184, 0, 111, 42, 27, 132, 1, 1, 21, 5]
abbrev dktJ19_putCharsAt_1 : List UInt8 := dkwJ19_putCharsAt_1 ++ dktJ19_putCharsAt_2
def dkwJ19_putCharsAt_0 : List UInt8 := [27, 7, 96, 54, 6, 27, 21, 6, 42, 184, 0, 96, 42, 27, 132, 1, 1, 28, 184, 0, 111, 42, 27]
abbrev dktJ19_putCharsAt_0 : List UInt8 := dkwJ19_putCharsAt_0 ++ dktJ19_putCharsAt_1
theorem dksJ19_putCharsAt_0 : cJ19_putCharsAt.data.toList.drop 0 = dktJ19_putCharsAt_0 := by decide +kernel
theorem dksJ19_putCharsAt_1 : cJ19_putCharsAt.data.toList.drop 23 = dktJ19_putCharsAt_1 := dk_seg dksJ19_putCharsAt_0 23 rfl rfl
theorem dksJ19_putCharsAt_2 : cJ19_putCharsAt.data.toList.drop 47 = dktJ19_putCharsAt_2 := dk_seg dksJ19_putCharsAt_1 24 rfl rfl
theorem dksJ19_putCharsAt_3 : cJ19_putCharsAt.data.toList.drop 70 = dktJ19_putCharsAt_3 := dk_seg dksJ19_putCharsAt_2 23 rfl rfl
theorem dJ19_putCharsAt_0 : decode cJ19_putCharsAt 0 = .ok (.iload_n 1, 1) := dk_27 (dk_at dksJ19_putCharsAt_0 0 rfl rfl)
theorem dJ19_putCharsAt_1 : decode cJ19_putCharsAt 1 = .ok (.iconst 4, 1) := dk_7 (dk_at dksJ19_putCharsAt_0 1 rfl rfl)
theorem dJ19_putCharsAt_2 : decode cJ19_putCharsAt 2 = .ok (.iadd, 1) := dk_96 (dk_at dksJ19_putCharsAt_0 2 rfl rfl)
theorem dJ19_putCharsAt_3 : decode cJ19_putCharsAt 3 = .ok (.istore 6, 2) := dk_54 6 (dk_at dksJ19_putCharsAt_0 3 rfl rfl)
theorem dJ19_putCharsAt_5 : decode cJ19_putCharsAt 5 = .ok (.iload_n 1, 1) := dk_27 (dk_at dksJ19_putCharsAt_0 5 rfl rfl)
theorem dJ19_putCharsAt_6 : decode cJ19_putCharsAt 6 = .ok (.iload 6, 2) := dk_21 6 (dk_at dksJ19_putCharsAt_0 6 rfl rfl)
theorem dJ19_putCharsAt_8 : decode cJ19_putCharsAt 8 = .ok (.aload_n 0, 1) := dk_42 (dk_at dksJ19_putCharsAt_0 8 rfl rfl)
theorem dJ19_putCharsAt_9 : decode cJ19_putCharsAt 9 = .ok (.invokestatic 96, 3) := dk_184 0 96 (dk_at dksJ19_putCharsAt_0 9 rfl rfl)
theorem dJ19_putCharsAt_12 : decode cJ19_putCharsAt 12 = .ok (.aload_n 0, 1) := dk_42 (dk_at dksJ19_putCharsAt_0 12 rfl rfl)
theorem dJ19_putCharsAt_13 : decode cJ19_putCharsAt 13 = .ok (.iload_n 1, 1) := dk_27 (dk_at dksJ19_putCharsAt_0 13 rfl rfl)
theorem dJ19_putCharsAt_14 : decode cJ19_putCharsAt 14 = .ok (.iinc 1 1, 3) := dk_132 1 1 (dk_at dksJ19_putCharsAt_0 14 rfl rfl)
theorem dJ19_putCharsAt_17 : decode cJ19_putCharsAt 17 = .ok (.iload_n 2, 1) := dk_28 (dk_at dksJ19_putCharsAt_0 17 rfl rfl)
theorem dJ19_putCharsAt_18 : decode cJ19_putCharsAt 18 = .ok (.invokestatic 111, 3) := dk_184 0 111 (dk_at dksJ19_putCharsAt_0 18 rfl rfl)
theorem dJ19_putCharsAt_21 : decode cJ19_putCharsAt 21 = .ok (.aload_n 0, 1) := dk_42 (dk_at dksJ19_putCharsAt_0 21 rfl rfl)
theorem dJ19_putCharsAt_22 : decode cJ19_putCharsAt 22 = .ok (.iload_n 1, 1) := dk_27 (dk_at dksJ19_putCharsAt_0 22 rfl rfl)
theorem dJ19_putCharsAt_23 : decode cJ19_putCharsAt 23 = .ok (.iinc 1 1, 3) := dk_132 1 1 (dk_at dksJ19_putCharsAt_1 0 rfl rfl)
theorem dJ19_putCharsAt_26 : decode cJ19_putCharsAt 26 = .ok (.iload_n 3, 1) := dk_29 (dk_at dksJ19_putCharsAt_1 3 rfl rfl)
theorem dJ19_putCharsAt_27 : decode cJ19_putCharsAt 27 = .ok (.invokestatic 111, 3) := dk_184 0 111 (dk_at dksJ19_putCharsAt_1 4 rfl rfl)
theorem dJ19_putCharsAt_30 : decode cJ19_putCharsAt 30 = .ok (.aload_n 0, 1) := dk_42 (dk_at dksJ19_putCharsAt_1 7 rfl rfl)
theorem dJ19_putCharsAt_31 : decode cJ19_putCharsAt 31 = .ok (.iload_n 1, 1) := dk_27 (dk_at dksJ19_putCharsAt_1 8 rfl rfl)
theorem dJ19_putCharsAt_32 : decode cJ19_putCharsAt 32 = .ok (.iinc 1 1, 3) := dk_132 1 1 (dk_at dksJ19_putCharsAt_1 9 rfl rfl)
theorem dJ19_putCharsAt_35 : decode cJ19_putCharsAt 35 = .ok (.iload 4, 2) := dk_21 4 (dk_at dksJ19_putCharsAt_1 12 rfl rfl)
theorem dJ19_putCharsAt_37 : decode cJ19_putCharsAt 37 = .ok (.invokestatic 111, 3) := dk_184 0 111 (dk_at dksJ19_putCharsAt_1 14 rfl rfl)
theorem dJ19_putCharsAt_40 : decode cJ19_putCharsAt 40 = .ok (.aload_n 0, 1) := dk_42 (dk_at dksJ19_putCharsAt_1 17 rfl rfl)
theorem dJ19_putCharsAt_41 : decode cJ19_putCharsAt 41 = .ok (.iload_n 1, 1) := dk_27 (dk_at dksJ19_putCharsAt_1 18 rfl rfl)
theorem dJ19_putCharsAt_42 : decode cJ19_putCharsAt 42 = .ok (.iinc 1 1, 3) := dk_132 1 1 (dk_at dksJ19_putCharsAt_1 19 rfl rfl)
theorem dJ19_putCharsAt_45 : decode cJ19_putCharsAt 45 = .ok (.iload 5, 2) := dk_21 5 (dk_at dksJ19_putCharsAt_1 22 rfl rfl)
theorem dJ19_putCharsAt_47 : decode cJ19_putCharsAt 47 = .ok (.invokestatic 111, 3) := dk_184 0 111 (dk_at dksJ19_putCharsAt_2 0 rfl rfl)
theorem dJ19_putCharsAt_50 : decode cJ19_putCharsAt 50 = .ok (.getstatic 44, 3) := dk_178 0 44 (dk_at dksJ19_putCharsAt_2 3 rfl rfl)
theorem dJ19_putCharsAt_53 : decode cJ19_putCharsAt 53 = .ok (.ifCond .ne 17, 3) := dk_154 0 17 (dk_at dksJ19_putCharsAt_2 6 rfl rfl)
theorem dJ19_putCharsAt_56 : decode cJ19_putCharsAt 56 = .ok (.iload_n 1, 1) := dk_27 (dk_at dksJ19_putCharsAt_2 9 rfl rfl)
theorem dJ19_putCharsAt_57 : decode cJ19_putCharsAt 57 = .ok (.iload 6, 2) := dk_21 6 (dk_at dksJ19_putCharsAt_2 10 rfl rfl)
theorem dJ19_putCharsAt_59 : decode cJ19_putCharsAt 59 = .ok (.if_icmp .eq 11, 3) := dk_159 0 11 (dk_at dksJ19_putCharsAt_2 12 rfl rfl)
theorem dJ19_putCharsAt_62 : decode cJ19_putCharsAt 62 = .ok (.new 52, 3) := dk_187 0 52 (dk_at dksJ19_putCharsAt_2 15 rfl rfl)
theorem dJ19_putCharsAt_65 : decode cJ19_putCharsAt 65 = .ok (.dup, 1) := dk_89 (dk_at dksJ19_putCharsAt_2 18 rfl rfl)
theorem dJ19_putCharsAt_66 : decode cJ19_putCharsAt 66 = .ok (.invokespecial 66, 3) := dk_183 0 66 (dk_at dksJ19_putCharsAt_2 19 rfl rfl)
theorem dJ19_putCharsAt_69 : decode cJ19_putCharsAt 69 = .ok (.athrow, 1) := dk_191 (dk_at dksJ19_putCharsAt_2 22 rfl rfl)
theorem dJ19_putCharsAt_70 : decode cJ19_putCharsAt 70 = .ok (.iload 6, 2) := dk_21 6 (dk_at dksJ19_putCharsAt_3 0 rfl rfl)
theorem dJ19_putCharsAt_72 : decode cJ19_putCharsAt 72 = .ok (.ireturn, 1) := dk_172 (dk_at dksJ19_putCharsAt_3 2 rfl rfl)
abbrev cJ19_checkBoundsBeginEnd : ByteArray := prog_40_method_93_code
def yJ19_checkBoundsBeginEnd : MethodName := ⟨RJ19, "checkBoundsBeginEnd", "(II[B)V"⟩
def dkwJ19_checkBoundsBeginEnd_0 : List UInt8 := [26, 27, 44, 184, 0, 48, 184, 0, 241, 177]
abbrev dktJ19_checkBoundsBeginEnd_0 : List UInt8 := dkwJ19_checkBoundsBeginEnd_0 ++ []
theorem dksJ19_checkBoundsBeginEnd_0 : cJ19_checkBoundsBeginEnd.data.toList.drop 0 = dktJ19_checkBoundsBeginEnd_0 := by decide +kernel
theorem dJ19_checkBoundsBeginEnd_0 : decode cJ19_checkBoundsBeginEnd 0 = .ok (.iload_n 0, 1) := dk_26 (dk_at dksJ19_checkBoundsBeginEnd_0 0 rfl rfl)
theorem dJ19_checkBoundsBeginEnd_1 : decode cJ19_checkBoundsBeginEnd 1 = .ok (.iload_n 1, 1) := dk_27 (dk_at dksJ19_checkBoundsBeginEnd_0 1 rfl rfl)
theorem dJ19_checkBoundsBeginEnd_2 : decode cJ19_checkBoundsBeginEnd 2 = .ok (.aload_n 2, 1) := dk_44 (dk_at dksJ19_checkBoundsBeginEnd_0 2 rfl rfl)
theorem dJ19_checkBoundsBeginEnd_3 : decode cJ19_checkBoundsBeginEnd 3 = .ok (.invokestatic 48, 3) := dk_184 0 48 (dk_at dksJ19_checkBoundsBeginEnd_0 3 rfl rfl)
theorem dJ19_checkBoundsBeginEnd_6 : decode cJ19_checkBoundsBeginEnd 6 = .ok (.invokestatic 241, 3) := dk_184 0 241 (dk_at dksJ19_checkBoundsBeginEnd_0 6 rfl rfl)
theorem dJ19_checkBoundsBeginEnd_9 : decode cJ19_checkBoundsBeginEnd 9 = .ok (.return_, 1) := dk_177 (dk_at dksJ19_checkBoundsBeginEnd_0 9 rfl rfl)
abbrev cJ19_putChar : ByteArray := prog_40_method_4_code
def yJ19_putChar : MethodName := ⟨RJ19, "putChar", "([BII)V"⟩
def dkwJ19_putChar_2 : List UInt8 := [178, 0, 63, 122, 145, 84, 177]
abbrev dktJ19_putChar_2 : List UInt8 := dkwJ19_putChar_2 ++ []
def dkwJ19_putChar_1 : List UInt8 := [183, 0, 56, 191, 27, 4, 120, 60, 42, 27, 132, 1, 1, 28, 178, 0, 59, 122, 145, 84, 42, 27, 28]
abbrev dktJ19_putChar_1 : List UInt8 := dkwJ19_putChar_1 ++ dktJ19_putChar_2
def dkwJ19_putChar_0 : List UInt8 := [178, 0, 44, 154, 0, 25, 27, 155, 0, 11, 27, 42, 184, 0, 48, 161, 0, 13, 187, 0, 52, 89, 18, 54]
abbrev dktJ19_putChar_0 : List UInt8 := dkwJ19_putChar_0 ++ dktJ19_putChar_1
theorem dksJ19_putChar_0 : cJ19_putChar.data.toList.drop 0 = dktJ19_putChar_0 := by decide +kernel
theorem dksJ19_putChar_1 : cJ19_putChar.data.toList.drop 24 = dktJ19_putChar_1 := dk_seg dksJ19_putChar_0 24 rfl rfl
theorem dksJ19_putChar_2 : cJ19_putChar.data.toList.drop 47 = dktJ19_putChar_2 := dk_seg dksJ19_putChar_1 23 rfl rfl
theorem dJ19_putChar_0 : decode cJ19_putChar 0 = .ok (.getstatic 44, 3) := dk_178 0 44 (dk_at dksJ19_putChar_0 0 rfl rfl)
theorem dJ19_putChar_3 : decode cJ19_putChar 3 = .ok (.ifCond .ne 25, 3) := dk_154 0 25 (dk_at dksJ19_putChar_0 3 rfl rfl)
theorem dJ19_putChar_6 : decode cJ19_putChar 6 = .ok (.iload_n 1, 1) := dk_27 (dk_at dksJ19_putChar_0 6 rfl rfl)
theorem dJ19_putChar_7 : decode cJ19_putChar 7 = .ok (.ifCond .lt 11, 3) := dk_155 0 11 (dk_at dksJ19_putChar_0 7 rfl rfl)
theorem dJ19_putChar_10 : decode cJ19_putChar 10 = .ok (.iload_n 1, 1) := dk_27 (dk_at dksJ19_putChar_0 10 rfl rfl)
theorem dJ19_putChar_11 : decode cJ19_putChar 11 = .ok (.aload_n 0, 1) := dk_42 (dk_at dksJ19_putChar_0 11 rfl rfl)
theorem dJ19_putChar_12 : decode cJ19_putChar 12 = .ok (.invokestatic 48, 3) := dk_184 0 48 (dk_at dksJ19_putChar_0 12 rfl rfl)
theorem dJ19_putChar_15 : decode cJ19_putChar 15 = .ok (.if_icmp .lt 13, 3) := dk_161 0 13 (dk_at dksJ19_putChar_0 15 rfl rfl)
theorem dJ19_putChar_18 : decode cJ19_putChar 18 = .ok (.new 52, 3) := dk_187 0 52 (dk_at dksJ19_putChar_0 18 rfl rfl)
theorem dJ19_putChar_21 : decode cJ19_putChar 21 = .ok (.dup, 1) := dk_89 (dk_at dksJ19_putChar_0 21 rfl rfl)
theorem dJ19_putChar_22 : decode cJ19_putChar 22 = .ok (.ldc 54, 2) := dk_18 54 (dk_at dksJ19_putChar_0 22 rfl rfl)
theorem dJ19_putChar_24 : decode cJ19_putChar 24 = .ok (.invokespecial 56, 3) := dk_183 0 56 (dk_at dksJ19_putChar_1 0 rfl rfl)
theorem dJ19_putChar_27 : decode cJ19_putChar 27 = .ok (.athrow, 1) := dk_191 (dk_at dksJ19_putChar_1 3 rfl rfl)
theorem dJ19_putChar_28 : decode cJ19_putChar 28 = .ok (.iload_n 1, 1) := dk_27 (dk_at dksJ19_putChar_1 4 rfl rfl)
theorem dJ19_putChar_29 : decode cJ19_putChar 29 = .ok (.iconst 1, 1) := dk_4 (dk_at dksJ19_putChar_1 5 rfl rfl)
theorem dJ19_putChar_30 : decode cJ19_putChar 30 = .ok (.ishl, 1) := dk_120 (dk_at dksJ19_putChar_1 6 rfl rfl)
theorem dJ19_putChar_31 : decode cJ19_putChar 31 = .ok (.istore_n 1, 1) := dk_60 (dk_at dksJ19_putChar_1 7 rfl rfl)
theorem dJ19_putChar_32 : decode cJ19_putChar 32 = .ok (.aload_n 0, 1) := dk_42 (dk_at dksJ19_putChar_1 8 rfl rfl)
theorem dJ19_putChar_33 : decode cJ19_putChar 33 = .ok (.iload_n 1, 1) := dk_27 (dk_at dksJ19_putChar_1 9 rfl rfl)
theorem dJ19_putChar_34 : decode cJ19_putChar 34 = .ok (.iinc 1 1, 3) := dk_132 1 1 (dk_at dksJ19_putChar_1 10 rfl rfl)
theorem dJ19_putChar_37 : decode cJ19_putChar 37 = .ok (.iload_n 2, 1) := dk_28 (dk_at dksJ19_putChar_1 13 rfl rfl)
theorem dJ19_putChar_38 : decode cJ19_putChar 38 = .ok (.getstatic 59, 3) := dk_178 0 59 (dk_at dksJ19_putChar_1 14 rfl rfl)
theorem dJ19_putChar_41 : decode cJ19_putChar 41 = .ok (.ishr, 1) := dk_122 (dk_at dksJ19_putChar_1 17 rfl rfl)
theorem dJ19_putChar_42 : decode cJ19_putChar 42 = .ok (.i2b, 1) := dk_145 (dk_at dksJ19_putChar_1 18 rfl rfl)
theorem dJ19_putChar_43 : decode cJ19_putChar 43 = .ok (.bastore, 1) := dk_84 (dk_at dksJ19_putChar_1 19 rfl rfl)
theorem dJ19_putChar_44 : decode cJ19_putChar 44 = .ok (.aload_n 0, 1) := dk_42 (dk_at dksJ19_putChar_1 20 rfl rfl)
theorem dJ19_putChar_45 : decode cJ19_putChar 45 = .ok (.iload_n 1, 1) := dk_27 (dk_at dksJ19_putChar_1 21 rfl rfl)
theorem dJ19_putChar_46 : decode cJ19_putChar 46 = .ok (.iload_n 2, 1) := dk_28 (dk_at dksJ19_putChar_1 22 rfl rfl)
theorem dJ19_putChar_47 : decode cJ19_putChar 47 = .ok (.getstatic 63, 3) := dk_178 0 63 (dk_at dksJ19_putChar_2 0 rfl rfl)
theorem dJ19_putChar_50 : decode cJ19_putChar 50 = .ok (.ishr, 1) := dk_122 (dk_at dksJ19_putChar_2 3 rfl rfl)
theorem dJ19_putChar_51 : decode cJ19_putChar 51 = .ok (.i2b, 1) := dk_145 (dk_at dksJ19_putChar_2 4 rfl rfl)
theorem dJ19_putChar_52 : decode cJ19_putChar 52 = .ok (.bastore, 1) := dk_84 (dk_at dksJ19_putChar_2 5 rfl rfl)
theorem dJ19_putChar_53 : decode cJ19_putChar 53 = .ok (.return_, 1) := dk_177 (dk_at dksJ19_putChar_2 6 rfl rfl)
abbrev cJ19_inflate : ByteArray := prog_40_method_86_code
def yJ19_inflate : MethodName := ⟨RJ19, "inflate", "([BI[BII)V"⟩
def dkwJ19_inflate_1 : List UInt8 := [132, 1, 1, 51, 17, 0, 255, 126, 184, 0, 111, 132, 5, 1, 167, 255, 228, 177]
abbrev dktJ19_inflate_1 : List UInt8 := dkwJ19_inflate_1 ++ []
def dkwJ19_inflate_0 : List UInt8 := [29, 21, 4, 44, 184, 0, 173, 3, 54, 5, 21, 5, 21, 4, 162, 0, 27, 44, 29, 132, 3, 1, 42, 27]
abbrev dktJ19_inflate_0 : List UInt8 := dkwJ19_inflate_0 ++ dktJ19_inflate_1
theorem dksJ19_inflate_0 : cJ19_inflate.data.toList.drop 0 = dktJ19_inflate_0 := by decide +kernel
theorem dksJ19_inflate_1 : cJ19_inflate.data.toList.drop 24 = dktJ19_inflate_1 := dk_seg dksJ19_inflate_0 24 rfl rfl
theorem dJ19_inflate_0 : decode cJ19_inflate 0 = .ok (.iload_n 3, 1) := dk_29 (dk_at dksJ19_inflate_0 0 rfl rfl)
theorem dJ19_inflate_1 : decode cJ19_inflate 1 = .ok (.iload 4, 2) := dk_21 4 (dk_at dksJ19_inflate_0 1 rfl rfl)
theorem dJ19_inflate_3 : decode cJ19_inflate 3 = .ok (.aload_n 2, 1) := dk_44 (dk_at dksJ19_inflate_0 3 rfl rfl)
theorem dJ19_inflate_4 : decode cJ19_inflate 4 = .ok (.invokestatic 173, 3) := dk_184 0 173 (dk_at dksJ19_inflate_0 4 rfl rfl)
theorem dJ19_inflate_7 : decode cJ19_inflate 7 = .ok (.iconst 0, 1) := dk_3 (dk_at dksJ19_inflate_0 7 rfl rfl)
theorem dJ19_inflate_8 : decode cJ19_inflate 8 = .ok (.istore 5, 2) := dk_54 5 (dk_at dksJ19_inflate_0 8 rfl rfl)
theorem dJ19_inflate_10 : decode cJ19_inflate 10 = .ok (.iload 5, 2) := dk_21 5 (dk_at dksJ19_inflate_0 10 rfl rfl)
theorem dJ19_inflate_12 : decode cJ19_inflate 12 = .ok (.iload 4, 2) := dk_21 4 (dk_at dksJ19_inflate_0 12 rfl rfl)
theorem dJ19_inflate_14 : decode cJ19_inflate 14 = .ok (.if_icmp .ge 27, 3) := dk_162 0 27 (dk_at dksJ19_inflate_0 14 rfl rfl)
theorem dJ19_inflate_17 : decode cJ19_inflate 17 = .ok (.aload_n 2, 1) := dk_44 (dk_at dksJ19_inflate_0 17 rfl rfl)
theorem dJ19_inflate_18 : decode cJ19_inflate 18 = .ok (.iload_n 3, 1) := dk_29 (dk_at dksJ19_inflate_0 18 rfl rfl)
theorem dJ19_inflate_19 : decode cJ19_inflate 19 = .ok (.iinc 3 1, 3) := dk_132 3 1 (dk_at dksJ19_inflate_0 19 rfl rfl)
theorem dJ19_inflate_22 : decode cJ19_inflate 22 = .ok (.aload_n 0, 1) := dk_42 (dk_at dksJ19_inflate_0 22 rfl rfl)
theorem dJ19_inflate_23 : decode cJ19_inflate 23 = .ok (.iload_n 1, 1) := dk_27 (dk_at dksJ19_inflate_0 23 rfl rfl)
theorem dJ19_inflate_24 : decode cJ19_inflate 24 = .ok (.iinc 1 1, 3) := dk_132 1 1 (dk_at dksJ19_inflate_1 0 rfl rfl)
theorem dJ19_inflate_27 : decode cJ19_inflate 27 = .ok (.baload, 1) := dk_51 (dk_at dksJ19_inflate_1 3 rfl rfl)
theorem dJ19_inflate_28 : decode cJ19_inflate 28 = .ok (.sipush 255, 3) := dk_17 0 255 (dk_at dksJ19_inflate_1 4 rfl rfl)
theorem dJ19_inflate_31 : decode cJ19_inflate 31 = .ok (.iand, 1) := dk_126 (dk_at dksJ19_inflate_1 7 rfl rfl)
theorem dJ19_inflate_32 : decode cJ19_inflate 32 = .ok (.invokestatic 111, 3) := dk_184 0 111 (dk_at dksJ19_inflate_1 8 rfl rfl)
theorem dJ19_inflate_35 : decode cJ19_inflate 35 = .ok (.iinc 5 1, 3) := dk_132 5 1 (dk_at dksJ19_inflate_1 11 rfl rfl)
theorem dJ19_inflate_38 : decode cJ19_inflate 38 = .ok (.goto (-28), 3) := dk_167 255 228 (dk_at dksJ19_inflate_1 14 rfl rfl)
theorem dJ19_inflate_41 : decode cJ19_inflate 41 = .ok (.return_, 1) := dk_177 (dk_at dksJ19_inflate_1 17 rfl rfl)
abbrev cJ19_checkBoundsOffCount : ByteArray := prog_40_method_94_code
def yJ19_checkBoundsOffCount : MethodName := ⟨RJ19, "checkBoundsOffCount", "(II[B)V"⟩
def dkwJ19_checkBoundsOffCount_0 : List UInt8 := [26, 27, 44, 184, 0, 48, 184, 1, 163, 87, 177]
abbrev dktJ19_checkBoundsOffCount_0 : List UInt8 := dkwJ19_checkBoundsOffCount_0 ++ []
theorem dksJ19_checkBoundsOffCount_0 : cJ19_checkBoundsOffCount.data.toList.drop 0 = dktJ19_checkBoundsOffCount_0 := by decide +kernel
theorem dJ19_checkBoundsOffCount_0 : decode cJ19_checkBoundsOffCount 0 = .ok (.iload_n 0, 1) := dk_26 (dk_at dksJ19_checkBoundsOffCount_0 0 rfl rfl)
theorem dJ19_checkBoundsOffCount_1 : decode cJ19_checkBoundsOffCount 1 = .ok (.iload_n 1, 1) := dk_27 (dk_at dksJ19_checkBoundsOffCount_0 1 rfl rfl)
theorem dJ19_checkBoundsOffCount_2 : decode cJ19_checkBoundsOffCount 2 = .ok (.aload_n 2, 1) := dk_44 (dk_at dksJ19_checkBoundsOffCount_0 2 rfl rfl)
theorem dJ19_checkBoundsOffCount_3 : decode cJ19_checkBoundsOffCount 3 = .ok (.invokestatic 48, 3) := dk_184 0 48 (dk_at dksJ19_checkBoundsOffCount_0 3 rfl rfl)
theorem dJ19_checkBoundsOffCount_6 : decode cJ19_checkBoundsOffCount 6 = .ok (.invokestatic 419, 3) := dk_184 1 163 (dk_at dksJ19_checkBoundsOffCount_0 6 rfl rfl)
theorem dJ19_checkBoundsOffCount_9 : decode cJ19_checkBoundsOffCount 9 = .ok (.pop, 1) := dk_87 (dk_at dksJ19_checkBoundsOffCount_0 9 rfl rfl)
theorem dJ19_checkBoundsOffCount_10 : decode cJ19_checkBoundsOffCount 10 = .ok (.return_, 1) := dk_177 (dk_at dksJ19_checkBoundsOffCount_0 10 rfl rfl)
abbrev cJ19_getChars : ByteArray := prog_40_method_77_code
def yJ19_getChars : MethodName := ⟨RJ19, "getChars", "(III[B)I"⟩
def dkwJ19_getChars_1 : List UInt8 := [159, 0, 11, 187, 0, 52, 89, 183, 0, 66, 191, 21, 4, 172]
abbrev dktJ19_getChars_1 : List UInt8 := dkwJ19_getChars_1 ++ []
def dkwJ19_getChars_0 : List UInt8 := [27, 28, 45, 184, 0, 96, 26, 28, 45, 184, 1, 137, 54, 4, 178, 0, 44, 154, 0, 17, 27, 21, 4]
abbrev dktJ19_getChars_0 : List UInt8 := dkwJ19_getChars_0 ++ dktJ19_getChars_1
theorem dksJ19_getChars_0 : cJ19_getChars.data.toList.drop 0 = dktJ19_getChars_0 := by decide +kernel
theorem dksJ19_getChars_1 : cJ19_getChars.data.toList.drop 23 = dktJ19_getChars_1 := dk_seg dksJ19_getChars_0 23 rfl rfl
theorem dJ19_getChars_0 : decode cJ19_getChars 0 = .ok (.iload_n 1, 1) := dk_27 (dk_at dksJ19_getChars_0 0 rfl rfl)
theorem dJ19_getChars_1 : decode cJ19_getChars 1 = .ok (.iload_n 2, 1) := dk_28 (dk_at dksJ19_getChars_0 1 rfl rfl)
theorem dJ19_getChars_2 : decode cJ19_getChars 2 = .ok (.aload_n 3, 1) := dk_45 (dk_at dksJ19_getChars_0 2 rfl rfl)
theorem dJ19_getChars_3 : decode cJ19_getChars 3 = .ok (.invokestatic 96, 3) := dk_184 0 96 (dk_at dksJ19_getChars_0 3 rfl rfl)
theorem dJ19_getChars_6 : decode cJ19_getChars 6 = .ok (.iload_n 0, 1) := dk_26 (dk_at dksJ19_getChars_0 6 rfl rfl)
theorem dJ19_getChars_7 : decode cJ19_getChars 7 = .ok (.iload_n 2, 1) := dk_28 (dk_at dksJ19_getChars_0 7 rfl rfl)
theorem dJ19_getChars_8 : decode cJ19_getChars 8 = .ok (.aload_n 3, 1) := dk_45 (dk_at dksJ19_getChars_0 8 rfl rfl)
theorem dJ19_getChars_9 : decode cJ19_getChars 9 = .ok (.invokestatic 393, 3) := dk_184 1 137 (dk_at dksJ19_getChars_0 9 rfl rfl)
theorem dJ19_getChars_12 : decode cJ19_getChars 12 = .ok (.istore 4, 2) := dk_54 4 (dk_at dksJ19_getChars_0 12 rfl rfl)
theorem dJ19_getChars_14 : decode cJ19_getChars 14 = .ok (.getstatic 44, 3) := dk_178 0 44 (dk_at dksJ19_getChars_0 14 rfl rfl)
theorem dJ19_getChars_17 : decode cJ19_getChars 17 = .ok (.ifCond .ne 17, 3) := dk_154 0 17 (dk_at dksJ19_getChars_0 17 rfl rfl)
theorem dJ19_getChars_20 : decode cJ19_getChars 20 = .ok (.iload_n 1, 1) := dk_27 (dk_at dksJ19_getChars_0 20 rfl rfl)
theorem dJ19_getChars_21 : decode cJ19_getChars 21 = .ok (.iload 4, 2) := dk_21 4 (dk_at dksJ19_getChars_0 21 rfl rfl)
theorem dJ19_getChars_23 : decode cJ19_getChars 23 = .ok (.if_icmp .eq 11, 3) := dk_159 0 11 (dk_at dksJ19_getChars_1 0 rfl rfl)
theorem dJ19_getChars_26 : decode cJ19_getChars 26 = .ok (.new 52, 3) := dk_187 0 52 (dk_at dksJ19_getChars_1 3 rfl rfl)
theorem dJ19_getChars_29 : decode cJ19_getChars 29 = .ok (.dup, 1) := dk_89 (dk_at dksJ19_getChars_1 6 rfl rfl)
theorem dJ19_getChars_30 : decode cJ19_getChars 30 = .ok (.invokespecial 66, 3) := dk_183 0 66 (dk_at dksJ19_getChars_1 7 rfl rfl)
theorem dJ19_getChars_33 : decode cJ19_getChars 33 = .ok (.athrow, 1) := dk_191 (dk_at dksJ19_getChars_1 10 rfl rfl)
theorem dJ19_getChars_34 : decode cJ19_getChars 34 = .ok (.iload 4, 2) := dk_21 4 (dk_at dksJ19_getChars_1 11 rfl rfl)
theorem dJ19_getChars_36 : decode cJ19_getChars 36 = .ok (.ireturn, 1) := dk_172 (dk_at dksJ19_getChars_1 13 rfl rfl)
abbrev cJ19_getChars_2 : ByteArray := prog_40_method_89_code
def yJ19_getChars_2 : MethodName := ⟨RJ19, "getChars", "(II[B)I"⟩
def dkwJ19_getChars_2_5 : List UInt8 := [132, 5, 255, 21, 5, 16, 45, 184, 0, 111, 21, 5, 172]
abbrev dktJ19_getChars_2_5 : List UInt8 := dkwJ19_getChars_2_5 ++ []
def dkwJ19_getChars_2_4 : List UInt8 := [162, 0, 18, 44, 132, 5, 255, 21, 5, 178, 1, 151, 26, 116, 51, 184, 0, 111, 21, 6, 153, 0, 14, 44]
abbrev dktJ19_getChars_2_4 : List UInt8 := dkwJ19_getChars_2_4 ++ dktJ19_getChars_2_5
def dkwJ19_getChars_2_3 : List UInt8 := [184, 0, 111, 167, 255, 205, 44, 132, 5, 255, 21, 5, 178, 1, 147, 26, 116, 51, 184, 0, 111, 26, 16, 247]
abbrev dktJ19_getChars_2_3 : List UInt8 := dkwJ19_getChars_2_3 ++ dktJ19_getChars_2_4
def dkwJ19_getChars_2_2 : List UInt8 := [21, 5, 178, 1, 147, 21, 4, 51, 184, 0, 111, 44, 132, 5, 255, 21, 5, 178, 1, 151, 21, 4, 51]
abbrev dktJ19_getChars_2_2 : List UInt8 := dkwJ19_getChars_2_2 ++ dktJ19_getChars_2_3
def dkwJ19_getChars_2_1 : List UInt8 := [16, 156, 163, 0, 51, 26, 16, 100, 108, 62, 29, 16, 100, 104, 26, 100, 54, 4, 29, 59, 44, 132, 5, 255]
abbrev dktJ19_getChars_2_1 : List UInt8 := dkwJ19_getChars_2_1 ++ dktJ19_getChars_2_2
def dkwJ19_getChars_2_0 : List UInt8 := [27, 54, 5, 26, 156, 0, 7, 4, 167, 0, 4, 3, 54, 6, 21, 6, 154, 0, 6, 26, 116, 59, 26]
abbrev dktJ19_getChars_2_0 : List UInt8 := dkwJ19_getChars_2_0 ++ dktJ19_getChars_2_1
theorem dksJ19_getChars_2_0 : cJ19_getChars_2.data.toList.drop 0 = dktJ19_getChars_2_0 := by decide +kernel
theorem dksJ19_getChars_2_1 : cJ19_getChars_2.data.toList.drop 23 = dktJ19_getChars_2_1 := dk_seg dksJ19_getChars_2_0 23 rfl rfl
theorem dksJ19_getChars_2_2 : cJ19_getChars_2.data.toList.drop 47 = dktJ19_getChars_2_2 := dk_seg dksJ19_getChars_2_1 24 rfl rfl
theorem dksJ19_getChars_2_3 : cJ19_getChars_2.data.toList.drop 70 = dktJ19_getChars_2_3 := dk_seg dksJ19_getChars_2_2 23 rfl rfl
theorem dksJ19_getChars_2_4 : cJ19_getChars_2.data.toList.drop 94 = dktJ19_getChars_2_4 := dk_seg dksJ19_getChars_2_3 24 rfl rfl
theorem dksJ19_getChars_2_5 : cJ19_getChars_2.data.toList.drop 118 = dktJ19_getChars_2_5 := dk_seg dksJ19_getChars_2_4 24 rfl rfl
theorem dJ19_getChars_2_0 : decode cJ19_getChars_2 0 = .ok (.iload_n 1, 1) := dk_27 (dk_at dksJ19_getChars_2_0 0 rfl rfl)
theorem dJ19_getChars_2_1 : decode cJ19_getChars_2 1 = .ok (.istore 5, 2) := dk_54 5 (dk_at dksJ19_getChars_2_0 1 rfl rfl)
theorem dJ19_getChars_2_3 : decode cJ19_getChars_2 3 = .ok (.iload_n 0, 1) := dk_26 (dk_at dksJ19_getChars_2_0 3 rfl rfl)
theorem dJ19_getChars_2_4 : decode cJ19_getChars_2 4 = .ok (.ifCond .ge 7, 3) := dk_156 0 7 (dk_at dksJ19_getChars_2_0 4 rfl rfl)
theorem dJ19_getChars_2_7 : decode cJ19_getChars_2 7 = .ok (.iconst 1, 1) := dk_4 (dk_at dksJ19_getChars_2_0 7 rfl rfl)
theorem dJ19_getChars_2_8 : decode cJ19_getChars_2 8 = .ok (.goto 4, 3) := dk_167 0 4 (dk_at dksJ19_getChars_2_0 8 rfl rfl)
theorem dJ19_getChars_2_11 : decode cJ19_getChars_2 11 = .ok (.iconst 0, 1) := dk_3 (dk_at dksJ19_getChars_2_0 11 rfl rfl)
theorem dJ19_getChars_2_12 : decode cJ19_getChars_2 12 = .ok (.istore 6, 2) := dk_54 6 (dk_at dksJ19_getChars_2_0 12 rfl rfl)
theorem dJ19_getChars_2_14 : decode cJ19_getChars_2 14 = .ok (.iload 6, 2) := dk_21 6 (dk_at dksJ19_getChars_2_0 14 rfl rfl)
theorem dJ19_getChars_2_16 : decode cJ19_getChars_2 16 = .ok (.ifCond .ne 6, 3) := dk_154 0 6 (dk_at dksJ19_getChars_2_0 16 rfl rfl)
theorem dJ19_getChars_2_19 : decode cJ19_getChars_2 19 = .ok (.iload_n 0, 1) := dk_26 (dk_at dksJ19_getChars_2_0 19 rfl rfl)
theorem dJ19_getChars_2_20 : decode cJ19_getChars_2 20 = .ok (.ineg, 1) := dk_116 (dk_at dksJ19_getChars_2_0 20 rfl rfl)
theorem dJ19_getChars_2_21 : decode cJ19_getChars_2 21 = .ok (.istore_n 0, 1) := dk_59 (dk_at dksJ19_getChars_2_0 21 rfl rfl)
theorem dJ19_getChars_2_22 : decode cJ19_getChars_2 22 = .ok (.iload_n 0, 1) := dk_26 (dk_at dksJ19_getChars_2_0 22 rfl rfl)
theorem dJ19_getChars_2_23 : decode cJ19_getChars_2 23 = .ok (.bipush (-100), 2) := dk_16 156 (dk_at dksJ19_getChars_2_1 0 rfl rfl)
theorem dJ19_getChars_2_25 : decode cJ19_getChars_2 25 = .ok (.if_icmp .gt 51, 3) := dk_163 0 51 (dk_at dksJ19_getChars_2_1 2 rfl rfl)
theorem dJ19_getChars_2_28 : decode cJ19_getChars_2 28 = .ok (.iload_n 0, 1) := dk_26 (dk_at dksJ19_getChars_2_1 5 rfl rfl)
theorem dJ19_getChars_2_29 : decode cJ19_getChars_2 29 = .ok (.bipush 100, 2) := dk_16 100 (dk_at dksJ19_getChars_2_1 6 rfl rfl)
theorem dJ19_getChars_2_31 : decode cJ19_getChars_2 31 = .ok (.idiv, 1) := dk_108 (dk_at dksJ19_getChars_2_1 8 rfl rfl)
theorem dJ19_getChars_2_32 : decode cJ19_getChars_2 32 = .ok (.istore_n 3, 1) := dk_62 (dk_at dksJ19_getChars_2_1 9 rfl rfl)
theorem dJ19_getChars_2_33 : decode cJ19_getChars_2 33 = .ok (.iload_n 3, 1) := dk_29 (dk_at dksJ19_getChars_2_1 10 rfl rfl)
theorem dJ19_getChars_2_34 : decode cJ19_getChars_2 34 = .ok (.bipush 100, 2) := dk_16 100 (dk_at dksJ19_getChars_2_1 11 rfl rfl)
theorem dJ19_getChars_2_36 : decode cJ19_getChars_2 36 = .ok (.imul, 1) := dk_104 (dk_at dksJ19_getChars_2_1 13 rfl rfl)
theorem dJ19_getChars_2_37 : decode cJ19_getChars_2 37 = .ok (.iload_n 0, 1) := dk_26 (dk_at dksJ19_getChars_2_1 14 rfl rfl)
theorem dJ19_getChars_2_38 : decode cJ19_getChars_2 38 = .ok (.isub, 1) := dk_100 (dk_at dksJ19_getChars_2_1 15 rfl rfl)
theorem dJ19_getChars_2_39 : decode cJ19_getChars_2 39 = .ok (.istore 4, 2) := dk_54 4 (dk_at dksJ19_getChars_2_1 16 rfl rfl)
theorem dJ19_getChars_2_41 : decode cJ19_getChars_2 41 = .ok (.iload_n 3, 1) := dk_29 (dk_at dksJ19_getChars_2_1 18 rfl rfl)
theorem dJ19_getChars_2_42 : decode cJ19_getChars_2 42 = .ok (.istore_n 0, 1) := dk_59 (dk_at dksJ19_getChars_2_1 19 rfl rfl)
theorem dJ19_getChars_2_43 : decode cJ19_getChars_2 43 = .ok (.aload_n 2, 1) := dk_44 (dk_at dksJ19_getChars_2_1 20 rfl rfl)
theorem dJ19_getChars_2_44 : decode cJ19_getChars_2 44 = .ok (.iinc 5 (-1), 3) := dk_132 5 255 (dk_at dksJ19_getChars_2_1 21 rfl rfl)
theorem dJ19_getChars_2_47 : decode cJ19_getChars_2 47 = .ok (.iload 5, 2) := dk_21 5 (dk_at dksJ19_getChars_2_2 0 rfl rfl)
theorem dJ19_getChars_2_49 : decode cJ19_getChars_2 49 = .ok (.getstatic 403, 3) := dk_178 1 147 (dk_at dksJ19_getChars_2_2 2 rfl rfl)
theorem dJ19_getChars_2_52 : decode cJ19_getChars_2 52 = .ok (.iload 4, 2) := dk_21 4 (dk_at dksJ19_getChars_2_2 5 rfl rfl)
theorem dJ19_getChars_2_54 : decode cJ19_getChars_2 54 = .ok (.baload, 1) := dk_51 (dk_at dksJ19_getChars_2_2 7 rfl rfl)
theorem dJ19_getChars_2_55 : decode cJ19_getChars_2 55 = .ok (.invokestatic 111, 3) := dk_184 0 111 (dk_at dksJ19_getChars_2_2 8 rfl rfl)
theorem dJ19_getChars_2_58 : decode cJ19_getChars_2 58 = .ok (.aload_n 2, 1) := dk_44 (dk_at dksJ19_getChars_2_2 11 rfl rfl)
theorem dJ19_getChars_2_59 : decode cJ19_getChars_2 59 = .ok (.iinc 5 (-1), 3) := dk_132 5 255 (dk_at dksJ19_getChars_2_2 12 rfl rfl)
theorem dJ19_getChars_2_62 : decode cJ19_getChars_2 62 = .ok (.iload 5, 2) := dk_21 5 (dk_at dksJ19_getChars_2_2 15 rfl rfl)
theorem dJ19_getChars_2_64 : decode cJ19_getChars_2 64 = .ok (.getstatic 407, 3) := dk_178 1 151 (dk_at dksJ19_getChars_2_2 17 rfl rfl)
theorem dJ19_getChars_2_67 : decode cJ19_getChars_2 67 = .ok (.iload 4, 2) := dk_21 4 (dk_at dksJ19_getChars_2_2 20 rfl rfl)
theorem dJ19_getChars_2_69 : decode cJ19_getChars_2 69 = .ok (.baload, 1) := dk_51 (dk_at dksJ19_getChars_2_2 22 rfl rfl)
theorem dJ19_getChars_2_70 : decode cJ19_getChars_2 70 = .ok (.invokestatic 111, 3) := dk_184 0 111 (dk_at dksJ19_getChars_2_3 0 rfl rfl)
theorem dJ19_getChars_2_73 : decode cJ19_getChars_2 73 = .ok (.goto (-51), 3) := dk_167 255 205 (dk_at dksJ19_getChars_2_3 3 rfl rfl)
theorem dJ19_getChars_2_76 : decode cJ19_getChars_2 76 = .ok (.aload_n 2, 1) := dk_44 (dk_at dksJ19_getChars_2_3 6 rfl rfl)
theorem dJ19_getChars_2_77 : decode cJ19_getChars_2 77 = .ok (.iinc 5 (-1), 3) := dk_132 5 255 (dk_at dksJ19_getChars_2_3 7 rfl rfl)
theorem dJ19_getChars_2_80 : decode cJ19_getChars_2 80 = .ok (.iload 5, 2) := dk_21 5 (dk_at dksJ19_getChars_2_3 10 rfl rfl)
theorem dJ19_getChars_2_82 : decode cJ19_getChars_2 82 = .ok (.getstatic 403, 3) := dk_178 1 147 (dk_at dksJ19_getChars_2_3 12 rfl rfl)
theorem dJ19_getChars_2_85 : decode cJ19_getChars_2 85 = .ok (.iload_n 0, 1) := dk_26 (dk_at dksJ19_getChars_2_3 15 rfl rfl)
theorem dJ19_getChars_2_86 : decode cJ19_getChars_2 86 = .ok (.ineg, 1) := dk_116 (dk_at dksJ19_getChars_2_3 16 rfl rfl)
theorem dJ19_getChars_2_87 : decode cJ19_getChars_2 87 = .ok (.baload, 1) := dk_51 (dk_at dksJ19_getChars_2_3 17 rfl rfl)
theorem dJ19_getChars_2_88 : decode cJ19_getChars_2 88 = .ok (.invokestatic 111, 3) := dk_184 0 111 (dk_at dksJ19_getChars_2_3 18 rfl rfl)
theorem dJ19_getChars_2_91 : decode cJ19_getChars_2 91 = .ok (.iload_n 0, 1) := dk_26 (dk_at dksJ19_getChars_2_3 21 rfl rfl)
theorem dJ19_getChars_2_92 : decode cJ19_getChars_2 92 = .ok (.bipush (-9), 2) := dk_16 247 (dk_at dksJ19_getChars_2_3 22 rfl rfl)
theorem dJ19_getChars_2_94 : decode cJ19_getChars_2 94 = .ok (.if_icmp .ge 18, 3) := dk_162 0 18 (dk_at dksJ19_getChars_2_4 0 rfl rfl)
theorem dJ19_getChars_2_97 : decode cJ19_getChars_2 97 = .ok (.aload_n 2, 1) := dk_44 (dk_at dksJ19_getChars_2_4 3 rfl rfl)
theorem dJ19_getChars_2_98 : decode cJ19_getChars_2 98 = .ok (.iinc 5 (-1), 3) := dk_132 5 255 (dk_at dksJ19_getChars_2_4 4 rfl rfl)
theorem dJ19_getChars_2_101 : decode cJ19_getChars_2 101 = .ok (.iload 5, 2) := dk_21 5 (dk_at dksJ19_getChars_2_4 7 rfl rfl)
theorem dJ19_getChars_2_103 : decode cJ19_getChars_2 103 = .ok (.getstatic 407, 3) := dk_178 1 151 (dk_at dksJ19_getChars_2_4 9 rfl rfl)
theorem dJ19_getChars_2_106 : decode cJ19_getChars_2 106 = .ok (.iload_n 0, 1) := dk_26 (dk_at dksJ19_getChars_2_4 12 rfl rfl)
theorem dJ19_getChars_2_107 : decode cJ19_getChars_2 107 = .ok (.ineg, 1) := dk_116 (dk_at dksJ19_getChars_2_4 13 rfl rfl)
theorem dJ19_getChars_2_108 : decode cJ19_getChars_2 108 = .ok (.baload, 1) := dk_51 (dk_at dksJ19_getChars_2_4 14 rfl rfl)
theorem dJ19_getChars_2_109 : decode cJ19_getChars_2 109 = .ok (.invokestatic 111, 3) := dk_184 0 111 (dk_at dksJ19_getChars_2_4 15 rfl rfl)
theorem dJ19_getChars_2_112 : decode cJ19_getChars_2 112 = .ok (.iload 6, 2) := dk_21 6 (dk_at dksJ19_getChars_2_4 18 rfl rfl)
theorem dJ19_getChars_2_114 : decode cJ19_getChars_2 114 = .ok (.ifCond .eq 14, 3) := dk_153 0 14 (dk_at dksJ19_getChars_2_4 20 rfl rfl)
theorem dJ19_getChars_2_117 : decode cJ19_getChars_2 117 = .ok (.aload_n 2, 1) := dk_44 (dk_at dksJ19_getChars_2_4 23 rfl rfl)
theorem dJ19_getChars_2_118 : decode cJ19_getChars_2 118 = .ok (.iinc 5 (-1), 3) := dk_132 5 255 (dk_at dksJ19_getChars_2_5 0 rfl rfl)
theorem dJ19_getChars_2_121 : decode cJ19_getChars_2 121 = .ok (.iload 5, 2) := dk_21 5 (dk_at dksJ19_getChars_2_5 3 rfl rfl)
theorem dJ19_getChars_2_123 : decode cJ19_getChars_2 123 = .ok (.bipush 45, 2) := dk_16 45 (dk_at dksJ19_getChars_2_5 5 rfl rfl)
theorem dJ19_getChars_2_125 : decode cJ19_getChars_2 125 = .ok (.invokestatic 111, 3) := dk_184 0 111 (dk_at dksJ19_getChars_2_5 7 rfl rfl)
theorem dJ19_getChars_2_128 : decode cJ19_getChars_2 128 = .ok (.iload 5, 2) := dk_21 5 (dk_at dksJ19_getChars_2_5 10 rfl rfl)
theorem dJ19_getChars_2_130 : decode cJ19_getChars_2 130 = .ok (.ireturn, 1) := dk_172 (dk_at dksJ19_getChars_2_5 12 rfl rfl)
abbrev cJ19_compress : ByteArray := prog_40_method_17_code
def yJ19_compress : MethodName := ⟨RJ19, "compress", "([BII)[B"⟩
def dkwJ19_compress_2 : List UInt8 := [25, 5, 3, 45, 3, 28, 184, 0, 123, 28, 159, 0, 6, 25, 5, 176, 45, 176]
abbrev dktJ19_compress_2 : List UInt8 := dkwJ19_compress_2 ++ []
def dkwJ19_compress_1 : List UInt8 := [27, 28, 96, 184, 0, 11, 184, 0, 126, 58, 5, 25, 5, 21, 4, 184, 0, 71, 17, 0, 255, 163, 0, 16]
abbrev dktJ19_compress_1 : List UInt8 := dkwJ19_compress_1 ++ dktJ19_compress_2
def dkwJ19_compress_0 : List UInt8 := [28, 188, 8, 78, 42, 27, 45, 3, 28, 184, 0, 123, 54, 4, 21, 4, 28, 159, 0, 47, 42, 27, 4, 120]
abbrev dktJ19_compress_0 : List UInt8 := dkwJ19_compress_0 ++ dktJ19_compress_1
theorem dksJ19_compress_0 : cJ19_compress.data.toList.drop 0 = dktJ19_compress_0 := by decide +kernel
theorem dksJ19_compress_1 : cJ19_compress.data.toList.drop 24 = dktJ19_compress_1 := dk_seg dksJ19_compress_0 24 rfl rfl
theorem dksJ19_compress_2 : cJ19_compress.data.toList.drop 48 = dktJ19_compress_2 := dk_seg dksJ19_compress_1 24 rfl rfl
theorem dJ19_compress_0 : decode cJ19_compress 0 = .ok (.iload_n 2, 1) := dk_28 (dk_at dksJ19_compress_0 0 rfl rfl)
theorem dJ19_compress_1 : decode cJ19_compress 1 = .ok (.newarray .byte, 2) := dk_188_8 (dk_at dksJ19_compress_0 1 rfl rfl)
theorem dJ19_compress_3 : decode cJ19_compress 3 = .ok (.astore_n 3, 1) := dk_78 (dk_at dksJ19_compress_0 3 rfl rfl)
theorem dJ19_compress_4 : decode cJ19_compress 4 = .ok (.aload_n 0, 1) := dk_42 (dk_at dksJ19_compress_0 4 rfl rfl)
theorem dJ19_compress_5 : decode cJ19_compress 5 = .ok (.iload_n 1, 1) := dk_27 (dk_at dksJ19_compress_0 5 rfl rfl)
theorem dJ19_compress_6 : decode cJ19_compress 6 = .ok (.aload_n 3, 1) := dk_45 (dk_at dksJ19_compress_0 6 rfl rfl)
theorem dJ19_compress_7 : decode cJ19_compress 7 = .ok (.iconst 0, 1) := dk_3 (dk_at dksJ19_compress_0 7 rfl rfl)
theorem dJ19_compress_8 : decode cJ19_compress 8 = .ok (.iload_n 2, 1) := dk_28 (dk_at dksJ19_compress_0 8 rfl rfl)
theorem dJ19_compress_9 : decode cJ19_compress 9 = .ok (.invokestatic 123, 3) := dk_184 0 123 (dk_at dksJ19_compress_0 9 rfl rfl)
theorem dJ19_compress_12 : decode cJ19_compress 12 = .ok (.istore 4, 2) := dk_54 4 (dk_at dksJ19_compress_0 12 rfl rfl)
theorem dJ19_compress_14 : decode cJ19_compress 14 = .ok (.iload 4, 2) := dk_21 4 (dk_at dksJ19_compress_0 14 rfl rfl)
theorem dJ19_compress_16 : decode cJ19_compress 16 = .ok (.iload_n 2, 1) := dk_28 (dk_at dksJ19_compress_0 16 rfl rfl)
theorem dJ19_compress_17 : decode cJ19_compress 17 = .ok (.if_icmp .eq 47, 3) := dk_159 0 47 (dk_at dksJ19_compress_0 17 rfl rfl)
theorem dJ19_compress_20 : decode cJ19_compress 20 = .ok (.aload_n 0, 1) := dk_42 (dk_at dksJ19_compress_0 20 rfl rfl)
theorem dJ19_compress_21 : decode cJ19_compress 21 = .ok (.iload_n 1, 1) := dk_27 (dk_at dksJ19_compress_0 21 rfl rfl)
theorem dJ19_compress_22 : decode cJ19_compress 22 = .ok (.iconst 1, 1) := dk_4 (dk_at dksJ19_compress_0 22 rfl rfl)
theorem dJ19_compress_23 : decode cJ19_compress 23 = .ok (.ishl, 1) := dk_120 (dk_at dksJ19_compress_0 23 rfl rfl)
theorem dJ19_compress_24 : decode cJ19_compress 24 = .ok (.iload_n 1, 1) := dk_27 (dk_at dksJ19_compress_1 0 rfl rfl)
theorem dJ19_compress_25 : decode cJ19_compress 25 = .ok (.iload_n 2, 1) := dk_28 (dk_at dksJ19_compress_1 1 rfl rfl)
theorem dJ19_compress_26 : decode cJ19_compress 26 = .ok (.iadd, 1) := dk_96 (dk_at dksJ19_compress_1 2 rfl rfl)
theorem dJ19_compress_27 : decode cJ19_compress 27 = .ok (.invokestatic 11, 3) := dk_184 0 11 (dk_at dksJ19_compress_1 3 rfl rfl)
theorem dJ19_compress_30 : decode cJ19_compress 30 = .ok (.invokestatic 126, 3) := dk_184 0 126 (dk_at dksJ19_compress_1 6 rfl rfl)
theorem dJ19_compress_33 : decode cJ19_compress 33 = .ok (.astore 5, 2) := dk_58 5 (dk_at dksJ19_compress_1 9 rfl rfl)
theorem dJ19_compress_35 : decode cJ19_compress 35 = .ok (.aload 5, 2) := dk_25 5 (dk_at dksJ19_compress_1 11 rfl rfl)
theorem dJ19_compress_37 : decode cJ19_compress 37 = .ok (.iload 4, 2) := dk_21 4 (dk_at dksJ19_compress_1 13 rfl rfl)
theorem dJ19_compress_39 : decode cJ19_compress 39 = .ok (.invokestatic 71, 3) := dk_184 0 71 (dk_at dksJ19_compress_1 15 rfl rfl)
theorem dJ19_compress_42 : decode cJ19_compress 42 = .ok (.sipush 255, 3) := dk_17 0 255 (dk_at dksJ19_compress_1 18 rfl rfl)
theorem dJ19_compress_45 : decode cJ19_compress 45 = .ok (.if_icmp .gt 16, 3) := dk_163 0 16 (dk_at dksJ19_compress_1 21 rfl rfl)
theorem dJ19_compress_48 : decode cJ19_compress 48 = .ok (.aload 5, 2) := dk_25 5 (dk_at dksJ19_compress_2 0 rfl rfl)
theorem dJ19_compress_50 : decode cJ19_compress 50 = .ok (.iconst 0, 1) := dk_3 (dk_at dksJ19_compress_2 2 rfl rfl)
theorem dJ19_compress_51 : decode cJ19_compress 51 = .ok (.aload_n 3, 1) := dk_45 (dk_at dksJ19_compress_2 3 rfl rfl)
theorem dJ19_compress_52 : decode cJ19_compress 52 = .ok (.iconst 0, 1) := dk_3 (dk_at dksJ19_compress_2 4 rfl rfl)
theorem dJ19_compress_53 : decode cJ19_compress 53 = .ok (.iload_n 2, 1) := dk_28 (dk_at dksJ19_compress_2 5 rfl rfl)
theorem dJ19_compress_54 : decode cJ19_compress 54 = .ok (.invokestatic 123, 3) := dk_184 0 123 (dk_at dksJ19_compress_2 6 rfl rfl)
theorem dJ19_compress_57 : decode cJ19_compress 57 = .ok (.iload_n 2, 1) := dk_28 (dk_at dksJ19_compress_2 9 rfl rfl)
theorem dJ19_compress_58 : decode cJ19_compress 58 = .ok (.if_icmp .eq 6, 3) := dk_159 0 6 (dk_at dksJ19_compress_2 10 rfl rfl)
theorem dJ19_compress_61 : decode cJ19_compress 61 = .ok (.aload 5, 2) := dk_25 5 (dk_at dksJ19_compress_2 13 rfl rfl)
theorem dJ19_compress_63 : decode cJ19_compress 63 = .ok (.areturn, 1) := dk_176 (dk_at dksJ19_compress_2 15 rfl rfl)
theorem dJ19_compress_64 : decode cJ19_compress 64 = .ok (.aload_n 3, 1) := dk_45 (dk_at dksJ19_compress_2 16 rfl rfl)
theorem dJ19_compress_65 : decode cJ19_compress 65 = .ok (.areturn, 1) := dk_176 (dk_at dksJ19_compress_2 17 rfl rfl)
abbrev cJ19_compress_2 : ByteArray := prog_40_method_22_code
def yJ19_compress_2 : MethodName := ⟨RJ19, "compress", "([BI[BII)I"⟩
def dkwJ19_compress_2_2 : List UInt8 := [132, 5, 1, 167, 255, 216, 21, 4, 172]
abbrev dktJ19_compress_2_2 : List UInt8 := dkwJ19_compress_2_2 ++ []
def dkwJ19_compress_2_1 : List UInt8 := [21, 6, 17, 0, 255, 164, 0, 6, 21, 5, 172, 44, 29, 21, 6, 145, 84, 132, 1, 1, 132, 3, 1]
abbrev dktJ19_compress_2_1 : List UInt8 := dkwJ19_compress_2_1 ++ dktJ19_compress_2_2
def dkwJ19_compress_2_0 : List UInt8 := [27, 21, 4, 42, 184, 0, 173, 3, 54, 5, 21, 5, 21, 4, 162, 0, 39, 42, 27, 184, 0, 71, 54, 6]
abbrev dktJ19_compress_2_0 : List UInt8 := dkwJ19_compress_2_0 ++ dktJ19_compress_2_1
theorem dksJ19_compress_2_0 : cJ19_compress_2.data.toList.drop 0 = dktJ19_compress_2_0 := by decide +kernel
theorem dksJ19_compress_2_1 : cJ19_compress_2.data.toList.drop 24 = dktJ19_compress_2_1 := dk_seg dksJ19_compress_2_0 24 rfl rfl
theorem dksJ19_compress_2_2 : cJ19_compress_2.data.toList.drop 47 = dktJ19_compress_2_2 := dk_seg dksJ19_compress_2_1 23 rfl rfl
theorem dJ19_compress_2_0 : decode cJ19_compress_2 0 = .ok (.iload_n 1, 1) := dk_27 (dk_at dksJ19_compress_2_0 0 rfl rfl)
theorem dJ19_compress_2_1 : decode cJ19_compress_2 1 = .ok (.iload 4, 2) := dk_21 4 (dk_at dksJ19_compress_2_0 1 rfl rfl)
theorem dJ19_compress_2_3 : decode cJ19_compress_2 3 = .ok (.aload_n 0, 1) := dk_42 (dk_at dksJ19_compress_2_0 3 rfl rfl)
theorem dJ19_compress_2_4 : decode cJ19_compress_2 4 = .ok (.invokestatic 173, 3) := dk_184 0 173 (dk_at dksJ19_compress_2_0 4 rfl rfl)
theorem dJ19_compress_2_7 : decode cJ19_compress_2 7 = .ok (.iconst 0, 1) := dk_3 (dk_at dksJ19_compress_2_0 7 rfl rfl)
theorem dJ19_compress_2_8 : decode cJ19_compress_2 8 = .ok (.istore 5, 2) := dk_54 5 (dk_at dksJ19_compress_2_0 8 rfl rfl)
theorem dJ19_compress_2_10 : decode cJ19_compress_2 10 = .ok (.iload 5, 2) := dk_21 5 (dk_at dksJ19_compress_2_0 10 rfl rfl)
theorem dJ19_compress_2_12 : decode cJ19_compress_2 12 = .ok (.iload 4, 2) := dk_21 4 (dk_at dksJ19_compress_2_0 12 rfl rfl)
theorem dJ19_compress_2_14 : decode cJ19_compress_2 14 = .ok (.if_icmp .ge 39, 3) := dk_162 0 39 (dk_at dksJ19_compress_2_0 14 rfl rfl)
theorem dJ19_compress_2_17 : decode cJ19_compress_2 17 = .ok (.aload_n 0, 1) := dk_42 (dk_at dksJ19_compress_2_0 17 rfl rfl)
theorem dJ19_compress_2_18 : decode cJ19_compress_2 18 = .ok (.iload_n 1, 1) := dk_27 (dk_at dksJ19_compress_2_0 18 rfl rfl)
theorem dJ19_compress_2_19 : decode cJ19_compress_2 19 = .ok (.invokestatic 71, 3) := dk_184 0 71 (dk_at dksJ19_compress_2_0 19 rfl rfl)
theorem dJ19_compress_2_22 : decode cJ19_compress_2 22 = .ok (.istore 6, 2) := dk_54 6 (dk_at dksJ19_compress_2_0 22 rfl rfl)
theorem dJ19_compress_2_24 : decode cJ19_compress_2 24 = .ok (.iload 6, 2) := dk_21 6 (dk_at dksJ19_compress_2_1 0 rfl rfl)
theorem dJ19_compress_2_26 : decode cJ19_compress_2 26 = .ok (.sipush 255, 3) := dk_17 0 255 (dk_at dksJ19_compress_2_1 2 rfl rfl)
theorem dJ19_compress_2_29 : decode cJ19_compress_2 29 = .ok (.if_icmp .le 6, 3) := dk_164 0 6 (dk_at dksJ19_compress_2_1 5 rfl rfl)
theorem dJ19_compress_2_32 : decode cJ19_compress_2 32 = .ok (.iload 5, 2) := dk_21 5 (dk_at dksJ19_compress_2_1 8 rfl rfl)
theorem dJ19_compress_2_34 : decode cJ19_compress_2 34 = .ok (.ireturn, 1) := dk_172 (dk_at dksJ19_compress_2_1 10 rfl rfl)
theorem dJ19_compress_2_35 : decode cJ19_compress_2 35 = .ok (.aload_n 2, 1) := dk_44 (dk_at dksJ19_compress_2_1 11 rfl rfl)
theorem dJ19_compress_2_36 : decode cJ19_compress_2 36 = .ok (.iload_n 3, 1) := dk_29 (dk_at dksJ19_compress_2_1 12 rfl rfl)
theorem dJ19_compress_2_37 : decode cJ19_compress_2 37 = .ok (.iload 6, 2) := dk_21 6 (dk_at dksJ19_compress_2_1 13 rfl rfl)
theorem dJ19_compress_2_39 : decode cJ19_compress_2 39 = .ok (.i2b, 1) := dk_145 (dk_at dksJ19_compress_2_1 15 rfl rfl)
theorem dJ19_compress_2_40 : decode cJ19_compress_2 40 = .ok (.bastore, 1) := dk_84 (dk_at dksJ19_compress_2_1 16 rfl rfl)
theorem dJ19_compress_2_41 : decode cJ19_compress_2 41 = .ok (.iinc 1 1, 3) := dk_132 1 1 (dk_at dksJ19_compress_2_1 17 rfl rfl)
theorem dJ19_compress_2_44 : decode cJ19_compress_2 44 = .ok (.iinc 3 1, 3) := dk_132 3 1 (dk_at dksJ19_compress_2_1 20 rfl rfl)
theorem dJ19_compress_2_47 : decode cJ19_compress_2 47 = .ok (.iinc 5 1, 3) := dk_132 5 1 (dk_at dksJ19_compress_2_2 0 rfl rfl)
theorem dJ19_compress_2_50 : decode cJ19_compress_2 50 = .ok (.goto (-40), 3) := dk_167 255 216 (dk_at dksJ19_compress_2_2 3 rfl rfl)
theorem dJ19_compress_2_53 : decode cJ19_compress_2 53 = .ok (.iload 4, 2) := dk_21 4 (dk_at dksJ19_compress_2_2 6 rfl rfl)
theorem dJ19_compress_2_55 : decode cJ19_compress_2 55 = .ok (.ireturn, 1) := dk_172 (dk_at dksJ19_compress_2_2 8 rfl rfl)
abbrev cJ19_coderFromArrayLen : ByteArray := prog_40_method_15_code
def yJ19_coderFromArrayLen : MethodName := ⟨RJ19, "coderFromArrayLen", "([BI)B"⟩
def dkwJ19_coderFromArrayLen_0 : List UInt8 := [27, 42, 190, 100, 16, 31, 124, 145, 172]
abbrev dktJ19_coderFromArrayLen_0 : List UInt8 := dkwJ19_coderFromArrayLen_0 ++ []
theorem dksJ19_coderFromArrayLen_0 : cJ19_coderFromArrayLen.data.toList.drop 0 = dktJ19_coderFromArrayLen_0 := by decide +kernel
theorem dJ19_coderFromArrayLen_0 : decode cJ19_coderFromArrayLen 0 = .ok (.iload_n 1, 1) := dk_27 (dk_at dksJ19_coderFromArrayLen_0 0 rfl rfl)
theorem dJ19_coderFromArrayLen_1 : decode cJ19_coderFromArrayLen 1 = .ok (.aload_n 0, 1) := dk_42 (dk_at dksJ19_coderFromArrayLen_0 1 rfl rfl)
theorem dJ19_coderFromArrayLen_2 : decode cJ19_coderFromArrayLen 2 = .ok (.arraylength, 1) := dk_190 (dk_at dksJ19_coderFromArrayLen_0 2 rfl rfl)
theorem dJ19_coderFromArrayLen_3 : decode cJ19_coderFromArrayLen 3 = .ok (.isub, 1) := dk_100 (dk_at dksJ19_coderFromArrayLen_0 3 rfl rfl)
theorem dJ19_coderFromArrayLen_4 : decode cJ19_coderFromArrayLen 4 = .ok (.bipush 31, 2) := dk_16 31 (dk_at dksJ19_coderFromArrayLen_0 4 rfl rfl)
theorem dJ19_coderFromArrayLen_6 : decode cJ19_coderFromArrayLen 6 = .ok (.iushr, 1) := dk_124 (dk_at dksJ19_coderFromArrayLen_0 6 rfl rfl)
theorem dJ19_coderFromArrayLen_7 : decode cJ19_coderFromArrayLen 7 = .ok (.i2b, 1) := dk_145 (dk_at dksJ19_coderFromArrayLen_0 7 rfl rfl)
theorem dJ19_coderFromArrayLen_8 : decode cJ19_coderFromArrayLen 8 = .ok (.ireturn, 1) := dk_172 (dk_at dksJ19_coderFromArrayLen_0 8 rfl rfl)
abbrev cJ19_putCharSB : ByteArray := prog_40_method_71_code
def yJ19_putCharSB : MethodName := ⟨RJ19, "putCharSB", "([BII)V"⟩
def dkwJ19_putCharSB_0 : List UInt8 := [27, 42, 184, 0, 67, 42, 27, 28, 184, 0, 111, 177]
abbrev dktJ19_putCharSB_0 : List UInt8 := dkwJ19_putCharSB_0 ++ []
theorem dksJ19_putCharSB_0 : cJ19_putCharSB.data.toList.drop 0 = dktJ19_putCharSB_0 := by decide +kernel
theorem dJ19_putCharSB_0 : decode cJ19_putCharSB 0 = .ok (.iload_n 1, 1) := dk_27 (dk_at dksJ19_putCharSB_0 0 rfl rfl)
theorem dJ19_putCharSB_1 : decode cJ19_putCharSB 1 = .ok (.aload_n 0, 1) := dk_42 (dk_at dksJ19_putCharSB_0 1 rfl rfl)
theorem dJ19_putCharSB_2 : decode cJ19_putCharSB 2 = .ok (.invokestatic 67, 3) := dk_184 0 67 (dk_at dksJ19_putCharSB_0 2 rfl rfl)
theorem dJ19_putCharSB_5 : decode cJ19_putCharSB 5 = .ok (.aload_n 0, 1) := dk_42 (dk_at dksJ19_putCharSB_0 5 rfl rfl)
theorem dJ19_putCharSB_6 : decode cJ19_putCharSB 6 = .ok (.iload_n 1, 1) := dk_27 (dk_at dksJ19_putCharSB_0 6 rfl rfl)
theorem dJ19_putCharSB_7 : decode cJ19_putCharSB 7 = .ok (.iload_n 2, 1) := dk_28 (dk_at dksJ19_putCharSB_0 7 rfl rfl)
theorem dJ19_putCharSB_8 : decode cJ19_putCharSB 8 = .ok (.invokestatic 111, 3) := dk_184 0 111 (dk_at dksJ19_putCharSB_0 8 rfl rfl)
theorem dJ19_putCharSB_11 : decode cJ19_putCharSB 11 = .ok (.return_, 1) := dk_177 (dk_at dksJ19_putCharSB_0 11 rfl rfl)
theorem q66 : (Jvm.Cond.initialized "java/lang/StringUTF16") ∈ lw_all := lw_g (lw_at lw_m1 33 rfl) rfl
theorem q769 : (Jvm.Cond.static ({ cls := "java/lang/StringUTF16", name := "charAt", desc := "([BI)C" } : Jvm.MethodName)) ∈ lw_all := lw_g (lw_at lw_m4 16 rfl) rfl
theorem q770 : (Jvm.Cond.code ({ cls := "java/lang/StringUTF16", name := "charAt", desc := "([BI)C" } : Jvm.MethodName) prog_40_method_83_code (2 : Nat) (Option.some Jvm.ClassFile.FieldType.char)) ∈ lw_all := lw_g (lw_at lw_m4 17 rfl) rfl
theorem q771 : (Jvm.Cond.methodLink "java/lang/StringUTF16" (67 : Nat) ({ cls := "java/lang/StringUTF16", name := "checkIndex", desc := "(I[B)V" } : Jvm.MethodName)) ∈ lw_all := lw_g (lw_at lw_m4 18 rfl) rfl
theorem q772 : (Jvm.Cond.static ({ cls := "java/lang/StringUTF16", name := "checkIndex", desc := "(I[B)V" } : Jvm.MethodName)) ∈ lw_all := lw_g (lw_at lw_m4 19 rfl) rfl
theorem q773 : (Jvm.Cond.code ({ cls := "java/lang/StringUTF16", name := "checkIndex", desc := "(I[B)V" } : Jvm.MethodName) prog_40_method_91_code (2 : Nat) (Option.none : Option Jvm.ClassFile.FieldType)) ∈ lw_all := lw_g (lw_at lw_m4 20 rfl) rfl
theorem q774 : (Jvm.Cond.methodLink "java/lang/StringUTF16" (48 : Nat) ({ cls := "java/lang/StringUTF16", name := "length", desc := "([B)I" } : Jvm.MethodName)) ∈ lw_all := lw_g (lw_at lw_m4 21 rfl) rfl
theorem q775 : (Jvm.Cond.static ({ cls := "java/lang/StringUTF16", name := "length", desc := "([B)I" } : Jvm.MethodName)) ∈ lw_all := lw_g (lw_at lw_m4 22 rfl) rfl
theorem q776 : (Jvm.Cond.code ({ cls := "java/lang/StringUTF16", name := "length", desc := "([B)I" } : Jvm.MethodName) prog_40_method_6_code (1 : Nat) (Option.some Jvm.ClassFile.FieldType.int)) ∈ lw_all := lw_g (lw_at lw_m4 23 rfl) rfl
theorem q777 : (Jvm.Cond.methodLink "java/lang/StringUTF16" (414 : Nat) ({ cls := "java/lang/String", name := "checkIndex", desc := "(II)V" } : Jvm.MethodName)) ∈ lw_all := lw_g (lw_at lw_m4 24 rfl) rfl
theorem q778 : (Jvm.Cond.methodLink "java/lang/StringUTF16" (71 : Nat) ({ cls := "java/lang/StringUTF16", name := "getChar", desc := "([BI)C" } : Jvm.MethodName)) ∈ lw_all := lw_g (lw_at lw_m4 25 rfl) rfl
theorem q779 : (Jvm.Cond.static ({ cls := "java/lang/StringUTF16", name := "getChar", desc := "([BI)C" } : Jvm.MethodName)) ∈ lw_all := lw_g (lw_at lw_m4 26 rfl) rfl
theorem q780 : (Jvm.Cond.code ({ cls := "java/lang/StringUTF16", name := "getChar", desc := "([BI)C" } : Jvm.MethodName) prog_40_method_5_code (2 : Nat) (Option.some Jvm.ClassFile.FieldType.char)) ∈ lw_all := lw_g (lw_at lw_m4 27 rfl) rfl
theorem q781 : (Jvm.Cond.fieldLink "java/lang/StringUTF16" (44 : Nat) "java/lang/StringUTF16" "$assertionsDisabled" "Z") ∈ lw_all := lw_g (lw_at lw_m4 28 rfl) rfl
theorem q782 : (Jvm.Cond.laysStatic "java/lang/StringUTF16" "$assertionsDisabled" "Z") ∈ lw_tbl := lw_at lw_m4 29 rfl
theorem q783 : (Jvm.Cond.fieldLink "java/lang/StringUTF16" (59 : Nat) "java/lang/StringUTF16" "HI_BYTE_SHIFT" "I") ∈ lw_all := lw_g (lw_at lw_m4 30 rfl) rfl
theorem q784 : (Jvm.Cond.laysStatic "java/lang/StringUTF16" "HI_BYTE_SHIFT" "I") ∈ lw_tbl := lw_at lw_m4 31 rfl
theorem q785 : (Jvm.Cond.fieldLink "java/lang/StringUTF16" (63 : Nat) "java/lang/StringUTF16" "LO_BYTE_SHIFT" "I") ∈ lw_all := lw_g (lw_at lw_m4 32 rfl) rfl
theorem q786 : (Jvm.Cond.laysStatic "java/lang/StringUTF16" "LO_BYTE_SHIFT" "I") ∈ lw_tbl := lw_at lw_m4 33 rfl
theorem q841 : (Jvm.Cond.static ({ cls := "java/lang/StringUTF16", name := "newBytesFor", desc := "(I)[B" } : Jvm.MethodName)) ∈ lw_all := lw_g (lw_at lw_m4 88 rfl) rfl
theorem q842 : (Jvm.Cond.code ({ cls := "java/lang/StringUTF16", name := "newBytesFor", desc := "(I)[B" } : Jvm.MethodName) prog_40_method_2_code (1 : Nat) (Option.some (Jvm.ClassFile.FieldType.array Jvm.ClassFile.FieldType.byte))) ∈ lw_all := lw_g (lw_at lw_m4 89 rfl) rfl
theorem q843 : (Jvm.Cond.methodLink "java/lang/StringUTF16" (11 : Nat) ({ cls := "java/lang/StringUTF16", name := "newBytesLength", desc := "(I)I" } : Jvm.MethodName)) ∈ lw_all := lw_g (lw_at lw_m4 90 rfl) rfl
theorem q844 : (Jvm.Cond.static ({ cls := "java/lang/StringUTF16", name := "newBytesLength", desc := "(I)I" } : Jvm.MethodName)) ∈ lw_all := lw_g (lw_at lw_m4 91 rfl) rfl
theorem q845 : (Jvm.Cond.code ({ cls := "java/lang/StringUTF16", name := "newBytesLength", desc := "(I)I" } : Jvm.MethodName) prog_40_method_3_code (1 : Nat) (Option.some Jvm.ClassFile.FieldType.int)) ∈ lw_all := lw_g (lw_at lw_m4 92 rfl) rfl
theorem q846 : (Jvm.Cond.constant "java/lang/StringUTF16" (20 : Nat) (1073741823 : Int32)) ∈ lw_all := lw_g (lw_at lw_m4 93 rfl) rfl
theorem q898 : (Jvm.Cond.static ({ cls := "java/lang/StringUTF16", name := "putCharsAt", desc := "([BICCCC)I" } : Jvm.MethodName)) ∈ lw_all := lw_g (lw_at lw_m4 145 rfl) rfl
theorem q899 : (Jvm.Cond.code ({ cls := "java/lang/StringUTF16", name := "putCharsAt", desc := "([BICCCC)I" } : Jvm.MethodName) prog_40_method_81_code (7 : Nat) (Option.some Jvm.ClassFile.FieldType.int)) ∈ lw_all := lw_g (lw_at lw_m4 146 rfl) rfl
theorem q900 : (Jvm.Cond.methodLink "java/lang/StringUTF16" (96 : Nat) ({ cls := "java/lang/StringUTF16", name := "checkBoundsBeginEnd", desc := "(II[B)V" } : Jvm.MethodName)) ∈ lw_all := lw_g (lw_at lw_m4 147 rfl) rfl
theorem q901 : (Jvm.Cond.static ({ cls := "java/lang/StringUTF16", name := "checkBoundsBeginEnd", desc := "(II[B)V" } : Jvm.MethodName)) ∈ lw_all := lw_g (lw_at lw_m4 148 rfl) rfl
theorem q902 : (Jvm.Cond.code ({ cls := "java/lang/StringUTF16", name := "checkBoundsBeginEnd", desc := "(II[B)V" } : Jvm.MethodName) prog_40_method_93_code (3 : Nat) (Option.none : Option Jvm.ClassFile.FieldType)) ∈ lw_all := lw_g (lw_at lw_m4 149 rfl) rfl
theorem q903 : (Jvm.Cond.methodLink "java/lang/StringUTF16" (241 : Nat) ({ cls := "java/lang/String", name := "checkBoundsBeginEnd", desc := "(III)V" } : Jvm.MethodName)) ∈ lw_all := lw_g (lw_at lw_m4 150 rfl) rfl
theorem q909 : (Jvm.Cond.methodLink "java/lang/StringUTF16" (111 : Nat) ({ cls := "java/lang/StringUTF16", name := "putChar", desc := "([BII)V" } : Jvm.MethodName)) ∈ lw_all := lw_g (lw_at lw_m4 156 rfl) rfl
theorem q910 : (Jvm.Cond.static ({ cls := "java/lang/StringUTF16", name := "putChar", desc := "([BII)V" } : Jvm.MethodName)) ∈ lw_all := lw_g (lw_at lw_m4 157 rfl) rfl
theorem q911 : (Jvm.Cond.code ({ cls := "java/lang/StringUTF16", name := "putChar", desc := "([BII)V" } : Jvm.MethodName) prog_40_method_4_code (3 : Nat) (Option.none : Option Jvm.ClassFile.FieldType)) ∈ lw_all := lw_g (lw_at lw_m4 158 rfl) rfl
theorem q930 : (Jvm.Cond.static ({ cls := "java/lang/StringUTF16", name := "inflate", desc := "([BI[BII)V" } : Jvm.MethodName)) ∈ lw_all := lw_g (lw_at lw_m4 177 rfl) rfl
theorem q931 : (Jvm.Cond.code ({ cls := "java/lang/StringUTF16", name := "inflate", desc := "([BI[BII)V" } : Jvm.MethodName) prog_40_method_86_code (6 : Nat) (Option.none : Option Jvm.ClassFile.FieldType)) ∈ lw_all := lw_g (lw_at lw_m4 178 rfl) rfl
theorem q932 : (Jvm.Cond.methodLink "java/lang/StringUTF16" (173 : Nat) ({ cls := "java/lang/StringUTF16", name := "checkBoundsOffCount", desc := "(II[B)V" } : Jvm.MethodName)) ∈ lw_all := lw_g (lw_at lw_m4 179 rfl) rfl
theorem q933 : (Jvm.Cond.static ({ cls := "java/lang/StringUTF16", name := "checkBoundsOffCount", desc := "(II[B)V" } : Jvm.MethodName)) ∈ lw_all := lw_g (lw_at lw_m4 180 rfl) rfl
theorem q934 : (Jvm.Cond.code ({ cls := "java/lang/StringUTF16", name := "checkBoundsOffCount", desc := "(II[B)V" } : Jvm.MethodName) prog_40_method_94_code (3 : Nat) (Option.none : Option Jvm.ClassFile.FieldType)) ∈ lw_all := lw_g (lw_at lw_m4 181 rfl) rfl
theorem q935 : (Jvm.Cond.methodLink "java/lang/StringUTF16" (419 : Nat) ({ cls := "java/lang/String", name := "checkBoundsOffCount", desc := "(III)I" } : Jvm.MethodName)) ∈ lw_all := lw_g (lw_at lw_m4 182 rfl) rfl
theorem q965 : (Jvm.Cond.static ({ cls := "java/lang/StringUTF16", name := "getChars", desc := "(III[B)I" } : Jvm.MethodName)) ∈ lw_all := lw_g (lw_at lw_m4 212 rfl) rfl
theorem q966 : (Jvm.Cond.code ({ cls := "java/lang/StringUTF16", name := "getChars", desc := "(III[B)I" } : Jvm.MethodName) prog_40_method_77_code (5 : Nat) (Option.some Jvm.ClassFile.FieldType.int)) ∈ lw_all := lw_g (lw_at lw_m4 213 rfl) rfl
theorem q967 : (Jvm.Cond.methodLink "java/lang/StringUTF16" (393 : Nat) ({ cls := "java/lang/StringUTF16", name := "getChars", desc := "(II[B)I" } : Jvm.MethodName)) ∈ lw_all := lw_g (lw_at lw_m4 214 rfl) rfl
theorem q968 : (Jvm.Cond.static ({ cls := "java/lang/StringUTF16", name := "getChars", desc := "(II[B)I" } : Jvm.MethodName)) ∈ lw_all := lw_g (lw_at lw_m4 215 rfl) rfl
theorem q969 : (Jvm.Cond.code ({ cls := "java/lang/StringUTF16", name := "getChars", desc := "(II[B)I" } : Jvm.MethodName) prog_40_method_89_code (7 : Nat) (Option.some Jvm.ClassFile.FieldType.int)) ∈ lw_all := lw_g (lw_at lw_m4 216 rfl) rfl
theorem q970 : (Jvm.Cond.fieldLink "java/lang/StringUTF16" (403 : Nat) "java/lang/Integer" "DigitOnes" "[B") ∈ lw_all := lw_g (lw_at lw_m4 217 rfl) rfl
theorem q971 : (Jvm.Cond.fieldLink "java/lang/StringUTF16" (407 : Nat) "java/lang/Integer" "DigitTens" "[B") ∈ lw_all := lw_g (lw_at lw_m4 218 rfl) rfl
theorem q1029 : (Jvm.Cond.static ({ cls := "java/lang/StringUTF16", name := "compress", desc := "([BII)[B" } : Jvm.MethodName)) ∈ lw_all := lw_g (lw_at lw_m5 36 rfl) rfl
theorem q1030 : (Jvm.Cond.code ({ cls := "java/lang/StringUTF16", name := "compress", desc := "([BII)[B" } : Jvm.MethodName) prog_40_method_17_code (6 : Nat) (Option.some (Jvm.ClassFile.FieldType.array Jvm.ClassFile.FieldType.byte))) ∈ lw_all := lw_g (lw_at lw_m5 37 rfl) rfl
theorem q1031 : (Jvm.Cond.methodLink "java/lang/StringUTF16" (123 : Nat) ({ cls := "java/lang/StringUTF16", name := "compress", desc := "([BI[BII)I" } : Jvm.MethodName)) ∈ lw_all := lw_g (lw_at lw_m5 38 rfl) rfl
theorem q1032 : (Jvm.Cond.static ({ cls := "java/lang/StringUTF16", name := "compress", desc := "([BI[BII)I" } : Jvm.MethodName)) ∈ lw_all := lw_g (lw_at lw_m5 39 rfl) rfl
theorem q1033 : (Jvm.Cond.code ({ cls := "java/lang/StringUTF16", name := "compress", desc := "([BI[BII)I" } : Jvm.MethodName) prog_40_method_22_code (7 : Nat) (Option.some Jvm.ClassFile.FieldType.int)) ∈ lw_all := lw_g (lw_at lw_m5 40 rfl) rfl
theorem q1034 : (Jvm.Cond.methodLink "java/lang/StringUTF16" (126 : Nat) ({ cls := "java/util/Arrays", name := "copyOfRange", desc := "([BII)[B" } : Jvm.MethodName)) ∈ lw_all := lw_g (lw_at lw_m5 41 rfl) rfl
theorem q1036 : (Jvm.Cond.static ({ cls := "java/lang/StringUTF16", name := "coderFromArrayLen", desc := "([BI)B" } : Jvm.MethodName)) ∈ lw_all := lw_g (lw_at lw_m5 43 rfl) rfl
theorem q1037 : (Jvm.Cond.code ({ cls := "java/lang/StringUTF16", name := "coderFromArrayLen", desc := "([BI)B" } : Jvm.MethodName) prog_40_method_15_code (2 : Nat) (Option.some Jvm.ClassFile.FieldType.byte)) ∈ lw_all := lw_g (lw_at lw_m5 44 rfl) rfl
theorem q1124 : (Jvm.Cond.static ({ cls := "java/lang/StringUTF16", name := "putCharSB", desc := "([BII)V" } : Jvm.MethodName)) ∈ lw_all := lw_g (lw_at lw_m5 131 rfl) rfl
theorem q1125 : (Jvm.Cond.code ({ cls := "java/lang/StringUTF16", name := "putCharSB", desc := "([BII)V" } : Jvm.MethodName) prog_40_method_71_code (3 : Nat) (Option.none : Option Jvm.ClassFile.FieldType)) ∈ lw_all := lw_g (lw_at lw_m5 132 rfl) rfl

/-! java/util/Objects -/
set_option maxRecDepth 100000
def RJ20 : String := "java/util/Objects"
abbrev cJ20_checkIndex : ByteArray := prog_65_method_17_code
def yJ20_checkIndex : MethodName := ⟨RJ20, "checkIndex", "(II)I"⟩
def dkwJ20_checkIndex_0 : List UInt8 := [26, 27, 1, 184, 0, 105, 172]
abbrev dktJ20_checkIndex_0 : List UInt8 := dkwJ20_checkIndex_0 ++ []
theorem dksJ20_checkIndex_0 : cJ20_checkIndex.data.toList.drop 0 = dktJ20_checkIndex_0 := by decide +kernel
theorem dJ20_checkIndex_0 : decode cJ20_checkIndex 0 = .ok (.iload_n 0, 1) := dk_26 (dk_at dksJ20_checkIndex_0 0 rfl rfl)
theorem dJ20_checkIndex_1 : decode cJ20_checkIndex 1 = .ok (.iload_n 1, 1) := dk_27 (dk_at dksJ20_checkIndex_0 1 rfl rfl)
theorem dJ20_checkIndex_2 : decode cJ20_checkIndex 2 = .ok (.aconst_null, 1) := dk_1 (dk_at dksJ20_checkIndex_0 2 rfl rfl)
theorem dJ20_checkIndex_3 : decode cJ20_checkIndex 3 = .ok (.invokestatic 105, 3) := dk_184 0 105 (dk_at dksJ20_checkIndex_0 3 rfl rfl)
theorem dJ20_checkIndex_6 : decode cJ20_checkIndex 6 = .ok (.ireturn, 1) := dk_172 (dk_at dksJ20_checkIndex_0 6 rfl rfl)
theorem q67 : (Jvm.Cond.initialized "java/util/Objects") ∈ lw_all := lw_g (lw_at lw_m1 34 rfl) rfl
theorem q797 : (Jvm.Cond.static ({ cls := "java/util/Objects", name := "checkIndex", desc := "(II)I" } : Jvm.MethodName)) ∈ lw_all := lw_g (lw_at lw_m4 44 rfl) rfl
theorem q798 : (Jvm.Cond.code ({ cls := "java/util/Objects", name := "checkIndex", desc := "(II)I" } : Jvm.MethodName) prog_65_method_17_code (2 : Nat) (Option.some Jvm.ClassFile.FieldType.int)) ∈ lw_all := lw_g (lw_at lw_m4 45 rfl) rfl
theorem q799 : (Jvm.Cond.methodLink "java/util/Objects" (105 : Nat) ({ cls := "jdk/internal/util/Preconditions", name := "checkIndex", desc := "(IILjava/util/function/BiFunction;)I" } : Jvm.MethodName)) ∈ lw_all := lw_g (lw_at lw_m4 46 rfl) rfl

/-! java/lang/IndexOutOfBoundsException -/
set_option maxRecDepth 100000
def RJ21 : String := "java/lang/IndexOutOfBoundsException"
def TJ21 : u_T := fun k => match k with
  | 0 => ("java/lang/Throwable", "cause", "Ljava/lang/Throwable;", false)
  | 1 => ("java/lang/Throwable", "stackTrace", "[Ljava/lang/StackTraceElement;", false)
  | 2 => ("java/lang/Throwable", "suppressedExceptions", "Ljava/util/List;", false)
  | 3 => ("java/lang/Throwable", "detailMessage", "Ljava/lang/String;", false)
  | 4 => ("java/lang/Throwable", "backtrace", "Ljava/lang/Object;", false)
  | _ => ("java/lang/Throwable", "depth", "I", false)
def tyJ21 : Nat → FieldType := fun k => match k with
  | 0 => .object "java/lang/Throwable"
  | 1 => .array (.object "java/lang/StackTraceElement")
  | 2 => .object "java/util/List"
  | 3 => .object "java/lang/String"
  | 4 => .object "java/lang/Object"
  | _ => .int
abbrev wsJ210 : List Cond := u_ws RJ21 TJ21 6
theorem nmJ21 : ∀ a, a < 6 → ∀ b, b < 6 → a ≠ b → (TJ21 a).2.1 ≠ (TJ21 b).2.1 := by decide +kernel
theorem tyJ21_ok : ∀ k, k < 6 → parseFieldDescriptor (TJ21 k).2.2.1 = some (tyJ21 k) := by decide +kernel
abbrev cJ21_init : ByteArray := prog_30_method_2_code
def yJ21_init : MethodName := ⟨RJ21, "<init>", "(Ljava/lang/String;)V"⟩
def dkwJ21_init_0 : List UInt8 := [42, 43, 183, 0, 7, 177]
abbrev dktJ21_init_0 : List UInt8 := dkwJ21_init_0 ++ []
theorem dksJ21_init_0 : cJ21_init.data.toList.drop 0 = dktJ21_init_0 := by decide +kernel
theorem dJ21_init_0 : decode cJ21_init 0 = .ok (.aload_n 0, 1) := dk_42 (dk_at dksJ21_init_0 0 rfl rfl)
theorem dJ21_init_1 : decode cJ21_init 1 = .ok (.aload_n 1, 1) := dk_43 (dk_at dksJ21_init_0 1 rfl rfl)
theorem dJ21_init_2 : decode cJ21_init 2 = .ok (.invokespecial 7, 3) := dk_183 0 7 (dk_at dksJ21_init_0 2 rfl rfl)
theorem dJ21_init_5 : decode cJ21_init 5 = .ok (.return_, 1) := dk_177 (dk_at dksJ21_init_0 5 rfl rfl)
abbrev cJ21_init_2 : ByteArray := prog_30_method_1_code
def yJ21_init_2 : MethodName := ⟨RJ21, "<init>", "()V"⟩
theorem dJ21_init_2_0 : decode cJ21_init_2 0 = .ok (.aload_n 0, 1) := by decide +kernel
theorem dJ21_init_2_1 : decode cJ21_init_2 1 = .ok (.invokespecial 1, 3) := by decide +kernel
theorem dJ21_init_2_4 : decode cJ21_init_2 4 = .ok (.return_, 1) := by decide +kernel
theorem q68 : (Jvm.Cond.initialized "java/lang/IndexOutOfBoundsException") ∈ lw_all := lw_g (lw_at lw_m1 35 rfl) rfl
theorem q294 : (Jvm.Cond.selects "java/lang/IndexOutOfBoundsException" ({ cls := "java/lang/Object", name := "getClass", desc := "()Ljava/lang/Class;" } : Jvm.MethodName) ({ cls := "java/lang/Object", name := "getClass", desc := "()Ljava/lang/Class;" } : Jvm.MethodName)) ∈ lw_all := lw_g (lw_at lw_m2 21 rfl) rfl
theorem q612 : (Jvm.Cond.selects "java/lang/IndexOutOfBoundsException" ({ cls := "java/lang/Throwable", name := "fillInStackTrace", desc := "()Ljava/lang/Throwable;" } : Jvm.MethodName) ({ cls := "java/lang/Throwable", name := "fillInStackTrace", desc := "()Ljava/lang/Throwable;" } : Jvm.MethodName)) ∈ lw_all := lw_g (lw_at lw_m3 99 rfl) rfl
theorem q818 : (Jvm.Cond.instantiable "java/lang/IndexOutOfBoundsException" (6 : Nat)) ∈ lw_all := lw_g (lw_at lw_m4 65 rfl) rfl
theorem q819 : (Jvm.Cond.castable "java/lang/IndexOutOfBoundsException" "java/lang/IndexOutOfBoundsException") ∈ lw_tbl := lw_at lw_m4 66 rfl
theorem q820 : (Jvm.Cond.selects "java/lang/IndexOutOfBoundsException" ({ cls := "java/lang/Throwable", name := "fillInStackTrace", desc := "(I)Ljava/lang/Throwable;" } : Jvm.MethodName) ({ cls := "java/lang/Throwable", name := "fillInStackTrace", desc := "(I)Ljava/lang/Throwable;" } : Jvm.MethodName)) ∈ lw_all := lw_g (lw_at lw_m4 67 rfl) rfl
theorem q821 : (Jvm.Cond.lays "java/lang/IndexOutOfBoundsException" "java/lang/Throwable" "cause" "Ljava/lang/Throwable;") ∈ lw_all := lw_g (lw_at lw_m4 68 rfl) rfl
theorem q822 : (Jvm.Cond.lays "java/lang/IndexOutOfBoundsException" "java/lang/Throwable" "stackTrace" "[Ljava/lang/StackTraceElement;") ∈ lw_all := lw_g (lw_at lw_m4 69 rfl) rfl
theorem q823 : (Jvm.Cond.lays "java/lang/IndexOutOfBoundsException" "java/lang/Throwable" "suppressedExceptions" "Ljava/util/List;") ∈ lw_all := lw_g (lw_at lw_m4 70 rfl) rfl
theorem q824 : (Jvm.Cond.lays "java/lang/IndexOutOfBoundsException" "java/lang/Throwable" "detailMessage" "Ljava/lang/String;") ∈ lw_all := lw_g (lw_at lw_m4 71 rfl) rfl
theorem q825 : (Jvm.Cond.lays "java/lang/IndexOutOfBoundsException" "java/lang/Throwable" "backtrace" "Ljava/lang/Object;") ∈ lw_all := lw_g (lw_at lw_m4 72 rfl) rfl
theorem q1050 : (Jvm.Cond.instanceMethod ({ cls := "java/lang/IndexOutOfBoundsException", name := "<init>", desc := "(Ljava/lang/String;)V" } : Jvm.MethodName)) ∈ lw_all := lw_g (lw_at lw_m5 57 rfl) rfl
theorem q1051 : (Jvm.Cond.code ({ cls := "java/lang/IndexOutOfBoundsException", name := "<init>", desc := "(Ljava/lang/String;)V" } : Jvm.MethodName) prog_30_method_2_code (2 : Nat) (Option.none : Option Jvm.ClassFile.FieldType)) ∈ lw_all := lw_g (lw_at lw_m5 58 rfl) rfl
theorem q1052 : (Jvm.Cond.methodLink "java/lang/IndexOutOfBoundsException" (7 : Nat) ({ cls := "java/lang/RuntimeException", name := "<init>", desc := "(Ljava/lang/String;)V" } : Jvm.MethodName)) ∈ lw_all := lw_g (lw_at lw_m5 59 rfl) rfl
theorem q1053 : (Jvm.Cond.lays "java/lang/IndexOutOfBoundsException" "java/lang/Throwable" "depth" "I") ∈ lw_all := lw_g (lw_at lw_m5 60 rfl) rfl
theorem q1054 : (Jvm.Cond.superclass "java/lang/IndexOutOfBoundsException" "java/lang/RuntimeException") ∈ lw_all := lw_g (lw_at lw_m5 61 rfl) rfl
theorem q1466 : (Jvm.Cond.selects "java/lang/IndexOutOfBoundsException" ({ cls := "java/lang/Throwable", name := "toString", desc := "()Ljava/lang/String;" } : Jvm.MethodName) ({ cls := "java/lang/Throwable", name := "toString", desc := "()Ljava/lang/String;" } : Jvm.MethodName)) ∈ lw_all := lw_g (lw_at lw_m6 233 rfl) rfl
theorem q1478 : (Jvm.Cond.selects "java/lang/IndexOutOfBoundsException" ({ cls := "java/lang/Throwable", name := "getLocalizedMessage", desc := "()Ljava/lang/String;" } : Jvm.MethodName) ({ cls := "java/lang/Throwable", name := "getLocalizedMessage", desc := "()Ljava/lang/String;" } : Jvm.MethodName)) ∈ lw_all := lw_g (lw_at lw_m7 5 rfl) rfl
theorem q1489 : (Jvm.Cond.selects "java/lang/IndexOutOfBoundsException" ({ cls := "java/lang/Throwable", name := "getMessage", desc := "()Ljava/lang/String;" } : Jvm.MethodName) ({ cls := "java/lang/Throwable", name := "getMessage", desc := "()Ljava/lang/String;" } : Jvm.MethodName)) ∈ lw_all := lw_g (lw_at lw_m7 16 rfl) rfl
theorem q1721 : (Jvm.Cond.declares ({ cls := "java/lang/IndexOutOfBoundsException", name := "<init>", desc := "()V" } : Jvm.MethodName)) ∈ lw_tbl := lw_at lw_m8 8 rfl
theorem q1722 : (Jvm.Cond.declares ({ cls := "java/lang/IndexOutOfBoundsException", name := "<init>", desc := "(Ljava/lang/String;)V" } : Jvm.MethodName)) ∈ lw_tbl := lw_at lw_m8 9 rfl
theorem q1733 : (Jvm.Cond.instanceMethod ({ cls := "java/lang/IndexOutOfBoundsException", name := "<init>", desc := "()V" } : Jvm.MethodName)) ∈ lw_all := lw_g (lw_at lw_m8 20 rfl) rfl
theorem q1734 : (Jvm.Cond.code ({ cls := "java/lang/IndexOutOfBoundsException", name := "<init>", desc := "()V" } : Jvm.MethodName) prog_30_method_1_code (1 : Nat) (Option.none : Option Jvm.ClassFile.FieldType)) ∈ lw_all := lw_g (lw_at lw_m8 21 rfl) rfl
theorem q1735 : (Jvm.Cond.methodLink "java/lang/IndexOutOfBoundsException" (1 : Nat) ({ cls := "java/lang/RuntimeException", name := "<init>", desc := "()V" } : Jvm.MethodName)) ∈ lw_all := lw_g (lw_at lw_m8 22 rfl) rfl
theorem q2255 : (Jvm.Cond.castable "java/lang/IndexOutOfBoundsException" "java/lang/Object") ∈ lw_tbl := lw_at lw_m10 62 rfl
theorem in_J21 : ∀ w ∈ wsJ210, w ∈ lw_all := lw_in wsJ210 [821, 822, 823, 824, 825, 1053] (by decide +kernel) (by decide +kernel)
