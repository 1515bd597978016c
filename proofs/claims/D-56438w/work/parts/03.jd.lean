/-! java/lang/AbstractStringBuilder -/
set_option maxRecDepth 100000
def RJ22 : String := "java/lang/AbstractStringBuilder"
abbrev cJ22_init : ByteArray := prog_19_method_2_code
def yJ22_init : MethodName := ⟨RJ22, "<init>", "(I)V"⟩
def dkwJ22_init_1 : List UInt8 := [167, 0, 16, 42, 27, 184, 0, 26, 181, 0, 15, 42, 4, 181, 0, 22, 177]
abbrev dktJ22_init_1 : List UInt8 := dkwJ22_init_1 ++ []
def dkwJ22_init_0 : List UInt8 := [42, 183, 0, 3, 178, 0, 18, 153, 0, 18, 42, 27, 188, 8, 181, 0, 15, 42, 3, 181, 0, 22]
abbrev dktJ22_init_0 : List UInt8 := dkwJ22_init_0 ++ dktJ22_init_1
theorem dksJ22_init_0 : cJ22_init.data.toList.drop 0 = dktJ22_init_0 := by decide +kernel
theorem dksJ22_init_1 : cJ22_init.data.toList.drop 22 = dktJ22_init_1 := dk_seg dksJ22_init_0 22 rfl rfl
theorem dJ22_init_0 : decode cJ22_init 0 = .ok (.aload_n 0, 1) := dk_42 (dk_at dksJ22_init_0 0 rfl rfl)
theorem dJ22_init_1 : decode cJ22_init 1 = .ok (.invokespecial 3, 3) := dk_183 0 3 (dk_at dksJ22_init_0 1 rfl rfl)
theorem dJ22_init_4 : decode cJ22_init 4 = .ok (.getstatic 18, 3) := dk_178 0 18 (dk_at dksJ22_init_0 4 rfl rfl)
theorem dJ22_init_7 : decode cJ22_init 7 = .ok (.ifCond .eq 18, 3) := dk_153 0 18 (dk_at dksJ22_init_0 7 rfl rfl)
theorem dJ22_init_10 : decode cJ22_init 10 = .ok (.aload_n 0, 1) := dk_42 (dk_at dksJ22_init_0 10 rfl rfl)
theorem dJ22_init_11 : decode cJ22_init 11 = .ok (.iload_n 1, 1) := dk_27 (dk_at dksJ22_init_0 11 rfl rfl)
theorem dJ22_init_12 : decode cJ22_init 12 = .ok (.newarray .byte, 2) := dk_188_8 (dk_at dksJ22_init_0 12 rfl rfl)
theorem dJ22_init_14 : decode cJ22_init 14 = .ok (.putfield 15, 3) := dk_181 0 15 (dk_at dksJ22_init_0 14 rfl rfl)
theorem dJ22_init_17 : decode cJ22_init 17 = .ok (.aload_n 0, 1) := dk_42 (dk_at dksJ22_init_0 17 rfl rfl)
theorem dJ22_init_18 : decode cJ22_init 18 = .ok (.iconst 0, 1) := dk_3 (dk_at dksJ22_init_0 18 rfl rfl)
theorem dJ22_init_19 : decode cJ22_init 19 = .ok (.putfield 22, 3) := dk_181 0 22 (dk_at dksJ22_init_0 19 rfl rfl)
theorem dJ22_init_22 : decode cJ22_init 22 = .ok (.goto 16, 3) := dk_167 0 16 (dk_at dksJ22_init_1 0 rfl rfl)
theorem dJ22_init_25 : decode cJ22_init 25 = .ok (.aload_n 0, 1) := dk_42 (dk_at dksJ22_init_1 3 rfl rfl)
theorem dJ22_init_26 : decode cJ22_init 26 = .ok (.iload_n 1, 1) := dk_27 (dk_at dksJ22_init_1 4 rfl rfl)
theorem dJ22_init_27 : decode cJ22_init 27 = .ok (.invokestatic 26, 3) := dk_184 0 26 (dk_at dksJ22_init_1 5 rfl rfl)
theorem dJ22_init_30 : decode cJ22_init 30 = .ok (.putfield 15, 3) := dk_181 0 15 (dk_at dksJ22_init_1 8 rfl rfl)
theorem dJ22_init_33 : decode cJ22_init 33 = .ok (.aload_n 0, 1) := dk_42 (dk_at dksJ22_init_1 11 rfl rfl)
theorem dJ22_init_34 : decode cJ22_init 34 = .ok (.iconst 1, 1) := dk_4 (dk_at dksJ22_init_1 12 rfl rfl)
theorem dJ22_init_35 : decode cJ22_init 35 = .ok (.putfield 22, 3) := dk_181 0 22 (dk_at dksJ22_init_1 13 rfl rfl)
theorem dJ22_init_38 : decode cJ22_init 38 = .ok (.return_, 1) := dk_177 (dk_at dksJ22_init_1 16 rfl rfl)
abbrev cJ22_append : ByteArray := prog_19_method_22_code
def yJ22_append : MethodName := ⟨RJ22, "append", "(Ljava/lang/String;)Ljava/lang/AbstractStringBuilder;"⟩
def dkwJ22_append_1 : List UInt8 := [42, 42, 180, 0, 79, 43, 182, 0, 208, 42, 89, 180, 0, 79, 28, 96, 181, 0, 79, 42, 176]
abbrev dktJ22_append_1 : List UInt8 := dkwJ22_append_1 ++ []
def dkwJ22_append_0 : List UInt8 := [43, 199, 0, 8, 42, 182, 0, 204, 176, 43, 182, 0, 32, 61, 42, 42, 180, 0, 79, 28, 96, 182, 0, 100]
abbrev dktJ22_append_0 : List UInt8 := dkwJ22_append_0 ++ dktJ22_append_1
theorem dksJ22_append_0 : cJ22_append.data.toList.drop 0 = dktJ22_append_0 := by decide +kernel
theorem dksJ22_append_1 : cJ22_append.data.toList.drop 24 = dktJ22_append_1 := dk_seg dksJ22_append_0 24 rfl rfl
theorem dJ22_append_0 : decode cJ22_append 0 = .ok (.aload_n 1, 1) := dk_43 (dk_at dksJ22_append_0 0 rfl rfl)
theorem dJ22_append_1 : decode cJ22_append 1 = .ok (.ifnonnull 8, 3) := dk_199 0 8 (dk_at dksJ22_append_0 1 rfl rfl)
theorem dJ22_append_4 : decode cJ22_append 4 = .ok (.aload_n 0, 1) := dk_42 (dk_at dksJ22_append_0 4 rfl rfl)
theorem dJ22_append_5 : decode cJ22_append 5 = .ok (.invokevirtual 204, 3) := dk_182 0 204 (dk_at dksJ22_append_0 5 rfl rfl)
theorem dJ22_append_8 : decode cJ22_append 8 = .ok (.areturn, 1) := dk_176 (dk_at dksJ22_append_0 8 rfl rfl)
theorem dJ22_append_9 : decode cJ22_append 9 = .ok (.aload_n 1, 1) := dk_43 (dk_at dksJ22_append_0 9 rfl rfl)
theorem dJ22_append_10 : decode cJ22_append 10 = .ok (.invokevirtual 32, 3) := dk_182 0 32 (dk_at dksJ22_append_0 10 rfl rfl)
theorem dJ22_append_13 : decode cJ22_append 13 = .ok (.istore_n 2, 1) := dk_61 (dk_at dksJ22_append_0 13 rfl rfl)
theorem dJ22_append_14 : decode cJ22_append 14 = .ok (.aload_n 0, 1) := dk_42 (dk_at dksJ22_append_0 14 rfl rfl)
theorem dJ22_append_15 : decode cJ22_append 15 = .ok (.aload_n 0, 1) := dk_42 (dk_at dksJ22_append_0 15 rfl rfl)
theorem dJ22_append_16 : decode cJ22_append 16 = .ok (.getfield 79, 3) := dk_180 0 79 (dk_at dksJ22_append_0 16 rfl rfl)
theorem dJ22_append_19 : decode cJ22_append 19 = .ok (.iload_n 2, 1) := dk_28 (dk_at dksJ22_append_0 19 rfl rfl)
theorem dJ22_append_20 : decode cJ22_append 20 = .ok (.iadd, 1) := dk_96 (dk_at dksJ22_append_0 20 rfl rfl)
theorem dJ22_append_21 : decode cJ22_append 21 = .ok (.invokevirtual 100, 3) := dk_182 0 100 (dk_at dksJ22_append_0 21 rfl rfl)
theorem dJ22_append_24 : decode cJ22_append 24 = .ok (.aload_n 0, 1) := dk_42 (dk_at dksJ22_append_1 0 rfl rfl)
theorem dJ22_append_25 : decode cJ22_append 25 = .ok (.aload_n 0, 1) := dk_42 (dk_at dksJ22_append_1 1 rfl rfl)
theorem dJ22_append_26 : decode cJ22_append 26 = .ok (.getfield 79, 3) := dk_180 0 79 (dk_at dksJ22_append_1 2 rfl rfl)
theorem dJ22_append_29 : decode cJ22_append 29 = .ok (.aload_n 1, 1) := dk_43 (dk_at dksJ22_append_1 5 rfl rfl)
theorem dJ22_append_30 : decode cJ22_append 30 = .ok (.invokevirtual 208, 3) := dk_182 0 208 (dk_at dksJ22_append_1 6 rfl rfl)
theorem dJ22_append_33 : decode cJ22_append 33 = .ok (.aload_n 0, 1) := dk_42 (dk_at dksJ22_append_1 9 rfl rfl)
theorem dJ22_append_34 : decode cJ22_append 34 = .ok (.dup, 1) := dk_89 (dk_at dksJ22_append_1 10 rfl rfl)
theorem dJ22_append_35 : decode cJ22_append 35 = .ok (.getfield 79, 3) := dk_180 0 79 (dk_at dksJ22_append_1 11 rfl rfl)
theorem dJ22_append_38 : decode cJ22_append 38 = .ok (.iload_n 2, 1) := dk_28 (dk_at dksJ22_append_1 14 rfl rfl)
theorem dJ22_append_39 : decode cJ22_append 39 = .ok (.iadd, 1) := dk_96 (dk_at dksJ22_append_1 15 rfl rfl)
theorem dJ22_append_40 : decode cJ22_append 40 = .ok (.putfield 79, 3) := dk_181 0 79 (dk_at dksJ22_append_1 16 rfl rfl)
theorem dJ22_append_43 : decode cJ22_append 43 = .ok (.aload_n 0, 1) := dk_42 (dk_at dksJ22_append_1 19 rfl rfl)
theorem dJ22_append_44 : decode cJ22_append 44 = .ok (.areturn, 1) := dk_176 (dk_at dksJ22_append_1 20 rfl rfl)
abbrev cJ22_appendNull : ByteArray := prog_19_method_26_code
def yJ22_appendNull : MethodName := ⟨RJ22, "appendNull", "()Ljava/lang/AbstractStringBuilder;"⟩
def dkwJ22_appendNull_3 : List UInt8 := [184, 0, 226, 60, 42, 27, 181, 0, 79, 42, 176]
abbrev dktJ22_appendNull_3 : List UInt8 := dkwJ22_appendNull_3 ++ []
def dkwJ22_appendNull_2 : List UInt8 := [16, 108, 84, 44, 27, 132, 1, 1, 16, 108, 84, 167, 0, 17, 44, 27, 16, 110, 16, 117, 16, 108, 16, 108]
abbrev dktJ22_appendNull_2 : List UInt8 := dkwJ22_appendNull_2 ++ dktJ22_appendNull_3
def dkwJ22_appendNull_1 : List UInt8 := [153, 0, 38, 44, 27, 132, 1, 1, 16, 110, 84, 44, 27, 132, 1, 1, 16, 117, 84, 44, 27, 132, 1, 1]
abbrev dktJ22_appendNull_1 : List UInt8 := dkwJ22_appendNull_1 ++ dktJ22_appendNull_2
def dkwJ22_appendNull_0 : List UInt8 := [42, 42, 180, 0, 79, 7, 96, 182, 0, 100, 42, 180, 0, 79, 60, 42, 180, 0, 15, 77, 42, 182, 0, 83]
abbrev dktJ22_appendNull_0 : List UInt8 := dkwJ22_appendNull_0 ++ dktJ22_appendNull_1
theorem dksJ22_appendNull_0 : cJ22_appendNull.data.toList.drop 0 = dktJ22_appendNull_0 := by decide +kernel
theorem dksJ22_appendNull_1 : cJ22_appendNull.data.toList.drop 24 = dktJ22_appendNull_1 := dk_seg dksJ22_appendNull_0 24 rfl rfl
theorem dksJ22_appendNull_2 : cJ22_appendNull.data.toList.drop 48 = dktJ22_appendNull_2 := dk_seg dksJ22_appendNull_1 24 rfl rfl
theorem dksJ22_appendNull_3 : cJ22_appendNull.data.toList.drop 72 = dktJ22_appendNull_3 := dk_seg dksJ22_appendNull_2 24 rfl rfl
theorem dJ22_appendNull_0 : decode cJ22_appendNull 0 = .ok (.aload_n 0, 1) := dk_42 (dk_at dksJ22_appendNull_0 0 rfl rfl)
theorem dJ22_appendNull_1 : decode cJ22_appendNull 1 = .ok (.aload_n 0, 1) := dk_42 (dk_at dksJ22_appendNull_0 1 rfl rfl)
theorem dJ22_appendNull_2 : decode cJ22_appendNull 2 = .ok (.getfield 79, 3) := dk_180 0 79 (dk_at dksJ22_appendNull_0 2 rfl rfl)
theorem dJ22_appendNull_5 : decode cJ22_appendNull 5 = .ok (.iconst 4, 1) := dk_7 (dk_at dksJ22_appendNull_0 5 rfl rfl)
theorem dJ22_appendNull_6 : decode cJ22_appendNull 6 = .ok (.iadd, 1) := dk_96 (dk_at dksJ22_appendNull_0 6 rfl rfl)
theorem dJ22_appendNull_7 : decode cJ22_appendNull 7 = .ok (.invokevirtual 100, 3) := dk_182 0 100 (dk_at dksJ22_appendNull_0 7 rfl rfl)
theorem dJ22_appendNull_10 : decode cJ22_appendNull 10 = .ok (.aload_n 0, 1) := dk_42 (dk_at dksJ22_appendNull_0 10 rfl rfl)
theorem dJ22_appendNull_11 : decode cJ22_appendNull 11 = .ok (.getfield 79, 3) := dk_180 0 79 (dk_at dksJ22_appendNull_0 11 rfl rfl)
theorem dJ22_appendNull_14 : decode cJ22_appendNull 14 = .ok (.istore_n 1, 1) := dk_60 (dk_at dksJ22_appendNull_0 14 rfl rfl)
theorem dJ22_appendNull_15 : decode cJ22_appendNull 15 = .ok (.aload_n 0, 1) := dk_42 (dk_at dksJ22_appendNull_0 15 rfl rfl)
theorem dJ22_appendNull_16 : decode cJ22_appendNull 16 = .ok (.getfield 15, 3) := dk_180 0 15 (dk_at dksJ22_appendNull_0 16 rfl rfl)
theorem dJ22_appendNull_19 : decode cJ22_appendNull 19 = .ok (.astore_n 2, 1) := dk_77 (dk_at dksJ22_appendNull_0 19 rfl rfl)
theorem dJ22_appendNull_20 : decode cJ22_appendNull 20 = .ok (.aload_n 0, 1) := dk_42 (dk_at dksJ22_appendNull_0 20 rfl rfl)
theorem dJ22_appendNull_21 : decode cJ22_appendNull 21 = .ok (.invokevirtual 83, 3) := dk_182 0 83 (dk_at dksJ22_appendNull_0 21 rfl rfl)
theorem dJ22_appendNull_24 : decode cJ22_appendNull 24 = .ok (.ifCond .eq 38, 3) := dk_153 0 38 (dk_at dksJ22_appendNull_1 0 rfl rfl)
theorem dJ22_appendNull_27 : decode cJ22_appendNull 27 = .ok (.aload_n 2, 1) := dk_44 (dk_at dksJ22_appendNull_1 3 rfl rfl)
theorem dJ22_appendNull_28 : decode cJ22_appendNull 28 = .ok (.iload_n 1, 1) := dk_27 (dk_at dksJ22_appendNull_1 4 rfl rfl)
theorem dJ22_appendNull_29 : decode cJ22_appendNull 29 = .ok (.iinc 1 1, 3) := dk_132 1 1 (dk_at dksJ22_appendNull_1 5 rfl rfl)
theorem dJ22_appendNull_32 : decode cJ22_appendNull 32 = .ok (.bipush 110, 2) := dk_16 110 (dk_at dksJ22_appendNull_1 8 rfl rfl)
theorem dJ22_appendNull_34 : decode cJ22_appendNull 34 = .ok (.bastore, 1) := dk_84 (dk_at dksJ22_appendNull_1 10 rfl rfl)
theorem dJ22_appendNull_35 : decode cJ22_appendNull 35 = .ok (.aload_n 2, 1) := dk_44 (dk_at dksJ22_appendNull_1 11 rfl rfl)
theorem dJ22_appendNull_36 : decode cJ22_appendNull 36 = .ok (.iload_n 1, 1) := dk_27 (dk_at dksJ22_appendNull_1 12 rfl rfl)
theorem dJ22_appendNull_37 : decode cJ22_appendNull 37 = .ok (.iinc 1 1, 3) := dk_132 1 1 (dk_at dksJ22_appendNull_1 13 rfl rfl)
theorem dJ22_appendNull_40 : decode cJ22_appendNull 40 = .ok (.bipush 117, 2) := dk_16 117 (dk_at dksJ22_appendNull_1 16 rfl rfl)
theorem dJ22_appendNull_42 : decode cJ22_appendNull 42 = .ok (.bastore, 1) := dk_84 (dk_at dksJ22_appendNull_1 18 rfl rfl)
theorem dJ22_appendNull_43 : decode cJ22_appendNull 43 = .ok (.aload_n 2, 1) := dk_44 (dk_at dksJ22_appendNull_1 19 rfl rfl)
theorem dJ22_appendNull_44 : decode cJ22_appendNull 44 = .ok (.iload_n 1, 1) := dk_27 (dk_at dksJ22_appendNull_1 20 rfl rfl)
theorem dJ22_appendNull_45 : decode cJ22_appendNull 45 = .ok (.iinc 1 1, 3) := dk_132 1 1 (dk_at dksJ22_appendNull_1 21 rfl rfl)
theorem dJ22_appendNull_48 : decode cJ22_appendNull 48 = .ok (.bipush 108, 2) := dk_16 108 (dk_at dksJ22_appendNull_2 0 rfl rfl)
theorem dJ22_appendNull_50 : decode cJ22_appendNull 50 = .ok (.bastore, 1) := dk_84 (dk_at dksJ22_appendNull_2 2 rfl rfl)
theorem dJ22_appendNull_51 : decode cJ22_appendNull 51 = .ok (.aload_n 2, 1) := dk_44 (dk_at dksJ22_appendNull_2 3 rfl rfl)
theorem dJ22_appendNull_52 : decode cJ22_appendNull 52 = .ok (.iload_n 1, 1) := dk_27 (dk_at dksJ22_appendNull_2 4 rfl rfl)
theorem dJ22_appendNull_53 : decode cJ22_appendNull 53 = .ok (.iinc 1 1, 3) := dk_132 1 1 (dk_at dksJ22_appendNull_2 5 rfl rfl)
theorem dJ22_appendNull_56 : decode cJ22_appendNull 56 = .ok (.bipush 108, 2) := dk_16 108 (dk_at dksJ22_appendNull_2 8 rfl rfl)
theorem dJ22_appendNull_58 : decode cJ22_appendNull 58 = .ok (.bastore, 1) := dk_84 (dk_at dksJ22_appendNull_2 10 rfl rfl)
theorem dJ22_appendNull_59 : decode cJ22_appendNull 59 = .ok (.goto 17, 3) := dk_167 0 17 (dk_at dksJ22_appendNull_2 11 rfl rfl)
theorem dJ22_appendNull_62 : decode cJ22_appendNull 62 = .ok (.aload_n 2, 1) := dk_44 (dk_at dksJ22_appendNull_2 14 rfl rfl)
theorem dJ22_appendNull_63 : decode cJ22_appendNull 63 = .ok (.iload_n 1, 1) := dk_27 (dk_at dksJ22_appendNull_2 15 rfl rfl)
theorem dJ22_appendNull_64 : decode cJ22_appendNull 64 = .ok (.bipush 110, 2) := dk_16 110 (dk_at dksJ22_appendNull_2 16 rfl rfl)
theorem dJ22_appendNull_66 : decode cJ22_appendNull 66 = .ok (.bipush 117, 2) := dk_16 117 (dk_at dksJ22_appendNull_2 18 rfl rfl)
theorem dJ22_appendNull_68 : decode cJ22_appendNull 68 = .ok (.bipush 108, 2) := dk_16 108 (dk_at dksJ22_appendNull_2 20 rfl rfl)
theorem dJ22_appendNull_70 : decode cJ22_appendNull 70 = .ok (.bipush 108, 2) := dk_16 108 (dk_at dksJ22_appendNull_2 22 rfl rfl)
theorem dJ22_appendNull_72 : decode cJ22_appendNull 72 = .ok (.invokestatic 226, 3) := dk_184 0 226 (dk_at dksJ22_appendNull_3 0 rfl rfl)
theorem dJ22_appendNull_75 : decode cJ22_appendNull 75 = .ok (.istore_n 1, 1) := dk_60 (dk_at dksJ22_appendNull_3 3 rfl rfl)
theorem dJ22_appendNull_76 : decode cJ22_appendNull 76 = .ok (.aload_n 0, 1) := dk_42 (dk_at dksJ22_appendNull_3 4 rfl rfl)
theorem dJ22_appendNull_77 : decode cJ22_appendNull 77 = .ok (.iload_n 1, 1) := dk_27 (dk_at dksJ22_appendNull_3 5 rfl rfl)
theorem dJ22_appendNull_78 : decode cJ22_appendNull 78 = .ok (.putfield 79, 3) := dk_181 0 79 (dk_at dksJ22_appendNull_3 6 rfl rfl)
theorem dJ22_appendNull_81 : decode cJ22_appendNull 81 = .ok (.aload_n 0, 1) := dk_42 (dk_at dksJ22_appendNull_3 9 rfl rfl)
theorem dJ22_appendNull_82 : decode cJ22_appendNull 82 = .ok (.areturn, 1) := dk_176 (dk_at dksJ22_appendNull_3 10 rfl rfl)
abbrev cJ22_ensureCapacityInternal : ByteArray := prog_19_method_9_code
def yJ22_ensureCapacityInternal : MethodName := ⟨RJ22, "ensureCapacityInternal", "(I)V"⟩
def dkwJ22_ensureCapacityInternal_1 : List UInt8 := [182, 0, 104, 42, 180, 0, 22, 120, 184, 0, 108, 181, 0, 15, 177]
abbrev dktJ22_ensureCapacityInternal_1 : List UInt8 := dkwJ22_ensureCapacityInternal_1 ++ []
def dkwJ22_ensureCapacityInternal_0 : List UInt8 := [42, 180, 0, 15, 190, 42, 180, 0, 22, 122, 61, 27, 28, 100, 158, 0, 24, 42, 42, 180, 0, 15, 42, 27]
abbrev dktJ22_ensureCapacityInternal_0 : List UInt8 := dkwJ22_ensureCapacityInternal_0 ++ dktJ22_ensureCapacityInternal_1
theorem dksJ22_ensureCapacityInternal_0 : cJ22_ensureCapacityInternal.data.toList.drop 0 = dktJ22_ensureCapacityInternal_0 := by decide +kernel
theorem dksJ22_ensureCapacityInternal_1 : cJ22_ensureCapacityInternal.data.toList.drop 24 = dktJ22_ensureCapacityInternal_1 := dk_seg dksJ22_ensureCapacityInternal_0 24 rfl rfl
theorem dJ22_ensureCapacityInternal_0 : decode cJ22_ensureCapacityInternal 0 = .ok (.aload_n 0, 1) := dk_42 (dk_at dksJ22_ensureCapacityInternal_0 0 rfl rfl)
theorem dJ22_ensureCapacityInternal_1 : decode cJ22_ensureCapacityInternal 1 = .ok (.getfield 15, 3) := dk_180 0 15 (dk_at dksJ22_ensureCapacityInternal_0 1 rfl rfl)
theorem dJ22_ensureCapacityInternal_4 : decode cJ22_ensureCapacityInternal 4 = .ok (.arraylength, 1) := dk_190 (dk_at dksJ22_ensureCapacityInternal_0 4 rfl rfl)
theorem dJ22_ensureCapacityInternal_5 : decode cJ22_ensureCapacityInternal 5 = .ok (.aload_n 0, 1) := dk_42 (dk_at dksJ22_ensureCapacityInternal_0 5 rfl rfl)
theorem dJ22_ensureCapacityInternal_6 : decode cJ22_ensureCapacityInternal 6 = .ok (.getfield 22, 3) := dk_180 0 22 (dk_at dksJ22_ensureCapacityInternal_0 6 rfl rfl)
theorem dJ22_ensureCapacityInternal_9 : decode cJ22_ensureCapacityInternal 9 = .ok (.ishr, 1) := dk_122 (dk_at dksJ22_ensureCapacityInternal_0 9 rfl rfl)
theorem dJ22_ensureCapacityInternal_10 : decode cJ22_ensureCapacityInternal 10 = .ok (.istore_n 2, 1) := dk_61 (dk_at dksJ22_ensureCapacityInternal_0 10 rfl rfl)
theorem dJ22_ensureCapacityInternal_11 : decode cJ22_ensureCapacityInternal 11 = .ok (.iload_n 1, 1) := dk_27 (dk_at dksJ22_ensureCapacityInternal_0 11 rfl rfl)
theorem dJ22_ensureCapacityInternal_12 : decode cJ22_ensureCapacityInternal 12 = .ok (.iload_n 2, 1) := dk_28 (dk_at dksJ22_ensureCapacityInternal_0 12 rfl rfl)
theorem dJ22_ensureCapacityInternal_13 : decode cJ22_ensureCapacityInternal 13 = .ok (.isub, 1) := dk_100 (dk_at dksJ22_ensureCapacityInternal_0 13 rfl rfl)
theorem dJ22_ensureCapacityInternal_14 : decode cJ22_ensureCapacityInternal 14 = .ok (.ifCond .le 24, 3) := dk_158 0 24 (dk_at dksJ22_ensureCapacityInternal_0 14 rfl rfl)
theorem dJ22_ensureCapacityInternal_17 : decode cJ22_ensureCapacityInternal 17 = .ok (.aload_n 0, 1) := dk_42 (dk_at dksJ22_ensureCapacityInternal_0 17 rfl rfl)
theorem dJ22_ensureCapacityInternal_18 : decode cJ22_ensureCapacityInternal 18 = .ok (.aload_n 0, 1) := dk_42 (dk_at dksJ22_ensureCapacityInternal_0 18 rfl rfl)
theorem dJ22_ensureCapacityInternal_19 : decode cJ22_ensureCapacityInternal 19 = .ok (.getfield 15, 3) := dk_180 0 15 (dk_at dksJ22_ensureCapacityInternal_0 19 rfl rfl)
theorem dJ22_ensureCapacityInternal_22 : decode cJ22_ensureCapacityInternal 22 = .ok (.aload_n 0, 1) := dk_42 (dk_at dksJ22_ensureCapacityInternal_0 22 rfl rfl)
theorem dJ22_ensureCapacityInternal_23 : decode cJ22_ensureCapacityInternal 23 = .ok (.iload_n 1, 1) := dk_27 (dk_at dksJ22_ensureCapacityInternal_0 23 rfl rfl)
theorem dJ22_ensureCapacityInternal_24 : decode cJ22_ensureCapacityInternal 24 = .ok (.invokevirtual 104, 3) := dk_182 0 104 (dk_at dksJ22_ensureCapacityInternal_1 0 rfl rfl)
theorem dJ22_ensureCapacityInternal_27 : decode cJ22_ensureCapacityInternal 27 = .ok (.aload_n 0, 1) := dk_42 (dk_at dksJ22_ensureCapacityInternal_1 3 rfl rfl)
theorem dJ22_ensureCapacityInternal_28 : decode cJ22_ensureCapacityInternal 28 = .ok (.getfield 22, 3) := dk_180 0 22 (dk_at dksJ22_ensureCapacityInternal_1 4 rfl rfl)
theorem dJ22_ensureCapacityInternal_31 : decode cJ22_ensureCapacityInternal 31 = .ok (.ishl, 1) := dk_120 (dk_at dksJ22_ensureCapacityInternal_1 7 rfl rfl)
theorem dJ22_ensureCapacityInternal_32 : decode cJ22_ensureCapacityInternal 32 = .ok (.invokestatic 108, 3) := dk_184 0 108 (dk_at dksJ22_ensureCapacityInternal_1 8 rfl rfl)
theorem dJ22_ensureCapacityInternal_35 : decode cJ22_ensureCapacityInternal 35 = .ok (.putfield 15, 3) := dk_181 0 15 (dk_at dksJ22_ensureCapacityInternal_1 11 rfl rfl)
theorem dJ22_ensureCapacityInternal_38 : decode cJ22_ensureCapacityInternal 38 = .ok (.return_, 1) := dk_177 (dk_at dksJ22_ensureCapacityInternal_1 14 rfl rfl)
abbrev cJ22_newCapacity : ByteArray := prog_19_method_10_code
def yJ22_newCapacity : MethodName := ⟨RJ22, "newCapacity", "(I)I"⟩
def dkwJ22_newCapacity_2 : List UInt8 := [183, 0, 124, 191, 21, 5, 42, 180, 0, 22, 122, 172]
abbrev dktJ22_newCapacity_2 : List UInt8 := dkwJ22_newCapacity_2 ++ []
def dkwJ22_newCapacity_1 : List UInt8 := [180, 0, 22, 120, 96, 184, 0, 114, 54, 5, 21, 5, 18, 39, 160, 0, 13, 187, 0, 120, 89, 18, 122]
abbrev dktJ22_newCapacity_1 : List UInt8 := dkwJ22_newCapacity_1 ++ dktJ22_newCapacity_2
def dkwJ22_newCapacity_0 : List UInt8 := [42, 180, 0, 15, 190, 61, 27, 42, 180, 0, 22, 120, 62, 29, 28, 100, 54, 4, 28, 21, 4, 28, 5, 42]
abbrev dktJ22_newCapacity_0 : List UInt8 := dkwJ22_newCapacity_0 ++ dktJ22_newCapacity_1
theorem dksJ22_newCapacity_0 : cJ22_newCapacity.data.toList.drop 0 = dktJ22_newCapacity_0 := by decide +kernel
theorem dksJ22_newCapacity_1 : cJ22_newCapacity.data.toList.drop 24 = dktJ22_newCapacity_1 := dk_seg dksJ22_newCapacity_0 24 rfl rfl
theorem dksJ22_newCapacity_2 : cJ22_newCapacity.data.toList.drop 47 = dktJ22_newCapacity_2 := dk_seg dksJ22_newCapacity_1 23 rfl rfl
theorem dJ22_newCapacity_0 : decode cJ22_newCapacity 0 = .ok (.aload_n 0, 1) := dk_42 (dk_at dksJ22_newCapacity_0 0 rfl rfl)
theorem dJ22_newCapacity_1 : decode cJ22_newCapacity 1 = .ok (.getfield 15, 3) := dk_180 0 15 (dk_at dksJ22_newCapacity_0 1 rfl rfl)
theorem dJ22_newCapacity_4 : decode cJ22_newCapacity 4 = .ok (.arraylength, 1) := dk_190 (dk_at dksJ22_newCapacity_0 4 rfl rfl)
theorem dJ22_newCapacity_5 : decode cJ22_newCapacity 5 = .ok (.istore_n 2, 1) := dk_61 (dk_at dksJ22_newCapacity_0 5 rfl rfl)
theorem dJ22_newCapacity_6 : decode cJ22_newCapacity 6 = .ok (.iload_n 1, 1) := dk_27 (dk_at dksJ22_newCapacity_0 6 rfl rfl)
theorem dJ22_newCapacity_7 : decode cJ22_newCapacity 7 = .ok (.aload_n 0, 1) := dk_42 (dk_at dksJ22_newCapacity_0 7 rfl rfl)
theorem dJ22_newCapacity_8 : decode cJ22_newCapacity 8 = .ok (.getfield 22, 3) := dk_180 0 22 (dk_at dksJ22_newCapacity_0 8 rfl rfl)
theorem dJ22_newCapacity_11 : decode cJ22_newCapacity 11 = .ok (.ishl, 1) := dk_120 (dk_at dksJ22_newCapacity_0 11 rfl rfl)
theorem dJ22_newCapacity_12 : decode cJ22_newCapacity 12 = .ok (.istore_n 3, 1) := dk_62 (dk_at dksJ22_newCapacity_0 12 rfl rfl)
theorem dJ22_newCapacity_13 : decode cJ22_newCapacity 13 = .ok (.iload_n 3, 1) := dk_29 (dk_at dksJ22_newCapacity_0 13 rfl rfl)
theorem dJ22_newCapacity_14 : decode cJ22_newCapacity 14 = .ok (.iload_n 2, 1) := dk_28 (dk_at dksJ22_newCapacity_0 14 rfl rfl)
theorem dJ22_newCapacity_15 : decode cJ22_newCapacity 15 = .ok (.isub, 1) := dk_100 (dk_at dksJ22_newCapacity_0 15 rfl rfl)
theorem dJ22_newCapacity_16 : decode cJ22_newCapacity 16 = .ok (.istore 4, 2) := dk_54 4 (dk_at dksJ22_newCapacity_0 16 rfl rfl)
theorem dJ22_newCapacity_18 : decode cJ22_newCapacity 18 = .ok (.iload_n 2, 1) := dk_28 (dk_at dksJ22_newCapacity_0 18 rfl rfl)
theorem dJ22_newCapacity_19 : decode cJ22_newCapacity 19 = .ok (.iload 4, 2) := dk_21 4 (dk_at dksJ22_newCapacity_0 19 rfl rfl)
theorem dJ22_newCapacity_21 : decode cJ22_newCapacity 21 = .ok (.iload_n 2, 1) := dk_28 (dk_at dksJ22_newCapacity_0 21 rfl rfl)
theorem dJ22_newCapacity_22 : decode cJ22_newCapacity 22 = .ok (.iconst 2, 1) := dk_5 (dk_at dksJ22_newCapacity_0 22 rfl rfl)
theorem dJ22_newCapacity_23 : decode cJ22_newCapacity 23 = .ok (.aload_n 0, 1) := dk_42 (dk_at dksJ22_newCapacity_0 23 rfl rfl)
theorem dJ22_newCapacity_24 : decode cJ22_newCapacity 24 = .ok (.getfield 22, 3) := dk_180 0 22 (dk_at dksJ22_newCapacity_1 0 rfl rfl)
theorem dJ22_newCapacity_27 : decode cJ22_newCapacity 27 = .ok (.ishl, 1) := dk_120 (dk_at dksJ22_newCapacity_1 3 rfl rfl)
theorem dJ22_newCapacity_28 : decode cJ22_newCapacity 28 = .ok (.iadd, 1) := dk_96 (dk_at dksJ22_newCapacity_1 4 rfl rfl)
theorem dJ22_newCapacity_29 : decode cJ22_newCapacity 29 = .ok (.invokestatic 114, 3) := dk_184 0 114 (dk_at dksJ22_newCapacity_1 5 rfl rfl)
theorem dJ22_newCapacity_32 : decode cJ22_newCapacity 32 = .ok (.istore 5, 2) := dk_54 5 (dk_at dksJ22_newCapacity_1 8 rfl rfl)
theorem dJ22_newCapacity_34 : decode cJ22_newCapacity 34 = .ok (.iload 5, 2) := dk_21 5 (dk_at dksJ22_newCapacity_1 10 rfl rfl)
theorem dJ22_newCapacity_36 : decode cJ22_newCapacity 36 = .ok (.ldc 39, 2) := dk_18 39 (dk_at dksJ22_newCapacity_1 12 rfl rfl)
theorem dJ22_newCapacity_38 : decode cJ22_newCapacity 38 = .ok (.if_icmp .ne 13, 3) := dk_160 0 13 (dk_at dksJ22_newCapacity_1 14 rfl rfl)
theorem dJ22_newCapacity_41 : decode cJ22_newCapacity 41 = .ok (.new 120, 3) := dk_187 0 120 (dk_at dksJ22_newCapacity_1 17 rfl rfl)
theorem dJ22_newCapacity_44 : decode cJ22_newCapacity 44 = .ok (.dup, 1) := dk_89 (dk_at dksJ22_newCapacity_1 20 rfl rfl)
theorem dJ22_newCapacity_45 : decode cJ22_newCapacity 45 = .ok (.ldc 122, 2) := dk_18 122 (dk_at dksJ22_newCapacity_1 21 rfl rfl)
theorem dJ22_newCapacity_47 : decode cJ22_newCapacity 47 = .ok (.invokespecial 124, 3) := dk_183 0 124 (dk_at dksJ22_newCapacity_2 0 rfl rfl)
theorem dJ22_newCapacity_50 : decode cJ22_newCapacity 50 = .ok (.athrow, 1) := dk_191 (dk_at dksJ22_newCapacity_2 3 rfl rfl)
theorem dJ22_newCapacity_51 : decode cJ22_newCapacity 51 = .ok (.iload 5, 2) := dk_21 5 (dk_at dksJ22_newCapacity_2 4 rfl rfl)
theorem dJ22_newCapacity_53 : decode cJ22_newCapacity 53 = .ok (.aload_n 0, 1) := dk_42 (dk_at dksJ22_newCapacity_2 6 rfl rfl)
theorem dJ22_newCapacity_54 : decode cJ22_newCapacity 54 = .ok (.getfield 22, 3) := dk_180 0 22 (dk_at dksJ22_newCapacity_2 7 rfl rfl)
theorem dJ22_newCapacity_57 : decode cJ22_newCapacity 57 = .ok (.ishr, 1) := dk_122 (dk_at dksJ22_newCapacity_2 10 rfl rfl)
theorem dJ22_newCapacity_58 : decode cJ22_newCapacity 58 = .ok (.ireturn, 1) := dk_172 (dk_at dksJ22_newCapacity_2 11 rfl rfl)
abbrev cJ22_isLatin1 : ByteArray := prog_19_method_68_code
def yJ22_isLatin1 : MethodName := ⟨RJ22, "isLatin1", "()Z"⟩
def dkwJ22_isLatin1_0 : List UInt8 := [178, 0, 18, 153, 0, 14, 42, 180, 0, 22, 154, 0, 7, 4, 167, 0, 4, 3, 172]
abbrev dktJ22_isLatin1_0 : List UInt8 := dkwJ22_isLatin1_0 ++ []
theorem dksJ22_isLatin1_0 : cJ22_isLatin1.data.toList.drop 0 = dktJ22_isLatin1_0 := by decide +kernel
theorem dJ22_isLatin1_0 : decode cJ22_isLatin1 0 = .ok (.getstatic 18, 3) := dk_178 0 18 (dk_at dksJ22_isLatin1_0 0 rfl rfl)
theorem dJ22_isLatin1_3 : decode cJ22_isLatin1 3 = .ok (.ifCond .eq 14, 3) := dk_153 0 14 (dk_at dksJ22_isLatin1_0 3 rfl rfl)
theorem dJ22_isLatin1_6 : decode cJ22_isLatin1 6 = .ok (.aload_n 0, 1) := dk_42 (dk_at dksJ22_isLatin1_0 6 rfl rfl)
theorem dJ22_isLatin1_7 : decode cJ22_isLatin1 7 = .ok (.getfield 22, 3) := dk_180 0 22 (dk_at dksJ22_isLatin1_0 7 rfl rfl)
theorem dJ22_isLatin1_10 : decode cJ22_isLatin1 10 = .ok (.ifCond .ne 7, 3) := dk_154 0 7 (dk_at dksJ22_isLatin1_0 10 rfl rfl)
theorem dJ22_isLatin1_13 : decode cJ22_isLatin1 13 = .ok (.iconst 1, 1) := dk_4 (dk_at dksJ22_isLatin1_0 13 rfl rfl)
theorem dJ22_isLatin1_14 : decode cJ22_isLatin1 14 = .ok (.goto 4, 3) := dk_167 0 4 (dk_at dksJ22_isLatin1_0 14 rfl rfl)
theorem dJ22_isLatin1_17 : decode cJ22_isLatin1 17 = .ok (.iconst 0, 1) := dk_3 (dk_at dksJ22_isLatin1_0 17 rfl rfl)
theorem dJ22_isLatin1_18 : decode cJ22_isLatin1 18 = .ok (.ireturn, 1) := dk_172 (dk_at dksJ22_isLatin1_0 18 rfl rfl)
abbrev cJ22_putStringAt : ByteArray := prog_19_method_73_code
def yJ22_putStringAt : MethodName := ⟨RJ22, "putStringAt", "(ILjava/lang/String;)V"⟩
def dkwJ22_putStringAt_0 : List UInt8 := [42, 44, 182, 1, 141, 44, 42, 180, 0, 15, 27, 42, 180, 0, 22, 182, 1, 143, 177]
abbrev dktJ22_putStringAt_0 : List UInt8 := dkwJ22_putStringAt_0 ++ []
theorem dksJ22_putStringAt_0 : cJ22_putStringAt.data.toList.drop 0 = dktJ22_putStringAt_0 := by decide +kernel
theorem dJ22_putStringAt_0 : decode cJ22_putStringAt 0 = .ok (.aload_n 0, 1) := dk_42 (dk_at dksJ22_putStringAt_0 0 rfl rfl)
theorem dJ22_putStringAt_1 : decode cJ22_putStringAt 1 = .ok (.aload_n 2, 1) := dk_44 (dk_at dksJ22_putStringAt_0 1 rfl rfl)
theorem dJ22_putStringAt_2 : decode cJ22_putStringAt 2 = .ok (.invokevirtual 397, 3) := dk_182 1 141 (dk_at dksJ22_putStringAt_0 2 rfl rfl)
theorem dJ22_putStringAt_5 : decode cJ22_putStringAt 5 = .ok (.aload_n 2, 1) := dk_44 (dk_at dksJ22_putStringAt_0 5 rfl rfl)
theorem dJ22_putStringAt_6 : decode cJ22_putStringAt 6 = .ok (.aload_n 0, 1) := dk_42 (dk_at dksJ22_putStringAt_0 6 rfl rfl)
theorem dJ22_putStringAt_7 : decode cJ22_putStringAt 7 = .ok (.getfield 15, 3) := dk_180 0 15 (dk_at dksJ22_putStringAt_0 7 rfl rfl)
theorem dJ22_putStringAt_10 : decode cJ22_putStringAt 10 = .ok (.iload_n 1, 1) := dk_27 (dk_at dksJ22_putStringAt_0 10 rfl rfl)
theorem dJ22_putStringAt_11 : decode cJ22_putStringAt 11 = .ok (.aload_n 0, 1) := dk_42 (dk_at dksJ22_putStringAt_0 11 rfl rfl)
theorem dJ22_putStringAt_12 : decode cJ22_putStringAt 12 = .ok (.getfield 22, 3) := dk_180 0 22 (dk_at dksJ22_putStringAt_0 12 rfl rfl)
theorem dJ22_putStringAt_15 : decode cJ22_putStringAt 15 = .ok (.invokevirtual 399, 3) := dk_182 1 143 (dk_at dksJ22_putStringAt_0 15 rfl rfl)
theorem dJ22_putStringAt_18 : decode cJ22_putStringAt 18 = .ok (.return_, 1) := dk_177 (dk_at dksJ22_putStringAt_0 18 rfl rfl)
abbrev cJ22_inflateIfNeededFor : ByteArray := prog_19_method_71_code
def yJ22_inflateIfNeededFor : MethodName := ⟨RJ22, "inflateIfNeededFor", "(Ljava/lang/String;)V"⟩
def dkwJ22_inflateIfNeededFor_0 : List UInt8 := [178, 0, 18, 153, 0, 18, 42, 180, 0, 22, 43, 182, 0, 40, 159, 0, 7, 42, 182, 0, 195, 177]
abbrev dktJ22_inflateIfNeededFor_0 : List UInt8 := dkwJ22_inflateIfNeededFor_0 ++ []
theorem dksJ22_inflateIfNeededFor_0 : cJ22_inflateIfNeededFor.data.toList.drop 0 = dktJ22_inflateIfNeededFor_0 := by decide +kernel
theorem dJ22_inflateIfNeededFor_0 : decode cJ22_inflateIfNeededFor 0 = .ok (.getstatic 18, 3) := dk_178 0 18 (dk_at dksJ22_inflateIfNeededFor_0 0 rfl rfl)
theorem dJ22_inflateIfNeededFor_3 : decode cJ22_inflateIfNeededFor 3 = .ok (.ifCond .eq 18, 3) := dk_153 0 18 (dk_at dksJ22_inflateIfNeededFor_0 3 rfl rfl)
theorem dJ22_inflateIfNeededFor_6 : decode cJ22_inflateIfNeededFor 6 = .ok (.aload_n 0, 1) := dk_42 (dk_at dksJ22_inflateIfNeededFor_0 6 rfl rfl)
theorem dJ22_inflateIfNeededFor_7 : decode cJ22_inflateIfNeededFor 7 = .ok (.getfield 22, 3) := dk_180 0 22 (dk_at dksJ22_inflateIfNeededFor_0 7 rfl rfl)
theorem dJ22_inflateIfNeededFor_10 : decode cJ22_inflateIfNeededFor 10 = .ok (.aload_n 1, 1) := dk_43 (dk_at dksJ22_inflateIfNeededFor_0 10 rfl rfl)
theorem dJ22_inflateIfNeededFor_11 : decode cJ22_inflateIfNeededFor 11 = .ok (.invokevirtual 40, 3) := dk_182 0 40 (dk_at dksJ22_inflateIfNeededFor_0 11 rfl rfl)
theorem dJ22_inflateIfNeededFor_14 : decode cJ22_inflateIfNeededFor 14 = .ok (.if_icmp .eq 7, 3) := dk_159 0 7 (dk_at dksJ22_inflateIfNeededFor_0 14 rfl rfl)
theorem dJ22_inflateIfNeededFor_17 : decode cJ22_inflateIfNeededFor 17 = .ok (.aload_n 0, 1) := dk_42 (dk_at dksJ22_inflateIfNeededFor_0 17 rfl rfl)
theorem dJ22_inflateIfNeededFor_18 : decode cJ22_inflateIfNeededFor 18 = .ok (.invokevirtual 195, 3) := dk_182 0 195 (dk_at dksJ22_inflateIfNeededFor_0 18 rfl rfl)
theorem dJ22_inflateIfNeededFor_21 : decode cJ22_inflateIfNeededFor 21 = .ok (.return_, 1) := dk_177 (dk_at dksJ22_inflateIfNeededFor_0 21 rfl rfl)
abbrev cJ22_inflate : ByteArray := prog_19_method_11_code
def yJ22_inflate : MethodName := ⟨RJ22, "inflate", "()V"⟩
def dkwJ22_inflate_1 : List UInt8 := [42, 180, 0, 79, 184, 0, 125, 42, 43, 181, 0, 15, 42, 4, 181, 0, 22, 177]
abbrev dktJ22_inflate_1 : List UInt8 := dkwJ22_inflate_1 ++ []
def dkwJ22_inflate_0 : List UInt8 := [42, 182, 0, 83, 154, 0, 4, 177, 42, 180, 0, 15, 190, 184, 0, 26, 76, 42, 180, 0, 15, 3, 43, 3]
abbrev dktJ22_inflate_0 : List UInt8 := dkwJ22_inflate_0 ++ dktJ22_inflate_1
theorem dksJ22_inflate_0 : cJ22_inflate.data.toList.drop 0 = dktJ22_inflate_0 := by decide +kernel
theorem dksJ22_inflate_1 : cJ22_inflate.data.toList.drop 24 = dktJ22_inflate_1 := dk_seg dksJ22_inflate_0 24 rfl rfl
theorem dJ22_inflate_0 : decode cJ22_inflate 0 = .ok (.aload_n 0, 1) := dk_42 (dk_at dksJ22_inflate_0 0 rfl rfl)
theorem dJ22_inflate_1 : decode cJ22_inflate 1 = .ok (.invokevirtual 83, 3) := dk_182 0 83 (dk_at dksJ22_inflate_0 1 rfl rfl)
theorem dJ22_inflate_4 : decode cJ22_inflate 4 = .ok (.ifCond .ne 4, 3) := dk_154 0 4 (dk_at dksJ22_inflate_0 4 rfl rfl)
theorem dJ22_inflate_7 : decode cJ22_inflate 7 = .ok (.return_, 1) := dk_177 (dk_at dksJ22_inflate_0 7 rfl rfl)
theorem dJ22_inflate_8 : decode cJ22_inflate 8 = .ok (.aload_n 0, 1) := dk_42 (dk_at dksJ22_inflate_0 8 rfl rfl)
theorem dJ22_inflate_9 : decode cJ22_inflate 9 = .ok (.getfield 15, 3) := dk_180 0 15 (dk_at dksJ22_inflate_0 9 rfl rfl)
theorem dJ22_inflate_12 : decode cJ22_inflate 12 = .ok (.arraylength, 1) := dk_190 (dk_at dksJ22_inflate_0 12 rfl rfl)
theorem dJ22_inflate_13 : decode cJ22_inflate 13 = .ok (.invokestatic 26, 3) := dk_184 0 26 (dk_at dksJ22_inflate_0 13 rfl rfl)
theorem dJ22_inflate_16 : decode cJ22_inflate 16 = .ok (.astore_n 1, 1) := dk_76 (dk_at dksJ22_inflate_0 16 rfl rfl)
theorem dJ22_inflate_17 : decode cJ22_inflate 17 = .ok (.aload_n 0, 1) := dk_42 (dk_at dksJ22_inflate_0 17 rfl rfl)
theorem dJ22_inflate_18 : decode cJ22_inflate 18 = .ok (.getfield 15, 3) := dk_180 0 15 (dk_at dksJ22_inflate_0 18 rfl rfl)
theorem dJ22_inflate_21 : decode cJ22_inflate 21 = .ok (.iconst 0, 1) := dk_3 (dk_at dksJ22_inflate_0 21 rfl rfl)
theorem dJ22_inflate_22 : decode cJ22_inflate 22 = .ok (.aload_n 1, 1) := dk_43 (dk_at dksJ22_inflate_0 22 rfl rfl)
theorem dJ22_inflate_23 : decode cJ22_inflate 23 = .ok (.iconst 0, 1) := dk_3 (dk_at dksJ22_inflate_0 23 rfl rfl)
theorem dJ22_inflate_24 : decode cJ22_inflate 24 = .ok (.aload_n 0, 1) := dk_42 (dk_at dksJ22_inflate_1 0 rfl rfl)
theorem dJ22_inflate_25 : decode cJ22_inflate 25 = .ok (.getfield 79, 3) := dk_180 0 79 (dk_at dksJ22_inflate_1 1 rfl rfl)
theorem dJ22_inflate_28 : decode cJ22_inflate 28 = .ok (.invokestatic 125, 3) := dk_184 0 125 (dk_at dksJ22_inflate_1 4 rfl rfl)
theorem dJ22_inflate_31 : decode cJ22_inflate 31 = .ok (.aload_n 0, 1) := dk_42 (dk_at dksJ22_inflate_1 7 rfl rfl)
theorem dJ22_inflate_32 : decode cJ22_inflate 32 = .ok (.aload_n 1, 1) := dk_43 (dk_at dksJ22_inflate_1 8 rfl rfl)
theorem dJ22_inflate_33 : decode cJ22_inflate 33 = .ok (.putfield 15, 3) := dk_181 0 15 (dk_at dksJ22_inflate_1 9 rfl rfl)
theorem dJ22_inflate_36 : decode cJ22_inflate 36 = .ok (.aload_n 0, 1) := dk_42 (dk_at dksJ22_inflate_1 12 rfl rfl)
theorem dJ22_inflate_37 : decode cJ22_inflate 37 = .ok (.iconst 1, 1) := dk_4 (dk_at dksJ22_inflate_1 13 rfl rfl)
theorem dJ22_inflate_38 : decode cJ22_inflate 38 = .ok (.putfield 22, 3) := dk_181 0 22 (dk_at dksJ22_inflate_1 14 rfl rfl)
theorem dJ22_inflate_41 : decode cJ22_inflate 41 = .ok (.return_, 1) := dk_177 (dk_at dksJ22_inflate_1 17 rfl rfl)
abbrev cJ22_append_2 : ByteArray := prog_19_method_32_code
def yJ22_append_2 : MethodName := ⟨RJ22, "append", "(I)Ljava/lang/AbstractStringBuilder;"⟩
def dkwJ22_append_2_2 : List UInt8 := [42, 29, 181, 0, 79, 42, 176]
abbrev dktJ22_append_2_2 : List UInt8 := dkwJ22_append_2_2 ++ []
def dkwJ22_append_2_1 : List UInt8 := [27, 29, 42, 180, 0, 15, 184, 0, 248, 87, 167, 0, 14, 27, 28, 29, 42, 180, 0, 15, 184, 0, 251, 87]
abbrev dktJ22_append_2_1 : List UInt8 := dkwJ22_append_2_1 ++ dktJ22_append_2_2
def dkwJ22_append_2_0 : List UInt8 := [42, 180, 0, 79, 61, 28, 27, 184, 0, 245, 96, 62, 42, 29, 182, 0, 100, 42, 182, 0, 83, 153, 0, 16]
abbrev dktJ22_append_2_0 : List UInt8 := dkwJ22_append_2_0 ++ dktJ22_append_2_1
theorem dksJ22_append_2_0 : cJ22_append_2.data.toList.drop 0 = dktJ22_append_2_0 := by decide +kernel
theorem dksJ22_append_2_1 : cJ22_append_2.data.toList.drop 24 = dktJ22_append_2_1 := dk_seg dksJ22_append_2_0 24 rfl rfl
theorem dksJ22_append_2_2 : cJ22_append_2.data.toList.drop 48 = dktJ22_append_2_2 := dk_seg dksJ22_append_2_1 24 rfl rfl
theorem dJ22_append_2_0 : decode cJ22_append_2 0 = .ok (.aload_n 0, 1) := dk_42 (dk_at dksJ22_append_2_0 0 rfl rfl)
theorem dJ22_append_2_1 : decode cJ22_append_2 1 = .ok (.getfield 79, 3) := dk_180 0 79 (dk_at dksJ22_append_2_0 1 rfl rfl)
theorem dJ22_append_2_4 : decode cJ22_append_2 4 = .ok (.istore_n 2, 1) := dk_61 (dk_at dksJ22_append_2_0 4 rfl rfl)
theorem dJ22_append_2_5 : decode cJ22_append_2 5 = .ok (.iload_n 2, 1) := dk_28 (dk_at dksJ22_append_2_0 5 rfl rfl)
theorem dJ22_append_2_6 : decode cJ22_append_2 6 = .ok (.iload_n 1, 1) := dk_27 (dk_at dksJ22_append_2_0 6 rfl rfl)
theorem dJ22_append_2_7 : decode cJ22_append_2 7 = .ok (.invokestatic 245, 3) := dk_184 0 245 (dk_at dksJ22_append_2_0 7 rfl rfl)
theorem dJ22_append_2_10 : decode cJ22_append_2 10 = .ok (.iadd, 1) := dk_96 (dk_at dksJ22_append_2_0 10 rfl rfl)
theorem dJ22_append_2_11 : decode cJ22_append_2 11 = .ok (.istore_n 3, 1) := dk_62 (dk_at dksJ22_append_2_0 11 rfl rfl)
theorem dJ22_append_2_12 : decode cJ22_append_2 12 = .ok (.aload_n 0, 1) := dk_42 (dk_at dksJ22_append_2_0 12 rfl rfl)
theorem dJ22_append_2_13 : decode cJ22_append_2 13 = .ok (.iload_n 3, 1) := dk_29 (dk_at dksJ22_append_2_0 13 rfl rfl)
theorem dJ22_append_2_14 : decode cJ22_append_2 14 = .ok (.invokevirtual 100, 3) := dk_182 0 100 (dk_at dksJ22_append_2_0 14 rfl rfl)
theorem dJ22_append_2_17 : decode cJ22_append_2 17 = .ok (.aload_n 0, 1) := dk_42 (dk_at dksJ22_append_2_0 17 rfl rfl)
theorem dJ22_append_2_18 : decode cJ22_append_2 18 = .ok (.invokevirtual 83, 3) := dk_182 0 83 (dk_at dksJ22_append_2_0 18 rfl rfl)
theorem dJ22_append_2_21 : decode cJ22_append_2 21 = .ok (.ifCond .eq 16, 3) := dk_153 0 16 (dk_at dksJ22_append_2_0 21 rfl rfl)
theorem dJ22_append_2_24 : decode cJ22_append_2 24 = .ok (.iload_n 1, 1) := dk_27 (dk_at dksJ22_append_2_1 0 rfl rfl)
theorem dJ22_append_2_25 : decode cJ22_append_2 25 = .ok (.iload_n 3, 1) := dk_29 (dk_at dksJ22_append_2_1 1 rfl rfl)
theorem dJ22_append_2_26 : decode cJ22_append_2 26 = .ok (.aload_n 0, 1) := dk_42 (dk_at dksJ22_append_2_1 2 rfl rfl)
theorem dJ22_append_2_27 : decode cJ22_append_2 27 = .ok (.getfield 15, 3) := dk_180 0 15 (dk_at dksJ22_append_2_1 3 rfl rfl)
theorem dJ22_append_2_30 : decode cJ22_append_2 30 = .ok (.invokestatic 248, 3) := dk_184 0 248 (dk_at dksJ22_append_2_1 6 rfl rfl)
theorem dJ22_append_2_33 : decode cJ22_append_2 33 = .ok (.pop, 1) := dk_87 (dk_at dksJ22_append_2_1 9 rfl rfl)
theorem dJ22_append_2_34 : decode cJ22_append_2 34 = .ok (.goto 14, 3) := dk_167 0 14 (dk_at dksJ22_append_2_1 10 rfl rfl)
theorem dJ22_append_2_37 : decode cJ22_append_2 37 = .ok (.iload_n 1, 1) := dk_27 (dk_at dksJ22_append_2_1 13 rfl rfl)
theorem dJ22_append_2_38 : decode cJ22_append_2 38 = .ok (.iload_n 2, 1) := dk_28 (dk_at dksJ22_append_2_1 14 rfl rfl)
theorem dJ22_append_2_39 : decode cJ22_append_2 39 = .ok (.iload_n 3, 1) := dk_29 (dk_at dksJ22_append_2_1 15 rfl rfl)
theorem dJ22_append_2_40 : decode cJ22_append_2 40 = .ok (.aload_n 0, 1) := dk_42 (dk_at dksJ22_append_2_1 16 rfl rfl)
theorem dJ22_append_2_41 : decode cJ22_append_2 41 = .ok (.getfield 15, 3) := dk_180 0 15 (dk_at dksJ22_append_2_1 17 rfl rfl)
theorem dJ22_append_2_44 : decode cJ22_append_2 44 = .ok (.invokestatic 251, 3) := dk_184 0 251 (dk_at dksJ22_append_2_1 20 rfl rfl)
theorem dJ22_append_2_47 : decode cJ22_append_2 47 = .ok (.pop, 1) := dk_87 (dk_at dksJ22_append_2_1 23 rfl rfl)
theorem dJ22_append_2_48 : decode cJ22_append_2 48 = .ok (.aload_n 0, 1) := dk_42 (dk_at dksJ22_append_2_2 0 rfl rfl)
theorem dJ22_append_2_49 : decode cJ22_append_2 49 = .ok (.iload_n 3, 1) := dk_29 (dk_at dksJ22_append_2_2 1 rfl rfl)
theorem dJ22_append_2_50 : decode cJ22_append_2 50 = .ok (.putfield 79, 3) := dk_181 0 79 (dk_at dksJ22_append_2_2 2 rfl rfl)
theorem dJ22_append_2_53 : decode cJ22_append_2 53 = .ok (.aload_n 0, 1) := dk_42 (dk_at dksJ22_append_2_2 5 rfl rfl)
theorem dJ22_append_2_54 : decode cJ22_append_2 54 = .ok (.areturn, 1) := dk_176 (dk_at dksJ22_append_2_2 6 rfl rfl)
abbrev cJ22_getValue : ByteArray := prog_19_method_64_code
def yJ22_getValue : MethodName := ⟨RJ22, "getValue", "()[B"⟩
theorem dJ22_getValue_0 : decode cJ22_getValue 0 = .ok (.aload_n 0, 1) := by decide +kernel
theorem dJ22_getValue_1 : decode cJ22_getValue 1 = .ok (.getfield 15, 3) := by decide +kernel
theorem dJ22_getValue_4 : decode cJ22_getValue 4 = .ok (.areturn, 1) := by decide +kernel
abbrev cJ22_length : ByteArray := prog_19_method_6_code
def yJ22_length : MethodName := ⟨RJ22, "length", "()I"⟩
theorem dJ22_length_0 : decode cJ22_length 0 = .ok (.aload_n 0, 1) := by decide +kernel
theorem dJ22_length_1 : decode cJ22_length 1 = .ok (.getfield 79, 3) := by decide +kernel
theorem dJ22_length_4 : decode cJ22_length 4 = .ok (.ireturn, 1) := by decide +kernel
abbrev cJ22_append_3 : ByteArray := prog_19_method_31_code
def yJ22_append_3 : MethodName := ⟨RJ22, "append", "(C)Ljava/lang/AbstractStringBuilder;"⟩
def dkwJ22_append_3_3 : List UInt8 := [181, 0, 79, 27, 184, 0, 197, 42, 176]
abbrev dktJ22_append_3_3 : List UInt8 := dkwJ22_append_3_3 ++ []
def dkwJ22_append_3_2 : List UInt8 := [182, 0, 83, 153, 0, 7, 42, 182, 0, 195, 42, 180, 0, 15, 42, 89, 180, 0, 79, 90, 4, 96]
abbrev dktJ22_append_3_2 : List UInt8 := dkwJ22_append_3_2 ++ dktJ22_append_3_3
def dkwJ22_append_3_1 : List UInt8 := [42, 180, 0, 15, 42, 89, 180, 0, 79, 90, 4, 96, 181, 0, 79, 27, 145, 84, 167, 0, 33, 42]
abbrev dktJ22_append_3_1 : List UInt8 := dkwJ22_append_3_1 ++ dktJ22_append_3_2
def dkwJ22_append_3_0 : List UInt8 := [42, 42, 180, 0, 79, 4, 96, 182, 0, 100, 42, 182, 0, 83, 153, 0, 31, 27, 184, 0, 191, 153, 0, 24]
abbrev dktJ22_append_3_0 : List UInt8 := dkwJ22_append_3_0 ++ dktJ22_append_3_1
theorem dksJ22_append_3_0 : cJ22_append_3.data.toList.drop 0 = dktJ22_append_3_0 := by decide +kernel
theorem dksJ22_append_3_1 : cJ22_append_3.data.toList.drop 24 = dktJ22_append_3_1 := dk_seg dksJ22_append_3_0 24 rfl rfl
theorem dksJ22_append_3_2 : cJ22_append_3.data.toList.drop 46 = dktJ22_append_3_2 := dk_seg dksJ22_append_3_1 22 rfl rfl
theorem dksJ22_append_3_3 : cJ22_append_3.data.toList.drop 68 = dktJ22_append_3_3 := dk_seg dksJ22_append_3_2 22 rfl rfl
theorem dJ22_append_3_0 : decode cJ22_append_3 0 = .ok (.aload_n 0, 1) := dk_42 (dk_at dksJ22_append_3_0 0 rfl rfl)
theorem dJ22_append_3_1 : decode cJ22_append_3 1 = .ok (.aload_n 0, 1) := dk_42 (dk_at dksJ22_append_3_0 1 rfl rfl)
theorem dJ22_append_3_2 : decode cJ22_append_3 2 = .ok (.getfield 79, 3) := dk_180 0 79 (dk_at dksJ22_append_3_0 2 rfl rfl)
theorem dJ22_append_3_5 : decode cJ22_append_3 5 = .ok (.iconst 1, 1) := dk_4 (dk_at dksJ22_append_3_0 5 rfl rfl)
theorem dJ22_append_3_6 : decode cJ22_append_3 6 = .ok (.iadd, 1) := dk_96 (dk_at dksJ22_append_3_0 6 rfl rfl)
theorem dJ22_append_3_7 : decode cJ22_append_3 7 = .ok (.invokevirtual 100, 3) := dk_182 0 100 (dk_at dksJ22_append_3_0 7 rfl rfl)
theorem dJ22_append_3_10 : decode cJ22_append_3 10 = .ok (.aload_n 0, 1) := dk_42 (dk_at dksJ22_append_3_0 10 rfl rfl)
theorem dJ22_append_3_11 : decode cJ22_append_3 11 = .ok (.invokevirtual 83, 3) := dk_182 0 83 (dk_at dksJ22_append_3_0 11 rfl rfl)
theorem dJ22_append_3_14 : decode cJ22_append_3 14 = .ok (.ifCond .eq 31, 3) := dk_153 0 31 (dk_at dksJ22_append_3_0 14 rfl rfl)
theorem dJ22_append_3_17 : decode cJ22_append_3 17 = .ok (.iload_n 1, 1) := dk_27 (dk_at dksJ22_append_3_0 17 rfl rfl)
theorem dJ22_append_3_18 : decode cJ22_append_3 18 = .ok (.invokestatic 191, 3) := dk_184 0 191 (dk_at dksJ22_append_3_0 18 rfl rfl)
theorem dJ22_append_3_21 : decode cJ22_append_3 21 = .ok (.ifCond .eq 24, 3) := dk_153 0 24 (dk_at dksJ22_append_3_0 21 rfl rfl)
theorem dJ22_append_3_24 : decode cJ22_append_3 24 = .ok (.aload_n 0, 1) := dk_42 (dk_at dksJ22_append_3_1 0 rfl rfl)
theorem dJ22_append_3_25 : decode cJ22_append_3 25 = .ok (.getfield 15, 3) := dk_180 0 15 (dk_at dksJ22_append_3_1 1 rfl rfl)
theorem dJ22_append_3_28 : decode cJ22_append_3 28 = .ok (.aload_n 0, 1) := dk_42 (dk_at dksJ22_append_3_1 4 rfl rfl)
theorem dJ22_append_3_29 : decode cJ22_append_3 29 = .ok (.dup, 1) := dk_89 (dk_at dksJ22_append_3_1 5 rfl rfl)
theorem dJ22_append_3_30 : decode cJ22_append_3 30 = .ok (.getfield 79, 3) := dk_180 0 79 (dk_at dksJ22_append_3_1 6 rfl rfl)
theorem dJ22_append_3_33 : decode cJ22_append_3 33 = .ok (.dup_x1, 1) := dk_90 (dk_at dksJ22_append_3_1 9 rfl rfl)
theorem dJ22_append_3_34 : decode cJ22_append_3 34 = .ok (.iconst 1, 1) := dk_4 (dk_at dksJ22_append_3_1 10 rfl rfl)
theorem dJ22_append_3_35 : decode cJ22_append_3 35 = .ok (.iadd, 1) := dk_96 (dk_at dksJ22_append_3_1 11 rfl rfl)
theorem dJ22_append_3_36 : decode cJ22_append_3 36 = .ok (.putfield 79, 3) := dk_181 0 79 (dk_at dksJ22_append_3_1 12 rfl rfl)
theorem dJ22_append_3_39 : decode cJ22_append_3 39 = .ok (.iload_n 1, 1) := dk_27 (dk_at dksJ22_append_3_1 15 rfl rfl)
theorem dJ22_append_3_40 : decode cJ22_append_3 40 = .ok (.i2b, 1) := dk_145 (dk_at dksJ22_append_3_1 16 rfl rfl)
theorem dJ22_append_3_41 : decode cJ22_append_3 41 = .ok (.bastore, 1) := dk_84 (dk_at dksJ22_append_3_1 17 rfl rfl)
theorem dJ22_append_3_42 : decode cJ22_append_3 42 = .ok (.goto 33, 3) := dk_167 0 33 (dk_at dksJ22_append_3_1 18 rfl rfl)
theorem dJ22_append_3_45 : decode cJ22_append_3 45 = .ok (.aload_n 0, 1) := dk_42 (dk_at dksJ22_append_3_1 21 rfl rfl)
theorem dJ22_append_3_46 : decode cJ22_append_3 46 = .ok (.invokevirtual 83, 3) := dk_182 0 83 (dk_at dksJ22_append_3_2 0 rfl rfl)
theorem dJ22_append_3_49 : decode cJ22_append_3 49 = .ok (.ifCond .eq 7, 3) := dk_153 0 7 (dk_at dksJ22_append_3_2 3 rfl rfl)
theorem dJ22_append_3_52 : decode cJ22_append_3 52 = .ok (.aload_n 0, 1) := dk_42 (dk_at dksJ22_append_3_2 6 rfl rfl)
theorem dJ22_append_3_53 : decode cJ22_append_3 53 = .ok (.invokevirtual 195, 3) := dk_182 0 195 (dk_at dksJ22_append_3_2 7 rfl rfl)
theorem dJ22_append_3_56 : decode cJ22_append_3 56 = .ok (.aload_n 0, 1) := dk_42 (dk_at dksJ22_append_3_2 10 rfl rfl)
theorem dJ22_append_3_57 : decode cJ22_append_3 57 = .ok (.getfield 15, 3) := dk_180 0 15 (dk_at dksJ22_append_3_2 11 rfl rfl)
theorem dJ22_append_3_60 : decode cJ22_append_3 60 = .ok (.aload_n 0, 1) := dk_42 (dk_at dksJ22_append_3_2 14 rfl rfl)
theorem dJ22_append_3_61 : decode cJ22_append_3 61 = .ok (.dup, 1) := dk_89 (dk_at dksJ22_append_3_2 15 rfl rfl)
theorem dJ22_append_3_62 : decode cJ22_append_3 62 = .ok (.getfield 79, 3) := dk_180 0 79 (dk_at dksJ22_append_3_2 16 rfl rfl)
theorem dJ22_append_3_65 : decode cJ22_append_3 65 = .ok (.dup_x1, 1) := dk_90 (dk_at dksJ22_append_3_2 19 rfl rfl)
theorem dJ22_append_3_66 : decode cJ22_append_3 66 = .ok (.iconst 1, 1) := dk_4 (dk_at dksJ22_append_3_2 20 rfl rfl)
theorem dJ22_append_3_67 : decode cJ22_append_3 67 = .ok (.iadd, 1) := dk_96 (dk_at dksJ22_append_3_2 21 rfl rfl)
theorem dJ22_append_3_68 : decode cJ22_append_3 68 = .ok (.putfield 79, 3) := dk_181 0 79 (dk_at dksJ22_append_3_3 0 rfl rfl)
theorem dJ22_append_3_71 : decode cJ22_append_3 71 = .ok (.iload_n 1, 1) := dk_27 (dk_at dksJ22_append_3_3 3 rfl rfl)
theorem dJ22_append_3_72 : decode cJ22_append_3 72 = .ok (.invokestatic 197, 3) := dk_184 0 197 (dk_at dksJ22_append_3_3 4 rfl rfl)
theorem dJ22_append_3_75 : decode cJ22_append_3 75 = .ok (.aload_n 0, 1) := dk_42 (dk_at dksJ22_append_3_3 7 rfl rfl)
theorem dJ22_append_3_76 : decode cJ22_append_3 76 = .ok (.areturn, 1) := dk_176 (dk_at dksJ22_append_3_3 8 rfl rfl)
theorem q69 : (Jvm.Cond.initialized "java/lang/AbstractStringBuilder") ∈ lw_all := lw_g (lw_at lw_m1 36 rfl) rfl
theorem q836 : (Jvm.Cond.instanceMethod ({ cls := "java/lang/AbstractStringBuilder", name := "<init>", desc := "(I)V" } : Jvm.MethodName)) ∈ lw_all := lw_g (lw_at lw_m4 83 rfl) rfl
theorem q837 : (Jvm.Cond.code ({ cls := "java/lang/AbstractStringBuilder", name := "<init>", desc := "(I)V" } : Jvm.MethodName) prog_19_method_2_code (2 : Nat) (Option.none : Option Jvm.ClassFile.FieldType)) ∈ lw_all := lw_g (lw_at lw_m4 84 rfl) rfl
theorem q838 : (Jvm.Cond.methodLink "java/lang/AbstractStringBuilder" (3 : Nat) ({ cls := "java/lang/Object", name := "<init>", desc := "()V" } : Jvm.MethodName)) ∈ lw_all := lw_g (lw_at lw_m4 85 rfl) rfl
theorem q839 : (Jvm.Cond.fieldLink "java/lang/AbstractStringBuilder" (18 : Nat) "java/lang/String" "COMPACT_STRINGS" "Z") ∈ lw_all := lw_g (lw_at lw_m4 86 rfl) rfl
theorem q840 : (Jvm.Cond.methodLink "java/lang/AbstractStringBuilder" (26 : Nat) ({ cls := "java/lang/StringUTF16", name := "newBytesFor", desc := "(I)[B" } : Jvm.MethodName)) ∈ lw_all := lw_g (lw_at lw_m4 87 rfl) rfl
theorem q847 : (Jvm.Cond.fieldLink "java/lang/AbstractStringBuilder" (15 : Nat) "java/lang/AbstractStringBuilder" "value" "[B") ∈ lw_all := lw_g (lw_at lw_m4 94 rfl) rfl
theorem q848 : (Jvm.Cond.fieldLink "java/lang/AbstractStringBuilder" (22 : Nat) "java/lang/AbstractStringBuilder" "coder" "B") ∈ lw_all := lw_g (lw_at lw_m4 95 rfl) rfl
theorem q850 : (Jvm.Cond.fieldLink "java/lang/AbstractStringBuilder" (79 : Nat) "java/lang/AbstractStringBuilder" "count" "I") ∈ lw_all := lw_g (lw_at lw_m4 97 rfl) rfl
theorem q852 : (Jvm.Cond.soleField "java/lang/AbstractStringBuilder" "value") ∈ lw_all := lw_g (lw_at lw_m4 99 rfl) rfl
theorem q854 : (Jvm.Cond.soleField "java/lang/AbstractStringBuilder" "coder") ∈ lw_all := lw_g (lw_at lw_m4 101 rfl) rfl
theorem q856 : (Jvm.Cond.soleField "java/lang/AbstractStringBuilder" "maybeLatin1") ∈ lw_all := lw_g (lw_at lw_m4 103 rfl) rfl
theorem q858 : (Jvm.Cond.soleField "java/lang/AbstractStringBuilder" "count") ∈ lw_all := lw_g (lw_at lw_m4 105 rfl) rfl
theorem q866 : (Jvm.Cond.instanceMethod ({ cls := "java/lang/AbstractStringBuilder", name := "append", desc := "(Ljava/lang/String;)Ljava/lang/AbstractStringBuilder;" } : Jvm.MethodName)) ∈ lw_all := lw_g (lw_at lw_m4 113 rfl) rfl
theorem q867 : (Jvm.Cond.code ({ cls := "java/lang/AbstractStringBuilder", name := "append", desc := "(Ljava/lang/String;)Ljava/lang/AbstractStringBuilder;" } : Jvm.MethodName) prog_19_method_22_code (3 : Nat) (Option.some (Jvm.ClassFile.FieldType.object "java/lang/AbstractStringBuilder"))) ∈ lw_all := lw_g (lw_at lw_m4 114 rfl) rfl
theorem q868 : (Jvm.Cond.methodLink "java/lang/AbstractStringBuilder" (204 : Nat) ({ cls := "java/lang/AbstractStringBuilder", name := "appendNull", desc := "()Ljava/lang/AbstractStringBuilder;" } : Jvm.MethodName)) ∈ lw_all := lw_g (lw_at lw_m4 115 rfl) rfl
theorem q869 : (Jvm.Cond.privateMethod ({ cls := "java/lang/AbstractStringBuilder", name := "appendNull", desc := "()Ljava/lang/AbstractStringBuilder;" } : Jvm.MethodName)) ∈ lw_tbl := lw_at lw_m4 116 rfl
theorem q870 : (Jvm.Cond.instanceMethod ({ cls := "java/lang/AbstractStringBuilder", name := "appendNull", desc := "()Ljava/lang/AbstractStringBuilder;" } : Jvm.MethodName)) ∈ lw_all := lw_g (lw_at lw_m4 117 rfl) rfl
theorem q871 : (Jvm.Cond.code ({ cls := "java/lang/AbstractStringBuilder", name := "appendNull", desc := "()Ljava/lang/AbstractStringBuilder;" } : Jvm.MethodName) prog_19_method_26_code (3 : Nat) (Option.some (Jvm.ClassFile.FieldType.object "java/lang/AbstractStringBuilder"))) ∈ lw_all := lw_g (lw_at lw_m4 118 rfl) rfl
theorem q872 : (Jvm.Cond.methodLink "java/lang/AbstractStringBuilder" (100 : Nat) ({ cls := "java/lang/AbstractStringBuilder", name := "ensureCapacityInternal", desc := "(I)V" } : Jvm.MethodName)) ∈ lw_all := lw_g (lw_at lw_m4 119 rfl) rfl
theorem q873 : (Jvm.Cond.privateMethod ({ cls := "java/lang/AbstractStringBuilder", name := "ensureCapacityInternal", desc := "(I)V" } : Jvm.MethodName)) ∈ lw_tbl := lw_at lw_m4 120 rfl
theorem q874 : (Jvm.Cond.instanceMethod ({ cls := "java/lang/AbstractStringBuilder", name := "ensureCapacityInternal", desc := "(I)V" } : Jvm.MethodName)) ∈ lw_all := lw_g (lw_at lw_m4 121 rfl) rfl
theorem q875 : (Jvm.Cond.code ({ cls := "java/lang/AbstractStringBuilder", name := "ensureCapacityInternal", desc := "(I)V" } : Jvm.MethodName) prog_19_method_9_code (3 : Nat) (Option.none : Option Jvm.ClassFile.FieldType)) ∈ lw_all := lw_g (lw_at lw_m4 122 rfl) rfl
theorem q876 : (Jvm.Cond.methodLink "java/lang/AbstractStringBuilder" (104 : Nat) ({ cls := "java/lang/AbstractStringBuilder", name := "newCapacity", desc := "(I)I" } : Jvm.MethodName)) ∈ lw_all := lw_g (lw_at lw_m4 123 rfl) rfl
theorem q877 : (Jvm.Cond.privateMethod ({ cls := "java/lang/AbstractStringBuilder", name := "newCapacity", desc := "(I)I" } : Jvm.MethodName)) ∈ lw_tbl := lw_at lw_m4 124 rfl
theorem q878 : (Jvm.Cond.instanceMethod ({ cls := "java/lang/AbstractStringBuilder", name := "newCapacity", desc := "(I)I" } : Jvm.MethodName)) ∈ lw_all := lw_g (lw_at lw_m4 125 rfl) rfl
theorem q879 : (Jvm.Cond.code ({ cls := "java/lang/AbstractStringBuilder", name := "newCapacity", desc := "(I)I" } : Jvm.MethodName) prog_19_method_10_code (6 : Nat) (Option.some Jvm.ClassFile.FieldType.int)) ∈ lw_all := lw_g (lw_at lw_m4 126 rfl) rfl
theorem q880 : (Jvm.Cond.methodLink "java/lang/AbstractStringBuilder" (114 : Nat) ({ cls := "jdk/internal/util/ArraysSupport", name := "newLength", desc := "(III)I" } : Jvm.MethodName)) ∈ lw_all := lw_g (lw_at lw_m4 127 rfl) rfl
theorem q881 : (Jvm.Cond.constant "java/lang/AbstractStringBuilder" (39 : Nat) (2147483647 : Int32)) ∈ lw_all := lw_g (lw_at lw_m4 128 rfl) rfl
theorem q882 : (Jvm.Cond.methodLink "java/lang/AbstractStringBuilder" (108 : Nat) ({ cls := "java/util/Arrays", name := "copyOf", desc := "([BI)[B" } : Jvm.MethodName)) ∈ lw_all := lw_g (lw_at lw_m4 129 rfl) rfl
theorem q892 : (Jvm.Cond.methodLink "java/lang/AbstractStringBuilder" (83 : Nat) ({ cls := "java/lang/AbstractStringBuilder", name := "isLatin1", desc := "()Z" } : Jvm.MethodName)) ∈ lw_all := lw_g (lw_at lw_m4 139 rfl) rfl
theorem q893 : (Jvm.Cond.instanceMethod ({ cls := "java/lang/AbstractStringBuilder", name := "isLatin1", desc := "()Z" } : Jvm.MethodName)) ∈ lw_all := lw_g (lw_at lw_m4 140 rfl) rfl
theorem q894 : (Jvm.Cond.sameMethod "java/lang/AbstractStringBuilder" "java/lang/AbstractStringBuilder" "isLatin1" "()Z") ∈ lw_all := lw_g (lw_at lw_m4 141 rfl) rfl
theorem q896 : (Jvm.Cond.code ({ cls := "java/lang/AbstractStringBuilder", name := "isLatin1", desc := "()Z" } : Jvm.MethodName) prog_19_method_68_code (1 : Nat) (Option.some Jvm.ClassFile.FieldType.boolean)) ∈ lw_all := lw_g (lw_at lw_m4 143 rfl) rfl
theorem q897 : (Jvm.Cond.methodLink "java/lang/AbstractStringBuilder" (226 : Nat) ({ cls := "java/lang/StringUTF16", name := "putCharsAt", desc := "([BICCCC)I" } : Jvm.MethodName)) ∈ lw_all := lw_g (lw_at lw_m4 144 rfl) rfl
theorem q912 : (Jvm.Cond.methodLink "java/lang/AbstractStringBuilder" (32 : Nat) ({ cls := "java/lang/String", name := "length", desc := "()I" } : Jvm.MethodName)) ∈ lw_all := lw_g (lw_at lw_m4 159 rfl) rfl
theorem q913 : (Jvm.Cond.methodLink "java/lang/AbstractStringBuilder" (208 : Nat) ({ cls := "java/lang/AbstractStringBuilder", name := "putStringAt", desc := "(ILjava/lang/String;)V" } : Jvm.MethodName)) ∈ lw_all := lw_g (lw_at lw_m4 160 rfl) rfl
theorem q914 : (Jvm.Cond.privateMethod ({ cls := "java/lang/AbstractStringBuilder", name := "putStringAt", desc := "(ILjava/lang/String;)V" } : Jvm.MethodName)) ∈ lw_tbl := lw_at lw_m4 161 rfl
theorem q915 : (Jvm.Cond.instanceMethod ({ cls := "java/lang/AbstractStringBuilder", name := "putStringAt", desc := "(ILjava/lang/String;)V" } : Jvm.MethodName)) ∈ lw_all := lw_g (lw_at lw_m4 162 rfl) rfl
theorem q916 : (Jvm.Cond.code ({ cls := "java/lang/AbstractStringBuilder", name := "putStringAt", desc := "(ILjava/lang/String;)V" } : Jvm.MethodName) prog_19_method_73_code (3 : Nat) (Option.none : Option Jvm.ClassFile.FieldType)) ∈ lw_all := lw_g (lw_at lw_m4 163 rfl) rfl
theorem q917 : (Jvm.Cond.methodLink "java/lang/AbstractStringBuilder" (397 : Nat) ({ cls := "java/lang/AbstractStringBuilder", name := "inflateIfNeededFor", desc := "(Ljava/lang/String;)V" } : Jvm.MethodName)) ∈ lw_all := lw_g (lw_at lw_m4 164 rfl) rfl
theorem q918 : (Jvm.Cond.privateMethod ({ cls := "java/lang/AbstractStringBuilder", name := "inflateIfNeededFor", desc := "(Ljava/lang/String;)V" } : Jvm.MethodName)) ∈ lw_tbl := lw_at lw_m4 165 rfl
theorem q919 : (Jvm.Cond.instanceMethod ({ cls := "java/lang/AbstractStringBuilder", name := "inflateIfNeededFor", desc := "(Ljava/lang/String;)V" } : Jvm.MethodName)) ∈ lw_all := lw_g (lw_at lw_m4 166 rfl) rfl
theorem q920 : (Jvm.Cond.code ({ cls := "java/lang/AbstractStringBuilder", name := "inflateIfNeededFor", desc := "(Ljava/lang/String;)V" } : Jvm.MethodName) prog_19_method_71_code (2 : Nat) (Option.none : Option Jvm.ClassFile.FieldType)) ∈ lw_all := lw_g (lw_at lw_m4 167 rfl) rfl
theorem q921 : (Jvm.Cond.methodLink "java/lang/AbstractStringBuilder" (40 : Nat) ({ cls := "java/lang/String", name := "coder", desc := "()B" } : Jvm.MethodName)) ∈ lw_all := lw_g (lw_at lw_m4 168 rfl) rfl
theorem q922 : (Jvm.Cond.methodLink "java/lang/AbstractStringBuilder" (195 : Nat) ({ cls := "java/lang/AbstractStringBuilder", name := "inflate", desc := "()V" } : Jvm.MethodName)) ∈ lw_all := lw_g (lw_at lw_m4 169 rfl) rfl
theorem q923 : (Jvm.Cond.privateMethod ({ cls := "java/lang/AbstractStringBuilder", name := "inflate", desc := "()V" } : Jvm.MethodName)) ∈ lw_tbl := lw_at lw_m4 170 rfl
theorem q924 : (Jvm.Cond.instanceMethod ({ cls := "java/lang/AbstractStringBuilder", name := "inflate", desc := "()V" } : Jvm.MethodName)) ∈ lw_all := lw_g (lw_at lw_m4 171 rfl) rfl
theorem q925 : (Jvm.Cond.code ({ cls := "java/lang/AbstractStringBuilder", name := "inflate", desc := "()V" } : Jvm.MethodName) prog_19_method_11_code (2 : Nat) (Option.none : Option Jvm.ClassFile.FieldType)) ∈ lw_all := lw_g (lw_at lw_m4 172 rfl) rfl
theorem q926 : (Jvm.Cond.methodLink "java/lang/AbstractStringBuilder" (125 : Nat) ({ cls := "java/lang/StringLatin1", name := "inflate", desc := "([BI[BII)V" } : Jvm.MethodName)) ∈ lw_all := lw_g (lw_at lw_m4 173 rfl) rfl
theorem q941 : (Jvm.Cond.methodLink "java/lang/AbstractStringBuilder" (399 : Nat) ({ cls := "java/lang/String", name := "getBytes", desc := "([BIB)V" } : Jvm.MethodName)) ∈ lw_all := lw_g (lw_at lw_m4 188 rfl) rfl
theorem q952 : (Jvm.Cond.instanceMethod ({ cls := "java/lang/AbstractStringBuilder", name := "append", desc := "(I)Ljava/lang/AbstractStringBuilder;" } : Jvm.MethodName)) ∈ lw_all := lw_g (lw_at lw_m4 199 rfl) rfl
theorem q953 : (Jvm.Cond.code ({ cls := "java/lang/AbstractStringBuilder", name := "append", desc := "(I)Ljava/lang/AbstractStringBuilder;" } : Jvm.MethodName) prog_19_method_32_code (4 : Nat) (Option.some (Jvm.ClassFile.FieldType.object "java/lang/AbstractStringBuilder"))) ∈ lw_all := lw_g (lw_at lw_m4 200 rfl) rfl
theorem q954 : (Jvm.Cond.methodLink "java/lang/AbstractStringBuilder" (245 : Nat) ({ cls := "java/lang/Integer", name := "stringSize", desc := "(I)I" } : Jvm.MethodName)) ∈ lw_all := lw_g (lw_at lw_m4 201 rfl) rfl
theorem q957 : (Jvm.Cond.methodLink "java/lang/AbstractStringBuilder" (248 : Nat) ({ cls := "java/lang/Integer", name := "getChars", desc := "(II[B)I" } : Jvm.MethodName)) ∈ lw_all := lw_g (lw_at lw_m4 204 rfl) rfl
theorem q964 : (Jvm.Cond.methodLink "java/lang/AbstractStringBuilder" (251 : Nat) ({ cls := "java/lang/StringUTF16", name := "getChars", desc := "(III[B)I" } : Jvm.MethodName)) ∈ lw_all := lw_g (lw_at lw_m4 211 rfl) rfl
theorem q987 : (Jvm.Cond.instanceMethod ({ cls := "java/lang/AbstractStringBuilder", name := "getValue", desc := "()[B" } : Jvm.MethodName)) ∈ lw_all := lw_g (lw_at lw_m4 234 rfl) rfl
theorem q988 : (Jvm.Cond.sameMethod "java/lang/AbstractStringBuilder" "java/lang/AbstractStringBuilder" "getValue" "()[B") ∈ lw_all := lw_g (lw_at lw_m4 235 rfl) rfl
theorem q990 : (Jvm.Cond.code ({ cls := "java/lang/AbstractStringBuilder", name := "getValue", desc := "()[B" } : Jvm.MethodName) prog_19_method_64_code (1 : Nat) (Option.some (Jvm.ClassFile.FieldType.array Jvm.ClassFile.FieldType.byte))) ∈ lw_all := lw_g (lw_at lw_m4 237 rfl) rfl
theorem q992 : (Jvm.Cond.instanceMethod ({ cls := "java/lang/AbstractStringBuilder", name := "length", desc := "()I" } : Jvm.MethodName)) ∈ lw_all := lw_g (lw_at lw_m4 239 rfl) rfl
theorem q993 : (Jvm.Cond.sameMethod "java/lang/AbstractStringBuilder" "java/lang/AbstractStringBuilder" "length" "()I") ∈ lw_all := lw_g (lw_at lw_m5 0 rfl) rfl
theorem q998 : (Jvm.Cond.code ({ cls := "java/lang/AbstractStringBuilder", name := "length", desc := "()I" } : Jvm.MethodName) prog_19_method_6_code (1 : Nat) (Option.some Jvm.ClassFile.FieldType.int)) ∈ lw_all := lw_g (lw_at lw_m5 5 rfl) rfl
theorem q1118 : (Jvm.Cond.instanceMethod ({ cls := "java/lang/AbstractStringBuilder", name := "append", desc := "(C)Ljava/lang/AbstractStringBuilder;" } : Jvm.MethodName)) ∈ lw_all := lw_g (lw_at lw_m5 125 rfl) rfl
theorem q1119 : (Jvm.Cond.code ({ cls := "java/lang/AbstractStringBuilder", name := "append", desc := "(C)Ljava/lang/AbstractStringBuilder;" } : Jvm.MethodName) prog_19_method_31_code (2 : Nat) (Option.some (Jvm.ClassFile.FieldType.object "java/lang/AbstractStringBuilder"))) ∈ lw_all := lw_g (lw_at lw_m5 126 rfl) rfl
theorem q1120 : (Jvm.Cond.methodLink "java/lang/AbstractStringBuilder" (191 : Nat) ({ cls := "java/lang/StringLatin1", name := "canEncode", desc := "(C)Z" } : Jvm.MethodName)) ∈ lw_all := lw_g (lw_at lw_m5 127 rfl) rfl
theorem q1123 : (Jvm.Cond.methodLink "java/lang/AbstractStringBuilder" (197 : Nat) ({ cls := "java/lang/StringUTF16", name := "putCharSB", desc := "([BII)V" } : Jvm.MethodName)) ∈ lw_all := lw_g (lw_at lw_m5 130 rfl) rfl
theorem q2224 : (Jvm.Cond.sameMethod "java/lang/AbstractStringBuilder" "java/lang/AbstractStringBuilder" "append" "(Ljava/lang/String;)Ljava/lang/AbstractStringBuilder;") ∈ lw_all := lw_g (lw_at lw_m10 31 rfl) rfl
theorem q2225 : (Jvm.Cond.sameMethod "java/lang/AbstractStringBuilder" "java/lang/AbstractStringBuilder" "appendNull" "()Ljava/lang/AbstractStringBuilder;") ∈ lw_all := lw_g (lw_at lw_m10 32 rfl) rfl
theorem q2226 : (Jvm.Cond.sameMethod "java/lang/AbstractStringBuilder" "java/lang/AbstractStringBuilder" "ensureCapacityInternal" "(I)V") ∈ lw_all := lw_g (lw_at lw_m10 33 rfl) rfl
theorem q2227 : (Jvm.Cond.sameMethod "java/lang/AbstractStringBuilder" "java/lang/AbstractStringBuilder" "newCapacity" "(I)I") ∈ lw_all := lw_g (lw_at lw_m10 34 rfl) rfl
theorem q2228 : (Jvm.Cond.sameMethod "java/lang/AbstractStringBuilder" "java/lang/AbstractStringBuilder" "putStringAt" "(ILjava/lang/String;)V") ∈ lw_all := lw_g (lw_at lw_m10 35 rfl) rfl
theorem q2229 : (Jvm.Cond.sameMethod "java/lang/AbstractStringBuilder" "java/lang/AbstractStringBuilder" "inflateIfNeededFor" "(Ljava/lang/String;)V") ∈ lw_all := lw_g (lw_at lw_m10 36 rfl) rfl
theorem q2230 : (Jvm.Cond.sameMethod "java/lang/AbstractStringBuilder" "java/lang/AbstractStringBuilder" "inflate" "()V") ∈ lw_all := lw_g (lw_at lw_m10 37 rfl) rfl
theorem q2231 : (Jvm.Cond.sameMethod "java/lang/AbstractStringBuilder" "java/lang/AbstractStringBuilder" "append" "(I)Ljava/lang/AbstractStringBuilder;") ∈ lw_all := lw_g (lw_at lw_m10 38 rfl) rfl
theorem q2232 : (Jvm.Cond.sameMethod "java/lang/AbstractStringBuilder" "java/lang/AbstractStringBuilder" "append" "(C)Ljava/lang/AbstractStringBuilder;") ∈ lw_all := lw_g (lw_at lw_m10 39 rfl) rfl

/-! java/lang/StringBuilder -/
set_option maxRecDepth 100000
def RJ23 : String := "java/lang/StringBuilder"
def TJ23 : u_T := fun k => match k with
  | 0 => ("java/lang/AbstractStringBuilder", "value", "[B", false)
  | 1 => ("java/lang/AbstractStringBuilder", "coder", "B", false)
  | 2 => ("java/lang/AbstractStringBuilder", "maybeLatin1", "Z", false)
  | _ => ("java/lang/AbstractStringBuilder", "count", "I", false)
def tyJ23 : Nat → FieldType := fun k => match k with
  | 0 => .array .byte
  | 1 => .byte
  | 2 => .boolean
  | _ => .int
abbrev wsJ230 : List Cond := u_ws RJ23 TJ23 4
theorem nmJ23 : ∀ a, a < 4 → ∀ b, b < 4 → a ≠ b → (TJ23 a).2.1 ≠ (TJ23 b).2.1 := by decide +kernel
theorem tyJ23_ok : ∀ k, k < 4 → parseFieldDescriptor (TJ23 k).2.2.1 = some (tyJ23 k) := by decide +kernel
abbrev cJ23_init : ByteArray := prog_38_method_1_code
def yJ23_init : MethodName := ⟨RJ23, "<init>", "()V"⟩
def dkwJ23_init_0 : List UInt8 := [42, 16, 16, 183, 0, 1, 177]
abbrev dktJ23_init_0 : List UInt8 := dkwJ23_init_0 ++ []
theorem dksJ23_init_0 : cJ23_init.data.toList.drop 0 = dktJ23_init_0 := by decide +kernel
theorem dJ23_init_0 : decode cJ23_init 0 = .ok (.aload_n 0, 1) := dk_42 (dk_at dksJ23_init_0 0 rfl rfl)
theorem dJ23_init_1 : decode cJ23_init 1 = .ok (.bipush 16, 2) := dk_16 16 (dk_at dksJ23_init_0 1 rfl rfl)
theorem dJ23_init_3 : decode cJ23_init 3 = .ok (.invokespecial 1, 3) := dk_183 0 1 (dk_at dksJ23_init_0 3 rfl rfl)
theorem dJ23_init_6 : decode cJ23_init 6 = .ok (.return_, 1) := dk_177 (dk_at dksJ23_init_0 6 rfl rfl)
abbrev cJ23_append : ByteArray := prog_38_method_7_code
def yJ23_append : MethodName := ⟨RJ23, "append", "(Ljava/lang/String;)Ljava/lang/StringBuilder;"⟩
def dkwJ23_append_0 : List UInt8 := [42, 43, 183, 0, 29, 87, 42, 176]
abbrev dktJ23_append_0 : List UInt8 := dkwJ23_append_0 ++ []
theorem dksJ23_append_0 : cJ23_append.data.toList.drop 0 = dktJ23_append_0 := by decide +kernel
theorem dJ23_append_0 : decode cJ23_append 0 = .ok (.aload_n 0, 1) := dk_42 (dk_at dksJ23_append_0 0 rfl rfl)
theorem dJ23_append_1 : decode cJ23_append 1 = .ok (.aload_n 1, 1) := dk_43 (dk_at dksJ23_append_0 1 rfl rfl)
theorem dJ23_append_2 : decode cJ23_append 2 = .ok (.invokespecial 29, 3) := dk_183 0 29 (dk_at dksJ23_append_0 2 rfl rfl)
theorem dJ23_append_5 : decode cJ23_append 5 = .ok (.pop, 1) := dk_87 (dk_at dksJ23_append_0 5 rfl rfl)
theorem dJ23_append_6 : decode cJ23_append 6 = .ok (.aload_n 0, 1) := dk_42 (dk_at dksJ23_append_0 6 rfl rfl)
theorem dJ23_append_7 : decode cJ23_append 7 = .ok (.areturn, 1) := dk_176 (dk_at dksJ23_append_0 7 rfl rfl)
abbrev cJ23_append_2 : ByteArray := prog_38_method_15_code
def yJ23_append_2 : MethodName := ⟨RJ23, "append", "(I)Ljava/lang/StringBuilder;"⟩
def dkwJ23_append_2_0 : List UInt8 := [42, 27, 183, 0, 53, 87, 42, 176]
abbrev dktJ23_append_2_0 : List UInt8 := dkwJ23_append_2_0 ++ []
theorem dksJ23_append_2_0 : cJ23_append_2.data.toList.drop 0 = dktJ23_append_2_0 := by decide +kernel
theorem dJ23_append_2_0 : decode cJ23_append_2 0 = .ok (.aload_n 0, 1) := dk_42 (dk_at dksJ23_append_2_0 0 rfl rfl)
theorem dJ23_append_2_1 : decode cJ23_append_2 1 = .ok (.iload_n 1, 1) := dk_27 (dk_at dksJ23_append_2_0 1 rfl rfl)
theorem dJ23_append_2_2 : decode cJ23_append_2 2 = .ok (.invokespecial 53, 3) := dk_183 0 53 (dk_at dksJ23_append_2_0 2 rfl rfl)
theorem dJ23_append_2_5 : decode cJ23_append_2 5 = .ok (.pop, 1) := dk_87 (dk_at dksJ23_append_2_0 5 rfl rfl)
theorem dJ23_append_2_6 : decode cJ23_append_2 6 = .ok (.aload_n 0, 1) := dk_42 (dk_at dksJ23_append_2_0 6 rfl rfl)
theorem dJ23_append_2_7 : decode cJ23_append_2 7 = .ok (.areturn, 1) := dk_176 (dk_at dksJ23_append_2_0 7 rfl rfl)
abbrev cJ23_toString : ByteArray := prog_38_method_42_code
def yJ23_toString : MethodName := ⟨RJ23, "toString", "()Ljava/lang/String;"⟩
def dkwJ23_toString_0 : List UInt8 := [187, 0, 18, 89, 42, 183, 0, 137, 176]
abbrev dktJ23_toString_0 : List UInt8 := dkwJ23_toString_0 ++ []
theorem dksJ23_toString_0 : cJ23_toString.data.toList.drop 0 = dktJ23_toString_0 := by decide +kernel
theorem dJ23_toString_0 : decode cJ23_toString 0 = .ok (.new 18, 3) := dk_187 0 18 (dk_at dksJ23_toString_0 0 rfl rfl)
theorem dJ23_toString_3 : decode cJ23_toString 3 = .ok (.dup, 1) := dk_89 (dk_at dksJ23_toString_0 3 rfl rfl)
theorem dJ23_toString_4 : decode cJ23_toString 4 = .ok (.aload_n 0, 1) := dk_42 (dk_at dksJ23_toString_0 4 rfl rfl)
theorem dJ23_toString_5 : decode cJ23_toString 5 = .ok (.invokespecial 137, 3) := dk_183 0 137 (dk_at dksJ23_toString_0 5 rfl rfl)
theorem dJ23_toString_8 : decode cJ23_toString 8 = .ok (.areturn, 1) := dk_176 (dk_at dksJ23_toString_0 8 rfl rfl)
abbrev cJ23_length : ByteArray := prog_38_method_93_code
def yJ23_length : MethodName := ⟨RJ23, "length", "()I"⟩
theorem dJ23_length_0 : decode cJ23_length 0 = .ok (.aload_n 0, 1) := by decide +kernel
theorem dJ23_length_1 : decode cJ23_length 1 = .ok (.invokespecial 343, 3) := by decide +kernel
theorem dJ23_length_4 : decode cJ23_length 4 = .ok (.ireturn, 1) := by decide +kernel
abbrev cJ23_append_3 : ByteArray := prog_38_method_14_code
def yJ23_append_3 : MethodName := ⟨RJ23, "append", "(C)Ljava/lang/StringBuilder;"⟩
def dkwJ23_append_3_0 : List UInt8 := [42, 27, 183, 0, 50, 87, 42, 176]
abbrev dktJ23_append_3_0 : List UInt8 := dkwJ23_append_3_0 ++ []
theorem dksJ23_append_3_0 : cJ23_append_3.data.toList.drop 0 = dktJ23_append_3_0 := by decide +kernel
theorem dJ23_append_3_0 : decode cJ23_append_3 0 = .ok (.aload_n 0, 1) := dk_42 (dk_at dksJ23_append_3_0 0 rfl rfl)
theorem dJ23_append_3_1 : decode cJ23_append_3 1 = .ok (.iload_n 1, 1) := dk_27 (dk_at dksJ23_append_3_0 1 rfl rfl)
theorem dJ23_append_3_2 : decode cJ23_append_3 2 = .ok (.invokespecial 50, 3) := dk_183 0 50 (dk_at dksJ23_append_3_0 2 rfl rfl)
theorem dJ23_append_3_5 : decode cJ23_append_3 5 = .ok (.pop, 1) := dk_87 (dk_at dksJ23_append_3_0 5 rfl rfl)
theorem dJ23_append_3_6 : decode cJ23_append_3 6 = .ok (.aload_n 0, 1) := dk_42 (dk_at dksJ23_append_3_0 6 rfl rfl)
theorem dJ23_append_3_7 : decode cJ23_append_3 7 = .ok (.areturn, 1) := dk_176 (dk_at dksJ23_append_3_0 7 rfl rfl)
theorem q70 : (Jvm.Cond.initialized "java/lang/StringBuilder") ∈ lw_all := lw_g (lw_at lw_m1 37 rfl) rfl
theorem q296 : (Jvm.Cond.selects "java/lang/StringBuilder" ({ cls := "java/lang/Object", name := "getClass", desc := "()Ljava/lang/Class;" } : Jvm.MethodName) ({ cls := "java/lang/Object", name := "getClass", desc := "()Ljava/lang/Class;" } : Jvm.MethodName)) ∈ lw_all := lw_g (lw_at lw_m2 23 rfl) rfl
theorem q831 : (Jvm.Cond.instantiable "java/lang/StringBuilder" (4 : Nat)) ∈ lw_all := lw_g (lw_at lw_m4 78 rfl) rfl
theorem q833 : (Jvm.Cond.instanceMethod ({ cls := "java/lang/StringBuilder", name := "<init>", desc := "()V" } : Jvm.MethodName)) ∈ lw_all := lw_g (lw_at lw_m4 80 rfl) rfl
theorem q834 : (Jvm.Cond.code ({ cls := "java/lang/StringBuilder", name := "<init>", desc := "()V" } : Jvm.MethodName) prog_38_method_1_code (1 : Nat) (Option.none : Option Jvm.ClassFile.FieldType)) ∈ lw_all := lw_g (lw_at lw_m4 81 rfl) rfl
theorem q835 : (Jvm.Cond.methodLink "java/lang/StringBuilder" (1 : Nat) ({ cls := "java/lang/AbstractStringBuilder", name := "<init>", desc := "(I)V" } : Jvm.MethodName)) ∈ lw_all := lw_g (lw_at lw_m4 82 rfl) rfl
theorem q851 : (Jvm.Cond.lays "java/lang/StringBuilder" "java/lang/AbstractStringBuilder" "value" "[B") ∈ lw_all := lw_g (lw_at lw_m4 98 rfl) rfl
theorem q853 : (Jvm.Cond.lays "java/lang/StringBuilder" "java/lang/AbstractStringBuilder" "coder" "B") ∈ lw_all := lw_g (lw_at lw_m4 100 rfl) rfl
theorem q855 : (Jvm.Cond.lays "java/lang/StringBuilder" "java/lang/AbstractStringBuilder" "maybeLatin1" "Z") ∈ lw_all := lw_g (lw_at lw_m4 102 rfl) rfl
theorem q857 : (Jvm.Cond.lays "java/lang/StringBuilder" "java/lang/AbstractStringBuilder" "count" "I") ∈ lw_all := lw_g (lw_at lw_m4 104 rfl) rfl
theorem q859 : (Jvm.Cond.superclass "java/lang/StringBuilder" "java/lang/AbstractStringBuilder") ∈ lw_all := lw_g (lw_at lw_m4 106 rfl) rfl
theorem q862 : (Jvm.Cond.instanceMethod ({ cls := "java/lang/StringBuilder", name := "append", desc := "(Ljava/lang/String;)Ljava/lang/StringBuilder;" } : Jvm.MethodName)) ∈ lw_all := lw_g (lw_at lw_m4 109 rfl) rfl
theorem q863 : (Jvm.Cond.selects "java/lang/StringBuilder" ({ cls := "java/lang/StringBuilder", name := "append", desc := "(Ljava/lang/String;)Ljava/lang/StringBuilder;" } : Jvm.MethodName) ({ cls := "java/lang/StringBuilder", name := "append", desc := "(Ljava/lang/String;)Ljava/lang/StringBuilder;" } : Jvm.MethodName)) ∈ lw_all := lw_g (lw_at lw_m4 110 rfl) rfl
theorem q864 : (Jvm.Cond.code ({ cls := "java/lang/StringBuilder", name := "append", desc := "(Ljava/lang/String;)Ljava/lang/StringBuilder;" } : Jvm.MethodName) prog_38_method_7_code (2 : Nat) (Option.some (Jvm.ClassFile.FieldType.object "java/lang/StringBuilder"))) ∈ lw_all := lw_g (lw_at lw_m4 111 rfl) rfl
theorem q865 : (Jvm.Cond.methodLink "java/lang/StringBuilder" (29 : Nat) ({ cls := "java/lang/AbstractStringBuilder", name := "append", desc := "(Ljava/lang/String;)Ljava/lang/AbstractStringBuilder;" } : Jvm.MethodName)) ∈ lw_all := lw_g (lw_at lw_m4 112 rfl) rfl
theorem q895 : (Jvm.Cond.selects "java/lang/StringBuilder" ({ cls := "java/lang/AbstractStringBuilder", name := "isLatin1", desc := "()Z" } : Jvm.MethodName) ({ cls := "java/lang/AbstractStringBuilder", name := "isLatin1", desc := "()Z" } : Jvm.MethodName)) ∈ lw_all := lw_g (lw_at lw_m4 142 rfl) rfl
theorem q948 : (Jvm.Cond.instanceMethod ({ cls := "java/lang/StringBuilder", name := "append", desc := "(I)Ljava/lang/StringBuilder;" } : Jvm.MethodName)) ∈ lw_all := lw_g (lw_at lw_m4 195 rfl) rfl
theorem q949 : (Jvm.Cond.selects "java/lang/StringBuilder" ({ cls := "java/lang/StringBuilder", name := "append", desc := "(I)Ljava/lang/StringBuilder;" } : Jvm.MethodName) ({ cls := "java/lang/StringBuilder", name := "append", desc := "(I)Ljava/lang/StringBuilder;" } : Jvm.MethodName)) ∈ lw_all := lw_g (lw_at lw_m4 196 rfl) rfl
theorem q950 : (Jvm.Cond.code ({ cls := "java/lang/StringBuilder", name := "append", desc := "(I)Ljava/lang/StringBuilder;" } : Jvm.MethodName) prog_38_method_15_code (2 : Nat) (Option.some (Jvm.ClassFile.FieldType.object "java/lang/StringBuilder"))) ∈ lw_all := lw_g (lw_at lw_m4 197 rfl) rfl
theorem q951 : (Jvm.Cond.methodLink "java/lang/StringBuilder" (53 : Nat) ({ cls := "java/lang/AbstractStringBuilder", name := "append", desc := "(I)Ljava/lang/AbstractStringBuilder;" } : Jvm.MethodName)) ∈ lw_all := lw_g (lw_at lw_m4 198 rfl) rfl
theorem q974 : (Jvm.Cond.instanceMethod ({ cls := "java/lang/StringBuilder", name := "toString", desc := "()Ljava/lang/String;" } : Jvm.MethodName)) ∈ lw_all := lw_g (lw_at lw_m4 221 rfl) rfl
theorem q975 : (Jvm.Cond.selects "java/lang/StringBuilder" ({ cls := "java/lang/StringBuilder", name := "toString", desc := "()Ljava/lang/String;" } : Jvm.MethodName) ({ cls := "java/lang/StringBuilder", name := "toString", desc := "()Ljava/lang/String;" } : Jvm.MethodName)) ∈ lw_all := lw_g (lw_at lw_m4 222 rfl) rfl
theorem q976 : (Jvm.Cond.code ({ cls := "java/lang/StringBuilder", name := "toString", desc := "()Ljava/lang/String;" } : Jvm.MethodName) prog_38_method_42_code (1 : Nat) (Option.some (Jvm.ClassFile.FieldType.object "java/lang/String"))) ∈ lw_all := lw_g (lw_at lw_m4 223 rfl) rfl
theorem q977 : (Jvm.Cond.classLink "java/lang/StringBuilder" (18 : Nat) "java/lang/String") ∈ lw_all := lw_g (lw_at lw_m4 224 rfl) rfl
theorem q979 : (Jvm.Cond.methodLink "java/lang/StringBuilder" (137 : Nat) ({ cls := "java/lang/String", name := "<init>", desc := "(Ljava/lang/StringBuilder;)V" } : Jvm.MethodName)) ∈ lw_all := lw_g (lw_at lw_m4 226 rfl) rfl
theorem q989 : (Jvm.Cond.selects "java/lang/StringBuilder" ({ cls := "java/lang/AbstractStringBuilder", name := "getValue", desc := "()[B" } : Jvm.MethodName) ({ cls := "java/lang/AbstractStringBuilder", name := "getValue", desc := "()[B" } : Jvm.MethodName)) ∈ lw_all := lw_g (lw_at lw_m4 236 rfl) rfl
theorem q994 : (Jvm.Cond.selects "java/lang/StringBuilder" ({ cls := "java/lang/AbstractStringBuilder", name := "length", desc := "()I" } : Jvm.MethodName) ({ cls := "java/lang/StringBuilder", name := "length", desc := "()I" } : Jvm.MethodName)) ∈ lw_all := lw_g (lw_at lw_m5 1 rfl) rfl
theorem q995 : (Jvm.Cond.instanceMethod ({ cls := "java/lang/StringBuilder", name := "length", desc := "()I" } : Jvm.MethodName)) ∈ lw_all := lw_g (lw_at lw_m5 2 rfl) rfl
theorem q996 : (Jvm.Cond.code ({ cls := "java/lang/StringBuilder", name := "length", desc := "()I" } : Jvm.MethodName) prog_38_method_93_code (1 : Nat) (Option.some Jvm.ClassFile.FieldType.int)) ∈ lw_all := lw_g (lw_at lw_m5 3 rfl) rfl
theorem q997 : (Jvm.Cond.methodLink "java/lang/StringBuilder" (343 : Nat) ({ cls := "java/lang/AbstractStringBuilder", name := "length", desc := "()I" } : Jvm.MethodName)) ∈ lw_all := lw_g (lw_at lw_m5 4 rfl) rfl
theorem q1114 : (Jvm.Cond.instanceMethod ({ cls := "java/lang/StringBuilder", name := "append", desc := "(C)Ljava/lang/StringBuilder;" } : Jvm.MethodName)) ∈ lw_all := lw_g (lw_at lw_m5 121 rfl) rfl
theorem q1115 : (Jvm.Cond.selects "java/lang/StringBuilder" ({ cls := "java/lang/StringBuilder", name := "append", desc := "(C)Ljava/lang/StringBuilder;" } : Jvm.MethodName) ({ cls := "java/lang/StringBuilder", name := "append", desc := "(C)Ljava/lang/StringBuilder;" } : Jvm.MethodName)) ∈ lw_all := lw_g (lw_at lw_m5 122 rfl) rfl
theorem q1116 : (Jvm.Cond.code ({ cls := "java/lang/StringBuilder", name := "append", desc := "(C)Ljava/lang/StringBuilder;" } : Jvm.MethodName) prog_38_method_14_code (2 : Nat) (Option.some (Jvm.ClassFile.FieldType.object "java/lang/StringBuilder"))) ∈ lw_all := lw_g (lw_at lw_m5 123 rfl) rfl
theorem q1117 : (Jvm.Cond.methodLink "java/lang/StringBuilder" (50 : Nat) ({ cls := "java/lang/AbstractStringBuilder", name := "append", desc := "(C)Ljava/lang/AbstractStringBuilder;" } : Jvm.MethodName)) ∈ lw_all := lw_g (lw_at lw_m5 124 rfl) rfl
theorem q2256 : (Jvm.Cond.castable "java/lang/StringBuilder" "java/lang/Object") ∈ lw_tbl := lw_at lw_m10 63 rfl
theorem in_J23 : ∀ w ∈ wsJ230, w ∈ lw_all := lw_in wsJ230 [851, 853, 855, 857] (by decide +kernel) (by decide +kernel)

/-! java/lang/Integer -/
set_option maxRecDepth 100000
def RJ24 : String := "java/lang/Integer"
abbrev cJ24_stringSize : ByteArray := prog_31_method_13_code
def yJ24_stringSize : MethodName := ⟨RJ24, "stringSize", "(I)I"⟩
def dkwJ24_stringSize_1 : List UInt8 := [164, 0, 7, 29, 27, 96, 172, 16, 10, 28, 104, 61, 132, 3, 1, 167, 255, 233, 16, 10, 27, 96, 172]
abbrev dktJ24_stringSize_1 : List UInt8 := dkwJ24_stringSize_1 ++ []
def dkwJ24_stringSize_0 : List UInt8 := [4, 60, 26, 155, 0, 8, 3, 60, 26, 116, 59, 16, 246, 61, 4, 62, 29, 16, 10, 162, 0, 23, 26, 28]
abbrev dktJ24_stringSize_0 : List UInt8 := dkwJ24_stringSize_0 ++ dktJ24_stringSize_1
theorem dksJ24_stringSize_0 : cJ24_stringSize.data.toList.drop 0 = dktJ24_stringSize_0 := by decide +kernel
theorem dksJ24_stringSize_1 : cJ24_stringSize.data.toList.drop 24 = dktJ24_stringSize_1 := dk_seg dksJ24_stringSize_0 24 rfl rfl
theorem dJ24_stringSize_0 : decode cJ24_stringSize 0 = .ok (.iconst 1, 1) := dk_4 (dk_at dksJ24_stringSize_0 0 rfl rfl)
theorem dJ24_stringSize_1 : decode cJ24_stringSize 1 = .ok (.istore_n 1, 1) := dk_60 (dk_at dksJ24_stringSize_0 1 rfl rfl)
theorem dJ24_stringSize_2 : decode cJ24_stringSize 2 = .ok (.iload_n 0, 1) := dk_26 (dk_at dksJ24_stringSize_0 2 rfl rfl)
theorem dJ24_stringSize_3 : decode cJ24_stringSize 3 = .ok (.ifCond .lt 8, 3) := dk_155 0 8 (dk_at dksJ24_stringSize_0 3 rfl rfl)
theorem dJ24_stringSize_6 : decode cJ24_stringSize 6 = .ok (.iconst 0, 1) := dk_3 (dk_at dksJ24_stringSize_0 6 rfl rfl)
theorem dJ24_stringSize_7 : decode cJ24_stringSize 7 = .ok (.istore_n 1, 1) := dk_60 (dk_at dksJ24_stringSize_0 7 rfl rfl)
theorem dJ24_stringSize_8 : decode cJ24_stringSize 8 = .ok (.iload_n 0, 1) := dk_26 (dk_at dksJ24_stringSize_0 8 rfl rfl)
theorem dJ24_stringSize_9 : decode cJ24_stringSize 9 = .ok (.ineg, 1) := dk_116 (dk_at dksJ24_stringSize_0 9 rfl rfl)
theorem dJ24_stringSize_10 : decode cJ24_stringSize 10 = .ok (.istore_n 0, 1) := dk_59 (dk_at dksJ24_stringSize_0 10 rfl rfl)
theorem dJ24_stringSize_11 : decode cJ24_stringSize 11 = .ok (.bipush (-10), 2) := dk_16 246 (dk_at dksJ24_stringSize_0 11 rfl rfl)
theorem dJ24_stringSize_13 : decode cJ24_stringSize 13 = .ok (.istore_n 2, 1) := dk_61 (dk_at dksJ24_stringSize_0 13 rfl rfl)
theorem dJ24_stringSize_14 : decode cJ24_stringSize 14 = .ok (.iconst 1, 1) := dk_4 (dk_at dksJ24_stringSize_0 14 rfl rfl)
theorem dJ24_stringSize_15 : decode cJ24_stringSize 15 = .ok (.istore_n 3, 1) := dk_62 (dk_at dksJ24_stringSize_0 15 rfl rfl)
theorem dJ24_stringSize_16 : decode cJ24_stringSize 16 = .ok (.iload_n 3, 1) := dk_29 (dk_at dksJ24_stringSize_0 16 rfl rfl)
theorem dJ24_stringSize_17 : decode cJ24_stringSize 17 = .ok (.bipush 10, 2) := dk_16 10 (dk_at dksJ24_stringSize_0 17 rfl rfl)
theorem dJ24_stringSize_19 : decode cJ24_stringSize 19 = .ok (.if_icmp .ge 23, 3) := dk_162 0 23 (dk_at dksJ24_stringSize_0 19 rfl rfl)
theorem dJ24_stringSize_22 : decode cJ24_stringSize 22 = .ok (.iload_n 0, 1) := dk_26 (dk_at dksJ24_stringSize_0 22 rfl rfl)
theorem dJ24_stringSize_23 : decode cJ24_stringSize 23 = .ok (.iload_n 2, 1) := dk_28 (dk_at dksJ24_stringSize_0 23 rfl rfl)
theorem dJ24_stringSize_24 : decode cJ24_stringSize 24 = .ok (.if_icmp .le 7, 3) := dk_164 0 7 (dk_at dksJ24_stringSize_1 0 rfl rfl)
theorem dJ24_stringSize_27 : decode cJ24_stringSize 27 = .ok (.iload_n 3, 1) := dk_29 (dk_at dksJ24_stringSize_1 3 rfl rfl)
theorem dJ24_stringSize_28 : decode cJ24_stringSize 28 = .ok (.iload_n 1, 1) := dk_27 (dk_at dksJ24_stringSize_1 4 rfl rfl)
theorem dJ24_stringSize_29 : decode cJ24_stringSize 29 = .ok (.iadd, 1) := dk_96 (dk_at dksJ24_stringSize_1 5 rfl rfl)
theorem dJ24_stringSize_30 : decode cJ24_stringSize 30 = .ok (.ireturn, 1) := dk_172 (dk_at dksJ24_stringSize_1 6 rfl rfl)
theorem dJ24_stringSize_31 : decode cJ24_stringSize 31 = .ok (.bipush 10, 2) := dk_16 10 (dk_at dksJ24_stringSize_1 7 rfl rfl)
theorem dJ24_stringSize_33 : decode cJ24_stringSize 33 = .ok (.iload_n 2, 1) := dk_28 (dk_at dksJ24_stringSize_1 9 rfl rfl)
theorem dJ24_stringSize_34 : decode cJ24_stringSize 34 = .ok (.imul, 1) := dk_104 (dk_at dksJ24_stringSize_1 10 rfl rfl)
theorem dJ24_stringSize_35 : decode cJ24_stringSize 35 = .ok (.istore_n 2, 1) := dk_61 (dk_at dksJ24_stringSize_1 11 rfl rfl)
theorem dJ24_stringSize_36 : decode cJ24_stringSize 36 = .ok (.iinc 3 1, 3) := dk_132 3 1 (dk_at dksJ24_stringSize_1 12 rfl rfl)
theorem dJ24_stringSize_39 : decode cJ24_stringSize 39 = .ok (.goto (-23), 3) := dk_167 255 233 (dk_at dksJ24_stringSize_1 15 rfl rfl)
theorem dJ24_stringSize_42 : decode cJ24_stringSize 42 = .ok (.bipush 10, 2) := dk_16 10 (dk_at dksJ24_stringSize_1 18 rfl rfl)
theorem dJ24_stringSize_44 : decode cJ24_stringSize 44 = .ok (.iload_n 1, 1) := dk_27 (dk_at dksJ24_stringSize_1 20 rfl rfl)
theorem dJ24_stringSize_45 : decode cJ24_stringSize 45 = .ok (.iadd, 1) := dk_96 (dk_at dksJ24_stringSize_1 21 rfl rfl)
theorem dJ24_stringSize_46 : decode cJ24_stringSize 46 = .ok (.ireturn, 1) := dk_172 (dk_at dksJ24_stringSize_1 22 rfl rfl)
abbrev cJ24_getChars : ByteArray := prog_31_method_12_code
def yJ24_getChars : MethodName := ⟨RJ24, "getChars", "(II[B)I"⟩
def dkwJ24_getChars_5 : List UInt8 := [16, 45, 84, 21, 5, 172]
abbrev dktJ24_getChars_5 : List UInt8 := dkwJ24_getChars_5 ++ []
def dkwJ24_getChars_4 : List UInt8 := [132, 5, 255, 21, 5, 178, 0, 87, 26, 116, 51, 84, 21, 6, 153, 0, 12, 44, 132, 5, 255, 21, 5]
abbrev dktJ24_getChars_4 : List UInt8 := dkwJ24_getChars_4 ++ dktJ24_getChars_5
def dkwJ24_getChars_3 : List UInt8 := [167, 255, 209, 44, 132, 5, 255, 21, 5, 178, 0, 83, 26, 116, 51, 84, 26, 16, 247, 162, 0, 16, 44]
abbrev dktJ24_getChars_3 : List UInt8 := dkwJ24_getChars_3 ++ dktJ24_getChars_4
def dkwJ24_getChars_2 : List UInt8 := [21, 5, 178, 0, 83, 21, 4, 51, 84, 44, 132, 5, 255, 21, 5, 178, 0, 87, 21, 4, 51, 84]
abbrev dktJ24_getChars_2 : List UInt8 := dkwJ24_getChars_2 ++ dktJ24_getChars_3
def dkwJ24_getChars_1 : List UInt8 := [16, 156, 163, 0, 47, 26, 16, 100, 108, 62, 29, 16, 100, 104, 26, 100, 54, 4, 29, 59, 44, 132, 5, 255]
abbrev dktJ24_getChars_1 : List UInt8 := dkwJ24_getChars_1 ++ dktJ24_getChars_2
def dkwJ24_getChars_0 : List UInt8 := [27, 54, 5, 26, 156, 0, 7, 4, 167, 0, 4, 3, 54, 6, 21, 6, 154, 0, 6, 26, 116, 59, 26]
abbrev dktJ24_getChars_0 : List UInt8 := dkwJ24_getChars_0 ++ dktJ24_getChars_1
theorem dksJ24_getChars_0 : cJ24_getChars.data.toList.drop 0 = dktJ24_getChars_0 := by decide +kernel
theorem dksJ24_getChars_1 : cJ24_getChars.data.toList.drop 23 = dktJ24_getChars_1 := dk_seg dksJ24_getChars_0 23 rfl rfl
theorem dksJ24_getChars_2 : cJ24_getChars.data.toList.drop 47 = dktJ24_getChars_2 := dk_seg dksJ24_getChars_1 24 rfl rfl
theorem dksJ24_getChars_3 : cJ24_getChars.data.toList.drop 69 = dktJ24_getChars_3 := dk_seg dksJ24_getChars_2 22 rfl rfl
theorem dksJ24_getChars_4 : cJ24_getChars.data.toList.drop 92 = dktJ24_getChars_4 := dk_seg dksJ24_getChars_3 23 rfl rfl
theorem dksJ24_getChars_5 : cJ24_getChars.data.toList.drop 115 = dktJ24_getChars_5 := dk_seg dksJ24_getChars_4 23 rfl rfl
theorem dJ24_getChars_0 : decode cJ24_getChars 0 = .ok (.iload_n 1, 1) := dk_27 (dk_at dksJ24_getChars_0 0 rfl rfl)
theorem dJ24_getChars_1 : decode cJ24_getChars 1 = .ok (.istore 5, 2) := dk_54 5 (dk_at dksJ24_getChars_0 1 rfl rfl)
theorem dJ24_getChars_3 : decode cJ24_getChars 3 = .ok (.iload_n 0, 1) := dk_26 (dk_at dksJ24_getChars_0 3 rfl rfl)
theorem dJ24_getChars_4 : decode cJ24_getChars 4 = .ok (.ifCond .ge 7, 3) := dk_156 0 7 (dk_at dksJ24_getChars_0 4 rfl rfl)
theorem dJ24_getChars_7 : decode cJ24_getChars 7 = .ok (.iconst 1, 1) := dk_4 (dk_at dksJ24_getChars_0 7 rfl rfl)
theorem dJ24_getChars_8 : decode cJ24_getChars 8 = .ok (.goto 4, 3) := dk_167 0 4 (dk_at dksJ24_getChars_0 8 rfl rfl)
theorem dJ24_getChars_11 : decode cJ24_getChars 11 = .ok (.iconst 0, 1) := dk_3 (dk_at dksJ24_getChars_0 11 rfl rfl)
theorem dJ24_getChars_12 : decode cJ24_getChars 12 = .ok (.istore 6, 2) := dk_54 6 (dk_at dksJ24_getChars_0 12 rfl rfl)
theorem dJ24_getChars_14 : decode cJ24_getChars 14 = .ok (.iload 6, 2) := dk_21 6 (dk_at dksJ24_getChars_0 14 rfl rfl)
theorem dJ24_getChars_16 : decode cJ24_getChars 16 = .ok (.ifCond .ne 6, 3) := dk_154 0 6 (dk_at dksJ24_getChars_0 16 rfl rfl)
theorem dJ24_getChars_19 : decode cJ24_getChars 19 = .ok (.iload_n 0, 1) := dk_26 (dk_at dksJ24_getChars_0 19 rfl rfl)
theorem dJ24_getChars_20 : decode cJ24_getChars 20 = .ok (.ineg, 1) := dk_116 (dk_at dksJ24_getChars_0 20 rfl rfl)
theorem dJ24_getChars_21 : decode cJ24_getChars 21 = .ok (.istore_n 0, 1) := dk_59 (dk_at dksJ24_getChars_0 21 rfl rfl)
theorem dJ24_getChars_22 : decode cJ24_getChars 22 = .ok (.iload_n 0, 1) := dk_26 (dk_at dksJ24_getChars_0 22 rfl rfl)
theorem dJ24_getChars_23 : decode cJ24_getChars 23 = .ok (.bipush (-100), 2) := dk_16 156 (dk_at dksJ24_getChars_1 0 rfl rfl)
theorem dJ24_getChars_25 : decode cJ24_getChars 25 = .ok (.if_icmp .gt 47, 3) := dk_163 0 47 (dk_at dksJ24_getChars_1 2 rfl rfl)
theorem dJ24_getChars_28 : decode cJ24_getChars 28 = .ok (.iload_n 0, 1) := dk_26 (dk_at dksJ24_getChars_1 5 rfl rfl)
theorem dJ24_getChars_29 : decode cJ24_getChars 29 = .ok (.bipush 100, 2) := dk_16 100 (dk_at dksJ24_getChars_1 6 rfl rfl)
theorem dJ24_getChars_31 : decode cJ24_getChars 31 = .ok (.idiv, 1) := dk_108 (dk_at dksJ24_getChars_1 8 rfl rfl)
theorem dJ24_getChars_32 : decode cJ24_getChars 32 = .ok (.istore_n 3, 1) := dk_62 (dk_at dksJ24_getChars_1 9 rfl rfl)
theorem dJ24_getChars_33 : decode cJ24_getChars 33 = .ok (.iload_n 3, 1) := dk_29 (dk_at dksJ24_getChars_1 10 rfl rfl)
theorem dJ24_getChars_34 : decode cJ24_getChars 34 = .ok (.bipush 100, 2) := dk_16 100 (dk_at dksJ24_getChars_1 11 rfl rfl)
theorem dJ24_getChars_36 : decode cJ24_getChars 36 = .ok (.imul, 1) := dk_104 (dk_at dksJ24_getChars_1 13 rfl rfl)
theorem dJ24_getChars_37 : decode cJ24_getChars 37 = .ok (.iload_n 0, 1) := dk_26 (dk_at dksJ24_getChars_1 14 rfl rfl)
theorem dJ24_getChars_38 : decode cJ24_getChars 38 = .ok (.isub, 1) := dk_100 (dk_at dksJ24_getChars_1 15 rfl rfl)
theorem dJ24_getChars_39 : decode cJ24_getChars 39 = .ok (.istore 4, 2) := dk_54 4 (dk_at dksJ24_getChars_1 16 rfl rfl)
theorem dJ24_getChars_41 : decode cJ24_getChars 41 = .ok (.iload_n 3, 1) := dk_29 (dk_at dksJ24_getChars_1 18 rfl rfl)
theorem dJ24_getChars_42 : decode cJ24_getChars 42 = .ok (.istore_n 0, 1) := dk_59 (dk_at dksJ24_getChars_1 19 rfl rfl)
theorem dJ24_getChars_43 : decode cJ24_getChars 43 = .ok (.aload_n 2, 1) := dk_44 (dk_at dksJ24_getChars_1 20 rfl rfl)
theorem dJ24_getChars_44 : decode cJ24_getChars 44 = .ok (.iinc 5 (-1), 3) := dk_132 5 255 (dk_at dksJ24_getChars_1 21 rfl rfl)
theorem dJ24_getChars_47 : decode cJ24_getChars 47 = .ok (.iload 5, 2) := dk_21 5 (dk_at dksJ24_getChars_2 0 rfl rfl)
theorem dJ24_getChars_49 : decode cJ24_getChars 49 = .ok (.getstatic 83, 3) := dk_178 0 83 (dk_at dksJ24_getChars_2 2 rfl rfl)
theorem dJ24_getChars_52 : decode cJ24_getChars 52 = .ok (.iload 4, 2) := dk_21 4 (dk_at dksJ24_getChars_2 5 rfl rfl)
theorem dJ24_getChars_54 : decode cJ24_getChars 54 = .ok (.baload, 1) := dk_51 (dk_at dksJ24_getChars_2 7 rfl rfl)
theorem dJ24_getChars_55 : decode cJ24_getChars 55 = .ok (.bastore, 1) := dk_84 (dk_at dksJ24_getChars_2 8 rfl rfl)
theorem dJ24_getChars_56 : decode cJ24_getChars 56 = .ok (.aload_n 2, 1) := dk_44 (dk_at dksJ24_getChars_2 9 rfl rfl)
theorem dJ24_getChars_57 : decode cJ24_getChars 57 = .ok (.iinc 5 (-1), 3) := dk_132 5 255 (dk_at dksJ24_getChars_2 10 rfl rfl)
theorem dJ24_getChars_60 : decode cJ24_getChars 60 = .ok (.iload 5, 2) := dk_21 5 (dk_at dksJ24_getChars_2 13 rfl rfl)
theorem dJ24_getChars_62 : decode cJ24_getChars 62 = .ok (.getstatic 87, 3) := dk_178 0 87 (dk_at dksJ24_getChars_2 15 rfl rfl)
theorem dJ24_getChars_65 : decode cJ24_getChars 65 = .ok (.iload 4, 2) := dk_21 4 (dk_at dksJ24_getChars_2 18 rfl rfl)
theorem dJ24_getChars_67 : decode cJ24_getChars 67 = .ok (.baload, 1) := dk_51 (dk_at dksJ24_getChars_2 20 rfl rfl)
theorem dJ24_getChars_68 : decode cJ24_getChars 68 = .ok (.bastore, 1) := dk_84 (dk_at dksJ24_getChars_2 21 rfl rfl)
theorem dJ24_getChars_69 : decode cJ24_getChars 69 = .ok (.goto (-47), 3) := dk_167 255 209 (dk_at dksJ24_getChars_3 0 rfl rfl)
theorem dJ24_getChars_72 : decode cJ24_getChars 72 = .ok (.aload_n 2, 1) := dk_44 (dk_at dksJ24_getChars_3 3 rfl rfl)
theorem dJ24_getChars_73 : decode cJ24_getChars 73 = .ok (.iinc 5 (-1), 3) := dk_132 5 255 (dk_at dksJ24_getChars_3 4 rfl rfl)
theorem dJ24_getChars_76 : decode cJ24_getChars 76 = .ok (.iload 5, 2) := dk_21 5 (dk_at dksJ24_getChars_3 7 rfl rfl)
theorem dJ24_getChars_78 : decode cJ24_getChars 78 = .ok (.getstatic 83, 3) := dk_178 0 83 (dk_at dksJ24_getChars_3 9 rfl rfl)
theorem dJ24_getChars_81 : decode cJ24_getChars 81 = .ok (.iload_n 0, 1) := dk_26 (dk_at dksJ24_getChars_3 12 rfl rfl)
theorem dJ24_getChars_82 : decode cJ24_getChars 82 = .ok (.ineg, 1) := dk_116 (dk_at dksJ24_getChars_3 13 rfl rfl)
theorem dJ24_getChars_83 : decode cJ24_getChars 83 = .ok (.baload, 1) := dk_51 (dk_at dksJ24_getChars_3 14 rfl rfl)
theorem dJ24_getChars_84 : decode cJ24_getChars 84 = .ok (.bastore, 1) := dk_84 (dk_at dksJ24_getChars_3 15 rfl rfl)
theorem dJ24_getChars_85 : decode cJ24_getChars 85 = .ok (.iload_n 0, 1) := dk_26 (dk_at dksJ24_getChars_3 16 rfl rfl)
theorem dJ24_getChars_86 : decode cJ24_getChars 86 = .ok (.bipush (-9), 2) := dk_16 247 (dk_at dksJ24_getChars_3 17 rfl rfl)
theorem dJ24_getChars_88 : decode cJ24_getChars 88 = .ok (.if_icmp .ge 16, 3) := dk_162 0 16 (dk_at dksJ24_getChars_3 19 rfl rfl)
theorem dJ24_getChars_91 : decode cJ24_getChars 91 = .ok (.aload_n 2, 1) := dk_44 (dk_at dksJ24_getChars_3 22 rfl rfl)
theorem dJ24_getChars_92 : decode cJ24_getChars 92 = .ok (.iinc 5 (-1), 3) := dk_132 5 255 (dk_at dksJ24_getChars_4 0 rfl rfl)
theorem dJ24_getChars_95 : decode cJ24_getChars 95 = .ok (.iload 5, 2) := dk_21 5 (dk_at dksJ24_getChars_4 3 rfl rfl)
theorem dJ24_getChars_97 : decode cJ24_getChars 97 = .ok (.getstatic 87, 3) := dk_178 0 87 (dk_at dksJ24_getChars_4 5 rfl rfl)
theorem dJ24_getChars_100 : decode cJ24_getChars 100 = .ok (.iload_n 0, 1) := dk_26 (dk_at dksJ24_getChars_4 8 rfl rfl)
theorem dJ24_getChars_101 : decode cJ24_getChars 101 = .ok (.ineg, 1) := dk_116 (dk_at dksJ24_getChars_4 9 rfl rfl)
theorem dJ24_getChars_102 : decode cJ24_getChars 102 = .ok (.baload, 1) := dk_51 (dk_at dksJ24_getChars_4 10 rfl rfl)
theorem dJ24_getChars_103 : decode cJ24_getChars 103 = .ok (.bastore, 1) := dk_84 (dk_at dksJ24_getChars_4 11 rfl rfl)
theorem dJ24_getChars_104 : decode cJ24_getChars 104 = .ok (.iload 6, 2) := dk_21 6 (dk_at dksJ24_getChars_4 12 rfl rfl)
theorem dJ24_getChars_106 : decode cJ24_getChars 106 = .ok (.ifCond .eq 12, 3) := dk_153 0 12 (dk_at dksJ24_getChars_4 14 rfl rfl)
theorem dJ24_getChars_109 : decode cJ24_getChars 109 = .ok (.aload_n 2, 1) := dk_44 (dk_at dksJ24_getChars_4 17 rfl rfl)
theorem dJ24_getChars_110 : decode cJ24_getChars 110 = .ok (.iinc 5 (-1), 3) := dk_132 5 255 (dk_at dksJ24_getChars_4 18 rfl rfl)
theorem dJ24_getChars_113 : decode cJ24_getChars 113 = .ok (.iload 5, 2) := dk_21 5 (dk_at dksJ24_getChars_4 21 rfl rfl)
theorem dJ24_getChars_115 : decode cJ24_getChars 115 = .ok (.bipush 45, 2) := dk_16 45 (dk_at dksJ24_getChars_5 0 rfl rfl)
theorem dJ24_getChars_117 : decode cJ24_getChars 117 = .ok (.bastore, 1) := dk_84 (dk_at dksJ24_getChars_5 2 rfl rfl)
theorem dJ24_getChars_118 : decode cJ24_getChars 118 = .ok (.iload 5, 2) := dk_21 5 (dk_at dksJ24_getChars_5 3 rfl rfl)
theorem dJ24_getChars_120 : decode cJ24_getChars 120 = .ok (.ireturn, 1) := dk_172 (dk_at dksJ24_getChars_5 5 rfl rfl)
theorem q72 : (Jvm.Cond.initialized "java/lang/Integer") ∈ lw_all := lw_g (lw_at lw_m1 39 rfl) rfl
theorem q955 : (Jvm.Cond.static ({ cls := "java/lang/Integer", name := "stringSize", desc := "(I)I" } : Jvm.MethodName)) ∈ lw_all := lw_g (lw_at lw_m4 202 rfl) rfl
theorem q956 : (Jvm.Cond.code ({ cls := "java/lang/Integer", name := "stringSize", desc := "(I)I" } : Jvm.MethodName) prog_31_method_13_code (4 : Nat) (Option.some Jvm.ClassFile.FieldType.int)) ∈ lw_all := lw_g (lw_at lw_m4 203 rfl) rfl
theorem q958 : (Jvm.Cond.static ({ cls := "java/lang/Integer", name := "getChars", desc := "(II[B)I" } : Jvm.MethodName)) ∈ lw_all := lw_g (lw_at lw_m4 205 rfl) rfl
theorem q959 : (Jvm.Cond.code ({ cls := "java/lang/Integer", name := "getChars", desc := "(II[B)I" } : Jvm.MethodName) prog_31_method_12_code (7 : Nat) (Option.some Jvm.ClassFile.FieldType.int)) ∈ lw_all := lw_g (lw_at lw_m4 206 rfl) rfl
theorem q960 : (Jvm.Cond.fieldLink "java/lang/Integer" (83 : Nat) "java/lang/Integer" "DigitOnes" "[B") ∈ lw_all := lw_g (lw_at lw_m4 207 rfl) rfl
theorem q961 : (Jvm.Cond.laysStatic "java/lang/Integer" "DigitOnes" "[B") ∈ lw_tbl := lw_at lw_m4 208 rfl
theorem q962 : (Jvm.Cond.fieldLink "java/lang/Integer" (87 : Nat) "java/lang/Integer" "DigitTens" "[B") ∈ lw_all := lw_g (lw_at lw_m4 209 rfl) rfl
theorem q963 : (Jvm.Cond.laysStatic "java/lang/Integer" "DigitTens" "[B") ∈ lw_tbl := lw_at lw_m4 210 rfl

/-! java/util/NoSuchElementException -/
set_option maxRecDepth 100000
def RJ25 : String := "java/util/NoSuchElementException"
def TJ25 : u_T := fun k => match k with
  | 0 => ("java/lang/Throwable", "cause", "Ljava/lang/Throwable;", false)
  | 1 => ("java/lang/Throwable", "stackTrace", "[Ljava/lang/StackTraceElement;", false)
  | 2 => ("java/lang/Throwable", "suppressedExceptions", "Ljava/util/List;", false)
  | 3 => ("java/lang/Throwable", "detailMessage", "Ljava/lang/String;", false)
  | 4 => ("java/lang/Throwable", "backtrace", "Ljava/lang/Object;", false)
  | _ => ("java/lang/Throwable", "depth", "I", false)
def tyJ25 : Nat → FieldType := fun k => match k with
  | 0 => .object "java/lang/Throwable"
  | 1 => .array (.object "java/lang/StackTraceElement")
  | 2 => .object "java/util/List"
  | 3 => .object "java/lang/String"
  | 4 => .object "java/lang/Object"
  | _ => .int
abbrev wsJ250 : List Cond := u_ws RJ25 TJ25 6
theorem nmJ25 : ∀ a, a < 6 → ∀ b, b < 6 → a ≠ b → (TJ25 a).2.1 ≠ (TJ25 b).2.1 := by decide +kernel
theorem tyJ25_ok : ∀ k, k < 6 → parseFieldDescriptor (TJ25 k).2.2.1 = some (tyJ25 k) := by decide +kernel
abbrev cJ25_init : ByteArray := prog_64_method_1_code
def yJ25_init : MethodName := ⟨RJ25, "<init>", "()V"⟩
theorem dJ25_init_0 : decode cJ25_init 0 = .ok (.aload_n 0, 1) := by decide +kernel
theorem dJ25_init_1 : decode cJ25_init 1 = .ok (.invokespecial 1, 3) := by decide +kernel
theorem dJ25_init_4 : decode cJ25_init 4 = .ok (.return_, 1) := by decide +kernel
abbrev cJ25_init_2 : ByteArray := prog_64_method_3_code
def yJ25_init_2 : MethodName := ⟨RJ25, "<init>", "(Ljava/lang/Throwable;)V"⟩
def dkwJ25_init_2_0 : List UInt8 := [42, 43, 183, 0, 10, 177]
abbrev dktJ25_init_2_0 : List UInt8 := dkwJ25_init_2_0 ++ []
theorem dksJ25_init_2_0 : cJ25_init_2.data.toList.drop 0 = dktJ25_init_2_0 := by decide +kernel
theorem dJ25_init_2_0 : decode cJ25_init_2 0 = .ok (.aload_n 0, 1) := dk_42 (dk_at dksJ25_init_2_0 0 rfl rfl)
theorem dJ25_init_2_1 : decode cJ25_init_2 1 = .ok (.aload_n 1, 1) := dk_43 (dk_at dksJ25_init_2_0 1 rfl rfl)
theorem dJ25_init_2_2 : decode cJ25_init_2 2 = .ok (.invokespecial 10, 3) := dk_183 0 10 (dk_at dksJ25_init_2_0 2 rfl rfl)
theorem dJ25_init_2_5 : decode cJ25_init_2 5 = .ok (.return_, 1) := dk_177 (dk_at dksJ25_init_2_0 5 rfl rfl)
theorem q73 : (Jvm.Cond.initialized "java/util/NoSuchElementException") ∈ lw_all := lw_g (lw_at lw_m1 40 rfl) rfl
theorem q306 : (Jvm.Cond.selects "java/util/NoSuchElementException" ({ cls := "java/lang/Object", name := "getClass", desc := "()Ljava/lang/Class;" } : Jvm.MethodName) ({ cls := "java/lang/Object", name := "getClass", desc := "()Ljava/lang/Class;" } : Jvm.MethodName)) ∈ lw_all := lw_g (lw_at lw_m2 33 rfl) rfl
theorem q614 : (Jvm.Cond.selects "java/util/NoSuchElementException" ({ cls := "java/lang/Throwable", name := "fillInStackTrace", desc := "()Ljava/lang/Throwable;" } : Jvm.MethodName) ({ cls := "java/lang/Throwable", name := "fillInStackTrace", desc := "()Ljava/lang/Throwable;" } : Jvm.MethodName)) ∈ lw_all := lw_g (lw_at lw_m3 101 rfl) rfl
theorem q1093 : (Jvm.Cond.instantiable "java/util/NoSuchElementException" (6 : Nat)) ∈ lw_all := lw_g (lw_at lw_m5 100 rfl) rfl
theorem q1094 : (Jvm.Cond.castable "java/util/NoSuchElementException" "java/util/NoSuchElementException") ∈ lw_tbl := lw_at lw_m5 101 rfl
theorem q1095 : (Jvm.Cond.selects "java/util/NoSuchElementException" ({ cls := "java/lang/Throwable", name := "fillInStackTrace", desc := "(I)Ljava/lang/Throwable;" } : Jvm.MethodName) ({ cls := "java/lang/Throwable", name := "fillInStackTrace", desc := "(I)Ljava/lang/Throwable;" } : Jvm.MethodName)) ∈ lw_all := lw_g (lw_at lw_m5 102 rfl) rfl
theorem q1096 : (Jvm.Cond.lays "java/util/NoSuchElementException" "java/lang/Throwable" "cause" "Ljava/lang/Throwable;") ∈ lw_all := lw_g (lw_at lw_m5 103 rfl) rfl
theorem q1097 : (Jvm.Cond.lays "java/util/NoSuchElementException" "java/lang/Throwable" "stackTrace" "[Ljava/lang/StackTraceElement;") ∈ lw_all := lw_g (lw_at lw_m5 104 rfl) rfl
theorem q1098 : (Jvm.Cond.lays "java/util/NoSuchElementException" "java/lang/Throwable" "suppressedExceptions" "Ljava/util/List;") ∈ lw_all := lw_g (lw_at lw_m5 105 rfl) rfl
theorem q1099 : (Jvm.Cond.lays "java/util/NoSuchElementException" "java/lang/Throwable" "detailMessage" "Ljava/lang/String;") ∈ lw_all := lw_g (lw_at lw_m5 106 rfl) rfl
theorem q1100 : (Jvm.Cond.lays "java/util/NoSuchElementException" "java/lang/Throwable" "backtrace" "Ljava/lang/Object;") ∈ lw_all := lw_g (lw_at lw_m5 107 rfl) rfl
theorem q1102 : (Jvm.Cond.instanceMethod ({ cls := "java/util/NoSuchElementException", name := "<init>", desc := "()V" } : Jvm.MethodName)) ∈ lw_all := lw_g (lw_at lw_m5 109 rfl) rfl
theorem q1103 : (Jvm.Cond.code ({ cls := "java/util/NoSuchElementException", name := "<init>", desc := "()V" } : Jvm.MethodName) prog_64_method_1_code (1 : Nat) (Option.none : Option Jvm.ClassFile.FieldType)) ∈ lw_all := lw_g (lw_at lw_m5 110 rfl) rfl
theorem q1104 : (Jvm.Cond.methodLink "java/util/NoSuchElementException" (1 : Nat) ({ cls := "java/lang/RuntimeException", name := "<init>", desc := "()V" } : Jvm.MethodName)) ∈ lw_all := lw_g (lw_at lw_m5 111 rfl) rfl
theorem q1105 : (Jvm.Cond.lays "java/util/NoSuchElementException" "java/lang/Throwable" "depth" "I") ∈ lw_all := lw_g (lw_at lw_m5 112 rfl) rfl
theorem q1106 : (Jvm.Cond.superclass "java/util/NoSuchElementException" "java/lang/RuntimeException") ∈ lw_all := lw_g (lw_at lw_m5 113 rfl) rfl
theorem q1448 : (Jvm.Cond.instanceMethod ({ cls := "java/util/NoSuchElementException", name := "<init>", desc := "(Ljava/lang/Throwable;)V" } : Jvm.MethodName)) ∈ lw_all := lw_g (lw_at lw_m6 215 rfl) rfl
theorem q1449 : (Jvm.Cond.code ({ cls := "java/util/NoSuchElementException", name := "<init>", desc := "(Ljava/lang/Throwable;)V" } : Jvm.MethodName) prog_64_method_3_code (2 : Nat) (Option.none : Option Jvm.ClassFile.FieldType)) ∈ lw_all := lw_g (lw_at lw_m6 216 rfl) rfl
theorem q1450 : (Jvm.Cond.methodLink "java/util/NoSuchElementException" (10 : Nat) ({ cls := "java/lang/RuntimeException", name := "<init>", desc := "(Ljava/lang/Throwable;)V" } : Jvm.MethodName)) ∈ lw_all := lw_g (lw_at lw_m6 217 rfl) rfl
theorem q1468 : (Jvm.Cond.selects "java/util/NoSuchElementException" ({ cls := "java/lang/Throwable", name := "toString", desc := "()Ljava/lang/String;" } : Jvm.MethodName) ({ cls := "java/lang/Throwable", name := "toString", desc := "()Ljava/lang/String;" } : Jvm.MethodName)) ∈ lw_all := lw_g (lw_at lw_m6 235 rfl) rfl
theorem q1480 : (Jvm.Cond.selects "java/util/NoSuchElementException" ({ cls := "java/lang/Throwable", name := "getLocalizedMessage", desc := "()Ljava/lang/String;" } : Jvm.MethodName) ({ cls := "java/lang/Throwable", name := "getLocalizedMessage", desc := "()Ljava/lang/String;" } : Jvm.MethodName)) ∈ lw_all := lw_g (lw_at lw_m7 7 rfl) rfl
theorem q1491 : (Jvm.Cond.selects "java/util/NoSuchElementException" ({ cls := "java/lang/Throwable", name := "getMessage", desc := "()Ljava/lang/String;" } : Jvm.MethodName) ({ cls := "java/lang/Throwable", name := "getMessage", desc := "()Ljava/lang/String;" } : Jvm.MethodName)) ∈ lw_all := lw_g (lw_at lw_m7 18 rfl) rfl
theorem q2257 : (Jvm.Cond.castable "java/util/NoSuchElementException" "java/lang/Object") ∈ lw_tbl := lw_at lw_m10 64 rfl
theorem in_J25 : ∀ w ∈ wsJ250, w ∈ lw_all := lw_in wsJ250 [1096, 1097, 1098, 1099, 1100, 1105] (by decide +kernel) (by decide +kernel)

/-! java/lang/UnsupportedOperationException -/
set_option maxRecDepth 100000
def RJ26 : String := "java/lang/UnsupportedOperationException"
def TJ26 : u_T := fun k => match k with
  | 0 => ("java/lang/Throwable", "cause", "Ljava/lang/Throwable;", false)
  | 1 => ("java/lang/Throwable", "stackTrace", "[Ljava/lang/StackTraceElement;", false)
  | 2 => ("java/lang/Throwable", "suppressedExceptions", "Ljava/util/List;", false)
  | 3 => ("java/lang/Throwable", "detailMessage", "Ljava/lang/String;", false)
  | 4 => ("java/lang/Throwable", "backtrace", "Ljava/lang/Object;", false)
  | _ => ("java/lang/Throwable", "depth", "I", false)
def tyJ26 : Nat → FieldType := fun k => match k with
  | 0 => .object "java/lang/Throwable"
  | 1 => .array (.object "java/lang/StackTraceElement")
  | 2 => .object "java/util/List"
  | 3 => .object "java/lang/String"
  | 4 => .object "java/lang/Object"
  | _ => .int
abbrev wsJ260 : List Cond := u_ws RJ26 TJ26 6
theorem nmJ26 : ∀ a, a < 6 → ∀ b, b < 6 → a ≠ b → (TJ26 a).2.1 ≠ (TJ26 b).2.1 := by decide +kernel
theorem tyJ26_ok : ∀ k, k < 6 → parseFieldDescriptor (TJ26 k).2.2.1 = some (tyJ26 k) := by decide +kernel
abbrev cJ26_init : ByteArray := prog_43_method_1_code
def yJ26_init : MethodName := ⟨RJ26, "<init>", "()V"⟩
theorem dJ26_init_0 : decode cJ26_init 0 = .ok (.aload_n 0, 1) := by decide +kernel
theorem dJ26_init_1 : decode cJ26_init 1 = .ok (.invokespecial 1, 3) := by decide +kernel
theorem dJ26_init_4 : decode cJ26_init 4 = .ok (.return_, 1) := by decide +kernel
theorem q74 : (Jvm.Cond.initialized "java/lang/UnsupportedOperationException") ∈ lw_all := lw_g (lw_at lw_m1 41 rfl) rfl
theorem q297 : (Jvm.Cond.selects "java/lang/UnsupportedOperationException" ({ cls := "java/lang/Object", name := "getClass", desc := "()Ljava/lang/Class;" } : Jvm.MethodName) ({ cls := "java/lang/Object", name := "getClass", desc := "()Ljava/lang/Class;" } : Jvm.MethodName)) ∈ lw_all := lw_g (lw_at lw_m2 24 rfl) rfl
theorem q613 : (Jvm.Cond.selects "java/lang/UnsupportedOperationException" ({ cls := "java/lang/Throwable", name := "fillInStackTrace", desc := "()Ljava/lang/Throwable;" } : Jvm.MethodName) ({ cls := "java/lang/Throwable", name := "fillInStackTrace", desc := "()Ljava/lang/Throwable;" } : Jvm.MethodName)) ∈ lw_all := lw_g (lw_at lw_m3 100 rfl) rfl
theorem q1132 : (Jvm.Cond.instantiable "java/lang/UnsupportedOperationException" (6 : Nat)) ∈ lw_all := lw_g (lw_at lw_m5 139 rfl) rfl
theorem q1133 : (Jvm.Cond.castable "java/lang/UnsupportedOperationException" "java/lang/UnsupportedOperationException") ∈ lw_tbl := lw_at lw_m5 140 rfl
theorem q1134 : (Jvm.Cond.selects "java/lang/UnsupportedOperationException" ({ cls := "java/lang/Throwable", name := "fillInStackTrace", desc := "(I)Ljava/lang/Throwable;" } : Jvm.MethodName) ({ cls := "java/lang/Throwable", name := "fillInStackTrace", desc := "(I)Ljava/lang/Throwable;" } : Jvm.MethodName)) ∈ lw_all := lw_g (lw_at lw_m5 141 rfl) rfl
theorem q1135 : (Jvm.Cond.lays "java/lang/UnsupportedOperationException" "java/lang/Throwable" "cause" "Ljava/lang/Throwable;") ∈ lw_all := lw_g (lw_at lw_m5 142 rfl) rfl
theorem q1136 : (Jvm.Cond.lays "java/lang/UnsupportedOperationException" "java/lang/Throwable" "stackTrace" "[Ljava/lang/StackTraceElement;") ∈ lw_all := lw_g (lw_at lw_m5 143 rfl) rfl
theorem q1137 : (Jvm.Cond.lays "java/lang/UnsupportedOperationException" "java/lang/Throwable" "suppressedExceptions" "Ljava/util/List;") ∈ lw_all := lw_g (lw_at lw_m5 144 rfl) rfl
theorem q1138 : (Jvm.Cond.lays "java/lang/UnsupportedOperationException" "java/lang/Throwable" "detailMessage" "Ljava/lang/String;") ∈ lw_all := lw_g (lw_at lw_m5 145 rfl) rfl
theorem q1139 : (Jvm.Cond.lays "java/lang/UnsupportedOperationException" "java/lang/Throwable" "backtrace" "Ljava/lang/Object;") ∈ lw_all := lw_g (lw_at lw_m5 146 rfl) rfl
theorem q1141 : (Jvm.Cond.instanceMethod ({ cls := "java/lang/UnsupportedOperationException", name := "<init>", desc := "()V" } : Jvm.MethodName)) ∈ lw_all := lw_g (lw_at lw_m5 148 rfl) rfl
theorem q1142 : (Jvm.Cond.code ({ cls := "java/lang/UnsupportedOperationException", name := "<init>", desc := "()V" } : Jvm.MethodName) prog_43_method_1_code (1 : Nat) (Option.none : Option Jvm.ClassFile.FieldType)) ∈ lw_all := lw_g (lw_at lw_m5 149 rfl) rfl
theorem q1143 : (Jvm.Cond.methodLink "java/lang/UnsupportedOperationException" (1 : Nat) ({ cls := "java/lang/RuntimeException", name := "<init>", desc := "()V" } : Jvm.MethodName)) ∈ lw_all := lw_g (lw_at lw_m5 150 rfl) rfl
theorem q1144 : (Jvm.Cond.lays "java/lang/UnsupportedOperationException" "java/lang/Throwable" "depth" "I") ∈ lw_all := lw_g (lw_at lw_m5 151 rfl) rfl
theorem q1145 : (Jvm.Cond.superclass "java/lang/UnsupportedOperationException" "java/lang/RuntimeException") ∈ lw_all := lw_g (lw_at lw_m5 152 rfl) rfl
theorem q1467 : (Jvm.Cond.selects "java/lang/UnsupportedOperationException" ({ cls := "java/lang/Throwable", name := "toString", desc := "()Ljava/lang/String;" } : Jvm.MethodName) ({ cls := "java/lang/Throwable", name := "toString", desc := "()Ljava/lang/String;" } : Jvm.MethodName)) ∈ lw_all := lw_g (lw_at lw_m6 234 rfl) rfl
theorem q1479 : (Jvm.Cond.selects "java/lang/UnsupportedOperationException" ({ cls := "java/lang/Throwable", name := "getLocalizedMessage", desc := "()Ljava/lang/String;" } : Jvm.MethodName) ({ cls := "java/lang/Throwable", name := "getLocalizedMessage", desc := "()Ljava/lang/String;" } : Jvm.MethodName)) ∈ lw_all := lw_g (lw_at lw_m7 6 rfl) rfl
theorem q1490 : (Jvm.Cond.selects "java/lang/UnsupportedOperationException" ({ cls := "java/lang/Throwable", name := "getMessage", desc := "()Ljava/lang/String;" } : Jvm.MethodName) ({ cls := "java/lang/Throwable", name := "getMessage", desc := "()Ljava/lang/String;" } : Jvm.MethodName)) ∈ lw_all := lw_g (lw_at lw_m7 17 rfl) rfl
theorem q2258 : (Jvm.Cond.castable "java/lang/UnsupportedOperationException" "java/lang/Object") ∈ lw_tbl := lw_at lw_m10 65 rfl
theorem in_J26 : ∀ w ∈ wsJ260, w ∈ lw_all := lw_in wsJ260 [1135, 1136, 1137, 1138, 1139, 1144] (by decide +kernel) (by decide +kernel)

/-! java/lang/Long -/
set_option maxRecDepth 100000
def RJ27 : String := "java/lang/Long"
abbrev cJ27_bitCount : ByteArray := prog_33_method_50_code
def yJ27_bitCount : MethodName := ⟨RJ27, "bitCount", "(J)I"⟩
def dkwJ27_bitCount_2 : List UInt8 := [30, 30, 16, 32, 125, 97, 63, 30, 136, 16, 127, 126, 172]
abbrev dktJ27_bitCount_2 : List UInt8 := dkwJ27_bitCount_2 ++ []
def dkwJ27_bitCount_1 : List UInt8 := [30, 30, 7, 125, 97, 20, 1, 62, 127, 63, 30, 30, 16, 8, 125, 97, 63, 30, 30, 16, 16, 125, 97, 63]
abbrev dktJ27_bitCount_1 : List UInt8 := dkwJ27_bitCount_1 ++ dktJ27_bitCount_2
def dkwJ27_bitCount_0 : List UInt8 := [30, 30, 4, 125, 20, 1, 58, 127, 101, 63, 30, 20, 1, 60, 127, 30, 5, 125, 20, 1, 60, 127, 97, 63]
abbrev dktJ27_bitCount_0 : List UInt8 := dkwJ27_bitCount_0 ++ dktJ27_bitCount_1
theorem dksJ27_bitCount_0 : cJ27_bitCount.data.toList.drop 0 = dktJ27_bitCount_0 := by decide +kernel
theorem dksJ27_bitCount_1 : cJ27_bitCount.data.toList.drop 24 = dktJ27_bitCount_1 := dk_seg dksJ27_bitCount_0 24 rfl rfl
theorem dksJ27_bitCount_2 : cJ27_bitCount.data.toList.drop 48 = dktJ27_bitCount_2 := dk_seg dksJ27_bitCount_1 24 rfl rfl
theorem dJ27_bitCount_0 : decode cJ27_bitCount 0 = .ok (.lload_n 0, 1) := dk_30 (dk_at dksJ27_bitCount_0 0 rfl rfl)
theorem dJ27_bitCount_1 : decode cJ27_bitCount 1 = .ok (.lload_n 0, 1) := dk_30 (dk_at dksJ27_bitCount_0 1 rfl rfl)
theorem dJ27_bitCount_2 : decode cJ27_bitCount 2 = .ok (.iconst 1, 1) := dk_4 (dk_at dksJ27_bitCount_0 2 rfl rfl)
theorem dJ27_bitCount_3 : decode cJ27_bitCount 3 = .ok (.lushr, 1) := dk_125 (dk_at dksJ27_bitCount_0 3 rfl rfl)
theorem dJ27_bitCount_4 : decode cJ27_bitCount 4 = .ok (.ldc2_w 314, 3) := dk_20 1 58 (dk_at dksJ27_bitCount_0 4 rfl rfl)
theorem dJ27_bitCount_7 : decode cJ27_bitCount 7 = .ok (.land, 1) := dk_127 (dk_at dksJ27_bitCount_0 7 rfl rfl)
theorem dJ27_bitCount_8 : decode cJ27_bitCount 8 = .ok (.lsub, 1) := dk_101 (dk_at dksJ27_bitCount_0 8 rfl rfl)
theorem dJ27_bitCount_9 : decode cJ27_bitCount 9 = .ok (.lstore_n 0, 1) := dk_63 (dk_at dksJ27_bitCount_0 9 rfl rfl)
theorem dJ27_bitCount_10 : decode cJ27_bitCount 10 = .ok (.lload_n 0, 1) := dk_30 (dk_at dksJ27_bitCount_0 10 rfl rfl)
theorem dJ27_bitCount_11 : decode cJ27_bitCount 11 = .ok (.ldc2_w 316, 3) := dk_20 1 60 (dk_at dksJ27_bitCount_0 11 rfl rfl)
theorem dJ27_bitCount_14 : decode cJ27_bitCount 14 = .ok (.land, 1) := dk_127 (dk_at dksJ27_bitCount_0 14 rfl rfl)
theorem dJ27_bitCount_15 : decode cJ27_bitCount 15 = .ok (.lload_n 0, 1) := dk_30 (dk_at dksJ27_bitCount_0 15 rfl rfl)
theorem dJ27_bitCount_16 : decode cJ27_bitCount 16 = .ok (.iconst 2, 1) := dk_5 (dk_at dksJ27_bitCount_0 16 rfl rfl)
theorem dJ27_bitCount_17 : decode cJ27_bitCount 17 = .ok (.lushr, 1) := dk_125 (dk_at dksJ27_bitCount_0 17 rfl rfl)
theorem dJ27_bitCount_18 : decode cJ27_bitCount 18 = .ok (.ldc2_w 316, 3) := dk_20 1 60 (dk_at dksJ27_bitCount_0 18 rfl rfl)
theorem dJ27_bitCount_21 : decode cJ27_bitCount 21 = .ok (.land, 1) := dk_127 (dk_at dksJ27_bitCount_0 21 rfl rfl)
theorem dJ27_bitCount_22 : decode cJ27_bitCount 22 = .ok (.ladd, 1) := dk_97 (dk_at dksJ27_bitCount_0 22 rfl rfl)
theorem dJ27_bitCount_23 : decode cJ27_bitCount 23 = .ok (.lstore_n 0, 1) := dk_63 (dk_at dksJ27_bitCount_0 23 rfl rfl)
theorem dJ27_bitCount_24 : decode cJ27_bitCount 24 = .ok (.lload_n 0, 1) := dk_30 (dk_at dksJ27_bitCount_1 0 rfl rfl)
theorem dJ27_bitCount_25 : decode cJ27_bitCount 25 = .ok (.lload_n 0, 1) := dk_30 (dk_at dksJ27_bitCount_1 1 rfl rfl)
theorem dJ27_bitCount_26 : decode cJ27_bitCount 26 = .ok (.iconst 4, 1) := dk_7 (dk_at dksJ27_bitCount_1 2 rfl rfl)
theorem dJ27_bitCount_27 : decode cJ27_bitCount 27 = .ok (.lushr, 1) := dk_125 (dk_at dksJ27_bitCount_1 3 rfl rfl)
theorem dJ27_bitCount_28 : decode cJ27_bitCount 28 = .ok (.ladd, 1) := dk_97 (dk_at dksJ27_bitCount_1 4 rfl rfl)
theorem dJ27_bitCount_29 : decode cJ27_bitCount 29 = .ok (.ldc2_w 318, 3) := dk_20 1 62 (dk_at dksJ27_bitCount_1 5 rfl rfl)
theorem dJ27_bitCount_32 : decode cJ27_bitCount 32 = .ok (.land, 1) := dk_127 (dk_at dksJ27_bitCount_1 8 rfl rfl)
theorem dJ27_bitCount_33 : decode cJ27_bitCount 33 = .ok (.lstore_n 0, 1) := dk_63 (dk_at dksJ27_bitCount_1 9 rfl rfl)
theorem dJ27_bitCount_34 : decode cJ27_bitCount 34 = .ok (.lload_n 0, 1) := dk_30 (dk_at dksJ27_bitCount_1 10 rfl rfl)
theorem dJ27_bitCount_35 : decode cJ27_bitCount 35 = .ok (.lload_n 0, 1) := dk_30 (dk_at dksJ27_bitCount_1 11 rfl rfl)
theorem dJ27_bitCount_36 : decode cJ27_bitCount 36 = .ok (.bipush 8, 2) := dk_16 8 (dk_at dksJ27_bitCount_1 12 rfl rfl)
theorem dJ27_bitCount_38 : decode cJ27_bitCount 38 = .ok (.lushr, 1) := dk_125 (dk_at dksJ27_bitCount_1 14 rfl rfl)
theorem dJ27_bitCount_39 : decode cJ27_bitCount 39 = .ok (.ladd, 1) := dk_97 (dk_at dksJ27_bitCount_1 15 rfl rfl)
theorem dJ27_bitCount_40 : decode cJ27_bitCount 40 = .ok (.lstore_n 0, 1) := dk_63 (dk_at dksJ27_bitCount_1 16 rfl rfl)
theorem dJ27_bitCount_41 : decode cJ27_bitCount 41 = .ok (.lload_n 0, 1) := dk_30 (dk_at dksJ27_bitCount_1 17 rfl rfl)
theorem dJ27_bitCount_42 : decode cJ27_bitCount 42 = .ok (.lload_n 0, 1) := dk_30 (dk_at dksJ27_bitCount_1 18 rfl rfl)
theorem dJ27_bitCount_43 : decode cJ27_bitCount 43 = .ok (.bipush 16, 2) := dk_16 16 (dk_at dksJ27_bitCount_1 19 rfl rfl)
theorem dJ27_bitCount_45 : decode cJ27_bitCount 45 = .ok (.lushr, 1) := dk_125 (dk_at dksJ27_bitCount_1 21 rfl rfl)
theorem dJ27_bitCount_46 : decode cJ27_bitCount 46 = .ok (.ladd, 1) := dk_97 (dk_at dksJ27_bitCount_1 22 rfl rfl)
theorem dJ27_bitCount_47 : decode cJ27_bitCount 47 = .ok (.lstore_n 0, 1) := dk_63 (dk_at dksJ27_bitCount_1 23 rfl rfl)
theorem dJ27_bitCount_48 : decode cJ27_bitCount 48 = .ok (.lload_n 0, 1) := dk_30 (dk_at dksJ27_bitCount_2 0 rfl rfl)
theorem dJ27_bitCount_49 : decode cJ27_bitCount 49 = .ok (.lload_n 0, 1) := dk_30 (dk_at dksJ27_bitCount_2 1 rfl rfl)
theorem dJ27_bitCount_50 : decode cJ27_bitCount 50 = .ok (.bipush 32, 2) := dk_16 32 (dk_at dksJ27_bitCount_2 2 rfl rfl)
theorem dJ27_bitCount_52 : decode cJ27_bitCount 52 = .ok (.lushr, 1) := dk_125 (dk_at dksJ27_bitCount_2 4 rfl rfl)
theorem dJ27_bitCount_53 : decode cJ27_bitCount 53 = .ok (.ladd, 1) := dk_97 (dk_at dksJ27_bitCount_2 5 rfl rfl)
theorem dJ27_bitCount_54 : decode cJ27_bitCount 54 = .ok (.lstore_n 0, 1) := dk_63 (dk_at dksJ27_bitCount_2 6 rfl rfl)
theorem dJ27_bitCount_55 : decode cJ27_bitCount 55 = .ok (.lload_n 0, 1) := dk_30 (dk_at dksJ27_bitCount_2 7 rfl rfl)
theorem dJ27_bitCount_56 : decode cJ27_bitCount 56 = .ok (.l2i, 1) := dk_136 (dk_at dksJ27_bitCount_2 8 rfl rfl)
theorem dJ27_bitCount_57 : decode cJ27_bitCount 57 = .ok (.bipush 127, 2) := dk_16 127 (dk_at dksJ27_bitCount_2 9 rfl rfl)
theorem dJ27_bitCount_59 : decode cJ27_bitCount 59 = .ok (.iand, 1) := dk_126 (dk_at dksJ27_bitCount_2 11 rfl rfl)
theorem dJ27_bitCount_60 : decode cJ27_bitCount 60 = .ok (.ireturn, 1) := dk_172 (dk_at dksJ27_bitCount_2 12 rfl rfl)
theorem q77 : (Jvm.Cond.initialized "java/lang/Long") ∈ lw_all := lw_g (lw_at lw_m1 44 rfl) rfl
theorem q428 : (Jvm.Cond.static ({ cls := "java/lang/Long", name := "bitCount", desc := "(J)I" } : Jvm.MethodName)) ∈ lw_all := lw_g (lw_at lw_m2 155 rfl) rfl
theorem q429 : (Jvm.Cond.code ({ cls := "java/lang/Long", name := "bitCount", desc := "(J)I" } : Jvm.MethodName) prog_33_method_50_code (2 : Nat) (Option.some Jvm.ClassFile.FieldType.int)) ∈ lw_all := lw_g (lw_at lw_m2 156 rfl) rfl
theorem q430 : (Jvm.Cond.constantLong "java/lang/Long" (314 : Nat) (6148914691236517205 : Int64)) ∈ lw_all := lw_g (lw_at lw_m2 157 rfl) rfl
theorem q431 : (Jvm.Cond.constantLong "java/lang/Long" (316 : Nat) (3689348814741910323 : Int64)) ∈ lw_all := lw_g (lw_at lw_m2 158 rfl) rfl
theorem q432 : (Jvm.Cond.constantLong "java/lang/Long" (318 : Nat) (1085102592571150095 : Int64)) ∈ lw_all := lw_g (lw_at lw_m2 159 rfl) rfl

/-! java/util/ArrayList$Itr -/
set_option maxRecDepth 100000
def RJ28 : String := "java/util/ArrayList$Itr"
def TJ28 : u_T := fun k => match k with
  | 0 => ("java/util/ArrayList$Itr", "cursor", "I", false)
  | 1 => ("java/util/ArrayList$Itr", "lastRet", "I", false)
  | 2 => ("java/util/ArrayList$Itr", "expectedModCount", "I", false)
  | _ => ("java/util/ArrayList$Itr", "this$0", "Ljava/util/ArrayList;", true)
def tyJ28 : Nat → FieldType := fun k => match k with
  | 0 => .int
  | 1 => .int
  | 2 => .int
  | _ => .object "java/util/ArrayList"
abbrev wsJ280 : List Cond := u_ws RJ28 TJ28 4
theorem nmJ28 : ∀ a, a < 4 → ∀ b, b < 4 → a ≠ b → (TJ28 a).2.1 ≠ (TJ28 b).2.1 := by decide +kernel
theorem tyJ28_ok : ∀ k, k < 4 → parseFieldDescriptor (TJ28 k).2.2.1 = some (tyJ28 k) := by decide +kernel
abbrev cJ28_init : ByteArray := prog_52_method_1_code
def yJ28_init : MethodName := ⟨RJ28, "<init>", "(Ljava/util/ArrayList;)V"⟩
def dkwJ28_init_1 : List UInt8 := [181, 0, 22, 177]
abbrev dktJ28_init_1 : List UInt8 := dkwJ28_init_1 ++ []
def dkwJ28_init_0 : List UInt8 := [42, 43, 181, 0, 1, 42, 183, 0, 7, 42, 2, 181, 0, 13, 42, 42, 180, 0, 1, 180, 0, 17]
abbrev dktJ28_init_0 : List UInt8 := dkwJ28_init_0 ++ dktJ28_init_1
theorem dksJ28_init_0 : cJ28_init.data.toList.drop 0 = dktJ28_init_0 := by decide +kernel
theorem dksJ28_init_1 : cJ28_init.data.toList.drop 22 = dktJ28_init_1 := dk_seg dksJ28_init_0 22 rfl rfl
theorem dJ28_init_0 : decode cJ28_init 0 = .ok (.aload_n 0, 1) := dk_42 (dk_at dksJ28_init_0 0 rfl rfl)
theorem dJ28_init_1 : decode cJ28_init 1 = .ok (.aload_n 1, 1) := dk_43 (dk_at dksJ28_init_0 1 rfl rfl)
theorem dJ28_init_2 : decode cJ28_init 2 = .ok (.putfield 1, 3) := dk_181 0 1 (dk_at dksJ28_init_0 2 rfl rfl)
theorem dJ28_init_5 : decode cJ28_init 5 = .ok (.aload_n 0, 1) := dk_42 (dk_at dksJ28_init_0 5 rfl rfl)
theorem dJ28_init_6 : decode cJ28_init 6 = .ok (.invokespecial 7, 3) := dk_183 0 7 (dk_at dksJ28_init_0 6 rfl rfl)
theorem dJ28_init_9 : decode cJ28_init 9 = .ok (.aload_n 0, 1) := dk_42 (dk_at dksJ28_init_0 9 rfl rfl)
theorem dJ28_init_10 : decode cJ28_init 10 = .ok (.iconst (-1), 1) := dk_2 (dk_at dksJ28_init_0 10 rfl rfl)
theorem dJ28_init_11 : decode cJ28_init 11 = .ok (.putfield 13, 3) := dk_181 0 13 (dk_at dksJ28_init_0 11 rfl rfl)
theorem dJ28_init_14 : decode cJ28_init 14 = .ok (.aload_n 0, 1) := dk_42 (dk_at dksJ28_init_0 14 rfl rfl)
theorem dJ28_init_15 : decode cJ28_init 15 = .ok (.aload_n 0, 1) := dk_42 (dk_at dksJ28_init_0 15 rfl rfl)
theorem dJ28_init_16 : decode cJ28_init 16 = .ok (.getfield 1, 3) := dk_180 0 1 (dk_at dksJ28_init_0 16 rfl rfl)
theorem dJ28_init_19 : decode cJ28_init 19 = .ok (.getfield 17, 3) := dk_180 0 17 (dk_at dksJ28_init_0 19 rfl rfl)
theorem dJ28_init_22 : decode cJ28_init 22 = .ok (.putfield 22, 3) := dk_181 0 22 (dk_at dksJ28_init_1 0 rfl rfl)
theorem dJ28_init_25 : decode cJ28_init 25 = .ok (.return_, 1) := dk_177 (dk_at dksJ28_init_1 3 rfl rfl)
abbrev cJ28_hasNext : ByteArray := prog_52_method_2_code
def yJ28_hasNext : MethodName := ⟨RJ28, "hasNext", "()Z"⟩
def dkwJ28_hasNext_0 : List UInt8 := [42, 180, 0, 25, 42, 180, 0, 1, 180, 0, 28, 159, 0, 7, 4, 167, 0, 4, 3, 172]
abbrev dktJ28_hasNext_0 : List UInt8 := dkwJ28_hasNext_0 ++ []
theorem dksJ28_hasNext_0 : cJ28_hasNext.data.toList.drop 0 = dktJ28_hasNext_0 := by decide +kernel
theorem dJ28_hasNext_0 : decode cJ28_hasNext 0 = .ok (.aload_n 0, 1) := dk_42 (dk_at dksJ28_hasNext_0 0 rfl rfl)
theorem dJ28_hasNext_1 : decode cJ28_hasNext 1 = .ok (.getfield 25, 3) := dk_180 0 25 (dk_at dksJ28_hasNext_0 1 rfl rfl)
theorem dJ28_hasNext_4 : decode cJ28_hasNext 4 = .ok (.aload_n 0, 1) := dk_42 (dk_at dksJ28_hasNext_0 4 rfl rfl)
theorem dJ28_hasNext_5 : decode cJ28_hasNext 5 = .ok (.getfield 1, 3) := dk_180 0 1 (dk_at dksJ28_hasNext_0 5 rfl rfl)
theorem dJ28_hasNext_8 : decode cJ28_hasNext 8 = .ok (.getfield 28, 3) := dk_180 0 28 (dk_at dksJ28_hasNext_0 8 rfl rfl)
theorem dJ28_hasNext_11 : decode cJ28_hasNext 11 = .ok (.if_icmp .eq 7, 3) := dk_159 0 7 (dk_at dksJ28_hasNext_0 11 rfl rfl)
theorem dJ28_hasNext_14 : decode cJ28_hasNext 14 = .ok (.iconst 1, 1) := dk_4 (dk_at dksJ28_hasNext_0 14 rfl rfl)
theorem dJ28_hasNext_15 : decode cJ28_hasNext 15 = .ok (.goto 4, 3) := dk_167 0 4 (dk_at dksJ28_hasNext_0 15 rfl rfl)
theorem dJ28_hasNext_18 : decode cJ28_hasNext 18 = .ok (.iconst 0, 1) := dk_3 (dk_at dksJ28_hasNext_0 18 rfl rfl)
theorem dJ28_hasNext_19 : decode cJ28_hasNext 19 = .ok (.ireturn, 1) := dk_172 (dk_at dksJ28_hasNext_0 19 rfl rfl)
abbrev cJ28_next : ByteArray := prog_52_method_3_code
def yJ28_next : MethodName := ⟨RJ28, "next", "()Ljava/lang/Object;"⟩
def dkwJ28_next_2 : List UInt8 := [183, 0, 43, 191, 42, 27, 4, 96, 181, 0, 25, 44, 42, 27, 90, 181, 0, 13, 50, 176]
abbrev dktJ28_next_2 : List UInt8 := dkwJ28_next_2 ++ []
def dkwJ28_next_1 : List UInt8 := [183, 0, 36, 191, 42, 180, 0, 1, 180, 0, 37, 77, 27, 44, 190, 161, 0, 11, 187, 0, 41, 89]
abbrev dktJ28_next_1 : List UInt8 := dkwJ28_next_1 ++ dktJ28_next_2
def dkwJ28_next_0 : List UInt8 := [42, 182, 0, 31, 42, 180, 0, 25, 60, 27, 42, 180, 0, 1, 180, 0, 28, 161, 0, 11, 187, 0, 34, 89]
abbrev dktJ28_next_0 : List UInt8 := dkwJ28_next_0 ++ dktJ28_next_1
theorem dksJ28_next_0 : cJ28_next.data.toList.drop 0 = dktJ28_next_0 := by decide +kernel
theorem dksJ28_next_1 : cJ28_next.data.toList.drop 24 = dktJ28_next_1 := dk_seg dksJ28_next_0 24 rfl rfl
theorem dksJ28_next_2 : cJ28_next.data.toList.drop 46 = dktJ28_next_2 := dk_seg dksJ28_next_1 22 rfl rfl
theorem dJ28_next_0 : decode cJ28_next 0 = .ok (.aload_n 0, 1) := dk_42 (dk_at dksJ28_next_0 0 rfl rfl)
theorem dJ28_next_1 : decode cJ28_next 1 = .ok (.invokevirtual 31, 3) := dk_182 0 31 (dk_at dksJ28_next_0 1 rfl rfl)
theorem dJ28_next_4 : decode cJ28_next 4 = .ok (.aload_n 0, 1) := dk_42 (dk_at dksJ28_next_0 4 rfl rfl)
theorem dJ28_next_5 : decode cJ28_next 5 = .ok (.getfield 25, 3) := dk_180 0 25 (dk_at dksJ28_next_0 5 rfl rfl)
theorem dJ28_next_8 : decode cJ28_next 8 = .ok (.istore_n 1, 1) := dk_60 (dk_at dksJ28_next_0 8 rfl rfl)
theorem dJ28_next_9 : decode cJ28_next 9 = .ok (.iload_n 1, 1) := dk_27 (dk_at dksJ28_next_0 9 rfl rfl)
theorem dJ28_next_10 : decode cJ28_next 10 = .ok (.aload_n 0, 1) := dk_42 (dk_at dksJ28_next_0 10 rfl rfl)
theorem dJ28_next_11 : decode cJ28_next 11 = .ok (.getfield 1, 3) := dk_180 0 1 (dk_at dksJ28_next_0 11 rfl rfl)
theorem dJ28_next_14 : decode cJ28_next 14 = .ok (.getfield 28, 3) := dk_180 0 28 (dk_at dksJ28_next_0 14 rfl rfl)
theorem dJ28_next_17 : decode cJ28_next 17 = .ok (.if_icmp .lt 11, 3) := dk_161 0 11 (dk_at dksJ28_next_0 17 rfl rfl)
theorem dJ28_next_20 : decode cJ28_next 20 = .ok (.new 34, 3) := dk_187 0 34 (dk_at dksJ28_next_0 20 rfl rfl)
theorem dJ28_next_23 : decode cJ28_next 23 = .ok (.dup, 1) := dk_89 (dk_at dksJ28_next_0 23 rfl rfl)
theorem dJ28_next_24 : decode cJ28_next 24 = .ok (.invokespecial 36, 3) := dk_183 0 36 (dk_at dksJ28_next_1 0 rfl rfl)
theorem dJ28_next_27 : decode cJ28_next 27 = .ok (.athrow, 1) := dk_191 (dk_at dksJ28_next_1 3 rfl rfl)
theorem dJ28_next_28 : decode cJ28_next 28 = .ok (.aload_n 0, 1) := dk_42 (dk_at dksJ28_next_1 4 rfl rfl)
theorem dJ28_next_29 : decode cJ28_next 29 = .ok (.getfield 1, 3) := dk_180 0 1 (dk_at dksJ28_next_1 5 rfl rfl)
theorem dJ28_next_32 : decode cJ28_next 32 = .ok (.getfield 37, 3) := dk_180 0 37 (dk_at dksJ28_next_1 8 rfl rfl)
theorem dJ28_next_35 : decode cJ28_next 35 = .ok (.astore_n 2, 1) := dk_77 (dk_at dksJ28_next_1 11 rfl rfl)
theorem dJ28_next_36 : decode cJ28_next 36 = .ok (.iload_n 1, 1) := dk_27 (dk_at dksJ28_next_1 12 rfl rfl)
theorem dJ28_next_37 : decode cJ28_next 37 = .ok (.aload_n 2, 1) := dk_44 (dk_at dksJ28_next_1 13 rfl rfl)
theorem dJ28_next_38 : decode cJ28_next 38 = .ok (.arraylength, 1) := dk_190 (dk_at dksJ28_next_1 14 rfl rfl)
theorem dJ28_next_39 : decode cJ28_next 39 = .ok (.if_icmp .lt 11, 3) := dk_161 0 11 (dk_at dksJ28_next_1 15 rfl rfl)
theorem dJ28_next_42 : decode cJ28_next 42 = .ok (.new 41, 3) := dk_187 0 41 (dk_at dksJ28_next_1 18 rfl rfl)
theorem dJ28_next_45 : decode cJ28_next 45 = .ok (.dup, 1) := dk_89 (dk_at dksJ28_next_1 21 rfl rfl)
theorem dJ28_next_46 : decode cJ28_next 46 = .ok (.invokespecial 43, 3) := dk_183 0 43 (dk_at dksJ28_next_2 0 rfl rfl)
theorem dJ28_next_49 : decode cJ28_next 49 = .ok (.athrow, 1) := dk_191 (dk_at dksJ28_next_2 3 rfl rfl)
theorem dJ28_next_50 : decode cJ28_next 50 = .ok (.aload_n 0, 1) := dk_42 (dk_at dksJ28_next_2 4 rfl rfl)
theorem dJ28_next_51 : decode cJ28_next 51 = .ok (.iload_n 1, 1) := dk_27 (dk_at dksJ28_next_2 5 rfl rfl)
theorem dJ28_next_52 : decode cJ28_next 52 = .ok (.iconst 1, 1) := dk_4 (dk_at dksJ28_next_2 6 rfl rfl)
theorem dJ28_next_53 : decode cJ28_next 53 = .ok (.iadd, 1) := dk_96 (dk_at dksJ28_next_2 7 rfl rfl)
theorem dJ28_next_54 : decode cJ28_next 54 = .ok (.putfield 25, 3) := dk_181 0 25 (dk_at dksJ28_next_2 8 rfl rfl)
theorem dJ28_next_57 : decode cJ28_next 57 = .ok (.aload_n 2, 1) := dk_44 (dk_at dksJ28_next_2 11 rfl rfl)
theorem dJ28_next_58 : decode cJ28_next 58 = .ok (.aload_n 0, 1) := dk_42 (dk_at dksJ28_next_2 12 rfl rfl)
theorem dJ28_next_59 : decode cJ28_next 59 = .ok (.iload_n 1, 1) := dk_27 (dk_at dksJ28_next_2 13 rfl rfl)
theorem dJ28_next_60 : decode cJ28_next 60 = .ok (.dup_x1, 1) := dk_90 (dk_at dksJ28_next_2 14 rfl rfl)
theorem dJ28_next_61 : decode cJ28_next 61 = .ok (.putfield 13, 3) := dk_181 0 13 (dk_at dksJ28_next_2 15 rfl rfl)
theorem dJ28_next_64 : decode cJ28_next 64 = .ok (.aaload, 1) := dk_50 (dk_at dksJ28_next_2 18 rfl rfl)
theorem dJ28_next_65 : decode cJ28_next 65 = .ok (.areturn, 1) := dk_176 (dk_at dksJ28_next_2 19 rfl rfl)
abbrev cJ28_checkForComodification : ByteArray := prog_52_method_6_code
def yJ28_checkForComodification : MethodName := ⟨RJ28, "checkForComodification", "()V"⟩
def dkwJ28_checkForComodification_0 : List UInt8 := [42, 180, 0, 1, 180, 0, 17, 42, 180, 0, 22, 159, 0, 11, 187, 0, 41, 89, 183, 0, 43, 191, 177]
abbrev dktJ28_checkForComodification_0 : List UInt8 := dkwJ28_checkForComodification_0 ++ []
theorem dksJ28_checkForComodification_0 : cJ28_checkForComodification.data.toList.drop 0 = dktJ28_checkForComodification_0 := by decide +kernel
theorem dJ28_checkForComodification_0 : decode cJ28_checkForComodification 0 = .ok (.aload_n 0, 1) := dk_42 (dk_at dksJ28_checkForComodification_0 0 rfl rfl)
theorem dJ28_checkForComodification_1 : decode cJ28_checkForComodification 1 = .ok (.getfield 1, 3) := dk_180 0 1 (dk_at dksJ28_checkForComodification_0 1 rfl rfl)
theorem dJ28_checkForComodification_4 : decode cJ28_checkForComodification 4 = .ok (.getfield 17, 3) := dk_180 0 17 (dk_at dksJ28_checkForComodification_0 4 rfl rfl)
theorem dJ28_checkForComodification_7 : decode cJ28_checkForComodification 7 = .ok (.aload_n 0, 1) := dk_42 (dk_at dksJ28_checkForComodification_0 7 rfl rfl)
theorem dJ28_checkForComodification_8 : decode cJ28_checkForComodification 8 = .ok (.getfield 22, 3) := dk_180 0 22 (dk_at dksJ28_checkForComodification_0 8 rfl rfl)
theorem dJ28_checkForComodification_11 : decode cJ28_checkForComodification 11 = .ok (.if_icmp .eq 11, 3) := dk_159 0 11 (dk_at dksJ28_checkForComodification_0 11 rfl rfl)
theorem dJ28_checkForComodification_14 : decode cJ28_checkForComodification 14 = .ok (.new 41, 3) := dk_187 0 41 (dk_at dksJ28_checkForComodification_0 14 rfl rfl)
theorem dJ28_checkForComodification_17 : decode cJ28_checkForComodification 17 = .ok (.dup, 1) := dk_89 (dk_at dksJ28_checkForComodification_0 17 rfl rfl)
theorem dJ28_checkForComodification_18 : decode cJ28_checkForComodification 18 = .ok (.invokespecial 43, 3) := dk_183 0 43 (dk_at dksJ28_checkForComodification_0 18 rfl rfl)
theorem dJ28_checkForComodification_21 : decode cJ28_checkForComodification 21 = .ok (.athrow, 1) := dk_191 (dk_at dksJ28_checkForComodification_0 21 rfl rfl)
theorem dJ28_checkForComodification_22 : decode cJ28_checkForComodification 22 = .ok (.return_, 1) := dk_177 (dk_at dksJ28_checkForComodification_0 22 rfl rfl)
theorem q78 : (Jvm.Cond.initialized "java/util/ArrayList$Itr") ∈ lw_all := lw_g (lw_at lw_m1 45 rfl) rfl
theorem q140 : (Jvm.Cond.fieldLink "java/util/ArrayList$Itr" (37 : Nat) "java/util/ArrayList" "elementData" "[Ljava/lang/Object;") ∈ lw_all := lw_g (lw_at lw_m1 107 rfl) rfl
theorem q141 : (Jvm.Cond.fieldLinkNest "java/util/ArrayList$Itr" (28 : Nat) "java/util/ArrayList" "size" "I" "java/util/ArrayList") ∈ lw_tbl := lw_at lw_m1 108 rfl
theorem q146 : (Jvm.Cond.fieldLink "java/util/ArrayList$Itr" (17 : Nat) "java/util/ArrayList" "modCount" "I") ∈ lw_all := lw_g (lw_at lw_m1 113 rfl) rfl
theorem q300 : (Jvm.Cond.selects "java/util/ArrayList$Itr" ({ cls := "java/lang/Object", name := "getClass", desc := "()Ljava/lang/Class;" } : Jvm.MethodName) ({ cls := "java/lang/Object", name := "getClass", desc := "()Ljava/lang/Class;" } : Jvm.MethodName)) ∈ lw_all := lw_g (lw_at lw_m2 27 rfl) rfl
theorem q1295 : (Jvm.Cond.instantiable "java/util/ArrayList$Itr" (4 : Nat)) ∈ lw_all := lw_g (lw_at lw_m6 62 rfl) rfl
theorem q1297 : (Jvm.Cond.instanceMethod ({ cls := "java/util/ArrayList$Itr", name := "<init>", desc := "(Ljava/util/ArrayList;)V" } : Jvm.MethodName)) ∈ lw_all := lw_g (lw_at lw_m6 64 rfl) rfl
theorem q1298 : (Jvm.Cond.code ({ cls := "java/util/ArrayList$Itr", name := "<init>", desc := "(Ljava/util/ArrayList;)V" } : Jvm.MethodName) prog_52_method_1_code (2 : Nat) (Option.none : Option Jvm.ClassFile.FieldType)) ∈ lw_all := lw_g (lw_at lw_m6 65 rfl) rfl
theorem q1299 : (Jvm.Cond.methodLink "java/util/ArrayList$Itr" (7 : Nat) ({ cls := "java/lang/Object", name := "<init>", desc := "()V" } : Jvm.MethodName)) ∈ lw_all := lw_g (lw_at lw_m6 66 rfl) rfl
theorem q1302 : (Jvm.Cond.fieldLink "java/util/ArrayList$Itr" (25 : Nat) "java/util/ArrayList$Itr" "cursor" "I") ∈ lw_all := lw_g (lw_at lw_m6 69 rfl) rfl
theorem q1303 : (Jvm.Cond.fieldLink "java/util/ArrayList$Itr" (13 : Nat) "java/util/ArrayList$Itr" "lastRet" "I") ∈ lw_all := lw_g (lw_at lw_m6 70 rfl) rfl
theorem q1304 : (Jvm.Cond.fieldLink "java/util/ArrayList$Itr" (22 : Nat) "java/util/ArrayList$Itr" "expectedModCount" "I") ∈ lw_all := lw_g (lw_at lw_m6 71 rfl) rfl
theorem q1305 : (Jvm.Cond.fieldLink "java/util/ArrayList$Itr" (1 : Nat) "java/util/ArrayList$Itr" "this$0" "Ljava/util/ArrayList;") ∈ lw_all := lw_g (lw_at lw_m6 72 rfl) rfl
theorem q1306 : (Jvm.Cond.lays "java/util/ArrayList$Itr" "java/util/ArrayList$Itr" "cursor" "I") ∈ lw_all := lw_g (lw_at lw_m6 73 rfl) rfl
theorem q1307 : (Jvm.Cond.soleField "java/util/ArrayList$Itr" "cursor") ∈ lw_all := lw_g (lw_at lw_m6 74 rfl) rfl
theorem q1308 : (Jvm.Cond.lays "java/util/ArrayList$Itr" "java/util/ArrayList$Itr" "lastRet" "I") ∈ lw_all := lw_g (lw_at lw_m6 75 rfl) rfl
theorem q1309 : (Jvm.Cond.soleField "java/util/ArrayList$Itr" "lastRet") ∈ lw_all := lw_g (lw_at lw_m6 76 rfl) rfl
theorem q1310 : (Jvm.Cond.lays "java/util/ArrayList$Itr" "java/util/ArrayList$Itr" "expectedModCount" "I") ∈ lw_all := lw_g (lw_at lw_m6 77 rfl) rfl
theorem q1311 : (Jvm.Cond.soleField "java/util/ArrayList$Itr" "expectedModCount") ∈ lw_all := lw_g (lw_at lw_m6 78 rfl) rfl
theorem q1312 : (Jvm.Cond.laysFinal "java/util/ArrayList$Itr" "java/util/ArrayList$Itr" "this$0" "Ljava/util/ArrayList;") ∈ lw_all := lw_g (lw_at lw_m6 79 rfl) rfl
theorem q1313 : (Jvm.Cond.soleField "java/util/ArrayList$Itr" "this$0") ∈ lw_all := lw_g (lw_at lw_m6 80 rfl) rfl
theorem q1314 : (Jvm.Cond.superclass "java/util/ArrayList$Itr" "java/lang/Object") ∈ lw_all := lw_g (lw_at lw_m6 81 rfl) rfl
theorem q1412 : (Jvm.Cond.castable "java/util/ArrayList$Itr" "java/util/Iterator") ∈ lw_tbl := lw_at lw_m6 179 rfl
theorem q1413 : (Jvm.Cond.selects "java/util/ArrayList$Itr" ({ cls := "java/util/Iterator", name := "hasNext", desc := "()Z" } : Jvm.MethodName) ({ cls := "java/util/ArrayList$Itr", name := "hasNext", desc := "()Z" } : Jvm.MethodName)) ∈ lw_all := lw_g (lw_at lw_m6 180 rfl) rfl
theorem q1414 : (Jvm.Cond.unhidden "java/util/ArrayList$Itr" "hasNext" "()Z") ∈ lw_tbl := lw_at lw_m6 181 rfl
theorem q1415 : (Jvm.Cond.instanceMethod ({ cls := "java/util/ArrayList$Itr", name := "hasNext", desc := "()Z" } : Jvm.MethodName)) ∈ lw_all := lw_g (lw_at lw_m6 182 rfl) rfl
theorem q1416 : (Jvm.Cond.publicMethod ({ cls := "java/util/ArrayList$Itr", name := "hasNext", desc := "()Z" } : Jvm.MethodName)) ∈ lw_tbl := lw_at lw_m6 183 rfl
theorem q1417 : (Jvm.Cond.code ({ cls := "java/util/ArrayList$Itr", name := "hasNext", desc := "()Z" } : Jvm.MethodName) prog_52_method_2_code (1 : Nat) (Option.some Jvm.ClassFile.FieldType.boolean)) ∈ lw_all := lw_g (lw_at lw_m6 184 rfl) rfl
theorem q1498 : (Jvm.Cond.selects "java/util/ArrayList$Itr" ({ cls := "java/util/Iterator", name := "next", desc := "()Ljava/lang/Object;" } : Jvm.MethodName) ({ cls := "java/util/ArrayList$Itr", name := "next", desc := "()Ljava/lang/Object;" } : Jvm.MethodName)) ∈ lw_all := lw_g (lw_at lw_m7 25 rfl) rfl
theorem q1499 : (Jvm.Cond.unhidden "java/util/ArrayList$Itr" "next" "()Ljava/lang/Object;") ∈ lw_tbl := lw_at lw_m7 26 rfl
theorem q1500 : (Jvm.Cond.instanceMethod ({ cls := "java/util/ArrayList$Itr", name := "next", desc := "()Ljava/lang/Object;" } : Jvm.MethodName)) ∈ lw_all := lw_g (lw_at lw_m7 27 rfl) rfl
theorem q1501 : (Jvm.Cond.publicMethod ({ cls := "java/util/ArrayList$Itr", name := "next", desc := "()Ljava/lang/Object;" } : Jvm.MethodName)) ∈ lw_tbl := lw_at lw_m7 28 rfl
theorem q1502 : (Jvm.Cond.code ({ cls := "java/util/ArrayList$Itr", name := "next", desc := "()Ljava/lang/Object;" } : Jvm.MethodName) prog_52_method_3_code (3 : Nat) (Option.some (Jvm.ClassFile.FieldType.object "java/lang/Object"))) ∈ lw_all := lw_g (lw_at lw_m7 29 rfl) rfl
theorem q1503 : (Jvm.Cond.methodLink "java/util/ArrayList$Itr" (31 : Nat) ({ cls := "java/util/ArrayList$Itr", name := "checkForComodification", desc := "()V" } : Jvm.MethodName)) ∈ lw_all := lw_g (lw_at lw_m7 30 rfl) rfl
theorem q1504 : (Jvm.Cond.instanceMethod ({ cls := "java/util/ArrayList$Itr", name := "checkForComodification", desc := "()V" } : Jvm.MethodName)) ∈ lw_all := lw_g (lw_at lw_m7 31 rfl) rfl
theorem q1505 : (Jvm.Cond.selects "java/util/ArrayList$Itr" ({ cls := "java/util/ArrayList$Itr", name := "checkForComodification", desc := "()V" } : Jvm.MethodName) ({ cls := "java/util/ArrayList$Itr", name := "checkForComodification", desc := "()V" } : Jvm.MethodName)) ∈ lw_all := lw_g (lw_at lw_m7 32 rfl) rfl
theorem q1506 : (Jvm.Cond.sameMethod "java/util/ArrayList$Itr" "java/util/ArrayList$Itr" "checkForComodification" "()V") ∈ lw_all := lw_g (lw_at lw_m7 33 rfl) rfl
theorem q1508 : (Jvm.Cond.code ({ cls := "java/util/ArrayList$Itr", name := "checkForComodification", desc := "()V" } : Jvm.MethodName) prog_52_method_6_code (1 : Nat) (Option.none : Option Jvm.ClassFile.FieldType)) ∈ lw_all := lw_g (lw_at lw_m7 35 rfl) rfl
theorem q1509 : (Jvm.Cond.classLink "java/util/ArrayList$Itr" (34 : Nat) "java/util/NoSuchElementException") ∈ lw_all := lw_g (lw_at lw_m7 36 rfl) rfl
theorem q1510 : (Jvm.Cond.methodLink "java/util/ArrayList$Itr" (36 : Nat) ({ cls := "java/util/NoSuchElementException", name := "<init>", desc := "()V" } : Jvm.MethodName)) ∈ lw_all := lw_g (lw_at lw_m7 37 rfl) rfl
theorem q2261 : (Jvm.Cond.castable "java/util/ArrayList$Itr" "java/lang/Object") ∈ lw_tbl := lw_at lw_m10 68 rfl
theorem in_J28 : ∀ w ∈ wsJ280, w ∈ lw_all := lw_in wsJ280 [1306, 1308, 1310, 1312] (by decide +kernel) (by decide +kernel)

/-! java/util/AbstractList$Itr -/
set_option maxRecDepth 100000
def RJ29 : String := "java/util/AbstractList$Itr"
abbrev cJ29_hasNext : ByteArray := prog_48_method_2_code
def yJ29_hasNext : MethodName := ⟨RJ29, "hasNext", "()Z"⟩
def dkwJ29_hasNext_0 : List UInt8 := [42, 180, 0, 13, 42, 180, 0, 1, 182, 0, 28, 159, 0, 7, 4, 167, 0, 4, 3, 172]
abbrev dktJ29_hasNext_0 : List UInt8 := dkwJ29_hasNext_0 ++ []
theorem dksJ29_hasNext_0 : cJ29_hasNext.data.toList.drop 0 = dktJ29_hasNext_0 := by decide +kernel
theorem dJ29_hasNext_0 : decode cJ29_hasNext 0 = .ok (.aload_n 0, 1) := dk_42 (dk_at dksJ29_hasNext_0 0 rfl rfl)
theorem dJ29_hasNext_1 : decode cJ29_hasNext 1 = .ok (.getfield 13, 3) := dk_180 0 13 (dk_at dksJ29_hasNext_0 1 rfl rfl)
theorem dJ29_hasNext_4 : decode cJ29_hasNext 4 = .ok (.aload_n 0, 1) := dk_42 (dk_at dksJ29_hasNext_0 4 rfl rfl)
theorem dJ29_hasNext_5 : decode cJ29_hasNext 5 = .ok (.getfield 1, 3) := dk_180 0 1 (dk_at dksJ29_hasNext_0 5 rfl rfl)
theorem dJ29_hasNext_8 : decode cJ29_hasNext 8 = .ok (.invokevirtual 28, 3) := dk_182 0 28 (dk_at dksJ29_hasNext_0 8 rfl rfl)
theorem dJ29_hasNext_11 : decode cJ29_hasNext 11 = .ok (.if_icmp .eq 7, 3) := dk_159 0 7 (dk_at dksJ29_hasNext_0 11 rfl rfl)
theorem dJ29_hasNext_14 : decode cJ29_hasNext 14 = .ok (.iconst 1, 1) := dk_4 (dk_at dksJ29_hasNext_0 14 rfl rfl)
theorem dJ29_hasNext_15 : decode cJ29_hasNext 15 = .ok (.goto 4, 3) := dk_167 0 4 (dk_at dksJ29_hasNext_0 15 rfl rfl)
theorem dJ29_hasNext_18 : decode cJ29_hasNext 18 = .ok (.iconst 0, 1) := dk_3 (dk_at dksJ29_hasNext_0 18 rfl rfl)
theorem dJ29_hasNext_19 : decode cJ29_hasNext 19 = .ok (.ireturn, 1) := dk_172 (dk_at dksJ29_hasNext_0 19 rfl rfl)
abbrev cJ29_next : ByteArray := prog_48_method_3_code
def yJ29_next : MethodName := ⟨RJ29, "next", "()Ljava/lang/Object;"⟩
def dkwJ29_next_1 : List UInt8 := [27, 4, 96, 181, 0, 13, 44, 176, 76, 42, 182, 0, 32, 187, 0, 41, 89, 43, 183, 0, 43, 191]
abbrev dktJ29_next_1 : List UInt8 := dkwJ29_next_1 ++ []
def dkwJ29_next_0 : List UInt8 := [42, 182, 0, 32, 42, 180, 0, 13, 60, 42, 180, 0, 1, 27, 182, 0, 35, 77, 42, 27, 181, 0, 17, 42]
abbrev dktJ29_next_0 : List UInt8 := dkwJ29_next_0 ++ dktJ29_next_1
theorem dksJ29_next_0 : cJ29_next.data.toList.drop 0 = dktJ29_next_0 := by decide +kernel
theorem dksJ29_next_1 : cJ29_next.data.toList.drop 24 = dktJ29_next_1 := dk_seg dksJ29_next_0 24 rfl rfl
theorem dJ29_next_0 : decode cJ29_next 0 = .ok (.aload_n 0, 1) := dk_42 (dk_at dksJ29_next_0 0 rfl rfl)
theorem dJ29_next_1 : decode cJ29_next 1 = .ok (.invokevirtual 32, 3) := dk_182 0 32 (dk_at dksJ29_next_0 1 rfl rfl)
theorem dJ29_next_4 : decode cJ29_next 4 = .ok (.aload_n 0, 1) := dk_42 (dk_at dksJ29_next_0 4 rfl rfl)
theorem dJ29_next_5 : decode cJ29_next 5 = .ok (.getfield 13, 3) := dk_180 0 13 (dk_at dksJ29_next_0 5 rfl rfl)
theorem dJ29_next_8 : decode cJ29_next 8 = .ok (.istore_n 1, 1) := dk_60 (dk_at dksJ29_next_0 8 rfl rfl)
theorem dJ29_next_9 : decode cJ29_next 9 = .ok (.aload_n 0, 1) := dk_42 (dk_at dksJ29_next_0 9 rfl rfl)
theorem dJ29_next_10 : decode cJ29_next 10 = .ok (.getfield 1, 3) := dk_180 0 1 (dk_at dksJ29_next_0 10 rfl rfl)
theorem dJ29_next_13 : decode cJ29_next 13 = .ok (.iload_n 1, 1) := dk_27 (dk_at dksJ29_next_0 13 rfl rfl)
theorem dJ29_next_14 : decode cJ29_next 14 = .ok (.invokevirtual 35, 3) := dk_182 0 35 (dk_at dksJ29_next_0 14 rfl rfl)
theorem dJ29_next_17 : decode cJ29_next 17 = .ok (.astore_n 2, 1) := dk_77 (dk_at dksJ29_next_0 17 rfl rfl)
theorem dJ29_next_18 : decode cJ29_next 18 = .ok (.aload_n 0, 1) := dk_42 (dk_at dksJ29_next_0 18 rfl rfl)
theorem dJ29_next_19 : decode cJ29_next 19 = .ok (.iload_n 1, 1) := dk_27 (dk_at dksJ29_next_0 19 rfl rfl)
theorem dJ29_next_20 : decode cJ29_next 20 = .ok (.putfield 17, 3) := dk_181 0 17 (dk_at dksJ29_next_0 20 rfl rfl)
theorem dJ29_next_23 : decode cJ29_next 23 = .ok (.aload_n 0, 1) := dk_42 (dk_at dksJ29_next_0 23 rfl rfl)
theorem dJ29_next_24 : decode cJ29_next 24 = .ok (.iload_n 1, 1) := dk_27 (dk_at dksJ29_next_1 0 rfl rfl)
theorem dJ29_next_25 : decode cJ29_next 25 = .ok (.iconst 1, 1) := dk_4 (dk_at dksJ29_next_1 1 rfl rfl)
theorem dJ29_next_26 : decode cJ29_next 26 = .ok (.iadd, 1) := dk_96 (dk_at dksJ29_next_1 2 rfl rfl)
theorem dJ29_next_27 : decode cJ29_next 27 = .ok (.putfield 13, 3) := dk_181 0 13 (dk_at dksJ29_next_1 3 rfl rfl)
theorem dJ29_next_30 : decode cJ29_next 30 = .ok (.aload_n 2, 1) := dk_44 (dk_at dksJ29_next_1 6 rfl rfl)
theorem dJ29_next_31 : decode cJ29_next 31 = .ok (.areturn, 1) := dk_176 (dk_at dksJ29_next_1 7 rfl rfl)
theorem dJ29_next_32 : decode cJ29_next 32 = .ok (.astore_n 1, 1) := dk_76 (dk_at dksJ29_next_1 8 rfl rfl)
theorem dJ29_next_33 : decode cJ29_next 33 = .ok (.aload_n 0, 1) := dk_42 (dk_at dksJ29_next_1 9 rfl rfl)
theorem dJ29_next_34 : decode cJ29_next 34 = .ok (.invokevirtual 32, 3) := dk_182 0 32 (dk_at dksJ29_next_1 10 rfl rfl)
theorem dJ29_next_37 : decode cJ29_next 37 = .ok (.new 41, 3) := dk_187 0 41 (dk_at dksJ29_next_1 13 rfl rfl)
theorem dJ29_next_40 : decode cJ29_next 40 = .ok (.dup, 1) := dk_89 (dk_at dksJ29_next_1 16 rfl rfl)
theorem dJ29_next_41 : decode cJ29_next 41 = .ok (.aload_n 1, 1) := dk_43 (dk_at dksJ29_next_1 17 rfl rfl)
theorem dJ29_next_42 : decode cJ29_next 42 = .ok (.invokespecial 43, 3) := dk_183 0 43 (dk_at dksJ29_next_1 18 rfl rfl)
theorem dJ29_next_45 : decode cJ29_next 45 = .ok (.athrow, 1) := dk_191 (dk_at dksJ29_next_1 21 rfl rfl)
abbrev cJ29_checkForComodification : ByteArray := prog_48_method_5_code
def yJ29_checkForComodification : MethodName := ⟨RJ29, "checkForComodification", "()V"⟩
def dkwJ29_checkForComodification_0 : List UInt8 := [42, 180, 0, 1, 180, 0, 20, 42, 180, 0, 25, 159, 0, 11, 187, 0, 52, 89, 183, 0, 54, 191, 177]
abbrev dktJ29_checkForComodification_0 : List UInt8 := dkwJ29_checkForComodification_0 ++ []
theorem dksJ29_checkForComodification_0 : cJ29_checkForComodification.data.toList.drop 0 = dktJ29_checkForComodification_0 := by decide +kernel
theorem dJ29_checkForComodification_0 : decode cJ29_checkForComodification 0 = .ok (.aload_n 0, 1) := dk_42 (dk_at dksJ29_checkForComodification_0 0 rfl rfl)
theorem dJ29_checkForComodification_1 : decode cJ29_checkForComodification 1 = .ok (.getfield 1, 3) := dk_180 0 1 (dk_at dksJ29_checkForComodification_0 1 rfl rfl)
theorem dJ29_checkForComodification_4 : decode cJ29_checkForComodification 4 = .ok (.getfield 20, 3) := dk_180 0 20 (dk_at dksJ29_checkForComodification_0 4 rfl rfl)
theorem dJ29_checkForComodification_7 : decode cJ29_checkForComodification 7 = .ok (.aload_n 0, 1) := dk_42 (dk_at dksJ29_checkForComodification_0 7 rfl rfl)
theorem dJ29_checkForComodification_8 : decode cJ29_checkForComodification 8 = .ok (.getfield 25, 3) := dk_180 0 25 (dk_at dksJ29_checkForComodification_0 8 rfl rfl)
theorem dJ29_checkForComodification_11 : decode cJ29_checkForComodification 11 = .ok (.if_icmp .eq 11, 3) := dk_159 0 11 (dk_at dksJ29_checkForComodification_0 11 rfl rfl)
theorem dJ29_checkForComodification_14 : decode cJ29_checkForComodification 14 = .ok (.new 52, 3) := dk_187 0 52 (dk_at dksJ29_checkForComodification_0 14 rfl rfl)
theorem dJ29_checkForComodification_17 : decode cJ29_checkForComodification 17 = .ok (.dup, 1) := dk_89 (dk_at dksJ29_checkForComodification_0 17 rfl rfl)
theorem dJ29_checkForComodification_18 : decode cJ29_checkForComodification 18 = .ok (.invokespecial 54, 3) := dk_183 0 54 (dk_at dksJ29_checkForComodification_0 18 rfl rfl)
theorem dJ29_checkForComodification_21 : decode cJ29_checkForComodification 21 = .ok (.athrow, 1) := dk_191 (dk_at dksJ29_checkForComodification_0 21 rfl rfl)
theorem dJ29_checkForComodification_22 : decode cJ29_checkForComodification 22 = .ok (.return_, 1) := dk_177 (dk_at dksJ29_checkForComodification_0 22 rfl rfl)
theorem q79 : (Jvm.Cond.initialized "java/util/AbstractList$Itr") ∈ lw_all := lw_g (lw_at lw_m1 46 rfl) rfl
theorem q148 : (Jvm.Cond.fieldLink "java/util/AbstractList$Itr" (20 : Nat) "java/util/AbstractList" "modCount" "I") ∈ lw_all := lw_g (lw_at lw_m1 115 rfl) rfl
theorem q1405 : (Jvm.Cond.instanceMethod ({ cls := "java/util/AbstractList$Itr", name := "hasNext", desc := "()Z" } : Jvm.MethodName)) ∈ lw_all := lw_g (lw_at lw_m6 172 rfl) rfl
theorem q1406 : (Jvm.Cond.publicMethod ({ cls := "java/util/AbstractList$Itr", name := "hasNext", desc := "()Z" } : Jvm.MethodName)) ∈ lw_tbl := lw_at lw_m6 173 rfl
theorem q1407 : (Jvm.Cond.code ({ cls := "java/util/AbstractList$Itr", name := "hasNext", desc := "()Z" } : Jvm.MethodName) prog_48_method_2_code (1 : Nat) (Option.some Jvm.ClassFile.FieldType.boolean)) ∈ lw_all := lw_g (lw_at lw_m6 174 rfl) rfl
theorem q1408 : (Jvm.Cond.methodLink "java/util/AbstractList$Itr" (28 : Nat) ({ cls := "java/util/AbstractList", name := "size", desc := "()I" } : Jvm.MethodName)) ∈ lw_all := lw_g (lw_at lw_m6 175 rfl) rfl
theorem q1433 : (Jvm.Cond.instanceMethod ({ cls := "java/util/AbstractList$Itr", name := "next", desc := "()Ljava/lang/Object;" } : Jvm.MethodName)) ∈ lw_all := lw_g (lw_at lw_m6 200 rfl) rfl
theorem q1434 : (Jvm.Cond.publicMethod ({ cls := "java/util/AbstractList$Itr", name := "next", desc := "()Ljava/lang/Object;" } : Jvm.MethodName)) ∈ lw_tbl := lw_at lw_m6 201 rfl
theorem q1435 : (Jvm.Cond.codeWith ({ cls := "java/util/AbstractList$Itr", name := "next", desc := "()Ljava/lang/Object;" } : Jvm.MethodName) prog_48_method_3_code (3 : Nat) (Option.some (Jvm.ClassFile.FieldType.object "java/lang/Object")) [((4 : Nat), (31 : Nat), (32 : Nat), (39 : Nat))]) ∈ lw_all := lw_g (lw_at lw_m6 202 rfl) rfl
theorem q1436 : (Jvm.Cond.methodLink "java/util/AbstractList$Itr" (32 : Nat) ({ cls := "java/util/AbstractList$Itr", name := "checkForComodification", desc := "()V" } : Jvm.MethodName)) ∈ lw_all := lw_g (lw_at lw_m6 203 rfl) rfl
theorem q1437 : (Jvm.Cond.instanceMethod ({ cls := "java/util/AbstractList$Itr", name := "checkForComodification", desc := "()V" } : Jvm.MethodName)) ∈ lw_all := lw_g (lw_at lw_m6 204 rfl) rfl
theorem q1438 : (Jvm.Cond.sameMethod "java/util/AbstractList$Itr" "java/util/AbstractList$Itr" "checkForComodification" "()V") ∈ lw_all := lw_g (lw_at lw_m6 205 rfl) rfl
theorem q1440 : (Jvm.Cond.code ({ cls := "java/util/AbstractList$Itr", name := "checkForComodification", desc := "()V" } : Jvm.MethodName) prog_48_method_5_code (1 : Nat) (Option.none : Option Jvm.ClassFile.FieldType)) ∈ lw_all := lw_g (lw_at lw_m6 207 rfl) rfl
theorem q1441 : (Jvm.Cond.methodLink "java/util/AbstractList$Itr" (35 : Nat) ({ cls := "java/util/AbstractList", name := "get", desc := "(I)Ljava/lang/Object;" } : Jvm.MethodName)) ∈ lw_all := lw_g (lw_at lw_m6 208 rfl) rfl
theorem q1446 : (Jvm.Cond.classLink "java/util/AbstractList$Itr" (41 : Nat) "java/util/NoSuchElementException") ∈ lw_all := lw_g (lw_at lw_m6 213 rfl) rfl
theorem q1447 : (Jvm.Cond.methodLink "java/util/AbstractList$Itr" (43 : Nat) ({ cls := "java/util/NoSuchElementException", name := "<init>", desc := "(Ljava/lang/Throwable;)V" } : Jvm.MethodName)) ∈ lw_all := lw_g (lw_at lw_m6 214 rfl) rfl
theorem q2280 : (Jvm.Cond.fieldLink "java/util/AbstractList$Itr" (1 : Nat) "java/util/AbstractList$Itr" "this$0" "Ljava/util/AbstractList;") ∈ lw_all := lw_g (lw_at lw_m10 87 rfl) rfl
theorem q2281 : (Jvm.Cond.fieldLink "java/util/AbstractList$Itr" (13 : Nat) "java/util/AbstractList$Itr" "cursor" "I") ∈ lw_all := lw_g (lw_at lw_m10 88 rfl) rfl
theorem q2282 : (Jvm.Cond.fieldLink "java/util/AbstractList$Itr" (17 : Nat) "java/util/AbstractList$Itr" "lastRet" "I") ∈ lw_all := lw_g (lw_at lw_m10 89 rfl) rfl
theorem q2283 : (Jvm.Cond.fieldLink "java/util/AbstractList$Itr" (25 : Nat) "java/util/AbstractList$Itr" "expectedModCount" "I") ∈ lw_all := lw_g (lw_at lw_m10 90 rfl) rfl

/-! java/util/ArrayList$ListItr -/
set_option maxRecDepth 100000
def RJ30 : String := "java/util/ArrayList$ListItr"
def TJ30 : u_T := fun k => match k with
  | 0 => ("java/util/ArrayList$Itr", "cursor", "I", false)
  | 1 => ("java/util/ArrayList$Itr", "lastRet", "I", false)
  | 2 => ("java/util/ArrayList$Itr", "expectedModCount", "I", false)
  | 3 => ("java/util/ArrayList$Itr", "this$0", "Ljava/util/ArrayList;", true)
  | _ => ("java/util/ArrayList$ListItr", "this$0", "Ljava/util/ArrayList;", true)
def tyJ30 : Nat → FieldType := fun k => match k with
  | 0 => .int
  | 1 => .int
  | 2 => .int
  | 3 => .object "java/util/ArrayList"
  | _ => .object "java/util/ArrayList"
abbrev wsJ300 : List Cond := u_ws RJ30 TJ30 5
-- two fields of one name: no nmJ30
theorem tyJ30_ok : ∀ k, k < 5 → parseFieldDescriptor (TJ30 k).2.2.1 = some (tyJ30 k) := by decide +kernel
abbrev cJ30_init : ByteArray := prog_53_method_1_code
def yJ30_init : MethodName := ⟨RJ30, "<init>", "(Ljava/util/ArrayList;I)V"⟩
def dkwJ30_init_0 : List UInt8 := [42, 43, 181, 0, 1, 42, 43, 183, 0, 7, 42, 28, 181, 0, 13, 177]
abbrev dktJ30_init_0 : List UInt8 := dkwJ30_init_0 ++ []
theorem dksJ30_init_0 : cJ30_init.data.toList.drop 0 = dktJ30_init_0 := by decide +kernel
theorem dJ30_init_0 : decode cJ30_init 0 = .ok (.aload_n 0, 1) := dk_42 (dk_at dksJ30_init_0 0 rfl rfl)
theorem dJ30_init_1 : decode cJ30_init 1 = .ok (.aload_n 1, 1) := dk_43 (dk_at dksJ30_init_0 1 rfl rfl)
theorem dJ30_init_2 : decode cJ30_init 2 = .ok (.putfield 1, 3) := dk_181 0 1 (dk_at dksJ30_init_0 2 rfl rfl)
theorem dJ30_init_5 : decode cJ30_init 5 = .ok (.aload_n 0, 1) := dk_42 (dk_at dksJ30_init_0 5 rfl rfl)
theorem dJ30_init_6 : decode cJ30_init 6 = .ok (.aload_n 1, 1) := dk_43 (dk_at dksJ30_init_0 6 rfl rfl)
theorem dJ30_init_7 : decode cJ30_init 7 = .ok (.invokespecial 7, 3) := dk_183 0 7 (dk_at dksJ30_init_0 7 rfl rfl)
theorem dJ30_init_10 : decode cJ30_init 10 = .ok (.aload_n 0, 1) := dk_42 (dk_at dksJ30_init_0 10 rfl rfl)
theorem dJ30_init_11 : decode cJ30_init 11 = .ok (.iload_n 2, 1) := dk_28 (dk_at dksJ30_init_0 11 rfl rfl)
theorem dJ30_init_12 : decode cJ30_init 12 = .ok (.putfield 13, 3) := dk_181 0 13 (dk_at dksJ30_init_0 12 rfl rfl)
theorem dJ30_init_15 : decode cJ30_init 15 = .ok (.return_, 1) := dk_177 (dk_at dksJ30_init_0 15 rfl rfl)
theorem q81 : (Jvm.Cond.initialized "java/util/ArrayList$ListItr") ∈ lw_all := lw_g (lw_at lw_m1 48 rfl) rfl
theorem q301 : (Jvm.Cond.selects "java/util/ArrayList$ListItr" ({ cls := "java/lang/Object", name := "getClass", desc := "()Ljava/lang/Class;" } : Jvm.MethodName) ({ cls := "java/lang/Object", name := "getClass", desc := "()Ljava/lang/Class;" } : Jvm.MethodName)) ∈ lw_all := lw_g (lw_at lw_m2 28 rfl) rfl
theorem q1300 : (Jvm.Cond.fieldLink "java/util/ArrayList$ListItr" (13 : Nat) "java/util/ArrayList$ListItr" "cursor" "I") ∈ lw_all := lw_g (lw_at lw_m6 67 rfl) rfl
theorem q1301 : (Jvm.Cond.sameField "java/util/ArrayList$ListItr" "java/util/ArrayList$Itr" "cursor" "I") ∈ lw_all := lw_g (lw_at lw_m6 68 rfl) rfl
theorem q1350 : (Jvm.Cond.instantiable "java/util/ArrayList$ListItr" (5 : Nat)) ∈ lw_all := lw_g (lw_at lw_m6 117 rfl) rfl
theorem q1352 : (Jvm.Cond.instanceMethod ({ cls := "java/util/ArrayList$ListItr", name := "<init>", desc := "(Ljava/util/ArrayList;I)V" } : Jvm.MethodName)) ∈ lw_all := lw_g (lw_at lw_m6 119 rfl) rfl
theorem q1353 : (Jvm.Cond.code ({ cls := "java/util/ArrayList$ListItr", name := "<init>", desc := "(Ljava/util/ArrayList;I)V" } : Jvm.MethodName) prog_53_method_1_code (3 : Nat) (Option.none : Option Jvm.ClassFile.FieldType)) ∈ lw_all := lw_g (lw_at lw_m6 120 rfl) rfl
theorem q1354 : (Jvm.Cond.methodLink "java/util/ArrayList$ListItr" (7 : Nat) ({ cls := "java/util/ArrayList$Itr", name := "<init>", desc := "(Ljava/util/ArrayList;)V" } : Jvm.MethodName)) ∈ lw_all := lw_g (lw_at lw_m6 121 rfl) rfl
theorem q1355 : (Jvm.Cond.fieldLink "java/util/ArrayList$ListItr" (1 : Nat) "java/util/ArrayList$ListItr" "this$0" "Ljava/util/ArrayList;") ∈ lw_all := lw_g (lw_at lw_m6 122 rfl) rfl
theorem q1356 : (Jvm.Cond.laysFinal "java/util/ArrayList$ListItr" "java/util/ArrayList$ListItr" "this$0" "Ljava/util/ArrayList;") ∈ lw_all := lw_g (lw_at lw_m6 123 rfl) rfl
theorem q1357 : (Jvm.Cond.soleField "java/util/ArrayList$ListItr" "this$0") ∈ lw_all := lw_g (lw_at lw_m6 124 rfl) rfl
theorem q1358 : (Jvm.Cond.lays "java/util/ArrayList$ListItr" "java/util/ArrayList$Itr" "cursor" "I") ∈ lw_all := lw_g (lw_at lw_m6 125 rfl) rfl
theorem q1359 : (Jvm.Cond.lays "java/util/ArrayList$ListItr" "java/util/ArrayList$Itr" "lastRet" "I") ∈ lw_all := lw_g (lw_at lw_m6 126 rfl) rfl
theorem q1360 : (Jvm.Cond.lays "java/util/ArrayList$ListItr" "java/util/ArrayList$Itr" "expectedModCount" "I") ∈ lw_all := lw_g (lw_at lw_m6 127 rfl) rfl
theorem q1361 : (Jvm.Cond.laysFinal "java/util/ArrayList$ListItr" "java/util/ArrayList$Itr" "this$0" "Ljava/util/ArrayList;") ∈ lw_all := lw_g (lw_at lw_m6 128 rfl) rfl
theorem q1362 : (Jvm.Cond.superclass "java/util/ArrayList$ListItr" "java/util/ArrayList$Itr") ∈ lw_all := lw_g (lw_at lw_m6 129 rfl) rfl
theorem q1418 : (Jvm.Cond.castable "java/util/ArrayList$ListItr" "java/util/Iterator") ∈ lw_tbl := lw_at lw_m6 185 rfl
theorem q1419 : (Jvm.Cond.selects "java/util/ArrayList$ListItr" ({ cls := "java/util/Iterator", name := "hasNext", desc := "()Z" } : Jvm.MethodName) ({ cls := "java/util/ArrayList$Itr", name := "hasNext", desc := "()Z" } : Jvm.MethodName)) ∈ lw_all := lw_g (lw_at lw_m6 186 rfl) rfl
theorem q1420 : (Jvm.Cond.unhidden "java/util/ArrayList$ListItr" "hasNext" "()Z") ∈ lw_tbl := lw_at lw_m6 187 rfl
theorem q1507 : (Jvm.Cond.selects "java/util/ArrayList$ListItr" ({ cls := "java/util/ArrayList$Itr", name := "checkForComodification", desc := "()V" } : Jvm.MethodName) ({ cls := "java/util/ArrayList$Itr", name := "checkForComodification", desc := "()V" } : Jvm.MethodName)) ∈ lw_all := lw_g (lw_at lw_m7 34 rfl) rfl
theorem q1511 : (Jvm.Cond.selects "java/util/ArrayList$ListItr" ({ cls := "java/util/Iterator", name := "next", desc := "()Ljava/lang/Object;" } : Jvm.MethodName) ({ cls := "java/util/ArrayList$Itr", name := "next", desc := "()Ljava/lang/Object;" } : Jvm.MethodName)) ∈ lw_all := lw_g (lw_at lw_m7 38 rfl) rfl
theorem q1512 : (Jvm.Cond.unhidden "java/util/ArrayList$ListItr" "next" "()Ljava/lang/Object;") ∈ lw_tbl := lw_at lw_m7 39 rfl
theorem q2263 : (Jvm.Cond.castable "java/util/ArrayList$ListItr" "java/lang/Object") ∈ lw_tbl := lw_at lw_m10 70 rfl
theorem in_J30 : ∀ w ∈ wsJ300, w ∈ lw_all := lw_in wsJ300 [1358, 1359, 1360, 1361, 1356] (by decide +kernel) (by decide +kernel)
