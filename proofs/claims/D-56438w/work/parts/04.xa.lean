/-! ShrinkYardLaw -/
set_option maxRecDepth 100000
def RX0 : String := "ShrinkYardLaw"
abbrev cX0_text : ByteArray := method_2_code
def yX0_text : MethodName := ⟨RX0, "text", "(I)Ljava/lang/String;"⟩
def dkwX0_text_3 : List UInt8 := [18, 29, 176, 18, 31, 176, 18, 33, 176, 18, 35, 176, 18, 37, 176, 18, 39, 176]
abbrev dktX0_text_3 : List UInt8 := dkwX0_text_3 ++ []
def dkwX0_text_2 : List UInt8 := [18, 13, 176, 18, 15, 176, 18, 17, 176, 18, 19, 176, 18, 21, 176, 18, 23, 176, 18, 25, 176, 18, 27, 176]
abbrev dktX0_text_2 : List UInt8 := dkwX0_text_2 ++ dktX0_text_3
def dkwX0_text_1 : List UInt8 := [170, 0, 0, 0, 0, 105, 0, 0, 0, 0, 0, 0, 0, 12, 0, 0, 0, 66, 0, 0, 0, 69, 0, 0, 0, 72, 0, 0, 0, 75, 0, 0, 0, 78, 0, 0, 0, 81, 0, 0, 0, 84, 0, 0, 0, 87, 0, 0, 0, 90, 0, 0, 0, 93, 0, 0, 0, 96, 0, 0, 0, 99, 0, 0, 0, 102]
abbrev dktX0_text_1 : List UInt8 := dkwX0_text_1 ++ dktX0_text_2
def dkwX0_text_0 : List UInt8 := [26, 16, 14, 184, 0, 7]
abbrev dktX0_text_0 : List UInt8 := dkwX0_text_0 ++ dktX0_text_1
theorem dksX0_text_0 : cX0_text.data.toList.drop 0 = dktX0_text_0 := by decide +kernel
theorem dksX0_text_1 : cX0_text.data.toList.drop 6 = dktX0_text_1 := dk_seg dksX0_text_0 6 rfl rfl
theorem dksX0_text_2 : cX0_text.data.toList.drop 72 = dktX0_text_2 := dk_seg dksX0_text_1 66 rfl rfl
theorem dksX0_text_3 : cX0_text.data.toList.drop 96 = dktX0_text_3 := dk_seg dksX0_text_2 24 rfl rfl
theorem dX0_text_0 : decode cX0_text 0 = .ok (.iload_n 0, 1) := dk_26 (dk_at dksX0_text_0 0 rfl rfl)
theorem dX0_text_1 : decode cX0_text 1 = .ok (.bipush 14, 2) := dk_16 14 (dk_at dksX0_text_0 1 rfl rfl)
theorem dX0_text_3 : decode cX0_text 3 = .ok (.invokestatic 7, 3) := dk_184 0 7 (dk_at dksX0_text_0 3 rfl rfl)
theorem dX0_text_6 : decode cX0_text 6 = .ok (.tableswitch 105 0 12 #[66, 69, 72, 75, 78, 81, 84, 87, 90, 93, 96, 99, 102], 66) := by decide +kernel
theorem dX0_text_72 : decode cX0_text 72 = .ok (.ldc 13, 2) := dk_18 13 (dk_at dksX0_text_2 0 rfl rfl)
theorem dX0_text_74 : decode cX0_text 74 = .ok (.areturn, 1) := dk_176 (dk_at dksX0_text_2 2 rfl rfl)
theorem dX0_text_75 : decode cX0_text 75 = .ok (.ldc 15, 2) := dk_18 15 (dk_at dksX0_text_2 3 rfl rfl)
theorem dX0_text_77 : decode cX0_text 77 = .ok (.areturn, 1) := dk_176 (dk_at dksX0_text_2 5 rfl rfl)
theorem dX0_text_78 : decode cX0_text 78 = .ok (.ldc 17, 2) := dk_18 17 (dk_at dksX0_text_2 6 rfl rfl)
theorem dX0_text_80 : decode cX0_text 80 = .ok (.areturn, 1) := dk_176 (dk_at dksX0_text_2 8 rfl rfl)
theorem dX0_text_81 : decode cX0_text 81 = .ok (.ldc 19, 2) := dk_18 19 (dk_at dksX0_text_2 9 rfl rfl)
theorem dX0_text_83 : decode cX0_text 83 = .ok (.areturn, 1) := dk_176 (dk_at dksX0_text_2 11 rfl rfl)
theorem dX0_text_84 : decode cX0_text 84 = .ok (.ldc 21, 2) := dk_18 21 (dk_at dksX0_text_2 12 rfl rfl)
theorem dX0_text_86 : decode cX0_text 86 = .ok (.areturn, 1) := dk_176 (dk_at dksX0_text_2 14 rfl rfl)
theorem dX0_text_87 : decode cX0_text 87 = .ok (.ldc 23, 2) := dk_18 23 (dk_at dksX0_text_2 15 rfl rfl)
theorem dX0_text_89 : decode cX0_text 89 = .ok (.areturn, 1) := dk_176 (dk_at dksX0_text_2 17 rfl rfl)
theorem dX0_text_90 : decode cX0_text 90 = .ok (.ldc 25, 2) := dk_18 25 (dk_at dksX0_text_2 18 rfl rfl)
theorem dX0_text_92 : decode cX0_text 92 = .ok (.areturn, 1) := dk_176 (dk_at dksX0_text_2 20 rfl rfl)
theorem dX0_text_93 : decode cX0_text 93 = .ok (.ldc 27, 2) := dk_18 27 (dk_at dksX0_text_2 21 rfl rfl)
theorem dX0_text_95 : decode cX0_text 95 = .ok (.areturn, 1) := dk_176 (dk_at dksX0_text_2 23 rfl rfl)
theorem dX0_text_96 : decode cX0_text 96 = .ok (.ldc 29, 2) := dk_18 29 (dk_at dksX0_text_3 0 rfl rfl)
theorem dX0_text_98 : decode cX0_text 98 = .ok (.areturn, 1) := dk_176 (dk_at dksX0_text_3 2 rfl rfl)
theorem dX0_text_99 : decode cX0_text 99 = .ok (.ldc 31, 2) := dk_18 31 (dk_at dksX0_text_3 3 rfl rfl)
theorem dX0_text_101 : decode cX0_text 101 = .ok (.areturn, 1) := dk_176 (dk_at dksX0_text_3 5 rfl rfl)
theorem dX0_text_102 : decode cX0_text 102 = .ok (.ldc 33, 2) := dk_18 33 (dk_at dksX0_text_3 6 rfl rfl)
theorem dX0_text_104 : decode cX0_text 104 = .ok (.areturn, 1) := dk_176 (dk_at dksX0_text_3 8 rfl rfl)
theorem dX0_text_105 : decode cX0_text 105 = .ok (.ldc 35, 2) := dk_18 35 (dk_at dksX0_text_3 9 rfl rfl)
theorem dX0_text_107 : decode cX0_text 107 = .ok (.areturn, 1) := dk_176 (dk_at dksX0_text_3 11 rfl rfl)
theorem dX0_text_108 : decode cX0_text 108 = .ok (.ldc 37, 2) := dk_18 37 (dk_at dksX0_text_3 12 rfl rfl)
theorem dX0_text_110 : decode cX0_text 110 = .ok (.areturn, 1) := dk_176 (dk_at dksX0_text_3 14 rfl rfl)
theorem dX0_text_111 : decode cX0_text 111 = .ok (.ldc 39, 2) := dk_18 39 (dk_at dksX0_text_3 15 rfl rfl)
theorem dX0_text_113 : decode cX0_text 113 = .ok (.areturn, 1) := dk_176 (dk_at dksX0_text_3 17 rfl rfl)
abbrev cX0_toOp : ByteArray := method_3_code
def yX0_toOp : MethodName := ⟨RX0, "toOp", "(I)LOp;"⟩
def dkwX0_toOp_3 : List UInt8 := [178, 0, 62, 176, 178, 0, 65, 176, 178, 0, 68, 176]
abbrev dktX0_toOp_3 : List UInt8 := dkwX0_toOp_3 ++ []
def dkwX0_toOp_2 : List UInt8 := [178, 0, 41, 176, 178, 0, 47, 176, 178, 0, 50, 176, 178, 0, 53, 176, 178, 0, 56, 176, 178, 0, 59, 176]
abbrev dktX0_toOp_2 : List UInt8 := dkwX0_toOp_2 ++ dktX0_toOp_3
def dkwX0_toOp_1 : List UInt8 := [170, 0, 0, 0, 0, 78, 0, 0, 0, 0, 0, 0, 0, 7, 0, 0, 0, 46, 0, 0, 0, 50, 0, 0, 0, 54, 0, 0, 0, 58, 0, 0, 0, 62, 0, 0, 0, 66, 0, 0, 0, 70, 0, 0, 0, 74]
abbrev dktX0_toOp_1 : List UInt8 := dkwX0_toOp_1 ++ dktX0_toOp_2
def dkwX0_toOp_0 : List UInt8 := [26, 16, 9, 184, 0, 7]
abbrev dktX0_toOp_0 : List UInt8 := dkwX0_toOp_0 ++ dktX0_toOp_1
theorem dksX0_toOp_0 : cX0_toOp.data.toList.drop 0 = dktX0_toOp_0 := by decide +kernel
theorem dksX0_toOp_1 : cX0_toOp.data.toList.drop 6 = dktX0_toOp_1 := dk_seg dksX0_toOp_0 6 rfl rfl
theorem dksX0_toOp_2 : cX0_toOp.data.toList.drop 52 = dktX0_toOp_2 := dk_seg dksX0_toOp_1 46 rfl rfl
theorem dksX0_toOp_3 : cX0_toOp.data.toList.drop 76 = dktX0_toOp_3 := dk_seg dksX0_toOp_2 24 rfl rfl
theorem dX0_toOp_0 : decode cX0_toOp 0 = .ok (.iload_n 0, 1) := dk_26 (dk_at dksX0_toOp_0 0 rfl rfl)
theorem dX0_toOp_1 : decode cX0_toOp 1 = .ok (.bipush 9, 2) := dk_16 9 (dk_at dksX0_toOp_0 1 rfl rfl)
theorem dX0_toOp_3 : decode cX0_toOp 3 = .ok (.invokestatic 7, 3) := dk_184 0 7 (dk_at dksX0_toOp_0 3 rfl rfl)
theorem dX0_toOp_6 : decode cX0_toOp 6 = .ok (.tableswitch 78 0 7 #[46, 50, 54, 58, 62, 66, 70, 74], 46) := by decide +kernel
theorem dX0_toOp_52 : decode cX0_toOp 52 = .ok (.getstatic 41, 3) := dk_178 0 41 (dk_at dksX0_toOp_2 0 rfl rfl)
theorem dX0_toOp_55 : decode cX0_toOp 55 = .ok (.areturn, 1) := dk_176 (dk_at dksX0_toOp_2 3 rfl rfl)
theorem dX0_toOp_56 : decode cX0_toOp 56 = .ok (.getstatic 47, 3) := dk_178 0 47 (dk_at dksX0_toOp_2 4 rfl rfl)
theorem dX0_toOp_59 : decode cX0_toOp 59 = .ok (.areturn, 1) := dk_176 (dk_at dksX0_toOp_2 7 rfl rfl)
theorem dX0_toOp_60 : decode cX0_toOp 60 = .ok (.getstatic 50, 3) := dk_178 0 50 (dk_at dksX0_toOp_2 8 rfl rfl)
theorem dX0_toOp_63 : decode cX0_toOp 63 = .ok (.areturn, 1) := dk_176 (dk_at dksX0_toOp_2 11 rfl rfl)
theorem dX0_toOp_64 : decode cX0_toOp 64 = .ok (.getstatic 53, 3) := dk_178 0 53 (dk_at dksX0_toOp_2 12 rfl rfl)
theorem dX0_toOp_67 : decode cX0_toOp 67 = .ok (.areturn, 1) := dk_176 (dk_at dksX0_toOp_2 15 rfl rfl)
theorem dX0_toOp_68 : decode cX0_toOp 68 = .ok (.getstatic 56, 3) := dk_178 0 56 (dk_at dksX0_toOp_2 16 rfl rfl)
theorem dX0_toOp_71 : decode cX0_toOp 71 = .ok (.areturn, 1) := dk_176 (dk_at dksX0_toOp_2 19 rfl rfl)
theorem dX0_toOp_72 : decode cX0_toOp 72 = .ok (.getstatic 59, 3) := dk_178 0 59 (dk_at dksX0_toOp_2 20 rfl rfl)
theorem dX0_toOp_75 : decode cX0_toOp 75 = .ok (.areturn, 1) := dk_176 (dk_at dksX0_toOp_2 23 rfl rfl)
theorem dX0_toOp_76 : decode cX0_toOp 76 = .ok (.getstatic 62, 3) := dk_178 0 62 (dk_at dksX0_toOp_3 0 rfl rfl)
theorem dX0_toOp_79 : decode cX0_toOp 79 = .ok (.areturn, 1) := dk_176 (dk_at dksX0_toOp_3 3 rfl rfl)
theorem dX0_toOp_80 : decode cX0_toOp 80 = .ok (.getstatic 65, 3) := dk_178 0 65 (dk_at dksX0_toOp_3 4 rfl rfl)
theorem dX0_toOp_83 : decode cX0_toOp 83 = .ok (.areturn, 1) := dk_176 (dk_at dksX0_toOp_3 7 rfl rfl)
theorem dX0_toOp_84 : decode cX0_toOp 84 = .ok (.getstatic 68, 3) := dk_178 0 68 (dk_at dksX0_toOp_3 8 rfl rfl)
theorem dX0_toOp_87 : decode cX0_toOp 87 = .ok (.areturn, 1) := dk_176 (dk_at dksX0_toOp_3 11 rfl rfl)
abbrev cX0_toVerdict : ByteArray := method_4_code
def yX0_toVerdict : MethodName := ⟨RX0, "toVerdict", "(I)LVerdict;"⟩
def dkwX0_toVerdict_2 : List UInt8 := [178, 0, 71, 176, 178, 0, 77, 176, 178, 0, 80, 176]
abbrev dktX0_toVerdict_2 : List UInt8 := dkwX0_toVerdict_2 ++ []
def dkwX0_toVerdict_1 : List UInt8 := [171, 0, 0, 0, 0, 0, 35, 0, 0, 0, 2, 0, 0, 0, 0, 0, 0, 0, 27, 0, 0, 0, 1, 0, 0, 0, 31]
abbrev dktX0_toVerdict_1 : List UInt8 := dkwX0_toVerdict_1 ++ dktX0_toVerdict_2
def dkwX0_toVerdict_0 : List UInt8 := [26, 6, 184, 0, 7]
abbrev dktX0_toVerdict_0 : List UInt8 := dkwX0_toVerdict_0 ++ dktX0_toVerdict_1
theorem dksX0_toVerdict_0 : cX0_toVerdict.data.toList.drop 0 = dktX0_toVerdict_0 := by decide +kernel
theorem dksX0_toVerdict_1 : cX0_toVerdict.data.toList.drop 5 = dktX0_toVerdict_1 := dk_seg dksX0_toVerdict_0 5 rfl rfl
theorem dksX0_toVerdict_2 : cX0_toVerdict.data.toList.drop 32 = dktX0_toVerdict_2 := dk_seg dksX0_toVerdict_1 27 rfl rfl
theorem dX0_toVerdict_0 : decode cX0_toVerdict 0 = .ok (.iload_n 0, 1) := dk_26 (dk_at dksX0_toVerdict_0 0 rfl rfl)
theorem dX0_toVerdict_1 : decode cX0_toVerdict 1 = .ok (.iconst 3, 1) := dk_6 (dk_at dksX0_toVerdict_0 1 rfl rfl)
theorem dX0_toVerdict_2 : decode cX0_toVerdict 2 = .ok (.invokestatic 7, 3) := dk_184 0 7 (dk_at dksX0_toVerdict_0 2 rfl rfl)
theorem dX0_toVerdict_5 : decode cX0_toVerdict 5 = .ok (.lookupswitch 35 #[(0, 27), (1, 31)], 27) := by decide +kernel
theorem dX0_toVerdict_32 : decode cX0_toVerdict 32 = .ok (.getstatic 71, 3) := dk_178 0 71 (dk_at dksX0_toVerdict_2 0 rfl rfl)
theorem dX0_toVerdict_35 : decode cX0_toVerdict 35 = .ok (.areturn, 1) := dk_176 (dk_at dksX0_toVerdict_2 3 rfl rfl)
theorem dX0_toVerdict_36 : decode cX0_toVerdict 36 = .ok (.getstatic 77, 3) := dk_178 0 77 (dk_at dksX0_toVerdict_2 4 rfl rfl)
theorem dX0_toVerdict_39 : decode cX0_toVerdict 39 = .ok (.areturn, 1) := dk_176 (dk_at dksX0_toVerdict_2 7 rfl rfl)
theorem dX0_toVerdict_40 : decode cX0_toVerdict 40 = .ok (.getstatic 80, 3) := dk_178 0 80 (dk_at dksX0_toVerdict_2 8 rfl rfl)
theorem dX0_toVerdict_43 : decode cX0_toVerdict 43 = .ok (.areturn, 1) := dk_176 (dk_at dksX0_toVerdict_2 11 rfl rfl)
abbrev cX0_toChange : ByteArray := method_5_code
def yX0_toChange : MethodName := ⟨RX0, "toChange", "(I)LChange;"⟩
def dkwX0_toChange_2 : List UInt8 := [178, 0, 83, 176, 178, 0, 89, 176, 178, 0, 92, 176, 178, 0, 95, 176]
abbrev dktX0_toChange_2 : List UInt8 := dkwX0_toChange_2 ++ []
def dkwX0_toChange_1 : List UInt8 := [170, 0, 0, 0, 0, 0, 39, 0, 0, 0, 0, 0, 0, 0, 2, 0, 0, 0, 27, 0, 0, 0, 31, 0, 0, 0, 35]
abbrev dktX0_toChange_1 : List UInt8 := dkwX0_toChange_1 ++ dktX0_toChange_2
def dkwX0_toChange_0 : List UInt8 := [26, 7, 184, 0, 7]
abbrev dktX0_toChange_0 : List UInt8 := dkwX0_toChange_0 ++ dktX0_toChange_1
theorem dksX0_toChange_0 : cX0_toChange.data.toList.drop 0 = dktX0_toChange_0 := by decide +kernel
theorem dksX0_toChange_1 : cX0_toChange.data.toList.drop 5 = dktX0_toChange_1 := dk_seg dksX0_toChange_0 5 rfl rfl
theorem dksX0_toChange_2 : cX0_toChange.data.toList.drop 32 = dktX0_toChange_2 := dk_seg dksX0_toChange_1 27 rfl rfl
theorem dX0_toChange_0 : decode cX0_toChange 0 = .ok (.iload_n 0, 1) := dk_26 (dk_at dksX0_toChange_0 0 rfl rfl)
theorem dX0_toChange_1 : decode cX0_toChange 1 = .ok (.iconst 4, 1) := dk_7 (dk_at dksX0_toChange_0 1 rfl rfl)
theorem dX0_toChange_2 : decode cX0_toChange 2 = .ok (.invokestatic 7, 3) := dk_184 0 7 (dk_at dksX0_toChange_0 2 rfl rfl)
theorem dX0_toChange_5 : decode cX0_toChange 5 = .ok (.tableswitch 39 0 2 #[27, 31, 35], 27) := by decide +kernel
theorem dX0_toChange_32 : decode cX0_toChange 32 = .ok (.getstatic 83, 3) := dk_178 0 83 (dk_at dksX0_toChange_2 0 rfl rfl)
theorem dX0_toChange_35 : decode cX0_toChange 35 = .ok (.areturn, 1) := dk_176 (dk_at dksX0_toChange_2 3 rfl rfl)
theorem dX0_toChange_36 : decode cX0_toChange 36 = .ok (.getstatic 89, 3) := dk_178 0 89 (dk_at dksX0_toChange_2 4 rfl rfl)
theorem dX0_toChange_39 : decode cX0_toChange 39 = .ok (.areturn, 1) := dk_176 (dk_at dksX0_toChange_2 7 rfl rfl)
theorem dX0_toChange_40 : decode cX0_toChange 40 = .ok (.getstatic 92, 3) := dk_178 0 92 (dk_at dksX0_toChange_2 8 rfl rfl)
theorem dX0_toChange_43 : decode cX0_toChange 43 = .ok (.areturn, 1) := dk_176 (dk_at dksX0_toChange_2 11 rfl rfl)
theorem dX0_toChange_44 : decode cX0_toChange 44 = .ok (.getstatic 95, 3) := dk_178 0 95 (dk_at dksX0_toChange_2 12 rfl rfl)
theorem dX0_toChange_47 : decode cX0_toChange 47 = .ok (.areturn, 1) := dk_176 (dk_at dksX0_toChange_2 15 rfl rfl)
abbrev cX0_add : ByteArray := method_6_code
def yX0_add : MethodName := ⟨RX0, "add", "(LShrinkYard;LInstruction;LShrinkYardLaw$Out;)I"⟩
def dkwX0_add_0 : List UInt8 := [44, 42, 43, 182, 0, 98, 133, 181, 0, 104, 167, 0, 9, 78, 4, 172, 78, 5, 172, 3, 172]
abbrev dktX0_add_0 : List UInt8 := dkwX0_add_0 ++ []
theorem dksX0_add_0 : cX0_add.data.toList.drop 0 = dktX0_add_0 := by decide +kernel
theorem dX0_add_0 : decode cX0_add 0 = .ok (.aload_n 2, 1) := dk_44 (dk_at dksX0_add_0 0 rfl rfl)
theorem dX0_add_1 : decode cX0_add 1 = .ok (.aload_n 0, 1) := dk_42 (dk_at dksX0_add_0 1 rfl rfl)
theorem dX0_add_2 : decode cX0_add 2 = .ok (.aload_n 1, 1) := dk_43 (dk_at dksX0_add_0 2 rfl rfl)
theorem dX0_add_3 : decode cX0_add 3 = .ok (.invokevirtual 98, 3) := dk_182 0 98 (dk_at dksX0_add_0 3 rfl rfl)
theorem dX0_add_6 : decode cX0_add 6 = .ok (.i2l, 1) := dk_133 (dk_at dksX0_add_0 6 rfl rfl)
theorem dX0_add_7 : decode cX0_add 7 = .ok (.putfield 104, 3) := dk_181 0 104 (dk_at dksX0_add_0 7 rfl rfl)
theorem dX0_add_10 : decode cX0_add 10 = .ok (.goto 9, 3) := dk_167 0 9 (dk_at dksX0_add_0 10 rfl rfl)
theorem dX0_add_13 : decode cX0_add 13 = .ok (.astore_n 3, 1) := dk_78 (dk_at dksX0_add_0 13 rfl rfl)
theorem dX0_add_14 : decode cX0_add 14 = .ok (.iconst 1, 1) := dk_4 (dk_at dksX0_add_0 14 rfl rfl)
theorem dX0_add_15 : decode cX0_add 15 = .ok (.ireturn, 1) := dk_172 (dk_at dksX0_add_0 15 rfl rfl)
theorem dX0_add_16 : decode cX0_add 16 = .ok (.astore_n 3, 1) := dk_78 (dk_at dksX0_add_0 16 rfl rfl)
theorem dX0_add_17 : decode cX0_add 17 = .ok (.iconst 2, 1) := dk_5 (dk_at dksX0_add_0 17 rfl rfl)
theorem dX0_add_18 : decode cX0_add 18 = .ok (.ireturn, 1) := dk_172 (dk_at dksX0_add_0 18 rfl rfl)
theorem dX0_add_19 : decode cX0_add 19 = .ok (.iconst 0, 1) := dk_3 (dk_at dksX0_add_0 19 rfl rfl)
theorem dX0_add_20 : decode cX0_add 20 = .ok (.ireturn, 1) := dk_172 (dk_at dksX0_add_0 20 rfl rfl)
abbrev cX0_addChange : ByteArray := method_7_code
def yX0_addChange : MethodName := ⟨RX0, "addChange", "(LShrinkYard;LChange;IILShrinkYardLaw$Out;)I"⟩
def dkwX0_addChange_1 : List UInt8 := [3, 172]
abbrev dktX0_addChange_1 : List UInt8 := dkwX0_addChange_1 ++ []
def dkwX0_addChange_0 : List UInt8 := [25, 4, 42, 43, 28, 29, 182, 0, 114, 133, 181, 0, 104, 167, 0, 11, 58, 5, 4, 172, 58, 5, 5, 172]
abbrev dktX0_addChange_0 : List UInt8 := dkwX0_addChange_0 ++ dktX0_addChange_1
theorem dksX0_addChange_0 : cX0_addChange.data.toList.drop 0 = dktX0_addChange_0 := by decide +kernel
theorem dksX0_addChange_1 : cX0_addChange.data.toList.drop 24 = dktX0_addChange_1 := dk_seg dksX0_addChange_0 24 rfl rfl
theorem dX0_addChange_0 : decode cX0_addChange 0 = .ok (.aload 4, 2) := dk_25 4 (dk_at dksX0_addChange_0 0 rfl rfl)
theorem dX0_addChange_2 : decode cX0_addChange 2 = .ok (.aload_n 0, 1) := dk_42 (dk_at dksX0_addChange_0 2 rfl rfl)
theorem dX0_addChange_3 : decode cX0_addChange 3 = .ok (.aload_n 1, 1) := dk_43 (dk_at dksX0_addChange_0 3 rfl rfl)
theorem dX0_addChange_4 : decode cX0_addChange 4 = .ok (.iload_n 2, 1) := dk_28 (dk_at dksX0_addChange_0 4 rfl rfl)
theorem dX0_addChange_5 : decode cX0_addChange 5 = .ok (.iload_n 3, 1) := dk_29 (dk_at dksX0_addChange_0 5 rfl rfl)
theorem dX0_addChange_6 : decode cX0_addChange 6 = .ok (.invokevirtual 114, 3) := dk_182 0 114 (dk_at dksX0_addChange_0 6 rfl rfl)
theorem dX0_addChange_9 : decode cX0_addChange 9 = .ok (.i2l, 1) := dk_133 (dk_at dksX0_addChange_0 9 rfl rfl)
theorem dX0_addChange_10 : decode cX0_addChange 10 = .ok (.putfield 104, 3) := dk_181 0 104 (dk_at dksX0_addChange_0 10 rfl rfl)
theorem dX0_addChange_13 : decode cX0_addChange 13 = .ok (.goto 11, 3) := dk_167 0 11 (dk_at dksX0_addChange_0 13 rfl rfl)
theorem dX0_addChange_16 : decode cX0_addChange 16 = .ok (.astore 5, 2) := dk_58 5 (dk_at dksX0_addChange_0 16 rfl rfl)
theorem dX0_addChange_18 : decode cX0_addChange 18 = .ok (.iconst 1, 1) := dk_4 (dk_at dksX0_addChange_0 18 rfl rfl)
theorem dX0_addChange_19 : decode cX0_addChange 19 = .ok (.ireturn, 1) := dk_172 (dk_at dksX0_addChange_0 19 rfl rfl)
theorem dX0_addChange_20 : decode cX0_addChange 20 = .ok (.astore 5, 2) := dk_58 5 (dk_at dksX0_addChange_0 20 rfl rfl)
theorem dX0_addChange_22 : decode cX0_addChange 22 = .ok (.iconst 2, 1) := dk_5 (dk_at dksX0_addChange_0 22 rfl rfl)
theorem dX0_addChange_23 : decode cX0_addChange 23 = .ok (.ireturn, 1) := dk_172 (dk_at dksX0_addChange_0 23 rfl rfl)
theorem dX0_addChange_24 : decode cX0_addChange 24 = .ok (.iconst 0, 1) := dk_3 (dk_at dksX0_addChange_1 0 rfl rfl)
theorem dX0_addChange_25 : decode cX0_addChange 25 = .ok (.ireturn, 1) := dk_172 (dk_at dksX0_addChange_1 1 rfl rfl)
abbrev cX0_addAlternative : ByteArray := method_8_code
def yX0_addAlternative : MethodName := ⟨RX0, "addAlternative", "(LShrinkYard;CLjava/lang/String;LShrinkYardLaw$Out;)I"⟩
def dkwX0_addAlternative_0 : List UInt8 := [45, 42, 27, 44, 182, 0, 118, 133, 181, 0, 104, 167, 0, 11, 58, 4, 4, 172, 58, 4, 5, 172, 3, 172]
abbrev dktX0_addAlternative_0 : List UInt8 := dkwX0_addAlternative_0 ++ []
theorem dksX0_addAlternative_0 : cX0_addAlternative.data.toList.drop 0 = dktX0_addAlternative_0 := by decide +kernel
theorem dX0_addAlternative_0 : decode cX0_addAlternative 0 = .ok (.aload_n 3, 1) := dk_45 (dk_at dksX0_addAlternative_0 0 rfl rfl)
theorem dX0_addAlternative_1 : decode cX0_addAlternative 1 = .ok (.aload_n 0, 1) := dk_42 (dk_at dksX0_addAlternative_0 1 rfl rfl)
theorem dX0_addAlternative_2 : decode cX0_addAlternative 2 = .ok (.iload_n 1, 1) := dk_27 (dk_at dksX0_addAlternative_0 2 rfl rfl)
theorem dX0_addAlternative_3 : decode cX0_addAlternative 3 = .ok (.aload_n 2, 1) := dk_44 (dk_at dksX0_addAlternative_0 3 rfl rfl)
theorem dX0_addAlternative_4 : decode cX0_addAlternative 4 = .ok (.invokevirtual 118, 3) := dk_182 0 118 (dk_at dksX0_addAlternative_0 4 rfl rfl)
theorem dX0_addAlternative_7 : decode cX0_addAlternative 7 = .ok (.i2l, 1) := dk_133 (dk_at dksX0_addAlternative_0 7 rfl rfl)
theorem dX0_addAlternative_8 : decode cX0_addAlternative 8 = .ok (.putfield 104, 3) := dk_181 0 104 (dk_at dksX0_addAlternative_0 8 rfl rfl)
theorem dX0_addAlternative_11 : decode cX0_addAlternative 11 = .ok (.goto 11, 3) := dk_167 0 11 (dk_at dksX0_addAlternative_0 11 rfl rfl)
theorem dX0_addAlternative_14 : decode cX0_addAlternative 14 = .ok (.astore 4, 2) := dk_58 4 (dk_at dksX0_addAlternative_0 14 rfl rfl)
theorem dX0_addAlternative_16 : decode cX0_addAlternative 16 = .ok (.iconst 1, 1) := dk_4 (dk_at dksX0_addAlternative_0 16 rfl rfl)
theorem dX0_addAlternative_17 : decode cX0_addAlternative 17 = .ok (.ireturn, 1) := dk_172 (dk_at dksX0_addAlternative_0 17 rfl rfl)
theorem dX0_addAlternative_18 : decode cX0_addAlternative 18 = .ok (.astore 4, 2) := dk_58 4 (dk_at dksX0_addAlternative_0 18 rfl rfl)
theorem dX0_addAlternative_20 : decode cX0_addAlternative 20 = .ok (.iconst 2, 1) := dk_5 (dk_at dksX0_addAlternative_0 20 rfl rfl)
theorem dX0_addAlternative_21 : decode cX0_addAlternative 21 = .ok (.ireturn, 1) := dk_172 (dk_at dksX0_addAlternative_0 21 rfl rfl)
theorem dX0_addAlternative_22 : decode cX0_addAlternative 22 = .ok (.iconst 0, 1) := dk_3 (dk_at dksX0_addAlternative_0 22 rfl rfl)
theorem dX0_addAlternative_23 : decode cX0_addAlternative 23 = .ok (.ireturn, 1) := dk_172 (dk_at dksX0_addAlternative_0 23 rfl rfl)
abbrev cX0_derive : ByteArray := method_9_code
def yX0_derive : MethodName := ⟨RX0, "derive", "(LShrinkYard;ILShrinkYardLaw$Out;)I"⟩
def dkwX0_derive_0 : List UInt8 := [44, 42, 27, 182, 0, 122, 181, 0, 126, 167, 0, 12, 78, 4, 172, 78, 5, 172, 78, 6, 172, 3, 172]
abbrev dktX0_derive_0 : List UInt8 := dkwX0_derive_0 ++ []
theorem dksX0_derive_0 : cX0_derive.data.toList.drop 0 = dktX0_derive_0 := by decide +kernel
theorem dX0_derive_0 : decode cX0_derive 0 = .ok (.aload_n 2, 1) := dk_44 (dk_at dksX0_derive_0 0 rfl rfl)
theorem dX0_derive_1 : decode cX0_derive 1 = .ok (.aload_n 0, 1) := dk_42 (dk_at dksX0_derive_0 1 rfl rfl)
theorem dX0_derive_2 : decode cX0_derive 2 = .ok (.iload_n 1, 1) := dk_27 (dk_at dksX0_derive_0 2 rfl rfl)
theorem dX0_derive_3 : decode cX0_derive 3 = .ok (.invokevirtual 122, 3) := dk_182 0 122 (dk_at dksX0_derive_0 3 rfl rfl)
theorem dX0_derive_6 : decode cX0_derive 6 = .ok (.putfield 126, 3) := dk_181 0 126 (dk_at dksX0_derive_0 6 rfl rfl)
theorem dX0_derive_9 : decode cX0_derive 9 = .ok (.goto 12, 3) := dk_167 0 12 (dk_at dksX0_derive_0 9 rfl rfl)
theorem dX0_derive_12 : decode cX0_derive 12 = .ok (.astore_n 3, 1) := dk_78 (dk_at dksX0_derive_0 12 rfl rfl)
theorem dX0_derive_13 : decode cX0_derive 13 = .ok (.iconst 1, 1) := dk_4 (dk_at dksX0_derive_0 13 rfl rfl)
theorem dX0_derive_14 : decode cX0_derive 14 = .ok (.ireturn, 1) := dk_172 (dk_at dksX0_derive_0 14 rfl rfl)
theorem dX0_derive_15 : decode cX0_derive 15 = .ok (.astore_n 3, 1) := dk_78 (dk_at dksX0_derive_0 15 rfl rfl)
theorem dX0_derive_16 : decode cX0_derive 16 = .ok (.iconst 2, 1) := dk_5 (dk_at dksX0_derive_0 16 rfl rfl)
theorem dX0_derive_17 : decode cX0_derive 17 = .ok (.ireturn, 1) := dk_172 (dk_at dksX0_derive_0 17 rfl rfl)
theorem dX0_derive_18 : decode cX0_derive 18 = .ok (.astore_n 3, 1) := dk_78 (dk_at dksX0_derive_0 18 rfl rfl)
theorem dX0_derive_19 : decode cX0_derive 19 = .ok (.iconst 3, 1) := dk_6 (dk_at dksX0_derive_0 19 rfl rfl)
theorem dX0_derive_20 : decode cX0_derive 20 = .ok (.ireturn, 1) := dk_172 (dk_at dksX0_derive_0 20 rfl rfl)
theorem dX0_derive_21 : decode cX0_derive 21 = .ok (.iconst 0, 1) := dk_3 (dk_at dksX0_derive_0 21 rfl rfl)
theorem dX0_derive_22 : decode cX0_derive 22 = .ok (.ireturn, 1) := dk_172 (dk_at dksX0_derive_0 22 rfl rfl)
abbrev cX0_take : ByteArray := method_10_code
def yX0_take : MethodName := ⟨RX0, "take", "(LShrinkYard;Ljava/lang/String;LShrinkYardLaw$Out;)I"⟩
def dkwX0_take_1 : List UInt8 := [172]
abbrev dktX0_take_1 : List UInt8 := dkwX0_take_1 ++ []
def dkwX0_take_0 : List UInt8 := [44, 42, 43, 182, 0, 134, 153, 0, 7, 10, 167, 0, 4, 9, 181, 0, 104, 167, 0, 6, 78, 4, 172, 3]
abbrev dktX0_take_0 : List UInt8 := dkwX0_take_0 ++ dktX0_take_1
theorem dksX0_take_0 : cX0_take.data.toList.drop 0 = dktX0_take_0 := by decide +kernel
theorem dksX0_take_1 : cX0_take.data.toList.drop 24 = dktX0_take_1 := dk_seg dksX0_take_0 24 rfl rfl
theorem dX0_take_0 : decode cX0_take 0 = .ok (.aload_n 2, 1) := dk_44 (dk_at dksX0_take_0 0 rfl rfl)
theorem dX0_take_1 : decode cX0_take 1 = .ok (.aload_n 0, 1) := dk_42 (dk_at dksX0_take_0 1 rfl rfl)
theorem dX0_take_2 : decode cX0_take 2 = .ok (.aload_n 1, 1) := dk_43 (dk_at dksX0_take_0 2 rfl rfl)
theorem dX0_take_3 : decode cX0_take 3 = .ok (.invokevirtual 134, 3) := dk_182 0 134 (dk_at dksX0_take_0 3 rfl rfl)
theorem dX0_take_6 : decode cX0_take 6 = .ok (.ifCond .eq 7, 3) := dk_153 0 7 (dk_at dksX0_take_0 6 rfl rfl)
theorem dX0_take_9 : decode cX0_take 9 = .ok (.lconst 1, 1) := dk_10 (dk_at dksX0_take_0 9 rfl rfl)
theorem dX0_take_10 : decode cX0_take 10 = .ok (.goto 4, 3) := dk_167 0 4 (dk_at dksX0_take_0 10 rfl rfl)
theorem dX0_take_13 : decode cX0_take 13 = .ok (.lconst 0, 1) := dk_9 (dk_at dksX0_take_0 13 rfl rfl)
theorem dX0_take_14 : decode cX0_take 14 = .ok (.putfield 104, 3) := dk_181 0 104 (dk_at dksX0_take_0 14 rfl rfl)
theorem dX0_take_17 : decode cX0_take 17 = .ok (.goto 6, 3) := dk_167 0 6 (dk_at dksX0_take_0 17 rfl rfl)
theorem dX0_take_20 : decode cX0_take 20 = .ok (.astore_n 3, 1) := dk_78 (dk_at dksX0_take_0 20 rfl rfl)
theorem dX0_take_21 : decode cX0_take 21 = .ok (.iconst 1, 1) := dk_4 (dk_at dksX0_take_0 21 rfl rfl)
theorem dX0_take_22 : decode cX0_take 22 = .ok (.ireturn, 1) := dk_172 (dk_at dksX0_take_0 22 rfl rfl)
theorem dX0_take_23 : decode cX0_take 23 = .ok (.iconst 0, 1) := dk_3 (dk_at dksX0_take_0 23 rfl rfl)
theorem dX0_take_24 : decode cX0_take 24 = .ok (.ireturn, 1) := dk_172 (dk_at dksX0_take_1 0 rfl rfl)
abbrev cX0_takeDerived : ByteArray := method_11_code
def yX0_takeDerived : MethodName := ⟨RX0, "takeDerived", "(LShrinkYard;ILShrinkYardLaw$Out;)I"⟩
def dkwX0_takeDerived_1 : List UInt8 := [5, 172, 78, 6, 172, 3, 172]
abbrev dktX0_takeDerived_1 : List UInt8 := dkwX0_takeDerived_1 ++ []
def dkwX0_takeDerived_0 : List UInt8 := [44, 42, 27, 182, 0, 138, 153, 0, 7, 10, 167, 0, 4, 9, 181, 0, 104, 167, 0, 12, 78, 4, 172, 78]
abbrev dktX0_takeDerived_0 : List UInt8 := dkwX0_takeDerived_0 ++ dktX0_takeDerived_1
theorem dksX0_takeDerived_0 : cX0_takeDerived.data.toList.drop 0 = dktX0_takeDerived_0 := by decide +kernel
theorem dksX0_takeDerived_1 : cX0_takeDerived.data.toList.drop 24 = dktX0_takeDerived_1 := dk_seg dksX0_takeDerived_0 24 rfl rfl
theorem dX0_takeDerived_0 : decode cX0_takeDerived 0 = .ok (.aload_n 2, 1) := dk_44 (dk_at dksX0_takeDerived_0 0 rfl rfl)
theorem dX0_takeDerived_1 : decode cX0_takeDerived 1 = .ok (.aload_n 0, 1) := dk_42 (dk_at dksX0_takeDerived_0 1 rfl rfl)
theorem dX0_takeDerived_2 : decode cX0_takeDerived 2 = .ok (.iload_n 1, 1) := dk_27 (dk_at dksX0_takeDerived_0 2 rfl rfl)
theorem dX0_takeDerived_3 : decode cX0_takeDerived 3 = .ok (.invokevirtual 138, 3) := dk_182 0 138 (dk_at dksX0_takeDerived_0 3 rfl rfl)
theorem dX0_takeDerived_6 : decode cX0_takeDerived 6 = .ok (.ifCond .eq 7, 3) := dk_153 0 7 (dk_at dksX0_takeDerived_0 6 rfl rfl)
theorem dX0_takeDerived_9 : decode cX0_takeDerived 9 = .ok (.lconst 1, 1) := dk_10 (dk_at dksX0_takeDerived_0 9 rfl rfl)
theorem dX0_takeDerived_10 : decode cX0_takeDerived 10 = .ok (.goto 4, 3) := dk_167 0 4 (dk_at dksX0_takeDerived_0 10 rfl rfl)
theorem dX0_takeDerived_13 : decode cX0_takeDerived 13 = .ok (.lconst 0, 1) := dk_9 (dk_at dksX0_takeDerived_0 13 rfl rfl)
theorem dX0_takeDerived_14 : decode cX0_takeDerived 14 = .ok (.putfield 104, 3) := dk_181 0 104 (dk_at dksX0_takeDerived_0 14 rfl rfl)
theorem dX0_takeDerived_17 : decode cX0_takeDerived 17 = .ok (.goto 12, 3) := dk_167 0 12 (dk_at dksX0_takeDerived_0 17 rfl rfl)
theorem dX0_takeDerived_20 : decode cX0_takeDerived 20 = .ok (.astore_n 3, 1) := dk_78 (dk_at dksX0_takeDerived_0 20 rfl rfl)
theorem dX0_takeDerived_21 : decode cX0_takeDerived 21 = .ok (.iconst 1, 1) := dk_4 (dk_at dksX0_takeDerived_0 21 rfl rfl)
theorem dX0_takeDerived_22 : decode cX0_takeDerived 22 = .ok (.ireturn, 1) := dk_172 (dk_at dksX0_takeDerived_0 22 rfl rfl)
theorem dX0_takeDerived_23 : decode cX0_takeDerived 23 = .ok (.astore_n 3, 1) := dk_78 (dk_at dksX0_takeDerived_0 23 rfl rfl)
theorem dX0_takeDerived_24 : decode cX0_takeDerived 24 = .ok (.iconst 2, 1) := dk_5 (dk_at dksX0_takeDerived_1 0 rfl rfl)
theorem dX0_takeDerived_25 : decode cX0_takeDerived 25 = .ok (.ireturn, 1) := dk_172 (dk_at dksX0_takeDerived_1 1 rfl rfl)
theorem dX0_takeDerived_26 : decode cX0_takeDerived 26 = .ok (.astore_n 3, 1) := dk_78 (dk_at dksX0_takeDerived_1 2 rfl rfl)
theorem dX0_takeDerived_27 : decode cX0_takeDerived 27 = .ok (.iconst 3, 1) := dk_6 (dk_at dksX0_takeDerived_1 3 rfl rfl)
theorem dX0_takeDerived_28 : decode cX0_takeDerived 28 = .ok (.ireturn, 1) := dk_172 (dk_at dksX0_takeDerived_1 4 rfl rfl)
theorem dX0_takeDerived_29 : decode cX0_takeDerived 29 = .ok (.iconst 0, 1) := dk_3 (dk_at dksX0_takeDerived_1 5 rfl rfl)
theorem dX0_takeDerived_30 : decode cX0_takeDerived 30 = .ok (.ireturn, 1) := dk_172 (dk_at dksX0_takeDerived_1 6 rfl rfl)
abbrev cX0_goOn : ByteArray := method_12_code
def yX0_goOn : MethodName := ⟨RX0, "goOn", "(LShrinkYard;ILShrinkYardLaw$Out;)I"⟩
def dkwX0_goOn_0 : List UInt8 := [44, 42, 27, 182, 0, 142, 133, 181, 0, 104, 167, 0, 6, 78, 4, 172, 3, 172]
abbrev dktX0_goOn_0 : List UInt8 := dkwX0_goOn_0 ++ []
theorem dksX0_goOn_0 : cX0_goOn.data.toList.drop 0 = dktX0_goOn_0 := by decide +kernel
theorem dX0_goOn_0 : decode cX0_goOn 0 = .ok (.aload_n 2, 1) := dk_44 (dk_at dksX0_goOn_0 0 rfl rfl)
theorem dX0_goOn_1 : decode cX0_goOn 1 = .ok (.aload_n 0, 1) := dk_42 (dk_at dksX0_goOn_0 1 rfl rfl)
theorem dX0_goOn_2 : decode cX0_goOn 2 = .ok (.iload_n 1, 1) := dk_27 (dk_at dksX0_goOn_0 2 rfl rfl)
theorem dX0_goOn_3 : decode cX0_goOn 3 = .ok (.invokevirtual 142, 3) := dk_182 0 142 (dk_at dksX0_goOn_0 3 rfl rfl)
theorem dX0_goOn_6 : decode cX0_goOn 6 = .ok (.i2l, 1) := dk_133 (dk_at dksX0_goOn_0 6 rfl rfl)
theorem dX0_goOn_7 : decode cX0_goOn 7 = .ok (.putfield 104, 3) := dk_181 0 104 (dk_at dksX0_goOn_0 7 rfl rfl)
theorem dX0_goOn_10 : decode cX0_goOn 10 = .ok (.goto 6, 3) := dk_167 0 6 (dk_at dksX0_goOn_0 10 rfl rfl)
theorem dX0_goOn_13 : decode cX0_goOn 13 = .ok (.astore_n 3, 1) := dk_78 (dk_at dksX0_goOn_0 13 rfl rfl)
theorem dX0_goOn_14 : decode cX0_goOn 14 = .ok (.iconst 1, 1) := dk_4 (dk_at dksX0_goOn_0 14 rfl rfl)
theorem dX0_goOn_15 : decode cX0_goOn 15 = .ok (.ireturn, 1) := dk_172 (dk_at dksX0_goOn_0 15 rfl rfl)
theorem dX0_goOn_16 : decode cX0_goOn 16 = .ok (.iconst 0, 1) := dk_3 (dk_at dksX0_goOn_0 16 rfl rfl)
theorem dX0_goOn_17 : decode cX0_goOn 17 = .ok (.ireturn, 1) := dk_172 (dk_at dksX0_goOn_0 17 rfl rfl)
abbrev cX0_isCovered : ByteArray := method_13_code
def yX0_isCovered : MethodName := ⟨RX0, "isCovered", "(LShrinkYard;IILShrinkYardLaw$Out;)I"⟩
def dkwX0_isCovered_1 : List UInt8 := [172, 3, 172]
abbrev dktX0_isCovered_1 : List UInt8 := dkwX0_isCovered_1 ++ []
def dkwX0_isCovered_0 : List UInt8 := [45, 42, 27, 28, 182, 0, 146, 153, 0, 7, 10, 167, 0, 4, 9, 181, 0, 104, 167, 0, 7, 58, 4, 4]
abbrev dktX0_isCovered_0 : List UInt8 := dkwX0_isCovered_0 ++ dktX0_isCovered_1
theorem dksX0_isCovered_0 : cX0_isCovered.data.toList.drop 0 = dktX0_isCovered_0 := by decide +kernel
theorem dksX0_isCovered_1 : cX0_isCovered.data.toList.drop 24 = dktX0_isCovered_1 := dk_seg dksX0_isCovered_0 24 rfl rfl
theorem dX0_isCovered_0 : decode cX0_isCovered 0 = .ok (.aload_n 3, 1) := dk_45 (dk_at dksX0_isCovered_0 0 rfl rfl)
theorem dX0_isCovered_1 : decode cX0_isCovered 1 = .ok (.aload_n 0, 1) := dk_42 (dk_at dksX0_isCovered_0 1 rfl rfl)
theorem dX0_isCovered_2 : decode cX0_isCovered 2 = .ok (.iload_n 1, 1) := dk_27 (dk_at dksX0_isCovered_0 2 rfl rfl)
theorem dX0_isCovered_3 : decode cX0_isCovered 3 = .ok (.iload_n 2, 1) := dk_28 (dk_at dksX0_isCovered_0 3 rfl rfl)
theorem dX0_isCovered_4 : decode cX0_isCovered 4 = .ok (.invokevirtual 146, 3) := dk_182 0 146 (dk_at dksX0_isCovered_0 4 rfl rfl)
theorem dX0_isCovered_7 : decode cX0_isCovered 7 = .ok (.ifCond .eq 7, 3) := dk_153 0 7 (dk_at dksX0_isCovered_0 7 rfl rfl)
theorem dX0_isCovered_10 : decode cX0_isCovered 10 = .ok (.lconst 1, 1) := dk_10 (dk_at dksX0_isCovered_0 10 rfl rfl)
theorem dX0_isCovered_11 : decode cX0_isCovered 11 = .ok (.goto 4, 3) := dk_167 0 4 (dk_at dksX0_isCovered_0 11 rfl rfl)
theorem dX0_isCovered_14 : decode cX0_isCovered 14 = .ok (.lconst 0, 1) := dk_9 (dk_at dksX0_isCovered_0 14 rfl rfl)
theorem dX0_isCovered_15 : decode cX0_isCovered 15 = .ok (.putfield 104, 3) := dk_181 0 104 (dk_at dksX0_isCovered_0 15 rfl rfl)
theorem dX0_isCovered_18 : decode cX0_isCovered 18 = .ok (.goto 7, 3) := dk_167 0 7 (dk_at dksX0_isCovered_0 18 rfl rfl)
theorem dX0_isCovered_21 : decode cX0_isCovered 21 = .ok (.astore 4, 2) := dk_58 4 (dk_at dksX0_isCovered_0 21 rfl rfl)
theorem dX0_isCovered_23 : decode cX0_isCovered 23 = .ok (.iconst 1, 1) := dk_4 (dk_at dksX0_isCovered_0 23 rfl rfl)
theorem dX0_isCovered_24 : decode cX0_isCovered 24 = .ok (.ireturn, 1) := dk_172 (dk_at dksX0_isCovered_1 0 rfl rfl)
theorem dX0_isCovered_25 : decode cX0_isCovered 25 = .ok (.iconst 0, 1) := dk_3 (dk_at dksX0_isCovered_1 1 rfl rfl)
theorem dX0_isCovered_26 : decode cX0_isCovered 26 = .ok (.ireturn, 1) := dk_172 (dk_at dksX0_isCovered_1 2 rfl rfl)
abbrev cX0_keptAt : ByteArray := method_14_code
def yX0_keptAt : MethodName := ⟨RX0, "keptAt", "(LShrinkYard;ILShrinkYardLaw$Out;)I"⟩
def dkwX0_keptAt_0 : List UInt8 := [44, 42, 27, 182, 0, 152, 181, 0, 126, 167, 0, 6, 78, 4, 172, 3, 172]
abbrev dktX0_keptAt_0 : List UInt8 := dkwX0_keptAt_0 ++ []
theorem dksX0_keptAt_0 : cX0_keptAt.data.toList.drop 0 = dktX0_keptAt_0 := by decide +kernel
theorem dX0_keptAt_0 : decode cX0_keptAt 0 = .ok (.aload_n 2, 1) := dk_44 (dk_at dksX0_keptAt_0 0 rfl rfl)
theorem dX0_keptAt_1 : decode cX0_keptAt 1 = .ok (.aload_n 0, 1) := dk_42 (dk_at dksX0_keptAt_0 1 rfl rfl)
theorem dX0_keptAt_2 : decode cX0_keptAt 2 = .ok (.iload_n 1, 1) := dk_27 (dk_at dksX0_keptAt_0 2 rfl rfl)
theorem dX0_keptAt_3 : decode cX0_keptAt 3 = .ok (.invokevirtual 152, 3) := dk_182 0 152 (dk_at dksX0_keptAt_0 3 rfl rfl)
theorem dX0_keptAt_6 : decode cX0_keptAt 6 = .ok (.putfield 126, 3) := dk_181 0 126 (dk_at dksX0_keptAt_0 6 rfl rfl)
theorem dX0_keptAt_9 : decode cX0_keptAt 9 = .ok (.goto 6, 3) := dk_167 0 6 (dk_at dksX0_keptAt_0 9 rfl rfl)
theorem dX0_keptAt_12 : decode cX0_keptAt 12 = .ok (.astore_n 3, 1) := dk_78 (dk_at dksX0_keptAt_0 12 rfl rfl)
theorem dX0_keptAt_13 : decode cX0_keptAt 13 = .ok (.iconst 1, 1) := dk_4 (dk_at dksX0_keptAt_0 13 rfl rfl)
theorem dX0_keptAt_14 : decode cX0_keptAt 14 = .ok (.ireturn, 1) := dk_172 (dk_at dksX0_keptAt_0 14 rfl rfl)
theorem dX0_keptAt_15 : decode cX0_keptAt 15 = .ok (.iconst 0, 1) := dk_3 (dk_at dksX0_keptAt_0 15 rfl rfl)
theorem dX0_keptAt_16 : decode cX0_keptAt 16 = .ok (.ireturn, 1) := dk_172 (dk_at dksX0_keptAt_0 16 rfl rfl)
abbrev cX0_findingAt : ByteArray := method_15_code
def yX0_findingAt : MethodName := ⟨RX0, "findingAt", "(LShrinkYard;ILShrinkYardLaw$Out;)I"⟩
def dkwX0_findingAt_0 : List UInt8 := [44, 42, 27, 182, 0, 155, 181, 0, 159, 167, 0, 6, 78, 4, 172, 3, 172]
abbrev dktX0_findingAt_0 : List UInt8 := dkwX0_findingAt_0 ++ []
theorem dksX0_findingAt_0 : cX0_findingAt.data.toList.drop 0 = dktX0_findingAt_0 := by decide +kernel
theorem dX0_findingAt_0 : decode cX0_findingAt 0 = .ok (.aload_n 2, 1) := dk_44 (dk_at dksX0_findingAt_0 0 rfl rfl)
theorem dX0_findingAt_1 : decode cX0_findingAt 1 = .ok (.aload_n 0, 1) := dk_42 (dk_at dksX0_findingAt_0 1 rfl rfl)
theorem dX0_findingAt_2 : decode cX0_findingAt 2 = .ok (.iload_n 1, 1) := dk_27 (dk_at dksX0_findingAt_0 2 rfl rfl)
theorem dX0_findingAt_3 : decode cX0_findingAt 3 = .ok (.invokevirtual 155, 3) := dk_182 0 155 (dk_at dksX0_findingAt_0 3 rfl rfl)
theorem dX0_findingAt_6 : decode cX0_findingAt 6 = .ok (.putfield 159, 3) := dk_181 0 159 (dk_at dksX0_findingAt_0 6 rfl rfl)
theorem dX0_findingAt_9 : decode cX0_findingAt 9 = .ok (.goto 6, 3) := dk_167 0 6 (dk_at dksX0_findingAt_0 9 rfl rfl)
theorem dX0_findingAt_12 : decode cX0_findingAt 12 = .ok (.astore_n 3, 1) := dk_78 (dk_at dksX0_findingAt_0 12 rfl rfl)
theorem dX0_findingAt_13 : decode cX0_findingAt 13 = .ok (.iconst 1, 1) := dk_4 (dk_at dksX0_findingAt_0 13 rfl rfl)
theorem dX0_findingAt_14 : decode cX0_findingAt 14 = .ok (.ireturn, 1) := dk_172 (dk_at dksX0_findingAt_0 14 rfl rfl)
theorem dX0_findingAt_15 : decode cX0_findingAt 15 = .ok (.iconst 0, 1) := dk_3 (dk_at dksX0_findingAt_0 15 rfl rfl)
theorem dX0_findingAt_16 : decode cX0_findingAt 16 = .ok (.ireturn, 1) := dk_172 (dk_at dksX0_findingAt_0 16 rfl rfl)
abbrev cX0_verdict : ByteArray := method_16_code
def yX0_verdict : MethodName := ⟨RX0, "verdict", "(LShrinkYard;Ljava/lang/String;LShrinkYardLaw$Out;)I"⟩
def dkwX0_verdict_0 : List UInt8 := [44, 42, 43, 182, 0, 163, 181, 0, 167, 167, 0, 6, 78, 4, 172, 3, 172]
abbrev dktX0_verdict_0 : List UInt8 := dkwX0_verdict_0 ++ []
theorem dksX0_verdict_0 : cX0_verdict.data.toList.drop 0 = dktX0_verdict_0 := by decide +kernel
theorem dX0_verdict_0 : decode cX0_verdict 0 = .ok (.aload_n 2, 1) := dk_44 (dk_at dksX0_verdict_0 0 rfl rfl)
theorem dX0_verdict_1 : decode cX0_verdict 1 = .ok (.aload_n 0, 1) := dk_42 (dk_at dksX0_verdict_0 1 rfl rfl)
theorem dX0_verdict_2 : decode cX0_verdict 2 = .ok (.aload_n 1, 1) := dk_43 (dk_at dksX0_verdict_0 2 rfl rfl)
theorem dX0_verdict_3 : decode cX0_verdict 3 = .ok (.invokevirtual 163, 3) := dk_182 0 163 (dk_at dksX0_verdict_0 3 rfl rfl)
theorem dX0_verdict_6 : decode cX0_verdict 6 = .ok (.putfield 167, 3) := dk_181 0 167 (dk_at dksX0_verdict_0 6 rfl rfl)
theorem dX0_verdict_9 : decode cX0_verdict 9 = .ok (.goto 6, 3) := dk_167 0 6 (dk_at dksX0_verdict_0 9 rfl rfl)
theorem dX0_verdict_12 : decode cX0_verdict 12 = .ok (.astore_n 3, 1) := dk_78 (dk_at dksX0_verdict_0 12 rfl rfl)
theorem dX0_verdict_13 : decode cX0_verdict 13 = .ok (.iconst 1, 1) := dk_4 (dk_at dksX0_verdict_0 13 rfl rfl)
theorem dX0_verdict_14 : decode cX0_verdict 14 = .ok (.ireturn, 1) := dk_172 (dk_at dksX0_verdict_0 14 rfl rfl)
theorem dX0_verdict_15 : decode cX0_verdict 15 = .ok (.iconst 0, 1) := dk_3 (dk_at dksX0_verdict_0 15 rfl rfl)
theorem dX0_verdict_16 : decode cX0_verdict 16 = .ok (.ireturn, 1) := dk_172 (dk_at dksX0_verdict_0 16 rfl rfl)
abbrev cX0_code : ByteArray := method_17_code
def yX0_code : MethodName := ⟨RX0, "code", "(LShrinkYard;Ljava/lang/String;LShrinkYardLaw$Out;)I"⟩
def dkwX0_code_0 : List UInt8 := [44, 42, 43, 182, 0, 170, 133, 181, 0, 104, 167, 0, 9, 78, 4, 172, 78, 5, 172, 3, 172]
abbrev dktX0_code_0 : List UInt8 := dkwX0_code_0 ++ []
theorem dksX0_code_0 : cX0_code.data.toList.drop 0 = dktX0_code_0 := by decide +kernel
theorem dX0_code_0 : decode cX0_code 0 = .ok (.aload_n 2, 1) := dk_44 (dk_at dksX0_code_0 0 rfl rfl)
theorem dX0_code_1 : decode cX0_code 1 = .ok (.aload_n 0, 1) := dk_42 (dk_at dksX0_code_0 1 rfl rfl)
theorem dX0_code_2 : decode cX0_code 2 = .ok (.aload_n 1, 1) := dk_43 (dk_at dksX0_code_0 2 rfl rfl)
theorem dX0_code_3 : decode cX0_code 3 = .ok (.invokevirtual 170, 3) := dk_182 0 170 (dk_at dksX0_code_0 3 rfl rfl)
theorem dX0_code_6 : decode cX0_code 6 = .ok (.i2l, 1) := dk_133 (dk_at dksX0_code_0 6 rfl rfl)
theorem dX0_code_7 : decode cX0_code 7 = .ok (.putfield 104, 3) := dk_181 0 104 (dk_at dksX0_code_0 7 rfl rfl)
theorem dX0_code_10 : decode cX0_code 10 = .ok (.goto 9, 3) := dk_167 0 9 (dk_at dksX0_code_0 10 rfl rfl)
theorem dX0_code_13 : decode cX0_code 13 = .ok (.astore_n 3, 1) := dk_78 (dk_at dksX0_code_0 13 rfl rfl)
theorem dX0_code_14 : decode cX0_code 14 = .ok (.iconst 1, 1) := dk_4 (dk_at dksX0_code_0 14 rfl rfl)
theorem dX0_code_15 : decode cX0_code 15 = .ok (.ireturn, 1) := dk_172 (dk_at dksX0_code_0 15 rfl rfl)
theorem dX0_code_16 : decode cX0_code 16 = .ok (.astore_n 3, 1) := dk_78 (dk_at dksX0_code_0 16 rfl rfl)
theorem dX0_code_17 : decode cX0_code 17 = .ok (.iconst 2, 1) := dk_5 (dk_at dksX0_code_0 17 rfl rfl)
theorem dX0_code_18 : decode cX0_code 18 = .ok (.ireturn, 1) := dk_172 (dk_at dksX0_code_0 18 rfl rfl)
theorem dX0_code_19 : decode cX0_code 19 = .ok (.iconst 0, 1) := dk_3 (dk_at dksX0_code_0 19 rfl rfl)
theorem dX0_code_20 : decode cX0_code 20 = .ok (.ireturn, 1) := dk_172 (dk_at dksX0_code_0 20 rfl rfl)
abbrev cX0_steps : ByteArray := method_18_code
def yX0_steps : MethodName := ⟨RX0, "steps", "(LShrinkYard;Ljava/lang/String;LShrinkYardLaw$Out;)I"⟩
def dkwX0_steps_0 : List UInt8 := [44, 42, 43, 182, 0, 174, 133, 181, 0, 104, 167, 0, 6, 78, 4, 172, 3, 172]
abbrev dktX0_steps_0 : List UInt8 := dkwX0_steps_0 ++ []
theorem dksX0_steps_0 : cX0_steps.data.toList.drop 0 = dktX0_steps_0 := by decide +kernel
theorem dX0_steps_0 : decode cX0_steps 0 = .ok (.aload_n 2, 1) := dk_44 (dk_at dksX0_steps_0 0 rfl rfl)
theorem dX0_steps_1 : decode cX0_steps 1 = .ok (.aload_n 0, 1) := dk_42 (dk_at dksX0_steps_0 1 rfl rfl)
theorem dX0_steps_2 : decode cX0_steps 2 = .ok (.aload_n 1, 1) := dk_43 (dk_at dksX0_steps_0 2 rfl rfl)
theorem dX0_steps_3 : decode cX0_steps 3 = .ok (.invokevirtual 174, 3) := dk_182 0 174 (dk_at dksX0_steps_0 3 rfl rfl)
theorem dX0_steps_6 : decode cX0_steps 6 = .ok (.i2l, 1) := dk_133 (dk_at dksX0_steps_0 6 rfl rfl)
theorem dX0_steps_7 : decode cX0_steps 7 = .ok (.putfield 104, 3) := dk_181 0 104 (dk_at dksX0_steps_0 7 rfl rfl)
theorem dX0_steps_10 : decode cX0_steps 10 = .ok (.goto 6, 3) := dk_167 0 6 (dk_at dksX0_steps_0 10 rfl rfl)
theorem dX0_steps_13 : decode cX0_steps 13 = .ok (.astore_n 3, 1) := dk_78 (dk_at dksX0_steps_0 13 rfl rfl)
theorem dX0_steps_14 : decode cX0_steps 14 = .ok (.iconst 1, 1) := dk_4 (dk_at dksX0_steps_0 14 rfl rfl)
theorem dX0_steps_15 : decode cX0_steps 15 = .ok (.ireturn, 1) := dk_172 (dk_at dksX0_steps_0 15 rfl rfl)
theorem dX0_steps_16 : decode cX0_steps 16 = .ok (.iconst 0, 1) := dk_3 (dk_at dksX0_steps_0 16 rfl rfl)
theorem dX0_steps_17 : decode cX0_steps 17 = .ok (.ireturn, 1) := dk_172 (dk_at dksX0_steps_0 17 rfl rfl)
abbrev cX0_edges : ByteArray := method_19_code
def yX0_edges : MethodName := ⟨RX0, "edges", "(LShrinkYard;Ljava/lang/String;LShrinkYardLaw$Out;)I"⟩
def dkwX0_edges_0 : List UInt8 := [44, 42, 43, 182, 0, 177, 133, 181, 0, 104, 167, 0, 6, 78, 4, 172, 3, 172]
abbrev dktX0_edges_0 : List UInt8 := dkwX0_edges_0 ++ []
theorem dksX0_edges_0 : cX0_edges.data.toList.drop 0 = dktX0_edges_0 := by decide +kernel
theorem dX0_edges_0 : decode cX0_edges 0 = .ok (.aload_n 2, 1) := dk_44 (dk_at dksX0_edges_0 0 rfl rfl)
theorem dX0_edges_1 : decode cX0_edges 1 = .ok (.aload_n 0, 1) := dk_42 (dk_at dksX0_edges_0 1 rfl rfl)
theorem dX0_edges_2 : decode cX0_edges 2 = .ok (.aload_n 1, 1) := dk_43 (dk_at dksX0_edges_0 2 rfl rfl)
theorem dX0_edges_3 : decode cX0_edges 3 = .ok (.invokevirtual 177, 3) := dk_182 0 177 (dk_at dksX0_edges_0 3 rfl rfl)
theorem dX0_edges_6 : decode cX0_edges 6 = .ok (.i2l, 1) := dk_133 (dk_at dksX0_edges_0 6 rfl rfl)
theorem dX0_edges_7 : decode cX0_edges 7 = .ok (.putfield 104, 3) := dk_181 0 104 (dk_at dksX0_edges_0 7 rfl rfl)
theorem dX0_edges_10 : decode cX0_edges 10 = .ok (.goto 6, 3) := dk_167 0 6 (dk_at dksX0_edges_0 10 rfl rfl)
theorem dX0_edges_13 : decode cX0_edges 13 = .ok (.astore_n 3, 1) := dk_78 (dk_at dksX0_edges_0 13 rfl rfl)
theorem dX0_edges_14 : decode cX0_edges 14 = .ok (.iconst 1, 1) := dk_4 (dk_at dksX0_edges_0 14 rfl rfl)
theorem dX0_edges_15 : decode cX0_edges 15 = .ok (.ireturn, 1) := dk_172 (dk_at dksX0_edges_0 15 rfl rfl)
theorem dX0_edges_16 : decode cX0_edges 16 = .ok (.iconst 0, 1) := dk_3 (dk_at dksX0_edges_0 16 rfl rfl)
theorem dX0_edges_17 : decode cX0_edges 17 = .ok (.ireturn, 1) := dk_172 (dk_at dksX0_edges_0 17 rfl rfl)
abbrev cX0_changed : ByteArray := method_20_code
def yX0_changed : MethodName := ⟨RX0, "changed", "(LShrinkYard;LChange;IILjava/lang/String;LShrinkYardLaw$Out;)I"⟩
def dkwX0_changed_1 : List UInt8 := [172, 3, 172]
abbrev dktX0_changed_1 : List UInt8 := dkwX0_changed_1 ++ []
def dkwX0_changed_0 : List UInt8 := [25, 5, 42, 43, 28, 29, 25, 4, 182, 0, 180, 181, 0, 126, 167, 0, 11, 58, 6, 4, 172, 58, 6, 5]
abbrev dktX0_changed_0 : List UInt8 := dkwX0_changed_0 ++ dktX0_changed_1
theorem dksX0_changed_0 : cX0_changed.data.toList.drop 0 = dktX0_changed_0 := by decide +kernel
theorem dksX0_changed_1 : cX0_changed.data.toList.drop 24 = dktX0_changed_1 := dk_seg dksX0_changed_0 24 rfl rfl
theorem dX0_changed_0 : decode cX0_changed 0 = .ok (.aload 5, 2) := dk_25 5 (dk_at dksX0_changed_0 0 rfl rfl)
theorem dX0_changed_2 : decode cX0_changed 2 = .ok (.aload_n 0, 1) := dk_42 (dk_at dksX0_changed_0 2 rfl rfl)
theorem dX0_changed_3 : decode cX0_changed 3 = .ok (.aload_n 1, 1) := dk_43 (dk_at dksX0_changed_0 3 rfl rfl)
theorem dX0_changed_4 : decode cX0_changed 4 = .ok (.iload_n 2, 1) := dk_28 (dk_at dksX0_changed_0 4 rfl rfl)
theorem dX0_changed_5 : decode cX0_changed 5 = .ok (.iload_n 3, 1) := dk_29 (dk_at dksX0_changed_0 5 rfl rfl)
theorem dX0_changed_6 : decode cX0_changed 6 = .ok (.aload 4, 2) := dk_25 4 (dk_at dksX0_changed_0 6 rfl rfl)
theorem dX0_changed_8 : decode cX0_changed 8 = .ok (.invokevirtual 180, 3) := dk_182 0 180 (dk_at dksX0_changed_0 8 rfl rfl)
theorem dX0_changed_11 : decode cX0_changed 11 = .ok (.putfield 126, 3) := dk_181 0 126 (dk_at dksX0_changed_0 11 rfl rfl)
theorem dX0_changed_14 : decode cX0_changed 14 = .ok (.goto 11, 3) := dk_167 0 11 (dk_at dksX0_changed_0 14 rfl rfl)
theorem dX0_changed_17 : decode cX0_changed 17 = .ok (.astore 6, 2) := dk_58 6 (dk_at dksX0_changed_0 17 rfl rfl)
theorem dX0_changed_19 : decode cX0_changed 19 = .ok (.iconst 1, 1) := dk_4 (dk_at dksX0_changed_0 19 rfl rfl)
theorem dX0_changed_20 : decode cX0_changed 20 = .ok (.ireturn, 1) := dk_172 (dk_at dksX0_changed_0 20 rfl rfl)
theorem dX0_changed_21 : decode cX0_changed 21 = .ok (.astore 6, 2) := dk_58 6 (dk_at dksX0_changed_0 21 rfl rfl)
theorem dX0_changed_23 : decode cX0_changed 23 = .ok (.iconst 2, 1) := dk_5 (dk_at dksX0_changed_0 23 rfl rfl)
theorem dX0_changed_24 : decode cX0_changed 24 = .ok (.ireturn, 1) := dk_172 (dk_at dksX0_changed_1 0 rfl rfl)
theorem dX0_changed_25 : decode cX0_changed 25 = .ok (.iconst 0, 1) := dk_3 (dk_at dksX0_changed_1 1 rfl rfl)
theorem dX0_changed_26 : decode cX0_changed 26 = .ok (.ireturn, 1) := dk_172 (dk_at dksX0_changed_1 2 rfl rfl)
abbrev cX0_shrunk : ByteArray := method_21_code
def yX0_shrunk : MethodName := ⟨RX0, "shrunk", "(LShrinkYard;Ljava/lang/String;LShrinkYardLaw$Out;)I"⟩
def dkwX0_shrunk_0 : List UInt8 := [44, 42, 43, 182, 0, 184, 181, 0, 126, 167, 0, 9, 78, 4, 172, 78, 5, 172, 3, 172]
abbrev dktX0_shrunk_0 : List UInt8 := dkwX0_shrunk_0 ++ []
theorem dksX0_shrunk_0 : cX0_shrunk.data.toList.drop 0 = dktX0_shrunk_0 := by decide +kernel
theorem dX0_shrunk_0 : decode cX0_shrunk 0 = .ok (.aload_n 2, 1) := dk_44 (dk_at dksX0_shrunk_0 0 rfl rfl)
theorem dX0_shrunk_1 : decode cX0_shrunk 1 = .ok (.aload_n 0, 1) := dk_42 (dk_at dksX0_shrunk_0 1 rfl rfl)
theorem dX0_shrunk_2 : decode cX0_shrunk 2 = .ok (.aload_n 1, 1) := dk_43 (dk_at dksX0_shrunk_0 2 rfl rfl)
theorem dX0_shrunk_3 : decode cX0_shrunk 3 = .ok (.invokevirtual 184, 3) := dk_182 0 184 (dk_at dksX0_shrunk_0 3 rfl rfl)
theorem dX0_shrunk_6 : decode cX0_shrunk 6 = .ok (.putfield 126, 3) := dk_181 0 126 (dk_at dksX0_shrunk_0 6 rfl rfl)
theorem dX0_shrunk_9 : decode cX0_shrunk 9 = .ok (.goto 9, 3) := dk_167 0 9 (dk_at dksX0_shrunk_0 9 rfl rfl)
theorem dX0_shrunk_12 : decode cX0_shrunk 12 = .ok (.astore_n 3, 1) := dk_78 (dk_at dksX0_shrunk_0 12 rfl rfl)
theorem dX0_shrunk_13 : decode cX0_shrunk 13 = .ok (.iconst 1, 1) := dk_4 (dk_at dksX0_shrunk_0 13 rfl rfl)
theorem dX0_shrunk_14 : decode cX0_shrunk 14 = .ok (.ireturn, 1) := dk_172 (dk_at dksX0_shrunk_0 14 rfl rfl)
theorem dX0_shrunk_15 : decode cX0_shrunk 15 = .ok (.astore_n 3, 1) := dk_78 (dk_at dksX0_shrunk_0 15 rfl rfl)
theorem dX0_shrunk_16 : decode cX0_shrunk 16 = .ok (.iconst 2, 1) := dk_5 (dk_at dksX0_shrunk_0 16 rfl rfl)
theorem dX0_shrunk_17 : decode cX0_shrunk 17 = .ok (.ireturn, 1) := dk_172 (dk_at dksX0_shrunk_0 17 rfl rfl)
theorem dX0_shrunk_18 : decode cX0_shrunk 18 = .ok (.iconst 0, 1) := dk_3 (dk_at dksX0_shrunk_0 18 rfl rfl)
theorem dX0_shrunk_19 : decode cX0_shrunk 19 = .ok (.ireturn, 1) := dk_172 (dk_at dksX0_shrunk_0 19 rfl rfl)
abbrev cX0_failingReductions : ByteArray := method_22_code
def yX0_failingReductions : MethodName := ⟨RX0, "failingReductions", "(LShrinkYard;Ljava/lang/String;LShrinkYardLaw$Out;)I"⟩
def dkwX0_failingReductions_0 : List UInt8 := [44, 42, 43, 182, 0, 188, 133, 181, 0, 104, 167, 0, 9, 78, 4, 172, 78, 5, 172, 3, 172]
abbrev dktX0_failingReductions_0 : List UInt8 := dkwX0_failingReductions_0 ++ []
theorem dksX0_failingReductions_0 : cX0_failingReductions.data.toList.drop 0 = dktX0_failingReductions_0 := by decide +kernel
theorem dX0_failingReductions_0 : decode cX0_failingReductions 0 = .ok (.aload_n 2, 1) := dk_44 (dk_at dksX0_failingReductions_0 0 rfl rfl)
theorem dX0_failingReductions_1 : decode cX0_failingReductions 1 = .ok (.aload_n 0, 1) := dk_42 (dk_at dksX0_failingReductions_0 1 rfl rfl)
theorem dX0_failingReductions_2 : decode cX0_failingReductions 2 = .ok (.aload_n 1, 1) := dk_43 (dk_at dksX0_failingReductions_0 2 rfl rfl)
theorem dX0_failingReductions_3 : decode cX0_failingReductions 3 = .ok (.invokevirtual 188, 3) := dk_182 0 188 (dk_at dksX0_failingReductions_0 3 rfl rfl)
theorem dX0_failingReductions_6 : decode cX0_failingReductions 6 = .ok (.i2l, 1) := dk_133 (dk_at dksX0_failingReductions_0 6 rfl rfl)
theorem dX0_failingReductions_7 : decode cX0_failingReductions 7 = .ok (.putfield 104, 3) := dk_181 0 104 (dk_at dksX0_failingReductions_0 7 rfl rfl)
theorem dX0_failingReductions_10 : decode cX0_failingReductions 10 = .ok (.goto 9, 3) := dk_167 0 9 (dk_at dksX0_failingReductions_0 10 rfl rfl)
theorem dX0_failingReductions_13 : decode cX0_failingReductions 13 = .ok (.astore_n 3, 1) := dk_78 (dk_at dksX0_failingReductions_0 13 rfl rfl)
theorem dX0_failingReductions_14 : decode cX0_failingReductions 14 = .ok (.iconst 1, 1) := dk_4 (dk_at dksX0_failingReductions_0 14 rfl rfl)
theorem dX0_failingReductions_15 : decode cX0_failingReductions 15 = .ok (.ireturn, 1) := dk_172 (dk_at dksX0_failingReductions_0 15 rfl rfl)
theorem dX0_failingReductions_16 : decode cX0_failingReductions 16 = .ok (.astore_n 3, 1) := dk_78 (dk_at dksX0_failingReductions_0 16 rfl rfl)
theorem dX0_failingReductions_17 : decode cX0_failingReductions 17 = .ok (.iconst 2, 1) := dk_5 (dk_at dksX0_failingReductions_0 17 rfl rfl)
theorem dX0_failingReductions_18 : decode cX0_failingReductions 18 = .ok (.ireturn, 1) := dk_172 (dk_at dksX0_failingReductions_0 18 rfl rfl)
theorem dX0_failingReductions_19 : decode cX0_failingReductions 19 = .ok (.iconst 0, 1) := dk_3 (dk_at dksX0_failingReductions_0 19 rfl rfl)
theorem dX0_failingReductions_20 : decode cX0_failingReductions 20 = .ok (.ireturn, 1) := dk_172 (dk_at dksX0_failingReductions_0 20 rfl rfl)
abbrev cX0_smallest : ByteArray := method_23_code
def yX0_smallest : MethodName := ⟨RX0, "smallest", "(LShrinkYard;IILShrinkYardLaw$Out;)I"⟩
def dkwX0_smallest_0 : List UInt8 := [45, 42, 27, 28, 182, 0, 191, 181, 0, 126, 167, 0, 11, 58, 4, 4, 172, 58, 4, 5, 172, 3, 172]
abbrev dktX0_smallest_0 : List UInt8 := dkwX0_smallest_0 ++ []
theorem dksX0_smallest_0 : cX0_smallest.data.toList.drop 0 = dktX0_smallest_0 := by decide +kernel
theorem dX0_smallest_0 : decode cX0_smallest 0 = .ok (.aload_n 3, 1) := dk_45 (dk_at dksX0_smallest_0 0 rfl rfl)
theorem dX0_smallest_1 : decode cX0_smallest 1 = .ok (.aload_n 0, 1) := dk_42 (dk_at dksX0_smallest_0 1 rfl rfl)
theorem dX0_smallest_2 : decode cX0_smallest 2 = .ok (.iload_n 1, 1) := dk_27 (dk_at dksX0_smallest_0 2 rfl rfl)
theorem dX0_smallest_3 : decode cX0_smallest 3 = .ok (.iload_n 2, 1) := dk_28 (dk_at dksX0_smallest_0 3 rfl rfl)
theorem dX0_smallest_4 : decode cX0_smallest 4 = .ok (.invokevirtual 191, 3) := dk_182 0 191 (dk_at dksX0_smallest_0 4 rfl rfl)
theorem dX0_smallest_7 : decode cX0_smallest 7 = .ok (.putfield 126, 3) := dk_181 0 126 (dk_at dksX0_smallest_0 7 rfl rfl)
theorem dX0_smallest_10 : decode cX0_smallest 10 = .ok (.goto 11, 3) := dk_167 0 11 (dk_at dksX0_smallest_0 10 rfl rfl)
theorem dX0_smallest_13 : decode cX0_smallest 13 = .ok (.astore 4, 2) := dk_58 4 (dk_at dksX0_smallest_0 13 rfl rfl)
theorem dX0_smallest_15 : decode cX0_smallest 15 = .ok (.iconst 1, 1) := dk_4 (dk_at dksX0_smallest_0 15 rfl rfl)
theorem dX0_smallest_16 : decode cX0_smallest 16 = .ok (.ireturn, 1) := dk_172 (dk_at dksX0_smallest_0 16 rfl rfl)
theorem dX0_smallest_17 : decode cX0_smallest 17 = .ok (.astore 4, 2) := dk_58 4 (dk_at dksX0_smallest_0 17 rfl rfl)
theorem dX0_smallest_19 : decode cX0_smallest 19 = .ok (.iconst 2, 1) := dk_5 (dk_at dksX0_smallest_0 19 rfl rfl)
theorem dX0_smallest_20 : decode cX0_smallest 20 = .ok (.ireturn, 1) := dk_172 (dk_at dksX0_smallest_0 20 rfl rfl)
theorem dX0_smallest_21 : decode cX0_smallest 21 = .ok (.iconst 0, 1) := dk_3 (dk_at dksX0_smallest_0 21 rfl rfl)
theorem dX0_smallest_22 : decode cX0_smallest 22 = .ok (.ireturn, 1) := dk_172 (dk_at dksX0_smallest_0 22 rfl rfl)
abbrev cX0_count : ByteArray := method_24_code
def yX0_count : MethodName := ⟨RX0, "count", "(LShrinkYard;LVerdict;ILShrinkYardLaw$Out;)I"⟩
def dkwX0_count_0 : List UInt8 := [45, 42, 43, 28, 182, 0, 195, 133, 181, 0, 104, 167, 0, 7, 58, 4, 4, 172, 3, 172]
abbrev dktX0_count_0 : List UInt8 := dkwX0_count_0 ++ []
theorem dksX0_count_0 : cX0_count.data.toList.drop 0 = dktX0_count_0 := by decide +kernel
theorem dX0_count_0 : decode cX0_count 0 = .ok (.aload_n 3, 1) := dk_45 (dk_at dksX0_count_0 0 rfl rfl)
theorem dX0_count_1 : decode cX0_count 1 = .ok (.aload_n 0, 1) := dk_42 (dk_at dksX0_count_0 1 rfl rfl)
theorem dX0_count_2 : decode cX0_count 2 = .ok (.aload_n 1, 1) := dk_43 (dk_at dksX0_count_0 2 rfl rfl)
theorem dX0_count_3 : decode cX0_count 3 = .ok (.iload_n 2, 1) := dk_28 (dk_at dksX0_count_0 3 rfl rfl)
theorem dX0_count_4 : decode cX0_count 4 = .ok (.invokevirtual 195, 3) := dk_182 0 195 (dk_at dksX0_count_0 4 rfl rfl)
theorem dX0_count_7 : decode cX0_count 7 = .ok (.i2l, 1) := dk_133 (dk_at dksX0_count_0 7 rfl rfl)
theorem dX0_count_8 : decode cX0_count 8 = .ok (.putfield 104, 3) := dk_181 0 104 (dk_at dksX0_count_0 8 rfl rfl)
theorem dX0_count_11 : decode cX0_count 11 = .ok (.goto 7, 3) := dk_167 0 7 (dk_at dksX0_count_0 11 rfl rfl)
theorem dX0_count_14 : decode cX0_count 14 = .ok (.astore 4, 2) := dk_58 4 (dk_at dksX0_count_0 14 rfl rfl)
theorem dX0_count_16 : decode cX0_count 16 = .ok (.iconst 1, 1) := dk_4 (dk_at dksX0_count_0 16 rfl rfl)
theorem dX0_count_17 : decode cX0_count 17 = .ok (.ireturn, 1) := dk_172 (dk_at dksX0_count_0 17 rfl rfl)
theorem dX0_count_18 : decode cX0_count 18 = .ok (.iconst 0, 1) := dk_3 (dk_at dksX0_count_0 18 rfl rfl)
theorem dX0_count_19 : decode cX0_count 19 = .ok (.ireturn, 1) := dk_172 (dk_at dksX0_count_0 19 rfl rfl)
abbrev cX0_reachable : ByteArray := method_25_code
def yX0_reachable : MethodName := ⟨RX0, "reachable", "(LShrinkYard;ILShrinkYardLaw$Out;)I"⟩
def dkwX0_reachable_0 : List UInt8 := [44, 42, 27, 182, 0, 199, 133, 181, 0, 104, 167, 0, 6, 78, 4, 172, 3, 172]
abbrev dktX0_reachable_0 : List UInt8 := dkwX0_reachable_0 ++ []
theorem dksX0_reachable_0 : cX0_reachable.data.toList.drop 0 = dktX0_reachable_0 := by decide +kernel
theorem dX0_reachable_0 : decode cX0_reachable 0 = .ok (.aload_n 2, 1) := dk_44 (dk_at dksX0_reachable_0 0 rfl rfl)
theorem dX0_reachable_1 : decode cX0_reachable 1 = .ok (.aload_n 0, 1) := dk_42 (dk_at dksX0_reachable_0 1 rfl rfl)
theorem dX0_reachable_2 : decode cX0_reachable 2 = .ok (.iload_n 1, 1) := dk_27 (dk_at dksX0_reachable_0 2 rfl rfl)
theorem dX0_reachable_3 : decode cX0_reachable 3 = .ok (.invokevirtual 199, 3) := dk_182 0 199 (dk_at dksX0_reachable_0 3 rfl rfl)
theorem dX0_reachable_6 : decode cX0_reachable 6 = .ok (.i2l, 1) := dk_133 (dk_at dksX0_reachable_0 6 rfl rfl)
theorem dX0_reachable_7 : decode cX0_reachable 7 = .ok (.putfield 104, 3) := dk_181 0 104 (dk_at dksX0_reachable_0 7 rfl rfl)
theorem dX0_reachable_10 : decode cX0_reachable 10 = .ok (.goto 6, 3) := dk_167 0 6 (dk_at dksX0_reachable_0 10 rfl rfl)
theorem dX0_reachable_13 : decode cX0_reachable 13 = .ok (.astore_n 3, 1) := dk_78 (dk_at dksX0_reachable_0 13 rfl rfl)
theorem dX0_reachable_14 : decode cX0_reachable 14 = .ok (.iconst 1, 1) := dk_4 (dk_at dksX0_reachable_0 14 rfl rfl)
theorem dX0_reachable_15 : decode cX0_reachable 15 = .ok (.ireturn, 1) := dk_172 (dk_at dksX0_reachable_0 15 rfl rfl)
theorem dX0_reachable_16 : decode cX0_reachable 16 = .ok (.iconst 0, 1) := dk_3 (dk_at dksX0_reachable_0 16 rfl rfl)
theorem dX0_reachable_17 : decode cX0_reachable 17 = .ok (.ireturn, 1) := dk_172 (dk_at dksX0_reachable_0 17 rfl rfl)
abbrev cX0_keptShare : ByteArray := method_26_code
def yX0_keptShare : MethodName := ⟨RX0, "keptShare", "(LShrinkYard;LShrinkYardLaw$Out;)I"⟩
def dkwX0_keptShare_0 : List UInt8 := [43, 42, 182, 0, 202, 141, 181, 0, 206, 167, 0, 6, 77, 4, 172, 3, 172]
abbrev dktX0_keptShare_0 : List UInt8 := dkwX0_keptShare_0 ++ []
theorem dksX0_keptShare_0 : cX0_keptShare.data.toList.drop 0 = dktX0_keptShare_0 := by decide +kernel
theorem dX0_keptShare_0 : decode cX0_keptShare 0 = .ok (.aload_n 1, 1) := dk_43 (dk_at dksX0_keptShare_0 0 rfl rfl)
theorem dX0_keptShare_1 : decode cX0_keptShare 1 = .ok (.aload_n 0, 1) := dk_42 (dk_at dksX0_keptShare_0 1 rfl rfl)
theorem dX0_keptShare_2 : decode cX0_keptShare 2 = .ok (.invokevirtual 202, 3) := dk_182 0 202 (dk_at dksX0_keptShare_0 2 rfl rfl)
theorem dX0_keptShare_5 : decode cX0_keptShare 5 = .ok (.f2d, 1) := dk_141 (dk_at dksX0_keptShare_0 5 rfl rfl)
theorem dX0_keptShare_6 : decode cX0_keptShare 6 = .ok (.putfield 206, 3) := dk_181 0 206 (dk_at dksX0_keptShare_0 6 rfl rfl)
theorem dX0_keptShare_9 : decode cX0_keptShare 9 = .ok (.goto 6, 3) := dk_167 0 6 (dk_at dksX0_keptShare_0 9 rfl rfl)
theorem dX0_keptShare_12 : decode cX0_keptShare 12 = .ok (.astore_n 2, 1) := dk_77 (dk_at dksX0_keptShare_0 12 rfl rfl)
theorem dX0_keptShare_13 : decode cX0_keptShare 13 = .ok (.iconst 1, 1) := dk_4 (dk_at dksX0_keptShare_0 13 rfl rfl)
theorem dX0_keptShare_14 : decode cX0_keptShare 14 = .ok (.ireturn, 1) := dk_172 (dk_at dksX0_keptShare_0 14 rfl rfl)
theorem dX0_keptShare_15 : decode cX0_keptShare 15 = .ok (.iconst 0, 1) := dk_3 (dk_at dksX0_keptShare_0 15 rfl rfl)
theorem dX0_keptShare_16 : decode cX0_keptShare 16 = .ok (.ireturn, 1) := dk_172 (dk_at dksX0_keptShare_0 16 rfl rfl)
abbrev cX0_meanShrunk : ByteArray := method_27_code
def yX0_meanShrunk : MethodName := ⟨RX0, "meanShrunk", "(LShrinkYard;LShrinkYardLaw$Out;)I"⟩
def dkwX0_meanShrunk_0 : List UInt8 := [43, 42, 182, 0, 212, 181, 0, 206, 167, 0, 6, 77, 4, 172, 3, 172]
abbrev dktX0_meanShrunk_0 : List UInt8 := dkwX0_meanShrunk_0 ++ []
theorem dksX0_meanShrunk_0 : cX0_meanShrunk.data.toList.drop 0 = dktX0_meanShrunk_0 := by decide +kernel
theorem dX0_meanShrunk_0 : decode cX0_meanShrunk 0 = .ok (.aload_n 1, 1) := dk_43 (dk_at dksX0_meanShrunk_0 0 rfl rfl)
theorem dX0_meanShrunk_1 : decode cX0_meanShrunk 1 = .ok (.aload_n 0, 1) := dk_42 (dk_at dksX0_meanShrunk_0 1 rfl rfl)
theorem dX0_meanShrunk_2 : decode cX0_meanShrunk 2 = .ok (.invokevirtual 212, 3) := dk_182 0 212 (dk_at dksX0_meanShrunk_0 2 rfl rfl)
theorem dX0_meanShrunk_5 : decode cX0_meanShrunk 5 = .ok (.putfield 206, 3) := dk_181 0 206 (dk_at dksX0_meanShrunk_0 5 rfl rfl)
theorem dX0_meanShrunk_8 : decode cX0_meanShrunk 8 = .ok (.goto 6, 3) := dk_167 0 6 (dk_at dksX0_meanShrunk_0 8 rfl rfl)
theorem dX0_meanShrunk_11 : decode cX0_meanShrunk 11 = .ok (.astore_n 2, 1) := dk_77 (dk_at dksX0_meanShrunk_0 11 rfl rfl)
theorem dX0_meanShrunk_12 : decode cX0_meanShrunk 12 = .ok (.iconst 1, 1) := dk_4 (dk_at dksX0_meanShrunk_0 12 rfl rfl)
theorem dX0_meanShrunk_13 : decode cX0_meanShrunk 13 = .ok (.ireturn, 1) := dk_172 (dk_at dksX0_meanShrunk_0 13 rfl rfl)
theorem dX0_meanShrunk_14 : decode cX0_meanShrunk 14 = .ok (.iconst 0, 1) := dk_3 (dk_at dksX0_meanShrunk_0 14 rfl rfl)
theorem dX0_meanShrunk_15 : decode cX0_meanShrunk 15 = .ok (.ireturn, 1) := dk_172 (dk_at dksX0_meanShrunk_0 15 rfl rfl)
theorem q33 : (Jvm.Cond.initialized "ShrinkYardLaw") ∈ lw_all := lw_g (lw_at lw_m1 0 rfl) rfl
theorem q86 : (Jvm.Cond.methodLink "ShrinkYardLaw" (314 : Nat) ({ cls := "Finding", name := "input", desc := "()Ljava/lang/String;" } : Jvm.MethodName)) ∈ lw_all := lw_g (lw_at lw_m1 53 rfl) rfl
theorem q90 : (Jvm.Cond.methodLink "ShrinkYardLaw" (320 : Nat) ({ cls := "Finding", name := "shrunk", desc := "()Ljava/lang/String;" } : Jvm.MethodName)) ∈ lw_all := lw_g (lw_at lw_m1 57 rfl) rfl
theorem q94 : (Jvm.Cond.methodLink "ShrinkYardLaw" (322 : Nat) ({ cls := "Finding", name := "code", desc := "()I" } : Jvm.MethodName)) ∈ lw_all := lw_g (lw_at lw_m1 61 rfl) rfl
theorem q98 : (Jvm.Cond.classLink "ShrinkYardLaw" (221 : Nat) "Instruction") ∈ lw_all := lw_g (lw_at lw_m1 65 rfl) rfl
theorem q100 : (Jvm.Cond.methodLink "ShrinkYardLaw" (229 : Nat) ({ cls := "Instruction", name := "<init>", desc := "(LOp;III)V" } : Jvm.MethodName)) ∈ lw_all := lw_g (lw_at lw_m1 67 rfl) rfl
theorem q119 : (Jvm.Cond.classLink "ShrinkYardLaw" (99 : Nat) "ShrinkYard") ∈ lw_all := lw_g (lw_at lw_m1 86 rfl) rfl
theorem q121 : (Jvm.Cond.methodLink "ShrinkYardLaw" (216 : Nat) ({ cls := "ShrinkYard", name := "<init>", desc := "()V" } : Jvm.MethodName)) ∈ lw_all := lw_g (lw_at lw_m1 88 rfl) rfl
theorem q388 : (Jvm.Cond.methodLink "ShrinkYardLaw" (275 : Nat) ({ cls := "ShrinkYard", name := "reset", desc := "()I" } : Jvm.MethodName)) ∈ lw_all := lw_g (lw_at lw_m2 115 rfl) rfl
theorem q411 : (Jvm.Cond.methodLink "ShrinkYardLaw" (279 : Nat) ({ cls := "ShrinkYard", name := "runs", desc := "()I" } : Jvm.MethodName)) ∈ lw_all := lw_g (lw_at lw_m2 138 rfl) rfl
theorem q415 : (Jvm.Cond.methodLink "ShrinkYardLaw" (283 : Nat) ({ cls := "ShrinkYard", name := "totalSteps", desc := "()J" } : Jvm.MethodName)) ∈ lw_all := lw_g (lw_at lw_m2 142 rfl) rfl
theorem q419 : (Jvm.Cond.methodLink "ShrinkYardLaw" (288 : Nat) ({ cls := "ShrinkYard", name := "covered", desc := "()I" } : Jvm.MethodName)) ∈ lw_all := lw_g (lw_at lw_m2 146 rfl) rfl
theorem q433 : (Jvm.Cond.methodLink "ShrinkYardLaw" (296 : Nat) ({ cls := "ShrinkYard", name := "kept", desc := "()I" } : Jvm.MethodName)) ∈ lw_all := lw_g (lw_at lw_m2 160 rfl) rfl
theorem q451 : (Jvm.Cond.methodLink "ShrinkYardLaw" (303 : Nat) ({ cls := "ShrinkYard", name := "queued", desc := "()I" } : Jvm.MethodName)) ∈ lw_all := lw_g (lw_at lw_m2 178 rfl) rfl
theorem q456 : (Jvm.Cond.methodLink "ShrinkYardLaw" (307 : Nat) ({ cls := "ShrinkYard", name := "findings", desc := "()I" } : Jvm.MethodName)) ∈ lw_all := lw_g (lw_at lw_m2 183 rfl) rfl
theorem q460 : (Jvm.Cond.classLink "ShrinkYardLaw" (105 : Nat) "ShrinkYardLaw$Out") ∈ lw_all := lw_g (lw_at lw_m2 187 rfl) rfl
theorem q462 : (Jvm.Cond.methodLinkNest "ShrinkYardLaw" (220 : Nat) ({ cls := "ShrinkYardLaw$Out", name := "<init>", desc := "()V" } : Jvm.MethodName) "ShrinkYardLaw") ∈ lw_tbl := lw_at lw_m2 189 rfl
theorem q466 : (Jvm.Cond.fieldLinkNest "ShrinkYardLaw" (104 : Nat) "ShrinkYardLaw$Out" "n" "J" "ShrinkYardLaw") ∈ lw_tbl := lw_at lw_m2 193 rfl
theorem q467 : (Jvm.Cond.fieldLinkNest "ShrinkYardLaw" (206 : Nat) "ShrinkYardLaw$Out" "d" "D" "ShrinkYardLaw") ∈ lw_tbl := lw_at lw_m2 194 rfl
theorem q468 : (Jvm.Cond.fieldLinkNest "ShrinkYardLaw" (126 : Nat) "ShrinkYardLaw$Out" "s" "Ljava/lang/String;" "ShrinkYardLaw") ∈ lw_tbl := lw_at lw_m2 195 rfl
theorem q469 : (Jvm.Cond.fieldLinkNest "ShrinkYardLaw" (167 : Nat) "ShrinkYardLaw$Out" "theVerdict" "LVerdict;" "ShrinkYardLaw") ∈ lw_tbl := lw_at lw_m2 196 rfl
theorem q470 : (Jvm.Cond.fieldLinkNest "ShrinkYardLaw" (159 : Nat) "ShrinkYardLaw$Out" "theFinding" "LFinding;" "ShrinkYardLaw") ∈ lw_tbl := lw_at lw_m2 197 rfl
theorem q482 : (Jvm.Cond.methodLink "ShrinkYardLaw" (248 : Nat) ({ cls := "ShrinkYardLaw", name := "text", desc := "(I)Ljava/lang/String;" } : Jvm.MethodName)) ∈ lw_all := lw_g (lw_at lw_m2 209 rfl) rfl
theorem q483 : (Jvm.Cond.static ({ cls := "ShrinkYardLaw", name := "text", desc := "(I)Ljava/lang/String;" } : Jvm.MethodName)) ∈ lw_all := lw_g (lw_at lw_m2 210 rfl) rfl
theorem q484 : (Jvm.Cond.code ({ cls := "ShrinkYardLaw", name := "text", desc := "(I)Ljava/lang/String;" } : Jvm.MethodName) method_2_code (1 : Nat) (Option.some (Jvm.ClassFile.FieldType.object "java/lang/String"))) ∈ lw_all := lw_g (lw_at lw_m2 211 rfl) rfl
theorem q485 : (Jvm.Cond.methodLink "ShrinkYardLaw" (7 : Nat) ({ cls := "java/lang/Math", name := "floorMod", desc := "(II)I" } : Jvm.MethodName)) ∈ lw_all := lw_g (lw_at lw_m2 212 rfl) rfl
theorem q488 : (Jvm.Cond.stringRef "ShrinkYardLaw" (13 : Nat) "") ∈ lw_tbl := lw_at lw_m2 215 rfl
theorem q489 : (Jvm.Cond.stringRef "ShrinkYardLaw" (15 : Nat) "0") ∈ lw_tbl := lw_at lw_m2 216 rfl
theorem q490 : (Jvm.Cond.stringRef "ShrinkYardLaw" (17 : Nat) "7") ∈ lw_tbl := lw_at lw_m2 217 rfl
theorem q491 : (Jvm.Cond.stringRef "ShrinkYardLaw" (19 : Nat) "12") ∈ lw_tbl := lw_at lw_m2 218 rfl
theorem q492 : (Jvm.Cond.stringRef "ShrinkYardLaw" (21 : Nat) "125") ∈ lw_tbl := lw_at lw_m2 219 rfl
theorem q493 : (Jvm.Cond.stringRef "ShrinkYardLaw" (23 : Nat) "3310") ∈ lw_tbl := lw_at lw_m2 220 rfl
theorem q494 : (Jvm.Cond.stringRef "ShrinkYardLaw" (25 : Nat) "70707070") ∈ lw_tbl := lw_at lw_m2 221 rfl
theorem q495 : (Jvm.Cond.stringRef "ShrinkYardLaw" (27 : Nat) "01234567") ∈ lw_tbl := lw_at lw_m2 222 rfl
theorem q496 : (Jvm.Cond.stringRef "ShrinkYardLaw" (29 : Nat) "1B") ∈ lw_tbl := lw_at lw_m2 223 rfl
theorem q497 : (Jvm.Cond.stringRef "ShrinkYardLaw" (31 : Nat) "A2") ∈ lw_tbl := lw_at lw_m2 224 rfl
theorem q498 : (Jvm.Cond.stringRef "ShrinkYardLaw" (33 : Nat) "BC") ∈ lw_tbl := lw_at lw_m2 225 rfl
theorem q499 : (Jvm.Cond.stringRef "ShrinkYardLaw" (35 : Nat) "4") ∈ lw_tbl := lw_at lw_m2 226 rfl
theorem q500 : (Jvm.Cond.stringRef "ShrinkYardLaw" (37 : Nat) "8") ∈ lw_tbl := lw_at lw_m2 227 rfl
theorem q501 : (Jvm.Cond.stringRef "ShrinkYardLaw" (39 : Nat) "55") ∈ lw_tbl := lw_at lw_m2 228 rfl
theorem q503 : (Jvm.Cond.methodLink "ShrinkYardLaw" (223 : Nat) ({ cls := "ShrinkYardLaw", name := "toOp", desc := "(I)LOp;" } : Jvm.MethodName)) ∈ lw_all := lw_g (lw_at lw_m2 230 rfl) rfl
theorem q504 : (Jvm.Cond.static ({ cls := "ShrinkYardLaw", name := "toOp", desc := "(I)LOp;" } : Jvm.MethodName)) ∈ lw_all := lw_g (lw_at lw_m2 231 rfl) rfl
theorem q505 : (Jvm.Cond.code ({ cls := "ShrinkYardLaw", name := "toOp", desc := "(I)LOp;" } : Jvm.MethodName) method_3_code (1 : Nat) (Option.some (Jvm.ClassFile.FieldType.object "Op"))) ∈ lw_all := lw_g (lw_at lw_m2 232 rfl) rfl
theorem q506 : (Jvm.Cond.fieldLink "ShrinkYardLaw" (41 : Nat) "Op" "READ" "LOp;") ∈ lw_all := lw_g (lw_at lw_m2 233 rfl) rfl
theorem q508 : (Jvm.Cond.fieldLink "ShrinkYardLaw" (47 : Nat) "Op" "SET" "LOp;") ∈ lw_all := lw_g (lw_at lw_m2 235 rfl) rfl
theorem q510 : (Jvm.Cond.fieldLink "ShrinkYardLaw" (50 : Nat) "Op" "ADD" "LOp;") ∈ lw_all := lw_g (lw_at lw_m2 237 rfl) rfl
theorem q512 : (Jvm.Cond.fieldLink "ShrinkYardLaw" (53 : Nat) "Op" "PLUS" "LOp;") ∈ lw_all := lw_g (lw_at lw_m2 239 rfl) rfl
theorem q514 : (Jvm.Cond.fieldLink "ShrinkYardLaw" (56 : Nat) "Op" "LESS" "LOp;") ∈ lw_all := lw_g (lw_at lw_m3 1 rfl) rfl
theorem q516 : (Jvm.Cond.fieldLink "ShrinkYardLaw" (59 : Nat) "Op" "SAME" "LOp;") ∈ lw_all := lw_g (lw_at lw_m3 3 rfl) rfl
theorem q518 : (Jvm.Cond.fieldLink "ShrinkYardLaw" (62 : Nat) "Op" "JUMP" "LOp;") ∈ lw_all := lw_g (lw_at lw_m3 5 rfl) rfl
theorem q520 : (Jvm.Cond.fieldLink "ShrinkYardLaw" (65 : Nat) "Op" "FAIL" "LOp;") ∈ lw_all := lw_g (lw_at lw_m3 7 rfl) rfl
theorem q522 : (Jvm.Cond.fieldLink "ShrinkYardLaw" (68 : Nat) "Op" "STOP" "LOp;") ∈ lw_all := lw_g (lw_at lw_m3 9 rfl) rfl
theorem q524 : (Jvm.Cond.methodLink "ShrinkYardLaw" (349 : Nat) ({ cls := "ShrinkYardLaw", name := "toVerdict", desc := "(I)LVerdict;" } : Jvm.MethodName)) ∈ lw_all := lw_g (lw_at lw_m3 11 rfl) rfl
theorem q525 : (Jvm.Cond.static ({ cls := "ShrinkYardLaw", name := "toVerdict", desc := "(I)LVerdict;" } : Jvm.MethodName)) ∈ lw_all := lw_g (lw_at lw_m3 12 rfl) rfl
theorem q526 : (Jvm.Cond.code ({ cls := "ShrinkYardLaw", name := "toVerdict", desc := "(I)LVerdict;" } : Jvm.MethodName) method_4_code (1 : Nat) (Option.some (Jvm.ClassFile.FieldType.object "Verdict"))) ∈ lw_all := lw_g (lw_at lw_m3 13 rfl) rfl
theorem q527 : (Jvm.Cond.fieldLink "ShrinkYardLaw" (71 : Nat) "Verdict" "PASSED" "LVerdict;") ∈ lw_all := lw_g (lw_at lw_m3 14 rfl) rfl
theorem q529 : (Jvm.Cond.fieldLink "ShrinkYardLaw" (77 : Nat) "Verdict" "FAILED" "LVerdict;") ∈ lw_all := lw_g (lw_at lw_m3 16 rfl) rfl
theorem q531 : (Jvm.Cond.fieldLink "ShrinkYardLaw" (80 : Nat) "Verdict" "HUNG" "LVerdict;") ∈ lw_all := lw_g (lw_at lw_m3 18 rfl) rfl
theorem q533 : (Jvm.Cond.methodLink "ShrinkYardLaw" (240 : Nat) ({ cls := "ShrinkYardLaw", name := "toChange", desc := "(I)LChange;" } : Jvm.MethodName)) ∈ lw_all := lw_g (lw_at lw_m3 20 rfl) rfl
theorem q534 : (Jvm.Cond.static ({ cls := "ShrinkYardLaw", name := "toChange", desc := "(I)LChange;" } : Jvm.MethodName)) ∈ lw_all := lw_g (lw_at lw_m3 21 rfl) rfl
theorem q535 : (Jvm.Cond.code ({ cls := "ShrinkYardLaw", name := "toChange", desc := "(I)LChange;" } : Jvm.MethodName) method_5_code (1 : Nat) (Option.some (Jvm.ClassFile.FieldType.object "Change"))) ∈ lw_all := lw_g (lw_at lw_m3 22 rfl) rfl
theorem q536 : (Jvm.Cond.fieldLink "ShrinkYardLaw" (83 : Nat) "Change" "REPLACE" "LChange;") ∈ lw_all := lw_g (lw_at lw_m3 23 rfl) rfl
theorem q538 : (Jvm.Cond.fieldLink "ShrinkYardLaw" (89 : Nat) "Change" "INSERT" "LChange;") ∈ lw_all := lw_g (lw_at lw_m3 25 rfl) rfl
theorem q540 : (Jvm.Cond.fieldLink "ShrinkYardLaw" (92 : Nat) "Change" "DELETE" "LChange;") ∈ lw_all := lw_g (lw_at lw_m3 27 rfl) rfl
theorem q542 : (Jvm.Cond.fieldLink "ShrinkYardLaw" (95 : Nat) "Change" "SWAP" "LChange;") ∈ lw_all := lw_g (lw_at lw_m3 29 rfl) rfl
theorem q544 : (Jvm.Cond.methodLink "ShrinkYardLaw" (232 : Nat) ({ cls := "ShrinkYardLaw", name := "add", desc := "(LShrinkYard;LInstruction;LShrinkYardLaw$Out;)I" } : Jvm.MethodName)) ∈ lw_all := lw_g (lw_at lw_m3 31 rfl) rfl
theorem q545 : (Jvm.Cond.static ({ cls := "ShrinkYardLaw", name := "add", desc := "(LShrinkYard;LInstruction;LShrinkYardLaw$Out;)I" } : Jvm.MethodName)) ∈ lw_all := lw_g (lw_at lw_m3 32 rfl) rfl
theorem q546 : (Jvm.Cond.codeWith ({ cls := "ShrinkYardLaw", name := "add", desc := "(LShrinkYard;LInstruction;LShrinkYardLaw$Out;)I" } : Jvm.MethodName) method_6_code (4 : Nat) (Option.some Jvm.ClassFile.FieldType.int) [((0 : Nat), (10 : Nat), (13 : Nat), (110 : Nat)), ((0 : Nat), (10 : Nat), (16 : Nat), (112 : Nat))]) ∈ lw_all := lw_g (lw_at lw_m3 33 rfl) rfl
theorem q547 : (Jvm.Cond.classLink "ShrinkYardLaw" (110 : Nat) "java/lang/IllegalArgumentException") ∈ lw_all := lw_g (lw_at lw_m3 34 rfl) rfl
theorem q548 : (Jvm.Cond.classLink "ShrinkYardLaw" (112 : Nat) "java/lang/IllegalStateException") ∈ lw_all := lw_g (lw_at lw_m3 35 rfl) rfl
theorem q549 : (Jvm.Cond.methodLink "ShrinkYardLaw" (98 : Nat) ({ cls := "ShrinkYard", name := "add", desc := "(LInstruction;)I" } : Jvm.MethodName)) ∈ lw_all := lw_g (lw_at lw_m3 36 rfl) rfl
theorem q662 : (Jvm.Cond.methodLink "ShrinkYardLaw" (244 : Nat) ({ cls := "ShrinkYardLaw", name := "addChange", desc := "(LShrinkYard;LChange;IILShrinkYardLaw$Out;)I" } : Jvm.MethodName)) ∈ lw_all := lw_g (lw_at lw_m3 149 rfl) rfl
theorem q663 : (Jvm.Cond.static ({ cls := "ShrinkYardLaw", name := "addChange", desc := "(LShrinkYard;LChange;IILShrinkYardLaw$Out;)I" } : Jvm.MethodName)) ∈ lw_all := lw_g (lw_at lw_m3 150 rfl) rfl
theorem q664 : (Jvm.Cond.codeWith ({ cls := "ShrinkYardLaw", name := "addChange", desc := "(LShrinkYard;LChange;IILShrinkYardLaw$Out;)I" } : Jvm.MethodName) method_7_code (6 : Nat) (Option.some Jvm.ClassFile.FieldType.int) [((0 : Nat), (13 : Nat), (16 : Nat), (110 : Nat)), ((0 : Nat), (13 : Nat), (20 : Nat), (112 : Nat))]) ∈ lw_all := lw_g (lw_at lw_m3 151 rfl) rfl
theorem q665 : (Jvm.Cond.methodLink "ShrinkYardLaw" (114 : Nat) ({ cls := "ShrinkYard", name := "addChange", desc := "(LChange;II)I" } : Jvm.MethodName)) ∈ lw_all := lw_g (lw_at lw_m3 152 rfl) rfl
theorem q726 : (Jvm.Cond.methodLink "ShrinkYardLaw" (251 : Nat) ({ cls := "ShrinkYardLaw", name := "addAlternative", desc := "(LShrinkYard;CLjava/lang/String;LShrinkYardLaw$Out;)I" } : Jvm.MethodName)) ∈ lw_all := lw_g (lw_at lw_m3 213 rfl) rfl
theorem q727 : (Jvm.Cond.static ({ cls := "ShrinkYardLaw", name := "addAlternative", desc := "(LShrinkYard;CLjava/lang/String;LShrinkYardLaw$Out;)I" } : Jvm.MethodName)) ∈ lw_all := lw_g (lw_at lw_m3 214 rfl) rfl
theorem q728 : (Jvm.Cond.codeWith ({ cls := "ShrinkYardLaw", name := "addAlternative", desc := "(LShrinkYard;CLjava/lang/String;LShrinkYardLaw$Out;)I" } : Jvm.MethodName) method_8_code (5 : Nat) (Option.some Jvm.ClassFile.FieldType.int) [((0 : Nat), (11 : Nat), (14 : Nat), (110 : Nat)), ((0 : Nat), (11 : Nat), (18 : Nat), (112 : Nat))]) ∈ lw_all := lw_g (lw_at lw_m3 215 rfl) rfl
theorem q729 : (Jvm.Cond.methodLink "ShrinkYardLaw" (118 : Nat) ({ cls := "ShrinkYard", name := "addAlternative", desc := "(CLjava/lang/String;)I" } : Jvm.MethodName)) ∈ lw_all := lw_g (lw_at lw_m3 216 rfl) rfl
theorem q1060 : (Jvm.Cond.methodLink "ShrinkYardLaw" (255 : Nat) ({ cls := "ShrinkYardLaw", name := "derive", desc := "(LShrinkYard;ILShrinkYardLaw$Out;)I" } : Jvm.MethodName)) ∈ lw_all := lw_g (lw_at lw_m5 67 rfl) rfl
theorem q1061 : (Jvm.Cond.static ({ cls := "ShrinkYardLaw", name := "derive", desc := "(LShrinkYard;ILShrinkYardLaw$Out;)I" } : Jvm.MethodName)) ∈ lw_all := lw_g (lw_at lw_m5 68 rfl) rfl
theorem q1062 : (Jvm.Cond.codeWith ({ cls := "ShrinkYardLaw", name := "derive", desc := "(LShrinkYard;ILShrinkYardLaw$Out;)I" } : Jvm.MethodName) method_9_code (4 : Nat) (Option.some Jvm.ClassFile.FieldType.int) [((0 : Nat), (9 : Nat), (12 : Nat), (110 : Nat)), ((0 : Nat), (9 : Nat), (15 : Nat), (130 : Nat)), ((0 : Nat), (9 : Nat), (18 : Nat), (132 : Nat))]) ∈ lw_all := lw_g (lw_at lw_m5 69 rfl) rfl
theorem q1063 : (Jvm.Cond.classLink "ShrinkYardLaw" (130 : Nat) "java/util/NoSuchElementException") ∈ lw_all := lw_g (lw_at lw_m5 70 rfl) rfl
theorem q1064 : (Jvm.Cond.classLink "ShrinkYardLaw" (132 : Nat) "java/lang/UnsupportedOperationException") ∈ lw_all := lw_g (lw_at lw_m5 71 rfl) rfl
theorem q1065 : (Jvm.Cond.methodLink "ShrinkYardLaw" (122 : Nat) ({ cls := "ShrinkYard", name := "derive", desc := "(I)Ljava/lang/String;" } : Jvm.MethodName)) ∈ lw_all := lw_g (lw_at lw_m5 72 rfl) rfl
theorem q1146 : (Jvm.Cond.methodLink "ShrinkYardLaw" (265 : Nat) ({ cls := "ShrinkYardLaw", name := "take", desc := "(LShrinkYard;Ljava/lang/String;LShrinkYardLaw$Out;)I" } : Jvm.MethodName)) ∈ lw_all := lw_g (lw_at lw_m5 153 rfl) rfl
theorem q1147 : (Jvm.Cond.static ({ cls := "ShrinkYardLaw", name := "take", desc := "(LShrinkYard;Ljava/lang/String;LShrinkYardLaw$Out;)I" } : Jvm.MethodName)) ∈ lw_all := lw_g (lw_at lw_m5 154 rfl) rfl
theorem q1148 : (Jvm.Cond.codeWith ({ cls := "ShrinkYardLaw", name := "take", desc := "(LShrinkYard;Ljava/lang/String;LShrinkYardLaw$Out;)I" } : Jvm.MethodName) method_10_code (4 : Nat) (Option.some Jvm.ClassFile.FieldType.int) [((0 : Nat), (17 : Nat), (20 : Nat), (110 : Nat))]) ∈ lw_all := lw_g (lw_at lw_m5 155 rfl) rfl
theorem q1149 : (Jvm.Cond.methodLink "ShrinkYardLaw" (134 : Nat) ({ cls := "ShrinkYard", name := "take", desc := "(Ljava/lang/String;)Z" } : Jvm.MethodName)) ∈ lw_all := lw_g (lw_at lw_m5 156 rfl) rfl
theorem q1563 : (Jvm.Cond.methodLink "ShrinkYardLaw" (269 : Nat) ({ cls := "ShrinkYardLaw", name := "takeDerived", desc := "(LShrinkYard;ILShrinkYardLaw$Out;)I" } : Jvm.MethodName)) ∈ lw_all := lw_g (lw_at lw_m7 90 rfl) rfl
theorem q1564 : (Jvm.Cond.static ({ cls := "ShrinkYardLaw", name := "takeDerived", desc := "(LShrinkYard;ILShrinkYardLaw$Out;)I" } : Jvm.MethodName)) ∈ lw_all := lw_g (lw_at lw_m7 91 rfl) rfl
theorem q1565 : (Jvm.Cond.codeWith ({ cls := "ShrinkYardLaw", name := "takeDerived", desc := "(LShrinkYard;ILShrinkYardLaw$Out;)I" } : Jvm.MethodName) method_11_code (4 : Nat) (Option.some Jvm.ClassFile.FieldType.int) [((0 : Nat), (17 : Nat), (20 : Nat), (110 : Nat)), ((0 : Nat), (17 : Nat), (23 : Nat), (130 : Nat)), ((0 : Nat), (17 : Nat), (26 : Nat), (132 : Nat))]) ∈ lw_all := lw_g (lw_at lw_m7 92 rfl) rfl
theorem q1566 : (Jvm.Cond.methodLink "ShrinkYardLaw" (138 : Nat) ({ cls := "ShrinkYard", name := "takeDerived", desc := "(I)Z" } : Jvm.MethodName)) ∈ lw_all := lw_g (lw_at lw_m7 93 rfl) rfl
theorem q1571 : (Jvm.Cond.methodLink "ShrinkYardLaw" (272 : Nat) ({ cls := "ShrinkYardLaw", name := "goOn", desc := "(LShrinkYard;ILShrinkYardLaw$Out;)I" } : Jvm.MethodName)) ∈ lw_all := lw_g (lw_at lw_m7 98 rfl) rfl
theorem q1572 : (Jvm.Cond.static ({ cls := "ShrinkYardLaw", name := "goOn", desc := "(LShrinkYard;ILShrinkYardLaw$Out;)I" } : Jvm.MethodName)) ∈ lw_all := lw_g (lw_at lw_m7 99 rfl) rfl
theorem q1573 : (Jvm.Cond.codeWith ({ cls := "ShrinkYardLaw", name := "goOn", desc := "(LShrinkYard;ILShrinkYardLaw$Out;)I" } : Jvm.MethodName) method_12_code (4 : Nat) (Option.some Jvm.ClassFile.FieldType.int) [((0 : Nat), (10 : Nat), (13 : Nat), (110 : Nat))]) ∈ lw_all := lw_g (lw_at lw_m7 100 rfl) rfl
theorem q1574 : (Jvm.Cond.methodLink "ShrinkYardLaw" (142 : Nat) ({ cls := "ShrinkYard", name := "goOn", desc := "(I)I" } : Jvm.MethodName)) ∈ lw_all := lw_g (lw_at lw_m7 101 rfl) rfl
theorem q1705 : (Jvm.Cond.methodLink "ShrinkYardLaw" (292 : Nat) ({ cls := "ShrinkYardLaw", name := "isCovered", desc := "(LShrinkYard;IILShrinkYardLaw$Out;)I" } : Jvm.MethodName)) ∈ lw_all := lw_g (lw_at lw_m7 232 rfl) rfl
theorem q1706 : (Jvm.Cond.static ({ cls := "ShrinkYardLaw", name := "isCovered", desc := "(LShrinkYard;IILShrinkYardLaw$Out;)I" } : Jvm.MethodName)) ∈ lw_all := lw_g (lw_at lw_m7 233 rfl) rfl
theorem q1707 : (Jvm.Cond.codeWith ({ cls := "ShrinkYardLaw", name := "isCovered", desc := "(LShrinkYard;IILShrinkYardLaw$Out;)I" } : Jvm.MethodName) method_13_code (5 : Nat) (Option.some Jvm.ClassFile.FieldType.int) [((0 : Nat), (18 : Nat), (21 : Nat), (150 : Nat))]) ∈ lw_all := lw_g (lw_at lw_m7 234 rfl) rfl
theorem q1708 : (Jvm.Cond.classLink "ShrinkYardLaw" (150 : Nat) "java/lang/IndexOutOfBoundsException") ∈ lw_all := lw_g (lw_at lw_m7 235 rfl) rfl
theorem q1724 : (Jvm.Cond.methodLink "ShrinkYardLaw" (146 : Nat) ({ cls := "ShrinkYard", name := "isCovered", desc := "(II)Z" } : Jvm.MethodName)) ∈ lw_all := lw_g (lw_at lw_m8 11 rfl) rfl
theorem q1740 : (Jvm.Cond.methodLink "ShrinkYardLaw" (300 : Nat) ({ cls := "ShrinkYardLaw", name := "keptAt", desc := "(LShrinkYard;ILShrinkYardLaw$Out;)I" } : Jvm.MethodName)) ∈ lw_all := lw_g (lw_at lw_m8 27 rfl) rfl
theorem q1741 : (Jvm.Cond.static ({ cls := "ShrinkYardLaw", name := "keptAt", desc := "(LShrinkYard;ILShrinkYardLaw$Out;)I" } : Jvm.MethodName)) ∈ lw_all := lw_g (lw_at lw_m8 28 rfl) rfl
theorem q1742 : (Jvm.Cond.codeWith ({ cls := "ShrinkYardLaw", name := "keptAt", desc := "(LShrinkYard;ILShrinkYardLaw$Out;)I" } : Jvm.MethodName) method_14_code (4 : Nat) (Option.some Jvm.ClassFile.FieldType.int) [((0 : Nat), (9 : Nat), (12 : Nat), (150 : Nat))]) ∈ lw_all := lw_g (lw_at lw_m8 29 rfl) rfl
theorem q1743 : (Jvm.Cond.methodLink "ShrinkYardLaw" (152 : Nat) ({ cls := "ShrinkYard", name := "keptAt", desc := "(I)Ljava/lang/String;" } : Jvm.MethodName)) ∈ lw_all := lw_g (lw_at lw_m8 30 rfl) rfl
theorem q1747 : (Jvm.Cond.methodLink "ShrinkYardLaw" (311 : Nat) ({ cls := "ShrinkYardLaw", name := "findingAt", desc := "(LShrinkYard;ILShrinkYardLaw$Out;)I" } : Jvm.MethodName)) ∈ lw_all := lw_g (lw_at lw_m8 34 rfl) rfl
theorem q1748 : (Jvm.Cond.static ({ cls := "ShrinkYardLaw", name := "findingAt", desc := "(LShrinkYard;ILShrinkYardLaw$Out;)I" } : Jvm.MethodName)) ∈ lw_all := lw_g (lw_at lw_m8 35 rfl) rfl
theorem q1749 : (Jvm.Cond.codeWith ({ cls := "ShrinkYardLaw", name := "findingAt", desc := "(LShrinkYard;ILShrinkYardLaw$Out;)I" } : Jvm.MethodName) method_15_code (4 : Nat) (Option.some Jvm.ClassFile.FieldType.int) [((0 : Nat), (9 : Nat), (12 : Nat), (150 : Nat))]) ∈ lw_all := lw_g (lw_at lw_m8 36 rfl) rfl
theorem q1750 : (Jvm.Cond.methodLink "ShrinkYardLaw" (155 : Nat) ({ cls := "ShrinkYard", name := "findingAt", desc := "(I)LFinding;" } : Jvm.MethodName)) ∈ lw_all := lw_g (lw_at lw_m8 37 rfl) rfl
theorem q1754 : (Jvm.Cond.methodLink "ShrinkYardLaw" (324 : Nat) ({ cls := "ShrinkYardLaw", name := "verdict", desc := "(LShrinkYard;Ljava/lang/String;LShrinkYardLaw$Out;)I" } : Jvm.MethodName)) ∈ lw_all := lw_g (lw_at lw_m8 41 rfl) rfl
theorem q1755 : (Jvm.Cond.static ({ cls := "ShrinkYardLaw", name := "verdict", desc := "(LShrinkYard;Ljava/lang/String;LShrinkYardLaw$Out;)I" } : Jvm.MethodName)) ∈ lw_all := lw_g (lw_at lw_m8 42 rfl) rfl
theorem q1756 : (Jvm.Cond.codeWith ({ cls := "ShrinkYardLaw", name := "verdict", desc := "(LShrinkYard;Ljava/lang/String;LShrinkYardLaw$Out;)I" } : Jvm.MethodName) method_16_code (4 : Nat) (Option.some Jvm.ClassFile.FieldType.int) [((0 : Nat), (9 : Nat), (12 : Nat), (110 : Nat))]) ∈ lw_all := lw_g (lw_at lw_m8 43 rfl) rfl
theorem q1757 : (Jvm.Cond.methodLink "ShrinkYardLaw" (163 : Nat) ({ cls := "ShrinkYard", name := "verdict", desc := "(Ljava/lang/String;)LVerdict;" } : Jvm.MethodName)) ∈ lw_all := lw_g (lw_at lw_m8 44 rfl) rfl
theorem q1761 : (Jvm.Cond.methodLink "ShrinkYardLaw" (327 : Nat) ({ cls := "ShrinkYardLaw", name := "code", desc := "(LShrinkYard;Ljava/lang/String;LShrinkYardLaw$Out;)I" } : Jvm.MethodName)) ∈ lw_all := lw_g (lw_at lw_m8 48 rfl) rfl
theorem q1762 : (Jvm.Cond.static ({ cls := "ShrinkYardLaw", name := "code", desc := "(LShrinkYard;Ljava/lang/String;LShrinkYardLaw$Out;)I" } : Jvm.MethodName)) ∈ lw_all := lw_g (lw_at lw_m8 49 rfl) rfl
theorem q1763 : (Jvm.Cond.codeWith ({ cls := "ShrinkYardLaw", name := "code", desc := "(LShrinkYard;Ljava/lang/String;LShrinkYardLaw$Out;)I" } : Jvm.MethodName) method_17_code (4 : Nat) (Option.some Jvm.ClassFile.FieldType.int) [((0 : Nat), (10 : Nat), (13 : Nat), (110 : Nat)), ((0 : Nat), (10 : Nat), (16 : Nat), (112 : Nat))]) ∈ lw_all := lw_g (lw_at lw_m8 50 rfl) rfl
theorem q1764 : (Jvm.Cond.methodLink "ShrinkYardLaw" (170 : Nat) ({ cls := "ShrinkYard", name := "code", desc := "(Ljava/lang/String;)I" } : Jvm.MethodName)) ∈ lw_all := lw_g (lw_at lw_m8 51 rfl) rfl
theorem q1772 : (Jvm.Cond.methodLink "ShrinkYardLaw" (330 : Nat) ({ cls := "ShrinkYardLaw", name := "steps", desc := "(LShrinkYard;Ljava/lang/String;LShrinkYardLaw$Out;)I" } : Jvm.MethodName)) ∈ lw_all := lw_g (lw_at lw_m8 59 rfl) rfl
theorem q1773 : (Jvm.Cond.static ({ cls := "ShrinkYardLaw", name := "steps", desc := "(LShrinkYard;Ljava/lang/String;LShrinkYardLaw$Out;)I" } : Jvm.MethodName)) ∈ lw_all := lw_g (lw_at lw_m8 60 rfl) rfl
theorem q1774 : (Jvm.Cond.codeWith ({ cls := "ShrinkYardLaw", name := "steps", desc := "(LShrinkYard;Ljava/lang/String;LShrinkYardLaw$Out;)I" } : Jvm.MethodName) method_18_code (4 : Nat) (Option.some Jvm.ClassFile.FieldType.int) [((0 : Nat), (10 : Nat), (13 : Nat), (110 : Nat))]) ∈ lw_all := lw_g (lw_at lw_m8 61 rfl) rfl
theorem q1775 : (Jvm.Cond.methodLink "ShrinkYardLaw" (174 : Nat) ({ cls := "ShrinkYard", name := "steps", desc := "(Ljava/lang/String;)I" } : Jvm.MethodName)) ∈ lw_all := lw_g (lw_at lw_m8 62 rfl) rfl
theorem q1779 : (Jvm.Cond.methodLink "ShrinkYardLaw" (333 : Nat) ({ cls := "ShrinkYardLaw", name := "edges", desc := "(LShrinkYard;Ljava/lang/String;LShrinkYardLaw$Out;)I" } : Jvm.MethodName)) ∈ lw_all := lw_g (lw_at lw_m8 66 rfl) rfl
theorem q1780 : (Jvm.Cond.static ({ cls := "ShrinkYardLaw", name := "edges", desc := "(LShrinkYard;Ljava/lang/String;LShrinkYardLaw$Out;)I" } : Jvm.MethodName)) ∈ lw_all := lw_g (lw_at lw_m8 67 rfl) rfl
theorem q1781 : (Jvm.Cond.codeWith ({ cls := "ShrinkYardLaw", name := "edges", desc := "(LShrinkYard;Ljava/lang/String;LShrinkYardLaw$Out;)I" } : Jvm.MethodName) method_19_code (4 : Nat) (Option.some Jvm.ClassFile.FieldType.int) [((0 : Nat), (10 : Nat), (13 : Nat), (110 : Nat))]) ∈ lw_all := lw_g (lw_at lw_m8 68 rfl) rfl
theorem q1782 : (Jvm.Cond.methodLink "ShrinkYardLaw" (177 : Nat) ({ cls := "ShrinkYard", name := "edges", desc := "(Ljava/lang/String;)I" } : Jvm.MethodName)) ∈ lw_all := lw_g (lw_at lw_m8 69 rfl) rfl
theorem q1786 : (Jvm.Cond.methodLink "ShrinkYardLaw" (336 : Nat) ({ cls := "ShrinkYardLaw", name := "changed", desc := "(LShrinkYard;LChange;IILjava/lang/String;LShrinkYardLaw$Out;)I" } : Jvm.MethodName)) ∈ lw_all := lw_g (lw_at lw_m8 73 rfl) rfl
theorem q1787 : (Jvm.Cond.static ({ cls := "ShrinkYardLaw", name := "changed", desc := "(LShrinkYard;LChange;IILjava/lang/String;LShrinkYardLaw$Out;)I" } : Jvm.MethodName)) ∈ lw_all := lw_g (lw_at lw_m8 74 rfl) rfl
theorem q1788 : (Jvm.Cond.codeWith ({ cls := "ShrinkYardLaw", name := "changed", desc := "(LShrinkYard;LChange;IILjava/lang/String;LShrinkYardLaw$Out;)I" } : Jvm.MethodName) method_20_code (7 : Nat) (Option.some Jvm.ClassFile.FieldType.int) [((0 : Nat), (14 : Nat), (17 : Nat), (110 : Nat)), ((0 : Nat), (14 : Nat), (21 : Nat), (112 : Nat))]) ∈ lw_all := lw_g (lw_at lw_m8 75 rfl) rfl
theorem q1789 : (Jvm.Cond.methodLink "ShrinkYardLaw" (180 : Nat) ({ cls := "ShrinkYard", name := "changed", desc := "(LChange;IILjava/lang/String;)Ljava/lang/String;" } : Jvm.MethodName)) ∈ lw_all := lw_g (lw_at lw_m8 76 rfl) rfl
theorem q1793 : (Jvm.Cond.methodLink "ShrinkYardLaw" (340 : Nat) ({ cls := "ShrinkYardLaw", name := "shrunk", desc := "(LShrinkYard;Ljava/lang/String;LShrinkYardLaw$Out;)I" } : Jvm.MethodName)) ∈ lw_all := lw_g (lw_at lw_m8 80 rfl) rfl
theorem q1794 : (Jvm.Cond.static ({ cls := "ShrinkYardLaw", name := "shrunk", desc := "(LShrinkYard;Ljava/lang/String;LShrinkYardLaw$Out;)I" } : Jvm.MethodName)) ∈ lw_all := lw_g (lw_at lw_m8 81 rfl) rfl
theorem q1795 : (Jvm.Cond.codeWith ({ cls := "ShrinkYardLaw", name := "shrunk", desc := "(LShrinkYard;Ljava/lang/String;LShrinkYardLaw$Out;)I" } : Jvm.MethodName) method_21_code (4 : Nat) (Option.some Jvm.ClassFile.FieldType.int) [((0 : Nat), (9 : Nat), (12 : Nat), (110 : Nat)), ((0 : Nat), (9 : Nat), (15 : Nat), (112 : Nat))]) ∈ lw_all := lw_g (lw_at lw_m8 82 rfl) rfl
theorem q1796 : (Jvm.Cond.methodLink "ShrinkYardLaw" (184 : Nat) ({ cls := "ShrinkYard", name := "shrunk", desc := "(Ljava/lang/String;)Ljava/lang/String;" } : Jvm.MethodName)) ∈ lw_all := lw_g (lw_at lw_m8 83 rfl) rfl
theorem q1800 : (Jvm.Cond.methodLink "ShrinkYardLaw" (343 : Nat) ({ cls := "ShrinkYardLaw", name := "failingReductions", desc := "(LShrinkYard;Ljava/lang/String;LShrinkYardLaw$Out;)I" } : Jvm.MethodName)) ∈ lw_all := lw_g (lw_at lw_m8 87 rfl) rfl
theorem q1801 : (Jvm.Cond.static ({ cls := "ShrinkYardLaw", name := "failingReductions", desc := "(LShrinkYard;Ljava/lang/String;LShrinkYardLaw$Out;)I" } : Jvm.MethodName)) ∈ lw_all := lw_g (lw_at lw_m8 88 rfl) rfl
theorem q1802 : (Jvm.Cond.codeWith ({ cls := "ShrinkYardLaw", name := "failingReductions", desc := "(LShrinkYard;Ljava/lang/String;LShrinkYardLaw$Out;)I" } : Jvm.MethodName) method_22_code (4 : Nat) (Option.some Jvm.ClassFile.FieldType.int) [((0 : Nat), (10 : Nat), (13 : Nat), (110 : Nat)), ((0 : Nat), (10 : Nat), (16 : Nat), (112 : Nat))]) ∈ lw_all := lw_g (lw_at lw_m8 89 rfl) rfl
theorem q1803 : (Jvm.Cond.methodLink "ShrinkYardLaw" (188 : Nat) ({ cls := "ShrinkYard", name := "failingReductions", desc := "(Ljava/lang/String;)I" } : Jvm.MethodName)) ∈ lw_all := lw_g (lw_at lw_m8 90 rfl) rfl
theorem q1807 : (Jvm.Cond.methodLink "ShrinkYardLaw" (346 : Nat) ({ cls := "ShrinkYardLaw", name := "smallest", desc := "(LShrinkYard;IILShrinkYardLaw$Out;)I" } : Jvm.MethodName)) ∈ lw_all := lw_g (lw_at lw_m8 94 rfl) rfl
theorem q1808 : (Jvm.Cond.static ({ cls := "ShrinkYardLaw", name := "smallest", desc := "(LShrinkYard;IILShrinkYardLaw$Out;)I" } : Jvm.MethodName)) ∈ lw_all := lw_g (lw_at lw_m8 95 rfl) rfl
theorem q1809 : (Jvm.Cond.codeWith ({ cls := "ShrinkYardLaw", name := "smallest", desc := "(LShrinkYard;IILShrinkYardLaw$Out;)I" } : Jvm.MethodName) method_23_code (5 : Nat) (Option.some Jvm.ClassFile.FieldType.int) [((0 : Nat), (10 : Nat), (13 : Nat), (110 : Nat)), ((0 : Nat), (10 : Nat), (17 : Nat), (130 : Nat))]) ∈ lw_all := lw_g (lw_at lw_m8 96 rfl) rfl
theorem q1810 : (Jvm.Cond.methodLink "ShrinkYardLaw" (191 : Nat) ({ cls := "ShrinkYard", name := "smallest", desc := "(II)Ljava/lang/String;" } : Jvm.MethodName)) ∈ lw_all := lw_g (lw_at lw_m8 97 rfl) rfl
theorem q1825 : (Jvm.Cond.methodLink "ShrinkYardLaw" (353 : Nat) ({ cls := "ShrinkYardLaw", name := "count", desc := "(LShrinkYard;LVerdict;ILShrinkYardLaw$Out;)I" } : Jvm.MethodName)) ∈ lw_all := lw_g (lw_at lw_m8 112 rfl) rfl
theorem q1826 : (Jvm.Cond.static ({ cls := "ShrinkYardLaw", name := "count", desc := "(LShrinkYard;LVerdict;ILShrinkYardLaw$Out;)I" } : Jvm.MethodName)) ∈ lw_all := lw_g (lw_at lw_m8 113 rfl) rfl
theorem q1827 : (Jvm.Cond.codeWith ({ cls := "ShrinkYardLaw", name := "count", desc := "(LShrinkYard;LVerdict;ILShrinkYardLaw$Out;)I" } : Jvm.MethodName) method_24_code (5 : Nat) (Option.some Jvm.ClassFile.FieldType.int) [((0 : Nat), (11 : Nat), (14 : Nat), (110 : Nat))]) ∈ lw_all := lw_g (lw_at lw_m8 114 rfl) rfl
theorem q1828 : (Jvm.Cond.methodLink "ShrinkYardLaw" (195 : Nat) ({ cls := "ShrinkYard", name := "count", desc := "(LVerdict;I)I" } : Jvm.MethodName)) ∈ lw_all := lw_g (lw_at lw_m8 115 rfl) rfl
theorem q1832 : (Jvm.Cond.methodLink "ShrinkYardLaw" (357 : Nat) ({ cls := "ShrinkYardLaw", name := "reachable", desc := "(LShrinkYard;ILShrinkYardLaw$Out;)I" } : Jvm.MethodName)) ∈ lw_all := lw_g (lw_at lw_m8 119 rfl) rfl
theorem q1833 : (Jvm.Cond.static ({ cls := "ShrinkYardLaw", name := "reachable", desc := "(LShrinkYard;ILShrinkYardLaw$Out;)I" } : Jvm.MethodName)) ∈ lw_all := lw_g (lw_at lw_m8 120 rfl) rfl
theorem q1834 : (Jvm.Cond.codeWith ({ cls := "ShrinkYardLaw", name := "reachable", desc := "(LShrinkYard;ILShrinkYardLaw$Out;)I" } : Jvm.MethodName) method_25_code (4 : Nat) (Option.some Jvm.ClassFile.FieldType.int) [((0 : Nat), (10 : Nat), (13 : Nat), (110 : Nat))]) ∈ lw_all := lw_g (lw_at lw_m8 121 rfl) rfl
theorem q1835 : (Jvm.Cond.methodLink "ShrinkYardLaw" (199 : Nat) ({ cls := "ShrinkYard", name := "reachable", desc := "(I)I" } : Jvm.MethodName)) ∈ lw_all := lw_g (lw_at lw_m8 122 rfl) rfl
theorem q1839 : (Jvm.Cond.methodLink "ShrinkYardLaw" (360 : Nat) ({ cls := "ShrinkYardLaw", name := "keptShare", desc := "(LShrinkYard;LShrinkYardLaw$Out;)I" } : Jvm.MethodName)) ∈ lw_all := lw_g (lw_at lw_m8 126 rfl) rfl
theorem q1840 : (Jvm.Cond.static ({ cls := "ShrinkYardLaw", name := "keptShare", desc := "(LShrinkYard;LShrinkYardLaw$Out;)I" } : Jvm.MethodName)) ∈ lw_all := lw_g (lw_at lw_m8 127 rfl) rfl
theorem q1841 : (Jvm.Cond.codeWith ({ cls := "ShrinkYardLaw", name := "keptShare", desc := "(LShrinkYard;LShrinkYardLaw$Out;)I" } : Jvm.MethodName) method_26_code (3 : Nat) (Option.some Jvm.ClassFile.FieldType.int) [((0 : Nat), (9 : Nat), (12 : Nat), (210 : Nat))]) ∈ lw_all := lw_g (lw_at lw_m8 128 rfl) rfl
theorem q1842 : (Jvm.Cond.classLink "ShrinkYardLaw" (210 : Nat) "java/lang/ArithmeticException") ∈ lw_all := lw_g (lw_at lw_m8 129 rfl) rfl
theorem q1856 : (Jvm.Cond.methodLink "ShrinkYardLaw" (202 : Nat) ({ cls := "ShrinkYard", name := "keptShare", desc := "()F" } : Jvm.MethodName)) ∈ lw_all := lw_g (lw_at lw_m8 143 rfl) rfl
theorem q1868 : (Jvm.Cond.methodLink "ShrinkYardLaw" (364 : Nat) ({ cls := "ShrinkYardLaw", name := "meanShrunk", desc := "(LShrinkYard;LShrinkYardLaw$Out;)I" } : Jvm.MethodName)) ∈ lw_all := lw_g (lw_at lw_m8 155 rfl) rfl
theorem q1869 : (Jvm.Cond.static ({ cls := "ShrinkYardLaw", name := "meanShrunk", desc := "(LShrinkYard;LShrinkYardLaw$Out;)I" } : Jvm.MethodName)) ∈ lw_all := lw_g (lw_at lw_m8 156 rfl) rfl
theorem q1870 : (Jvm.Cond.codeWith ({ cls := "ShrinkYardLaw", name := "meanShrunk", desc := "(LShrinkYard;LShrinkYardLaw$Out;)I" } : Jvm.MethodName) method_27_code (3 : Nat) (Option.some Jvm.ClassFile.FieldType.int) [((0 : Nat), (8 : Nat), (11 : Nat), (210 : Nat))]) ∈ lw_all := lw_g (lw_at lw_m8 157 rfl) rfl
theorem q1871 : (Jvm.Cond.methodLink "ShrinkYardLaw" (212 : Nat) ({ cls := "ShrinkYard", name := "meanShrunk", desc := "()D" } : Jvm.MethodName)) ∈ lw_all := lw_g (lw_at lw_m8 158 rfl) rfl
theorem q1876 : (Jvm.Cond.classLink "ShrinkYardLaw" (217 : Nat) "ShrinkYardModel") ∈ lw_all := lw_g (lw_at lw_m8 163 rfl) rfl
theorem q1878 : (Jvm.Cond.methodLink "ShrinkYardLaw" (219 : Nat) ({ cls := "ShrinkYardModel", name := "<init>", desc := "()V" } : Jvm.MethodName)) ∈ lw_all := lw_g (lw_at lw_m8 165 rfl) rfl
theorem q1970 : (Jvm.Cond.methodLink "ShrinkYardLaw" (236 : Nat) ({ cls := "ShrinkYardModel", name := "thrown", desc := "()I" } : Jvm.MethodName)) ∈ lw_all := lw_g (lw_at lw_m9 17 rfl) rfl
theorem q1974 : (Jvm.Cond.methodLink "ShrinkYardLaw" (235 : Nat) ({ cls := "ShrinkYardModel", name := "add", desc := "(LInstruction;)I" } : Jvm.MethodName)) ∈ lw_all := lw_g (lw_at lw_m9 21 rfl) rfl
theorem q1991 : (Jvm.Cond.methodLink "ShrinkYardLaw" (247 : Nat) ({ cls := "ShrinkYardModel", name := "addChange", desc := "(LChange;II)I" } : Jvm.MethodName)) ∈ lw_all := lw_g (lw_at lw_m9 38 rfl) rfl
theorem q1997 : (Jvm.Cond.methodLink "ShrinkYardLaw" (254 : Nat) ({ cls := "ShrinkYardModel", name := "addAlternative", desc := "(CLjava/lang/String;)I" } : Jvm.MethodName)) ∈ lw_all := lw_g (lw_at lw_m9 44 rfl) rfl
theorem q2009 : (Jvm.Cond.methodLink "ShrinkYardLaw" (258 : Nat) ({ cls := "ShrinkYardModel", name := "derive", desc := "(I)Ljava/lang/String;" } : Jvm.MethodName)) ∈ lw_all := lw_g (lw_at lw_m9 56 rfl) rfl
theorem q2026 : (Jvm.Cond.methodLink "ShrinkYardLaw" (268 : Nat) ({ cls := "ShrinkYardModel", name := "take", desc := "(Ljava/lang/String;)Z" } : Jvm.MethodName)) ∈ lw_all := lw_g (lw_at lw_m9 73 rfl) rfl
theorem q2081 : (Jvm.Cond.methodLink "ShrinkYardLaw" (271 : Nat) ({ cls := "ShrinkYardModel", name := "takeDerived", desc := "(I)Z" } : Jvm.MethodName)) ∈ lw_all := lw_g (lw_at lw_m9 128 rfl) rfl
theorem q2086 : (Jvm.Cond.methodLink "ShrinkYardLaw" (274 : Nat) ({ cls := "ShrinkYardModel", name := "goOn", desc := "(I)I" } : Jvm.MethodName)) ∈ lw_all := lw_g (lw_at lw_m9 133 rfl) rfl
theorem q2103 : (Jvm.Cond.methodLink "ShrinkYardLaw" (278 : Nat) ({ cls := "ShrinkYardModel", name := "reset", desc := "()I" } : Jvm.MethodName)) ∈ lw_all := lw_g (lw_at lw_m9 150 rfl) rfl
theorem q2107 : (Jvm.Cond.methodLink "ShrinkYardLaw" (282 : Nat) ({ cls := "ShrinkYardModel", name := "runs", desc := "()I" } : Jvm.MethodName)) ∈ lw_all := lw_g (lw_at lw_m9 154 rfl) rfl
theorem q2111 : (Jvm.Cond.methodLink "ShrinkYardLaw" (287 : Nat) ({ cls := "ShrinkYardModel", name := "totalSteps", desc := "()J" } : Jvm.MethodName)) ∈ lw_all := lw_g (lw_at lw_m9 158 rfl) rfl
theorem q2115 : (Jvm.Cond.methodLink "ShrinkYardLaw" (291 : Nat) ({ cls := "ShrinkYardModel", name := "covered", desc := "()I" } : Jvm.MethodName)) ∈ lw_all := lw_g (lw_at lw_m9 162 rfl) rfl
theorem q2123 : (Jvm.Cond.methodLink "ShrinkYardLaw" (295 : Nat) ({ cls := "ShrinkYardModel", name := "isCovered", desc := "(II)Z" } : Jvm.MethodName)) ∈ lw_all := lw_g (lw_at lw_m9 170 rfl) rfl
theorem q2127 : (Jvm.Cond.methodLink "ShrinkYardLaw" (299 : Nat) ({ cls := "ShrinkYardModel", name := "kept", desc := "()I" } : Jvm.MethodName)) ∈ lw_all := lw_g (lw_at lw_m9 174 rfl) rfl
theorem q2131 : (Jvm.Cond.methodLink "ShrinkYardLaw" (302 : Nat) ({ cls := "ShrinkYardModel", name := "keptAt", desc := "(I)Ljava/lang/String;" } : Jvm.MethodName)) ∈ lw_all := lw_g (lw_at lw_m9 178 rfl) rfl
theorem q2135 : (Jvm.Cond.methodLink "ShrinkYardLaw" (306 : Nat) ({ cls := "ShrinkYardModel", name := "queued", desc := "()I" } : Jvm.MethodName)) ∈ lw_all := lw_g (lw_at lw_m9 182 rfl) rfl
theorem q2139 : (Jvm.Cond.methodLink "ShrinkYardLaw" (310 : Nat) ({ cls := "ShrinkYardModel", name := "findings", desc := "()I" } : Jvm.MethodName)) ∈ lw_all := lw_g (lw_at lw_m9 186 rfl) rfl
theorem q2143 : (Jvm.Cond.methodLink "ShrinkYardLaw" (313 : Nat) ({ cls := "ShrinkYardModel", name := "findingAt", desc := "(I)LFinding;" } : Jvm.MethodName)) ∈ lw_all := lw_g (lw_at lw_m9 190 rfl) rfl
theorem q2149 : (Jvm.Cond.methodLink "ShrinkYardLaw" (326 : Nat) ({ cls := "ShrinkYardModel", name := "verdict", desc := "(Ljava/lang/String;)LVerdict;" } : Jvm.MethodName)) ∈ lw_all := lw_g (lw_at lw_m9 196 rfl) rfl
theorem q2159 : (Jvm.Cond.methodLink "ShrinkYardLaw" (329 : Nat) ({ cls := "ShrinkYardModel", name := "code", desc := "(Ljava/lang/String;)I" } : Jvm.MethodName)) ∈ lw_all := lw_g (lw_at lw_m9 206 rfl) rfl
theorem q2167 : (Jvm.Cond.methodLink "ShrinkYardLaw" (332 : Nat) ({ cls := "ShrinkYardModel", name := "steps", desc := "(Ljava/lang/String;)I" } : Jvm.MethodName)) ∈ lw_all := lw_g (lw_at lw_m9 214 rfl) rfl
theorem q2171 : (Jvm.Cond.methodLink "ShrinkYardLaw" (335 : Nat) ({ cls := "ShrinkYardModel", name := "edges", desc := "(Ljava/lang/String;)I" } : Jvm.MethodName)) ∈ lw_all := lw_g (lw_at lw_m9 218 rfl) rfl
theorem q2175 : (Jvm.Cond.methodLink "ShrinkYardLaw" (339 : Nat) ({ cls := "ShrinkYardModel", name := "changed", desc := "(LChange;IILjava/lang/String;)Ljava/lang/String;" } : Jvm.MethodName)) ∈ lw_all := lw_g (lw_at lw_m9 222 rfl) rfl
theorem q2179 : (Jvm.Cond.methodLink "ShrinkYardLaw" (342 : Nat) ({ cls := "ShrinkYardModel", name := "shrunk", desc := "(Ljava/lang/String;)Ljava/lang/String;" } : Jvm.MethodName)) ∈ lw_all := lw_g (lw_at lw_m9 226 rfl) rfl
theorem q2183 : (Jvm.Cond.methodLink "ShrinkYardLaw" (345 : Nat) ({ cls := "ShrinkYardModel", name := "failingReductions", desc := "(Ljava/lang/String;)I" } : Jvm.MethodName)) ∈ lw_all := lw_g (lw_at lw_m9 230 rfl) rfl
theorem q2187 : (Jvm.Cond.methodLink "ShrinkYardLaw" (348 : Nat) ({ cls := "ShrinkYardModel", name := "smallest", desc := "(II)Ljava/lang/String;" } : Jvm.MethodName)) ∈ lw_all := lw_g (lw_at lw_m9 234 rfl) rfl
theorem q2197 : (Jvm.Cond.methodLink "ShrinkYardLaw" (356 : Nat) ({ cls := "ShrinkYardModel", name := "count", desc := "(LVerdict;I)I" } : Jvm.MethodName)) ∈ lw_all := lw_g (lw_at lw_m10 4 rfl) rfl
theorem q2201 : (Jvm.Cond.methodLink "ShrinkYardLaw" (359 : Nat) ({ cls := "ShrinkYardModel", name := "reachable", desc := "(I)I" } : Jvm.MethodName)) ∈ lw_all := lw_g (lw_at lw_m10 8 rfl) rfl
theorem q2205 : (Jvm.Cond.methodLink "ShrinkYardLaw" (363 : Nat) ({ cls := "ShrinkYardModel", name := "keptShare", desc := "()F" } : Jvm.MethodName)) ∈ lw_all := lw_g (lw_at lw_m10 12 rfl) rfl
theorem q2209 : (Jvm.Cond.methodLink "ShrinkYardLaw" (366 : Nat) ({ cls := "ShrinkYardModel", name := "meanShrunk", desc := "()D" } : Jvm.MethodName)) ∈ lw_all := lw_g (lw_at lw_m10 16 rfl) rfl
theorem q2213 : (Jvm.Cond.methodLink "ShrinkYardLaw" (259 : Nat) ({ cls := "java/lang/String", name := "equals", desc := "(Ljava/lang/Object;)Z" } : Jvm.MethodName)) ∈ lw_all := lw_g (lw_at lw_m10 20 rfl) rfl
