/-! ShrinkYard$Machine -/
set_option maxRecDepth 100000
def RX2 : String := "ShrinkYard$Machine"
def TX2 : u_T := fun k => match k with
  | 0 => ("ShrinkYard$Machine", "registers", "[I", true)
  | 1 => ("ShrinkYard$Machine", "edges", "Ljava/util/BitSet;", true)
  | 2 => ("ShrinkYard$Machine", "verdict", "LVerdict;", false)
  | 3 => ("ShrinkYard$Machine", "code", "I", false)
  | 4 => ("ShrinkYard$Machine", "steps", "I", false)
  | 5 => ("ShrinkYard$Machine", "read", "I", false)
  | _ => ("ShrinkYard$Machine", "this$0", "LShrinkYard;", true)
def tyX2 : Nat → FieldType := fun k => match k with
  | 0 => .array .int
  | 1 => .object "java/util/BitSet"
  | 2 => .object "Verdict"
  | 3 => .int
  | 4 => .int
  | 5 => .int
  | _ => .object "ShrinkYard"
abbrev wsX20 : List Cond := u_ws RX2 TX2 7
theorem nmX2 : ∀ a, a < 7 → ∀ b, b < 7 → a ≠ b → (TX2 a).2.1 ≠ (TX2 b).2.1 := by decide +kernel
theorem tyX2_ok : ∀ k, k < 7 → parseFieldDescriptor (TX2 k).2.2.1 = some (tyX2 k) := by decide +kernel
abbrev cX2_init : ByteArray := prog_10_method_1_code
def yX2_init : MethodName := ⟨RX2, "<init>", "(LShrinkYard;)V"⟩
def dkwX2_init_1 : List UInt8 := [181, 0, 22, 177]
abbrev dktX2_init_1 : List UInt8 := dkwX2_init_1 ++ []
def dkwX2_init_0 : List UInt8 := [42, 43, 181, 0, 3, 42, 183, 0, 9, 42, 7, 188, 10, 181, 0, 15, 42, 187, 0, 19, 89, 183, 0, 21]
abbrev dktX2_init_0 : List UInt8 := dkwX2_init_0 ++ dktX2_init_1
theorem dksX2_init_0 : cX2_init.data.toList.drop 0 = dktX2_init_0 := by decide +kernel
theorem dksX2_init_1 : cX2_init.data.toList.drop 24 = dktX2_init_1 := dk_seg dksX2_init_0 24 rfl rfl
theorem dX2_init_0 : decode cX2_init 0 = .ok (.aload_n 0, 1) := dk_42 (dk_at dksX2_init_0 0 rfl rfl)
theorem dX2_init_1 : decode cX2_init 1 = .ok (.aload_n 1, 1) := dk_43 (dk_at dksX2_init_0 1 rfl rfl)
theorem dX2_init_2 : decode cX2_init 2 = .ok (.putfield 3, 3) := dk_181 0 3 (dk_at dksX2_init_0 2 rfl rfl)
theorem dX2_init_5 : decode cX2_init 5 = .ok (.aload_n 0, 1) := dk_42 (dk_at dksX2_init_0 5 rfl rfl)
theorem dX2_init_6 : decode cX2_init 6 = .ok (.invokespecial 9, 3) := dk_183 0 9 (dk_at dksX2_init_0 6 rfl rfl)
theorem dX2_init_9 : decode cX2_init 9 = .ok (.aload_n 0, 1) := dk_42 (dk_at dksX2_init_0 9 rfl rfl)
theorem dX2_init_10 : decode cX2_init 10 = .ok (.iconst 4, 1) := dk_7 (dk_at dksX2_init_0 10 rfl rfl)
theorem dX2_init_11 : decode cX2_init 11 = .ok (.newarray .int, 2) := dk_188_10 (dk_at dksX2_init_0 11 rfl rfl)
theorem dX2_init_13 : decode cX2_init 13 = .ok (.putfield 15, 3) := dk_181 0 15 (dk_at dksX2_init_0 13 rfl rfl)
theorem dX2_init_16 : decode cX2_init 16 = .ok (.aload_n 0, 1) := dk_42 (dk_at dksX2_init_0 16 rfl rfl)
theorem dX2_init_17 : decode cX2_init 17 = .ok (.new 19, 3) := dk_187 0 19 (dk_at dksX2_init_0 17 rfl rfl)
theorem dX2_init_20 : decode cX2_init 20 = .ok (.dup, 1) := dk_89 (dk_at dksX2_init_0 20 rfl rfl)
theorem dX2_init_21 : decode cX2_init 21 = .ok (.invokespecial 21, 3) := dk_183 0 21 (dk_at dksX2_init_0 21 rfl rfl)
theorem dX2_init_24 : decode cX2_init 24 = .ok (.putfield 22, 3) := dk_181 0 22 (dk_at dksX2_init_1 0 rfl rfl)
theorem dX2_init_27 : decode cX2_init 27 = .ok (.return_, 1) := dk_177 (dk_at dksX2_init_1 3 rfl rfl)
abbrev cX2_run : ByteArray := prog_10_method_5_code
def yX2_run : MethodName := ⟨RX2, "run", "(LShrinkYard$Digits;)V"⟩
def dkwX2_run_8 : List UInt8 := [185, 0, 92, 1, 0, 184, 0, 116, 96, 182, 0, 122, 29, 61, 167, 255, 107, 177]
abbrev dktX2_run_8 : List UInt8 := dkwX2_run_8 ++ []
def dkwX2_run_7 : List UInt8 := [2, 62, 167, 0, 31, 42, 180, 0, 22, 16, 17, 28, 104, 29, 42, 180, 0, 3, 180, 0, 88]
abbrev dktX2_run_7 : List UInt8 := dkwX2_run_7 ++ dktX2_run_8
def dkwX2_run_6 : List UInt8 := [185, 0, 92, 1, 0, 162, 0, 24, 42, 180, 0, 85, 16, 64, 160, 0, 15, 42, 178, 0, 113, 181, 0, 76]
abbrev dktX2_run_6 : List UInt8 := dkwX2_run_6 ++ dktX2_run_7
def dkwX2_run_5 : List UInt8 := [185, 0, 101, 2, 0, 192, 0, 39, 182, 0, 109, 167, 0, 68, 29, 42, 180, 0, 3, 180, 0, 88]
abbrev dktX2_run_5 : List UInt8 := dkwX2_run_5 ++ dktX2_run_6
def dkwX2_run_4 : List UInt8 := [180, 0, 85, 4, 96, 181, 0, 85, 29, 156, 0, 26, 42, 42, 180, 0, 3, 180, 0, 88, 28]
abbrev dktX2_run_4 : List UInt8 := dkwX2_run_4 ++ dktX2_run_5
def dkwX2_run_3 : List UInt8 := [180, 0, 3, 180, 0, 88, 28, 185, 0, 101, 2, 0, 192, 0, 39, 28, 43, 182, 0, 105, 62, 42, 89]
abbrev dktX2_run_3 : List UInt8 := dkwX2_run_3 ++ dktX2_run_4
def dkwX2_run_2 : List UInt8 := [42, 180, 0, 3, 180, 0, 88, 185, 0, 92, 1, 0, 4, 100, 184, 0, 97, 153, 0, 133, 42, 42]
abbrev dktX2_run_2 : List UInt8 := dkwX2_run_2 ++ dktX2_run_3
def dkwX2_run_1 : List UInt8 := [182, 0, 82, 42, 178, 0, 73, 181, 0, 76, 42, 3, 181, 0, 85, 42, 3, 181, 0, 26, 3, 61, 28, 3]
abbrev dktX2_run_1 : List UInt8 := dkwX2_run_1 ++ dktX2_run_2
def dkwX2_run_0 : List UInt8 := [3, 61, 28, 7, 162, 0, 16, 42, 180, 0, 15, 28, 3, 79, 132, 2, 1, 167, 255, 241, 42, 180, 0, 22]
abbrev dktX2_run_0 : List UInt8 := dkwX2_run_0 ++ dktX2_run_1
theorem dksX2_run_0 : cX2_run.data.toList.drop 0 = dktX2_run_0 := by decide +kernel
theorem dksX2_run_1 : cX2_run.data.toList.drop 24 = dktX2_run_1 := dk_seg dksX2_run_0 24 rfl rfl
theorem dksX2_run_2 : cX2_run.data.toList.drop 48 = dktX2_run_2 := dk_seg dksX2_run_1 24 rfl rfl
theorem dksX2_run_3 : cX2_run.data.toList.drop 70 = dktX2_run_3 := dk_seg dksX2_run_2 22 rfl rfl
theorem dksX2_run_4 : cX2_run.data.toList.drop 93 = dktX2_run_4 := dk_seg dksX2_run_3 23 rfl rfl
theorem dksX2_run_5 : cX2_run.data.toList.drop 114 = dktX2_run_5 := dk_seg dksX2_run_4 21 rfl rfl
theorem dksX2_run_6 : cX2_run.data.toList.drop 136 = dktX2_run_6 := dk_seg dksX2_run_5 22 rfl rfl
theorem dksX2_run_7 : cX2_run.data.toList.drop 160 = dktX2_run_7 := dk_seg dksX2_run_6 24 rfl rfl
theorem dksX2_run_8 : cX2_run.data.toList.drop 181 = dktX2_run_8 := dk_seg dksX2_run_7 21 rfl rfl
theorem dX2_run_0 : decode cX2_run 0 = .ok (.iconst 0, 1) := dk_3 (dk_at dksX2_run_0 0 rfl rfl)
theorem dX2_run_1 : decode cX2_run 1 = .ok (.istore_n 2, 1) := dk_61 (dk_at dksX2_run_0 1 rfl rfl)
theorem dX2_run_2 : decode cX2_run 2 = .ok (.iload_n 2, 1) := dk_28 (dk_at dksX2_run_0 2 rfl rfl)
theorem dX2_run_3 : decode cX2_run 3 = .ok (.iconst 4, 1) := dk_7 (dk_at dksX2_run_0 3 rfl rfl)
theorem dX2_run_4 : decode cX2_run 4 = .ok (.if_icmp .ge 16, 3) := dk_162 0 16 (dk_at dksX2_run_0 4 rfl rfl)
theorem dX2_run_7 : decode cX2_run 7 = .ok (.aload_n 0, 1) := dk_42 (dk_at dksX2_run_0 7 rfl rfl)
theorem dX2_run_8 : decode cX2_run 8 = .ok (.getfield 15, 3) := dk_180 0 15 (dk_at dksX2_run_0 8 rfl rfl)
theorem dX2_run_11 : decode cX2_run 11 = .ok (.iload_n 2, 1) := dk_28 (dk_at dksX2_run_0 11 rfl rfl)
theorem dX2_run_12 : decode cX2_run 12 = .ok (.iconst 0, 1) := dk_3 (dk_at dksX2_run_0 12 rfl rfl)
theorem dX2_run_13 : decode cX2_run 13 = .ok (.iastore, 1) := dk_79 (dk_at dksX2_run_0 13 rfl rfl)
theorem dX2_run_14 : decode cX2_run 14 = .ok (.iinc 2 1, 3) := dk_132 2 1 (dk_at dksX2_run_0 14 rfl rfl)
theorem dX2_run_17 : decode cX2_run 17 = .ok (.goto (-15), 3) := dk_167 255 241 (dk_at dksX2_run_0 17 rfl rfl)
theorem dX2_run_20 : decode cX2_run 20 = .ok (.aload_n 0, 1) := dk_42 (dk_at dksX2_run_0 20 rfl rfl)
theorem dX2_run_21 : decode cX2_run 21 = .ok (.getfield 22, 3) := dk_180 0 22 (dk_at dksX2_run_0 21 rfl rfl)
theorem dX2_run_24 : decode cX2_run 24 = .ok (.invokevirtual 82, 3) := dk_182 0 82 (dk_at dksX2_run_1 0 rfl rfl)
theorem dX2_run_27 : decode cX2_run 27 = .ok (.aload_n 0, 1) := dk_42 (dk_at dksX2_run_1 3 rfl rfl)
theorem dX2_run_28 : decode cX2_run 28 = .ok (.getstatic 73, 3) := dk_178 0 73 (dk_at dksX2_run_1 4 rfl rfl)
theorem dX2_run_31 : decode cX2_run 31 = .ok (.putfield 76, 3) := dk_181 0 76 (dk_at dksX2_run_1 7 rfl rfl)
theorem dX2_run_34 : decode cX2_run 34 = .ok (.aload_n 0, 1) := dk_42 (dk_at dksX2_run_1 10 rfl rfl)
theorem dX2_run_35 : decode cX2_run 35 = .ok (.iconst 0, 1) := dk_3 (dk_at dksX2_run_1 11 rfl rfl)
theorem dX2_run_36 : decode cX2_run 36 = .ok (.putfield 85, 3) := dk_181 0 85 (dk_at dksX2_run_1 12 rfl rfl)
theorem dX2_run_39 : decode cX2_run 39 = .ok (.aload_n 0, 1) := dk_42 (dk_at dksX2_run_1 15 rfl rfl)
theorem dX2_run_40 : decode cX2_run 40 = .ok (.iconst 0, 1) := dk_3 (dk_at dksX2_run_1 16 rfl rfl)
theorem dX2_run_41 : decode cX2_run 41 = .ok (.putfield 26, 3) := dk_181 0 26 (dk_at dksX2_run_1 17 rfl rfl)
theorem dX2_run_44 : decode cX2_run 44 = .ok (.iconst 0, 1) := dk_3 (dk_at dksX2_run_1 20 rfl rfl)
theorem dX2_run_45 : decode cX2_run 45 = .ok (.istore_n 2, 1) := dk_61 (dk_at dksX2_run_1 21 rfl rfl)
theorem dX2_run_46 : decode cX2_run 46 = .ok (.iload_n 2, 1) := dk_28 (dk_at dksX2_run_1 22 rfl rfl)
theorem dX2_run_47 : decode cX2_run 47 = .ok (.iconst 0, 1) := dk_3 (dk_at dksX2_run_1 23 rfl rfl)
theorem dX2_run_48 : decode cX2_run 48 = .ok (.aload_n 0, 1) := dk_42 (dk_at dksX2_run_2 0 rfl rfl)
theorem dX2_run_49 : decode cX2_run 49 = .ok (.getfield 3, 3) := dk_180 0 3 (dk_at dksX2_run_2 1 rfl rfl)
theorem dX2_run_52 : decode cX2_run 52 = .ok (.getfield 88, 3) := dk_180 0 88 (dk_at dksX2_run_2 4 rfl rfl)
theorem dX2_run_55 : decode cX2_run 55 = .ok (.invokeinterface 92 1, 5) := by decide +kernel
theorem dX2_run_60 : decode cX2_run 60 = .ok (.iconst 1, 1) := dk_4 (dk_at dksX2_run_2 12 rfl rfl)
theorem dX2_run_61 : decode cX2_run 61 = .ok (.isub, 1) := dk_100 (dk_at dksX2_run_2 13 rfl rfl)
theorem dX2_run_62 : decode cX2_run 62 = .ok (.invokestatic 97, 3) := dk_184 0 97 (dk_at dksX2_run_2 14 rfl rfl)
theorem dX2_run_65 : decode cX2_run 65 = .ok (.ifCond .eq 133, 3) := dk_153 0 133 (dk_at dksX2_run_2 17 rfl rfl)
theorem dX2_run_68 : decode cX2_run 68 = .ok (.aload_n 0, 1) := dk_42 (dk_at dksX2_run_2 20 rfl rfl)
theorem dX2_run_69 : decode cX2_run 69 = .ok (.aload_n 0, 1) := dk_42 (dk_at dksX2_run_2 21 rfl rfl)
theorem dX2_run_70 : decode cX2_run 70 = .ok (.getfield 3, 3) := dk_180 0 3 (dk_at dksX2_run_3 0 rfl rfl)
theorem dX2_run_73 : decode cX2_run 73 = .ok (.getfield 88, 3) := dk_180 0 88 (dk_at dksX2_run_3 3 rfl rfl)
theorem dX2_run_76 : decode cX2_run 76 = .ok (.iload_n 2, 1) := dk_28 (dk_at dksX2_run_3 6 rfl rfl)
theorem dX2_run_77 : decode cX2_run 77 = .ok (.invokeinterface 101 2, 5) := by decide +kernel
theorem dX2_run_82 : decode cX2_run 82 = .ok (.checkcast 39, 3) := dk_192 0 39 (dk_at dksX2_run_3 12 rfl rfl)
theorem dX2_run_85 : decode cX2_run 85 = .ok (.iload_n 2, 1) := dk_28 (dk_at dksX2_run_3 15 rfl rfl)
theorem dX2_run_86 : decode cX2_run 86 = .ok (.aload_n 1, 1) := dk_43 (dk_at dksX2_run_3 16 rfl rfl)
theorem dX2_run_87 : decode cX2_run 87 = .ok (.invokevirtual 105, 3) := dk_182 0 105 (dk_at dksX2_run_3 17 rfl rfl)
theorem dX2_run_90 : decode cX2_run 90 = .ok (.istore_n 3, 1) := dk_62 (dk_at dksX2_run_3 20 rfl rfl)
theorem dX2_run_91 : decode cX2_run 91 = .ok (.aload_n 0, 1) := dk_42 (dk_at dksX2_run_3 21 rfl rfl)
theorem dX2_run_92 : decode cX2_run 92 = .ok (.dup, 1) := dk_89 (dk_at dksX2_run_3 22 rfl rfl)
theorem dX2_run_93 : decode cX2_run 93 = .ok (.getfield 85, 3) := dk_180 0 85 (dk_at dksX2_run_4 0 rfl rfl)
theorem dX2_run_96 : decode cX2_run 96 = .ok (.iconst 1, 1) := dk_4 (dk_at dksX2_run_4 3 rfl rfl)
theorem dX2_run_97 : decode cX2_run 97 = .ok (.iadd, 1) := dk_96 (dk_at dksX2_run_4 4 rfl rfl)
theorem dX2_run_98 : decode cX2_run 98 = .ok (.putfield 85, 3) := dk_181 0 85 (dk_at dksX2_run_4 5 rfl rfl)
theorem dX2_run_101 : decode cX2_run 101 = .ok (.iload_n 3, 1) := dk_29 (dk_at dksX2_run_4 8 rfl rfl)
theorem dX2_run_102 : decode cX2_run 102 = .ok (.ifCond .ge 26, 3) := dk_156 0 26 (dk_at dksX2_run_4 9 rfl rfl)
theorem dX2_run_105 : decode cX2_run 105 = .ok (.aload_n 0, 1) := dk_42 (dk_at dksX2_run_4 12 rfl rfl)
theorem dX2_run_106 : decode cX2_run 106 = .ok (.aload_n 0, 1) := dk_42 (dk_at dksX2_run_4 13 rfl rfl)
theorem dX2_run_107 : decode cX2_run 107 = .ok (.getfield 3, 3) := dk_180 0 3 (dk_at dksX2_run_4 14 rfl rfl)
theorem dX2_run_110 : decode cX2_run 110 = .ok (.getfield 88, 3) := dk_180 0 88 (dk_at dksX2_run_4 17 rfl rfl)
theorem dX2_run_113 : decode cX2_run 113 = .ok (.iload_n 2, 1) := dk_28 (dk_at dksX2_run_4 20 rfl rfl)
theorem dX2_run_114 : decode cX2_run 114 = .ok (.invokeinterface 101 2, 5) := by decide +kernel
theorem dX2_run_119 : decode cX2_run 119 = .ok (.checkcast 39, 3) := dk_192 0 39 (dk_at dksX2_run_5 5 rfl rfl)
theorem dX2_run_122 : decode cX2_run 122 = .ok (.invokevirtual 109, 3) := dk_182 0 109 (dk_at dksX2_run_5 8 rfl rfl)
theorem dX2_run_125 : decode cX2_run 125 = .ok (.goto 68, 3) := dk_167 0 68 (dk_at dksX2_run_5 11 rfl rfl)
theorem dX2_run_128 : decode cX2_run 128 = .ok (.iload_n 3, 1) := dk_29 (dk_at dksX2_run_5 14 rfl rfl)
theorem dX2_run_129 : decode cX2_run 129 = .ok (.aload_n 0, 1) := dk_42 (dk_at dksX2_run_5 15 rfl rfl)
theorem dX2_run_130 : decode cX2_run 130 = .ok (.getfield 3, 3) := dk_180 0 3 (dk_at dksX2_run_5 16 rfl rfl)
theorem dX2_run_133 : decode cX2_run 133 = .ok (.getfield 88, 3) := dk_180 0 88 (dk_at dksX2_run_5 19 rfl rfl)
theorem dX2_run_136 : decode cX2_run 136 = .ok (.invokeinterface 92 1, 5) := by decide +kernel
theorem dX2_run_141 : decode cX2_run 141 = .ok (.if_icmp .ge 24, 3) := dk_162 0 24 (dk_at dksX2_run_6 5 rfl rfl)
theorem dX2_run_144 : decode cX2_run 144 = .ok (.aload_n 0, 1) := dk_42 (dk_at dksX2_run_6 8 rfl rfl)
theorem dX2_run_145 : decode cX2_run 145 = .ok (.getfield 85, 3) := dk_180 0 85 (dk_at dksX2_run_6 9 rfl rfl)
theorem dX2_run_148 : decode cX2_run 148 = .ok (.bipush 64, 2) := dk_16 64 (dk_at dksX2_run_6 12 rfl rfl)
theorem dX2_run_150 : decode cX2_run 150 = .ok (.if_icmp .ne 15, 3) := dk_160 0 15 (dk_at dksX2_run_6 14 rfl rfl)
theorem dX2_run_153 : decode cX2_run 153 = .ok (.aload_n 0, 1) := dk_42 (dk_at dksX2_run_6 17 rfl rfl)
theorem dX2_run_154 : decode cX2_run 154 = .ok (.getstatic 113, 3) := dk_178 0 113 (dk_at dksX2_run_6 18 rfl rfl)
theorem dX2_run_157 : decode cX2_run 157 = .ok (.putfield 76, 3) := dk_181 0 76 (dk_at dksX2_run_6 21 rfl rfl)
theorem dX2_run_160 : decode cX2_run 160 = .ok (.iconst (-1), 1) := dk_2 (dk_at dksX2_run_7 0 rfl rfl)
theorem dX2_run_161 : decode cX2_run 161 = .ok (.istore_n 3, 1) := dk_62 (dk_at dksX2_run_7 1 rfl rfl)
theorem dX2_run_162 : decode cX2_run 162 = .ok (.goto 31, 3) := dk_167 0 31 (dk_at dksX2_run_7 2 rfl rfl)
theorem dX2_run_165 : decode cX2_run 165 = .ok (.aload_n 0, 1) := dk_42 (dk_at dksX2_run_7 5 rfl rfl)
theorem dX2_run_166 : decode cX2_run 166 = .ok (.getfield 22, 3) := dk_180 0 22 (dk_at dksX2_run_7 6 rfl rfl)
theorem dX2_run_169 : decode cX2_run 169 = .ok (.bipush 17, 2) := dk_16 17 (dk_at dksX2_run_7 9 rfl rfl)
theorem dX2_run_171 : decode cX2_run 171 = .ok (.iload_n 2, 1) := dk_28 (dk_at dksX2_run_7 11 rfl rfl)
theorem dX2_run_172 : decode cX2_run 172 = .ok (.imul, 1) := dk_104 (dk_at dksX2_run_7 12 rfl rfl)
theorem dX2_run_173 : decode cX2_run 173 = .ok (.iload_n 3, 1) := dk_29 (dk_at dksX2_run_7 13 rfl rfl)
theorem dX2_run_174 : decode cX2_run 174 = .ok (.aload_n 0, 1) := dk_42 (dk_at dksX2_run_7 14 rfl rfl)
theorem dX2_run_175 : decode cX2_run 175 = .ok (.getfield 3, 3) := dk_180 0 3 (dk_at dksX2_run_7 15 rfl rfl)
theorem dX2_run_178 : decode cX2_run 178 = .ok (.getfield 88, 3) := dk_180 0 88 (dk_at dksX2_run_7 18 rfl rfl)
theorem dX2_run_181 : decode cX2_run 181 = .ok (.invokeinterface 92 1, 5) := by decide +kernel
theorem dX2_run_186 : decode cX2_run 186 = .ok (.invokestatic 116, 3) := dk_184 0 116 (dk_at dksX2_run_8 5 rfl rfl)
theorem dX2_run_189 : decode cX2_run 189 = .ok (.iadd, 1) := dk_96 (dk_at dksX2_run_8 8 rfl rfl)
theorem dX2_run_190 : decode cX2_run 190 = .ok (.invokevirtual 122, 3) := dk_182 0 122 (dk_at dksX2_run_8 9 rfl rfl)
theorem dX2_run_193 : decode cX2_run 193 = .ok (.iload_n 3, 1) := dk_29 (dk_at dksX2_run_8 12 rfl rfl)
theorem dX2_run_194 : decode cX2_run 194 = .ok (.istore_n 2, 1) := dk_61 (dk_at dksX2_run_8 13 rfl rfl)
theorem dX2_run_195 : decode cX2_run 195 = .ok (.goto (-149), 3) := dk_167 255 107 (dk_at dksX2_run_8 14 rfl rfl)
theorem dX2_run_198 : decode cX2_run 198 = .ok (.return_, 1) := dk_177 (dk_at dksX2_run_8 17 rfl rfl)
abbrev cX2_execute : ByteArray := prog_10_method_3_code
def yX2_execute : MethodName := ⟨RX2, "execute", "(LInstruction;ILShrinkYard$Digits;)I"⟩
def dkwX2_execute_9 : List UInt8 := [167, 0, 10, 2, 167, 0, 6, 28, 4, 96, 172]
abbrev dktX2_execute_9 : List UInt8 := dkwX2_execute_9 ++ []
def dkwX2_execute_8 : List UInt8 := [180, 0, 15, 21, 4, 46, 21, 5, 160, 0, 8, 21, 6, 167, 0, 21, 28, 4, 96, 167, 0, 15, 21, 6]
abbrev dktX2_execute_8 : List UInt8 := dkwX2_execute_8 ++ dktX2_execute_9
def dkwX2_execute_7 : List UInt8 := [42, 180, 0, 15, 21, 4, 46, 21, 5, 162, 0, 8, 21, 6, 167, 0, 44, 28, 4, 96, 167, 0, 38, 42]
abbrev dktX2_execute_7 : List UInt8 := dkwX2_execute_7 ++ dktX2_execute_8
def dkwX2_execute_6 : List UInt8 := [170, 0, 0, 0, 0, 0, 90, 0, 0, 0, 4, 0, 0, 0, 8, 0, 0, 0, 35, 0, 0, 0, 58, 0, 0, 0, 81, 0, 0, 0, 86, 0, 0, 0, 86]
abbrev dktX2_execute_6 : List UInt8 := dkwX2_execute_6 ++ dktX2_execute_7
def dkwX2_execute_5 : List UInt8 := [92, 46, 42, 180, 0, 15, 21, 6, 46, 96, 79, 167, 0, 3, 43, 182, 0, 50, 182, 0, 54]
abbrev dktX2_execute_5 : List UInt8 := dkwX2_execute_5 ++ dktX2_execute_6
def dkwX2_execute_4 : List UInt8 := [167, 0, 38, 42, 180, 0, 15, 21, 4, 92, 46, 21, 5, 96, 79, 167, 0, 23, 42, 180, 0, 15, 21, 4]
abbrev dktX2_execute_4 : List UInt8 := dkwX2_execute_4 ++ dktX2_execute_5
def dkwX2_execute_3 : List UInt8 := [42, 180, 0, 15, 21, 4, 42, 45, 182, 0, 59, 79, 167, 0, 50, 42, 180, 0, 15, 21, 4, 21, 5, 79]
abbrev dktX2_execute_3 : List UInt8 := dkwX2_execute_3 ++ dktX2_execute_4
def dkwX2_execute_2 : List UInt8 := [170, 0, 0, 0, 0, 0, 93, 0, 0, 0, 0, 0, 0, 0, 3, 0, 0, 0, 31, 0, 0, 0, 46, 0, 0, 0, 58, 0, 0, 0, 73]
abbrev dktX2_execute_2 : List UInt8 := dkwX2_execute_2 ++ dktX2_execute_3
def dkwX2_execute_1 : List UInt8 := [182, 0, 54]
abbrev dktX2_execute_1 : List UInt8 := dkwX2_execute_1 ++ dktX2_execute_2
def dkwX2_execute_0 : List UInt8 := [43, 182, 0, 38, 54, 4, 43, 182, 0, 44, 54, 5, 43, 182, 0, 47, 54, 6, 43, 182, 0, 50]
abbrev dktX2_execute_0 : List UInt8 := dkwX2_execute_0 ++ dktX2_execute_1
theorem dksX2_execute_0 : cX2_execute.data.toList.drop 0 = dktX2_execute_0 := by decide +kernel
theorem dksX2_execute_1 : cX2_execute.data.toList.drop 22 = dktX2_execute_1 := dk_seg dksX2_execute_0 22 rfl rfl
theorem dksX2_execute_2 : cX2_execute.data.toList.drop 25 = dktX2_execute_2 := dk_seg dksX2_execute_1 3 rfl rfl
theorem dksX2_execute_3 : cX2_execute.data.toList.drop 56 = dktX2_execute_3 := dk_seg dksX2_execute_2 31 rfl rfl
theorem dksX2_execute_4 : cX2_execute.data.toList.drop 80 = dktX2_execute_4 := dk_seg dksX2_execute_3 24 rfl rfl
theorem dksX2_execute_5 : cX2_execute.data.toList.drop 104 = dktX2_execute_5 := dk_seg dksX2_execute_4 24 rfl rfl
theorem dksX2_execute_6 : cX2_execute.data.toList.drop 125 = dktX2_execute_6 := dk_seg dksX2_execute_5 21 rfl rfl
theorem dksX2_execute_7 : cX2_execute.data.toList.drop 160 = dktX2_execute_7 := dk_seg dksX2_execute_6 35 rfl rfl
theorem dksX2_execute_8 : cX2_execute.data.toList.drop 184 = dktX2_execute_8 := dk_seg dksX2_execute_7 24 rfl rfl
theorem dksX2_execute_9 : cX2_execute.data.toList.drop 208 = dktX2_execute_9 := dk_seg dksX2_execute_8 24 rfl rfl
theorem dX2_execute_0 : decode cX2_execute 0 = .ok (.aload_n 1, 1) := dk_43 (dk_at dksX2_execute_0 0 rfl rfl)
theorem dX2_execute_1 : decode cX2_execute 1 = .ok (.invokevirtual 38, 3) := dk_182 0 38 (dk_at dksX2_execute_0 1 rfl rfl)
theorem dX2_execute_4 : decode cX2_execute 4 = .ok (.istore 4, 2) := dk_54 4 (dk_at dksX2_execute_0 4 rfl rfl)
theorem dX2_execute_6 : decode cX2_execute 6 = .ok (.aload_n 1, 1) := dk_43 (dk_at dksX2_execute_0 6 rfl rfl)
theorem dX2_execute_7 : decode cX2_execute 7 = .ok (.invokevirtual 44, 3) := dk_182 0 44 (dk_at dksX2_execute_0 7 rfl rfl)
theorem dX2_execute_10 : decode cX2_execute 10 = .ok (.istore 5, 2) := dk_54 5 (dk_at dksX2_execute_0 10 rfl rfl)
theorem dX2_execute_12 : decode cX2_execute 12 = .ok (.aload_n 1, 1) := dk_43 (dk_at dksX2_execute_0 12 rfl rfl)
theorem dX2_execute_13 : decode cX2_execute 13 = .ok (.invokevirtual 47, 3) := dk_182 0 47 (dk_at dksX2_execute_0 13 rfl rfl)
theorem dX2_execute_16 : decode cX2_execute 16 = .ok (.istore 6, 2) := dk_54 6 (dk_at dksX2_execute_0 16 rfl rfl)
theorem dX2_execute_18 : decode cX2_execute 18 = .ok (.aload_n 1, 1) := dk_43 (dk_at dksX2_execute_0 18 rfl rfl)
theorem dX2_execute_19 : decode cX2_execute 19 = .ok (.invokevirtual 50, 3) := dk_182 0 50 (dk_at dksX2_execute_0 19 rfl rfl)
theorem dX2_execute_22 : decode cX2_execute 22 = .ok (.invokevirtual 54, 3) := dk_182 0 54 (dk_at dksX2_execute_1 0 rfl rfl)
theorem dX2_execute_25 : decode cX2_execute 25 = .ok (.tableswitch 93 0 3 #[31, 46, 58, 73], 31) := by decide +kernel
theorem dX2_execute_56 : decode cX2_execute 56 = .ok (.aload_n 0, 1) := dk_42 (dk_at dksX2_execute_3 0 rfl rfl)
theorem dX2_execute_57 : decode cX2_execute 57 = .ok (.getfield 15, 3) := dk_180 0 15 (dk_at dksX2_execute_3 1 rfl rfl)
theorem dX2_execute_60 : decode cX2_execute 60 = .ok (.iload 4, 2) := dk_21 4 (dk_at dksX2_execute_3 4 rfl rfl)
theorem dX2_execute_62 : decode cX2_execute 62 = .ok (.aload_n 0, 1) := dk_42 (dk_at dksX2_execute_3 6 rfl rfl)
theorem dX2_execute_63 : decode cX2_execute 63 = .ok (.aload_n 3, 1) := dk_45 (dk_at dksX2_execute_3 7 rfl rfl)
theorem dX2_execute_64 : decode cX2_execute 64 = .ok (.invokevirtual 59, 3) := dk_182 0 59 (dk_at dksX2_execute_3 8 rfl rfl)
theorem dX2_execute_67 : decode cX2_execute 67 = .ok (.iastore, 1) := dk_79 (dk_at dksX2_execute_3 11 rfl rfl)
theorem dX2_execute_68 : decode cX2_execute 68 = .ok (.goto 50, 3) := dk_167 0 50 (dk_at dksX2_execute_3 12 rfl rfl)
theorem dX2_execute_71 : decode cX2_execute 71 = .ok (.aload_n 0, 1) := dk_42 (dk_at dksX2_execute_3 15 rfl rfl)
theorem dX2_execute_72 : decode cX2_execute 72 = .ok (.getfield 15, 3) := dk_180 0 15 (dk_at dksX2_execute_3 16 rfl rfl)
theorem dX2_execute_75 : decode cX2_execute 75 = .ok (.iload 4, 2) := dk_21 4 (dk_at dksX2_execute_3 19 rfl rfl)
theorem dX2_execute_77 : decode cX2_execute 77 = .ok (.iload 5, 2) := dk_21 5 (dk_at dksX2_execute_3 21 rfl rfl)
theorem dX2_execute_79 : decode cX2_execute 79 = .ok (.iastore, 1) := dk_79 (dk_at dksX2_execute_3 23 rfl rfl)
theorem dX2_execute_80 : decode cX2_execute 80 = .ok (.goto 38, 3) := dk_167 0 38 (dk_at dksX2_execute_4 0 rfl rfl)
theorem dX2_execute_83 : decode cX2_execute 83 = .ok (.aload_n 0, 1) := dk_42 (dk_at dksX2_execute_4 3 rfl rfl)
theorem dX2_execute_84 : decode cX2_execute 84 = .ok (.getfield 15, 3) := dk_180 0 15 (dk_at dksX2_execute_4 4 rfl rfl)
theorem dX2_execute_87 : decode cX2_execute 87 = .ok (.iload 4, 2) := dk_21 4 (dk_at dksX2_execute_4 7 rfl rfl)
theorem dX2_execute_89 : decode cX2_execute 89 = .ok (.dup2, 1) := dk_92 (dk_at dksX2_execute_4 9 rfl rfl)
theorem dX2_execute_90 : decode cX2_execute 90 = .ok (.iaload, 1) := dk_46 (dk_at dksX2_execute_4 10 rfl rfl)
theorem dX2_execute_91 : decode cX2_execute 91 = .ok (.iload 5, 2) := dk_21 5 (dk_at dksX2_execute_4 11 rfl rfl)
theorem dX2_execute_93 : decode cX2_execute 93 = .ok (.iadd, 1) := dk_96 (dk_at dksX2_execute_4 13 rfl rfl)
theorem dX2_execute_94 : decode cX2_execute 94 = .ok (.iastore, 1) := dk_79 (dk_at dksX2_execute_4 14 rfl rfl)
theorem dX2_execute_95 : decode cX2_execute 95 = .ok (.goto 23, 3) := dk_167 0 23 (dk_at dksX2_execute_4 15 rfl rfl)
theorem dX2_execute_98 : decode cX2_execute 98 = .ok (.aload_n 0, 1) := dk_42 (dk_at dksX2_execute_4 18 rfl rfl)
theorem dX2_execute_99 : decode cX2_execute 99 = .ok (.getfield 15, 3) := dk_180 0 15 (dk_at dksX2_execute_4 19 rfl rfl)
theorem dX2_execute_102 : decode cX2_execute 102 = .ok (.iload 4, 2) := dk_21 4 (dk_at dksX2_execute_4 22 rfl rfl)
theorem dX2_execute_104 : decode cX2_execute 104 = .ok (.dup2, 1) := dk_92 (dk_at dksX2_execute_5 0 rfl rfl)
theorem dX2_execute_105 : decode cX2_execute 105 = .ok (.iaload, 1) := dk_46 (dk_at dksX2_execute_5 1 rfl rfl)
theorem dX2_execute_106 : decode cX2_execute 106 = .ok (.aload_n 0, 1) := dk_42 (dk_at dksX2_execute_5 2 rfl rfl)
theorem dX2_execute_107 : decode cX2_execute 107 = .ok (.getfield 15, 3) := dk_180 0 15 (dk_at dksX2_execute_5 3 rfl rfl)
theorem dX2_execute_110 : decode cX2_execute 110 = .ok (.iload 6, 2) := dk_21 6 (dk_at dksX2_execute_5 6 rfl rfl)
theorem dX2_execute_112 : decode cX2_execute 112 = .ok (.iaload, 1) := dk_46 (dk_at dksX2_execute_5 8 rfl rfl)
theorem dX2_execute_113 : decode cX2_execute 113 = .ok (.iadd, 1) := dk_96 (dk_at dksX2_execute_5 9 rfl rfl)
theorem dX2_execute_114 : decode cX2_execute 114 = .ok (.iastore, 1) := dk_79 (dk_at dksX2_execute_5 10 rfl rfl)
theorem dX2_execute_115 : decode cX2_execute 115 = .ok (.goto 3, 3) := dk_167 0 3 (dk_at dksX2_execute_5 11 rfl rfl)
theorem dX2_execute_118 : decode cX2_execute 118 = .ok (.aload_n 1, 1) := dk_43 (dk_at dksX2_execute_5 14 rfl rfl)
theorem dX2_execute_119 : decode cX2_execute 119 = .ok (.invokevirtual 50, 3) := dk_182 0 50 (dk_at dksX2_execute_5 15 rfl rfl)
theorem dX2_execute_122 : decode cX2_execute 122 = .ok (.invokevirtual 54, 3) := dk_182 0 54 (dk_at dksX2_execute_5 18 rfl rfl)
theorem dX2_execute_125 : decode cX2_execute 125 = .ok (.tableswitch 90 4 8 #[35, 58, 81, 86, 86], 35) := by decide +kernel
theorem dX2_execute_160 : decode cX2_execute 160 = .ok (.aload_n 0, 1) := dk_42 (dk_at dksX2_execute_7 0 rfl rfl)
theorem dX2_execute_161 : decode cX2_execute 161 = .ok (.getfield 15, 3) := dk_180 0 15 (dk_at dksX2_execute_7 1 rfl rfl)
theorem dX2_execute_164 : decode cX2_execute 164 = .ok (.iload 4, 2) := dk_21 4 (dk_at dksX2_execute_7 4 rfl rfl)
theorem dX2_execute_166 : decode cX2_execute 166 = .ok (.iaload, 1) := dk_46 (dk_at dksX2_execute_7 6 rfl rfl)
theorem dX2_execute_167 : decode cX2_execute 167 = .ok (.iload 5, 2) := dk_21 5 (dk_at dksX2_execute_7 7 rfl rfl)
theorem dX2_execute_169 : decode cX2_execute 169 = .ok (.if_icmp .ge 8, 3) := dk_162 0 8 (dk_at dksX2_execute_7 9 rfl rfl)
theorem dX2_execute_172 : decode cX2_execute 172 = .ok (.iload 6, 2) := dk_21 6 (dk_at dksX2_execute_7 12 rfl rfl)
theorem dX2_execute_174 : decode cX2_execute 174 = .ok (.goto 44, 3) := dk_167 0 44 (dk_at dksX2_execute_7 14 rfl rfl)
theorem dX2_execute_177 : decode cX2_execute 177 = .ok (.iload_n 2, 1) := dk_28 (dk_at dksX2_execute_7 17 rfl rfl)
theorem dX2_execute_178 : decode cX2_execute 178 = .ok (.iconst 1, 1) := dk_4 (dk_at dksX2_execute_7 18 rfl rfl)
theorem dX2_execute_179 : decode cX2_execute 179 = .ok (.iadd, 1) := dk_96 (dk_at dksX2_execute_7 19 rfl rfl)
theorem dX2_execute_180 : decode cX2_execute 180 = .ok (.goto 38, 3) := dk_167 0 38 (dk_at dksX2_execute_7 20 rfl rfl)
theorem dX2_execute_183 : decode cX2_execute 183 = .ok (.aload_n 0, 1) := dk_42 (dk_at dksX2_execute_7 23 rfl rfl)
theorem dX2_execute_184 : decode cX2_execute 184 = .ok (.getfield 15, 3) := dk_180 0 15 (dk_at dksX2_execute_8 0 rfl rfl)
theorem dX2_execute_187 : decode cX2_execute 187 = .ok (.iload 4, 2) := dk_21 4 (dk_at dksX2_execute_8 3 rfl rfl)
theorem dX2_execute_189 : decode cX2_execute 189 = .ok (.iaload, 1) := dk_46 (dk_at dksX2_execute_8 5 rfl rfl)
theorem dX2_execute_190 : decode cX2_execute 190 = .ok (.iload 5, 2) := dk_21 5 (dk_at dksX2_execute_8 6 rfl rfl)
theorem dX2_execute_192 : decode cX2_execute 192 = .ok (.if_icmp .ne 8, 3) := dk_160 0 8 (dk_at dksX2_execute_8 8 rfl rfl)
theorem dX2_execute_195 : decode cX2_execute 195 = .ok (.iload 6, 2) := dk_21 6 (dk_at dksX2_execute_8 11 rfl rfl)
theorem dX2_execute_197 : decode cX2_execute 197 = .ok (.goto 21, 3) := dk_167 0 21 (dk_at dksX2_execute_8 13 rfl rfl)
theorem dX2_execute_200 : decode cX2_execute 200 = .ok (.iload_n 2, 1) := dk_28 (dk_at dksX2_execute_8 16 rfl rfl)
theorem dX2_execute_201 : decode cX2_execute 201 = .ok (.iconst 1, 1) := dk_4 (dk_at dksX2_execute_8 17 rfl rfl)
theorem dX2_execute_202 : decode cX2_execute 202 = .ok (.iadd, 1) := dk_96 (dk_at dksX2_execute_8 18 rfl rfl)
theorem dX2_execute_203 : decode cX2_execute 203 = .ok (.goto 15, 3) := dk_167 0 15 (dk_at dksX2_execute_8 19 rfl rfl)
theorem dX2_execute_206 : decode cX2_execute 206 = .ok (.iload 6, 2) := dk_21 6 (dk_at dksX2_execute_8 22 rfl rfl)
theorem dX2_execute_208 : decode cX2_execute 208 = .ok (.goto 10, 3) := dk_167 0 10 (dk_at dksX2_execute_9 0 rfl rfl)
theorem dX2_execute_211 : decode cX2_execute 211 = .ok (.iconst (-1), 1) := dk_2 (dk_at dksX2_execute_9 3 rfl rfl)
theorem dX2_execute_212 : decode cX2_execute 212 = .ok (.goto 6, 3) := dk_167 0 6 (dk_at dksX2_execute_9 4 rfl rfl)
theorem dX2_execute_215 : decode cX2_execute 215 = .ok (.iload_n 2, 1) := dk_28 (dk_at dksX2_execute_9 7 rfl rfl)
theorem dX2_execute_216 : decode cX2_execute 216 = .ok (.iconst 1, 1) := dk_4 (dk_at dksX2_execute_9 8 rfl rfl)
theorem dX2_execute_217 : decode cX2_execute 217 = .ok (.iadd, 1) := dk_96 (dk_at dksX2_execute_9 9 rfl rfl)
theorem dX2_execute_218 : decode cX2_execute 218 = .ok (.ireturn, 1) := dk_172 (dk_at dksX2_execute_9 10 rfl rfl)
abbrev cX2_nextDigit : ByteArray := prog_10_method_2_code
def yX2_nextDigit : MethodName := ⟨RX2, "nextDigit", "(LShrinkYard$Digits;)I"⟩
def dkwX2_nextDigit_1 : List UInt8 := [61, 42, 89, 180, 0, 26, 4, 96, 181, 0, 26, 28, 172]
abbrev dktX2_nextDigit_1 : List UInt8 := dkwX2_nextDigit_1 ++ []
def dkwX2_nextDigit_0 : List UInt8 := [42, 180, 0, 26, 43, 180, 0, 30, 162, 0, 15, 43, 180, 0, 35, 42, 180, 0, 26, 46, 167, 0, 4, 2]
abbrev dktX2_nextDigit_0 : List UInt8 := dkwX2_nextDigit_0 ++ dktX2_nextDigit_1
theorem dksX2_nextDigit_0 : cX2_nextDigit.data.toList.drop 0 = dktX2_nextDigit_0 := by decide +kernel
theorem dksX2_nextDigit_1 : cX2_nextDigit.data.toList.drop 24 = dktX2_nextDigit_1 := dk_seg dksX2_nextDigit_0 24 rfl rfl
theorem dX2_nextDigit_0 : decode cX2_nextDigit 0 = .ok (.aload_n 0, 1) := dk_42 (dk_at dksX2_nextDigit_0 0 rfl rfl)
theorem dX2_nextDigit_1 : decode cX2_nextDigit 1 = .ok (.getfield 26, 3) := dk_180 0 26 (dk_at dksX2_nextDigit_0 1 rfl rfl)
theorem dX2_nextDigit_4 : decode cX2_nextDigit 4 = .ok (.aload_n 1, 1) := dk_43 (dk_at dksX2_nextDigit_0 4 rfl rfl)
theorem dX2_nextDigit_5 : decode cX2_nextDigit 5 = .ok (.getfield 30, 3) := dk_180 0 30 (dk_at dksX2_nextDigit_0 5 rfl rfl)
theorem dX2_nextDigit_8 : decode cX2_nextDigit 8 = .ok (.if_icmp .ge 15, 3) := dk_162 0 15 (dk_at dksX2_nextDigit_0 8 rfl rfl)
theorem dX2_nextDigit_11 : decode cX2_nextDigit 11 = .ok (.aload_n 1, 1) := dk_43 (dk_at dksX2_nextDigit_0 11 rfl rfl)
theorem dX2_nextDigit_12 : decode cX2_nextDigit 12 = .ok (.getfield 35, 3) := dk_180 0 35 (dk_at dksX2_nextDigit_0 12 rfl rfl)
theorem dX2_nextDigit_15 : decode cX2_nextDigit 15 = .ok (.aload_n 0, 1) := dk_42 (dk_at dksX2_nextDigit_0 15 rfl rfl)
theorem dX2_nextDigit_16 : decode cX2_nextDigit 16 = .ok (.getfield 26, 3) := dk_180 0 26 (dk_at dksX2_nextDigit_0 16 rfl rfl)
theorem dX2_nextDigit_19 : decode cX2_nextDigit 19 = .ok (.iaload, 1) := dk_46 (dk_at dksX2_nextDigit_0 19 rfl rfl)
theorem dX2_nextDigit_20 : decode cX2_nextDigit 20 = .ok (.goto 4, 3) := dk_167 0 4 (dk_at dksX2_nextDigit_0 20 rfl rfl)
theorem dX2_nextDigit_23 : decode cX2_nextDigit 23 = .ok (.iconst (-1), 1) := dk_2 (dk_at dksX2_nextDigit_0 23 rfl rfl)
theorem dX2_nextDigit_24 : decode cX2_nextDigit 24 = .ok (.istore_n 2, 1) := dk_61 (dk_at dksX2_nextDigit_1 0 rfl rfl)
theorem dX2_nextDigit_25 : decode cX2_nextDigit 25 = .ok (.aload_n 0, 1) := dk_42 (dk_at dksX2_nextDigit_1 1 rfl rfl)
theorem dX2_nextDigit_26 : decode cX2_nextDigit 26 = .ok (.dup, 1) := dk_89 (dk_at dksX2_nextDigit_1 2 rfl rfl)
theorem dX2_nextDigit_27 : decode cX2_nextDigit 27 = .ok (.getfield 26, 3) := dk_180 0 26 (dk_at dksX2_nextDigit_1 3 rfl rfl)
theorem dX2_nextDigit_30 : decode cX2_nextDigit 30 = .ok (.iconst 1, 1) := dk_4 (dk_at dksX2_nextDigit_1 6 rfl rfl)
theorem dX2_nextDigit_31 : decode cX2_nextDigit 31 = .ok (.iadd, 1) := dk_96 (dk_at dksX2_nextDigit_1 7 rfl rfl)
theorem dX2_nextDigit_32 : decode cX2_nextDigit 32 = .ok (.putfield 26, 3) := dk_181 0 26 (dk_at dksX2_nextDigit_1 8 rfl rfl)
theorem dX2_nextDigit_35 : decode cX2_nextDigit 35 = .ok (.iload_n 2, 1) := dk_28 (dk_at dksX2_nextDigit_1 11 rfl rfl)
theorem dX2_nextDigit_36 : decode cX2_nextDigit 36 = .ok (.ireturn, 1) := dk_172 (dk_at dksX2_nextDigit_1 12 rfl rfl)
abbrev cX2_end : ByteArray := prog_10_method_4_code
def yX2_end : MethodName := ⟨RX2, "end", "(LInstruction;)V"⟩
def dkwX2_end_1 : List UInt8 := [43, 182, 0, 44, 181, 0, 79, 177]
abbrev dktX2_end_1 : List UInt8 := dkwX2_end_1 ++ []
def dkwX2_end_0 : List UInt8 := [42, 43, 182, 0, 50, 178, 0, 63, 166, 0, 9, 178, 0, 67, 167, 0, 6, 178, 0, 73, 181, 0, 76, 42]
abbrev dktX2_end_0 : List UInt8 := dkwX2_end_0 ++ dktX2_end_1
theorem dksX2_end_0 : cX2_end.data.toList.drop 0 = dktX2_end_0 := by decide +kernel
theorem dksX2_end_1 : cX2_end.data.toList.drop 24 = dktX2_end_1 := dk_seg dksX2_end_0 24 rfl rfl
theorem dX2_end_0 : decode cX2_end 0 = .ok (.aload_n 0, 1) := dk_42 (dk_at dksX2_end_0 0 rfl rfl)
theorem dX2_end_1 : decode cX2_end 1 = .ok (.aload_n 1, 1) := dk_43 (dk_at dksX2_end_0 1 rfl rfl)
theorem dX2_end_2 : decode cX2_end 2 = .ok (.invokevirtual 50, 3) := dk_182 0 50 (dk_at dksX2_end_0 2 rfl rfl)
theorem dX2_end_5 : decode cX2_end 5 = .ok (.getstatic 63, 3) := dk_178 0 63 (dk_at dksX2_end_0 5 rfl rfl)
theorem dX2_end_8 : decode cX2_end 8 = .ok (.if_acmp .ne 9, 3) := dk_166 0 9 (dk_at dksX2_end_0 8 rfl rfl)
theorem dX2_end_11 : decode cX2_end 11 = .ok (.getstatic 67, 3) := dk_178 0 67 (dk_at dksX2_end_0 11 rfl rfl)
theorem dX2_end_14 : decode cX2_end 14 = .ok (.goto 6, 3) := dk_167 0 6 (dk_at dksX2_end_0 14 rfl rfl)
theorem dX2_end_17 : decode cX2_end 17 = .ok (.getstatic 73, 3) := dk_178 0 73 (dk_at dksX2_end_0 17 rfl rfl)
theorem dX2_end_20 : decode cX2_end 20 = .ok (.putfield 76, 3) := dk_181 0 76 (dk_at dksX2_end_0 20 rfl rfl)
theorem dX2_end_23 : decode cX2_end 23 = .ok (.aload_n 0, 1) := dk_42 (dk_at dksX2_end_0 23 rfl rfl)
theorem dX2_end_24 : decode cX2_end 24 = .ok (.aload_n 1, 1) := dk_43 (dk_at dksX2_end_1 0 rfl rfl)
theorem dX2_end_25 : decode cX2_end 25 = .ok (.invokevirtual 44, 3) := dk_182 0 44 (dk_at dksX2_end_1 1 rfl rfl)
theorem dX2_end_28 : decode cX2_end 28 = .ok (.putfield 79, 3) := dk_181 0 79 (dk_at dksX2_end_1 4 rfl rfl)
theorem dX2_end_31 : decode cX2_end 31 = .ok (.return_, 1) := dk_177 (dk_at dksX2_end_1 7 rfl rfl)
abbrev cX2_isFailing : ByteArray := prog_10_method_6_code
def yX2_isFailing : MethodName := ⟨RX2, "isFailing", "(LShrinkYard$Digits;I)Z"⟩
def dkwX2_isFailing_1 : List UInt8 := [167, 0, 4, 3, 172]
abbrev dktX2_isFailing_1 : List UInt8 := dkwX2_isFailing_1 ++ []
def dkwX2_isFailing_0 : List UInt8 := [42, 43, 182, 0, 126, 42, 180, 0, 76, 178, 0, 67, 166, 0, 15, 42, 180, 0, 79, 28, 160, 0, 7, 4]
abbrev dktX2_isFailing_0 : List UInt8 := dkwX2_isFailing_0 ++ dktX2_isFailing_1
theorem dksX2_isFailing_0 : cX2_isFailing.data.toList.drop 0 = dktX2_isFailing_0 := by decide +kernel
theorem dksX2_isFailing_1 : cX2_isFailing.data.toList.drop 24 = dktX2_isFailing_1 := dk_seg dksX2_isFailing_0 24 rfl rfl
theorem dX2_isFailing_0 : decode cX2_isFailing 0 = .ok (.aload_n 0, 1) := dk_42 (dk_at dksX2_isFailing_0 0 rfl rfl)
theorem dX2_isFailing_1 : decode cX2_isFailing 1 = .ok (.aload_n 1, 1) := dk_43 (dk_at dksX2_isFailing_0 1 rfl rfl)
theorem dX2_isFailing_2 : decode cX2_isFailing 2 = .ok (.invokevirtual 126, 3) := dk_182 0 126 (dk_at dksX2_isFailing_0 2 rfl rfl)
theorem dX2_isFailing_5 : decode cX2_isFailing 5 = .ok (.aload_n 0, 1) := dk_42 (dk_at dksX2_isFailing_0 5 rfl rfl)
theorem dX2_isFailing_6 : decode cX2_isFailing 6 = .ok (.getfield 76, 3) := dk_180 0 76 (dk_at dksX2_isFailing_0 6 rfl rfl)
theorem dX2_isFailing_9 : decode cX2_isFailing 9 = .ok (.getstatic 67, 3) := dk_178 0 67 (dk_at dksX2_isFailing_0 9 rfl rfl)
theorem dX2_isFailing_12 : decode cX2_isFailing 12 = .ok (.if_acmp .ne 15, 3) := dk_166 0 15 (dk_at dksX2_isFailing_0 12 rfl rfl)
theorem dX2_isFailing_15 : decode cX2_isFailing 15 = .ok (.aload_n 0, 1) := dk_42 (dk_at dksX2_isFailing_0 15 rfl rfl)
theorem dX2_isFailing_16 : decode cX2_isFailing 16 = .ok (.getfield 79, 3) := dk_180 0 79 (dk_at dksX2_isFailing_0 16 rfl rfl)
theorem dX2_isFailing_19 : decode cX2_isFailing 19 = .ok (.iload_n 2, 1) := dk_28 (dk_at dksX2_isFailing_0 19 rfl rfl)
theorem dX2_isFailing_20 : decode cX2_isFailing 20 = .ok (.if_icmp .ne 7, 3) := dk_160 0 7 (dk_at dksX2_isFailing_0 20 rfl rfl)
theorem dX2_isFailing_23 : decode cX2_isFailing 23 = .ok (.iconst 1, 1) := dk_4 (dk_at dksX2_isFailing_0 23 rfl rfl)
theorem dX2_isFailing_24 : decode cX2_isFailing 24 = .ok (.goto 4, 3) := dk_167 0 4 (dk_at dksX2_isFailing_1 0 rfl rfl)
theorem dX2_isFailing_27 : decode cX2_isFailing 27 = .ok (.iconst 0, 1) := dk_3 (dk_at dksX2_isFailing_1 3 rfl rfl)
theorem dX2_isFailing_28 : decode cX2_isFailing 28 = .ok (.ireturn, 1) := dk_172 (dk_at dksX2_isFailing_1 4 rfl rfl)
theorem q38 : (Jvm.Cond.initialized "ShrinkYard$Machine") ∈ lw_all := lw_g (lw_at lw_m1 5 rfl) rfl
theorem q159 : (Jvm.Cond.instantiable "ShrinkYard$Machine" (7 : Nat)) ∈ lw_all := lw_g (lw_at lw_m1 126 rfl) rfl
theorem q161 : (Jvm.Cond.instanceMethod ({ cls := "ShrinkYard$Machine", name := "<init>", desc := "(LShrinkYard;)V" } : Jvm.MethodName)) ∈ lw_all := lw_g (lw_at lw_m1 128 rfl) rfl
theorem q162 : (Jvm.Cond.code ({ cls := "ShrinkYard$Machine", name := "<init>", desc := "(LShrinkYard;)V" } : Jvm.MethodName) prog_10_method_1_code (2 : Nat) (Option.none : Option Jvm.ClassFile.FieldType)) ∈ lw_all := lw_g (lw_at lw_m1 129 rfl) rfl
theorem q163 : (Jvm.Cond.methodLink "ShrinkYard$Machine" (9 : Nat) ({ cls := "java/lang/Object", name := "<init>", desc := "()V" } : Jvm.MethodName)) ∈ lw_all := lw_g (lw_at lw_m1 130 rfl) rfl
theorem q164 : (Jvm.Cond.classLink "ShrinkYard$Machine" (19 : Nat) "java/util/BitSet") ∈ lw_all := lw_g (lw_at lw_m1 131 rfl) rfl
theorem q166 : (Jvm.Cond.methodLink "ShrinkYard$Machine" (21 : Nat) ({ cls := "java/util/BitSet", name := "<init>", desc := "()V" } : Jvm.MethodName)) ∈ lw_all := lw_g (lw_at lw_m1 133 rfl) rfl
theorem q189 : (Jvm.Cond.fieldLink "ShrinkYard$Machine" (15 : Nat) "ShrinkYard$Machine" "registers" "[I") ∈ lw_all := lw_g (lw_at lw_m1 156 rfl) rfl
theorem q190 : (Jvm.Cond.fieldLink "ShrinkYard$Machine" (22 : Nat) "ShrinkYard$Machine" "edges" "Ljava/util/BitSet;") ∈ lw_all := lw_g (lw_at lw_m1 157 rfl) rfl
theorem q192 : (Jvm.Cond.fieldLink "ShrinkYard$Machine" (76 : Nat) "ShrinkYard$Machine" "verdict" "LVerdict;") ∈ lw_all := lw_g (lw_at lw_m1 159 rfl) rfl
theorem q194 : (Jvm.Cond.fieldLink "ShrinkYard$Machine" (79 : Nat) "ShrinkYard$Machine" "code" "I") ∈ lw_all := lw_g (lw_at lw_m1 161 rfl) rfl
theorem q196 : (Jvm.Cond.fieldLink "ShrinkYard$Machine" (85 : Nat) "ShrinkYard$Machine" "steps" "I") ∈ lw_all := lw_g (lw_at lw_m1 163 rfl) rfl
theorem q198 : (Jvm.Cond.fieldLink "ShrinkYard$Machine" (26 : Nat) "ShrinkYard$Machine" "read" "I") ∈ lw_all := lw_g (lw_at lw_m1 165 rfl) rfl
theorem q199 : (Jvm.Cond.fieldLink "ShrinkYard$Machine" (3 : Nat) "ShrinkYard$Machine" "this$0" "LShrinkYard;") ∈ lw_all := lw_g (lw_at lw_m1 166 rfl) rfl
theorem q200 : (Jvm.Cond.laysFinal "ShrinkYard$Machine" "ShrinkYard$Machine" "registers" "[I") ∈ lw_all := lw_g (lw_at lw_m1 167 rfl) rfl
theorem q201 : (Jvm.Cond.soleField "ShrinkYard$Machine" "registers") ∈ lw_all := lw_g (lw_at lw_m1 168 rfl) rfl
theorem q202 : (Jvm.Cond.laysFinal "ShrinkYard$Machine" "ShrinkYard$Machine" "edges" "Ljava/util/BitSet;") ∈ lw_all := lw_g (lw_at lw_m1 169 rfl) rfl
theorem q203 : (Jvm.Cond.soleField "ShrinkYard$Machine" "edges") ∈ lw_all := lw_g (lw_at lw_m1 170 rfl) rfl
theorem q204 : (Jvm.Cond.lays "ShrinkYard$Machine" "ShrinkYard$Machine" "verdict" "LVerdict;") ∈ lw_all := lw_g (lw_at lw_m1 171 rfl) rfl
theorem q205 : (Jvm.Cond.soleField "ShrinkYard$Machine" "verdict") ∈ lw_all := lw_g (lw_at lw_m1 172 rfl) rfl
theorem q206 : (Jvm.Cond.lays "ShrinkYard$Machine" "ShrinkYard$Machine" "code" "I") ∈ lw_all := lw_g (lw_at lw_m1 173 rfl) rfl
theorem q207 : (Jvm.Cond.soleField "ShrinkYard$Machine" "code") ∈ lw_all := lw_g (lw_at lw_m1 174 rfl) rfl
theorem q208 : (Jvm.Cond.lays "ShrinkYard$Machine" "ShrinkYard$Machine" "steps" "I") ∈ lw_all := lw_g (lw_at lw_m1 175 rfl) rfl
theorem q209 : (Jvm.Cond.soleField "ShrinkYard$Machine" "steps") ∈ lw_all := lw_g (lw_at lw_m1 176 rfl) rfl
theorem q210 : (Jvm.Cond.lays "ShrinkYard$Machine" "ShrinkYard$Machine" "read" "I") ∈ lw_all := lw_g (lw_at lw_m1 177 rfl) rfl
theorem q211 : (Jvm.Cond.soleField "ShrinkYard$Machine" "read") ∈ lw_all := lw_g (lw_at lw_m1 178 rfl) rfl
theorem q212 : (Jvm.Cond.laysFinal "ShrinkYard$Machine" "ShrinkYard$Machine" "this$0" "LShrinkYard;") ∈ lw_all := lw_g (lw_at lw_m1 179 rfl) rfl
theorem q213 : (Jvm.Cond.soleField "ShrinkYard$Machine" "this$0") ∈ lw_all := lw_g (lw_at lw_m1 180 rfl) rfl
theorem q214 : (Jvm.Cond.superclass "ShrinkYard$Machine" "java/lang/Object") ∈ lw_all := lw_g (lw_at lw_m1 181 rfl) rfl
theorem q284 : (Jvm.Cond.selects "ShrinkYard$Machine" ({ cls := "java/lang/Object", name := "getClass", desc := "()Ljava/lang/Class;" } : Jvm.MethodName) ({ cls := "java/lang/Object", name := "getClass", desc := "()Ljava/lang/Class;" } : Jvm.MethodName)) ∈ lw_all := lw_g (lw_at lw_m2 11 rfl) rfl
theorem q353 : (Jvm.Cond.fieldLinkNest "ShrinkYard$Machine" (88 : Nat) "ShrinkYard" "program" "Ljava/util/List;" "ShrinkYard") ∈ lw_tbl := lw_at lw_m2 80 rfl
theorem q1163 : (Jvm.Cond.fieldLinkNest "ShrinkYard$Machine" (35 : Nat) "ShrinkYard$Digits" "digits" "[I" "ShrinkYard") ∈ lw_tbl := lw_at lw_m5 170 rfl
theorem q1168 : (Jvm.Cond.fieldLinkNest "ShrinkYard$Machine" (30 : Nat) "ShrinkYard$Digits" "length" "I" "ShrinkYard") ∈ lw_tbl := lw_at lw_m5 175 rfl
theorem q1188 : (Jvm.Cond.instanceMethod ({ cls := "ShrinkYard$Machine", name := "run", desc := "(LShrinkYard$Digits;)V" } : Jvm.MethodName)) ∈ lw_all := lw_g (lw_at lw_m5 195 rfl) rfl
theorem q1189 : (Jvm.Cond.selects "ShrinkYard$Machine" ({ cls := "ShrinkYard$Machine", name := "run", desc := "(LShrinkYard$Digits;)V" } : Jvm.MethodName) ({ cls := "ShrinkYard$Machine", name := "run", desc := "(LShrinkYard$Digits;)V" } : Jvm.MethodName)) ∈ lw_all := lw_g (lw_at lw_m5 196 rfl) rfl
theorem q1190 : (Jvm.Cond.code ({ cls := "ShrinkYard$Machine", name := "run", desc := "(LShrinkYard$Digits;)V" } : Jvm.MethodName) prog_10_method_5_code (4 : Nat) (Option.none : Option Jvm.ClassFile.FieldType)) ∈ lw_all := lw_g (lw_at lw_m5 197 rfl) rfl
theorem q1191 : (Jvm.Cond.methodLink "ShrinkYard$Machine" (82 : Nat) ({ cls := "java/util/BitSet", name := "clear", desc := "()V" } : Jvm.MethodName)) ∈ lw_all := lw_g (lw_at lw_m5 198 rfl) rfl
theorem q1192 : (Jvm.Cond.fieldLink "ShrinkYard$Machine" (73 : Nat) "Verdict" "PASSED" "LVerdict;") ∈ lw_all := lw_g (lw_at lw_m5 199 rfl) rfl
theorem q1193 : (Jvm.Cond.interfaceEntry "ShrinkYard$Machine" (92 : Nat)) ∈ lw_tbl := lw_at lw_m5 200 rfl
theorem q1194 : (Jvm.Cond.methodLink "ShrinkYard$Machine" (92 : Nat) ({ cls := "java/util/List", name := "size", desc := "()I" } : Jvm.MethodName)) ∈ lw_all := lw_g (lw_at lw_m5 201 rfl) rfl
theorem q1195 : (Jvm.Cond.methodLinkNest "ShrinkYard$Machine" (97 : Nat) ({ cls := "ShrinkYard", name := "isIn", desc := "(III)Z" } : Jvm.MethodName) "ShrinkYard") ∈ lw_tbl := lw_at lw_m5 202 rfl
theorem q1196 : (Jvm.Cond.interfaceEntry "ShrinkYard$Machine" (101 : Nat)) ∈ lw_tbl := lw_at lw_m5 203 rfl
theorem q1197 : (Jvm.Cond.methodLink "ShrinkYard$Machine" (101 : Nat) ({ cls := "java/util/List", name := "get", desc := "(I)Ljava/lang/Object;" } : Jvm.MethodName)) ∈ lw_all := lw_g (lw_at lw_m5 204 rfl) rfl
theorem q1198 : (Jvm.Cond.classLink "ShrinkYard$Machine" (39 : Nat) "Instruction") ∈ lw_all := lw_g (lw_at lw_m5 205 rfl) rfl
theorem q1199 : (Jvm.Cond.methodLink "ShrinkYard$Machine" (105 : Nat) ({ cls := "ShrinkYard$Machine", name := "execute", desc := "(LInstruction;ILShrinkYard$Digits;)I" } : Jvm.MethodName)) ∈ lw_all := lw_g (lw_at lw_m5 206 rfl) rfl
theorem q1200 : (Jvm.Cond.privateMethod ({ cls := "ShrinkYard$Machine", name := "execute", desc := "(LInstruction;ILShrinkYard$Digits;)I" } : Jvm.MethodName)) ∈ lw_tbl := lw_at lw_m5 207 rfl
theorem q1201 : (Jvm.Cond.instanceMethod ({ cls := "ShrinkYard$Machine", name := "execute", desc := "(LInstruction;ILShrinkYard$Digits;)I" } : Jvm.MethodName)) ∈ lw_all := lw_g (lw_at lw_m5 208 rfl) rfl
theorem q1202 : (Jvm.Cond.code ({ cls := "ShrinkYard$Machine", name := "execute", desc := "(LInstruction;ILShrinkYard$Digits;)I" } : Jvm.MethodName) prog_10_method_3_code (7 : Nat) (Option.some Jvm.ClassFile.FieldType.int)) ∈ lw_all := lw_g (lw_at lw_m5 209 rfl) rfl
theorem q1203 : (Jvm.Cond.methodLink "ShrinkYard$Machine" (38 : Nat) ({ cls := "Instruction", name := "register", desc := "()I" } : Jvm.MethodName)) ∈ lw_all := lw_g (lw_at lw_m5 210 rfl) rfl
theorem q1204 : (Jvm.Cond.methodLink "ShrinkYard$Machine" (44 : Nat) ({ cls := "Instruction", name := "value", desc := "()I" } : Jvm.MethodName)) ∈ lw_all := lw_g (lw_at lw_m5 211 rfl) rfl
theorem q1205 : (Jvm.Cond.methodLink "ShrinkYard$Machine" (47 : Nat) ({ cls := "Instruction", name := "target", desc := "()I" } : Jvm.MethodName)) ∈ lw_all := lw_g (lw_at lw_m5 212 rfl) rfl
theorem q1206 : (Jvm.Cond.methodLink "ShrinkYard$Machine" (50 : Nat) ({ cls := "Instruction", name := "op", desc := "()LOp;" } : Jvm.MethodName)) ∈ lw_all := lw_g (lw_at lw_m5 213 rfl) rfl
theorem q1207 : (Jvm.Cond.methodLink "ShrinkYard$Machine" (54 : Nat) ({ cls := "Op", name := "ordinal", desc := "()I" } : Jvm.MethodName)) ∈ lw_all := lw_g (lw_at lw_m5 214 rfl) rfl
theorem q1210 : (Jvm.Cond.methodLink "ShrinkYard$Machine" (59 : Nat) ({ cls := "ShrinkYard$Machine", name := "nextDigit", desc := "(LShrinkYard$Digits;)I" } : Jvm.MethodName)) ∈ lw_all := lw_g (lw_at lw_m5 217 rfl) rfl
theorem q1211 : (Jvm.Cond.privateMethod ({ cls := "ShrinkYard$Machine", name := "nextDigit", desc := "(LShrinkYard$Digits;)I" } : Jvm.MethodName)) ∈ lw_tbl := lw_at lw_m5 218 rfl
theorem q1212 : (Jvm.Cond.instanceMethod ({ cls := "ShrinkYard$Machine", name := "nextDigit", desc := "(LShrinkYard$Digits;)I" } : Jvm.MethodName)) ∈ lw_all := lw_g (lw_at lw_m5 219 rfl) rfl
theorem q1213 : (Jvm.Cond.code ({ cls := "ShrinkYard$Machine", name := "nextDigit", desc := "(LShrinkYard$Digits;)I" } : Jvm.MethodName) prog_10_method_2_code (3 : Nat) (Option.some Jvm.ClassFile.FieldType.int)) ∈ lw_all := lw_g (lw_at lw_m5 220 rfl) rfl
theorem q1214 : (Jvm.Cond.methodLink "ShrinkYard$Machine" (109 : Nat) ({ cls := "ShrinkYard$Machine", name := "end", desc := "(LInstruction;)V" } : Jvm.MethodName)) ∈ lw_all := lw_g (lw_at lw_m5 221 rfl) rfl
theorem q1215 : (Jvm.Cond.privateMethod ({ cls := "ShrinkYard$Machine", name := "end", desc := "(LInstruction;)V" } : Jvm.MethodName)) ∈ lw_tbl := lw_at lw_m5 222 rfl
theorem q1216 : (Jvm.Cond.instanceMethod ({ cls := "ShrinkYard$Machine", name := "end", desc := "(LInstruction;)V" } : Jvm.MethodName)) ∈ lw_all := lw_g (lw_at lw_m5 223 rfl) rfl
theorem q1217 : (Jvm.Cond.code ({ cls := "ShrinkYard$Machine", name := "end", desc := "(LInstruction;)V" } : Jvm.MethodName) prog_10_method_4_code (2 : Nat) (Option.none : Option Jvm.ClassFile.FieldType)) ∈ lw_all := lw_g (lw_at lw_m5 224 rfl) rfl
theorem q1218 : (Jvm.Cond.fieldLink "ShrinkYard$Machine" (63 : Nat) "Op" "FAIL" "LOp;") ∈ lw_all := lw_g (lw_at lw_m5 225 rfl) rfl
theorem q1219 : (Jvm.Cond.fieldLink "ShrinkYard$Machine" (67 : Nat) "Verdict" "FAILED" "LVerdict;") ∈ lw_all := lw_g (lw_at lw_m5 226 rfl) rfl
theorem q1220 : (Jvm.Cond.fieldLink "ShrinkYard$Machine" (113 : Nat) "Verdict" "HUNG" "LVerdict;") ∈ lw_all := lw_g (lw_at lw_m5 227 rfl) rfl
theorem q1221 : (Jvm.Cond.methodLink "ShrinkYard$Machine" (116 : Nat) ({ cls := "java/lang/Math", name := "min", desc := "(II)I" } : Jvm.MethodName)) ∈ lw_all := lw_g (lw_at lw_m5 228 rfl) rfl
theorem q1222 : (Jvm.Cond.methodLink "ShrinkYard$Machine" (122 : Nat) ({ cls := "java/util/BitSet", name := "set", desc := "(I)V" } : Jvm.MethodName)) ∈ lw_all := lw_g (lw_at lw_m5 229 rfl) rfl
theorem q1545 : (Jvm.Cond.instanceMethod ({ cls := "ShrinkYard$Machine", name := "isFailing", desc := "(LShrinkYard$Digits;I)Z" } : Jvm.MethodName)) ∈ lw_all := lw_g (lw_at lw_m7 72 rfl) rfl
theorem q1546 : (Jvm.Cond.selects "ShrinkYard$Machine" ({ cls := "ShrinkYard$Machine", name := "isFailing", desc := "(LShrinkYard$Digits;I)Z" } : Jvm.MethodName) ({ cls := "ShrinkYard$Machine", name := "isFailing", desc := "(LShrinkYard$Digits;I)Z" } : Jvm.MethodName)) ∈ lw_all := lw_g (lw_at lw_m7 73 rfl) rfl
theorem q1547 : (Jvm.Cond.code ({ cls := "ShrinkYard$Machine", name := "isFailing", desc := "(LShrinkYard$Digits;I)Z" } : Jvm.MethodName) prog_10_method_6_code (3 : Nat) (Option.some Jvm.ClassFile.FieldType.boolean)) ∈ lw_all := lw_g (lw_at lw_m7 74 rfl) rfl
theorem q1548 : (Jvm.Cond.methodLink "ShrinkYard$Machine" (126 : Nat) ({ cls := "ShrinkYard$Machine", name := "run", desc := "(LShrinkYard$Digits;)V" } : Jvm.MethodName)) ∈ lw_all := lw_g (lw_at lw_m7 75 rfl) rfl
theorem q2240 : (Jvm.Cond.castable "ShrinkYard$Machine" "java/lang/Object") ∈ lw_tbl := lw_at lw_m10 47 rfl
theorem in_X2 : ∀ w ∈ wsX20, w ∈ lw_all := lw_in wsX20 [200, 202, 204, 206, 208, 210, 212] (by decide +kernel) (by decide +kernel)
