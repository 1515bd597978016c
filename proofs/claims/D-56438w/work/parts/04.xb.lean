/-! ShrinkYard -/
set_option maxRecDepth 100000
def RX1 : String := "ShrinkYard"
def TX1 : u_T := fun k => match k with
  | 0 => ("ShrinkYard", "program", "Ljava/util/List;", true)
  | 1 => ("ShrinkYard", "changes", "Ljava/util/List;", true)
  | 2 => ("ShrinkYard", "alternatives", "Ljava/util/List;", true)
  | 3 => ("ShrinkYard", "machine", "LShrinkYard$Machine;", true)
  | 4 => ("ShrinkYard", "covered", "Ljava/util/BitSet;", true)
  | 5 => ("ShrinkYard", "kept", "Ljava/util/List;", true)
  | 6 => ("ShrinkYard", "queue", "Ljava/util/LinkedList;", true)
  | 7 => ("ShrinkYard", "findings", "Ljava/util/List;", true)
  | 8 => ("ShrinkYard", "runs", "I", false)
  | 9 => ("ShrinkYard", "totalSteps", "J", false)
  | _ => ("ShrinkYard", "atChange", "I", false)
def tyX1 : Nat → FieldType := fun k => match k with
  | 0 => .object "java/util/List"
  | 1 => .object "java/util/List"
  | 2 => .object "java/util/List"
  | 3 => .object "ShrinkYard$Machine"
  | 4 => .object "java/util/BitSet"
  | 5 => .object "java/util/List"
  | 6 => .object "java/util/LinkedList"
  | 7 => .object "java/util/List"
  | 8 => .int
  | 9 => .long
  | _ => .int
abbrev wsX10 : List Cond := u_ws RX1 TX1 11
theorem nmX1 : ∀ a, a < 11 → ∀ b, b < 11 → a ≠ b → (TX1 a).2.1 ≠ (TX1 b).2.1 := by decide +kernel
theorem tyX1_ok : ∀ k, k < 11 → parseFieldDescriptor (TX1 k).2.2.1 = some (tyX1 k) := by decide +kernel
abbrev cX1_init : ByteArray := prog_5_method_10_code
def yX1_init : MethodName := ⟨RX1, "<init>", "()V"⟩
def dkwX1_init_5 : List UInt8 := [185, 0, 95, 2, 0, 87, 132, 1, 1, 167, 255, 231, 177]
abbrev dktX1_init_5 : List UInt8 := dkwX1_init_5 ++ []
def dkwX1_init_4 : List UInt8 := [181, 0, 92, 3, 60, 27, 7, 162, 0, 26, 42, 180, 0, 63, 187, 0, 53, 89, 183, 0, 55]
abbrev dktX1_init_4 : List UInt8 := dkwX1_init_4 ++ dktX1_init_5
def dkwX1_init_3 : List UInt8 := [181, 0, 82, 42, 187, 0, 85, 89, 183, 0, 87, 181, 0, 88, 42, 187, 0, 53, 89, 183, 0, 55]
abbrev dktX1_init_3 : List UInt8 := dkwX1_init_3 ++ dktX1_init_4
def dkwX1_init_2 : List UInt8 := [181, 0, 71, 42, 187, 0, 75, 89, 183, 0, 77, 181, 0, 78, 42, 187, 0, 53, 89, 183, 0, 55]
abbrev dktX1_init_2 : List UInt8 := dkwX1_init_2 ++ dktX1_init_3
def dkwX1_init_1 : List UInt8 := [181, 0, 60, 42, 187, 0, 53, 89, 183, 0, 55, 181, 0, 63, 42, 187, 0, 66, 89, 42, 183, 0, 68]
abbrev dktX1_init_1 : List UInt8 := dkwX1_init_1 ++ dktX1_init_2
def dkwX1_init_0 : List UInt8 := [42, 183, 0, 50, 42, 187, 0, 53, 89, 183, 0, 55, 181, 0, 56, 42, 187, 0, 53, 89, 183, 0, 55]
abbrev dktX1_init_0 : List UInt8 := dkwX1_init_0 ++ dktX1_init_1
theorem dksX1_init_0 : cX1_init.data.toList.drop 0 = dktX1_init_0 := by decide +kernel
theorem dksX1_init_1 : cX1_init.data.toList.drop 23 = dktX1_init_1 := dk_seg dksX1_init_0 23 rfl rfl
theorem dksX1_init_2 : cX1_init.data.toList.drop 46 = dktX1_init_2 := dk_seg dksX1_init_1 23 rfl rfl
theorem dksX1_init_3 : cX1_init.data.toList.drop 68 = dktX1_init_3 := dk_seg dksX1_init_2 22 rfl rfl
theorem dksX1_init_4 : cX1_init.data.toList.drop 90 = dktX1_init_4 := dk_seg dksX1_init_3 22 rfl rfl
theorem dksX1_init_5 : cX1_init.data.toList.drop 111 = dktX1_init_5 := dk_seg dksX1_init_4 21 rfl rfl
theorem dX1_init_0 : decode cX1_init 0 = .ok (.aload_n 0, 1) := dk_42 (dk_at dksX1_init_0 0 rfl rfl)
theorem dX1_init_1 : decode cX1_init 1 = .ok (.invokespecial 50, 3) := dk_183 0 50 (dk_at dksX1_init_0 1 rfl rfl)
theorem dX1_init_4 : decode cX1_init 4 = .ok (.aload_n 0, 1) := dk_42 (dk_at dksX1_init_0 4 rfl rfl)
theorem dX1_init_5 : decode cX1_init 5 = .ok (.new 53, 3) := dk_187 0 53 (dk_at dksX1_init_0 5 rfl rfl)
theorem dX1_init_8 : decode cX1_init 8 = .ok (.dup, 1) := dk_89 (dk_at dksX1_init_0 8 rfl rfl)
theorem dX1_init_9 : decode cX1_init 9 = .ok (.invokespecial 55, 3) := dk_183 0 55 (dk_at dksX1_init_0 9 rfl rfl)
theorem dX1_init_12 : decode cX1_init 12 = .ok (.putfield 56, 3) := dk_181 0 56 (dk_at dksX1_init_0 12 rfl rfl)
theorem dX1_init_15 : decode cX1_init 15 = .ok (.aload_n 0, 1) := dk_42 (dk_at dksX1_init_0 15 rfl rfl)
theorem dX1_init_16 : decode cX1_init 16 = .ok (.new 53, 3) := dk_187 0 53 (dk_at dksX1_init_0 16 rfl rfl)
theorem dX1_init_19 : decode cX1_init 19 = .ok (.dup, 1) := dk_89 (dk_at dksX1_init_0 19 rfl rfl)
theorem dX1_init_20 : decode cX1_init 20 = .ok (.invokespecial 55, 3) := dk_183 0 55 (dk_at dksX1_init_0 20 rfl rfl)
theorem dX1_init_23 : decode cX1_init 23 = .ok (.putfield 60, 3) := dk_181 0 60 (dk_at dksX1_init_1 0 rfl rfl)
theorem dX1_init_26 : decode cX1_init 26 = .ok (.aload_n 0, 1) := dk_42 (dk_at dksX1_init_1 3 rfl rfl)
theorem dX1_init_27 : decode cX1_init 27 = .ok (.new 53, 3) := dk_187 0 53 (dk_at dksX1_init_1 4 rfl rfl)
theorem dX1_init_30 : decode cX1_init 30 = .ok (.dup, 1) := dk_89 (dk_at dksX1_init_1 7 rfl rfl)
theorem dX1_init_31 : decode cX1_init 31 = .ok (.invokespecial 55, 3) := dk_183 0 55 (dk_at dksX1_init_1 8 rfl rfl)
theorem dX1_init_34 : decode cX1_init 34 = .ok (.putfield 63, 3) := dk_181 0 63 (dk_at dksX1_init_1 11 rfl rfl)
theorem dX1_init_37 : decode cX1_init 37 = .ok (.aload_n 0, 1) := dk_42 (dk_at dksX1_init_1 14 rfl rfl)
theorem dX1_init_38 : decode cX1_init 38 = .ok (.new 66, 3) := dk_187 0 66 (dk_at dksX1_init_1 15 rfl rfl)
theorem dX1_init_41 : decode cX1_init 41 = .ok (.dup, 1) := dk_89 (dk_at dksX1_init_1 18 rfl rfl)
theorem dX1_init_42 : decode cX1_init 42 = .ok (.aload_n 0, 1) := dk_42 (dk_at dksX1_init_1 19 rfl rfl)
theorem dX1_init_43 : decode cX1_init 43 = .ok (.invokespecial 68, 3) := dk_183 0 68 (dk_at dksX1_init_1 20 rfl rfl)
theorem dX1_init_46 : decode cX1_init 46 = .ok (.putfield 71, 3) := dk_181 0 71 (dk_at dksX1_init_2 0 rfl rfl)
theorem dX1_init_49 : decode cX1_init 49 = .ok (.aload_n 0, 1) := dk_42 (dk_at dksX1_init_2 3 rfl rfl)
theorem dX1_init_50 : decode cX1_init 50 = .ok (.new 75, 3) := dk_187 0 75 (dk_at dksX1_init_2 4 rfl rfl)
theorem dX1_init_53 : decode cX1_init 53 = .ok (.dup, 1) := dk_89 (dk_at dksX1_init_2 7 rfl rfl)
theorem dX1_init_54 : decode cX1_init 54 = .ok (.invokespecial 77, 3) := dk_183 0 77 (dk_at dksX1_init_2 8 rfl rfl)
theorem dX1_init_57 : decode cX1_init 57 = .ok (.putfield 78, 3) := dk_181 0 78 (dk_at dksX1_init_2 11 rfl rfl)
theorem dX1_init_60 : decode cX1_init 60 = .ok (.aload_n 0, 1) := dk_42 (dk_at dksX1_init_2 14 rfl rfl)
theorem dX1_init_61 : decode cX1_init 61 = .ok (.new 53, 3) := dk_187 0 53 (dk_at dksX1_init_2 15 rfl rfl)
theorem dX1_init_64 : decode cX1_init 64 = .ok (.dup, 1) := dk_89 (dk_at dksX1_init_2 18 rfl rfl)
theorem dX1_init_65 : decode cX1_init 65 = .ok (.invokespecial 55, 3) := dk_183 0 55 (dk_at dksX1_init_2 19 rfl rfl)
theorem dX1_init_68 : decode cX1_init 68 = .ok (.putfield 82, 3) := dk_181 0 82 (dk_at dksX1_init_3 0 rfl rfl)
theorem dX1_init_71 : decode cX1_init 71 = .ok (.aload_n 0, 1) := dk_42 (dk_at dksX1_init_3 3 rfl rfl)
theorem dX1_init_72 : decode cX1_init 72 = .ok (.new 85, 3) := dk_187 0 85 (dk_at dksX1_init_3 4 rfl rfl)
theorem dX1_init_75 : decode cX1_init 75 = .ok (.dup, 1) := dk_89 (dk_at dksX1_init_3 7 rfl rfl)
theorem dX1_init_76 : decode cX1_init 76 = .ok (.invokespecial 87, 3) := dk_183 0 87 (dk_at dksX1_init_3 8 rfl rfl)
theorem dX1_init_79 : decode cX1_init 79 = .ok (.putfield 88, 3) := dk_181 0 88 (dk_at dksX1_init_3 11 rfl rfl)
theorem dX1_init_82 : decode cX1_init 82 = .ok (.aload_n 0, 1) := dk_42 (dk_at dksX1_init_3 14 rfl rfl)
theorem dX1_init_83 : decode cX1_init 83 = .ok (.new 53, 3) := dk_187 0 53 (dk_at dksX1_init_3 15 rfl rfl)
theorem dX1_init_86 : decode cX1_init 86 = .ok (.dup, 1) := dk_89 (dk_at dksX1_init_3 18 rfl rfl)
theorem dX1_init_87 : decode cX1_init 87 = .ok (.invokespecial 55, 3) := dk_183 0 55 (dk_at dksX1_init_3 19 rfl rfl)
theorem dX1_init_90 : decode cX1_init 90 = .ok (.putfield 92, 3) := dk_181 0 92 (dk_at dksX1_init_4 0 rfl rfl)
theorem dX1_init_93 : decode cX1_init 93 = .ok (.iconst 0, 1) := dk_3 (dk_at dksX1_init_4 3 rfl rfl)
theorem dX1_init_94 : decode cX1_init 94 = .ok (.istore_n 1, 1) := dk_60 (dk_at dksX1_init_4 4 rfl rfl)
theorem dX1_init_95 : decode cX1_init 95 = .ok (.iload_n 1, 1) := dk_27 (dk_at dksX1_init_4 5 rfl rfl)
theorem dX1_init_96 : decode cX1_init 96 = .ok (.iconst 4, 1) := dk_7 (dk_at dksX1_init_4 6 rfl rfl)
theorem dX1_init_97 : decode cX1_init 97 = .ok (.if_icmp .ge 26, 3) := dk_162 0 26 (dk_at dksX1_init_4 7 rfl rfl)
theorem dX1_init_100 : decode cX1_init 100 = .ok (.aload_n 0, 1) := dk_42 (dk_at dksX1_init_4 10 rfl rfl)
theorem dX1_init_101 : decode cX1_init 101 = .ok (.getfield 63, 3) := dk_180 0 63 (dk_at dksX1_init_4 11 rfl rfl)
theorem dX1_init_104 : decode cX1_init 104 = .ok (.new 53, 3) := dk_187 0 53 (dk_at dksX1_init_4 14 rfl rfl)
theorem dX1_init_107 : decode cX1_init 107 = .ok (.dup, 1) := dk_89 (dk_at dksX1_init_4 17 rfl rfl)
theorem dX1_init_108 : decode cX1_init 108 = .ok (.invokespecial 55, 3) := dk_183 0 55 (dk_at dksX1_init_4 18 rfl rfl)
theorem dX1_init_111 : decode cX1_init 111 = .ok (.invokeinterface 95 2, 5) := by decide +kernel
theorem dX1_init_116 : decode cX1_init 116 = .ok (.pop, 1) := dk_87 (dk_at dksX1_init_5 5 rfl rfl)
theorem dX1_init_117 : decode cX1_init 117 = .ok (.iinc 1 1, 3) := dk_132 1 1 (dk_at dksX1_init_5 6 rfl rfl)
theorem dX1_init_120 : decode cX1_init 120 = .ok (.goto (-25), 3) := dk_167 255 231 (dk_at dksX1_init_5 9 rfl rfl)
theorem dX1_init_123 : decode cX1_init 123 = .ok (.return_, 1) := dk_177 (dk_at dksX1_init_5 12 rfl rfl)
abbrev cX1_reset : ByteArray := prog_5_method_25_code
def yX1_reset : MethodName := ⟨RX1, "reset", "()I"⟩
def dkwX1_reset_2 : List UInt8 := [185, 1, 47, 1, 0, 27, 172]
abbrev dktX1_reset_2 : List UInt8 := dkwX1_reset_2 ++ []
def dkwX1_reset_1 : List UInt8 := [182, 1, 44, 42, 180, 0, 82, 185, 1, 47, 1, 0, 42, 180, 0, 88, 182, 1, 48, 42, 180, 0, 92]
abbrev dktX1_reset_1 : List UInt8 := dkwX1_reset_1 ++ dktX1_reset_2
def dkwX1_reset_0 : List UInt8 := [42, 180, 0, 129, 60, 42, 3, 181, 0, 129, 42, 9, 181, 0, 236, 42, 3, 181, 1, 32, 42, 180, 0, 78]
abbrev dktX1_reset_0 : List UInt8 := dkwX1_reset_0 ++ dktX1_reset_1
theorem dksX1_reset_0 : cX1_reset.data.toList.drop 0 = dktX1_reset_0 := by decide +kernel
theorem dksX1_reset_1 : cX1_reset.data.toList.drop 24 = dktX1_reset_1 := dk_seg dksX1_reset_0 24 rfl rfl
theorem dksX1_reset_2 : cX1_reset.data.toList.drop 47 = dktX1_reset_2 := dk_seg dksX1_reset_1 23 rfl rfl
theorem dX1_reset_0 : decode cX1_reset 0 = .ok (.aload_n 0, 1) := dk_42 (dk_at dksX1_reset_0 0 rfl rfl)
theorem dX1_reset_1 : decode cX1_reset 1 = .ok (.getfield 129, 3) := dk_180 0 129 (dk_at dksX1_reset_0 1 rfl rfl)
theorem dX1_reset_4 : decode cX1_reset 4 = .ok (.istore_n 1, 1) := dk_60 (dk_at dksX1_reset_0 4 rfl rfl)
theorem dX1_reset_5 : decode cX1_reset 5 = .ok (.aload_n 0, 1) := dk_42 (dk_at dksX1_reset_0 5 rfl rfl)
theorem dX1_reset_6 : decode cX1_reset 6 = .ok (.iconst 0, 1) := dk_3 (dk_at dksX1_reset_0 6 rfl rfl)
theorem dX1_reset_7 : decode cX1_reset 7 = .ok (.putfield 129, 3) := dk_181 0 129 (dk_at dksX1_reset_0 7 rfl rfl)
theorem dX1_reset_10 : decode cX1_reset 10 = .ok (.aload_n 0, 1) := dk_42 (dk_at dksX1_reset_0 10 rfl rfl)
theorem dX1_reset_11 : decode cX1_reset 11 = .ok (.lconst 0, 1) := dk_9 (dk_at dksX1_reset_0 11 rfl rfl)
theorem dX1_reset_12 : decode cX1_reset 12 = .ok (.putfield 236, 3) := dk_181 0 236 (dk_at dksX1_reset_0 12 rfl rfl)
theorem dX1_reset_15 : decode cX1_reset 15 = .ok (.aload_n 0, 1) := dk_42 (dk_at dksX1_reset_0 15 rfl rfl)
theorem dX1_reset_16 : decode cX1_reset 16 = .ok (.iconst 0, 1) := dk_3 (dk_at dksX1_reset_0 16 rfl rfl)
theorem dX1_reset_17 : decode cX1_reset 17 = .ok (.putfield 288, 3) := dk_181 1 32 (dk_at dksX1_reset_0 17 rfl rfl)
theorem dX1_reset_20 : decode cX1_reset 20 = .ok (.aload_n 0, 1) := dk_42 (dk_at dksX1_reset_0 20 rfl rfl)
theorem dX1_reset_21 : decode cX1_reset 21 = .ok (.getfield 78, 3) := dk_180 0 78 (dk_at dksX1_reset_0 21 rfl rfl)
theorem dX1_reset_24 : decode cX1_reset 24 = .ok (.invokevirtual 300, 3) := dk_182 1 44 (dk_at dksX1_reset_1 0 rfl rfl)
theorem dX1_reset_27 : decode cX1_reset 27 = .ok (.aload_n 0, 1) := dk_42 (dk_at dksX1_reset_1 3 rfl rfl)
theorem dX1_reset_28 : decode cX1_reset 28 = .ok (.getfield 82, 3) := dk_180 0 82 (dk_at dksX1_reset_1 4 rfl rfl)
theorem dX1_reset_31 : decode cX1_reset 31 = .ok (.invokeinterface 303 1, 5) := by decide +kernel
theorem dX1_reset_36 : decode cX1_reset 36 = .ok (.aload_n 0, 1) := dk_42 (dk_at dksX1_reset_1 12 rfl rfl)
theorem dX1_reset_37 : decode cX1_reset 37 = .ok (.getfield 88, 3) := dk_180 0 88 (dk_at dksX1_reset_1 13 rfl rfl)
theorem dX1_reset_40 : decode cX1_reset 40 = .ok (.invokevirtual 304, 3) := dk_182 1 48 (dk_at dksX1_reset_1 16 rfl rfl)
theorem dX1_reset_43 : decode cX1_reset 43 = .ok (.aload_n 0, 1) := dk_42 (dk_at dksX1_reset_1 19 rfl rfl)
theorem dX1_reset_44 : decode cX1_reset 44 = .ok (.getfield 92, 3) := dk_180 0 92 (dk_at dksX1_reset_1 20 rfl rfl)
theorem dX1_reset_47 : decode cX1_reset 47 = .ok (.invokeinterface 303 1, 5) := by decide +kernel
theorem dX1_reset_52 : decode cX1_reset 52 = .ok (.iload_n 1, 1) := dk_27 (dk_at dksX1_reset_2 5 rfl rfl)
theorem dX1_reset_53 : decode cX1_reset 53 = .ok (.ireturn, 1) := dk_172 (dk_at dksX1_reset_2 6 rfl rfl)
abbrev cX1_runs : ByteArray := prog_5_method_26_code
def yX1_runs : MethodName := ⟨RX1, "runs", "()I"⟩
theorem dX1_runs_0 : decode cX1_runs 0 = .ok (.aload_n 0, 1) := by decide +kernel
theorem dX1_runs_1 : decode cX1_runs 1 = .ok (.getfield 129, 3) := by decide +kernel
theorem dX1_runs_4 : decode cX1_runs 4 = .ok (.ireturn, 1) := by decide +kernel
abbrev cX1_totalSteps : ByteArray := prog_5_method_27_code
def yX1_totalSteps : MethodName := ⟨RX1, "totalSteps", "()J"⟩
theorem dX1_totalSteps_0 : decode cX1_totalSteps 0 = .ok (.aload_n 0, 1) := by decide +kernel
theorem dX1_totalSteps_1 : decode cX1_totalSteps 1 = .ok (.getfield 236, 3) := by decide +kernel
theorem dX1_totalSteps_4 : decode cX1_totalSteps 4 = .ok (.lreturn, 1) := by decide +kernel
abbrev cX1_covered : ByteArray := prog_5_method_28_code
def yX1_covered : MethodName := ⟨RX1, "covered", "()I"⟩
def dkwX1_covered_0 : List UInt8 := [42, 180, 0, 78, 182, 0, 223, 172]
abbrev dktX1_covered_0 : List UInt8 := dkwX1_covered_0 ++ []
theorem dksX1_covered_0 : cX1_covered.data.toList.drop 0 = dktX1_covered_0 := by decide +kernel
theorem dX1_covered_0 : decode cX1_covered 0 = .ok (.aload_n 0, 1) := dk_42 (dk_at dksX1_covered_0 0 rfl rfl)
theorem dX1_covered_1 : decode cX1_covered 1 = .ok (.getfield 78, 3) := dk_180 0 78 (dk_at dksX1_covered_0 1 rfl rfl)
theorem dX1_covered_4 : decode cX1_covered 4 = .ok (.invokevirtual 223, 3) := dk_182 0 223 (dk_at dksX1_covered_0 4 rfl rfl)
theorem dX1_covered_7 : decode cX1_covered 7 = .ok (.ireturn, 1) := dk_172 (dk_at dksX1_covered_0 7 rfl rfl)
abbrev cX1_kept : ByteArray := prog_5_method_30_code
def yX1_kept : MethodName := ⟨RX1, "kept", "()I"⟩
def dkwX1_kept_0 : List UInt8 := [42, 180, 0, 82, 185, 0, 126, 1, 0, 172]
abbrev dktX1_kept_0 : List UInt8 := dkwX1_kept_0 ++ []
theorem dksX1_kept_0 : cX1_kept.data.toList.drop 0 = dktX1_kept_0 := by decide +kernel
theorem dX1_kept_0 : decode cX1_kept 0 = .ok (.aload_n 0, 1) := dk_42 (dk_at dksX1_kept_0 0 rfl rfl)
theorem dX1_kept_1 : decode cX1_kept 1 = .ok (.getfield 82, 3) := dk_180 0 82 (dk_at dksX1_kept_0 1 rfl rfl)
theorem dX1_kept_4 : decode cX1_kept 4 = .ok (.invokeinterface 126 1, 5) := by decide +kernel
theorem dX1_kept_9 : decode cX1_kept 9 = .ok (.ireturn, 1) := dk_172 (dk_at dksX1_kept_0 9 rfl rfl)
abbrev cX1_queued : ByteArray := prog_5_method_32_code
def yX1_queued : MethodName := ⟨RX1, "queued", "()I"⟩
def dkwX1_queued_0 : List UInt8 := [42, 180, 0, 88, 182, 1, 55, 172]
abbrev dktX1_queued_0 : List UInt8 := dkwX1_queued_0 ++ []
theorem dksX1_queued_0 : cX1_queued.data.toList.drop 0 = dktX1_queued_0 := by decide +kernel
theorem dX1_queued_0 : decode cX1_queued 0 = .ok (.aload_n 0, 1) := dk_42 (dk_at dksX1_queued_0 0 rfl rfl)
theorem dX1_queued_1 : decode cX1_queued 1 = .ok (.getfield 88, 3) := dk_180 0 88 (dk_at dksX1_queued_0 1 rfl rfl)
theorem dX1_queued_4 : decode cX1_queued 4 = .ok (.invokevirtual 311, 3) := dk_182 1 55 (dk_at dksX1_queued_0 4 rfl rfl)
theorem dX1_queued_7 : decode cX1_queued 7 = .ok (.ireturn, 1) := dk_172 (dk_at dksX1_queued_0 7 rfl rfl)
abbrev cX1_findings : ByteArray := prog_5_method_33_code
def yX1_findings : MethodName := ⟨RX1, "findings", "()I"⟩
def dkwX1_findings_0 : List UInt8 := [42, 180, 0, 92, 185, 0, 126, 1, 0, 172]
abbrev dktX1_findings_0 : List UInt8 := dkwX1_findings_0 ++ []
theorem dksX1_findings_0 : cX1_findings.data.toList.drop 0 = dktX1_findings_0 := by decide +kernel
theorem dX1_findings_0 : decode cX1_findings 0 = .ok (.aload_n 0, 1) := dk_42 (dk_at dksX1_findings_0 0 rfl rfl)
theorem dX1_findings_1 : decode cX1_findings 1 = .ok (.getfield 92, 3) := dk_180 0 92 (dk_at dksX1_findings_0 1 rfl rfl)
theorem dX1_findings_4 : decode cX1_findings 4 = .ok (.invokeinterface 126 1, 5) := by decide +kernel
theorem dX1_findings_9 : decode cX1_findings 9 = .ok (.ireturn, 1) := dk_172 (dk_at dksX1_findings_0 9 rfl rfl)
abbrev cX1_add : ByteArray := prog_5_method_11_code
def yX1_add : MethodName := ⟨RX1, "add", "(LInstruction;)I"⟩
def dkwX1_add_4 : List UInt8 := [184, 0, 133, 42, 180, 0, 56, 43, 185, 0, 95, 2, 0, 87, 42, 180, 0, 56, 185, 0, 126, 1, 0, 172]
abbrev dktX1_add_4 : List UInt8 := dkwX1_add_4 ++ []
def dkwX1_add_3 : List UInt8 := [185, 0, 126, 1, 0, 16, 16, 162, 0, 14, 42, 180, 0, 129, 154, 0, 7, 4, 167, 0, 4, 3]
abbrev dktX1_add_3 : List UInt8 := dkwX1_add_3 ++ dktX1_add_4
def dkwX1_add_2 : List UInt8 := [3, 28, 184, 0, 116, 153, 0, 7, 4, 167, 0, 4, 3, 184, 0, 39, 42, 180, 0, 56]
abbrev dktX1_add_2 : List UInt8 := dkwX1_add_2 ++ dktX1_add_3
def dkwX1_add_1 : List UInt8 := [184, 0, 116, 153, 0, 33, 43, 182, 0, 120, 16, 157, 16, 99, 184, 0, 116, 153, 0, 19, 43, 182, 0, 123]
abbrev dktX1_add_1 : List UInt8 := dkwX1_add_1 ++ dktX1_add_2
def dkwX1_add_0 : List UInt8 := [43, 182, 0, 101, 178, 0, 107, 166, 0, 7, 6, 167, 0, 5, 16, 31, 61, 43, 182, 0, 113, 3, 6]
abbrev dktX1_add_0 : List UInt8 := dkwX1_add_0 ++ dktX1_add_1
theorem dksX1_add_0 : cX1_add.data.toList.drop 0 = dktX1_add_0 := by decide +kernel
theorem dksX1_add_1 : cX1_add.data.toList.drop 23 = dktX1_add_1 := dk_seg dksX1_add_0 23 rfl rfl
theorem dksX1_add_2 : cX1_add.data.toList.drop 47 = dktX1_add_2 := dk_seg dksX1_add_1 24 rfl rfl
theorem dksX1_add_3 : cX1_add.data.toList.drop 67 = dktX1_add_3 := dk_seg dksX1_add_2 20 rfl rfl
theorem dksX1_add_4 : cX1_add.data.toList.drop 89 = dktX1_add_4 := dk_seg dksX1_add_3 22 rfl rfl
theorem dX1_add_0 : decode cX1_add 0 = .ok (.aload_n 1, 1) := dk_43 (dk_at dksX1_add_0 0 rfl rfl)
theorem dX1_add_1 : decode cX1_add 1 = .ok (.invokevirtual 101, 3) := dk_182 0 101 (dk_at dksX1_add_0 1 rfl rfl)
theorem dX1_add_4 : decode cX1_add 4 = .ok (.getstatic 107, 3) := dk_178 0 107 (dk_at dksX1_add_0 4 rfl rfl)
theorem dX1_add_7 : decode cX1_add 7 = .ok (.if_acmp .ne 7, 3) := dk_166 0 7 (dk_at dksX1_add_0 7 rfl rfl)
theorem dX1_add_10 : decode cX1_add 10 = .ok (.iconst 3, 1) := dk_6 (dk_at dksX1_add_0 10 rfl rfl)
theorem dX1_add_11 : decode cX1_add 11 = .ok (.goto 5, 3) := dk_167 0 5 (dk_at dksX1_add_0 11 rfl rfl)
theorem dX1_add_14 : decode cX1_add 14 = .ok (.bipush 31, 2) := dk_16 31 (dk_at dksX1_add_0 14 rfl rfl)
theorem dX1_add_16 : decode cX1_add 16 = .ok (.istore_n 2, 1) := dk_61 (dk_at dksX1_add_0 16 rfl rfl)
theorem dX1_add_17 : decode cX1_add 17 = .ok (.aload_n 1, 1) := dk_43 (dk_at dksX1_add_0 17 rfl rfl)
theorem dX1_add_18 : decode cX1_add 18 = .ok (.invokevirtual 113, 3) := dk_182 0 113 (dk_at dksX1_add_0 18 rfl rfl)
theorem dX1_add_21 : decode cX1_add 21 = .ok (.iconst 0, 1) := dk_3 (dk_at dksX1_add_0 21 rfl rfl)
theorem dX1_add_22 : decode cX1_add 22 = .ok (.iconst 3, 1) := dk_6 (dk_at dksX1_add_0 22 rfl rfl)
theorem dX1_add_23 : decode cX1_add 23 = .ok (.invokestatic 116, 3) := dk_184 0 116 (dk_at dksX1_add_1 0 rfl rfl)
theorem dX1_add_26 : decode cX1_add 26 = .ok (.ifCond .eq 33, 3) := dk_153 0 33 (dk_at dksX1_add_1 3 rfl rfl)
theorem dX1_add_29 : decode cX1_add 29 = .ok (.aload_n 1, 1) := dk_43 (dk_at dksX1_add_1 6 rfl rfl)
theorem dX1_add_30 : decode cX1_add 30 = .ok (.invokevirtual 120, 3) := dk_182 0 120 (dk_at dksX1_add_1 7 rfl rfl)
theorem dX1_add_33 : decode cX1_add 33 = .ok (.bipush (-99), 2) := dk_16 157 (dk_at dksX1_add_1 10 rfl rfl)
theorem dX1_add_35 : decode cX1_add 35 = .ok (.bipush 99, 2) := dk_16 99 (dk_at dksX1_add_1 12 rfl rfl)
theorem dX1_add_37 : decode cX1_add 37 = .ok (.invokestatic 116, 3) := dk_184 0 116 (dk_at dksX1_add_1 14 rfl rfl)
theorem dX1_add_40 : decode cX1_add 40 = .ok (.ifCond .eq 19, 3) := dk_153 0 19 (dk_at dksX1_add_1 17 rfl rfl)
theorem dX1_add_43 : decode cX1_add 43 = .ok (.aload_n 1, 1) := dk_43 (dk_at dksX1_add_1 20 rfl rfl)
theorem dX1_add_44 : decode cX1_add 44 = .ok (.invokevirtual 123, 3) := dk_182 0 123 (dk_at dksX1_add_1 21 rfl rfl)
theorem dX1_add_47 : decode cX1_add 47 = .ok (.iconst 0, 1) := dk_3 (dk_at dksX1_add_2 0 rfl rfl)
theorem dX1_add_48 : decode cX1_add 48 = .ok (.iload_n 2, 1) := dk_28 (dk_at dksX1_add_2 1 rfl rfl)
theorem dX1_add_49 : decode cX1_add 49 = .ok (.invokestatic 116, 3) := dk_184 0 116 (dk_at dksX1_add_2 2 rfl rfl)
theorem dX1_add_52 : decode cX1_add 52 = .ok (.ifCond .eq 7, 3) := dk_153 0 7 (dk_at dksX1_add_2 5 rfl rfl)
theorem dX1_add_55 : decode cX1_add 55 = .ok (.iconst 1, 1) := dk_4 (dk_at dksX1_add_2 8 rfl rfl)
theorem dX1_add_56 : decode cX1_add 56 = .ok (.goto 4, 3) := dk_167 0 4 (dk_at dksX1_add_2 9 rfl rfl)
theorem dX1_add_59 : decode cX1_add 59 = .ok (.iconst 0, 1) := dk_3 (dk_at dksX1_add_2 12 rfl rfl)
theorem dX1_add_60 : decode cX1_add 60 = .ok (.invokestatic 39, 3) := dk_184 0 39 (dk_at dksX1_add_2 13 rfl rfl)
theorem dX1_add_63 : decode cX1_add 63 = .ok (.aload_n 0, 1) := dk_42 (dk_at dksX1_add_2 16 rfl rfl)
theorem dX1_add_64 : decode cX1_add 64 = .ok (.getfield 56, 3) := dk_180 0 56 (dk_at dksX1_add_2 17 rfl rfl)
theorem dX1_add_67 : decode cX1_add 67 = .ok (.invokeinterface 126 1, 5) := by decide +kernel
theorem dX1_add_72 : decode cX1_add 72 = .ok (.bipush 16, 2) := dk_16 16 (dk_at dksX1_add_3 5 rfl rfl)
theorem dX1_add_74 : decode cX1_add 74 = .ok (.if_icmp .ge 14, 3) := dk_162 0 14 (dk_at dksX1_add_3 7 rfl rfl)
theorem dX1_add_77 : decode cX1_add 77 = .ok (.aload_n 0, 1) := dk_42 (dk_at dksX1_add_3 10 rfl rfl)
theorem dX1_add_78 : decode cX1_add 78 = .ok (.getfield 129, 3) := dk_180 0 129 (dk_at dksX1_add_3 11 rfl rfl)
theorem dX1_add_81 : decode cX1_add 81 = .ok (.ifCond .ne 7, 3) := dk_154 0 7 (dk_at dksX1_add_3 14 rfl rfl)
theorem dX1_add_84 : decode cX1_add 84 = .ok (.iconst 1, 1) := dk_4 (dk_at dksX1_add_3 17 rfl rfl)
theorem dX1_add_85 : decode cX1_add 85 = .ok (.goto 4, 3) := dk_167 0 4 (dk_at dksX1_add_3 18 rfl rfl)
theorem dX1_add_88 : decode cX1_add 88 = .ok (.iconst 0, 1) := dk_3 (dk_at dksX1_add_3 21 rfl rfl)
theorem dX1_add_89 : decode cX1_add 89 = .ok (.invokestatic 133, 3) := dk_184 0 133 (dk_at dksX1_add_4 0 rfl rfl)
theorem dX1_add_92 : decode cX1_add 92 = .ok (.aload_n 0, 1) := dk_42 (dk_at dksX1_add_4 3 rfl rfl)
theorem dX1_add_93 : decode cX1_add 93 = .ok (.getfield 56, 3) := dk_180 0 56 (dk_at dksX1_add_4 4 rfl rfl)
theorem dX1_add_96 : decode cX1_add 96 = .ok (.aload_n 1, 1) := dk_43 (dk_at dksX1_add_4 7 rfl rfl)
theorem dX1_add_97 : decode cX1_add 97 = .ok (.invokeinterface 95 2, 5) := by decide +kernel
theorem dX1_add_102 : decode cX1_add 102 = .ok (.pop, 1) := dk_87 (dk_at dksX1_add_4 13 rfl rfl)
theorem dX1_add_103 : decode cX1_add 103 = .ok (.aload_n 0, 1) := dk_42 (dk_at dksX1_add_4 14 rfl rfl)
theorem dX1_add_104 : decode cX1_add 104 = .ok (.getfield 56, 3) := dk_180 0 56 (dk_at dksX1_add_4 15 rfl rfl)
theorem dX1_add_107 : decode cX1_add 107 = .ok (.invokeinterface 126 1, 5) := by decide +kernel
theorem dX1_add_112 : decode cX1_add 112 = .ok (.ireturn, 1) := dk_172 (dk_at dksX1_add_4 23 rfl rfl)
abbrev cX1_isIn : ByteArray := prog_5_method_1_code
def yX1_isIn : MethodName := ⟨RX1, "isIn", "(III)Z"⟩
def dkwX1_isIn_0 : List UInt8 := [27, 26, 163, 0, 12, 26, 28, 163, 0, 7, 4, 167, 0, 4, 3, 172]
abbrev dktX1_isIn_0 : List UInt8 := dkwX1_isIn_0 ++ []
theorem dksX1_isIn_0 : cX1_isIn.data.toList.drop 0 = dktX1_isIn_0 := by decide +kernel
theorem dX1_isIn_0 : decode cX1_isIn 0 = .ok (.iload_n 1, 1) := dk_27 (dk_at dksX1_isIn_0 0 rfl rfl)
theorem dX1_isIn_1 : decode cX1_isIn 1 = .ok (.iload_n 0, 1) := dk_26 (dk_at dksX1_isIn_0 1 rfl rfl)
theorem dX1_isIn_2 : decode cX1_isIn 2 = .ok (.if_icmp .gt 12, 3) := dk_163 0 12 (dk_at dksX1_isIn_0 2 rfl rfl)
theorem dX1_isIn_5 : decode cX1_isIn 5 = .ok (.iload_n 0, 1) := dk_26 (dk_at dksX1_isIn_0 5 rfl rfl)
theorem dX1_isIn_6 : decode cX1_isIn 6 = .ok (.iload_n 2, 1) := dk_28 (dk_at dksX1_isIn_0 6 rfl rfl)
theorem dX1_isIn_7 : decode cX1_isIn 7 = .ok (.if_icmp .gt 7, 3) := dk_163 0 7 (dk_at dksX1_isIn_0 7 rfl rfl)
theorem dX1_isIn_10 : decode cX1_isIn 10 = .ok (.iconst 1, 1) := dk_4 (dk_at dksX1_isIn_0 10 rfl rfl)
theorem dX1_isIn_11 : decode cX1_isIn 11 = .ok (.goto 4, 3) := dk_167 0 4 (dk_at dksX1_isIn_0 11 rfl rfl)
theorem dX1_isIn_14 : decode cX1_isIn 14 = .ok (.iconst 0, 1) := dk_3 (dk_at dksX1_isIn_0 14 rfl rfl)
theorem dX1_isIn_15 : decode cX1_isIn 15 = .ok (.ireturn, 1) := dk_172 (dk_at dksX1_isIn_0 15 rfl rfl)
abbrev cX1_requireArgument : ByteArray := prog_5_method_2_code
def yX1_requireArgument : MethodName := ⟨RX1, "requireArgument", "(Z)V"⟩
def dkwX1_requireArgument_0 : List UInt8 := [26, 154, 0, 11, 187, 0, 3, 89, 183, 0, 5, 191, 177]
abbrev dktX1_requireArgument_0 : List UInt8 := dkwX1_requireArgument_0 ++ []
theorem dksX1_requireArgument_0 : cX1_requireArgument.data.toList.drop 0 = dktX1_requireArgument_0 := by decide +kernel
theorem dX1_requireArgument_0 : decode cX1_requireArgument 0 = .ok (.iload_n 0, 1) := dk_26 (dk_at dksX1_requireArgument_0 0 rfl rfl)
theorem dX1_requireArgument_1 : decode cX1_requireArgument 1 = .ok (.ifCond .ne 11, 3) := dk_154 0 11 (dk_at dksX1_requireArgument_0 1 rfl rfl)
theorem dX1_requireArgument_4 : decode cX1_requireArgument 4 = .ok (.new 3, 3) := dk_187 0 3 (dk_at dksX1_requireArgument_0 4 rfl rfl)
theorem dX1_requireArgument_7 : decode cX1_requireArgument 7 = .ok (.dup, 1) := dk_89 (dk_at dksX1_requireArgument_0 7 rfl rfl)
theorem dX1_requireArgument_8 : decode cX1_requireArgument 8 = .ok (.invokespecial 5, 3) := dk_183 0 5 (dk_at dksX1_requireArgument_0 8 rfl rfl)
theorem dX1_requireArgument_11 : decode cX1_requireArgument 11 = .ok (.athrow, 1) := dk_191 (dk_at dksX1_requireArgument_0 11 rfl rfl)
theorem dX1_requireArgument_12 : decode cX1_requireArgument 12 = .ok (.return_, 1) := dk_177 (dk_at dksX1_requireArgument_0 12 rfl rfl)
abbrev cX1_requireState : ByteArray := prog_5_method_3_code
def yX1_requireState : MethodName := ⟨RX1, "requireState", "(Z)V"⟩
def dkwX1_requireState_0 : List UInt8 := [26, 154, 0, 11, 187, 0, 9, 89, 183, 0, 11, 191, 177]
abbrev dktX1_requireState_0 : List UInt8 := dkwX1_requireState_0 ++ []
theorem dksX1_requireState_0 : cX1_requireState.data.toList.drop 0 = dktX1_requireState_0 := by decide +kernel
theorem dX1_requireState_0 : decode cX1_requireState 0 = .ok (.iload_n 0, 1) := dk_26 (dk_at dksX1_requireState_0 0 rfl rfl)
theorem dX1_requireState_1 : decode cX1_requireState 1 = .ok (.ifCond .ne 11, 3) := dk_154 0 11 (dk_at dksX1_requireState_0 1 rfl rfl)
theorem dX1_requireState_4 : decode cX1_requireState 4 = .ok (.new 9, 3) := dk_187 0 9 (dk_at dksX1_requireState_0 4 rfl rfl)
theorem dX1_requireState_7 : decode cX1_requireState 7 = .ok (.dup, 1) := dk_89 (dk_at dksX1_requireState_0 7 rfl rfl)
theorem dX1_requireState_8 : decode cX1_requireState 8 = .ok (.invokespecial 11, 3) := dk_183 0 11 (dk_at dksX1_requireState_0 8 rfl rfl)
theorem dX1_requireState_11 : decode cX1_requireState 11 = .ok (.athrow, 1) := dk_191 (dk_at dksX1_requireState_0 11 rfl rfl)
theorem dX1_requireState_12 : decode cX1_requireState 12 = .ok (.return_, 1) := dk_177 (dk_at dksX1_requireState_0 12 rfl rfl)
abbrev cX1_addChange : ByteArray := prog_5_method_12_code
def yX1_addChange : MethodName := ⟨RX1, "addChange", "(LChange;II)I"⟩
def dkwX1_addChange_2 : List UInt8 := [185, 0, 126, 1, 0, 172]
abbrev dktX1_addChange_2 : List UInt8 := dkwX1_addChange_2 ++ []
def dkwX1_addChange_1 : List UInt8 := [167, 0, 4, 3, 184, 0, 133, 42, 180, 0, 60, 25, 4, 185, 0, 95, 2, 0, 87, 42, 180, 0, 60]
abbrev dktX1_addChange_1 : List UInt8 := dkwX1_addChange_1 ++ dktX1_addChange_2
def dkwX1_addChange_0 : List UInt8 := [43, 28, 29, 184, 0, 136, 58, 4, 42, 180, 0, 60, 185, 0, 126, 1, 0, 16, 8, 162, 0, 7, 4]
abbrev dktX1_addChange_0 : List UInt8 := dkwX1_addChange_0 ++ dktX1_addChange_1
theorem dksX1_addChange_0 : cX1_addChange.data.toList.drop 0 = dktX1_addChange_0 := by decide +kernel
theorem dksX1_addChange_1 : cX1_addChange.data.toList.drop 23 = dktX1_addChange_1 := dk_seg dksX1_addChange_0 23 rfl rfl
theorem dksX1_addChange_2 : cX1_addChange.data.toList.drop 46 = dktX1_addChange_2 := dk_seg dksX1_addChange_1 23 rfl rfl
theorem dX1_addChange_0 : decode cX1_addChange 0 = .ok (.aload_n 1, 1) := dk_43 (dk_at dksX1_addChange_0 0 rfl rfl)
theorem dX1_addChange_1 : decode cX1_addChange 1 = .ok (.iload_n 2, 1) := dk_28 (dk_at dksX1_addChange_0 1 rfl rfl)
theorem dX1_addChange_2 : decode cX1_addChange 2 = .ok (.iload_n 3, 1) := dk_29 (dk_at dksX1_addChange_0 2 rfl rfl)
theorem dX1_addChange_3 : decode cX1_addChange 3 = .ok (.invokestatic 136, 3) := dk_184 0 136 (dk_at dksX1_addChange_0 3 rfl rfl)
theorem dX1_addChange_6 : decode cX1_addChange 6 = .ok (.astore 4, 2) := dk_58 4 (dk_at dksX1_addChange_0 6 rfl rfl)
theorem dX1_addChange_8 : decode cX1_addChange 8 = .ok (.aload_n 0, 1) := dk_42 (dk_at dksX1_addChange_0 8 rfl rfl)
theorem dX1_addChange_9 : decode cX1_addChange 9 = .ok (.getfield 60, 3) := dk_180 0 60 (dk_at dksX1_addChange_0 9 rfl rfl)
theorem dX1_addChange_12 : decode cX1_addChange 12 = .ok (.invokeinterface 126 1, 5) := by decide +kernel
theorem dX1_addChange_17 : decode cX1_addChange 17 = .ok (.bipush 8, 2) := dk_16 8 (dk_at dksX1_addChange_0 17 rfl rfl)
theorem dX1_addChange_19 : decode cX1_addChange 19 = .ok (.if_icmp .ge 7, 3) := dk_162 0 7 (dk_at dksX1_addChange_0 19 rfl rfl)
theorem dX1_addChange_22 : decode cX1_addChange 22 = .ok (.iconst 1, 1) := dk_4 (dk_at dksX1_addChange_0 22 rfl rfl)
theorem dX1_addChange_23 : decode cX1_addChange 23 = .ok (.goto 4, 3) := dk_167 0 4 (dk_at dksX1_addChange_1 0 rfl rfl)
theorem dX1_addChange_26 : decode cX1_addChange 26 = .ok (.iconst 0, 1) := dk_3 (dk_at dksX1_addChange_1 3 rfl rfl)
theorem dX1_addChange_27 : decode cX1_addChange 27 = .ok (.invokestatic 133, 3) := dk_184 0 133 (dk_at dksX1_addChange_1 4 rfl rfl)
theorem dX1_addChange_30 : decode cX1_addChange 30 = .ok (.aload_n 0, 1) := dk_42 (dk_at dksX1_addChange_1 7 rfl rfl)
theorem dX1_addChange_31 : decode cX1_addChange 31 = .ok (.getfield 60, 3) := dk_180 0 60 (dk_at dksX1_addChange_1 8 rfl rfl)
theorem dX1_addChange_34 : decode cX1_addChange 34 = .ok (.aload 4, 2) := dk_25 4 (dk_at dksX1_addChange_1 11 rfl rfl)
theorem dX1_addChange_36 : decode cX1_addChange 36 = .ok (.invokeinterface 95 2, 5) := by decide +kernel
theorem dX1_addChange_41 : decode cX1_addChange 41 = .ok (.pop, 1) := dk_87 (dk_at dksX1_addChange_1 18 rfl rfl)
theorem dX1_addChange_42 : decode cX1_addChange 42 = .ok (.aload_n 0, 1) := dk_42 (dk_at dksX1_addChange_1 19 rfl rfl)
theorem dX1_addChange_43 : decode cX1_addChange 43 = .ok (.getfield 60, 3) := dk_180 0 60 (dk_at dksX1_addChange_1 20 rfl rfl)
theorem dX1_addChange_46 : decode cX1_addChange 46 = .ok (.invokeinterface 126 1, 5) := by decide +kernel
theorem dX1_addChange_51 : decode cX1_addChange 51 = .ok (.ireturn, 1) := dk_172 (dk_at dksX1_addChange_2 5 rfl rfl)
abbrev cX1_addAlternative : ByteArray := prog_5_method_13_code
def yX1_addAlternative : MethodName := ⟨RX1, "addAlternative", "(CLjava/lang/String;)I"⟩
def dkwX1_addAlternative_3 : List UInt8 := [185, 0, 126, 1, 0, 172]
abbrev dktX1_addAlternative_3 : List UInt8 := dkwX1_addAlternative_3 ++ []
def dkwX1_addAlternative_2 : List UInt8 := [162, 0, 7, 4, 167, 0, 4, 3, 184, 0, 133, 45, 44, 185, 0, 95, 2, 0, 87, 45]
abbrev dktX1_addAlternative_2 : List UInt8 := dkwX1_addAlternative_2 ++ dktX1_addAlternative_3
def dkwX1_addAlternative_1 : List UInt8 := [42, 180, 0, 63, 27, 16, 65, 100, 185, 0, 142, 2, 0, 192, 0, 96, 78, 45, 185, 0, 126, 1, 0, 6]
abbrev dktX1_addAlternative_1 : List UInt8 := dkwX1_addAlternative_1 ++ dktX1_addAlternative_2
def dkwX1_addAlternative_0 : List UInt8 := [27, 184, 0, 31, 4, 160, 0, 15, 44, 4, 184, 0, 35, 153, 0, 7, 4, 167, 0, 4, 3, 184, 0, 39]
abbrev dktX1_addAlternative_0 : List UInt8 := dkwX1_addAlternative_0 ++ dktX1_addAlternative_1
theorem dksX1_addAlternative_0 : cX1_addAlternative.data.toList.drop 0 = dktX1_addAlternative_0 := by decide +kernel
theorem dksX1_addAlternative_1 : cX1_addAlternative.data.toList.drop 24 = dktX1_addAlternative_1 := dk_seg dksX1_addAlternative_0 24 rfl rfl
theorem dksX1_addAlternative_2 : cX1_addAlternative.data.toList.drop 48 = dktX1_addAlternative_2 := dk_seg dksX1_addAlternative_1 24 rfl rfl
theorem dksX1_addAlternative_3 : cX1_addAlternative.data.toList.drop 68 = dktX1_addAlternative_3 := dk_seg dksX1_addAlternative_2 20 rfl rfl
theorem dX1_addAlternative_0 : decode cX1_addAlternative 0 = .ok (.iload_n 1, 1) := dk_27 (dk_at dksX1_addAlternative_0 0 rfl rfl)
theorem dX1_addAlternative_1 : decode cX1_addAlternative 1 = .ok (.invokestatic 31, 3) := dk_184 0 31 (dk_at dksX1_addAlternative_0 1 rfl rfl)
theorem dX1_addAlternative_4 : decode cX1_addAlternative 4 = .ok (.iconst 1, 1) := dk_4 (dk_at dksX1_addAlternative_0 4 rfl rfl)
theorem dX1_addAlternative_5 : decode cX1_addAlternative 5 = .ok (.if_icmp .ne 15, 3) := dk_160 0 15 (dk_at dksX1_addAlternative_0 5 rfl rfl)
theorem dX1_addAlternative_8 : decode cX1_addAlternative 8 = .ok (.aload_n 2, 1) := dk_44 (dk_at dksX1_addAlternative_0 8 rfl rfl)
theorem dX1_addAlternative_9 : decode cX1_addAlternative 9 = .ok (.iconst 1, 1) := dk_4 (dk_at dksX1_addAlternative_0 9 rfl rfl)
theorem dX1_addAlternative_10 : decode cX1_addAlternative 10 = .ok (.invokestatic 35, 3) := dk_184 0 35 (dk_at dksX1_addAlternative_0 10 rfl rfl)
theorem dX1_addAlternative_13 : decode cX1_addAlternative 13 = .ok (.ifCond .eq 7, 3) := dk_153 0 7 (dk_at dksX1_addAlternative_0 13 rfl rfl)
theorem dX1_addAlternative_16 : decode cX1_addAlternative 16 = .ok (.iconst 1, 1) := dk_4 (dk_at dksX1_addAlternative_0 16 rfl rfl)
theorem dX1_addAlternative_17 : decode cX1_addAlternative 17 = .ok (.goto 4, 3) := dk_167 0 4 (dk_at dksX1_addAlternative_0 17 rfl rfl)
theorem dX1_addAlternative_20 : decode cX1_addAlternative 20 = .ok (.iconst 0, 1) := dk_3 (dk_at dksX1_addAlternative_0 20 rfl rfl)
theorem dX1_addAlternative_21 : decode cX1_addAlternative 21 = .ok (.invokestatic 39, 3) := dk_184 0 39 (dk_at dksX1_addAlternative_0 21 rfl rfl)
theorem dX1_addAlternative_24 : decode cX1_addAlternative 24 = .ok (.aload_n 0, 1) := dk_42 (dk_at dksX1_addAlternative_1 0 rfl rfl)
theorem dX1_addAlternative_25 : decode cX1_addAlternative 25 = .ok (.getfield 63, 3) := dk_180 0 63 (dk_at dksX1_addAlternative_1 1 rfl rfl)
theorem dX1_addAlternative_28 : decode cX1_addAlternative 28 = .ok (.iload_n 1, 1) := dk_27 (dk_at dksX1_addAlternative_1 4 rfl rfl)
theorem dX1_addAlternative_29 : decode cX1_addAlternative 29 = .ok (.bipush 65, 2) := dk_16 65 (dk_at dksX1_addAlternative_1 5 rfl rfl)
theorem dX1_addAlternative_31 : decode cX1_addAlternative 31 = .ok (.isub, 1) := dk_100 (dk_at dksX1_addAlternative_1 7 rfl rfl)
theorem dX1_addAlternative_32 : decode cX1_addAlternative 32 = .ok (.invokeinterface 142 2, 5) := by decide +kernel
theorem dX1_addAlternative_37 : decode cX1_addAlternative 37 = .ok (.checkcast 96, 3) := dk_192 0 96 (dk_at dksX1_addAlternative_1 13 rfl rfl)
theorem dX1_addAlternative_40 : decode cX1_addAlternative 40 = .ok (.astore_n 3, 1) := dk_78 (dk_at dksX1_addAlternative_1 16 rfl rfl)
theorem dX1_addAlternative_41 : decode cX1_addAlternative 41 = .ok (.aload_n 3, 1) := dk_45 (dk_at dksX1_addAlternative_1 17 rfl rfl)
theorem dX1_addAlternative_42 : decode cX1_addAlternative 42 = .ok (.invokeinterface 126 1, 5) := by decide +kernel
theorem dX1_addAlternative_47 : decode cX1_addAlternative 47 = .ok (.iconst 3, 1) := dk_6 (dk_at dksX1_addAlternative_1 23 rfl rfl)
theorem dX1_addAlternative_48 : decode cX1_addAlternative 48 = .ok (.if_icmp .ge 7, 3) := dk_162 0 7 (dk_at dksX1_addAlternative_2 0 rfl rfl)
theorem dX1_addAlternative_51 : decode cX1_addAlternative 51 = .ok (.iconst 1, 1) := dk_4 (dk_at dksX1_addAlternative_2 3 rfl rfl)
theorem dX1_addAlternative_52 : decode cX1_addAlternative 52 = .ok (.goto 4, 3) := dk_167 0 4 (dk_at dksX1_addAlternative_2 4 rfl rfl)
theorem dX1_addAlternative_55 : decode cX1_addAlternative 55 = .ok (.iconst 0, 1) := dk_3 (dk_at dksX1_addAlternative_2 7 rfl rfl)
theorem dX1_addAlternative_56 : decode cX1_addAlternative 56 = .ok (.invokestatic 133, 3) := dk_184 0 133 (dk_at dksX1_addAlternative_2 8 rfl rfl)
theorem dX1_addAlternative_59 : decode cX1_addAlternative 59 = .ok (.aload_n 3, 1) := dk_45 (dk_at dksX1_addAlternative_2 11 rfl rfl)
theorem dX1_addAlternative_60 : decode cX1_addAlternative 60 = .ok (.aload_n 2, 1) := dk_44 (dk_at dksX1_addAlternative_2 12 rfl rfl)
theorem dX1_addAlternative_61 : decode cX1_addAlternative 61 = .ok (.invokeinterface 95 2, 5) := by decide +kernel
theorem dX1_addAlternative_66 : decode cX1_addAlternative 66 = .ok (.pop, 1) := dk_87 (dk_at dksX1_addAlternative_2 18 rfl rfl)
theorem dX1_addAlternative_67 : decode cX1_addAlternative 67 = .ok (.aload_n 3, 1) := dk_45 (dk_at dksX1_addAlternative_2 19 rfl rfl)
theorem dX1_addAlternative_68 : decode cX1_addAlternative 68 = .ok (.invokeinterface 126 1, 5) := by decide +kernel
theorem dX1_addAlternative_73 : decode cX1_addAlternative 73 = .ok (.ireturn, 1) := dk_172 (dk_at dksX1_addAlternative_3 5 rfl rfl)
abbrev cX1_kind : ByteArray := prog_5_method_7_code
def yX1_kind : MethodName := ⟨RX1, "kind", "(C)I"⟩
def dkwX1_kind_2 : List UInt8 := [3, 167, 0, 8, 4, 167, 0, 4, 5, 172]
abbrev dktX1_kind_2 : List UInt8 := dkwX1_kind_2 ++ []
def dkwX1_kind_1 : List UInt8 := [170, 0, 0, 0, 0, 0, 107, 0, 0, 0, 48, 0, 0, 0, 68, 0, 0, 0, 99, 0, 0, 0, 99, 0, 0, 0, 99, 0, 0, 0, 99, 0, 0, 0, 99, 0, 0, 0, 99, 0, 0, 0, 99, 0, 0, 0, 99, 0, 0, 0, 107, 0, 0, 0, 107, 0, 0, 0, 107, 0, 0, 0, 107, 0, 0, 0, 107, 0, 0, 0, 107, 0, 0, 0, 107, 0, 0, 0, 107, 0, 0, 0, 107, 0, 0, 0, 103, 0, 0, 0, 103, 0, 0, 0, 103, 0, 0, 0, 103]
abbrev dktX1_kind_1 : List UInt8 := dkwX1_kind_1 ++ dktX1_kind_2
def dkwX1_kind_0 : List UInt8 := [26]
abbrev dktX1_kind_0 : List UInt8 := dkwX1_kind_0 ++ dktX1_kind_1
theorem dksX1_kind_0 : cX1_kind.data.toList.drop 0 = dktX1_kind_0 := by decide +kernel
theorem dksX1_kind_1 : cX1_kind.data.toList.drop 1 = dktX1_kind_1 := dk_seg dksX1_kind_0 1 rfl rfl
theorem dksX1_kind_2 : cX1_kind.data.toList.drop 100 = dktX1_kind_2 := dk_seg dksX1_kind_1 99 rfl rfl
theorem dX1_kind_0 : decode cX1_kind 0 = .ok (.iload_n 0, 1) := dk_26 (dk_at dksX1_kind_0 0 rfl rfl)
theorem dX1_kind_1 : decode cX1_kind 1 = .ok (.tableswitch 107 48 68 #[99, 99, 99, 99, 99, 99, 99, 99, 107, 107, 107, 107, 107, 107, 107, 107, 107, 103, 103, 103, 103], 99) := by decide +kernel
theorem dX1_kind_100 : decode cX1_kind 100 = .ok (.iconst 0, 1) := dk_3 (dk_at dksX1_kind_2 0 rfl rfl)
theorem dX1_kind_101 : decode cX1_kind 101 = .ok (.goto 8, 3) := dk_167 0 8 (dk_at dksX1_kind_2 1 rfl rfl)
theorem dX1_kind_104 : decode cX1_kind 104 = .ok (.iconst 1, 1) := dk_4 (dk_at dksX1_kind_2 4 rfl rfl)
theorem dX1_kind_105 : decode cX1_kind 105 = .ok (.goto 4, 3) := dk_167 0 4 (dk_at dksX1_kind_2 5 rfl rfl)
theorem dX1_kind_108 : decode cX1_kind 108 = .ok (.iconst 2, 1) := dk_5 (dk_at dksX1_kind_2 8 rfl rfl)
theorem dX1_kind_109 : decode cX1_kind 109 = .ok (.ireturn, 1) := dk_172 (dk_at dksX1_kind_2 9 rfl rfl)
abbrev cX1_hasKinds : ByteArray := prog_5_method_8_code
def yX1_hasKinds : MethodName := ⟨RX1, "hasKinds", "(Ljava/lang/String;I)Z"⟩
def dkwX1_hasKinds_1 : List UInt8 := [163, 0, 7, 4, 167, 0, 4, 3, 126, 61, 132, 3, 1, 167, 255, 225, 28, 172]
abbrev dktX1_hasKinds_1 : List UInt8 := dkwX1_hasKinds_1 ++ []
def dkwX1_hasKinds_0 : List UInt8 := [4, 61, 3, 62, 29, 42, 182, 0, 21, 162, 0, 29, 28, 42, 29, 182, 0, 27, 184, 0, 31, 27]
abbrev dktX1_hasKinds_0 : List UInt8 := dkwX1_hasKinds_0 ++ dktX1_hasKinds_1
theorem dksX1_hasKinds_0 : cX1_hasKinds.data.toList.drop 0 = dktX1_hasKinds_0 := by decide +kernel
theorem dksX1_hasKinds_1 : cX1_hasKinds.data.toList.drop 22 = dktX1_hasKinds_1 := dk_seg dksX1_hasKinds_0 22 rfl rfl
theorem dX1_hasKinds_0 : decode cX1_hasKinds 0 = .ok (.iconst 1, 1) := dk_4 (dk_at dksX1_hasKinds_0 0 rfl rfl)
theorem dX1_hasKinds_1 : decode cX1_hasKinds 1 = .ok (.istore_n 2, 1) := dk_61 (dk_at dksX1_hasKinds_0 1 rfl rfl)
theorem dX1_hasKinds_2 : decode cX1_hasKinds 2 = .ok (.iconst 0, 1) := dk_3 (dk_at dksX1_hasKinds_0 2 rfl rfl)
theorem dX1_hasKinds_3 : decode cX1_hasKinds 3 = .ok (.istore_n 3, 1) := dk_62 (dk_at dksX1_hasKinds_0 3 rfl rfl)
theorem dX1_hasKinds_4 : decode cX1_hasKinds 4 = .ok (.iload_n 3, 1) := dk_29 (dk_at dksX1_hasKinds_0 4 rfl rfl)
theorem dX1_hasKinds_5 : decode cX1_hasKinds 5 = .ok (.aload_n 0, 1) := dk_42 (dk_at dksX1_hasKinds_0 5 rfl rfl)
theorem dX1_hasKinds_6 : decode cX1_hasKinds 6 = .ok (.invokevirtual 21, 3) := dk_182 0 21 (dk_at dksX1_hasKinds_0 6 rfl rfl)
theorem dX1_hasKinds_9 : decode cX1_hasKinds 9 = .ok (.if_icmp .ge 29, 3) := dk_162 0 29 (dk_at dksX1_hasKinds_0 9 rfl rfl)
theorem dX1_hasKinds_12 : decode cX1_hasKinds 12 = .ok (.iload_n 2, 1) := dk_28 (dk_at dksX1_hasKinds_0 12 rfl rfl)
theorem dX1_hasKinds_13 : decode cX1_hasKinds 13 = .ok (.aload_n 0, 1) := dk_42 (dk_at dksX1_hasKinds_0 13 rfl rfl)
theorem dX1_hasKinds_14 : decode cX1_hasKinds 14 = .ok (.iload_n 3, 1) := dk_29 (dk_at dksX1_hasKinds_0 14 rfl rfl)
theorem dX1_hasKinds_15 : decode cX1_hasKinds 15 = .ok (.invokevirtual 27, 3) := dk_182 0 27 (dk_at dksX1_hasKinds_0 15 rfl rfl)
theorem dX1_hasKinds_18 : decode cX1_hasKinds 18 = .ok (.invokestatic 31, 3) := dk_184 0 31 (dk_at dksX1_hasKinds_0 18 rfl rfl)
theorem dX1_hasKinds_21 : decode cX1_hasKinds 21 = .ok (.iload_n 1, 1) := dk_27 (dk_at dksX1_hasKinds_0 21 rfl rfl)
theorem dX1_hasKinds_22 : decode cX1_hasKinds 22 = .ok (.if_icmp .gt 7, 3) := dk_163 0 7 (dk_at dksX1_hasKinds_1 0 rfl rfl)
theorem dX1_hasKinds_25 : decode cX1_hasKinds 25 = .ok (.iconst 1, 1) := dk_4 (dk_at dksX1_hasKinds_1 3 rfl rfl)
theorem dX1_hasKinds_26 : decode cX1_hasKinds 26 = .ok (.goto 4, 3) := dk_167 0 4 (dk_at dksX1_hasKinds_1 4 rfl rfl)
theorem dX1_hasKinds_29 : decode cX1_hasKinds 29 = .ok (.iconst 0, 1) := dk_3 (dk_at dksX1_hasKinds_1 7 rfl rfl)
theorem dX1_hasKinds_30 : decode cX1_hasKinds 30 = .ok (.iand, 1) := dk_126 (dk_at dksX1_hasKinds_1 8 rfl rfl)
theorem dX1_hasKinds_31 : decode cX1_hasKinds 31 = .ok (.istore_n 2, 1) := dk_61 (dk_at dksX1_hasKinds_1 9 rfl rfl)
theorem dX1_hasKinds_32 : decode cX1_hasKinds 32 = .ok (.iinc 3 1, 3) := dk_132 3 1 (dk_at dksX1_hasKinds_1 10 rfl rfl)
theorem dX1_hasKinds_35 : decode cX1_hasKinds 35 = .ok (.goto (-31), 3) := dk_167 255 225 (dk_at dksX1_hasKinds_1 13 rfl rfl)
theorem dX1_hasKinds_38 : decode cX1_hasKinds 38 = .ok (.iload_n 2, 1) := dk_28 (dk_at dksX1_hasKinds_1 16 rfl rfl)
theorem dX1_hasKinds_39 : decode cX1_hasKinds 39 = .ok (.ireturn, 1) := dk_172 (dk_at dksX1_hasKinds_1 17 rfl rfl)
abbrev cX1_derive : ByteArray := prog_5_method_16_code
def yX1_derive : MethodName := ⟨RX1, "derive", "(I)Ljava/lang/String;"⟩
def dkwX1_derive_6 : List UInt8 := [16, 8, 164, 0, 11, 187, 0, 177, 89, 183, 0, 179, 191, 44, 176]
abbrev dktX1_derive_6 : List UInt8 := dkwX1_derive_6 ++ []
def dkwX1_derive_5 : List UInt8 := [184, 0, 173, 54, 4, 132, 5, 1, 167, 255, 154, 21, 4, 44, 182, 0, 21, 161, 0, 12, 44, 182, 0, 21]
abbrev dktX1_derive_5 : List UInt8 := dkwX1_derive_5 ++ dktX1_derive_6
def dkwX1_derive_4 : List UInt8 := [112, 185, 0, 142, 2, 0, 192, 0, 22, 184, 0, 169, 77, 29, 25, 6, 185, 0, 126, 1, 0, 108, 62, 44]
abbrev dktX1_derive_4 : List UInt8 := dkwX1_derive_4 ++ dktX1_derive_5
def dkwX1_derive_3 : List UInt8 := [154, 0, 7, 4, 167, 0, 4, 3, 184, 0, 166, 44, 21, 4, 25, 6, 29, 25, 6, 185, 0, 126, 1, 0]
abbrev dktX1_derive_3 : List UInt8 := dkwX1_derive_3 ++ dktX1_derive_4
def dkwX1_derive_2 : List UInt8 := [182, 0, 27, 16, 65, 100, 185, 0, 142, 2, 0, 192, 0, 96, 58, 6, 25, 6, 185, 0, 162, 1, 0]
abbrev dktX1_derive_2 : List UInt8 := dkwX1_derive_2 ++ dktX1_derive_3
def dkwX1_derive_1 : List UInt8 := [21, 5, 16, 12, 162, 0, 101, 21, 4, 44, 182, 0, 21, 162, 0, 92, 42, 180, 0, 63, 44, 21, 4]
abbrev dktX1_derive_1 : List UInt8 := dkwX1_derive_1 ++ dktX1_derive_2
def dkwX1_derive_0 : List UInt8 := [27, 155, 0, 7, 4, 167, 0, 4, 3, 184, 0, 39, 18, 160, 77, 27, 62, 3, 54, 4, 3, 54, 5]
abbrev dktX1_derive_0 : List UInt8 := dkwX1_derive_0 ++ dktX1_derive_1
theorem dksX1_derive_0 : cX1_derive.data.toList.drop 0 = dktX1_derive_0 := by decide +kernel
theorem dksX1_derive_1 : cX1_derive.data.toList.drop 23 = dktX1_derive_1 := dk_seg dksX1_derive_0 23 rfl rfl
theorem dksX1_derive_2 : cX1_derive.data.toList.drop 46 = dktX1_derive_2 := dk_seg dksX1_derive_1 23 rfl rfl
theorem dksX1_derive_3 : cX1_derive.data.toList.drop 69 = dktX1_derive_3 := dk_seg dksX1_derive_2 23 rfl rfl
theorem dksX1_derive_4 : cX1_derive.data.toList.drop 93 = dktX1_derive_4 := dk_seg dksX1_derive_3 24 rfl rfl
theorem dksX1_derive_5 : cX1_derive.data.toList.drop 117 = dktX1_derive_5 := dk_seg dksX1_derive_4 24 rfl rfl
theorem dksX1_derive_6 : cX1_derive.data.toList.drop 141 = dktX1_derive_6 := dk_seg dksX1_derive_5 24 rfl rfl
theorem dX1_derive_0 : decode cX1_derive 0 = .ok (.iload_n 1, 1) := dk_27 (dk_at dksX1_derive_0 0 rfl rfl)
theorem dX1_derive_1 : decode cX1_derive 1 = .ok (.ifCond .lt 7, 3) := dk_155 0 7 (dk_at dksX1_derive_0 1 rfl rfl)
theorem dX1_derive_4 : decode cX1_derive 4 = .ok (.iconst 1, 1) := dk_4 (dk_at dksX1_derive_0 4 rfl rfl)
theorem dX1_derive_5 : decode cX1_derive 5 = .ok (.goto 4, 3) := dk_167 0 4 (dk_at dksX1_derive_0 5 rfl rfl)
theorem dX1_derive_8 : decode cX1_derive 8 = .ok (.iconst 0, 1) := dk_3 (dk_at dksX1_derive_0 8 rfl rfl)
theorem dX1_derive_9 : decode cX1_derive 9 = .ok (.invokestatic 39, 3) := dk_184 0 39 (dk_at dksX1_derive_0 9 rfl rfl)
theorem dX1_derive_12 : decode cX1_derive 12 = .ok (.ldc 160, 2) := dk_18 160 (dk_at dksX1_derive_0 12 rfl rfl)
theorem dX1_derive_14 : decode cX1_derive 14 = .ok (.astore_n 2, 1) := dk_77 (dk_at dksX1_derive_0 14 rfl rfl)
theorem dX1_derive_15 : decode cX1_derive 15 = .ok (.iload_n 1, 1) := dk_27 (dk_at dksX1_derive_0 15 rfl rfl)
theorem dX1_derive_16 : decode cX1_derive 16 = .ok (.istore_n 3, 1) := dk_62 (dk_at dksX1_derive_0 16 rfl rfl)
theorem dX1_derive_17 : decode cX1_derive 17 = .ok (.iconst 0, 1) := dk_3 (dk_at dksX1_derive_0 17 rfl rfl)
theorem dX1_derive_18 : decode cX1_derive 18 = .ok (.istore 4, 2) := dk_54 4 (dk_at dksX1_derive_0 18 rfl rfl)
theorem dX1_derive_20 : decode cX1_derive 20 = .ok (.iconst 0, 1) := dk_3 (dk_at dksX1_derive_0 20 rfl rfl)
theorem dX1_derive_21 : decode cX1_derive 21 = .ok (.istore 5, 2) := dk_54 5 (dk_at dksX1_derive_0 21 rfl rfl)
theorem dX1_derive_23 : decode cX1_derive 23 = .ok (.iload 5, 2) := dk_21 5 (dk_at dksX1_derive_1 0 rfl rfl)
theorem dX1_derive_25 : decode cX1_derive 25 = .ok (.bipush 12, 2) := dk_16 12 (dk_at dksX1_derive_1 2 rfl rfl)
theorem dX1_derive_27 : decode cX1_derive 27 = .ok (.if_icmp .ge 101, 3) := dk_162 0 101 (dk_at dksX1_derive_1 4 rfl rfl)
theorem dX1_derive_30 : decode cX1_derive 30 = .ok (.iload 4, 2) := dk_21 4 (dk_at dksX1_derive_1 7 rfl rfl)
theorem dX1_derive_32 : decode cX1_derive 32 = .ok (.aload_n 2, 1) := dk_44 (dk_at dksX1_derive_1 9 rfl rfl)
theorem dX1_derive_33 : decode cX1_derive 33 = .ok (.invokevirtual 21, 3) := dk_182 0 21 (dk_at dksX1_derive_1 10 rfl rfl)
theorem dX1_derive_36 : decode cX1_derive 36 = .ok (.if_icmp .ge 92, 3) := dk_162 0 92 (dk_at dksX1_derive_1 13 rfl rfl)
theorem dX1_derive_39 : decode cX1_derive 39 = .ok (.aload_n 0, 1) := dk_42 (dk_at dksX1_derive_1 16 rfl rfl)
theorem dX1_derive_40 : decode cX1_derive 40 = .ok (.getfield 63, 3) := dk_180 0 63 (dk_at dksX1_derive_1 17 rfl rfl)
theorem dX1_derive_43 : decode cX1_derive 43 = .ok (.aload_n 2, 1) := dk_44 (dk_at dksX1_derive_1 20 rfl rfl)
theorem dX1_derive_44 : decode cX1_derive 44 = .ok (.iload 4, 2) := dk_21 4 (dk_at dksX1_derive_1 21 rfl rfl)
theorem dX1_derive_46 : decode cX1_derive 46 = .ok (.invokevirtual 27, 3) := dk_182 0 27 (dk_at dksX1_derive_2 0 rfl rfl)
theorem dX1_derive_49 : decode cX1_derive 49 = .ok (.bipush 65, 2) := dk_16 65 (dk_at dksX1_derive_2 3 rfl rfl)
theorem dX1_derive_51 : decode cX1_derive 51 = .ok (.isub, 1) := dk_100 (dk_at dksX1_derive_2 5 rfl rfl)
theorem dX1_derive_52 : decode cX1_derive 52 = .ok (.invokeinterface 142 2, 5) := by decide +kernel
theorem dX1_derive_57 : decode cX1_derive 57 = .ok (.checkcast 96, 3) := dk_192 0 96 (dk_at dksX1_derive_2 11 rfl rfl)
theorem dX1_derive_60 : decode cX1_derive 60 = .ok (.astore 6, 2) := dk_58 6 (dk_at dksX1_derive_2 14 rfl rfl)
theorem dX1_derive_62 : decode cX1_derive 62 = .ok (.aload 6, 2) := dk_25 6 (dk_at dksX1_derive_2 16 rfl rfl)
theorem dX1_derive_64 : decode cX1_derive 64 = .ok (.invokeinterface 162 1, 5) := by decide +kernel
theorem dX1_derive_69 : decode cX1_derive 69 = .ok (.ifCond .ne 7, 3) := dk_154 0 7 (dk_at dksX1_derive_3 0 rfl rfl)
theorem dX1_derive_72 : decode cX1_derive 72 = .ok (.iconst 1, 1) := dk_4 (dk_at dksX1_derive_3 3 rfl rfl)
theorem dX1_derive_73 : decode cX1_derive 73 = .ok (.goto 4, 3) := dk_167 0 4 (dk_at dksX1_derive_3 4 rfl rfl)
theorem dX1_derive_76 : decode cX1_derive 76 = .ok (.iconst 0, 1) := dk_3 (dk_at dksX1_derive_3 7 rfl rfl)
theorem dX1_derive_77 : decode cX1_derive 77 = .ok (.invokestatic 166, 3) := dk_184 0 166 (dk_at dksX1_derive_3 8 rfl rfl)
theorem dX1_derive_80 : decode cX1_derive 80 = .ok (.aload_n 2, 1) := dk_44 (dk_at dksX1_derive_3 11 rfl rfl)
theorem dX1_derive_81 : decode cX1_derive 81 = .ok (.iload 4, 2) := dk_21 4 (dk_at dksX1_derive_3 12 rfl rfl)
theorem dX1_derive_83 : decode cX1_derive 83 = .ok (.aload 6, 2) := dk_25 6 (dk_at dksX1_derive_3 14 rfl rfl)
theorem dX1_derive_85 : decode cX1_derive 85 = .ok (.iload_n 3, 1) := dk_29 (dk_at dksX1_derive_3 16 rfl rfl)
theorem dX1_derive_86 : decode cX1_derive 86 = .ok (.aload 6, 2) := dk_25 6 (dk_at dksX1_derive_3 17 rfl rfl)
theorem dX1_derive_88 : decode cX1_derive 88 = .ok (.invokeinterface 126 1, 5) := by decide +kernel
theorem dX1_derive_93 : decode cX1_derive 93 = .ok (.irem, 1) := dk_112 (dk_at dksX1_derive_4 0 rfl rfl)
theorem dX1_derive_94 : decode cX1_derive 94 = .ok (.invokeinterface 142 2, 5) := by decide +kernel
theorem dX1_derive_99 : decode cX1_derive 99 = .ok (.checkcast 22, 3) := dk_192 0 22 (dk_at dksX1_derive_4 6 rfl rfl)
theorem dX1_derive_102 : decode cX1_derive 102 = .ok (.invokestatic 169, 3) := dk_184 0 169 (dk_at dksX1_derive_4 9 rfl rfl)
theorem dX1_derive_105 : decode cX1_derive 105 = .ok (.astore_n 2, 1) := dk_77 (dk_at dksX1_derive_4 12 rfl rfl)
theorem dX1_derive_106 : decode cX1_derive 106 = .ok (.iload_n 3, 1) := dk_29 (dk_at dksX1_derive_4 13 rfl rfl)
theorem dX1_derive_107 : decode cX1_derive 107 = .ok (.aload 6, 2) := dk_25 6 (dk_at dksX1_derive_4 14 rfl rfl)
theorem dX1_derive_109 : decode cX1_derive 109 = .ok (.invokeinterface 126 1, 5) := by decide +kernel
theorem dX1_derive_114 : decode cX1_derive 114 = .ok (.idiv, 1) := dk_108 (dk_at dksX1_derive_4 21 rfl rfl)
theorem dX1_derive_115 : decode cX1_derive 115 = .ok (.istore_n 3, 1) := dk_62 (dk_at dksX1_derive_4 22 rfl rfl)
theorem dX1_derive_116 : decode cX1_derive 116 = .ok (.aload_n 2, 1) := dk_44 (dk_at dksX1_derive_4 23 rfl rfl)
theorem dX1_derive_117 : decode cX1_derive 117 = .ok (.invokestatic 173, 3) := dk_184 0 173 (dk_at dksX1_derive_5 0 rfl rfl)
theorem dX1_derive_120 : decode cX1_derive 120 = .ok (.istore 4, 2) := dk_54 4 (dk_at dksX1_derive_5 3 rfl rfl)
theorem dX1_derive_122 : decode cX1_derive 122 = .ok (.iinc 5 1, 3) := dk_132 5 1 (dk_at dksX1_derive_5 5 rfl rfl)
theorem dX1_derive_125 : decode cX1_derive 125 = .ok (.goto (-102), 3) := dk_167 255 154 (dk_at dksX1_derive_5 8 rfl rfl)
theorem dX1_derive_128 : decode cX1_derive 128 = .ok (.iload 4, 2) := dk_21 4 (dk_at dksX1_derive_5 11 rfl rfl)
theorem dX1_derive_130 : decode cX1_derive 130 = .ok (.aload_n 2, 1) := dk_44 (dk_at dksX1_derive_5 13 rfl rfl)
theorem dX1_derive_131 : decode cX1_derive 131 = .ok (.invokevirtual 21, 3) := dk_182 0 21 (dk_at dksX1_derive_5 14 rfl rfl)
theorem dX1_derive_134 : decode cX1_derive 134 = .ok (.if_icmp .lt 12, 3) := dk_161 0 12 (dk_at dksX1_derive_5 17 rfl rfl)
theorem dX1_derive_137 : decode cX1_derive 137 = .ok (.aload_n 2, 1) := dk_44 (dk_at dksX1_derive_5 20 rfl rfl)
theorem dX1_derive_138 : decode cX1_derive 138 = .ok (.invokevirtual 21, 3) := dk_182 0 21 (dk_at dksX1_derive_5 21 rfl rfl)
theorem dX1_derive_141 : decode cX1_derive 141 = .ok (.bipush 8, 2) := dk_16 8 (dk_at dksX1_derive_6 0 rfl rfl)
theorem dX1_derive_143 : decode cX1_derive 143 = .ok (.if_icmp .le 11, 3) := dk_164 0 11 (dk_at dksX1_derive_6 2 rfl rfl)
theorem dX1_derive_146 : decode cX1_derive 146 = .ok (.new 177, 3) := dk_187 0 177 (dk_at dksX1_derive_6 5 rfl rfl)
theorem dX1_derive_149 : decode cX1_derive 149 = .ok (.dup, 1) := dk_89 (dk_at dksX1_derive_6 8 rfl rfl)
theorem dX1_derive_150 : decode cX1_derive 150 = .ok (.invokespecial 179, 3) := dk_183 0 179 (dk_at dksX1_derive_6 9 rfl rfl)
theorem dX1_derive_153 : decode cX1_derive 153 = .ok (.athrow, 1) := dk_191 (dk_at dksX1_derive_6 12 rfl rfl)
theorem dX1_derive_154 : decode cX1_derive 154 = .ok (.aload_n 2, 1) := dk_44 (dk_at dksX1_derive_6 13 rfl rfl)
theorem dX1_derive_155 : decode cX1_derive 155 = .ok (.areturn, 1) := dk_176 (dk_at dksX1_derive_6 14 rfl rfl)
abbrev cX1_requireElement : ByteArray := prog_5_method_4_code
def yX1_requireElement : MethodName := ⟨RX1, "requireElement", "(Z)V"⟩
def dkwX1_requireElement_0 : List UInt8 := [26, 154, 0, 11, 187, 0, 12, 89, 183, 0, 14, 191, 177]
abbrev dktX1_requireElement_0 : List UInt8 := dkwX1_requireElement_0 ++ []
theorem dksX1_requireElement_0 : cX1_requireElement.data.toList.drop 0 = dktX1_requireElement_0 := by decide +kernel
theorem dX1_requireElement_0 : decode cX1_requireElement 0 = .ok (.iload_n 0, 1) := dk_26 (dk_at dksX1_requireElement_0 0 rfl rfl)
theorem dX1_requireElement_1 : decode cX1_requireElement 1 = .ok (.ifCond .ne 11, 3) := dk_154 0 11 (dk_at dksX1_requireElement_0 1 rfl rfl)
theorem dX1_requireElement_4 : decode cX1_requireElement 4 = .ok (.new 12, 3) := dk_187 0 12 (dk_at dksX1_requireElement_0 4 rfl rfl)
theorem dX1_requireElement_7 : decode cX1_requireElement 7 = .ok (.dup, 1) := dk_89 (dk_at dksX1_requireElement_0 7 rfl rfl)
theorem dX1_requireElement_8 : decode cX1_requireElement 8 = .ok (.invokespecial 14, 3) := dk_183 0 14 (dk_at dksX1_requireElement_0 8 rfl rfl)
theorem dX1_requireElement_11 : decode cX1_requireElement 11 = .ok (.athrow, 1) := dk_191 (dk_at dksX1_requireElement_0 11 rfl rfl)
theorem dX1_requireElement_12 : decode cX1_requireElement 12 = .ok (.return_, 1) := dk_177 (dk_at dksX1_requireElement_0 12 rfl rfl)
abbrev cX1_replaced : ByteArray := prog_5_method_15_code
def yX1_replaced : MethodName := ⟨RX1, "replaced", "(Ljava/lang/String;ILjava/lang/String;)Ljava/lang/String;"⟩
def dkwX1_replaced_3 : List UInt8 := [182, 0, 156, 176]
abbrev dktX1_replaced_3 : List UInt8 := dkwX1_replaced_3 ++ []
def dkwX1_replaced_2 : List UInt8 := [182, 0, 21, 162, 0, 20, 45, 42, 21, 4, 182, 0, 27, 182, 0, 149, 87, 132, 4, 1, 167, 255, 233, 45]
abbrev dktX1_replaced_2 : List UInt8 := dkwX1_replaced_2 ++ dktX1_replaced_3
def dkwX1_replaced_1 : List UInt8 := [182, 0, 149, 87, 132, 4, 1, 167, 255, 236, 45, 44, 182, 0, 153, 87, 27, 4, 96, 54, 4, 21, 4, 42]
abbrev dktX1_replaced_1 : List UInt8 := dkwX1_replaced_1 ++ dktX1_replaced_2
def dkwX1_replaced_0 : List UInt8 := [187, 0, 146, 89, 183, 0, 148, 78, 3, 54, 4, 21, 4, 27, 162, 0, 20, 45, 42, 21, 4, 182, 0, 27]
abbrev dktX1_replaced_0 : List UInt8 := dkwX1_replaced_0 ++ dktX1_replaced_1
theorem dksX1_replaced_0 : cX1_replaced.data.toList.drop 0 = dktX1_replaced_0 := by decide +kernel
theorem dksX1_replaced_1 : cX1_replaced.data.toList.drop 24 = dktX1_replaced_1 := dk_seg dksX1_replaced_0 24 rfl rfl
theorem dksX1_replaced_2 : cX1_replaced.data.toList.drop 48 = dktX1_replaced_2 := dk_seg dksX1_replaced_1 24 rfl rfl
theorem dksX1_replaced_3 : cX1_replaced.data.toList.drop 72 = dktX1_replaced_3 := dk_seg dksX1_replaced_2 24 rfl rfl
theorem dX1_replaced_0 : decode cX1_replaced 0 = .ok (.new 146, 3) := dk_187 0 146 (dk_at dksX1_replaced_0 0 rfl rfl)
theorem dX1_replaced_3 : decode cX1_replaced 3 = .ok (.dup, 1) := dk_89 (dk_at dksX1_replaced_0 3 rfl rfl)
theorem dX1_replaced_4 : decode cX1_replaced 4 = .ok (.invokespecial 148, 3) := dk_183 0 148 (dk_at dksX1_replaced_0 4 rfl rfl)
theorem dX1_replaced_7 : decode cX1_replaced 7 = .ok (.astore_n 3, 1) := dk_78 (dk_at dksX1_replaced_0 7 rfl rfl)
theorem dX1_replaced_8 : decode cX1_replaced 8 = .ok (.iconst 0, 1) := dk_3 (dk_at dksX1_replaced_0 8 rfl rfl)
theorem dX1_replaced_9 : decode cX1_replaced 9 = .ok (.istore 4, 2) := dk_54 4 (dk_at dksX1_replaced_0 9 rfl rfl)
theorem dX1_replaced_11 : decode cX1_replaced 11 = .ok (.iload 4, 2) := dk_21 4 (dk_at dksX1_replaced_0 11 rfl rfl)
theorem dX1_replaced_13 : decode cX1_replaced 13 = .ok (.iload_n 1, 1) := dk_27 (dk_at dksX1_replaced_0 13 rfl rfl)
theorem dX1_replaced_14 : decode cX1_replaced 14 = .ok (.if_icmp .ge 20, 3) := dk_162 0 20 (dk_at dksX1_replaced_0 14 rfl rfl)
theorem dX1_replaced_17 : decode cX1_replaced 17 = .ok (.aload_n 3, 1) := dk_45 (dk_at dksX1_replaced_0 17 rfl rfl)
theorem dX1_replaced_18 : decode cX1_replaced 18 = .ok (.aload_n 0, 1) := dk_42 (dk_at dksX1_replaced_0 18 rfl rfl)
theorem dX1_replaced_19 : decode cX1_replaced 19 = .ok (.iload 4, 2) := dk_21 4 (dk_at dksX1_replaced_0 19 rfl rfl)
theorem dX1_replaced_21 : decode cX1_replaced 21 = .ok (.invokevirtual 27, 3) := dk_182 0 27 (dk_at dksX1_replaced_0 21 rfl rfl)
theorem dX1_replaced_24 : decode cX1_replaced 24 = .ok (.invokevirtual 149, 3) := dk_182 0 149 (dk_at dksX1_replaced_1 0 rfl rfl)
theorem dX1_replaced_27 : decode cX1_replaced 27 = .ok (.pop, 1) := dk_87 (dk_at dksX1_replaced_1 3 rfl rfl)
theorem dX1_replaced_28 : decode cX1_replaced 28 = .ok (.iinc 4 1, 3) := dk_132 4 1 (dk_at dksX1_replaced_1 4 rfl rfl)
theorem dX1_replaced_31 : decode cX1_replaced 31 = .ok (.goto (-20), 3) := dk_167 255 236 (dk_at dksX1_replaced_1 7 rfl rfl)
theorem dX1_replaced_34 : decode cX1_replaced 34 = .ok (.aload_n 3, 1) := dk_45 (dk_at dksX1_replaced_1 10 rfl rfl)
theorem dX1_replaced_35 : decode cX1_replaced 35 = .ok (.aload_n 2, 1) := dk_44 (dk_at dksX1_replaced_1 11 rfl rfl)
theorem dX1_replaced_36 : decode cX1_replaced 36 = .ok (.invokevirtual 153, 3) := dk_182 0 153 (dk_at dksX1_replaced_1 12 rfl rfl)
theorem dX1_replaced_39 : decode cX1_replaced 39 = .ok (.pop, 1) := dk_87 (dk_at dksX1_replaced_1 15 rfl rfl)
theorem dX1_replaced_40 : decode cX1_replaced 40 = .ok (.iload_n 1, 1) := dk_27 (dk_at dksX1_replaced_1 16 rfl rfl)
theorem dX1_replaced_41 : decode cX1_replaced 41 = .ok (.iconst 1, 1) := dk_4 (dk_at dksX1_replaced_1 17 rfl rfl)
theorem dX1_replaced_42 : decode cX1_replaced 42 = .ok (.iadd, 1) := dk_96 (dk_at dksX1_replaced_1 18 rfl rfl)
theorem dX1_replaced_43 : decode cX1_replaced 43 = .ok (.istore 4, 2) := dk_54 4 (dk_at dksX1_replaced_1 19 rfl rfl)
theorem dX1_replaced_45 : decode cX1_replaced 45 = .ok (.iload 4, 2) := dk_21 4 (dk_at dksX1_replaced_1 21 rfl rfl)
theorem dX1_replaced_47 : decode cX1_replaced 47 = .ok (.aload_n 0, 1) := dk_42 (dk_at dksX1_replaced_1 23 rfl rfl)
theorem dX1_replaced_48 : decode cX1_replaced 48 = .ok (.invokevirtual 21, 3) := dk_182 0 21 (dk_at dksX1_replaced_2 0 rfl rfl)
theorem dX1_replaced_51 : decode cX1_replaced 51 = .ok (.if_icmp .ge 20, 3) := dk_162 0 20 (dk_at dksX1_replaced_2 3 rfl rfl)
theorem dX1_replaced_54 : decode cX1_replaced 54 = .ok (.aload_n 3, 1) := dk_45 (dk_at dksX1_replaced_2 6 rfl rfl)
theorem dX1_replaced_55 : decode cX1_replaced 55 = .ok (.aload_n 0, 1) := dk_42 (dk_at dksX1_replaced_2 7 rfl rfl)
theorem dX1_replaced_56 : decode cX1_replaced 56 = .ok (.iload 4, 2) := dk_21 4 (dk_at dksX1_replaced_2 8 rfl rfl)
theorem dX1_replaced_58 : decode cX1_replaced 58 = .ok (.invokevirtual 27, 3) := dk_182 0 27 (dk_at dksX1_replaced_2 10 rfl rfl)
theorem dX1_replaced_61 : decode cX1_replaced 61 = .ok (.invokevirtual 149, 3) := dk_182 0 149 (dk_at dksX1_replaced_2 13 rfl rfl)
theorem dX1_replaced_64 : decode cX1_replaced 64 = .ok (.pop, 1) := dk_87 (dk_at dksX1_replaced_2 16 rfl rfl)
theorem dX1_replaced_65 : decode cX1_replaced 65 = .ok (.iinc 4 1, 3) := dk_132 4 1 (dk_at dksX1_replaced_2 17 rfl rfl)
theorem dX1_replaced_68 : decode cX1_replaced 68 = .ok (.goto (-23), 3) := dk_167 255 233 (dk_at dksX1_replaced_2 20 rfl rfl)
theorem dX1_replaced_71 : decode cX1_replaced 71 = .ok (.aload_n 3, 1) := dk_45 (dk_at dksX1_replaced_2 23 rfl rfl)
theorem dX1_replaced_72 : decode cX1_replaced 72 = .ok (.invokevirtual 156, 3) := dk_182 0 156 (dk_at dksX1_replaced_3 0 rfl rfl)
theorem dX1_replaced_75 : decode cX1_replaced 75 = .ok (.areturn, 1) := dk_176 (dk_at dksX1_replaced_3 3 rfl rfl)
abbrev cX1_firstSymbol : ByteArray := prog_5_method_14_code
def yX1_firstSymbol : MethodName := ⟨RX1, "firstSymbol", "(Ljava/lang/String;)I"⟩
def dkwX1_firstSymbol_1 : List UInt8 := [167, 255, 234, 27, 172]
abbrev dktX1_firstSymbol_1 : List UInt8 := dkwX1_firstSymbol_1 ++ []
def dkwX1_firstSymbol_0 : List UInt8 := [3, 60, 27, 42, 182, 0, 21, 162, 0, 20, 42, 27, 182, 0, 27, 184, 0, 31, 154, 0, 9, 132, 1, 1]
abbrev dktX1_firstSymbol_0 : List UInt8 := dkwX1_firstSymbol_0 ++ dktX1_firstSymbol_1
theorem dksX1_firstSymbol_0 : cX1_firstSymbol.data.toList.drop 0 = dktX1_firstSymbol_0 := by decide +kernel
theorem dksX1_firstSymbol_1 : cX1_firstSymbol.data.toList.drop 24 = dktX1_firstSymbol_1 := dk_seg dksX1_firstSymbol_0 24 rfl rfl
theorem dX1_firstSymbol_0 : decode cX1_firstSymbol 0 = .ok (.iconst 0, 1) := dk_3 (dk_at dksX1_firstSymbol_0 0 rfl rfl)
theorem dX1_firstSymbol_1 : decode cX1_firstSymbol 1 = .ok (.istore_n 1, 1) := dk_60 (dk_at dksX1_firstSymbol_0 1 rfl rfl)
theorem dX1_firstSymbol_2 : decode cX1_firstSymbol 2 = .ok (.iload_n 1, 1) := dk_27 (dk_at dksX1_firstSymbol_0 2 rfl rfl)
theorem dX1_firstSymbol_3 : decode cX1_firstSymbol 3 = .ok (.aload_n 0, 1) := dk_42 (dk_at dksX1_firstSymbol_0 3 rfl rfl)
theorem dX1_firstSymbol_4 : decode cX1_firstSymbol 4 = .ok (.invokevirtual 21, 3) := dk_182 0 21 (dk_at dksX1_firstSymbol_0 4 rfl rfl)
theorem dX1_firstSymbol_7 : decode cX1_firstSymbol 7 = .ok (.if_icmp .ge 20, 3) := dk_162 0 20 (dk_at dksX1_firstSymbol_0 7 rfl rfl)
theorem dX1_firstSymbol_10 : decode cX1_firstSymbol 10 = .ok (.aload_n 0, 1) := dk_42 (dk_at dksX1_firstSymbol_0 10 rfl rfl)
theorem dX1_firstSymbol_11 : decode cX1_firstSymbol 11 = .ok (.iload_n 1, 1) := dk_27 (dk_at dksX1_firstSymbol_0 11 rfl rfl)
theorem dX1_firstSymbol_12 : decode cX1_firstSymbol 12 = .ok (.invokevirtual 27, 3) := dk_182 0 27 (dk_at dksX1_firstSymbol_0 12 rfl rfl)
theorem dX1_firstSymbol_15 : decode cX1_firstSymbol 15 = .ok (.invokestatic 31, 3) := dk_184 0 31 (dk_at dksX1_firstSymbol_0 15 rfl rfl)
theorem dX1_firstSymbol_18 : decode cX1_firstSymbol 18 = .ok (.ifCond .ne 9, 3) := dk_154 0 9 (dk_at dksX1_firstSymbol_0 18 rfl rfl)
theorem dX1_firstSymbol_21 : decode cX1_firstSymbol 21 = .ok (.iinc 1 1, 3) := dk_132 1 1 (dk_at dksX1_firstSymbol_0 21 rfl rfl)
theorem dX1_firstSymbol_24 : decode cX1_firstSymbol 24 = .ok (.goto (-22), 3) := dk_167 255 234 (dk_at dksX1_firstSymbol_1 0 rfl rfl)
theorem dX1_firstSymbol_27 : decode cX1_firstSymbol 27 = .ok (.iload_n 1, 1) := dk_27 (dk_at dksX1_firstSymbol_1 3 rfl rfl)
theorem dX1_firstSymbol_28 : decode cX1_firstSymbol 28 = .ok (.ireturn, 1) := dk_172 (dk_at dksX1_firstSymbol_1 4 rfl rfl)
abbrev cX1_take : ByteArray := prog_5_method_22_code
def yX1_take : MethodName := ⟨RX1, "take", "(Ljava/lang/String;)Z"⟩
def dkwX1_take_0 : List UInt8 := [42, 43, 184, 1, 19, 182, 1, 23, 172]
abbrev dktX1_take_0 : List UInt8 := dkwX1_take_0 ++ []
theorem dksX1_take_0 : cX1_take.data.toList.drop 0 = dktX1_take_0 := by decide +kernel
theorem dX1_take_0 : decode cX1_take 0 = .ok (.aload_n 0, 1) := dk_42 (dk_at dksX1_take_0 0 rfl rfl)
theorem dX1_take_1 : decode cX1_take 1 = .ok (.aload_n 1, 1) := dk_43 (dk_at dksX1_take_0 1 rfl rfl)
theorem dX1_take_2 : decode cX1_take 2 = .ok (.invokestatic 275, 3) := dk_184 1 19 (dk_at dksX1_take_0 2 rfl rfl)
theorem dX1_take_5 : decode cX1_take 5 = .ok (.invokevirtual 279, 3) := dk_182 1 23 (dk_at dksX1_take_0 5 rfl rfl)
theorem dX1_take_8 : decode cX1_take 8 = .ok (.ireturn, 1) := dk_172 (dk_at dksX1_take_0 8 rfl rfl)
abbrev cX1_requireInput : ByteArray := prog_5_method_9_code
def yX1_requireInput : MethodName := ⟨RX1, "requireInput", "(Ljava/lang/String;)LShrinkYard$Digits;"⟩
def dkwX1_requireInput_1 : List UInt8 := [184, 0, 39, 187, 0, 43, 89, 183, 0, 45, 76, 43, 42, 182, 0, 46, 43, 176]
abbrev dktX1_requireInput_1 : List UInt8 := dkwX1_requireInput_1 ++ []
def dkwX1_requireInput_0 : List UInt8 := [42, 182, 0, 21, 16, 8, 163, 0, 15, 42, 3, 184, 0, 35, 153, 0, 7, 4, 167, 0, 4, 3]
abbrev dktX1_requireInput_0 : List UInt8 := dkwX1_requireInput_0 ++ dktX1_requireInput_1
theorem dksX1_requireInput_0 : cX1_requireInput.data.toList.drop 0 = dktX1_requireInput_0 := by decide +kernel
theorem dksX1_requireInput_1 : cX1_requireInput.data.toList.drop 22 = dktX1_requireInput_1 := dk_seg dksX1_requireInput_0 22 rfl rfl
theorem dX1_requireInput_0 : decode cX1_requireInput 0 = .ok (.aload_n 0, 1) := dk_42 (dk_at dksX1_requireInput_0 0 rfl rfl)
theorem dX1_requireInput_1 : decode cX1_requireInput 1 = .ok (.invokevirtual 21, 3) := dk_182 0 21 (dk_at dksX1_requireInput_0 1 rfl rfl)
theorem dX1_requireInput_4 : decode cX1_requireInput 4 = .ok (.bipush 8, 2) := dk_16 8 (dk_at dksX1_requireInput_0 4 rfl rfl)
theorem dX1_requireInput_6 : decode cX1_requireInput 6 = .ok (.if_icmp .gt 15, 3) := dk_163 0 15 (dk_at dksX1_requireInput_0 6 rfl rfl)
theorem dX1_requireInput_9 : decode cX1_requireInput 9 = .ok (.aload_n 0, 1) := dk_42 (dk_at dksX1_requireInput_0 9 rfl rfl)
theorem dX1_requireInput_10 : decode cX1_requireInput 10 = .ok (.iconst 0, 1) := dk_3 (dk_at dksX1_requireInput_0 10 rfl rfl)
theorem dX1_requireInput_11 : decode cX1_requireInput 11 = .ok (.invokestatic 35, 3) := dk_184 0 35 (dk_at dksX1_requireInput_0 11 rfl rfl)
theorem dX1_requireInput_14 : decode cX1_requireInput 14 = .ok (.ifCond .eq 7, 3) := dk_153 0 7 (dk_at dksX1_requireInput_0 14 rfl rfl)
theorem dX1_requireInput_17 : decode cX1_requireInput 17 = .ok (.iconst 1, 1) := dk_4 (dk_at dksX1_requireInput_0 17 rfl rfl)
theorem dX1_requireInput_18 : decode cX1_requireInput 18 = .ok (.goto 4, 3) := dk_167 0 4 (dk_at dksX1_requireInput_0 18 rfl rfl)
theorem dX1_requireInput_21 : decode cX1_requireInput 21 = .ok (.iconst 0, 1) := dk_3 (dk_at dksX1_requireInput_0 21 rfl rfl)
theorem dX1_requireInput_22 : decode cX1_requireInput 22 = .ok (.invokestatic 39, 3) := dk_184 0 39 (dk_at dksX1_requireInput_1 0 rfl rfl)
theorem dX1_requireInput_25 : decode cX1_requireInput 25 = .ok (.new 43, 3) := dk_187 0 43 (dk_at dksX1_requireInput_1 3 rfl rfl)
theorem dX1_requireInput_28 : decode cX1_requireInput 28 = .ok (.dup, 1) := dk_89 (dk_at dksX1_requireInput_1 6 rfl rfl)
theorem dX1_requireInput_29 : decode cX1_requireInput 29 = .ok (.invokespecial 45, 3) := dk_183 0 45 (dk_at dksX1_requireInput_1 7 rfl rfl)
theorem dX1_requireInput_32 : decode cX1_requireInput 32 = .ok (.astore_n 1, 1) := dk_76 (dk_at dksX1_requireInput_1 10 rfl rfl)
theorem dX1_requireInput_33 : decode cX1_requireInput 33 = .ok (.aload_n 1, 1) := dk_43 (dk_at dksX1_requireInput_1 11 rfl rfl)
theorem dX1_requireInput_34 : decode cX1_requireInput 34 = .ok (.aload_n 0, 1) := dk_42 (dk_at dksX1_requireInput_1 12 rfl rfl)
theorem dX1_requireInput_35 : decode cX1_requireInput 35 = .ok (.invokevirtual 46, 3) := dk_182 0 46 (dk_at dksX1_requireInput_1 13 rfl rfl)
theorem dX1_requireInput_38 : decode cX1_requireInput 38 = .ok (.aload_n 1, 1) := dk_43 (dk_at dksX1_requireInput_1 16 rfl rfl)
theorem dX1_requireInput_39 : decode cX1_requireInput 39 = .ok (.areturn, 1) := dk_176 (dk_at dksX1_requireInput_1 17 rfl rfl)
abbrev cX1_take_2 : ByteArray := prog_5_method_21_code
def yX1_take_2 : MethodName := ⟨RX1, "take", "(LShrinkYard$Digits;)Z"⟩
def dkwX1_take_2_6 : List UInt8 := [183, 1, 16, 185, 0, 95, 2, 0, 87, 28, 172]
abbrev dktX1_take_2_6 : List UInt8 := dkwX1_take_2_6 ++ []
def dkwX1_take_2_5 : List UInt8 := [154, 0, 31, 42, 180, 0, 92, 187, 0, 218, 89, 43, 182, 0, 202, 42, 43, 29, 182, 1, 12, 29]
abbrev dktX1_take_2_5 : List UInt8 := dkwX1_take_2_5 ++ dktX1_take_2_6
def dkwX1_take_2_4 : List UInt8 := [180, 1, 3, 62, 42, 180, 0, 71, 180, 0, 246, 178, 1, 5, 166, 0, 39, 42, 29, 182, 1, 8]
abbrev dktX1_take_2_4 : List UInt8 := dkwX1_take_2_4 ++ dktX1_take_2_5
def dkwX1_take_2_3 : List UInt8 := [182, 0, 202, 185, 0, 95, 2, 0, 87, 42, 180, 0, 88, 43, 182, 0, 202, 182, 0, 255, 42, 180, 0, 71]
abbrev dktX1_take_2_3 : List UInt8 := dkwX1_take_2_3 ++ dktX1_take_2_4
def dkwX1_take_2_2 : List UInt8 := [180, 0, 246, 178, 0, 250, 166, 0, 7, 4, 167, 0, 4, 3, 61, 28, 153, 0, 28, 42, 180, 0, 82, 43]
abbrev dktX1_take_2_2 : List UInt8 := dkwX1_take_2_2 ++ dktX1_take_2_3
def dkwX1_take_2_1 : List UInt8 := [180, 0, 71, 180, 0, 240, 133, 97, 181, 0, 236, 42, 182, 0, 243, 153, 0, 20, 42, 180, 0, 71]
abbrev dktX1_take_2_1 : List UInt8 := dkwX1_take_2_1 ++ dktX1_take_2_2
def dkwX1_take_2_0 : List UInt8 := [42, 180, 0, 71, 43, 182, 0, 233, 42, 89, 180, 0, 129, 4, 96, 181, 0, 129, 42, 89, 180, 0, 236, 42]
abbrev dktX1_take_2_0 : List UInt8 := dkwX1_take_2_0 ++ dktX1_take_2_1
theorem dksX1_take_2_0 : cX1_take_2.data.toList.drop 0 = dktX1_take_2_0 := by decide +kernel
theorem dksX1_take_2_1 : cX1_take_2.data.toList.drop 24 = dktX1_take_2_1 := dk_seg dksX1_take_2_0 24 rfl rfl
theorem dksX1_take_2_2 : cX1_take_2.data.toList.drop 46 = dktX1_take_2_2 := dk_seg dksX1_take_2_1 22 rfl rfl
theorem dksX1_take_2_3 : cX1_take_2.data.toList.drop 70 = dktX1_take_2_3 := dk_seg dksX1_take_2_2 24 rfl rfl
theorem dksX1_take_2_4 : cX1_take_2.data.toList.drop 94 = dktX1_take_2_4 := dk_seg dksX1_take_2_3 24 rfl rfl
theorem dksX1_take_2_5 : cX1_take_2.data.toList.drop 116 = dktX1_take_2_5 := dk_seg dksX1_take_2_4 22 rfl rfl
theorem dksX1_take_2_6 : cX1_take_2.data.toList.drop 138 = dktX1_take_2_6 := dk_seg dksX1_take_2_5 22 rfl rfl
theorem dX1_take_2_0 : decode cX1_take_2 0 = .ok (.aload_n 0, 1) := dk_42 (dk_at dksX1_take_2_0 0 rfl rfl)
theorem dX1_take_2_1 : decode cX1_take_2 1 = .ok (.getfield 71, 3) := dk_180 0 71 (dk_at dksX1_take_2_0 1 rfl rfl)
theorem dX1_take_2_4 : decode cX1_take_2 4 = .ok (.aload_n 1, 1) := dk_43 (dk_at dksX1_take_2_0 4 rfl rfl)
theorem dX1_take_2_5 : decode cX1_take_2 5 = .ok (.invokevirtual 233, 3) := dk_182 0 233 (dk_at dksX1_take_2_0 5 rfl rfl)
theorem dX1_take_2_8 : decode cX1_take_2 8 = .ok (.aload_n 0, 1) := dk_42 (dk_at dksX1_take_2_0 8 rfl rfl)
theorem dX1_take_2_9 : decode cX1_take_2 9 = .ok (.dup, 1) := dk_89 (dk_at dksX1_take_2_0 9 rfl rfl)
theorem dX1_take_2_10 : decode cX1_take_2 10 = .ok (.getfield 129, 3) := dk_180 0 129 (dk_at dksX1_take_2_0 10 rfl rfl)
theorem dX1_take_2_13 : decode cX1_take_2 13 = .ok (.iconst 1, 1) := dk_4 (dk_at dksX1_take_2_0 13 rfl rfl)
theorem dX1_take_2_14 : decode cX1_take_2 14 = .ok (.iadd, 1) := dk_96 (dk_at dksX1_take_2_0 14 rfl rfl)
theorem dX1_take_2_15 : decode cX1_take_2 15 = .ok (.putfield 129, 3) := dk_181 0 129 (dk_at dksX1_take_2_0 15 rfl rfl)
theorem dX1_take_2_18 : decode cX1_take_2 18 = .ok (.aload_n 0, 1) := dk_42 (dk_at dksX1_take_2_0 18 rfl rfl)
theorem dX1_take_2_19 : decode cX1_take_2 19 = .ok (.dup, 1) := dk_89 (dk_at dksX1_take_2_0 19 rfl rfl)
theorem dX1_take_2_20 : decode cX1_take_2 20 = .ok (.getfield 236, 3) := dk_180 0 236 (dk_at dksX1_take_2_0 20 rfl rfl)
theorem dX1_take_2_23 : decode cX1_take_2 23 = .ok (.aload_n 0, 1) := dk_42 (dk_at dksX1_take_2_0 23 rfl rfl)
theorem dX1_take_2_24 : decode cX1_take_2 24 = .ok (.getfield 71, 3) := dk_180 0 71 (dk_at dksX1_take_2_1 0 rfl rfl)
theorem dX1_take_2_27 : decode cX1_take_2 27 = .ok (.getfield 240, 3) := dk_180 0 240 (dk_at dksX1_take_2_1 3 rfl rfl)
theorem dX1_take_2_30 : decode cX1_take_2 30 = .ok (.i2l, 1) := dk_133 (dk_at dksX1_take_2_1 6 rfl rfl)
theorem dX1_take_2_31 : decode cX1_take_2 31 = .ok (.ladd, 1) := dk_97 (dk_at dksX1_take_2_1 7 rfl rfl)
theorem dX1_take_2_32 : decode cX1_take_2 32 = .ok (.putfield 236, 3) := dk_181 0 236 (dk_at dksX1_take_2_1 8 rfl rfl)
theorem dX1_take_2_35 : decode cX1_take_2 35 = .ok (.aload_n 0, 1) := dk_42 (dk_at dksX1_take_2_1 11 rfl rfl)
theorem dX1_take_2_36 : decode cX1_take_2 36 = .ok (.invokevirtual 243, 3) := dk_182 0 243 (dk_at dksX1_take_2_1 12 rfl rfl)
theorem dX1_take_2_39 : decode cX1_take_2 39 = .ok (.ifCond .eq 20, 3) := dk_153 0 20 (dk_at dksX1_take_2_1 15 rfl rfl)
theorem dX1_take_2_42 : decode cX1_take_2 42 = .ok (.aload_n 0, 1) := dk_42 (dk_at dksX1_take_2_1 18 rfl rfl)
theorem dX1_take_2_43 : decode cX1_take_2 43 = .ok (.getfield 71, 3) := dk_180 0 71 (dk_at dksX1_take_2_1 19 rfl rfl)
theorem dX1_take_2_46 : decode cX1_take_2 46 = .ok (.getfield 246, 3) := dk_180 0 246 (dk_at dksX1_take_2_2 0 rfl rfl)
theorem dX1_take_2_49 : decode cX1_take_2 49 = .ok (.getstatic 250, 3) := dk_178 0 250 (dk_at dksX1_take_2_2 3 rfl rfl)
theorem dX1_take_2_52 : decode cX1_take_2 52 = .ok (.if_acmp .ne 7, 3) := dk_166 0 7 (dk_at dksX1_take_2_2 6 rfl rfl)
theorem dX1_take_2_55 : decode cX1_take_2 55 = .ok (.iconst 1, 1) := dk_4 (dk_at dksX1_take_2_2 9 rfl rfl)
theorem dX1_take_2_56 : decode cX1_take_2 56 = .ok (.goto 4, 3) := dk_167 0 4 (dk_at dksX1_take_2_2 10 rfl rfl)
theorem dX1_take_2_59 : decode cX1_take_2 59 = .ok (.iconst 0, 1) := dk_3 (dk_at dksX1_take_2_2 13 rfl rfl)
theorem dX1_take_2_60 : decode cX1_take_2 60 = .ok (.istore_n 2, 1) := dk_61 (dk_at dksX1_take_2_2 14 rfl rfl)
theorem dX1_take_2_61 : decode cX1_take_2 61 = .ok (.iload_n 2, 1) := dk_28 (dk_at dksX1_take_2_2 15 rfl rfl)
theorem dX1_take_2_62 : decode cX1_take_2 62 = .ok (.ifCond .eq 28, 3) := dk_153 0 28 (dk_at dksX1_take_2_2 16 rfl rfl)
theorem dX1_take_2_65 : decode cX1_take_2 65 = .ok (.aload_n 0, 1) := dk_42 (dk_at dksX1_take_2_2 19 rfl rfl)
theorem dX1_take_2_66 : decode cX1_take_2 66 = .ok (.getfield 82, 3) := dk_180 0 82 (dk_at dksX1_take_2_2 20 rfl rfl)
theorem dX1_take_2_69 : decode cX1_take_2 69 = .ok (.aload_n 1, 1) := dk_43 (dk_at dksX1_take_2_2 23 rfl rfl)
theorem dX1_take_2_70 : decode cX1_take_2 70 = .ok (.invokevirtual 202, 3) := dk_182 0 202 (dk_at dksX1_take_2_3 0 rfl rfl)
theorem dX1_take_2_73 : decode cX1_take_2 73 = .ok (.invokeinterface 95 2, 5) := by decide +kernel
theorem dX1_take_2_78 : decode cX1_take_2 78 = .ok (.pop, 1) := dk_87 (dk_at dksX1_take_2_3 8 rfl rfl)
theorem dX1_take_2_79 : decode cX1_take_2 79 = .ok (.aload_n 0, 1) := dk_42 (dk_at dksX1_take_2_3 9 rfl rfl)
theorem dX1_take_2_80 : decode cX1_take_2 80 = .ok (.getfield 88, 3) := dk_180 0 88 (dk_at dksX1_take_2_3 10 rfl rfl)
theorem dX1_take_2_83 : decode cX1_take_2 83 = .ok (.aload_n 1, 1) := dk_43 (dk_at dksX1_take_2_3 13 rfl rfl)
theorem dX1_take_2_84 : decode cX1_take_2 84 = .ok (.invokevirtual 202, 3) := dk_182 0 202 (dk_at dksX1_take_2_3 14 rfl rfl)
theorem dX1_take_2_87 : decode cX1_take_2 87 = .ok (.invokevirtual 255, 3) := dk_182 0 255 (dk_at dksX1_take_2_3 17 rfl rfl)
theorem dX1_take_2_90 : decode cX1_take_2 90 = .ok (.aload_n 0, 1) := dk_42 (dk_at dksX1_take_2_3 20 rfl rfl)
theorem dX1_take_2_91 : decode cX1_take_2 91 = .ok (.getfield 71, 3) := dk_180 0 71 (dk_at dksX1_take_2_3 21 rfl rfl)
theorem dX1_take_2_94 : decode cX1_take_2 94 = .ok (.getfield 259, 3) := dk_180 1 3 (dk_at dksX1_take_2_4 0 rfl rfl)
theorem dX1_take_2_97 : decode cX1_take_2 97 = .ok (.istore_n 3, 1) := dk_62 (dk_at dksX1_take_2_4 3 rfl rfl)
theorem dX1_take_2_98 : decode cX1_take_2 98 = .ok (.aload_n 0, 1) := dk_42 (dk_at dksX1_take_2_4 4 rfl rfl)
theorem dX1_take_2_99 : decode cX1_take_2 99 = .ok (.getfield 71, 3) := dk_180 0 71 (dk_at dksX1_take_2_4 5 rfl rfl)
theorem dX1_take_2_102 : decode cX1_take_2 102 = .ok (.getfield 246, 3) := dk_180 0 246 (dk_at dksX1_take_2_4 8 rfl rfl)
theorem dX1_take_2_105 : decode cX1_take_2 105 = .ok (.getstatic 261, 3) := dk_178 1 5 (dk_at dksX1_take_2_4 11 rfl rfl)
theorem dX1_take_2_108 : decode cX1_take_2 108 = .ok (.if_acmp .ne 39, 3) := dk_166 0 39 (dk_at dksX1_take_2_4 14 rfl rfl)
theorem dX1_take_2_111 : decode cX1_take_2 111 = .ok (.aload_n 0, 1) := dk_42 (dk_at dksX1_take_2_4 17 rfl rfl)
theorem dX1_take_2_112 : decode cX1_take_2 112 = .ok (.iload_n 3, 1) := dk_29 (dk_at dksX1_take_2_4 18 rfl rfl)
theorem dX1_take_2_113 : decode cX1_take_2 113 = .ok (.invokevirtual 264, 3) := dk_182 1 8 (dk_at dksX1_take_2_4 19 rfl rfl)
theorem dX1_take_2_116 : decode cX1_take_2 116 = .ok (.ifCond .ne 31, 3) := dk_154 0 31 (dk_at dksX1_take_2_5 0 rfl rfl)
theorem dX1_take_2_119 : decode cX1_take_2 119 = .ok (.aload_n 0, 1) := dk_42 (dk_at dksX1_take_2_5 3 rfl rfl)
theorem dX1_take_2_120 : decode cX1_take_2 120 = .ok (.getfield 92, 3) := dk_180 0 92 (dk_at dksX1_take_2_5 4 rfl rfl)
theorem dX1_take_2_123 : decode cX1_take_2 123 = .ok (.new 218, 3) := dk_187 0 218 (dk_at dksX1_take_2_5 7 rfl rfl)
theorem dX1_take_2_126 : decode cX1_take_2 126 = .ok (.dup, 1) := dk_89 (dk_at dksX1_take_2_5 10 rfl rfl)
theorem dX1_take_2_127 : decode cX1_take_2 127 = .ok (.aload_n 1, 1) := dk_43 (dk_at dksX1_take_2_5 11 rfl rfl)
theorem dX1_take_2_128 : decode cX1_take_2 128 = .ok (.invokevirtual 202, 3) := dk_182 0 202 (dk_at dksX1_take_2_5 12 rfl rfl)
theorem dX1_take_2_131 : decode cX1_take_2 131 = .ok (.aload_n 0, 1) := dk_42 (dk_at dksX1_take_2_5 15 rfl rfl)
theorem dX1_take_2_132 : decode cX1_take_2 132 = .ok (.aload_n 1, 1) := dk_43 (dk_at dksX1_take_2_5 16 rfl rfl)
theorem dX1_take_2_133 : decode cX1_take_2 133 = .ok (.iload_n 3, 1) := dk_29 (dk_at dksX1_take_2_5 17 rfl rfl)
theorem dX1_take_2_134 : decode cX1_take_2 134 = .ok (.invokevirtual 268, 3) := dk_182 1 12 (dk_at dksX1_take_2_5 18 rfl rfl)
theorem dX1_take_2_137 : decode cX1_take_2 137 = .ok (.iload_n 3, 1) := dk_29 (dk_at dksX1_take_2_5 21 rfl rfl)
theorem dX1_take_2_138 : decode cX1_take_2 138 = .ok (.invokespecial 272, 3) := dk_183 1 16 (dk_at dksX1_take_2_6 0 rfl rfl)
theorem dX1_take_2_141 : decode cX1_take_2 141 = .ok (.invokeinterface 95 2, 5) := by decide +kernel
theorem dX1_take_2_146 : decode cX1_take_2 146 = .ok (.pop, 1) := dk_87 (dk_at dksX1_take_2_6 8 rfl rfl)
theorem dX1_take_2_147 : decode cX1_take_2 147 = .ok (.iload_n 2, 1) := dk_28 (dk_at dksX1_take_2_6 9 rfl rfl)
theorem dX1_take_2_148 : decode cX1_take_2 148 = .ok (.ireturn, 1) := dk_172 (dk_at dksX1_take_2_6 10 rfl rfl)
abbrev cX1_coversMore : ByteArray := prog_5_method_20_code
def yX1_coversMore : MethodName := ⟨RX1, "coversMore", "()Z"⟩
def dkwX1_coversMore_1 : List UInt8 := [180, 0, 78, 182, 0, 223, 27, 164, 0, 7, 4, 167, 0, 4, 3, 172]
abbrev dktX1_coversMore_1 : List UInt8 := dkwX1_coversMore_1 ++ []
def dkwX1_coversMore_0 : List UInt8 := [42, 180, 0, 78, 182, 0, 223, 60, 42, 180, 0, 78, 42, 180, 0, 71, 180, 0, 226, 182, 0, 229, 42]
abbrev dktX1_coversMore_0 : List UInt8 := dkwX1_coversMore_0 ++ dktX1_coversMore_1
theorem dksX1_coversMore_0 : cX1_coversMore.data.toList.drop 0 = dktX1_coversMore_0 := by decide +kernel
theorem dksX1_coversMore_1 : cX1_coversMore.data.toList.drop 23 = dktX1_coversMore_1 := dk_seg dksX1_coversMore_0 23 rfl rfl
theorem dX1_coversMore_0 : decode cX1_coversMore 0 = .ok (.aload_n 0, 1) := dk_42 (dk_at dksX1_coversMore_0 0 rfl rfl)
theorem dX1_coversMore_1 : decode cX1_coversMore 1 = .ok (.getfield 78, 3) := dk_180 0 78 (dk_at dksX1_coversMore_0 1 rfl rfl)
theorem dX1_coversMore_4 : decode cX1_coversMore 4 = .ok (.invokevirtual 223, 3) := dk_182 0 223 (dk_at dksX1_coversMore_0 4 rfl rfl)
theorem dX1_coversMore_7 : decode cX1_coversMore 7 = .ok (.istore_n 1, 1) := dk_60 (dk_at dksX1_coversMore_0 7 rfl rfl)
theorem dX1_coversMore_8 : decode cX1_coversMore 8 = .ok (.aload_n 0, 1) := dk_42 (dk_at dksX1_coversMore_0 8 rfl rfl)
theorem dX1_coversMore_9 : decode cX1_coversMore 9 = .ok (.getfield 78, 3) := dk_180 0 78 (dk_at dksX1_coversMore_0 9 rfl rfl)
theorem dX1_coversMore_12 : decode cX1_coversMore 12 = .ok (.aload_n 0, 1) := dk_42 (dk_at dksX1_coversMore_0 12 rfl rfl)
theorem dX1_coversMore_13 : decode cX1_coversMore 13 = .ok (.getfield 71, 3) := dk_180 0 71 (dk_at dksX1_coversMore_0 13 rfl rfl)
theorem dX1_coversMore_16 : decode cX1_coversMore 16 = .ok (.getfield 226, 3) := dk_180 0 226 (dk_at dksX1_coversMore_0 16 rfl rfl)
theorem dX1_coversMore_19 : decode cX1_coversMore 19 = .ok (.invokevirtual 229, 3) := dk_182 0 229 (dk_at dksX1_coversMore_0 19 rfl rfl)
theorem dX1_coversMore_22 : decode cX1_coversMore 22 = .ok (.aload_n 0, 1) := dk_42 (dk_at dksX1_coversMore_0 22 rfl rfl)
theorem dX1_coversMore_23 : decode cX1_coversMore 23 = .ok (.getfield 78, 3) := dk_180 0 78 (dk_at dksX1_coversMore_1 0 rfl rfl)
theorem dX1_coversMore_26 : decode cX1_coversMore 26 = .ok (.invokevirtual 223, 3) := dk_182 0 223 (dk_at dksX1_coversMore_1 3 rfl rfl)
theorem dX1_coversMore_29 : decode cX1_coversMore 29 = .ok (.iload_n 1, 1) := dk_27 (dk_at dksX1_coversMore_1 6 rfl rfl)
theorem dX1_coversMore_30 : decode cX1_coversMore 30 = .ok (.if_icmp .le 7, 3) := dk_164 0 7 (dk_at dksX1_coversMore_1 7 rfl rfl)
theorem dX1_coversMore_33 : decode cX1_coversMore 33 = .ok (.iconst 1, 1) := dk_4 (dk_at dksX1_coversMore_1 10 rfl rfl)
theorem dX1_coversMore_34 : decode cX1_coversMore 34 = .ok (.goto 4, 3) := dk_167 0 4 (dk_at dksX1_coversMore_1 11 rfl rfl)
theorem dX1_coversMore_37 : decode cX1_coversMore 37 = .ok (.iconst 0, 1) := dk_3 (dk_at dksX1_coversMore_1 14 rfl rfl)
theorem dX1_coversMore_38 : decode cX1_coversMore 38 = .ok (.ireturn, 1) := dk_172 (dk_at dksX1_coversMore_1 15 rfl rfl)
abbrev cX1_isFound : ByteArray := prog_5_method_19_code
def yX1_isFound : MethodName := ⟨RX1, "isFound", "(I)Z"⟩
def dkwX1_isFound_2 : List UInt8 := [3, 128, 61, 167, 255, 219, 28, 172]
abbrev dktX1_isFound_2 : List UInt8 := dkwX1_isFound_2 ++ []
def dkwX1_isFound_1 : List UInt8 := [185, 0, 214, 1, 0, 192, 0, 218, 58, 4, 28, 25, 4, 182, 0, 220, 27, 160, 0, 7, 4, 167, 0, 4]
abbrev dktX1_isFound_1 : List UInt8 := dkwX1_isFound_1 ++ dktX1_isFound_2
def dkwX1_isFound_0 : List UInt8 := [3, 61, 42, 180, 0, 92, 185, 0, 205, 1, 0, 78, 45, 185, 0, 209, 1, 0, 153, 0, 34, 45]
abbrev dktX1_isFound_0 : List UInt8 := dkwX1_isFound_0 ++ dktX1_isFound_1
theorem dksX1_isFound_0 : cX1_isFound.data.toList.drop 0 = dktX1_isFound_0 := by decide +kernel
theorem dksX1_isFound_1 : cX1_isFound.data.toList.drop 22 = dktX1_isFound_1 := dk_seg dksX1_isFound_0 22 rfl rfl
theorem dksX1_isFound_2 : cX1_isFound.data.toList.drop 46 = dktX1_isFound_2 := dk_seg dksX1_isFound_1 24 rfl rfl
theorem dX1_isFound_0 : decode cX1_isFound 0 = .ok (.iconst 0, 1) := dk_3 (dk_at dksX1_isFound_0 0 rfl rfl)
theorem dX1_isFound_1 : decode cX1_isFound 1 = .ok (.istore_n 2, 1) := dk_61 (dk_at dksX1_isFound_0 1 rfl rfl)
theorem dX1_isFound_2 : decode cX1_isFound 2 = .ok (.aload_n 0, 1) := dk_42 (dk_at dksX1_isFound_0 2 rfl rfl)
theorem dX1_isFound_3 : decode cX1_isFound 3 = .ok (.getfield 92, 3) := dk_180 0 92 (dk_at dksX1_isFound_0 3 rfl rfl)
theorem dX1_isFound_6 : decode cX1_isFound 6 = .ok (.invokeinterface 205 1, 5) := by decide +kernel
theorem dX1_isFound_11 : decode cX1_isFound 11 = .ok (.astore_n 3, 1) := dk_78 (dk_at dksX1_isFound_0 11 rfl rfl)
theorem dX1_isFound_12 : decode cX1_isFound 12 = .ok (.aload_n 3, 1) := dk_45 (dk_at dksX1_isFound_0 12 rfl rfl)
theorem dX1_isFound_13 : decode cX1_isFound 13 = .ok (.invokeinterface 209 1, 5) := by decide +kernel
theorem dX1_isFound_18 : decode cX1_isFound 18 = .ok (.ifCond .eq 34, 3) := dk_153 0 34 (dk_at dksX1_isFound_0 18 rfl rfl)
theorem dX1_isFound_21 : decode cX1_isFound 21 = .ok (.aload_n 3, 1) := dk_45 (dk_at dksX1_isFound_0 21 rfl rfl)
theorem dX1_isFound_22 : decode cX1_isFound 22 = .ok (.invokeinterface 214 1, 5) := by decide +kernel
theorem dX1_isFound_27 : decode cX1_isFound 27 = .ok (.checkcast 218, 3) := dk_192 0 218 (dk_at dksX1_isFound_1 5 rfl rfl)
theorem dX1_isFound_30 : decode cX1_isFound 30 = .ok (.astore 4, 2) := dk_58 4 (dk_at dksX1_isFound_1 8 rfl rfl)
theorem dX1_isFound_32 : decode cX1_isFound 32 = .ok (.iload_n 2, 1) := dk_28 (dk_at dksX1_isFound_1 10 rfl rfl)
theorem dX1_isFound_33 : decode cX1_isFound 33 = .ok (.aload 4, 2) := dk_25 4 (dk_at dksX1_isFound_1 11 rfl rfl)
theorem dX1_isFound_35 : decode cX1_isFound 35 = .ok (.invokevirtual 220, 3) := dk_182 0 220 (dk_at dksX1_isFound_1 13 rfl rfl)
theorem dX1_isFound_38 : decode cX1_isFound 38 = .ok (.iload_n 1, 1) := dk_27 (dk_at dksX1_isFound_1 16 rfl rfl)
theorem dX1_isFound_39 : decode cX1_isFound 39 = .ok (.if_icmp .ne 7, 3) := dk_160 0 7 (dk_at dksX1_isFound_1 17 rfl rfl)
theorem dX1_isFound_42 : decode cX1_isFound 42 = .ok (.iconst 1, 1) := dk_4 (dk_at dksX1_isFound_1 20 rfl rfl)
theorem dX1_isFound_43 : decode cX1_isFound 43 = .ok (.goto 4, 3) := dk_167 0 4 (dk_at dksX1_isFound_1 21 rfl rfl)
theorem dX1_isFound_46 : decode cX1_isFound 46 = .ok (.iconst 0, 1) := dk_3 (dk_at dksX1_isFound_2 0 rfl rfl)
theorem dX1_isFound_47 : decode cX1_isFound 47 = .ok (.ior, 1) := dk_128 (dk_at dksX1_isFound_2 1 rfl rfl)
theorem dX1_isFound_48 : decode cX1_isFound 48 = .ok (.istore_n 2, 1) := dk_61 (dk_at dksX1_isFound_2 2 rfl rfl)
theorem dX1_isFound_49 : decode cX1_isFound 49 = .ok (.goto (-37), 3) := dk_167 255 219 (dk_at dksX1_isFound_2 3 rfl rfl)
theorem dX1_isFound_52 : decode cX1_isFound 52 = .ok (.iload_n 2, 1) := dk_28 (dk_at dksX1_isFound_2 6 rfl rfl)
theorem dX1_isFound_53 : decode cX1_isFound 53 = .ok (.ireturn, 1) := dk_172 (dk_at dksX1_isFound_2 7 rfl rfl)
abbrev cX1_shrink : ByteArray := prog_5_method_18_code
def yX1_shrink : MethodName := ⟨RX1, "shrink", "(LShrinkYard$Digits;I)Ljava/lang/String;"⟩
def dkwX1_shrink_1 : List UInt8 := [28, 25, 4, 182, 0, 198, 153, 0, 12, 45, 25, 4, 182, 0, 182, 167, 255, 239, 45, 182, 0, 202, 176]
abbrev dktX1_shrink_1 : List UInt8 := dkwX1_shrink_1 ++ []
def dkwX1_shrink_0 : List UInt8 := [187, 0, 43, 89, 183, 0, 45, 78, 187, 0, 43, 89, 183, 0, 45, 58, 4, 45, 43, 182, 0, 182, 42, 45]
abbrev dktX1_shrink_0 : List UInt8 := dkwX1_shrink_0 ++ dktX1_shrink_1
theorem dksX1_shrink_0 : cX1_shrink.data.toList.drop 0 = dktX1_shrink_0 := by decide +kernel
theorem dksX1_shrink_1 : cX1_shrink.data.toList.drop 24 = dktX1_shrink_1 := dk_seg dksX1_shrink_0 24 rfl rfl
theorem dX1_shrink_0 : decode cX1_shrink 0 = .ok (.new 43, 3) := dk_187 0 43 (dk_at dksX1_shrink_0 0 rfl rfl)
theorem dX1_shrink_3 : decode cX1_shrink 3 = .ok (.dup, 1) := dk_89 (dk_at dksX1_shrink_0 3 rfl rfl)
theorem dX1_shrink_4 : decode cX1_shrink 4 = .ok (.invokespecial 45, 3) := dk_183 0 45 (dk_at dksX1_shrink_0 4 rfl rfl)
theorem dX1_shrink_7 : decode cX1_shrink 7 = .ok (.astore_n 3, 1) := dk_78 (dk_at dksX1_shrink_0 7 rfl rfl)
theorem dX1_shrink_8 : decode cX1_shrink 8 = .ok (.new 43, 3) := dk_187 0 43 (dk_at dksX1_shrink_0 8 rfl rfl)
theorem dX1_shrink_11 : decode cX1_shrink 11 = .ok (.dup, 1) := dk_89 (dk_at dksX1_shrink_0 11 rfl rfl)
theorem dX1_shrink_12 : decode cX1_shrink 12 = .ok (.invokespecial 45, 3) := dk_183 0 45 (dk_at dksX1_shrink_0 12 rfl rfl)
theorem dX1_shrink_15 : decode cX1_shrink 15 = .ok (.astore 4, 2) := dk_58 4 (dk_at dksX1_shrink_0 15 rfl rfl)
theorem dX1_shrink_17 : decode cX1_shrink 17 = .ok (.aload_n 3, 1) := dk_45 (dk_at dksX1_shrink_0 17 rfl rfl)
theorem dX1_shrink_18 : decode cX1_shrink 18 = .ok (.aload_n 1, 1) := dk_43 (dk_at dksX1_shrink_0 18 rfl rfl)
theorem dX1_shrink_19 : decode cX1_shrink 19 = .ok (.invokevirtual 182, 3) := dk_182 0 182 (dk_at dksX1_shrink_0 19 rfl rfl)
theorem dX1_shrink_22 : decode cX1_shrink 22 = .ok (.aload_n 0, 1) := dk_42 (dk_at dksX1_shrink_0 22 rfl rfl)
theorem dX1_shrink_23 : decode cX1_shrink 23 = .ok (.aload_n 3, 1) := dk_45 (dk_at dksX1_shrink_0 23 rfl rfl)
theorem dX1_shrink_24 : decode cX1_shrink 24 = .ok (.iload_n 2, 1) := dk_28 (dk_at dksX1_shrink_1 0 rfl rfl)
theorem dX1_shrink_25 : decode cX1_shrink 25 = .ok (.aload 4, 2) := dk_25 4 (dk_at dksX1_shrink_1 1 rfl rfl)
theorem dX1_shrink_27 : decode cX1_shrink 27 = .ok (.invokevirtual 198, 3) := dk_182 0 198 (dk_at dksX1_shrink_1 3 rfl rfl)
theorem dX1_shrink_30 : decode cX1_shrink 30 = .ok (.ifCond .eq 12, 3) := dk_153 0 12 (dk_at dksX1_shrink_1 6 rfl rfl)
theorem dX1_shrink_33 : decode cX1_shrink 33 = .ok (.aload_n 3, 1) := dk_45 (dk_at dksX1_shrink_1 9 rfl rfl)
theorem dX1_shrink_34 : decode cX1_shrink 34 = .ok (.aload 4, 2) := dk_25 4 (dk_at dksX1_shrink_1 10 rfl rfl)
theorem dX1_shrink_36 : decode cX1_shrink 36 = .ok (.invokevirtual 182, 3) := dk_182 0 182 (dk_at dksX1_shrink_1 12 rfl rfl)
theorem dX1_shrink_39 : decode cX1_shrink 39 = .ok (.goto (-17), 3) := dk_167 255 239 (dk_at dksX1_shrink_1 15 rfl rfl)
theorem dX1_shrink_42 : decode cX1_shrink 42 = .ok (.aload_n 3, 1) := dk_45 (dk_at dksX1_shrink_1 18 rfl rfl)
theorem dX1_shrink_43 : decode cX1_shrink 43 = .ok (.invokevirtual 202, 3) := dk_182 0 202 (dk_at dksX1_shrink_1 19 rfl rfl)
theorem dX1_shrink_46 : decode cX1_shrink 46 = .ok (.areturn, 1) := dk_176 (dk_at dksX1_shrink_1 22 rfl rfl)
abbrev cX1_isReduced : ByteArray := prog_5_method_17_code
def yX1_isReduced : MethodName := ⟨RX1, "isReduced", "(LShrinkYard$Digits;ILShrinkYard$Digits;)Z"⟩
def dkwX1_isReduced_4 : List UInt8 := [4, 172, 132, 5, 1, 167, 255, 213, 132, 4, 1, 167, 255, 195, 3, 172]
abbrev dktX1_isReduced_4 : List UInt8 := dkwX1_isReduced_4 ++ []
def dkwX1_isReduced_3 : List UInt8 := [182, 0, 182, 45, 180, 0, 194, 21, 4, 21, 5, 79, 42, 180, 0, 71, 45, 28, 182, 0, 190, 153, 0, 5]
abbrev dktX1_isReduced_3 : List UInt8 := dkwX1_isReduced_3 ++ dktX1_isReduced_4
def dkwX1_isReduced_2 : List UInt8 := [43, 180, 0, 180, 162, 0, 58, 3, 54, 5, 21, 5, 43, 180, 0, 194, 21, 4, 46, 162, 0, 37, 45, 43]
abbrev dktX1_isReduced_2 : List UInt8 := dkwX1_isReduced_2 ++ dktX1_isReduced_3
def dkwX1_isReduced_1 : List UInt8 := [180, 0, 71, 45, 28, 182, 0, 190, 153, 0, 5, 4, 172, 132, 4, 1, 167, 255, 219, 3, 54, 4, 21, 4]
abbrev dktX1_isReduced_1 : List UInt8 := dkwX1_isReduced_1 ++ dktX1_isReduced_2
def dkwX1_isReduced_0 : List UInt8 := [3, 54, 4, 21, 4, 43, 180, 0, 180, 162, 0, 34, 45, 43, 182, 0, 182, 45, 21, 4, 182, 0, 186, 42]
abbrev dktX1_isReduced_0 : List UInt8 := dkwX1_isReduced_0 ++ dktX1_isReduced_1
theorem dksX1_isReduced_0 : cX1_isReduced.data.toList.drop 0 = dktX1_isReduced_0 := by decide +kernel
theorem dksX1_isReduced_1 : cX1_isReduced.data.toList.drop 24 = dktX1_isReduced_1 := dk_seg dksX1_isReduced_0 24 rfl rfl
theorem dksX1_isReduced_2 : cX1_isReduced.data.toList.drop 48 = dktX1_isReduced_2 := dk_seg dksX1_isReduced_1 24 rfl rfl
theorem dksX1_isReduced_3 : cX1_isReduced.data.toList.drop 72 = dktX1_isReduced_3 := dk_seg dksX1_isReduced_2 24 rfl rfl
theorem dksX1_isReduced_4 : cX1_isReduced.data.toList.drop 96 = dktX1_isReduced_4 := dk_seg dksX1_isReduced_3 24 rfl rfl
theorem dX1_isReduced_0 : decode cX1_isReduced 0 = .ok (.iconst 0, 1) := dk_3 (dk_at dksX1_isReduced_0 0 rfl rfl)
theorem dX1_isReduced_1 : decode cX1_isReduced 1 = .ok (.istore 4, 2) := dk_54 4 (dk_at dksX1_isReduced_0 1 rfl rfl)
theorem dX1_isReduced_3 : decode cX1_isReduced 3 = .ok (.iload 4, 2) := dk_21 4 (dk_at dksX1_isReduced_0 3 rfl rfl)
theorem dX1_isReduced_5 : decode cX1_isReduced 5 = .ok (.aload_n 1, 1) := dk_43 (dk_at dksX1_isReduced_0 5 rfl rfl)
theorem dX1_isReduced_6 : decode cX1_isReduced 6 = .ok (.getfield 180, 3) := dk_180 0 180 (dk_at dksX1_isReduced_0 6 rfl rfl)
theorem dX1_isReduced_9 : decode cX1_isReduced 9 = .ok (.if_icmp .ge 34, 3) := dk_162 0 34 (dk_at dksX1_isReduced_0 9 rfl rfl)
theorem dX1_isReduced_12 : decode cX1_isReduced 12 = .ok (.aload_n 3, 1) := dk_45 (dk_at dksX1_isReduced_0 12 rfl rfl)
theorem dX1_isReduced_13 : decode cX1_isReduced 13 = .ok (.aload_n 1, 1) := dk_43 (dk_at dksX1_isReduced_0 13 rfl rfl)
theorem dX1_isReduced_14 : decode cX1_isReduced 14 = .ok (.invokevirtual 182, 3) := dk_182 0 182 (dk_at dksX1_isReduced_0 14 rfl rfl)
theorem dX1_isReduced_17 : decode cX1_isReduced 17 = .ok (.aload_n 3, 1) := dk_45 (dk_at dksX1_isReduced_0 17 rfl rfl)
theorem dX1_isReduced_18 : decode cX1_isReduced 18 = .ok (.iload 4, 2) := dk_21 4 (dk_at dksX1_isReduced_0 18 rfl rfl)
theorem dX1_isReduced_20 : decode cX1_isReduced 20 = .ok (.invokevirtual 186, 3) := dk_182 0 186 (dk_at dksX1_isReduced_0 20 rfl rfl)
theorem dX1_isReduced_23 : decode cX1_isReduced 23 = .ok (.aload_n 0, 1) := dk_42 (dk_at dksX1_isReduced_0 23 rfl rfl)
theorem dX1_isReduced_24 : decode cX1_isReduced 24 = .ok (.getfield 71, 3) := dk_180 0 71 (dk_at dksX1_isReduced_1 0 rfl rfl)
theorem dX1_isReduced_27 : decode cX1_isReduced 27 = .ok (.aload_n 3, 1) := dk_45 (dk_at dksX1_isReduced_1 3 rfl rfl)
theorem dX1_isReduced_28 : decode cX1_isReduced 28 = .ok (.iload_n 2, 1) := dk_28 (dk_at dksX1_isReduced_1 4 rfl rfl)
theorem dX1_isReduced_29 : decode cX1_isReduced 29 = .ok (.invokevirtual 190, 3) := dk_182 0 190 (dk_at dksX1_isReduced_1 5 rfl rfl)
theorem dX1_isReduced_32 : decode cX1_isReduced 32 = .ok (.ifCond .eq 5, 3) := dk_153 0 5 (dk_at dksX1_isReduced_1 8 rfl rfl)
theorem dX1_isReduced_35 : decode cX1_isReduced 35 = .ok (.iconst 1, 1) := dk_4 (dk_at dksX1_isReduced_1 11 rfl rfl)
theorem dX1_isReduced_36 : decode cX1_isReduced 36 = .ok (.ireturn, 1) := dk_172 (dk_at dksX1_isReduced_1 12 rfl rfl)
theorem dX1_isReduced_37 : decode cX1_isReduced 37 = .ok (.iinc 4 1, 3) := dk_132 4 1 (dk_at dksX1_isReduced_1 13 rfl rfl)
theorem dX1_isReduced_40 : decode cX1_isReduced 40 = .ok (.goto (-37), 3) := dk_167 255 219 (dk_at dksX1_isReduced_1 16 rfl rfl)
theorem dX1_isReduced_43 : decode cX1_isReduced 43 = .ok (.iconst 0, 1) := dk_3 (dk_at dksX1_isReduced_1 19 rfl rfl)
theorem dX1_isReduced_44 : decode cX1_isReduced 44 = .ok (.istore 4, 2) := dk_54 4 (dk_at dksX1_isReduced_1 20 rfl rfl)
theorem dX1_isReduced_46 : decode cX1_isReduced 46 = .ok (.iload 4, 2) := dk_21 4 (dk_at dksX1_isReduced_1 22 rfl rfl)
theorem dX1_isReduced_48 : decode cX1_isReduced 48 = .ok (.aload_n 1, 1) := dk_43 (dk_at dksX1_isReduced_2 0 rfl rfl)
theorem dX1_isReduced_49 : decode cX1_isReduced 49 = .ok (.getfield 180, 3) := dk_180 0 180 (dk_at dksX1_isReduced_2 1 rfl rfl)
theorem dX1_isReduced_52 : decode cX1_isReduced 52 = .ok (.if_icmp .ge 58, 3) := dk_162 0 58 (dk_at dksX1_isReduced_2 4 rfl rfl)
theorem dX1_isReduced_55 : decode cX1_isReduced 55 = .ok (.iconst 0, 1) := dk_3 (dk_at dksX1_isReduced_2 7 rfl rfl)
theorem dX1_isReduced_56 : decode cX1_isReduced 56 = .ok (.istore 5, 2) := dk_54 5 (dk_at dksX1_isReduced_2 8 rfl rfl)
theorem dX1_isReduced_58 : decode cX1_isReduced 58 = .ok (.iload 5, 2) := dk_21 5 (dk_at dksX1_isReduced_2 10 rfl rfl)
theorem dX1_isReduced_60 : decode cX1_isReduced 60 = .ok (.aload_n 1, 1) := dk_43 (dk_at dksX1_isReduced_2 12 rfl rfl)
theorem dX1_isReduced_61 : decode cX1_isReduced 61 = .ok (.getfield 194, 3) := dk_180 0 194 (dk_at dksX1_isReduced_2 13 rfl rfl)
theorem dX1_isReduced_64 : decode cX1_isReduced 64 = .ok (.iload 4, 2) := dk_21 4 (dk_at dksX1_isReduced_2 16 rfl rfl)
theorem dX1_isReduced_66 : decode cX1_isReduced 66 = .ok (.iaload, 1) := dk_46 (dk_at dksX1_isReduced_2 18 rfl rfl)
theorem dX1_isReduced_67 : decode cX1_isReduced 67 = .ok (.if_icmp .ge 37, 3) := dk_162 0 37 (dk_at dksX1_isReduced_2 19 rfl rfl)
theorem dX1_isReduced_70 : decode cX1_isReduced 70 = .ok (.aload_n 3, 1) := dk_45 (dk_at dksX1_isReduced_2 22 rfl rfl)
theorem dX1_isReduced_71 : decode cX1_isReduced 71 = .ok (.aload_n 1, 1) := dk_43 (dk_at dksX1_isReduced_2 23 rfl rfl)
theorem dX1_isReduced_72 : decode cX1_isReduced 72 = .ok (.invokevirtual 182, 3) := dk_182 0 182 (dk_at dksX1_isReduced_3 0 rfl rfl)
theorem dX1_isReduced_75 : decode cX1_isReduced 75 = .ok (.aload_n 3, 1) := dk_45 (dk_at dksX1_isReduced_3 3 rfl rfl)
theorem dX1_isReduced_76 : decode cX1_isReduced 76 = .ok (.getfield 194, 3) := dk_180 0 194 (dk_at dksX1_isReduced_3 4 rfl rfl)
theorem dX1_isReduced_79 : decode cX1_isReduced 79 = .ok (.iload 4, 2) := dk_21 4 (dk_at dksX1_isReduced_3 7 rfl rfl)
theorem dX1_isReduced_81 : decode cX1_isReduced 81 = .ok (.iload 5, 2) := dk_21 5 (dk_at dksX1_isReduced_3 9 rfl rfl)
theorem dX1_isReduced_83 : decode cX1_isReduced 83 = .ok (.iastore, 1) := dk_79 (dk_at dksX1_isReduced_3 11 rfl rfl)
theorem dX1_isReduced_84 : decode cX1_isReduced 84 = .ok (.aload_n 0, 1) := dk_42 (dk_at dksX1_isReduced_3 12 rfl rfl)
theorem dX1_isReduced_85 : decode cX1_isReduced 85 = .ok (.getfield 71, 3) := dk_180 0 71 (dk_at dksX1_isReduced_3 13 rfl rfl)
theorem dX1_isReduced_88 : decode cX1_isReduced 88 = .ok (.aload_n 3, 1) := dk_45 (dk_at dksX1_isReduced_3 16 rfl rfl)
theorem dX1_isReduced_89 : decode cX1_isReduced 89 = .ok (.iload_n 2, 1) := dk_28 (dk_at dksX1_isReduced_3 17 rfl rfl)
theorem dX1_isReduced_90 : decode cX1_isReduced 90 = .ok (.invokevirtual 190, 3) := dk_182 0 190 (dk_at dksX1_isReduced_3 18 rfl rfl)
theorem dX1_isReduced_93 : decode cX1_isReduced 93 = .ok (.ifCond .eq 5, 3) := dk_153 0 5 (dk_at dksX1_isReduced_3 21 rfl rfl)
theorem dX1_isReduced_96 : decode cX1_isReduced 96 = .ok (.iconst 1, 1) := dk_4 (dk_at dksX1_isReduced_4 0 rfl rfl)
theorem dX1_isReduced_97 : decode cX1_isReduced 97 = .ok (.ireturn, 1) := dk_172 (dk_at dksX1_isReduced_4 1 rfl rfl)
theorem dX1_isReduced_98 : decode cX1_isReduced 98 = .ok (.iinc 5 1, 3) := dk_132 5 1 (dk_at dksX1_isReduced_4 2 rfl rfl)
theorem dX1_isReduced_101 : decode cX1_isReduced 101 = .ok (.goto (-43), 3) := dk_167 255 213 (dk_at dksX1_isReduced_4 5 rfl rfl)
theorem dX1_isReduced_104 : decode cX1_isReduced 104 = .ok (.iinc 4 1, 3) := dk_132 4 1 (dk_at dksX1_isReduced_4 8 rfl rfl)
theorem dX1_isReduced_107 : decode cX1_isReduced 107 = .ok (.goto (-61), 3) := dk_167 255 195 (dk_at dksX1_isReduced_4 11 rfl rfl)
theorem dX1_isReduced_110 : decode cX1_isReduced 110 = .ok (.iconst 0, 1) := dk_3 (dk_at dksX1_isReduced_4 14 rfl rfl)
theorem dX1_isReduced_111 : decode cX1_isReduced 111 = .ok (.ireturn, 1) := dk_172 (dk_at dksX1_isReduced_4 15 rfl rfl)
abbrev cX1_takeDerived : ByteArray := prog_5_method_23_code
def yX1_takeDerived : MethodName := ⟨RX1, "takeDerived", "(I)Z"⟩
def dkwX1_takeDerived_0 : List UInt8 := [187, 0, 43, 89, 183, 0, 45, 77, 44, 42, 27, 182, 1, 27, 182, 0, 46, 42, 44, 182, 1, 23, 172]
abbrev dktX1_takeDerived_0 : List UInt8 := dkwX1_takeDerived_0 ++ []
theorem dksX1_takeDerived_0 : cX1_takeDerived.data.toList.drop 0 = dktX1_takeDerived_0 := by decide +kernel
theorem dX1_takeDerived_0 : decode cX1_takeDerived 0 = .ok (.new 43, 3) := dk_187 0 43 (dk_at dksX1_takeDerived_0 0 rfl rfl)
theorem dX1_takeDerived_3 : decode cX1_takeDerived 3 = .ok (.dup, 1) := dk_89 (dk_at dksX1_takeDerived_0 3 rfl rfl)
theorem dX1_takeDerived_4 : decode cX1_takeDerived 4 = .ok (.invokespecial 45, 3) := dk_183 0 45 (dk_at dksX1_takeDerived_0 4 rfl rfl)
theorem dX1_takeDerived_7 : decode cX1_takeDerived 7 = .ok (.astore_n 2, 1) := dk_77 (dk_at dksX1_takeDerived_0 7 rfl rfl)
theorem dX1_takeDerived_8 : decode cX1_takeDerived 8 = .ok (.aload_n 2, 1) := dk_44 (dk_at dksX1_takeDerived_0 8 rfl rfl)
theorem dX1_takeDerived_9 : decode cX1_takeDerived 9 = .ok (.aload_n 0, 1) := dk_42 (dk_at dksX1_takeDerived_0 9 rfl rfl)
theorem dX1_takeDerived_10 : decode cX1_takeDerived 10 = .ok (.iload_n 1, 1) := dk_27 (dk_at dksX1_takeDerived_0 10 rfl rfl)
theorem dX1_takeDerived_11 : decode cX1_takeDerived 11 = .ok (.invokevirtual 283, 3) := dk_182 1 27 (dk_at dksX1_takeDerived_0 11 rfl rfl)
theorem dX1_takeDerived_14 : decode cX1_takeDerived 14 = .ok (.invokevirtual 46, 3) := dk_182 0 46 (dk_at dksX1_takeDerived_0 14 rfl rfl)
theorem dX1_takeDerived_17 : decode cX1_takeDerived 17 = .ok (.aload_n 0, 1) := dk_42 (dk_at dksX1_takeDerived_0 17 rfl rfl)
theorem dX1_takeDerived_18 : decode cX1_takeDerived 18 = .ok (.aload_n 2, 1) := dk_44 (dk_at dksX1_takeDerived_0 18 rfl rfl)
theorem dX1_takeDerived_19 : decode cX1_takeDerived 19 = .ok (.invokevirtual 279, 3) := dk_182 1 23 (dk_at dksX1_takeDerived_0 19 rfl rfl)
theorem dX1_takeDerived_22 : decode cX1_takeDerived 22 = .ok (.ireturn, 1) := dk_172 (dk_at dksX1_takeDerived_0 22 rfl rfl)
abbrev cX1_goOn : ByteArray := prog_5_method_24_code
def yX1_goOn : MethodName := ⟨RX1, "goOn", "(I)I"⟩
def dkwX1_goOn_6 : List UInt8 := [42, 3, 181, 1, 32, 167, 255, 133, 29, 172]
abbrev dktX1_goOn_6 : List UInt8 := dkwX1_goOn_6 ++ []
def dkwX1_goOn_5 : List UInt8 := [42, 180, 0, 60, 185, 0, 126, 1, 0, 160, 255, 153, 42, 180, 0, 88, 182, 1, 41, 192, 0, 22, 58, 4]
abbrev dktX1_goOn_5 : List UInt8 := dkwX1_goOn_5 ++ dktX1_goOn_6
def dkwX1_goOn_4 : List UInt8 := [42, 44, 182, 1, 23, 54, 4, 132, 3, 1, 42, 89, 180, 1, 32, 4, 96, 181, 1, 32, 42, 180, 1, 32]
abbrev dktX1_goOn_4 : List UInt8 := dkwX1_goOn_4 ++ dktX1_goOn_5
def dkwX1_goOn_3 : List UInt8 := [180, 0, 60, 42, 180, 1, 32, 185, 0, 142, 2, 0, 192, 0, 137, 44, 185, 1, 38, 2, 0, 153, 0, 13]
abbrev dktX1_goOn_3 : List UInt8 := dkwX1_goOn_3 ++ dktX1_goOn_4
def dkwX1_goOn_2 : List UInt8 := [185, 0, 126, 1, 0, 162, 0, 62, 44, 42, 180, 0, 88, 182, 1, 35, 192, 0, 22, 182, 0, 46, 42]
abbrev dktX1_goOn_2 : List UInt8 := dkwX1_goOn_2 ++ dktX1_goOn_3
def dkwX1_goOn_1 : List UInt8 := [180, 0, 88, 182, 1, 31, 154, 0, 119, 29, 27, 162, 0, 114, 42, 180, 1, 32, 42, 180, 0, 60]
abbrev dktX1_goOn_1 : List UInt8 := dkwX1_goOn_1 ++ dktX1_goOn_2
def dkwX1_goOn_0 : List UInt8 := [27, 4, 17, 0, 200, 184, 0, 116, 184, 0, 39, 187, 0, 43, 89, 183, 0, 45, 77, 3, 62, 42]
abbrev dktX1_goOn_0 : List UInt8 := dkwX1_goOn_0 ++ dktX1_goOn_1
theorem dksX1_goOn_0 : cX1_goOn.data.toList.drop 0 = dktX1_goOn_0 := by decide +kernel
theorem dksX1_goOn_1 : cX1_goOn.data.toList.drop 22 = dktX1_goOn_1 := dk_seg dksX1_goOn_0 22 rfl rfl
theorem dksX1_goOn_2 : cX1_goOn.data.toList.drop 44 = dktX1_goOn_2 := dk_seg dksX1_goOn_1 22 rfl rfl
theorem dksX1_goOn_3 : cX1_goOn.data.toList.drop 67 = dktX1_goOn_3 := dk_seg dksX1_goOn_2 23 rfl rfl
theorem dksX1_goOn_4 : cX1_goOn.data.toList.drop 91 = dktX1_goOn_4 := dk_seg dksX1_goOn_3 24 rfl rfl
theorem dksX1_goOn_5 : cX1_goOn.data.toList.drop 115 = dktX1_goOn_5 := dk_seg dksX1_goOn_4 24 rfl rfl
theorem dksX1_goOn_6 : cX1_goOn.data.toList.drop 139 = dktX1_goOn_6 := dk_seg dksX1_goOn_5 24 rfl rfl
theorem dX1_goOn_0 : decode cX1_goOn 0 = .ok (.iload_n 1, 1) := dk_27 (dk_at dksX1_goOn_0 0 rfl rfl)
theorem dX1_goOn_1 : decode cX1_goOn 1 = .ok (.iconst 1, 1) := dk_4 (dk_at dksX1_goOn_0 1 rfl rfl)
theorem dX1_goOn_2 : decode cX1_goOn 2 = .ok (.sipush 200, 3) := dk_17 0 200 (dk_at dksX1_goOn_0 2 rfl rfl)
theorem dX1_goOn_5 : decode cX1_goOn 5 = .ok (.invokestatic 116, 3) := dk_184 0 116 (dk_at dksX1_goOn_0 5 rfl rfl)
theorem dX1_goOn_8 : decode cX1_goOn 8 = .ok (.invokestatic 39, 3) := dk_184 0 39 (dk_at dksX1_goOn_0 8 rfl rfl)
theorem dX1_goOn_11 : decode cX1_goOn 11 = .ok (.new 43, 3) := dk_187 0 43 (dk_at dksX1_goOn_0 11 rfl rfl)
theorem dX1_goOn_14 : decode cX1_goOn 14 = .ok (.dup, 1) := dk_89 (dk_at dksX1_goOn_0 14 rfl rfl)
theorem dX1_goOn_15 : decode cX1_goOn 15 = .ok (.invokespecial 45, 3) := dk_183 0 45 (dk_at dksX1_goOn_0 15 rfl rfl)
theorem dX1_goOn_18 : decode cX1_goOn 18 = .ok (.astore_n 2, 1) := dk_77 (dk_at dksX1_goOn_0 18 rfl rfl)
theorem dX1_goOn_19 : decode cX1_goOn 19 = .ok (.iconst 0, 1) := dk_3 (dk_at dksX1_goOn_0 19 rfl rfl)
theorem dX1_goOn_20 : decode cX1_goOn 20 = .ok (.istore_n 3, 1) := dk_62 (dk_at dksX1_goOn_0 20 rfl rfl)
theorem dX1_goOn_21 : decode cX1_goOn 21 = .ok (.aload_n 0, 1) := dk_42 (dk_at dksX1_goOn_0 21 rfl rfl)
theorem dX1_goOn_22 : decode cX1_goOn 22 = .ok (.getfield 88, 3) := dk_180 0 88 (dk_at dksX1_goOn_1 0 rfl rfl)
theorem dX1_goOn_25 : decode cX1_goOn 25 = .ok (.invokevirtual 287, 3) := dk_182 1 31 (dk_at dksX1_goOn_1 3 rfl rfl)
theorem dX1_goOn_28 : decode cX1_goOn 28 = .ok (.ifCond .ne 119, 3) := dk_154 0 119 (dk_at dksX1_goOn_1 6 rfl rfl)
theorem dX1_goOn_31 : decode cX1_goOn 31 = .ok (.iload_n 3, 1) := dk_29 (dk_at dksX1_goOn_1 9 rfl rfl)
theorem dX1_goOn_32 : decode cX1_goOn 32 = .ok (.iload_n 1, 1) := dk_27 (dk_at dksX1_goOn_1 10 rfl rfl)
theorem dX1_goOn_33 : decode cX1_goOn 33 = .ok (.if_icmp .ge 114, 3) := dk_162 0 114 (dk_at dksX1_goOn_1 11 rfl rfl)
theorem dX1_goOn_36 : decode cX1_goOn 36 = .ok (.aload_n 0, 1) := dk_42 (dk_at dksX1_goOn_1 14 rfl rfl)
theorem dX1_goOn_37 : decode cX1_goOn 37 = .ok (.getfield 288, 3) := dk_180 1 32 (dk_at dksX1_goOn_1 15 rfl rfl)
theorem dX1_goOn_40 : decode cX1_goOn 40 = .ok (.aload_n 0, 1) := dk_42 (dk_at dksX1_goOn_1 18 rfl rfl)
theorem dX1_goOn_41 : decode cX1_goOn 41 = .ok (.getfield 60, 3) := dk_180 0 60 (dk_at dksX1_goOn_1 19 rfl rfl)
theorem dX1_goOn_44 : decode cX1_goOn 44 = .ok (.invokeinterface 126 1, 5) := by decide +kernel
theorem dX1_goOn_49 : decode cX1_goOn 49 = .ok (.if_icmp .ge 62, 3) := dk_162 0 62 (dk_at dksX1_goOn_2 5 rfl rfl)
theorem dX1_goOn_52 : decode cX1_goOn 52 = .ok (.aload_n 2, 1) := dk_44 (dk_at dksX1_goOn_2 8 rfl rfl)
theorem dX1_goOn_53 : decode cX1_goOn 53 = .ok (.aload_n 0, 1) := dk_42 (dk_at dksX1_goOn_2 9 rfl rfl)
theorem dX1_goOn_54 : decode cX1_goOn 54 = .ok (.getfield 88, 3) := dk_180 0 88 (dk_at dksX1_goOn_2 10 rfl rfl)
theorem dX1_goOn_57 : decode cX1_goOn 57 = .ok (.invokevirtual 291, 3) := dk_182 1 35 (dk_at dksX1_goOn_2 13 rfl rfl)
theorem dX1_goOn_60 : decode cX1_goOn 60 = .ok (.checkcast 22, 3) := dk_192 0 22 (dk_at dksX1_goOn_2 16 rfl rfl)
theorem dX1_goOn_63 : decode cX1_goOn 63 = .ok (.invokevirtual 46, 3) := dk_182 0 46 (dk_at dksX1_goOn_2 19 rfl rfl)
theorem dX1_goOn_66 : decode cX1_goOn 66 = .ok (.aload_n 0, 1) := dk_42 (dk_at dksX1_goOn_2 22 rfl rfl)
theorem dX1_goOn_67 : decode cX1_goOn 67 = .ok (.getfield 60, 3) := dk_180 0 60 (dk_at dksX1_goOn_3 0 rfl rfl)
theorem dX1_goOn_70 : decode cX1_goOn 70 = .ok (.aload_n 0, 1) := dk_42 (dk_at dksX1_goOn_3 3 rfl rfl)
theorem dX1_goOn_71 : decode cX1_goOn 71 = .ok (.getfield 288, 3) := dk_180 1 32 (dk_at dksX1_goOn_3 4 rfl rfl)
theorem dX1_goOn_74 : decode cX1_goOn 74 = .ok (.invokeinterface 142 2, 5) := by decide +kernel
theorem dX1_goOn_79 : decode cX1_goOn 79 = .ok (.checkcast 137, 3) := dk_192 0 137 (dk_at dksX1_goOn_3 12 rfl rfl)
theorem dX1_goOn_82 : decode cX1_goOn 82 = .ok (.aload_n 2, 1) := dk_44 (dk_at dksX1_goOn_3 15 rfl rfl)
theorem dX1_goOn_83 : decode cX1_goOn 83 = .ok (.invokeinterface 294 2, 5) := by decide +kernel
theorem dX1_goOn_88 : decode cX1_goOn 88 = .ok (.ifCond .eq 13, 3) := dk_153 0 13 (dk_at dksX1_goOn_3 21 rfl rfl)
theorem dX1_goOn_91 : decode cX1_goOn 91 = .ok (.aload_n 0, 1) := dk_42 (dk_at dksX1_goOn_4 0 rfl rfl)
theorem dX1_goOn_92 : decode cX1_goOn 92 = .ok (.aload_n 2, 1) := dk_44 (dk_at dksX1_goOn_4 1 rfl rfl)
theorem dX1_goOn_93 : decode cX1_goOn 93 = .ok (.invokevirtual 279, 3) := dk_182 1 23 (dk_at dksX1_goOn_4 2 rfl rfl)
theorem dX1_goOn_96 : decode cX1_goOn 96 = .ok (.istore 4, 2) := dk_54 4 (dk_at dksX1_goOn_4 5 rfl rfl)
theorem dX1_goOn_98 : decode cX1_goOn 98 = .ok (.iinc 3 1, 3) := dk_132 3 1 (dk_at dksX1_goOn_4 7 rfl rfl)
theorem dX1_goOn_101 : decode cX1_goOn 101 = .ok (.aload_n 0, 1) := dk_42 (dk_at dksX1_goOn_4 10 rfl rfl)
theorem dX1_goOn_102 : decode cX1_goOn 102 = .ok (.dup, 1) := dk_89 (dk_at dksX1_goOn_4 11 rfl rfl)
theorem dX1_goOn_103 : decode cX1_goOn 103 = .ok (.getfield 288, 3) := dk_180 1 32 (dk_at dksX1_goOn_4 12 rfl rfl)
theorem dX1_goOn_106 : decode cX1_goOn 106 = .ok (.iconst 1, 1) := dk_4 (dk_at dksX1_goOn_4 15 rfl rfl)
theorem dX1_goOn_107 : decode cX1_goOn 107 = .ok (.iadd, 1) := dk_96 (dk_at dksX1_goOn_4 16 rfl rfl)
theorem dX1_goOn_108 : decode cX1_goOn 108 = .ok (.putfield 288, 3) := dk_181 1 32 (dk_at dksX1_goOn_4 17 rfl rfl)
theorem dX1_goOn_111 : decode cX1_goOn 111 = .ok (.aload_n 0, 1) := dk_42 (dk_at dksX1_goOn_4 20 rfl rfl)
theorem dX1_goOn_112 : decode cX1_goOn 112 = .ok (.getfield 288, 3) := dk_180 1 32 (dk_at dksX1_goOn_4 21 rfl rfl)
theorem dX1_goOn_115 : decode cX1_goOn 115 = .ok (.aload_n 0, 1) := dk_42 (dk_at dksX1_goOn_5 0 rfl rfl)
theorem dX1_goOn_116 : decode cX1_goOn 116 = .ok (.getfield 60, 3) := dk_180 0 60 (dk_at dksX1_goOn_5 1 rfl rfl)
theorem dX1_goOn_119 : decode cX1_goOn 119 = .ok (.invokeinterface 126 1, 5) := by decide +kernel
theorem dX1_goOn_124 : decode cX1_goOn 124 = .ok (.if_icmp .ne (-103), 3) := dk_160 255 153 (dk_at dksX1_goOn_5 9 rfl rfl)
theorem dX1_goOn_127 : decode cX1_goOn 127 = .ok (.aload_n 0, 1) := dk_42 (dk_at dksX1_goOn_5 12 rfl rfl)
theorem dX1_goOn_128 : decode cX1_goOn 128 = .ok (.getfield 88, 3) := dk_180 0 88 (dk_at dksX1_goOn_5 13 rfl rfl)
theorem dX1_goOn_131 : decode cX1_goOn 131 = .ok (.invokevirtual 297, 3) := dk_182 1 41 (dk_at dksX1_goOn_5 16 rfl rfl)
theorem dX1_goOn_134 : decode cX1_goOn 134 = .ok (.checkcast 22, 3) := dk_192 0 22 (dk_at dksX1_goOn_5 19 rfl rfl)
theorem dX1_goOn_137 : decode cX1_goOn 137 = .ok (.astore 4, 2) := dk_58 4 (dk_at dksX1_goOn_5 22 rfl rfl)
theorem dX1_goOn_139 : decode cX1_goOn 139 = .ok (.aload_n 0, 1) := dk_42 (dk_at dksX1_goOn_6 0 rfl rfl)
theorem dX1_goOn_140 : decode cX1_goOn 140 = .ok (.iconst 0, 1) := dk_3 (dk_at dksX1_goOn_6 1 rfl rfl)
theorem dX1_goOn_141 : decode cX1_goOn 141 = .ok (.putfield 288, 3) := dk_181 1 32 (dk_at dksX1_goOn_6 2 rfl rfl)
theorem dX1_goOn_144 : decode cX1_goOn 144 = .ok (.goto (-123), 3) := dk_167 255 133 (dk_at dksX1_goOn_6 5 rfl rfl)
theorem dX1_goOn_147 : decode cX1_goOn 147 = .ok (.iload_n 3, 1) := dk_29 (dk_at dksX1_goOn_6 8 rfl rfl)
theorem dX1_goOn_148 : decode cX1_goOn 148 = .ok (.ireturn, 1) := dk_172 (dk_at dksX1_goOn_6 9 rfl rfl)
abbrev cX1_isCovered : ByteArray := prog_5_method_29_code
def yX1_isCovered : MethodName := ⟨RX1, "isCovered", "(II)Z"⟩
def dkwX1_isCovered_1 : List UInt8 := [96, 184, 1, 49, 42, 180, 0, 78, 16, 17, 27, 104, 28, 96, 182, 1, 53, 172]
abbrev dktX1_isCovered_1 : List UInt8 := dkwX1_isCovered_1 ++ []
def dkwX1_isCovered_0 : List UInt8 := [27, 42, 180, 0, 56, 185, 0, 126, 1, 0, 184, 1, 49, 28, 42, 180, 0, 56, 185, 0, 126, 1, 0, 4]
abbrev dktX1_isCovered_0 : List UInt8 := dkwX1_isCovered_0 ++ dktX1_isCovered_1
theorem dksX1_isCovered_0 : cX1_isCovered.data.toList.drop 0 = dktX1_isCovered_0 := by decide +kernel
theorem dksX1_isCovered_1 : cX1_isCovered.data.toList.drop 24 = dktX1_isCovered_1 := dk_seg dksX1_isCovered_0 24 rfl rfl
theorem dX1_isCovered_0 : decode cX1_isCovered 0 = .ok (.iload_n 1, 1) := dk_27 (dk_at dksX1_isCovered_0 0 rfl rfl)
theorem dX1_isCovered_1 : decode cX1_isCovered 1 = .ok (.aload_n 0, 1) := dk_42 (dk_at dksX1_isCovered_0 1 rfl rfl)
theorem dX1_isCovered_2 : decode cX1_isCovered 2 = .ok (.getfield 56, 3) := dk_180 0 56 (dk_at dksX1_isCovered_0 2 rfl rfl)
theorem dX1_isCovered_5 : decode cX1_isCovered 5 = .ok (.invokeinterface 126 1, 5) := by decide +kernel
theorem dX1_isCovered_10 : decode cX1_isCovered 10 = .ok (.invokestatic 305, 3) := dk_184 1 49 (dk_at dksX1_isCovered_0 10 rfl rfl)
theorem dX1_isCovered_13 : decode cX1_isCovered 13 = .ok (.iload_n 2, 1) := dk_28 (dk_at dksX1_isCovered_0 13 rfl rfl)
theorem dX1_isCovered_14 : decode cX1_isCovered 14 = .ok (.aload_n 0, 1) := dk_42 (dk_at dksX1_isCovered_0 14 rfl rfl)
theorem dX1_isCovered_15 : decode cX1_isCovered 15 = .ok (.getfield 56, 3) := dk_180 0 56 (dk_at dksX1_isCovered_0 15 rfl rfl)
theorem dX1_isCovered_18 : decode cX1_isCovered 18 = .ok (.invokeinterface 126 1, 5) := by decide +kernel
theorem dX1_isCovered_23 : decode cX1_isCovered 23 = .ok (.iconst 1, 1) := dk_4 (dk_at dksX1_isCovered_0 23 rfl rfl)
theorem dX1_isCovered_24 : decode cX1_isCovered 24 = .ok (.iadd, 1) := dk_96 (dk_at dksX1_isCovered_1 0 rfl rfl)
theorem dX1_isCovered_25 : decode cX1_isCovered 25 = .ok (.invokestatic 305, 3) := dk_184 1 49 (dk_at dksX1_isCovered_1 1 rfl rfl)
theorem dX1_isCovered_28 : decode cX1_isCovered 28 = .ok (.aload_n 0, 1) := dk_42 (dk_at dksX1_isCovered_1 4 rfl rfl)
theorem dX1_isCovered_29 : decode cX1_isCovered 29 = .ok (.getfield 78, 3) := dk_180 0 78 (dk_at dksX1_isCovered_1 5 rfl rfl)
theorem dX1_isCovered_32 : decode cX1_isCovered 32 = .ok (.bipush 17, 2) := dk_16 17 (dk_at dksX1_isCovered_1 8 rfl rfl)
theorem dX1_isCovered_34 : decode cX1_isCovered 34 = .ok (.iload_n 1, 1) := dk_27 (dk_at dksX1_isCovered_1 10 rfl rfl)
theorem dX1_isCovered_35 : decode cX1_isCovered 35 = .ok (.imul, 1) := dk_104 (dk_at dksX1_isCovered_1 11 rfl rfl)
theorem dX1_isCovered_36 : decode cX1_isCovered 36 = .ok (.iload_n 2, 1) := dk_28 (dk_at dksX1_isCovered_1 12 rfl rfl)
theorem dX1_isCovered_37 : decode cX1_isCovered 37 = .ok (.iadd, 1) := dk_96 (dk_at dksX1_isCovered_1 13 rfl rfl)
theorem dX1_isCovered_38 : decode cX1_isCovered 38 = .ok (.invokevirtual 309, 3) := dk_182 1 53 (dk_at dksX1_isCovered_1 14 rfl rfl)
theorem dX1_isCovered_41 : decode cX1_isCovered 41 = .ok (.ireturn, 1) := dk_172 (dk_at dksX1_isCovered_1 17 rfl rfl)
abbrev cX1_requireIndex : ByteArray := prog_5_method_5_code
def yX1_requireIndex : MethodName := ⟨RX1, "requireIndex", "(II)V"⟩
def dkwX1_requireIndex_0 : List UInt8 := [26, 155, 0, 8, 26, 27, 161, 0, 11, 187, 0, 15, 89, 183, 0, 17, 191, 177]
abbrev dktX1_requireIndex_0 : List UInt8 := dkwX1_requireIndex_0 ++ []
theorem dksX1_requireIndex_0 : cX1_requireIndex.data.toList.drop 0 = dktX1_requireIndex_0 := by decide +kernel
theorem dX1_requireIndex_0 : decode cX1_requireIndex 0 = .ok (.iload_n 0, 1) := dk_26 (dk_at dksX1_requireIndex_0 0 rfl rfl)
theorem dX1_requireIndex_1 : decode cX1_requireIndex 1 = .ok (.ifCond .lt 8, 3) := dk_155 0 8 (dk_at dksX1_requireIndex_0 1 rfl rfl)
theorem dX1_requireIndex_4 : decode cX1_requireIndex 4 = .ok (.iload_n 0, 1) := dk_26 (dk_at dksX1_requireIndex_0 4 rfl rfl)
theorem dX1_requireIndex_5 : decode cX1_requireIndex 5 = .ok (.iload_n 1, 1) := dk_27 (dk_at dksX1_requireIndex_0 5 rfl rfl)
theorem dX1_requireIndex_6 : decode cX1_requireIndex 6 = .ok (.if_icmp .lt 11, 3) := dk_161 0 11 (dk_at dksX1_requireIndex_0 6 rfl rfl)
theorem dX1_requireIndex_9 : decode cX1_requireIndex 9 = .ok (.new 15, 3) := dk_187 0 15 (dk_at dksX1_requireIndex_0 9 rfl rfl)
theorem dX1_requireIndex_12 : decode cX1_requireIndex 12 = .ok (.dup, 1) := dk_89 (dk_at dksX1_requireIndex_0 12 rfl rfl)
theorem dX1_requireIndex_13 : decode cX1_requireIndex 13 = .ok (.invokespecial 17, 3) := dk_183 0 17 (dk_at dksX1_requireIndex_0 13 rfl rfl)
theorem dX1_requireIndex_16 : decode cX1_requireIndex 16 = .ok (.athrow, 1) := dk_191 (dk_at dksX1_requireIndex_0 16 rfl rfl)
theorem dX1_requireIndex_17 : decode cX1_requireIndex 17 = .ok (.return_, 1) := dk_177 (dk_at dksX1_requireIndex_0 17 rfl rfl)
abbrev cX1_keptAt : ByteArray := prog_5_method_31_code
def yX1_keptAt : MethodName := ⟨RX1, "keptAt", "(I)Ljava/lang/String;"⟩
def dkwX1_keptAt_1 : List UInt8 := [192, 0, 22, 176]
abbrev dktX1_keptAt_1 : List UInt8 := dkwX1_keptAt_1 ++ []
def dkwX1_keptAt_0 : List UInt8 := [27, 42, 180, 0, 82, 185, 0, 126, 1, 0, 184, 1, 49, 42, 180, 0, 82, 27, 185, 0, 142, 2, 0]
abbrev dktX1_keptAt_0 : List UInt8 := dkwX1_keptAt_0 ++ dktX1_keptAt_1
theorem dksX1_keptAt_0 : cX1_keptAt.data.toList.drop 0 = dktX1_keptAt_0 := by decide +kernel
theorem dksX1_keptAt_1 : cX1_keptAt.data.toList.drop 23 = dktX1_keptAt_1 := dk_seg dksX1_keptAt_0 23 rfl rfl
theorem dX1_keptAt_0 : decode cX1_keptAt 0 = .ok (.iload_n 1, 1) := dk_27 (dk_at dksX1_keptAt_0 0 rfl rfl)
theorem dX1_keptAt_1 : decode cX1_keptAt 1 = .ok (.aload_n 0, 1) := dk_42 (dk_at dksX1_keptAt_0 1 rfl rfl)
theorem dX1_keptAt_2 : decode cX1_keptAt 2 = .ok (.getfield 82, 3) := dk_180 0 82 (dk_at dksX1_keptAt_0 2 rfl rfl)
theorem dX1_keptAt_5 : decode cX1_keptAt 5 = .ok (.invokeinterface 126 1, 5) := by decide +kernel
theorem dX1_keptAt_10 : decode cX1_keptAt 10 = .ok (.invokestatic 305, 3) := dk_184 1 49 (dk_at dksX1_keptAt_0 10 rfl rfl)
theorem dX1_keptAt_13 : decode cX1_keptAt 13 = .ok (.aload_n 0, 1) := dk_42 (dk_at dksX1_keptAt_0 13 rfl rfl)
theorem dX1_keptAt_14 : decode cX1_keptAt 14 = .ok (.getfield 82, 3) := dk_180 0 82 (dk_at dksX1_keptAt_0 14 rfl rfl)
theorem dX1_keptAt_17 : decode cX1_keptAt 17 = .ok (.iload_n 1, 1) := dk_27 (dk_at dksX1_keptAt_0 17 rfl rfl)
theorem dX1_keptAt_18 : decode cX1_keptAt 18 = .ok (.invokeinterface 142 2, 5) := by decide +kernel
theorem dX1_keptAt_23 : decode cX1_keptAt 23 = .ok (.checkcast 22, 3) := dk_192 0 22 (dk_at dksX1_keptAt_1 0 rfl rfl)
theorem dX1_keptAt_26 : decode cX1_keptAt 26 = .ok (.areturn, 1) := dk_176 (dk_at dksX1_keptAt_1 3 rfl rfl)
abbrev cX1_findingAt : ByteArray := prog_5_method_34_code
def yX1_findingAt : MethodName := ⟨RX1, "findingAt", "(I)LFinding;"⟩
def dkwX1_findingAt_1 : List UInt8 := [192, 0, 218, 176]
abbrev dktX1_findingAt_1 : List UInt8 := dkwX1_findingAt_1 ++ []
def dkwX1_findingAt_0 : List UInt8 := [27, 42, 180, 0, 92, 185, 0, 126, 1, 0, 184, 1, 49, 42, 180, 0, 92, 27, 185, 0, 142, 2, 0]
abbrev dktX1_findingAt_0 : List UInt8 := dkwX1_findingAt_0 ++ dktX1_findingAt_1
theorem dksX1_findingAt_0 : cX1_findingAt.data.toList.drop 0 = dktX1_findingAt_0 := by decide +kernel
theorem dksX1_findingAt_1 : cX1_findingAt.data.toList.drop 23 = dktX1_findingAt_1 := dk_seg dksX1_findingAt_0 23 rfl rfl
theorem dX1_findingAt_0 : decode cX1_findingAt 0 = .ok (.iload_n 1, 1) := dk_27 (dk_at dksX1_findingAt_0 0 rfl rfl)
theorem dX1_findingAt_1 : decode cX1_findingAt 1 = .ok (.aload_n 0, 1) := dk_42 (dk_at dksX1_findingAt_0 1 rfl rfl)
theorem dX1_findingAt_2 : decode cX1_findingAt 2 = .ok (.getfield 92, 3) := dk_180 0 92 (dk_at dksX1_findingAt_0 2 rfl rfl)
theorem dX1_findingAt_5 : decode cX1_findingAt 5 = .ok (.invokeinterface 126 1, 5) := by decide +kernel
theorem dX1_findingAt_10 : decode cX1_findingAt 10 = .ok (.invokestatic 305, 3) := dk_184 1 49 (dk_at dksX1_findingAt_0 10 rfl rfl)
theorem dX1_findingAt_13 : decode cX1_findingAt 13 = .ok (.aload_n 0, 1) := dk_42 (dk_at dksX1_findingAt_0 13 rfl rfl)
theorem dX1_findingAt_14 : decode cX1_findingAt 14 = .ok (.getfield 92, 3) := dk_180 0 92 (dk_at dksX1_findingAt_0 14 rfl rfl)
theorem dX1_findingAt_17 : decode cX1_findingAt 17 = .ok (.iload_n 1, 1) := dk_27 (dk_at dksX1_findingAt_0 17 rfl rfl)
theorem dX1_findingAt_18 : decode cX1_findingAt 18 = .ok (.invokeinterface 142 2, 5) := by decide +kernel
theorem dX1_findingAt_23 : decode cX1_findingAt 23 = .ok (.checkcast 218, 3) := dk_192 0 218 (dk_at dksX1_findingAt_1 0 rfl rfl)
theorem dX1_findingAt_26 : decode cX1_findingAt 26 = .ok (.areturn, 1) := dk_176 (dk_at dksX1_findingAt_1 3 rfl rfl)
abbrev cX1_verdict : ByteArray := prog_5_method_35_code
def yX1_verdict : MethodName := ⟨RX1, "verdict", "(Ljava/lang/String;)LVerdict;"⟩
def dkwX1_verdict_0 : List UInt8 := [42, 180, 0, 71, 43, 184, 1, 19, 182, 0, 233, 42, 180, 0, 71, 180, 0, 246, 176]
abbrev dktX1_verdict_0 : List UInt8 := dkwX1_verdict_0 ++ []
theorem dksX1_verdict_0 : cX1_verdict.data.toList.drop 0 = dktX1_verdict_0 := by decide +kernel
theorem dX1_verdict_0 : decode cX1_verdict 0 = .ok (.aload_n 0, 1) := dk_42 (dk_at dksX1_verdict_0 0 rfl rfl)
theorem dX1_verdict_1 : decode cX1_verdict 1 = .ok (.getfield 71, 3) := dk_180 0 71 (dk_at dksX1_verdict_0 1 rfl rfl)
theorem dX1_verdict_4 : decode cX1_verdict 4 = .ok (.aload_n 1, 1) := dk_43 (dk_at dksX1_verdict_0 4 rfl rfl)
theorem dX1_verdict_5 : decode cX1_verdict 5 = .ok (.invokestatic 275, 3) := dk_184 1 19 (dk_at dksX1_verdict_0 5 rfl rfl)
theorem dX1_verdict_8 : decode cX1_verdict 8 = .ok (.invokevirtual 233, 3) := dk_182 0 233 (dk_at dksX1_verdict_0 8 rfl rfl)
theorem dX1_verdict_11 : decode cX1_verdict 11 = .ok (.aload_n 0, 1) := dk_42 (dk_at dksX1_verdict_0 11 rfl rfl)
theorem dX1_verdict_12 : decode cX1_verdict 12 = .ok (.getfield 71, 3) := dk_180 0 71 (dk_at dksX1_verdict_0 12 rfl rfl)
theorem dX1_verdict_15 : decode cX1_verdict 15 = .ok (.getfield 246, 3) := dk_180 0 246 (dk_at dksX1_verdict_0 15 rfl rfl)
theorem dX1_verdict_18 : decode cX1_verdict 18 = .ok (.areturn, 1) := dk_176 (dk_at dksX1_verdict_0 18 rfl rfl)
abbrev cX1_code : ByteArray := prog_5_method_37_code
def yX1_code : MethodName := ⟨RX1, "code", "(Ljava/lang/String;)I"⟩
def dkwX1_code_0 : List UInt8 := [42, 43, 182, 1, 56, 77, 42, 180, 0, 71, 180, 1, 3, 172]
abbrev dktX1_code_0 : List UInt8 := dkwX1_code_0 ++ []
theorem dksX1_code_0 : cX1_code.data.toList.drop 0 = dktX1_code_0 := by decide +kernel
theorem dX1_code_0 : decode cX1_code 0 = .ok (.aload_n 0, 1) := dk_42 (dk_at dksX1_code_0 0 rfl rfl)
theorem dX1_code_1 : decode cX1_code 1 = .ok (.aload_n 1, 1) := dk_43 (dk_at dksX1_code_0 1 rfl rfl)
theorem dX1_code_2 : decode cX1_code 2 = .ok (.invokevirtual 312, 3) := dk_182 1 56 (dk_at dksX1_code_0 2 rfl rfl)
theorem dX1_code_5 : decode cX1_code 5 = .ok (.astore_n 2, 1) := dk_77 (dk_at dksX1_code_0 5 rfl rfl)
theorem dX1_code_6 : decode cX1_code 6 = .ok (.aload_n 0, 1) := dk_42 (dk_at dksX1_code_0 6 rfl rfl)
theorem dX1_code_7 : decode cX1_code 7 = .ok (.getfield 71, 3) := dk_180 0 71 (dk_at dksX1_code_0 7 rfl rfl)
theorem dX1_code_10 : decode cX1_code 10 = .ok (.getfield 259, 3) := dk_180 1 3 (dk_at dksX1_code_0 10 rfl rfl)
theorem dX1_code_13 : decode cX1_code 13 = .ok (.ireturn, 1) := dk_172 (dk_at dksX1_code_0 13 rfl rfl)
abbrev cX1_requireFailing : ByteArray := prog_5_method_36_code
def yX1_requireFailing : MethodName := ⟨RX1, "requireFailing", "(Ljava/lang/String;)LShrinkYard$Digits;"⟩
def dkwX1_requireFailing_1 : List UInt8 := [166, 0, 7, 4, 167, 0, 4, 3, 184, 0, 133, 44, 176]
abbrev dktX1_requireFailing_1 : List UInt8 := dkwX1_requireFailing_1 ++ []
def dkwX1_requireFailing_0 : List UInt8 := [43, 184, 1, 19, 77, 42, 180, 0, 71, 44, 182, 0, 233, 42, 180, 0, 71, 180, 0, 246, 178, 1, 5]
abbrev dktX1_requireFailing_0 : List UInt8 := dkwX1_requireFailing_0 ++ dktX1_requireFailing_1
theorem dksX1_requireFailing_0 : cX1_requireFailing.data.toList.drop 0 = dktX1_requireFailing_0 := by decide +kernel
theorem dksX1_requireFailing_1 : cX1_requireFailing.data.toList.drop 23 = dktX1_requireFailing_1 := dk_seg dksX1_requireFailing_0 23 rfl rfl
theorem dX1_requireFailing_0 : decode cX1_requireFailing 0 = .ok (.aload_n 1, 1) := dk_43 (dk_at dksX1_requireFailing_0 0 rfl rfl)
theorem dX1_requireFailing_1 : decode cX1_requireFailing 1 = .ok (.invokestatic 275, 3) := dk_184 1 19 (dk_at dksX1_requireFailing_0 1 rfl rfl)
theorem dX1_requireFailing_4 : decode cX1_requireFailing 4 = .ok (.astore_n 2, 1) := dk_77 (dk_at dksX1_requireFailing_0 4 rfl rfl)
theorem dX1_requireFailing_5 : decode cX1_requireFailing 5 = .ok (.aload_n 0, 1) := dk_42 (dk_at dksX1_requireFailing_0 5 rfl rfl)
theorem dX1_requireFailing_6 : decode cX1_requireFailing 6 = .ok (.getfield 71, 3) := dk_180 0 71 (dk_at dksX1_requireFailing_0 6 rfl rfl)
theorem dX1_requireFailing_9 : decode cX1_requireFailing 9 = .ok (.aload_n 2, 1) := dk_44 (dk_at dksX1_requireFailing_0 9 rfl rfl)
theorem dX1_requireFailing_10 : decode cX1_requireFailing 10 = .ok (.invokevirtual 233, 3) := dk_182 0 233 (dk_at dksX1_requireFailing_0 10 rfl rfl)
theorem dX1_requireFailing_13 : decode cX1_requireFailing 13 = .ok (.aload_n 0, 1) := dk_42 (dk_at dksX1_requireFailing_0 13 rfl rfl)
theorem dX1_requireFailing_14 : decode cX1_requireFailing 14 = .ok (.getfield 71, 3) := dk_180 0 71 (dk_at dksX1_requireFailing_0 14 rfl rfl)
theorem dX1_requireFailing_17 : decode cX1_requireFailing 17 = .ok (.getfield 246, 3) := dk_180 0 246 (dk_at dksX1_requireFailing_0 17 rfl rfl)
theorem dX1_requireFailing_20 : decode cX1_requireFailing 20 = .ok (.getstatic 261, 3) := dk_178 1 5 (dk_at dksX1_requireFailing_0 20 rfl rfl)
theorem dX1_requireFailing_23 : decode cX1_requireFailing 23 = .ok (.if_acmp .ne 7, 3) := dk_166 0 7 (dk_at dksX1_requireFailing_1 0 rfl rfl)
theorem dX1_requireFailing_26 : decode cX1_requireFailing 26 = .ok (.iconst 1, 1) := dk_4 (dk_at dksX1_requireFailing_1 3 rfl rfl)
theorem dX1_requireFailing_27 : decode cX1_requireFailing 27 = .ok (.goto 4, 3) := dk_167 0 4 (dk_at dksX1_requireFailing_1 4 rfl rfl)
theorem dX1_requireFailing_30 : decode cX1_requireFailing 30 = .ok (.iconst 0, 1) := dk_3 (dk_at dksX1_requireFailing_1 7 rfl rfl)
theorem dX1_requireFailing_31 : decode cX1_requireFailing 31 = .ok (.invokestatic 133, 3) := dk_184 0 133 (dk_at dksX1_requireFailing_1 8 rfl rfl)
theorem dX1_requireFailing_34 : decode cX1_requireFailing 34 = .ok (.aload_n 2, 1) := dk_44 (dk_at dksX1_requireFailing_1 11 rfl rfl)
theorem dX1_requireFailing_35 : decode cX1_requireFailing 35 = .ok (.areturn, 1) := dk_176 (dk_at dksX1_requireFailing_1 12 rfl rfl)
abbrev cX1_steps : ByteArray := prog_5_method_38_code
def yX1_steps : MethodName := ⟨RX1, "steps", "(Ljava/lang/String;)I"⟩
def dkwX1_steps_0 : List UInt8 := [42, 180, 0, 71, 43, 184, 1, 19, 182, 0, 233, 42, 180, 0, 71, 180, 0, 240, 172]
abbrev dktX1_steps_0 : List UInt8 := dkwX1_steps_0 ++ []
theorem dksX1_steps_0 : cX1_steps.data.toList.drop 0 = dktX1_steps_0 := by decide +kernel
theorem dX1_steps_0 : decode cX1_steps 0 = .ok (.aload_n 0, 1) := dk_42 (dk_at dksX1_steps_0 0 rfl rfl)
theorem dX1_steps_1 : decode cX1_steps 1 = .ok (.getfield 71, 3) := dk_180 0 71 (dk_at dksX1_steps_0 1 rfl rfl)
theorem dX1_steps_4 : decode cX1_steps 4 = .ok (.aload_n 1, 1) := dk_43 (dk_at dksX1_steps_0 4 rfl rfl)
theorem dX1_steps_5 : decode cX1_steps 5 = .ok (.invokestatic 275, 3) := dk_184 1 19 (dk_at dksX1_steps_0 5 rfl rfl)
theorem dX1_steps_8 : decode cX1_steps 8 = .ok (.invokevirtual 233, 3) := dk_182 0 233 (dk_at dksX1_steps_0 8 rfl rfl)
theorem dX1_steps_11 : decode cX1_steps 11 = .ok (.aload_n 0, 1) := dk_42 (dk_at dksX1_steps_0 11 rfl rfl)
theorem dX1_steps_12 : decode cX1_steps 12 = .ok (.getfield 71, 3) := dk_180 0 71 (dk_at dksX1_steps_0 12 rfl rfl)
theorem dX1_steps_15 : decode cX1_steps 15 = .ok (.getfield 240, 3) := dk_180 0 240 (dk_at dksX1_steps_0 15 rfl rfl)
theorem dX1_steps_18 : decode cX1_steps 18 = .ok (.ireturn, 1) := dk_172 (dk_at dksX1_steps_0 18 rfl rfl)
abbrev cX1_edges : ByteArray := prog_5_method_39_code
def yX1_edges : MethodName := ⟨RX1, "edges", "(Ljava/lang/String;)I"⟩
def dkwX1_edges_0 : List UInt8 := [42, 180, 0, 71, 43, 184, 1, 19, 182, 0, 233, 42, 180, 0, 71, 180, 0, 226, 182, 0, 223, 172]
abbrev dktX1_edges_0 : List UInt8 := dkwX1_edges_0 ++ []
theorem dksX1_edges_0 : cX1_edges.data.toList.drop 0 = dktX1_edges_0 := by decide +kernel
theorem dX1_edges_0 : decode cX1_edges 0 = .ok (.aload_n 0, 1) := dk_42 (dk_at dksX1_edges_0 0 rfl rfl)
theorem dX1_edges_1 : decode cX1_edges 1 = .ok (.getfield 71, 3) := dk_180 0 71 (dk_at dksX1_edges_0 1 rfl rfl)
theorem dX1_edges_4 : decode cX1_edges 4 = .ok (.aload_n 1, 1) := dk_43 (dk_at dksX1_edges_0 4 rfl rfl)
theorem dX1_edges_5 : decode cX1_edges 5 = .ok (.invokestatic 275, 3) := dk_184 1 19 (dk_at dksX1_edges_0 5 rfl rfl)
theorem dX1_edges_8 : decode cX1_edges 8 = .ok (.invokevirtual 233, 3) := dk_182 0 233 (dk_at dksX1_edges_0 8 rfl rfl)
theorem dX1_edges_11 : decode cX1_edges 11 = .ok (.aload_n 0, 1) := dk_42 (dk_at dksX1_edges_0 11 rfl rfl)
theorem dX1_edges_12 : decode cX1_edges 12 = .ok (.getfield 71, 3) := dk_180 0 71 (dk_at dksX1_edges_0 12 rfl rfl)
theorem dX1_edges_15 : decode cX1_edges 15 = .ok (.getfield 226, 3) := dk_180 0 226 (dk_at dksX1_edges_0 15 rfl rfl)
theorem dX1_edges_18 : decode cX1_edges 18 = .ok (.invokevirtual 223, 3) := dk_182 0 223 (dk_at dksX1_edges_0 18 rfl rfl)
theorem dX1_edges_21 : decode cX1_edges 21 = .ok (.ireturn, 1) := dk_172 (dk_at dksX1_edges_0 21 rfl rfl)
abbrev cX1_changed : ByteArray := prog_5_method_40_code
def yX1_changed : MethodName := ⟨RX1, "changed", "(LChange;IILjava/lang/String;)Ljava/lang/String;"⟩
def dkwX1_changed_1 : List UInt8 := [184, 0, 133, 25, 6, 182, 0, 202, 176]
abbrev dktX1_changed_1 : List UInt8 := dkwX1_changed_1 ++ []
def dkwX1_changed_0 : List UInt8 := [43, 28, 29, 184, 0, 136, 58, 5, 25, 4, 184, 1, 19, 58, 6, 25, 5, 25, 6, 185, 1, 38, 2, 0]
abbrev dktX1_changed_0 : List UInt8 := dkwX1_changed_0 ++ dktX1_changed_1
theorem dksX1_changed_0 : cX1_changed.data.toList.drop 0 = dktX1_changed_0 := by decide +kernel
theorem dksX1_changed_1 : cX1_changed.data.toList.drop 24 = dktX1_changed_1 := dk_seg dksX1_changed_0 24 rfl rfl
theorem dX1_changed_0 : decode cX1_changed 0 = .ok (.aload_n 1, 1) := dk_43 (dk_at dksX1_changed_0 0 rfl rfl)
theorem dX1_changed_1 : decode cX1_changed 1 = .ok (.iload_n 2, 1) := dk_28 (dk_at dksX1_changed_0 1 rfl rfl)
theorem dX1_changed_2 : decode cX1_changed 2 = .ok (.iload_n 3, 1) := dk_29 (dk_at dksX1_changed_0 2 rfl rfl)
theorem dX1_changed_3 : decode cX1_changed 3 = .ok (.invokestatic 136, 3) := dk_184 0 136 (dk_at dksX1_changed_0 3 rfl rfl)
theorem dX1_changed_6 : decode cX1_changed 6 = .ok (.astore 5, 2) := dk_58 5 (dk_at dksX1_changed_0 6 rfl rfl)
theorem dX1_changed_8 : decode cX1_changed 8 = .ok (.aload 4, 2) := dk_25 4 (dk_at dksX1_changed_0 8 rfl rfl)
theorem dX1_changed_10 : decode cX1_changed 10 = .ok (.invokestatic 275, 3) := dk_184 1 19 (dk_at dksX1_changed_0 10 rfl rfl)
theorem dX1_changed_13 : decode cX1_changed 13 = .ok (.astore 6, 2) := dk_58 6 (dk_at dksX1_changed_0 13 rfl rfl)
theorem dX1_changed_15 : decode cX1_changed 15 = .ok (.aload 5, 2) := dk_25 5 (dk_at dksX1_changed_0 15 rfl rfl)
theorem dX1_changed_17 : decode cX1_changed 17 = .ok (.aload 6, 2) := dk_25 6 (dk_at dksX1_changed_0 17 rfl rfl)
theorem dX1_changed_19 : decode cX1_changed 19 = .ok (.invokeinterface 294 2, 5) := by decide +kernel
theorem dX1_changed_24 : decode cX1_changed 24 = .ok (.invokestatic 133, 3) := dk_184 0 133 (dk_at dksX1_changed_1 0 rfl rfl)
theorem dX1_changed_27 : decode cX1_changed 27 = .ok (.aload 6, 2) := dk_25 6 (dk_at dksX1_changed_1 3 rfl rfl)
theorem dX1_changed_29 : decode cX1_changed 29 = .ok (.invokevirtual 202, 3) := dk_182 0 202 (dk_at dksX1_changed_1 5 rfl rfl)
theorem dX1_changed_32 : decode cX1_changed 32 = .ok (.areturn, 1) := dk_176 (dk_at dksX1_changed_1 8 rfl rfl)
abbrev cX1_shrunk : ByteArray := prog_5_method_41_code
def yX1_shrunk : MethodName := ⟨RX1, "shrunk", "(Ljava/lang/String;)Ljava/lang/String;"⟩
def dkwX1_shrunk_0 : List UInt8 := [42, 43, 182, 1, 56, 77, 42, 44, 42, 180, 0, 71, 180, 1, 3, 182, 1, 12, 176]
abbrev dktX1_shrunk_0 : List UInt8 := dkwX1_shrunk_0 ++ []
theorem dksX1_shrunk_0 : cX1_shrunk.data.toList.drop 0 = dktX1_shrunk_0 := by decide +kernel
theorem dX1_shrunk_0 : decode cX1_shrunk 0 = .ok (.aload_n 0, 1) := dk_42 (dk_at dksX1_shrunk_0 0 rfl rfl)
theorem dX1_shrunk_1 : decode cX1_shrunk 1 = .ok (.aload_n 1, 1) := dk_43 (dk_at dksX1_shrunk_0 1 rfl rfl)
theorem dX1_shrunk_2 : decode cX1_shrunk 2 = .ok (.invokevirtual 312, 3) := dk_182 1 56 (dk_at dksX1_shrunk_0 2 rfl rfl)
theorem dX1_shrunk_5 : decode cX1_shrunk 5 = .ok (.astore_n 2, 1) := dk_77 (dk_at dksX1_shrunk_0 5 rfl rfl)
theorem dX1_shrunk_6 : decode cX1_shrunk 6 = .ok (.aload_n 0, 1) := dk_42 (dk_at dksX1_shrunk_0 6 rfl rfl)
theorem dX1_shrunk_7 : decode cX1_shrunk 7 = .ok (.aload_n 2, 1) := dk_44 (dk_at dksX1_shrunk_0 7 rfl rfl)
theorem dX1_shrunk_8 : decode cX1_shrunk 8 = .ok (.aload_n 0, 1) := dk_42 (dk_at dksX1_shrunk_0 8 rfl rfl)
theorem dX1_shrunk_9 : decode cX1_shrunk 9 = .ok (.getfield 71, 3) := dk_180 0 71 (dk_at dksX1_shrunk_0 9 rfl rfl)
theorem dX1_shrunk_12 : decode cX1_shrunk 12 = .ok (.getfield 259, 3) := dk_180 1 3 (dk_at dksX1_shrunk_0 12 rfl rfl)
theorem dX1_shrunk_15 : decode cX1_shrunk 15 = .ok (.invokevirtual 268, 3) := dk_182 1 12 (dk_at dksX1_shrunk_0 15 rfl rfl)
theorem dX1_shrunk_18 : decode cX1_shrunk 18 = .ok (.areturn, 1) := dk_176 (dk_at dksX1_shrunk_0 18 rfl rfl)
abbrev cX1_failingReductions : ByteArray := prog_5_method_42_code
def yX1_failingReductions : MethodName := ⟨RX1, "failingReductions", "(Ljava/lang/String;)I"⟩
def dkwX1_failingReductions_6 : List UInt8 := [21, 5, 172]
abbrev dktX1_failingReductions_6 : List UInt8 := dkwX1_failingReductions_6 ++ []
def dkwX1_failingReductions_5 : List UInt8 := [153, 0, 7, 4, 167, 0, 4, 3, 96, 54, 5, 132, 7, 1, 167, 255, 202, 132, 6, 1, 167, 255, 148]
abbrev dktX1_failingReductions_5 : List UInt8 := dkwX1_failingReductions_5 ++ dktX1_failingReductions_6
def dkwX1_failingReductions_4 : List UInt8 := [25, 4, 180, 0, 194, 21, 6, 21, 7, 79, 21, 5, 42, 180, 0, 71, 25, 4, 29, 182, 0, 190]
abbrev dktX1_failingReductions_4 : List UInt8 := dkwX1_failingReductions_4 ++ dktX1_failingReductions_5
def dkwX1_failingReductions_3 : List UInt8 := [54, 5, 3, 54, 7, 21, 7, 44, 180, 0, 194, 21, 6, 46, 162, 0, 48, 25, 4, 44, 182, 0, 182]
abbrev dktX1_failingReductions_3 : List UInt8 := dkwX1_failingReductions_3 ++ dktX1_failingReductions_4
def dkwX1_failingReductions_2 : List UInt8 := [182, 0, 186, 21, 5, 42, 180, 0, 71, 25, 4, 29, 182, 0, 190, 153, 0, 7, 4, 167, 0, 4, 3, 96]
abbrev dktX1_failingReductions_2 : List UInt8 := dkwX1_failingReductions_2 ++ dktX1_failingReductions_3
def dkwX1_failingReductions_1 : List UInt8 := [54, 5, 3, 54, 6, 21, 6, 44, 180, 0, 180, 162, 0, 105, 25, 4, 44, 182, 0, 182, 25, 4, 21, 6]
abbrev dktX1_failingReductions_1 : List UInt8 := dkwX1_failingReductions_1 ++ dktX1_failingReductions_2
def dkwX1_failingReductions_0 : List UInt8 := [42, 43, 182, 1, 56, 77, 42, 180, 0, 71, 180, 1, 3, 62, 187, 0, 43, 89, 183, 0, 45, 58, 4, 3]
abbrev dktX1_failingReductions_0 : List UInt8 := dkwX1_failingReductions_0 ++ dktX1_failingReductions_1
theorem dksX1_failingReductions_0 : cX1_failingReductions.data.toList.drop 0 = dktX1_failingReductions_0 := by decide +kernel
theorem dksX1_failingReductions_1 : cX1_failingReductions.data.toList.drop 24 = dktX1_failingReductions_1 := dk_seg dksX1_failingReductions_0 24 rfl rfl
theorem dksX1_failingReductions_2 : cX1_failingReductions.data.toList.drop 48 = dktX1_failingReductions_2 := dk_seg dksX1_failingReductions_1 24 rfl rfl
theorem dksX1_failingReductions_3 : cX1_failingReductions.data.toList.drop 72 = dktX1_failingReductions_3 := dk_seg dksX1_failingReductions_2 24 rfl rfl
theorem dksX1_failingReductions_4 : cX1_failingReductions.data.toList.drop 95 = dktX1_failingReductions_4 := dk_seg dksX1_failingReductions_3 23 rfl rfl
theorem dksX1_failingReductions_5 : cX1_failingReductions.data.toList.drop 117 = dktX1_failingReductions_5 := dk_seg dksX1_failingReductions_4 22 rfl rfl
theorem dksX1_failingReductions_6 : cX1_failingReductions.data.toList.drop 140 = dktX1_failingReductions_6 := dk_seg dksX1_failingReductions_5 23 rfl rfl
theorem dX1_failingReductions_0 : decode cX1_failingReductions 0 = .ok (.aload_n 0, 1) := dk_42 (dk_at dksX1_failingReductions_0 0 rfl rfl)
theorem dX1_failingReductions_1 : decode cX1_failingReductions 1 = .ok (.aload_n 1, 1) := dk_43 (dk_at dksX1_failingReductions_0 1 rfl rfl)
theorem dX1_failingReductions_2 : decode cX1_failingReductions 2 = .ok (.invokevirtual 312, 3) := dk_182 1 56 (dk_at dksX1_failingReductions_0 2 rfl rfl)
theorem dX1_failingReductions_5 : decode cX1_failingReductions 5 = .ok (.astore_n 2, 1) := dk_77 (dk_at dksX1_failingReductions_0 5 rfl rfl)
theorem dX1_failingReductions_6 : decode cX1_failingReductions 6 = .ok (.aload_n 0, 1) := dk_42 (dk_at dksX1_failingReductions_0 6 rfl rfl)
theorem dX1_failingReductions_7 : decode cX1_failingReductions 7 = .ok (.getfield 71, 3) := dk_180 0 71 (dk_at dksX1_failingReductions_0 7 rfl rfl)
theorem dX1_failingReductions_10 : decode cX1_failingReductions 10 = .ok (.getfield 259, 3) := dk_180 1 3 (dk_at dksX1_failingReductions_0 10 rfl rfl)
theorem dX1_failingReductions_13 : decode cX1_failingReductions 13 = .ok (.istore_n 3, 1) := dk_62 (dk_at dksX1_failingReductions_0 13 rfl rfl)
theorem dX1_failingReductions_14 : decode cX1_failingReductions 14 = .ok (.new 43, 3) := dk_187 0 43 (dk_at dksX1_failingReductions_0 14 rfl rfl)
theorem dX1_failingReductions_17 : decode cX1_failingReductions 17 = .ok (.dup, 1) := dk_89 (dk_at dksX1_failingReductions_0 17 rfl rfl)
theorem dX1_failingReductions_18 : decode cX1_failingReductions 18 = .ok (.invokespecial 45, 3) := dk_183 0 45 (dk_at dksX1_failingReductions_0 18 rfl rfl)
theorem dX1_failingReductions_21 : decode cX1_failingReductions 21 = .ok (.astore 4, 2) := dk_58 4 (dk_at dksX1_failingReductions_0 21 rfl rfl)
theorem dX1_failingReductions_23 : decode cX1_failingReductions 23 = .ok (.iconst 0, 1) := dk_3 (dk_at dksX1_failingReductions_0 23 rfl rfl)
theorem dX1_failingReductions_24 : decode cX1_failingReductions 24 = .ok (.istore 5, 2) := dk_54 5 (dk_at dksX1_failingReductions_1 0 rfl rfl)
theorem dX1_failingReductions_26 : decode cX1_failingReductions 26 = .ok (.iconst 0, 1) := dk_3 (dk_at dksX1_failingReductions_1 2 rfl rfl)
theorem dX1_failingReductions_27 : decode cX1_failingReductions 27 = .ok (.istore 6, 2) := dk_54 6 (dk_at dksX1_failingReductions_1 3 rfl rfl)
theorem dX1_failingReductions_29 : decode cX1_failingReductions 29 = .ok (.iload 6, 2) := dk_21 6 (dk_at dksX1_failingReductions_1 5 rfl rfl)
theorem dX1_failingReductions_31 : decode cX1_failingReductions 31 = .ok (.aload_n 2, 1) := dk_44 (dk_at dksX1_failingReductions_1 7 rfl rfl)
theorem dX1_failingReductions_32 : decode cX1_failingReductions 32 = .ok (.getfield 180, 3) := dk_180 0 180 (dk_at dksX1_failingReductions_1 8 rfl rfl)
theorem dX1_failingReductions_35 : decode cX1_failingReductions 35 = .ok (.if_icmp .ge 105, 3) := dk_162 0 105 (dk_at dksX1_failingReductions_1 11 rfl rfl)
theorem dX1_failingReductions_38 : decode cX1_failingReductions 38 = .ok (.aload 4, 2) := dk_25 4 (dk_at dksX1_failingReductions_1 14 rfl rfl)
theorem dX1_failingReductions_40 : decode cX1_failingReductions 40 = .ok (.aload_n 2, 1) := dk_44 (dk_at dksX1_failingReductions_1 16 rfl rfl)
theorem dX1_failingReductions_41 : decode cX1_failingReductions 41 = .ok (.invokevirtual 182, 3) := dk_182 0 182 (dk_at dksX1_failingReductions_1 17 rfl rfl)
theorem dX1_failingReductions_44 : decode cX1_failingReductions 44 = .ok (.aload 4, 2) := dk_25 4 (dk_at dksX1_failingReductions_1 20 rfl rfl)
theorem dX1_failingReductions_46 : decode cX1_failingReductions 46 = .ok (.iload 6, 2) := dk_21 6 (dk_at dksX1_failingReductions_1 22 rfl rfl)
theorem dX1_failingReductions_48 : decode cX1_failingReductions 48 = .ok (.invokevirtual 186, 3) := dk_182 0 186 (dk_at dksX1_failingReductions_2 0 rfl rfl)
theorem dX1_failingReductions_51 : decode cX1_failingReductions 51 = .ok (.iload 5, 2) := dk_21 5 (dk_at dksX1_failingReductions_2 3 rfl rfl)
theorem dX1_failingReductions_53 : decode cX1_failingReductions 53 = .ok (.aload_n 0, 1) := dk_42 (dk_at dksX1_failingReductions_2 5 rfl rfl)
theorem dX1_failingReductions_54 : decode cX1_failingReductions 54 = .ok (.getfield 71, 3) := dk_180 0 71 (dk_at dksX1_failingReductions_2 6 rfl rfl)
theorem dX1_failingReductions_57 : decode cX1_failingReductions 57 = .ok (.aload 4, 2) := dk_25 4 (dk_at dksX1_failingReductions_2 9 rfl rfl)
theorem dX1_failingReductions_59 : decode cX1_failingReductions 59 = .ok (.iload_n 3, 1) := dk_29 (dk_at dksX1_failingReductions_2 11 rfl rfl)
theorem dX1_failingReductions_60 : decode cX1_failingReductions 60 = .ok (.invokevirtual 190, 3) := dk_182 0 190 (dk_at dksX1_failingReductions_2 12 rfl rfl)
theorem dX1_failingReductions_63 : decode cX1_failingReductions 63 = .ok (.ifCond .eq 7, 3) := dk_153 0 7 (dk_at dksX1_failingReductions_2 15 rfl rfl)
theorem dX1_failingReductions_66 : decode cX1_failingReductions 66 = .ok (.iconst 1, 1) := dk_4 (dk_at dksX1_failingReductions_2 18 rfl rfl)
theorem dX1_failingReductions_67 : decode cX1_failingReductions 67 = .ok (.goto 4, 3) := dk_167 0 4 (dk_at dksX1_failingReductions_2 19 rfl rfl)
theorem dX1_failingReductions_70 : decode cX1_failingReductions 70 = .ok (.iconst 0, 1) := dk_3 (dk_at dksX1_failingReductions_2 22 rfl rfl)
theorem dX1_failingReductions_71 : decode cX1_failingReductions 71 = .ok (.iadd, 1) := dk_96 (dk_at dksX1_failingReductions_2 23 rfl rfl)
theorem dX1_failingReductions_72 : decode cX1_failingReductions 72 = .ok (.istore 5, 2) := dk_54 5 (dk_at dksX1_failingReductions_3 0 rfl rfl)
theorem dX1_failingReductions_74 : decode cX1_failingReductions 74 = .ok (.iconst 0, 1) := dk_3 (dk_at dksX1_failingReductions_3 2 rfl rfl)
theorem dX1_failingReductions_75 : decode cX1_failingReductions 75 = .ok (.istore 7, 2) := dk_54 7 (dk_at dksX1_failingReductions_3 3 rfl rfl)
theorem dX1_failingReductions_77 : decode cX1_failingReductions 77 = .ok (.iload 7, 2) := dk_21 7 (dk_at dksX1_failingReductions_3 5 rfl rfl)
theorem dX1_failingReductions_79 : decode cX1_failingReductions 79 = .ok (.aload_n 2, 1) := dk_44 (dk_at dksX1_failingReductions_3 7 rfl rfl)
theorem dX1_failingReductions_80 : decode cX1_failingReductions 80 = .ok (.getfield 194, 3) := dk_180 0 194 (dk_at dksX1_failingReductions_3 8 rfl rfl)
theorem dX1_failingReductions_83 : decode cX1_failingReductions 83 = .ok (.iload 6, 2) := dk_21 6 (dk_at dksX1_failingReductions_3 11 rfl rfl)
theorem dX1_failingReductions_85 : decode cX1_failingReductions 85 = .ok (.iaload, 1) := dk_46 (dk_at dksX1_failingReductions_3 13 rfl rfl)
theorem dX1_failingReductions_86 : decode cX1_failingReductions 86 = .ok (.if_icmp .ge 48, 3) := dk_162 0 48 (dk_at dksX1_failingReductions_3 14 rfl rfl)
theorem dX1_failingReductions_89 : decode cX1_failingReductions 89 = .ok (.aload 4, 2) := dk_25 4 (dk_at dksX1_failingReductions_3 17 rfl rfl)
theorem dX1_failingReductions_91 : decode cX1_failingReductions 91 = .ok (.aload_n 2, 1) := dk_44 (dk_at dksX1_failingReductions_3 19 rfl rfl)
theorem dX1_failingReductions_92 : decode cX1_failingReductions 92 = .ok (.invokevirtual 182, 3) := dk_182 0 182 (dk_at dksX1_failingReductions_3 20 rfl rfl)
theorem dX1_failingReductions_95 : decode cX1_failingReductions 95 = .ok (.aload 4, 2) := dk_25 4 (dk_at dksX1_failingReductions_4 0 rfl rfl)
theorem dX1_failingReductions_97 : decode cX1_failingReductions 97 = .ok (.getfield 194, 3) := dk_180 0 194 (dk_at dksX1_failingReductions_4 2 rfl rfl)
theorem dX1_failingReductions_100 : decode cX1_failingReductions 100 = .ok (.iload 6, 2) := dk_21 6 (dk_at dksX1_failingReductions_4 5 rfl rfl)
theorem dX1_failingReductions_102 : decode cX1_failingReductions 102 = .ok (.iload 7, 2) := dk_21 7 (dk_at dksX1_failingReductions_4 7 rfl rfl)
theorem dX1_failingReductions_104 : decode cX1_failingReductions 104 = .ok (.iastore, 1) := dk_79 (dk_at dksX1_failingReductions_4 9 rfl rfl)
theorem dX1_failingReductions_105 : decode cX1_failingReductions 105 = .ok (.iload 5, 2) := dk_21 5 (dk_at dksX1_failingReductions_4 10 rfl rfl)
theorem dX1_failingReductions_107 : decode cX1_failingReductions 107 = .ok (.aload_n 0, 1) := dk_42 (dk_at dksX1_failingReductions_4 12 rfl rfl)
theorem dX1_failingReductions_108 : decode cX1_failingReductions 108 = .ok (.getfield 71, 3) := dk_180 0 71 (dk_at dksX1_failingReductions_4 13 rfl rfl)
theorem dX1_failingReductions_111 : decode cX1_failingReductions 111 = .ok (.aload 4, 2) := dk_25 4 (dk_at dksX1_failingReductions_4 16 rfl rfl)
theorem dX1_failingReductions_113 : decode cX1_failingReductions 113 = .ok (.iload_n 3, 1) := dk_29 (dk_at dksX1_failingReductions_4 18 rfl rfl)
theorem dX1_failingReductions_114 : decode cX1_failingReductions 114 = .ok (.invokevirtual 190, 3) := dk_182 0 190 (dk_at dksX1_failingReductions_4 19 rfl rfl)
theorem dX1_failingReductions_117 : decode cX1_failingReductions 117 = .ok (.ifCond .eq 7, 3) := dk_153 0 7 (dk_at dksX1_failingReductions_5 0 rfl rfl)
theorem dX1_failingReductions_120 : decode cX1_failingReductions 120 = .ok (.iconst 1, 1) := dk_4 (dk_at dksX1_failingReductions_5 3 rfl rfl)
theorem dX1_failingReductions_121 : decode cX1_failingReductions 121 = .ok (.goto 4, 3) := dk_167 0 4 (dk_at dksX1_failingReductions_5 4 rfl rfl)
theorem dX1_failingReductions_124 : decode cX1_failingReductions 124 = .ok (.iconst 0, 1) := dk_3 (dk_at dksX1_failingReductions_5 7 rfl rfl)
theorem dX1_failingReductions_125 : decode cX1_failingReductions 125 = .ok (.iadd, 1) := dk_96 (dk_at dksX1_failingReductions_5 8 rfl rfl)
theorem dX1_failingReductions_126 : decode cX1_failingReductions 126 = .ok (.istore 5, 2) := dk_54 5 (dk_at dksX1_failingReductions_5 9 rfl rfl)
theorem dX1_failingReductions_128 : decode cX1_failingReductions 128 = .ok (.iinc 7 1, 3) := dk_132 7 1 (dk_at dksX1_failingReductions_5 11 rfl rfl)
theorem dX1_failingReductions_131 : decode cX1_failingReductions 131 = .ok (.goto (-54), 3) := dk_167 255 202 (dk_at dksX1_failingReductions_5 14 rfl rfl)
theorem dX1_failingReductions_134 : decode cX1_failingReductions 134 = .ok (.iinc 6 1, 3) := dk_132 6 1 (dk_at dksX1_failingReductions_5 17 rfl rfl)
theorem dX1_failingReductions_137 : decode cX1_failingReductions 137 = .ok (.goto (-108), 3) := dk_167 255 148 (dk_at dksX1_failingReductions_5 20 rfl rfl)
theorem dX1_failingReductions_140 : decode cX1_failingReductions 140 = .ok (.iload 5, 2) := dk_21 5 (dk_at dksX1_failingReductions_6 0 rfl rfl)
theorem dX1_failingReductions_142 : decode cX1_failingReductions 142 = .ok (.ireturn, 1) := dk_172 (dk_at dksX1_failingReductions_6 2 rfl rfl)
abbrev cX1_smallest : ByteArray := prog_5_method_44_code
def yX1_smallest : MethodName := ⟨RX1, "smallest", "(II)Ljava/lang/String;"⟩
def dkwX1_smallest_2 : List UInt8 := [154, 255, 235, 132, 4, 1, 167, 255, 217, 187, 0, 12, 89, 183, 0, 14, 191]
abbrev dktX1_smallest_2 : List UInt8 := dkwX1_smallest_2 ++ []
def dkwX1_smallest_1 : List UInt8 := [182, 1, 62, 42, 180, 0, 71, 45, 27, 182, 0, 190, 153, 0, 8, 45, 182, 0, 202, 176, 45, 182, 1, 64]
abbrev dktX1_smallest_1 : List UInt8 := dkwX1_smallest_1 ++ dktX1_smallest_2
def dkwX1_smallest_0 : List UInt8 := [28, 184, 1, 59, 187, 0, 43, 89, 183, 0, 45, 78, 3, 54, 4, 21, 4, 28, 163, 0, 39, 45, 21, 4]
abbrev dktX1_smallest_0 : List UInt8 := dkwX1_smallest_0 ++ dktX1_smallest_1
theorem dksX1_smallest_0 : cX1_smallest.data.toList.drop 0 = dktX1_smallest_0 := by decide +kernel
theorem dksX1_smallest_1 : cX1_smallest.data.toList.drop 24 = dktX1_smallest_1 := dk_seg dksX1_smallest_0 24 rfl rfl
theorem dksX1_smallest_2 : cX1_smallest.data.toList.drop 48 = dktX1_smallest_2 := dk_seg dksX1_smallest_1 24 rfl rfl
theorem dX1_smallest_0 : decode cX1_smallest 0 = .ok (.iload_n 2, 1) := dk_28 (dk_at dksX1_smallest_0 0 rfl rfl)
theorem dX1_smallest_1 : decode cX1_smallest 1 = .ok (.invokestatic 315, 3) := dk_184 1 59 (dk_at dksX1_smallest_0 1 rfl rfl)
theorem dX1_smallest_4 : decode cX1_smallest 4 = .ok (.new 43, 3) := dk_187 0 43 (dk_at dksX1_smallest_0 4 rfl rfl)
theorem dX1_smallest_7 : decode cX1_smallest 7 = .ok (.dup, 1) := dk_89 (dk_at dksX1_smallest_0 7 rfl rfl)
theorem dX1_smallest_8 : decode cX1_smallest 8 = .ok (.invokespecial 45, 3) := dk_183 0 45 (dk_at dksX1_smallest_0 8 rfl rfl)
theorem dX1_smallest_11 : decode cX1_smallest 11 = .ok (.astore_n 3, 1) := dk_78 (dk_at dksX1_smallest_0 11 rfl rfl)
theorem dX1_smallest_12 : decode cX1_smallest 12 = .ok (.iconst 0, 1) := dk_3 (dk_at dksX1_smallest_0 12 rfl rfl)
theorem dX1_smallest_13 : decode cX1_smallest 13 = .ok (.istore 4, 2) := dk_54 4 (dk_at dksX1_smallest_0 13 rfl rfl)
theorem dX1_smallest_15 : decode cX1_smallest 15 = .ok (.iload 4, 2) := dk_21 4 (dk_at dksX1_smallest_0 15 rfl rfl)
theorem dX1_smallest_17 : decode cX1_smallest 17 = .ok (.iload_n 2, 1) := dk_28 (dk_at dksX1_smallest_0 17 rfl rfl)
theorem dX1_smallest_18 : decode cX1_smallest 18 = .ok (.if_icmp .gt 39, 3) := dk_163 0 39 (dk_at dksX1_smallest_0 18 rfl rfl)
theorem dX1_smallest_21 : decode cX1_smallest 21 = .ok (.aload_n 3, 1) := dk_45 (dk_at dksX1_smallest_0 21 rfl rfl)
theorem dX1_smallest_22 : decode cX1_smallest 22 = .ok (.iload 4, 2) := dk_21 4 (dk_at dksX1_smallest_0 22 rfl rfl)
theorem dX1_smallest_24 : decode cX1_smallest 24 = .ok (.invokevirtual 318, 3) := dk_182 1 62 (dk_at dksX1_smallest_1 0 rfl rfl)
theorem dX1_smallest_27 : decode cX1_smallest 27 = .ok (.aload_n 0, 1) := dk_42 (dk_at dksX1_smallest_1 3 rfl rfl)
theorem dX1_smallest_28 : decode cX1_smallest 28 = .ok (.getfield 71, 3) := dk_180 0 71 (dk_at dksX1_smallest_1 4 rfl rfl)
theorem dX1_smallest_31 : decode cX1_smallest 31 = .ok (.aload_n 3, 1) := dk_45 (dk_at dksX1_smallest_1 7 rfl rfl)
theorem dX1_smallest_32 : decode cX1_smallest 32 = .ok (.iload_n 1, 1) := dk_27 (dk_at dksX1_smallest_1 8 rfl rfl)
theorem dX1_smallest_33 : decode cX1_smallest 33 = .ok (.invokevirtual 190, 3) := dk_182 0 190 (dk_at dksX1_smallest_1 9 rfl rfl)
theorem dX1_smallest_36 : decode cX1_smallest 36 = .ok (.ifCond .eq 8, 3) := dk_153 0 8 (dk_at dksX1_smallest_1 12 rfl rfl)
theorem dX1_smallest_39 : decode cX1_smallest 39 = .ok (.aload_n 3, 1) := dk_45 (dk_at dksX1_smallest_1 15 rfl rfl)
theorem dX1_smallest_40 : decode cX1_smallest 40 = .ok (.invokevirtual 202, 3) := dk_182 0 202 (dk_at dksX1_smallest_1 16 rfl rfl)
theorem dX1_smallest_43 : decode cX1_smallest 43 = .ok (.areturn, 1) := dk_176 (dk_at dksX1_smallest_1 19 rfl rfl)
theorem dX1_smallest_44 : decode cX1_smallest 44 = .ok (.aload_n 3, 1) := dk_45 (dk_at dksX1_smallest_1 20 rfl rfl)
theorem dX1_smallest_45 : decode cX1_smallest 45 = .ok (.invokevirtual 320, 3) := dk_182 1 64 (dk_at dksX1_smallest_1 21 rfl rfl)
theorem dX1_smallest_48 : decode cX1_smallest 48 = .ok (.ifCond .ne (-21), 3) := dk_154 255 235 (dk_at dksX1_smallest_2 0 rfl rfl)
theorem dX1_smallest_51 : decode cX1_smallest 51 = .ok (.iinc 4 1, 3) := dk_132 4 1 (dk_at dksX1_smallest_2 3 rfl rfl)
theorem dX1_smallest_54 : decode cX1_smallest 54 = .ok (.goto (-39), 3) := dk_167 255 217 (dk_at dksX1_smallest_2 6 rfl rfl)
theorem dX1_smallest_57 : decode cX1_smallest 57 = .ok (.new 12, 3) := dk_187 0 12 (dk_at dksX1_smallest_2 9 rfl rfl)
theorem dX1_smallest_60 : decode cX1_smallest 60 = .ok (.dup, 1) := dk_89 (dk_at dksX1_smallest_2 12 rfl rfl)
theorem dX1_smallest_61 : decode cX1_smallest 61 = .ok (.invokespecial 14, 3) := dk_183 0 14 (dk_at dksX1_smallest_2 13 rfl rfl)
theorem dX1_smallest_64 : decode cX1_smallest 64 = .ok (.athrow, 1) := dk_191 (dk_at dksX1_smallest_2 16 rfl rfl)
abbrev cX1_requireShort : ByteArray := prog_5_method_43_code
def yX1_requireShort : MethodName := ⟨RX1, "requireShort", "(I)V"⟩
def dkwX1_requireShort_0 : List UInt8 := [26, 3, 6, 184, 0, 116, 184, 0, 39, 177]
abbrev dktX1_requireShort_0 : List UInt8 := dkwX1_requireShort_0 ++ []
theorem dksX1_requireShort_0 : cX1_requireShort.data.toList.drop 0 = dktX1_requireShort_0 := by decide +kernel
theorem dX1_requireShort_0 : decode cX1_requireShort 0 = .ok (.iload_n 0, 1) := dk_26 (dk_at dksX1_requireShort_0 0 rfl rfl)
theorem dX1_requireShort_1 : decode cX1_requireShort 1 = .ok (.iconst 0, 1) := dk_3 (dk_at dksX1_requireShort_0 1 rfl rfl)
theorem dX1_requireShort_2 : decode cX1_requireShort 2 = .ok (.iconst 3, 1) := dk_6 (dk_at dksX1_requireShort_0 2 rfl rfl)
theorem dX1_requireShort_3 : decode cX1_requireShort 3 = .ok (.invokestatic 116, 3) := dk_184 0 116 (dk_at dksX1_requireShort_0 3 rfl rfl)
theorem dX1_requireShort_6 : decode cX1_requireShort 6 = .ok (.invokestatic 39, 3) := dk_184 0 39 (dk_at dksX1_requireShort_0 6 rfl rfl)
theorem dX1_requireShort_9 : decode cX1_requireShort 9 = .ok (.return_, 1) := dk_177 (dk_at dksX1_requireShort_0 9 rfl rfl)
abbrev cX1_count : ByteArray := prog_5_method_45_code
def yX1_count : MethodName := ⟨RX1, "count", "(LVerdict;I)I"⟩
def dkwX1_count_3 : List UInt8 := [21, 4, 172]
abbrev dktX1_count_3 : List UInt8 := dkwX1_count_3 ++ []
def dkwX1_count_2 : List UInt8 := [166, 0, 7, 4, 167, 0, 4, 3, 96, 54, 4, 45, 182, 1, 64, 154, 255, 223, 132, 5, 1, 167, 255, 205]
abbrev dktX1_count_2 : List UInt8 := dkwX1_count_2 ++ dktX1_count_3
def dkwX1_count_1 : List UInt8 := [45, 21, 5, 182, 1, 62, 42, 180, 0, 71, 45, 182, 0, 233, 21, 4, 42, 180, 0, 71, 180, 0, 246, 43]
abbrev dktX1_count_1 : List UInt8 := dkwX1_count_1 ++ dktX1_count_2
def dkwX1_count_0 : List UInt8 := [28, 184, 1, 59, 187, 0, 43, 89, 183, 0, 45, 78, 3, 54, 4, 3, 54, 5, 21, 5, 28, 163, 0, 51]
abbrev dktX1_count_0 : List UInt8 := dkwX1_count_0 ++ dktX1_count_1
theorem dksX1_count_0 : cX1_count.data.toList.drop 0 = dktX1_count_0 := by decide +kernel
theorem dksX1_count_1 : cX1_count.data.toList.drop 24 = dktX1_count_1 := dk_seg dksX1_count_0 24 rfl rfl
theorem dksX1_count_2 : cX1_count.data.toList.drop 48 = dktX1_count_2 := dk_seg dksX1_count_1 24 rfl rfl
theorem dksX1_count_3 : cX1_count.data.toList.drop 72 = dktX1_count_3 := dk_seg dksX1_count_2 24 rfl rfl
theorem dX1_count_0 : decode cX1_count 0 = .ok (.iload_n 2, 1) := dk_28 (dk_at dksX1_count_0 0 rfl rfl)
theorem dX1_count_1 : decode cX1_count 1 = .ok (.invokestatic 315, 3) := dk_184 1 59 (dk_at dksX1_count_0 1 rfl rfl)
theorem dX1_count_4 : decode cX1_count 4 = .ok (.new 43, 3) := dk_187 0 43 (dk_at dksX1_count_0 4 rfl rfl)
theorem dX1_count_7 : decode cX1_count 7 = .ok (.dup, 1) := dk_89 (dk_at dksX1_count_0 7 rfl rfl)
theorem dX1_count_8 : decode cX1_count 8 = .ok (.invokespecial 45, 3) := dk_183 0 45 (dk_at dksX1_count_0 8 rfl rfl)
theorem dX1_count_11 : decode cX1_count 11 = .ok (.astore_n 3, 1) := dk_78 (dk_at dksX1_count_0 11 rfl rfl)
theorem dX1_count_12 : decode cX1_count 12 = .ok (.iconst 0, 1) := dk_3 (dk_at dksX1_count_0 12 rfl rfl)
theorem dX1_count_13 : decode cX1_count 13 = .ok (.istore 4, 2) := dk_54 4 (dk_at dksX1_count_0 13 rfl rfl)
theorem dX1_count_15 : decode cX1_count 15 = .ok (.iconst 0, 1) := dk_3 (dk_at dksX1_count_0 15 rfl rfl)
theorem dX1_count_16 : decode cX1_count 16 = .ok (.istore 5, 2) := dk_54 5 (dk_at dksX1_count_0 16 rfl rfl)
theorem dX1_count_18 : decode cX1_count 18 = .ok (.iload 5, 2) := dk_21 5 (dk_at dksX1_count_0 18 rfl rfl)
theorem dX1_count_20 : decode cX1_count 20 = .ok (.iload_n 2, 1) := dk_28 (dk_at dksX1_count_0 20 rfl rfl)
theorem dX1_count_21 : decode cX1_count 21 = .ok (.if_icmp .gt 51, 3) := dk_163 0 51 (dk_at dksX1_count_0 21 rfl rfl)
theorem dX1_count_24 : decode cX1_count 24 = .ok (.aload_n 3, 1) := dk_45 (dk_at dksX1_count_1 0 rfl rfl)
theorem dX1_count_25 : decode cX1_count 25 = .ok (.iload 5, 2) := dk_21 5 (dk_at dksX1_count_1 1 rfl rfl)
theorem dX1_count_27 : decode cX1_count 27 = .ok (.invokevirtual 318, 3) := dk_182 1 62 (dk_at dksX1_count_1 3 rfl rfl)
theorem dX1_count_30 : decode cX1_count 30 = .ok (.aload_n 0, 1) := dk_42 (dk_at dksX1_count_1 6 rfl rfl)
theorem dX1_count_31 : decode cX1_count 31 = .ok (.getfield 71, 3) := dk_180 0 71 (dk_at dksX1_count_1 7 rfl rfl)
theorem dX1_count_34 : decode cX1_count 34 = .ok (.aload_n 3, 1) := dk_45 (dk_at dksX1_count_1 10 rfl rfl)
theorem dX1_count_35 : decode cX1_count 35 = .ok (.invokevirtual 233, 3) := dk_182 0 233 (dk_at dksX1_count_1 11 rfl rfl)
theorem dX1_count_38 : decode cX1_count 38 = .ok (.iload 4, 2) := dk_21 4 (dk_at dksX1_count_1 14 rfl rfl)
theorem dX1_count_40 : decode cX1_count 40 = .ok (.aload_n 0, 1) := dk_42 (dk_at dksX1_count_1 16 rfl rfl)
theorem dX1_count_41 : decode cX1_count 41 = .ok (.getfield 71, 3) := dk_180 0 71 (dk_at dksX1_count_1 17 rfl rfl)
theorem dX1_count_44 : decode cX1_count 44 = .ok (.getfield 246, 3) := dk_180 0 246 (dk_at dksX1_count_1 20 rfl rfl)
theorem dX1_count_47 : decode cX1_count 47 = .ok (.aload_n 1, 1) := dk_43 (dk_at dksX1_count_1 23 rfl rfl)
theorem dX1_count_48 : decode cX1_count 48 = .ok (.if_acmp .ne 7, 3) := dk_166 0 7 (dk_at dksX1_count_2 0 rfl rfl)
theorem dX1_count_51 : decode cX1_count 51 = .ok (.iconst 1, 1) := dk_4 (dk_at dksX1_count_2 3 rfl rfl)
theorem dX1_count_52 : decode cX1_count 52 = .ok (.goto 4, 3) := dk_167 0 4 (dk_at dksX1_count_2 4 rfl rfl)
theorem dX1_count_55 : decode cX1_count 55 = .ok (.iconst 0, 1) := dk_3 (dk_at dksX1_count_2 7 rfl rfl)
theorem dX1_count_56 : decode cX1_count 56 = .ok (.iadd, 1) := dk_96 (dk_at dksX1_count_2 8 rfl rfl)
theorem dX1_count_57 : decode cX1_count 57 = .ok (.istore 4, 2) := dk_54 4 (dk_at dksX1_count_2 9 rfl rfl)
theorem dX1_count_59 : decode cX1_count 59 = .ok (.aload_n 3, 1) := dk_45 (dk_at dksX1_count_2 11 rfl rfl)
theorem dX1_count_60 : decode cX1_count 60 = .ok (.invokevirtual 320, 3) := dk_182 1 64 (dk_at dksX1_count_2 12 rfl rfl)
theorem dX1_count_63 : decode cX1_count 63 = .ok (.ifCond .ne (-33), 3) := dk_154 255 223 (dk_at dksX1_count_2 15 rfl rfl)
theorem dX1_count_66 : decode cX1_count 66 = .ok (.iinc 5 1, 3) := dk_132 5 1 (dk_at dksX1_count_2 18 rfl rfl)
theorem dX1_count_69 : decode cX1_count 69 = .ok (.goto (-51), 3) := dk_167 255 205 (dk_at dksX1_count_2 21 rfl rfl)
theorem dX1_count_72 : decode cX1_count 72 = .ok (.iload 4, 2) := dk_21 4 (dk_at dksX1_count_3 0 rfl rfl)
theorem dX1_count_74 : decode cX1_count 74 = .ok (.ireturn, 1) := dk_172 (dk_at dksX1_count_3 2 rfl rfl)
abbrev cX1_reachable : ByteArray := prog_5_method_46_code
def yX1_reachable : MethodName := ⟨RX1, "reachable", "(I)I"⟩
def dkwX1_reachable_3 : List UInt8 := [182, 0, 223, 172]
abbrev dktX1_reachable_3 : List UInt8 := dkwX1_reachable_3 ++ []
def dkwX1_reachable_2 : List UInt8 := [180, 0, 71, 180, 0, 226, 182, 0, 229, 44, 182, 1, 64, 154, 255, 233, 132, 4, 1, 167, 255, 215, 45]
abbrev dktX1_reachable_2 : List UInt8 := dkwX1_reachable_2 ++ dktX1_reachable_3
def dkwX1_reachable_1 : List UInt8 := [21, 4, 27, 163, 0, 41, 44, 21, 4, 182, 1, 62, 42, 180, 0, 71, 44, 182, 0, 233, 45, 42]
abbrev dktX1_reachable_1 : List UInt8 := dkwX1_reachable_1 ++ dktX1_reachable_2
def dkwX1_reachable_0 : List UInt8 := [27, 184, 1, 59, 187, 0, 43, 89, 183, 0, 45, 77, 187, 0, 75, 89, 183, 0, 77, 78, 3, 54, 4]
abbrev dktX1_reachable_0 : List UInt8 := dkwX1_reachable_0 ++ dktX1_reachable_1
theorem dksX1_reachable_0 : cX1_reachable.data.toList.drop 0 = dktX1_reachable_0 := by decide +kernel
theorem dksX1_reachable_1 : cX1_reachable.data.toList.drop 23 = dktX1_reachable_1 := dk_seg dksX1_reachable_0 23 rfl rfl
theorem dksX1_reachable_2 : cX1_reachable.data.toList.drop 45 = dktX1_reachable_2 := dk_seg dksX1_reachable_1 22 rfl rfl
theorem dksX1_reachable_3 : cX1_reachable.data.toList.drop 68 = dktX1_reachable_3 := dk_seg dksX1_reachable_2 23 rfl rfl
theorem dX1_reachable_0 : decode cX1_reachable 0 = .ok (.iload_n 1, 1) := dk_27 (dk_at dksX1_reachable_0 0 rfl rfl)
theorem dX1_reachable_1 : decode cX1_reachable 1 = .ok (.invokestatic 315, 3) := dk_184 1 59 (dk_at dksX1_reachable_0 1 rfl rfl)
theorem dX1_reachable_4 : decode cX1_reachable 4 = .ok (.new 43, 3) := dk_187 0 43 (dk_at dksX1_reachable_0 4 rfl rfl)
theorem dX1_reachable_7 : decode cX1_reachable 7 = .ok (.dup, 1) := dk_89 (dk_at dksX1_reachable_0 7 rfl rfl)
theorem dX1_reachable_8 : decode cX1_reachable 8 = .ok (.invokespecial 45, 3) := dk_183 0 45 (dk_at dksX1_reachable_0 8 rfl rfl)
theorem dX1_reachable_11 : decode cX1_reachable 11 = .ok (.astore_n 2, 1) := dk_77 (dk_at dksX1_reachable_0 11 rfl rfl)
theorem dX1_reachable_12 : decode cX1_reachable 12 = .ok (.new 75, 3) := dk_187 0 75 (dk_at dksX1_reachable_0 12 rfl rfl)
theorem dX1_reachable_15 : decode cX1_reachable 15 = .ok (.dup, 1) := dk_89 (dk_at dksX1_reachable_0 15 rfl rfl)
theorem dX1_reachable_16 : decode cX1_reachable 16 = .ok (.invokespecial 77, 3) := dk_183 0 77 (dk_at dksX1_reachable_0 16 rfl rfl)
theorem dX1_reachable_19 : decode cX1_reachable 19 = .ok (.astore_n 3, 1) := dk_78 (dk_at dksX1_reachable_0 19 rfl rfl)
theorem dX1_reachable_20 : decode cX1_reachable 20 = .ok (.iconst 0, 1) := dk_3 (dk_at dksX1_reachable_0 20 rfl rfl)
theorem dX1_reachable_21 : decode cX1_reachable 21 = .ok (.istore 4, 2) := dk_54 4 (dk_at dksX1_reachable_0 21 rfl rfl)
theorem dX1_reachable_23 : decode cX1_reachable 23 = .ok (.iload 4, 2) := dk_21 4 (dk_at dksX1_reachable_1 0 rfl rfl)
theorem dX1_reachable_25 : decode cX1_reachable 25 = .ok (.iload_n 1, 1) := dk_27 (dk_at dksX1_reachable_1 2 rfl rfl)
theorem dX1_reachable_26 : decode cX1_reachable 26 = .ok (.if_icmp .gt 41, 3) := dk_163 0 41 (dk_at dksX1_reachable_1 3 rfl rfl)
theorem dX1_reachable_29 : decode cX1_reachable 29 = .ok (.aload_n 2, 1) := dk_44 (dk_at dksX1_reachable_1 6 rfl rfl)
theorem dX1_reachable_30 : decode cX1_reachable 30 = .ok (.iload 4, 2) := dk_21 4 (dk_at dksX1_reachable_1 7 rfl rfl)
theorem dX1_reachable_32 : decode cX1_reachable 32 = .ok (.invokevirtual 318, 3) := dk_182 1 62 (dk_at dksX1_reachable_1 9 rfl rfl)
theorem dX1_reachable_35 : decode cX1_reachable 35 = .ok (.aload_n 0, 1) := dk_42 (dk_at dksX1_reachable_1 12 rfl rfl)
theorem dX1_reachable_36 : decode cX1_reachable 36 = .ok (.getfield 71, 3) := dk_180 0 71 (dk_at dksX1_reachable_1 13 rfl rfl)
theorem dX1_reachable_39 : decode cX1_reachable 39 = .ok (.aload_n 2, 1) := dk_44 (dk_at dksX1_reachable_1 16 rfl rfl)
theorem dX1_reachable_40 : decode cX1_reachable 40 = .ok (.invokevirtual 233, 3) := dk_182 0 233 (dk_at dksX1_reachable_1 17 rfl rfl)
theorem dX1_reachable_43 : decode cX1_reachable 43 = .ok (.aload_n 3, 1) := dk_45 (dk_at dksX1_reachable_1 20 rfl rfl)
theorem dX1_reachable_44 : decode cX1_reachable 44 = .ok (.aload_n 0, 1) := dk_42 (dk_at dksX1_reachable_1 21 rfl rfl)
theorem dX1_reachable_45 : decode cX1_reachable 45 = .ok (.getfield 71, 3) := dk_180 0 71 (dk_at dksX1_reachable_2 0 rfl rfl)
theorem dX1_reachable_48 : decode cX1_reachable 48 = .ok (.getfield 226, 3) := dk_180 0 226 (dk_at dksX1_reachable_2 3 rfl rfl)
theorem dX1_reachable_51 : decode cX1_reachable 51 = .ok (.invokevirtual 229, 3) := dk_182 0 229 (dk_at dksX1_reachable_2 6 rfl rfl)
theorem dX1_reachable_54 : decode cX1_reachable 54 = .ok (.aload_n 2, 1) := dk_44 (dk_at dksX1_reachable_2 9 rfl rfl)
theorem dX1_reachable_55 : decode cX1_reachable 55 = .ok (.invokevirtual 320, 3) := dk_182 1 64 (dk_at dksX1_reachable_2 10 rfl rfl)
theorem dX1_reachable_58 : decode cX1_reachable 58 = .ok (.ifCond .ne (-23), 3) := dk_154 255 233 (dk_at dksX1_reachable_2 13 rfl rfl)
theorem dX1_reachable_61 : decode cX1_reachable 61 = .ok (.iinc 4 1, 3) := dk_132 4 1 (dk_at dksX1_reachable_2 16 rfl rfl)
theorem dX1_reachable_64 : decode cX1_reachable 64 = .ok (.goto (-41), 3) := dk_167 255 215 (dk_at dksX1_reachable_2 19 rfl rfl)
theorem dX1_reachable_67 : decode cX1_reachable 67 = .ok (.aload_n 3, 1) := dk_45 (dk_at dksX1_reachable_2 22 rfl rfl)
theorem dX1_reachable_68 : decode cX1_reachable 68 = .ok (.invokevirtual 223, 3) := dk_182 0 223 (dk_at dksX1_reachable_3 0 rfl rfl)
theorem dX1_reachable_71 : decode cX1_reachable 71 = .ok (.ireturn, 1) := dk_172 (dk_at dksX1_reachable_3 3 rfl rfl)
abbrev cX1_keptShare : ByteArray := prog_5_method_47_code
def yX1_keptShare : MethodName := ⟨RX1, "keptShare", "()F"⟩
def dkwX1_keptShare_0 : List UInt8 := [42, 180, 0, 129, 184, 1, 67, 42, 180, 0, 82, 185, 0, 126, 1, 0, 134, 42, 180, 0, 129, 134, 110, 174]
abbrev dktX1_keptShare_0 : List UInt8 := dkwX1_keptShare_0 ++ []
theorem dksX1_keptShare_0 : cX1_keptShare.data.toList.drop 0 = dktX1_keptShare_0 := by decide +kernel
theorem dX1_keptShare_0 : decode cX1_keptShare 0 = .ok (.aload_n 0, 1) := dk_42 (dk_at dksX1_keptShare_0 0 rfl rfl)
theorem dX1_keptShare_1 : decode cX1_keptShare 1 = .ok (.getfield 129, 3) := dk_180 0 129 (dk_at dksX1_keptShare_0 1 rfl rfl)
theorem dX1_keptShare_4 : decode cX1_keptShare 4 = .ok (.invokestatic 323, 3) := dk_184 1 67 (dk_at dksX1_keptShare_0 4 rfl rfl)
theorem dX1_keptShare_7 : decode cX1_keptShare 7 = .ok (.aload_n 0, 1) := dk_42 (dk_at dksX1_keptShare_0 7 rfl rfl)
theorem dX1_keptShare_8 : decode cX1_keptShare 8 = .ok (.getfield 82, 3) := dk_180 0 82 (dk_at dksX1_keptShare_0 8 rfl rfl)
theorem dX1_keptShare_11 : decode cX1_keptShare 11 = .ok (.invokeinterface 126 1, 5) := by decide +kernel
theorem dX1_keptShare_16 : decode cX1_keptShare 16 = .ok (.i2f, 1) := dk_134 (dk_at dksX1_keptShare_0 16 rfl rfl)
theorem dX1_keptShare_17 : decode cX1_keptShare 17 = .ok (.aload_n 0, 1) := dk_42 (dk_at dksX1_keptShare_0 17 rfl rfl)
theorem dX1_keptShare_18 : decode cX1_keptShare 18 = .ok (.getfield 129, 3) := dk_180 0 129 (dk_at dksX1_keptShare_0 18 rfl rfl)
theorem dX1_keptShare_21 : decode cX1_keptShare 21 = .ok (.i2f, 1) := dk_134 (dk_at dksX1_keptShare_0 21 rfl rfl)
theorem dX1_keptShare_22 : decode cX1_keptShare 22 = .ok (.fdiv, 1) := dk_110 (dk_at dksX1_keptShare_0 22 rfl rfl)
theorem dX1_keptShare_23 : decode cX1_keptShare 23 = .ok (.freturn, 1) := dk_174 (dk_at dksX1_keptShare_0 23 rfl rfl)
abbrev cX1_requireSome : ByteArray := prog_5_method_6_code
def yX1_requireSome : MethodName := ⟨RX1, "requireSome", "(I)V"⟩
def dkwX1_requireSome_0 : List UInt8 := [26, 154, 0, 11, 187, 0, 18, 89, 183, 0, 20, 191, 177]
abbrev dktX1_requireSome_0 : List UInt8 := dkwX1_requireSome_0 ++ []
theorem dksX1_requireSome_0 : cX1_requireSome.data.toList.drop 0 = dktX1_requireSome_0 := by decide +kernel
theorem dX1_requireSome_0 : decode cX1_requireSome 0 = .ok (.iload_n 0, 1) := dk_26 (dk_at dksX1_requireSome_0 0 rfl rfl)
theorem dX1_requireSome_1 : decode cX1_requireSome 1 = .ok (.ifCond .ne 11, 3) := dk_154 0 11 (dk_at dksX1_requireSome_0 1 rfl rfl)
theorem dX1_requireSome_4 : decode cX1_requireSome 4 = .ok (.new 18, 3) := dk_187 0 18 (dk_at dksX1_requireSome_0 4 rfl rfl)
theorem dX1_requireSome_7 : decode cX1_requireSome 7 = .ok (.dup, 1) := dk_89 (dk_at dksX1_requireSome_0 7 rfl rfl)
theorem dX1_requireSome_8 : decode cX1_requireSome 8 = .ok (.invokespecial 20, 3) := dk_183 0 20 (dk_at dksX1_requireSome_0 8 rfl rfl)
theorem dX1_requireSome_11 : decode cX1_requireSome 11 = .ok (.athrow, 1) := dk_191 (dk_at dksX1_requireSome_0 11 rfl rfl)
theorem dX1_requireSome_12 : decode cX1_requireSome 12 = .ok (.return_, 1) := dk_177 (dk_at dksX1_requireSome_0 12 rfl rfl)
abbrev cX1_meanShrunk : ByteArray := prog_5_method_48_code
def yX1_meanShrunk : MethodName := ⟨RX1, "meanShrunk", "()D"⟩
def dkwX1_meanShrunk_2 : List UInt8 := [182, 0, 21, 96, 60, 167, 255, 227, 27, 135, 42, 180, 0, 92, 185, 0, 126, 1, 0, 135, 111, 175]
abbrev dktX1_meanShrunk_2 : List UInt8 := dkwX1_meanShrunk_2 ++ []
def dkwX1_meanShrunk_1 : List UInt8 := [44, 185, 0, 209, 1, 0, 153, 0, 26, 44, 185, 0, 214, 1, 0, 192, 0, 218, 78, 27, 45, 182, 1, 70]
abbrev dktX1_meanShrunk_1 : List UInt8 := dkwX1_meanShrunk_1 ++ dktX1_meanShrunk_2
def dkwX1_meanShrunk_0 : List UInt8 := [42, 180, 0, 92, 185, 0, 126, 1, 0, 184, 1, 67, 3, 60, 42, 180, 0, 92, 185, 0, 205, 1, 0, 77]
abbrev dktX1_meanShrunk_0 : List UInt8 := dkwX1_meanShrunk_0 ++ dktX1_meanShrunk_1
theorem dksX1_meanShrunk_0 : cX1_meanShrunk.data.toList.drop 0 = dktX1_meanShrunk_0 := by decide +kernel
theorem dksX1_meanShrunk_1 : cX1_meanShrunk.data.toList.drop 24 = dktX1_meanShrunk_1 := dk_seg dksX1_meanShrunk_0 24 rfl rfl
theorem dksX1_meanShrunk_2 : cX1_meanShrunk.data.toList.drop 48 = dktX1_meanShrunk_2 := dk_seg dksX1_meanShrunk_1 24 rfl rfl
theorem dX1_meanShrunk_0 : decode cX1_meanShrunk 0 = .ok (.aload_n 0, 1) := dk_42 (dk_at dksX1_meanShrunk_0 0 rfl rfl)
theorem dX1_meanShrunk_1 : decode cX1_meanShrunk 1 = .ok (.getfield 92, 3) := dk_180 0 92 (dk_at dksX1_meanShrunk_0 1 rfl rfl)
theorem dX1_meanShrunk_4 : decode cX1_meanShrunk 4 = .ok (.invokeinterface 126 1, 5) := by decide +kernel
theorem dX1_meanShrunk_9 : decode cX1_meanShrunk 9 = .ok (.invokestatic 323, 3) := dk_184 1 67 (dk_at dksX1_meanShrunk_0 9 rfl rfl)
theorem dX1_meanShrunk_12 : decode cX1_meanShrunk 12 = .ok (.iconst 0, 1) := dk_3 (dk_at dksX1_meanShrunk_0 12 rfl rfl)
theorem dX1_meanShrunk_13 : decode cX1_meanShrunk 13 = .ok (.istore_n 1, 1) := dk_60 (dk_at dksX1_meanShrunk_0 13 rfl rfl)
theorem dX1_meanShrunk_14 : decode cX1_meanShrunk 14 = .ok (.aload_n 0, 1) := dk_42 (dk_at dksX1_meanShrunk_0 14 rfl rfl)
theorem dX1_meanShrunk_15 : decode cX1_meanShrunk 15 = .ok (.getfield 92, 3) := dk_180 0 92 (dk_at dksX1_meanShrunk_0 15 rfl rfl)
theorem dX1_meanShrunk_18 : decode cX1_meanShrunk 18 = .ok (.invokeinterface 205 1, 5) := by decide +kernel
theorem dX1_meanShrunk_23 : decode cX1_meanShrunk 23 = .ok (.astore_n 2, 1) := dk_77 (dk_at dksX1_meanShrunk_0 23 rfl rfl)
theorem dX1_meanShrunk_24 : decode cX1_meanShrunk 24 = .ok (.aload_n 2, 1) := dk_44 (dk_at dksX1_meanShrunk_1 0 rfl rfl)
theorem dX1_meanShrunk_25 : decode cX1_meanShrunk 25 = .ok (.invokeinterface 209 1, 5) := by decide +kernel
theorem dX1_meanShrunk_30 : decode cX1_meanShrunk 30 = .ok (.ifCond .eq 26, 3) := dk_153 0 26 (dk_at dksX1_meanShrunk_1 6 rfl rfl)
theorem dX1_meanShrunk_33 : decode cX1_meanShrunk 33 = .ok (.aload_n 2, 1) := dk_44 (dk_at dksX1_meanShrunk_1 9 rfl rfl)
theorem dX1_meanShrunk_34 : decode cX1_meanShrunk 34 = .ok (.invokeinterface 214 1, 5) := by decide +kernel
theorem dX1_meanShrunk_39 : decode cX1_meanShrunk 39 = .ok (.checkcast 218, 3) := dk_192 0 218 (dk_at dksX1_meanShrunk_1 15 rfl rfl)
theorem dX1_meanShrunk_42 : decode cX1_meanShrunk 42 = .ok (.astore_n 3, 1) := dk_78 (dk_at dksX1_meanShrunk_1 18 rfl rfl)
theorem dX1_meanShrunk_43 : decode cX1_meanShrunk 43 = .ok (.iload_n 1, 1) := dk_27 (dk_at dksX1_meanShrunk_1 19 rfl rfl)
theorem dX1_meanShrunk_44 : decode cX1_meanShrunk 44 = .ok (.aload_n 3, 1) := dk_45 (dk_at dksX1_meanShrunk_1 20 rfl rfl)
theorem dX1_meanShrunk_45 : decode cX1_meanShrunk 45 = .ok (.invokevirtual 326, 3) := dk_182 1 70 (dk_at dksX1_meanShrunk_1 21 rfl rfl)
theorem dX1_meanShrunk_48 : decode cX1_meanShrunk 48 = .ok (.invokevirtual 21, 3) := dk_182 0 21 (dk_at dksX1_meanShrunk_2 0 rfl rfl)
theorem dX1_meanShrunk_51 : decode cX1_meanShrunk 51 = .ok (.iadd, 1) := dk_96 (dk_at dksX1_meanShrunk_2 3 rfl rfl)
theorem dX1_meanShrunk_52 : decode cX1_meanShrunk 52 = .ok (.istore_n 1, 1) := dk_60 (dk_at dksX1_meanShrunk_2 4 rfl rfl)
theorem dX1_meanShrunk_53 : decode cX1_meanShrunk 53 = .ok (.goto (-29), 3) := dk_167 255 227 (dk_at dksX1_meanShrunk_2 5 rfl rfl)
theorem dX1_meanShrunk_56 : decode cX1_meanShrunk 56 = .ok (.iload_n 1, 1) := dk_27 (dk_at dksX1_meanShrunk_2 8 rfl rfl)
theorem dX1_meanShrunk_57 : decode cX1_meanShrunk 57 = .ok (.i2d, 1) := dk_135 (dk_at dksX1_meanShrunk_2 9 rfl rfl)
theorem dX1_meanShrunk_58 : decode cX1_meanShrunk 58 = .ok (.aload_n 0, 1) := dk_42 (dk_at dksX1_meanShrunk_2 10 rfl rfl)
theorem dX1_meanShrunk_59 : decode cX1_meanShrunk 59 = .ok (.getfield 92, 3) := dk_180 0 92 (dk_at dksX1_meanShrunk_2 11 rfl rfl)
theorem dX1_meanShrunk_62 : decode cX1_meanShrunk 62 = .ok (.invokeinterface 126 1, 5) := by decide +kernel
theorem dX1_meanShrunk_67 : decode cX1_meanShrunk 67 = .ok (.i2d, 1) := dk_135 (dk_at dksX1_meanShrunk_2 19 rfl rfl)
theorem dX1_meanShrunk_68 : decode cX1_meanShrunk 68 = .ok (.ddiv, 1) := dk_111 (dk_at dksX1_meanShrunk_2 20 rfl rfl)
theorem dX1_meanShrunk_69 : decode cX1_meanShrunk 69 = .ok (.dreturn, 1) := dk_175 (dk_at dksX1_meanShrunk_2 21 rfl rfl)
theorem q34 : (Jvm.Cond.initialized "ShrinkYard") ∈ lw_all := lw_g (lw_at lw_m1 1 rfl) rfl
theorem q120 : (Jvm.Cond.instantiable "ShrinkYard" (11 : Nat)) ∈ lw_all := lw_g (lw_at lw_m1 87 rfl) rfl
theorem q122 : (Jvm.Cond.instanceMethod ({ cls := "ShrinkYard", name := "<init>", desc := "()V" } : Jvm.MethodName)) ∈ lw_all := lw_g (lw_at lw_m1 89 rfl) rfl
theorem q123 : (Jvm.Cond.code ({ cls := "ShrinkYard", name := "<init>", desc := "()V" } : Jvm.MethodName) prog_5_method_10_code (2 : Nat) (Option.none : Option Jvm.ClassFile.FieldType)) ∈ lw_all := lw_g (lw_at lw_m1 90 rfl) rfl
theorem q124 : (Jvm.Cond.methodLink "ShrinkYard" (50 : Nat) ({ cls := "java/lang/Object", name := "<init>", desc := "()V" } : Jvm.MethodName)) ∈ lw_all := lw_g (lw_at lw_m1 91 rfl) rfl
theorem q125 : (Jvm.Cond.classLink "ShrinkYard" (53 : Nat) "java/util/ArrayList") ∈ lw_all := lw_g (lw_at lw_m1 92 rfl) rfl
theorem q127 : (Jvm.Cond.methodLink "ShrinkYard" (55 : Nat) ({ cls := "java/util/ArrayList", name := "<init>", desc := "()V" } : Jvm.MethodName)) ∈ lw_all := lw_g (lw_at lw_m1 94 rfl) rfl
theorem q158 : (Jvm.Cond.classLink "ShrinkYard" (66 : Nat) "ShrinkYard$Machine") ∈ lw_all := lw_g (lw_at lw_m1 125 rfl) rfl
theorem q160 : (Jvm.Cond.methodLinkNest "ShrinkYard" (68 : Nat) ({ cls := "ShrinkYard$Machine", name := "<init>", desc := "(LShrinkYard;)V" } : Jvm.MethodName) "ShrinkYard") ∈ lw_tbl := lw_at lw_m1 127 rfl
theorem q191 : (Jvm.Cond.fieldLinkNest "ShrinkYard" (226 : Nat) "ShrinkYard$Machine" "edges" "Ljava/util/BitSet;" "ShrinkYard") ∈ lw_tbl := lw_at lw_m1 158 rfl
theorem q193 : (Jvm.Cond.fieldLinkNest "ShrinkYard" (246 : Nat) "ShrinkYard$Machine" "verdict" "LVerdict;" "ShrinkYard") ∈ lw_tbl := lw_at lw_m1 160 rfl
theorem q195 : (Jvm.Cond.fieldLinkNest "ShrinkYard" (259 : Nat) "ShrinkYard$Machine" "code" "I" "ShrinkYard") ∈ lw_tbl := lw_at lw_m1 162 rfl
theorem q197 : (Jvm.Cond.fieldLinkNest "ShrinkYard" (240 : Nat) "ShrinkYard$Machine" "steps" "I" "ShrinkYard") ∈ lw_tbl := lw_at lw_m1 164 rfl
theorem q215 : (Jvm.Cond.classLink "ShrinkYard" (75 : Nat) "java/util/BitSet") ∈ lw_all := lw_g (lw_at lw_m1 182 rfl) rfl
theorem q216 : (Jvm.Cond.methodLink "ShrinkYard" (77 : Nat) ({ cls := "java/util/BitSet", name := "<init>", desc := "()V" } : Jvm.MethodName)) ∈ lw_all := lw_g (lw_at lw_m1 183 rfl) rfl
theorem q217 : (Jvm.Cond.classLink "ShrinkYard" (85 : Nat) "java/util/LinkedList") ∈ lw_all := lw_g (lw_at lw_m1 184 rfl) rfl
theorem q219 : (Jvm.Cond.methodLink "ShrinkYard" (87 : Nat) ({ cls := "java/util/LinkedList", name := "<init>", desc := "()V" } : Jvm.MethodName)) ∈ lw_all := lw_g (lw_at lw_m1 186 rfl) rfl
theorem q238 : (Jvm.Cond.interfaceEntry "ShrinkYard" (95 : Nat)) ∈ lw_tbl := lw_at lw_m1 205 rfl
theorem q239 : (Jvm.Cond.methodLink "ShrinkYard" (95 : Nat) ({ cls := "java/util/List", name := "add", desc := "(Ljava/lang/Object;)Z" } : Jvm.MethodName)) ∈ lw_all := lw_g (lw_at lw_m1 206 rfl) rfl
theorem q280 : (Jvm.Cond.selects "ShrinkYard" ({ cls := "java/lang/Object", name := "getClass", desc := "()Ljava/lang/Class;" } : Jvm.MethodName) ({ cls := "java/lang/Object", name := "getClass", desc := "()Ljava/lang/Class;" } : Jvm.MethodName)) ∈ lw_all := lw_g (lw_at lw_m2 7 rfl) rfl
theorem q354 : (Jvm.Cond.fieldLink "ShrinkYard" (56 : Nat) "ShrinkYard" "program" "Ljava/util/List;") ∈ lw_all := lw_g (lw_at lw_m2 81 rfl) rfl
theorem q355 : (Jvm.Cond.fieldLink "ShrinkYard" (60 : Nat) "ShrinkYard" "changes" "Ljava/util/List;") ∈ lw_all := lw_g (lw_at lw_m2 82 rfl) rfl
theorem q356 : (Jvm.Cond.fieldLink "ShrinkYard" (63 : Nat) "ShrinkYard" "alternatives" "Ljava/util/List;") ∈ lw_all := lw_g (lw_at lw_m2 83 rfl) rfl
theorem q357 : (Jvm.Cond.fieldLink "ShrinkYard" (71 : Nat) "ShrinkYard" "machine" "LShrinkYard$Machine;") ∈ lw_all := lw_g (lw_at lw_m2 84 rfl) rfl
theorem q358 : (Jvm.Cond.fieldLink "ShrinkYard" (78 : Nat) "ShrinkYard" "covered" "Ljava/util/BitSet;") ∈ lw_all := lw_g (lw_at lw_m2 85 rfl) rfl
theorem q359 : (Jvm.Cond.fieldLink "ShrinkYard" (82 : Nat) "ShrinkYard" "kept" "Ljava/util/List;") ∈ lw_all := lw_g (lw_at lw_m2 86 rfl) rfl
theorem q360 : (Jvm.Cond.fieldLink "ShrinkYard" (88 : Nat) "ShrinkYard" "queue" "Ljava/util/LinkedList;") ∈ lw_all := lw_g (lw_at lw_m2 87 rfl) rfl
theorem q361 : (Jvm.Cond.fieldLink "ShrinkYard" (92 : Nat) "ShrinkYard" "findings" "Ljava/util/List;") ∈ lw_all := lw_g (lw_at lw_m2 88 rfl) rfl
theorem q362 : (Jvm.Cond.fieldLink "ShrinkYard" (129 : Nat) "ShrinkYard" "runs" "I") ∈ lw_all := lw_g (lw_at lw_m2 89 rfl) rfl
theorem q363 : (Jvm.Cond.fieldLink "ShrinkYard" (236 : Nat) "ShrinkYard" "totalSteps" "J") ∈ lw_all := lw_g (lw_at lw_m2 90 rfl) rfl
theorem q364 : (Jvm.Cond.fieldLink "ShrinkYard" (288 : Nat) "ShrinkYard" "atChange" "I") ∈ lw_all := lw_g (lw_at lw_m2 91 rfl) rfl
theorem q365 : (Jvm.Cond.laysFinal "ShrinkYard" "ShrinkYard" "program" "Ljava/util/List;") ∈ lw_all := lw_g (lw_at lw_m2 92 rfl) rfl
theorem q366 : (Jvm.Cond.soleField "ShrinkYard" "program") ∈ lw_all := lw_g (lw_at lw_m2 93 rfl) rfl
theorem q367 : (Jvm.Cond.laysFinal "ShrinkYard" "ShrinkYard" "changes" "Ljava/util/List;") ∈ lw_all := lw_g (lw_at lw_m2 94 rfl) rfl
theorem q368 : (Jvm.Cond.soleField "ShrinkYard" "changes") ∈ lw_all := lw_g (lw_at lw_m2 95 rfl) rfl
theorem q369 : (Jvm.Cond.laysFinal "ShrinkYard" "ShrinkYard" "alternatives" "Ljava/util/List;") ∈ lw_all := lw_g (lw_at lw_m2 96 rfl) rfl
theorem q370 : (Jvm.Cond.soleField "ShrinkYard" "alternatives") ∈ lw_all := lw_g (lw_at lw_m2 97 rfl) rfl
theorem q371 : (Jvm.Cond.laysFinal "ShrinkYard" "ShrinkYard" "machine" "LShrinkYard$Machine;") ∈ lw_all := lw_g (lw_at lw_m2 98 rfl) rfl
theorem q372 : (Jvm.Cond.soleField "ShrinkYard" "machine") ∈ lw_all := lw_g (lw_at lw_m2 99 rfl) rfl
theorem q373 : (Jvm.Cond.laysFinal "ShrinkYard" "ShrinkYard" "covered" "Ljava/util/BitSet;") ∈ lw_all := lw_g (lw_at lw_m2 100 rfl) rfl
theorem q374 : (Jvm.Cond.soleField "ShrinkYard" "covered") ∈ lw_all := lw_g (lw_at lw_m2 101 rfl) rfl
theorem q375 : (Jvm.Cond.laysFinal "ShrinkYard" "ShrinkYard" "kept" "Ljava/util/List;") ∈ lw_all := lw_g (lw_at lw_m2 102 rfl) rfl
theorem q376 : (Jvm.Cond.soleField "ShrinkYard" "kept") ∈ lw_all := lw_g (lw_at lw_m2 103 rfl) rfl
theorem q377 : (Jvm.Cond.laysFinal "ShrinkYard" "ShrinkYard" "queue" "Ljava/util/LinkedList;") ∈ lw_all := lw_g (lw_at lw_m2 104 rfl) rfl
theorem q378 : (Jvm.Cond.soleField "ShrinkYard" "queue") ∈ lw_all := lw_g (lw_at lw_m2 105 rfl) rfl
theorem q379 : (Jvm.Cond.laysFinal "ShrinkYard" "ShrinkYard" "findings" "Ljava/util/List;") ∈ lw_all := lw_g (lw_at lw_m2 106 rfl) rfl
theorem q380 : (Jvm.Cond.soleField "ShrinkYard" "findings") ∈ lw_all := lw_g (lw_at lw_m2 107 rfl) rfl
theorem q381 : (Jvm.Cond.lays "ShrinkYard" "ShrinkYard" "runs" "I") ∈ lw_all := lw_g (lw_at lw_m2 108 rfl) rfl
theorem q382 : (Jvm.Cond.soleField "ShrinkYard" "runs") ∈ lw_all := lw_g (lw_at lw_m2 109 rfl) rfl
theorem q383 : (Jvm.Cond.lays "ShrinkYard" "ShrinkYard" "totalSteps" "J") ∈ lw_all := lw_g (lw_at lw_m2 110 rfl) rfl
theorem q384 : (Jvm.Cond.soleField "ShrinkYard" "totalSteps") ∈ lw_all := lw_g (lw_at lw_m2 111 rfl) rfl
theorem q385 : (Jvm.Cond.lays "ShrinkYard" "ShrinkYard" "atChange" "I") ∈ lw_all := lw_g (lw_at lw_m2 112 rfl) rfl
theorem q386 : (Jvm.Cond.soleField "ShrinkYard" "atChange") ∈ lw_all := lw_g (lw_at lw_m2 113 rfl) rfl
theorem q387 : (Jvm.Cond.superclass "ShrinkYard" "java/lang/Object") ∈ lw_all := lw_g (lw_at lw_m2 114 rfl) rfl
theorem q389 : (Jvm.Cond.instanceMethod ({ cls := "ShrinkYard", name := "reset", desc := "()I" } : Jvm.MethodName)) ∈ lw_all := lw_g (lw_at lw_m2 116 rfl) rfl
theorem q390 : (Jvm.Cond.selects "ShrinkYard" ({ cls := "ShrinkYard", name := "reset", desc := "()I" } : Jvm.MethodName) ({ cls := "ShrinkYard", name := "reset", desc := "()I" } : Jvm.MethodName)) ∈ lw_all := lw_g (lw_at lw_m2 117 rfl) rfl
theorem q391 : (Jvm.Cond.code ({ cls := "ShrinkYard", name := "reset", desc := "()I" } : Jvm.MethodName) prog_5_method_25_code (2 : Nat) (Option.some Jvm.ClassFile.FieldType.int)) ∈ lw_all := lw_g (lw_at lw_m2 118 rfl) rfl
theorem q392 : (Jvm.Cond.methodLink "ShrinkYard" (300 : Nat) ({ cls := "java/util/BitSet", name := "clear", desc := "()V" } : Jvm.MethodName)) ∈ lw_all := lw_g (lw_at lw_m2 119 rfl) rfl
theorem q396 : (Jvm.Cond.interfaceEntry "ShrinkYard" (303 : Nat)) ∈ lw_tbl := lw_at lw_m2 123 rfl
theorem q397 : (Jvm.Cond.methodLink "ShrinkYard" (303 : Nat) ({ cls := "java/util/List", name := "clear", desc := "()V" } : Jvm.MethodName)) ∈ lw_all := lw_g (lw_at lw_m2 124 rfl) rfl
theorem q410 : (Jvm.Cond.methodLink "ShrinkYard" (304 : Nat) ({ cls := "java/util/LinkedList", name := "clear", desc := "()V" } : Jvm.MethodName)) ∈ lw_all := lw_g (lw_at lw_m2 137 rfl) rfl
theorem q412 : (Jvm.Cond.instanceMethod ({ cls := "ShrinkYard", name := "runs", desc := "()I" } : Jvm.MethodName)) ∈ lw_all := lw_g (lw_at lw_m2 139 rfl) rfl
theorem q413 : (Jvm.Cond.selects "ShrinkYard" ({ cls := "ShrinkYard", name := "runs", desc := "()I" } : Jvm.MethodName) ({ cls := "ShrinkYard", name := "runs", desc := "()I" } : Jvm.MethodName)) ∈ lw_all := lw_g (lw_at lw_m2 140 rfl) rfl
theorem q414 : (Jvm.Cond.code ({ cls := "ShrinkYard", name := "runs", desc := "()I" } : Jvm.MethodName) prog_5_method_26_code (1 : Nat) (Option.some Jvm.ClassFile.FieldType.int)) ∈ lw_all := lw_g (lw_at lw_m2 141 rfl) rfl
theorem q416 : (Jvm.Cond.instanceMethod ({ cls := "ShrinkYard", name := "totalSteps", desc := "()J" } : Jvm.MethodName)) ∈ lw_all := lw_g (lw_at lw_m2 143 rfl) rfl
theorem q417 : (Jvm.Cond.selects "ShrinkYard" ({ cls := "ShrinkYard", name := "totalSteps", desc := "()J" } : Jvm.MethodName) ({ cls := "ShrinkYard", name := "totalSteps", desc := "()J" } : Jvm.MethodName)) ∈ lw_all := lw_g (lw_at lw_m2 144 rfl) rfl
theorem q418 : (Jvm.Cond.code ({ cls := "ShrinkYard", name := "totalSteps", desc := "()J" } : Jvm.MethodName) prog_5_method_27_code (1 : Nat) (Option.some Jvm.ClassFile.FieldType.long)) ∈ lw_all := lw_g (lw_at lw_m2 145 rfl) rfl
theorem q420 : (Jvm.Cond.instanceMethod ({ cls := "ShrinkYard", name := "covered", desc := "()I" } : Jvm.MethodName)) ∈ lw_all := lw_g (lw_at lw_m2 147 rfl) rfl
theorem q421 : (Jvm.Cond.selects "ShrinkYard" ({ cls := "ShrinkYard", name := "covered", desc := "()I" } : Jvm.MethodName) ({ cls := "ShrinkYard", name := "covered", desc := "()I" } : Jvm.MethodName)) ∈ lw_all := lw_g (lw_at lw_m2 148 rfl) rfl
theorem q422 : (Jvm.Cond.code ({ cls := "ShrinkYard", name := "covered", desc := "()I" } : Jvm.MethodName) prog_5_method_28_code (1 : Nat) (Option.some Jvm.ClassFile.FieldType.int)) ∈ lw_all := lw_g (lw_at lw_m2 149 rfl) rfl
theorem q423 : (Jvm.Cond.methodLink "ShrinkYard" (223 : Nat) ({ cls := "java/util/BitSet", name := "cardinality", desc := "()I" } : Jvm.MethodName)) ∈ lw_all := lw_g (lw_at lw_m2 150 rfl) rfl
theorem q434 : (Jvm.Cond.instanceMethod ({ cls := "ShrinkYard", name := "kept", desc := "()I" } : Jvm.MethodName)) ∈ lw_all := lw_g (lw_at lw_m2 161 rfl) rfl
theorem q435 : (Jvm.Cond.selects "ShrinkYard" ({ cls := "ShrinkYard", name := "kept", desc := "()I" } : Jvm.MethodName) ({ cls := "ShrinkYard", name := "kept", desc := "()I" } : Jvm.MethodName)) ∈ lw_all := lw_g (lw_at lw_m2 162 rfl) rfl
theorem q436 : (Jvm.Cond.code ({ cls := "ShrinkYard", name := "kept", desc := "()I" } : Jvm.MethodName) prog_5_method_30_code (1 : Nat) (Option.some Jvm.ClassFile.FieldType.int)) ∈ lw_all := lw_g (lw_at lw_m2 163 rfl) rfl
theorem q437 : (Jvm.Cond.interfaceEntry "ShrinkYard" (126 : Nat)) ∈ lw_tbl := lw_at lw_m2 164 rfl
theorem q438 : (Jvm.Cond.methodLink "ShrinkYard" (126 : Nat) ({ cls := "java/util/List", name := "size", desc := "()I" } : Jvm.MethodName)) ∈ lw_all := lw_g (lw_at lw_m2 165 rfl) rfl
theorem q452 : (Jvm.Cond.instanceMethod ({ cls := "ShrinkYard", name := "queued", desc := "()I" } : Jvm.MethodName)) ∈ lw_all := lw_g (lw_at lw_m2 179 rfl) rfl
theorem q453 : (Jvm.Cond.selects "ShrinkYard" ({ cls := "ShrinkYard", name := "queued", desc := "()I" } : Jvm.MethodName) ({ cls := "ShrinkYard", name := "queued", desc := "()I" } : Jvm.MethodName)) ∈ lw_all := lw_g (lw_at lw_m2 180 rfl) rfl
theorem q454 : (Jvm.Cond.code ({ cls := "ShrinkYard", name := "queued", desc := "()I" } : Jvm.MethodName) prog_5_method_32_code (1 : Nat) (Option.some Jvm.ClassFile.FieldType.int)) ∈ lw_all := lw_g (lw_at lw_m2 181 rfl) rfl
theorem q455 : (Jvm.Cond.methodLink "ShrinkYard" (311 : Nat) ({ cls := "java/util/LinkedList", name := "size", desc := "()I" } : Jvm.MethodName)) ∈ lw_all := lw_g (lw_at lw_m2 182 rfl) rfl
theorem q457 : (Jvm.Cond.instanceMethod ({ cls := "ShrinkYard", name := "findings", desc := "()I" } : Jvm.MethodName)) ∈ lw_all := lw_g (lw_at lw_m2 184 rfl) rfl
theorem q458 : (Jvm.Cond.selects "ShrinkYard" ({ cls := "ShrinkYard", name := "findings", desc := "()I" } : Jvm.MethodName) ({ cls := "ShrinkYard", name := "findings", desc := "()I" } : Jvm.MethodName)) ∈ lw_all := lw_g (lw_at lw_m2 185 rfl) rfl
theorem q459 : (Jvm.Cond.code ({ cls := "ShrinkYard", name := "findings", desc := "()I" } : Jvm.MethodName) prog_5_method_33_code (1 : Nat) (Option.some Jvm.ClassFile.FieldType.int)) ∈ lw_all := lw_g (lw_at lw_m2 186 rfl) rfl
theorem q550 : (Jvm.Cond.instanceMethod ({ cls := "ShrinkYard", name := "add", desc := "(LInstruction;)I" } : Jvm.MethodName)) ∈ lw_all := lw_g (lw_at lw_m3 37 rfl) rfl
theorem q551 : (Jvm.Cond.selects "ShrinkYard" ({ cls := "ShrinkYard", name := "add", desc := "(LInstruction;)I" } : Jvm.MethodName) ({ cls := "ShrinkYard", name := "add", desc := "(LInstruction;)I" } : Jvm.MethodName)) ∈ lw_all := lw_g (lw_at lw_m3 38 rfl) rfl
theorem q552 : (Jvm.Cond.code ({ cls := "ShrinkYard", name := "add", desc := "(LInstruction;)I" } : Jvm.MethodName) prog_5_method_11_code (3 : Nat) (Option.some Jvm.ClassFile.FieldType.int)) ∈ lw_all := lw_g (lw_at lw_m3 39 rfl) rfl
theorem q553 : (Jvm.Cond.methodLink "ShrinkYard" (101 : Nat) ({ cls := "Instruction", name := "op", desc := "()LOp;" } : Jvm.MethodName)) ∈ lw_all := lw_g (lw_at lw_m3 40 rfl) rfl
theorem q557 : (Jvm.Cond.fieldLink "ShrinkYard" (107 : Nat) "Op" "PLUS" "LOp;") ∈ lw_all := lw_g (lw_at lw_m3 44 rfl) rfl
theorem q558 : (Jvm.Cond.methodLink "ShrinkYard" (113 : Nat) ({ cls := "Instruction", name := "register", desc := "()I" } : Jvm.MethodName)) ∈ lw_all := lw_g (lw_at lw_m3 45 rfl) rfl
theorem q562 : (Jvm.Cond.methodLink "ShrinkYard" (116 : Nat) ({ cls := "ShrinkYard", name := "isIn", desc := "(III)Z" } : Jvm.MethodName)) ∈ lw_all := lw_g (lw_at lw_m3 49 rfl) rfl
theorem q563 : (Jvm.Cond.static ({ cls := "ShrinkYard", name := "isIn", desc := "(III)Z" } : Jvm.MethodName)) ∈ lw_all := lw_g (lw_at lw_m3 50 rfl) rfl
theorem q564 : (Jvm.Cond.code ({ cls := "ShrinkYard", name := "isIn", desc := "(III)Z" } : Jvm.MethodName) prog_5_method_1_code (3 : Nat) (Option.some Jvm.ClassFile.FieldType.boolean)) ∈ lw_all := lw_g (lw_at lw_m3 51 rfl) rfl
theorem q565 : (Jvm.Cond.methodLink "ShrinkYard" (120 : Nat) ({ cls := "Instruction", name := "value", desc := "()I" } : Jvm.MethodName)) ∈ lw_all := lw_g (lw_at lw_m3 52 rfl) rfl
theorem q569 : (Jvm.Cond.methodLink "ShrinkYard" (123 : Nat) ({ cls := "Instruction", name := "target", desc := "()I" } : Jvm.MethodName)) ∈ lw_all := lw_g (lw_at lw_m3 56 rfl) rfl
theorem q573 : (Jvm.Cond.methodLink "ShrinkYard" (39 : Nat) ({ cls := "ShrinkYard", name := "requireArgument", desc := "(Z)V" } : Jvm.MethodName)) ∈ lw_all := lw_g (lw_at lw_m3 60 rfl) rfl
theorem q574 : (Jvm.Cond.static ({ cls := "ShrinkYard", name := "requireArgument", desc := "(Z)V" } : Jvm.MethodName)) ∈ lw_all := lw_g (lw_at lw_m3 61 rfl) rfl
theorem q575 : (Jvm.Cond.code ({ cls := "ShrinkYard", name := "requireArgument", desc := "(Z)V" } : Jvm.MethodName) prog_5_method_2_code (1 : Nat) (Option.none : Option Jvm.ClassFile.FieldType)) ∈ lw_all := lw_g (lw_at lw_m3 62 rfl) rfl
theorem q576 : (Jvm.Cond.classLink "ShrinkYard" (3 : Nat) "java/lang/IllegalArgumentException") ∈ lw_all := lw_g (lw_at lw_m3 63 rfl) rfl
theorem q621 : (Jvm.Cond.methodLink "ShrinkYard" (5 : Nat) ({ cls := "java/lang/IllegalArgumentException", name := "<init>", desc := "()V" } : Jvm.MethodName)) ∈ lw_all := lw_g (lw_at lw_m3 108 rfl) rfl
theorem q644 : (Jvm.Cond.methodLink "ShrinkYard" (133 : Nat) ({ cls := "ShrinkYard", name := "requireState", desc := "(Z)V" } : Jvm.MethodName)) ∈ lw_all := lw_g (lw_at lw_m3 131 rfl) rfl
theorem q645 : (Jvm.Cond.static ({ cls := "ShrinkYard", name := "requireState", desc := "(Z)V" } : Jvm.MethodName)) ∈ lw_all := lw_g (lw_at lw_m3 132 rfl) rfl
theorem q646 : (Jvm.Cond.code ({ cls := "ShrinkYard", name := "requireState", desc := "(Z)V" } : Jvm.MethodName) prog_5_method_3_code (1 : Nat) (Option.none : Option Jvm.ClassFile.FieldType)) ∈ lw_all := lw_g (lw_at lw_m3 133 rfl) rfl
theorem q647 : (Jvm.Cond.classLink "ShrinkYard" (9 : Nat) "java/lang/IllegalStateException") ∈ lw_all := lw_g (lw_at lw_m3 134 rfl) rfl
theorem q656 : (Jvm.Cond.methodLink "ShrinkYard" (11 : Nat) ({ cls := "java/lang/IllegalStateException", name := "<init>", desc := "()V" } : Jvm.MethodName)) ∈ lw_all := lw_g (lw_at lw_m3 143 rfl) rfl
theorem q666 : (Jvm.Cond.instanceMethod ({ cls := "ShrinkYard", name := "addChange", desc := "(LChange;II)I" } : Jvm.MethodName)) ∈ lw_all := lw_g (lw_at lw_m3 153 rfl) rfl
theorem q667 : (Jvm.Cond.selects "ShrinkYard" ({ cls := "ShrinkYard", name := "addChange", desc := "(LChange;II)I" } : Jvm.MethodName) ({ cls := "ShrinkYard", name := "addChange", desc := "(LChange;II)I" } : Jvm.MethodName)) ∈ lw_all := lw_g (lw_at lw_m3 154 rfl) rfl
theorem q668 : (Jvm.Cond.code ({ cls := "ShrinkYard", name := "addChange", desc := "(LChange;II)I" } : Jvm.MethodName) prog_5_method_12_code (5 : Nat) (Option.some Jvm.ClassFile.FieldType.int)) ∈ lw_all := lw_g (lw_at lw_m3 155 rfl) rfl
theorem q669 : (Jvm.Cond.methodLink "ShrinkYard" (136 : Nat) ({ cls := "ShrinkYard$Edit", name := "of", desc := "(LChange;II)LShrinkYard$Edit;" } : Jvm.MethodName)) ∈ lw_all := lw_g (lw_at lw_m3 156 rfl) rfl
theorem q730 : (Jvm.Cond.instanceMethod ({ cls := "ShrinkYard", name := "addAlternative", desc := "(CLjava/lang/String;)I" } : Jvm.MethodName)) ∈ lw_all := lw_g (lw_at lw_m3 217 rfl) rfl
theorem q731 : (Jvm.Cond.selects "ShrinkYard" ({ cls := "ShrinkYard", name := "addAlternative", desc := "(CLjava/lang/String;)I" } : Jvm.MethodName) ({ cls := "ShrinkYard", name := "addAlternative", desc := "(CLjava/lang/String;)I" } : Jvm.MethodName)) ∈ lw_all := lw_g (lw_at lw_m3 218 rfl) rfl
theorem q732 : (Jvm.Cond.code ({ cls := "ShrinkYard", name := "addAlternative", desc := "(CLjava/lang/String;)I" } : Jvm.MethodName) prog_5_method_13_code (4 : Nat) (Option.some Jvm.ClassFile.FieldType.int)) ∈ lw_all := lw_g (lw_at lw_m3 219 rfl) rfl
theorem q733 : (Jvm.Cond.methodLink "ShrinkYard" (31 : Nat) ({ cls := "ShrinkYard", name := "kind", desc := "(C)I" } : Jvm.MethodName)) ∈ lw_all := lw_g (lw_at lw_m3 220 rfl) rfl
theorem q734 : (Jvm.Cond.static ({ cls := "ShrinkYard", name := "kind", desc := "(C)I" } : Jvm.MethodName)) ∈ lw_all := lw_g (lw_at lw_m3 221 rfl) rfl
theorem q735 : (Jvm.Cond.code ({ cls := "ShrinkYard", name := "kind", desc := "(C)I" } : Jvm.MethodName) prog_5_method_7_code (1 : Nat) (Option.some Jvm.ClassFile.FieldType.int)) ∈ lw_all := lw_g (lw_at lw_m3 222 rfl) rfl
theorem q736 : (Jvm.Cond.methodLink "ShrinkYard" (35 : Nat) ({ cls := "ShrinkYard", name := "hasKinds", desc := "(Ljava/lang/String;I)Z" } : Jvm.MethodName)) ∈ lw_all := lw_g (lw_at lw_m3 223 rfl) rfl
theorem q737 : (Jvm.Cond.static ({ cls := "ShrinkYard", name := "hasKinds", desc := "(Ljava/lang/String;I)Z" } : Jvm.MethodName)) ∈ lw_all := lw_g (lw_at lw_m3 224 rfl) rfl
theorem q738 : (Jvm.Cond.code ({ cls := "ShrinkYard", name := "hasKinds", desc := "(Ljava/lang/String;I)Z" } : Jvm.MethodName) prog_5_method_8_code (4 : Nat) (Option.some Jvm.ClassFile.FieldType.boolean)) ∈ lw_all := lw_g (lw_at lw_m3 225 rfl) rfl
theorem q739 : (Jvm.Cond.methodLink "ShrinkYard" (21 : Nat) ({ cls := "java/lang/String", name := "length", desc := "()I" } : Jvm.MethodName)) ∈ lw_all := lw_g (lw_at lw_m3 226 rfl) rfl
theorem q749 : (Jvm.Cond.methodLink "ShrinkYard" (27 : Nat) ({ cls := "java/lang/String", name := "charAt", desc := "(I)C" } : Jvm.MethodName)) ∈ lw_all := lw_g (lw_at lw_m3 236 rfl) rfl
theorem q787 : (Jvm.Cond.interfaceEntry "ShrinkYard" (142 : Nat)) ∈ lw_tbl := lw_at lw_m4 34 rfl
theorem q788 : (Jvm.Cond.methodLink "ShrinkYard" (142 : Nat) ({ cls := "java/util/List", name := "get", desc := "(I)Ljava/lang/Object;" } : Jvm.MethodName)) ∈ lw_all := lw_g (lw_at lw_m4 35 rfl) rfl
theorem q1059 : (Jvm.Cond.classLink "ShrinkYard" (96 : Nat) "java/util/List") ∈ lw_all := lw_g (lw_at lw_m5 66 rfl) rfl
theorem q1066 : (Jvm.Cond.instanceMethod ({ cls := "ShrinkYard", name := "derive", desc := "(I)Ljava/lang/String;" } : Jvm.MethodName)) ∈ lw_all := lw_g (lw_at lw_m5 73 rfl) rfl
theorem q1067 : (Jvm.Cond.selects "ShrinkYard" ({ cls := "ShrinkYard", name := "derive", desc := "(I)Ljava/lang/String;" } : Jvm.MethodName) ({ cls := "ShrinkYard", name := "derive", desc := "(I)Ljava/lang/String;" } : Jvm.MethodName)) ∈ lw_all := lw_g (lw_at lw_m5 74 rfl) rfl
theorem q1068 : (Jvm.Cond.code ({ cls := "ShrinkYard", name := "derive", desc := "(I)Ljava/lang/String;" } : Jvm.MethodName) prog_5_method_16_code (7 : Nat) (Option.some (Jvm.ClassFile.FieldType.object "java/lang/String"))) ∈ lw_all := lw_g (lw_at lw_m5 75 rfl) rfl
theorem q1069 : (Jvm.Cond.stringRef "ShrinkYard" (160 : Nat) "A") ∈ lw_tbl := lw_at lw_m5 76 rfl
theorem q1070 : (Jvm.Cond.interfaceEntry "ShrinkYard" (162 : Nat)) ∈ lw_tbl := lw_at lw_m5 77 rfl
theorem q1071 : (Jvm.Cond.methodLink "ShrinkYard" (162 : Nat) ({ cls := "java/util/List", name := "isEmpty", desc := "()Z" } : Jvm.MethodName)) ∈ lw_all := lw_g (lw_at lw_m5 78 rfl) rfl
theorem q1089 : (Jvm.Cond.methodLink "ShrinkYard" (166 : Nat) ({ cls := "ShrinkYard", name := "requireElement", desc := "(Z)V" } : Jvm.MethodName)) ∈ lw_all := lw_g (lw_at lw_m5 96 rfl) rfl
theorem q1090 : (Jvm.Cond.static ({ cls := "ShrinkYard", name := "requireElement", desc := "(Z)V" } : Jvm.MethodName)) ∈ lw_all := lw_g (lw_at lw_m5 97 rfl) rfl
theorem q1091 : (Jvm.Cond.code ({ cls := "ShrinkYard", name := "requireElement", desc := "(Z)V" } : Jvm.MethodName) prog_5_method_4_code (1 : Nat) (Option.none : Option Jvm.ClassFile.FieldType)) ∈ lw_all := lw_g (lw_at lw_m5 98 rfl) rfl
theorem q1092 : (Jvm.Cond.classLink "ShrinkYard" (12 : Nat) "java/util/NoSuchElementException") ∈ lw_all := lw_g (lw_at lw_m5 99 rfl) rfl
theorem q1101 : (Jvm.Cond.methodLink "ShrinkYard" (14 : Nat) ({ cls := "java/util/NoSuchElementException", name := "<init>", desc := "()V" } : Jvm.MethodName)) ∈ lw_all := lw_g (lw_at lw_m5 108 rfl) rfl
theorem q1107 : (Jvm.Cond.classLink "ShrinkYard" (22 : Nat) "java/lang/String") ∈ lw_all := lw_g (lw_at lw_m5 114 rfl) rfl
theorem q1108 : (Jvm.Cond.methodLink "ShrinkYard" (169 : Nat) ({ cls := "ShrinkYard", name := "replaced", desc := "(Ljava/lang/String;ILjava/lang/String;)Ljava/lang/String;" } : Jvm.MethodName)) ∈ lw_all := lw_g (lw_at lw_m5 115 rfl) rfl
theorem q1109 : (Jvm.Cond.static ({ cls := "ShrinkYard", name := "replaced", desc := "(Ljava/lang/String;ILjava/lang/String;)Ljava/lang/String;" } : Jvm.MethodName)) ∈ lw_all := lw_g (lw_at lw_m5 116 rfl) rfl
theorem q1110 : (Jvm.Cond.code ({ cls := "ShrinkYard", name := "replaced", desc := "(Ljava/lang/String;ILjava/lang/String;)Ljava/lang/String;" } : Jvm.MethodName) prog_5_method_15_code (5 : Nat) (Option.some (Jvm.ClassFile.FieldType.object "java/lang/String"))) ∈ lw_all := lw_g (lw_at lw_m5 117 rfl) rfl
theorem q1111 : (Jvm.Cond.classLink "ShrinkYard" (146 : Nat) "java/lang/StringBuilder") ∈ lw_all := lw_g (lw_at lw_m5 118 rfl) rfl
theorem q1112 : (Jvm.Cond.methodLink "ShrinkYard" (148 : Nat) ({ cls := "java/lang/StringBuilder", name := "<init>", desc := "()V" } : Jvm.MethodName)) ∈ lw_all := lw_g (lw_at lw_m5 119 rfl) rfl
theorem q1113 : (Jvm.Cond.methodLink "ShrinkYard" (149 : Nat) ({ cls := "java/lang/StringBuilder", name := "append", desc := "(C)Ljava/lang/StringBuilder;" } : Jvm.MethodName)) ∈ lw_all := lw_g (lw_at lw_m5 120 rfl) rfl
theorem q1126 : (Jvm.Cond.methodLink "ShrinkYard" (153 : Nat) ({ cls := "java/lang/StringBuilder", name := "append", desc := "(Ljava/lang/String;)Ljava/lang/StringBuilder;" } : Jvm.MethodName)) ∈ lw_all := lw_g (lw_at lw_m5 133 rfl) rfl
theorem q1127 : (Jvm.Cond.methodLink "ShrinkYard" (156 : Nat) ({ cls := "java/lang/StringBuilder", name := "toString", desc := "()Ljava/lang/String;" } : Jvm.MethodName)) ∈ lw_all := lw_g (lw_at lw_m5 134 rfl) rfl
theorem q1128 : (Jvm.Cond.methodLink "ShrinkYard" (173 : Nat) ({ cls := "ShrinkYard", name := "firstSymbol", desc := "(Ljava/lang/String;)I" } : Jvm.MethodName)) ∈ lw_all := lw_g (lw_at lw_m5 135 rfl) rfl
theorem q1129 : (Jvm.Cond.static ({ cls := "ShrinkYard", name := "firstSymbol", desc := "(Ljava/lang/String;)I" } : Jvm.MethodName)) ∈ lw_all := lw_g (lw_at lw_m5 136 rfl) rfl
theorem q1130 : (Jvm.Cond.code ({ cls := "ShrinkYard", name := "firstSymbol", desc := "(Ljava/lang/String;)I" } : Jvm.MethodName) prog_5_method_14_code (2 : Nat) (Option.some Jvm.ClassFile.FieldType.int)) ∈ lw_all := lw_g (lw_at lw_m5 137 rfl) rfl
theorem q1131 : (Jvm.Cond.classLink "ShrinkYard" (177 : Nat) "java/lang/UnsupportedOperationException") ∈ lw_all := lw_g (lw_at lw_m5 138 rfl) rfl
theorem q1140 : (Jvm.Cond.methodLink "ShrinkYard" (179 : Nat) ({ cls := "java/lang/UnsupportedOperationException", name := "<init>", desc := "()V" } : Jvm.MethodName)) ∈ lw_all := lw_g (lw_at lw_m5 147 rfl) rfl
theorem q1150 : (Jvm.Cond.instanceMethod ({ cls := "ShrinkYard", name := "take", desc := "(Ljava/lang/String;)Z" } : Jvm.MethodName)) ∈ lw_all := lw_g (lw_at lw_m5 157 rfl) rfl
theorem q1151 : (Jvm.Cond.selects "ShrinkYard" ({ cls := "ShrinkYard", name := "take", desc := "(Ljava/lang/String;)Z" } : Jvm.MethodName) ({ cls := "ShrinkYard", name := "take", desc := "(Ljava/lang/String;)Z" } : Jvm.MethodName)) ∈ lw_all := lw_g (lw_at lw_m5 158 rfl) rfl
theorem q1152 : (Jvm.Cond.code ({ cls := "ShrinkYard", name := "take", desc := "(Ljava/lang/String;)Z" } : Jvm.MethodName) prog_5_method_22_code (2 : Nat) (Option.some Jvm.ClassFile.FieldType.boolean)) ∈ lw_all := lw_g (lw_at lw_m5 159 rfl) rfl
theorem q1153 : (Jvm.Cond.methodLink "ShrinkYard" (275 : Nat) ({ cls := "ShrinkYard", name := "requireInput", desc := "(Ljava/lang/String;)LShrinkYard$Digits;" } : Jvm.MethodName)) ∈ lw_all := lw_g (lw_at lw_m5 160 rfl) rfl
theorem q1154 : (Jvm.Cond.static ({ cls := "ShrinkYard", name := "requireInput", desc := "(Ljava/lang/String;)LShrinkYard$Digits;" } : Jvm.MethodName)) ∈ lw_all := lw_g (lw_at lw_m5 161 rfl) rfl
theorem q1155 : (Jvm.Cond.code ({ cls := "ShrinkYard", name := "requireInput", desc := "(Ljava/lang/String;)LShrinkYard$Digits;" } : Jvm.MethodName) prog_5_method_9_code (2 : Nat) (Option.some (Jvm.ClassFile.FieldType.object "ShrinkYard$Digits"))) ∈ lw_all := lw_g (lw_at lw_m5 162 rfl) rfl
theorem q1156 : (Jvm.Cond.classLink "ShrinkYard" (43 : Nat) "ShrinkYard$Digits") ∈ lw_all := lw_g (lw_at lw_m5 163 rfl) rfl
theorem q1158 : (Jvm.Cond.methodLinkNest "ShrinkYard" (45 : Nat) ({ cls := "ShrinkYard$Digits", name := "<init>", desc := "()V" } : Jvm.MethodName) "ShrinkYard") ∈ lw_tbl := lw_at lw_m5 165 rfl
theorem q1166 : (Jvm.Cond.fieldLinkNest "ShrinkYard" (194 : Nat) "ShrinkYard$Digits" "digits" "[I" "ShrinkYard") ∈ lw_tbl := lw_at lw_m5 173 rfl
theorem q1171 : (Jvm.Cond.fieldLinkNest "ShrinkYard" (180 : Nat) "ShrinkYard$Digits" "length" "I" "ShrinkYard") ∈ lw_tbl := lw_at lw_m5 178 rfl
theorem q1177 : (Jvm.Cond.methodLink "ShrinkYard" (46 : Nat) ({ cls := "ShrinkYard$Digits", name := "read", desc := "(Ljava/lang/String;)V" } : Jvm.MethodName)) ∈ lw_all := lw_g (lw_at lw_m5 184 rfl) rfl
theorem q1183 : (Jvm.Cond.methodLink "ShrinkYard" (279 : Nat) ({ cls := "ShrinkYard", name := "take", desc := "(LShrinkYard$Digits;)Z" } : Jvm.MethodName)) ∈ lw_all := lw_g (lw_at lw_m5 190 rfl) rfl
theorem q1184 : (Jvm.Cond.privateMethod ({ cls := "ShrinkYard", name := "take", desc := "(LShrinkYard$Digits;)Z" } : Jvm.MethodName)) ∈ lw_tbl := lw_at lw_m5 191 rfl
theorem q1185 : (Jvm.Cond.instanceMethod ({ cls := "ShrinkYard", name := "take", desc := "(LShrinkYard$Digits;)Z" } : Jvm.MethodName)) ∈ lw_all := lw_g (lw_at lw_m5 192 rfl) rfl
theorem q1186 : (Jvm.Cond.code ({ cls := "ShrinkYard", name := "take", desc := "(LShrinkYard$Digits;)Z" } : Jvm.MethodName) prog_5_method_21_code (4 : Nat) (Option.some Jvm.ClassFile.FieldType.boolean)) ∈ lw_all := lw_g (lw_at lw_m5 193 rfl) rfl
theorem q1187 : (Jvm.Cond.methodLink "ShrinkYard" (233 : Nat) ({ cls := "ShrinkYard$Machine", name := "run", desc := "(LShrinkYard$Digits;)V" } : Jvm.MethodName)) ∈ lw_all := lw_g (lw_at lw_m5 194 rfl) rfl
theorem q1257 : (Jvm.Cond.methodLink "ShrinkYard" (243 : Nat) ({ cls := "ShrinkYard", name := "coversMore", desc := "()Z" } : Jvm.MethodName)) ∈ lw_all := lw_g (lw_at lw_m6 24 rfl) rfl
theorem q1258 : (Jvm.Cond.privateMethod ({ cls := "ShrinkYard", name := "coversMore", desc := "()Z" } : Jvm.MethodName)) ∈ lw_tbl := lw_at lw_m6 25 rfl
theorem q1259 : (Jvm.Cond.instanceMethod ({ cls := "ShrinkYard", name := "coversMore", desc := "()Z" } : Jvm.MethodName)) ∈ lw_all := lw_g (lw_at lw_m6 26 rfl) rfl
theorem q1260 : (Jvm.Cond.code ({ cls := "ShrinkYard", name := "coversMore", desc := "()Z" } : Jvm.MethodName) prog_5_method_20_code (2 : Nat) (Option.some Jvm.ClassFile.FieldType.boolean)) ∈ lw_all := lw_g (lw_at lw_m6 27 rfl) rfl
theorem q1261 : (Jvm.Cond.methodLink "ShrinkYard" (229 : Nat) ({ cls := "java/util/BitSet", name := "or", desc := "(Ljava/util/BitSet;)V" } : Jvm.MethodName)) ∈ lw_all := lw_g (lw_at lw_m6 28 rfl) rfl
theorem q1267 : (Jvm.Cond.fieldLink "ShrinkYard" (250 : Nat) "Verdict" "PASSED" "LVerdict;") ∈ lw_all := lw_g (lw_at lw_m6 34 rfl) rfl
theorem q1268 : (Jvm.Cond.methodLink "ShrinkYard" (202 : Nat) ({ cls := "ShrinkYard$Digits", name := "text", desc := "()Ljava/lang/String;" } : Jvm.MethodName)) ∈ lw_all := lw_g (lw_at lw_m6 35 rfl) rfl
theorem q1276 : (Jvm.Cond.methodLink "ShrinkYard" (255 : Nat) ({ cls := "java/util/LinkedList", name := "addLast", desc := "(Ljava/lang/Object;)V" } : Jvm.MethodName)) ∈ lw_all := lw_g (lw_at lw_m6 43 rfl) rfl
theorem q1280 : (Jvm.Cond.fieldLink "ShrinkYard" (261 : Nat) "Verdict" "FAILED" "LVerdict;") ∈ lw_all := lw_g (lw_at lw_m6 47 rfl) rfl
theorem q1281 : (Jvm.Cond.methodLink "ShrinkYard" (264 : Nat) ({ cls := "ShrinkYard", name := "isFound", desc := "(I)Z" } : Jvm.MethodName)) ∈ lw_all := lw_g (lw_at lw_m6 48 rfl) rfl
theorem q1282 : (Jvm.Cond.privateMethod ({ cls := "ShrinkYard", name := "isFound", desc := "(I)Z" } : Jvm.MethodName)) ∈ lw_tbl := lw_at lw_m6 49 rfl
theorem q1283 : (Jvm.Cond.instanceMethod ({ cls := "ShrinkYard", name := "isFound", desc := "(I)Z" } : Jvm.MethodName)) ∈ lw_all := lw_g (lw_at lw_m6 50 rfl) rfl
theorem q1284 : (Jvm.Cond.code ({ cls := "ShrinkYard", name := "isFound", desc := "(I)Z" } : Jvm.MethodName) prog_5_method_19_code (5 : Nat) (Option.some Jvm.ClassFile.FieldType.boolean)) ∈ lw_all := lw_g (lw_at lw_m6 51 rfl) rfl
theorem q1285 : (Jvm.Cond.interfaceEntry "ShrinkYard" (205 : Nat)) ∈ lw_tbl := lw_at lw_m6 52 rfl
theorem q1286 : (Jvm.Cond.methodLink "ShrinkYard" (205 : Nat) ({ cls := "java/util/List", name := "iterator", desc := "()Ljava/util/Iterator;" } : Jvm.MethodName)) ∈ lw_all := lw_g (lw_at lw_m6 53 rfl) rfl
theorem q1398 : (Jvm.Cond.interfaceEntry "ShrinkYard" (209 : Nat)) ∈ lw_tbl := lw_at lw_m6 165 rfl
theorem q1399 : (Jvm.Cond.methodLink "ShrinkYard" (209 : Nat) ({ cls := "java/util/Iterator", name := "hasNext", desc := "()Z" } : Jvm.MethodName)) ∈ lw_all := lw_g (lw_at lw_m6 166 rfl) rfl
theorem q1427 : (Jvm.Cond.interfaceEntry "ShrinkYard" (214 : Nat)) ∈ lw_tbl := lw_at lw_m6 194 rfl
theorem q1428 : (Jvm.Cond.methodLink "ShrinkYard" (214 : Nat) ({ cls := "java/util/Iterator", name := "next", desc := "()Ljava/lang/Object;" } : Jvm.MethodName)) ∈ lw_all := lw_g (lw_at lw_m6 195 rfl) rfl
theorem q1525 : (Jvm.Cond.classLink "ShrinkYard" (218 : Nat) "Finding") ∈ lw_all := lw_g (lw_at lw_m7 52 rfl) rfl
theorem q1526 : (Jvm.Cond.methodLink "ShrinkYard" (220 : Nat) ({ cls := "Finding", name := "code", desc := "()I" } : Jvm.MethodName)) ∈ lw_all := lw_g (lw_at lw_m7 53 rfl) rfl
theorem q1528 : (Jvm.Cond.methodLink "ShrinkYard" (268 : Nat) ({ cls := "ShrinkYard", name := "shrink", desc := "(LShrinkYard$Digits;I)Ljava/lang/String;" } : Jvm.MethodName)) ∈ lw_all := lw_g (lw_at lw_m7 55 rfl) rfl
theorem q1529 : (Jvm.Cond.privateMethod ({ cls := "ShrinkYard", name := "shrink", desc := "(LShrinkYard$Digits;I)Ljava/lang/String;" } : Jvm.MethodName)) ∈ lw_tbl := lw_at lw_m7 56 rfl
theorem q1530 : (Jvm.Cond.instanceMethod ({ cls := "ShrinkYard", name := "shrink", desc := "(LShrinkYard$Digits;I)Ljava/lang/String;" } : Jvm.MethodName)) ∈ lw_all := lw_g (lw_at lw_m7 57 rfl) rfl
theorem q1531 : (Jvm.Cond.code ({ cls := "ShrinkYard", name := "shrink", desc := "(LShrinkYard$Digits;I)Ljava/lang/String;" } : Jvm.MethodName) prog_5_method_18_code (5 : Nat) (Option.some (Jvm.ClassFile.FieldType.object "java/lang/String"))) ∈ lw_all := lw_g (lw_at lw_m7 58 rfl) rfl
theorem q1532 : (Jvm.Cond.methodLink "ShrinkYard" (182 : Nat) ({ cls := "ShrinkYard$Digits", name := "copy", desc := "(LShrinkYard$Digits;)V" } : Jvm.MethodName)) ∈ lw_all := lw_g (lw_at lw_m7 59 rfl) rfl
theorem q1536 : (Jvm.Cond.methodLink "ShrinkYard" (198 : Nat) ({ cls := "ShrinkYard", name := "isReduced", desc := "(LShrinkYard$Digits;ILShrinkYard$Digits;)Z" } : Jvm.MethodName)) ∈ lw_all := lw_g (lw_at lw_m7 63 rfl) rfl
theorem q1537 : (Jvm.Cond.privateMethod ({ cls := "ShrinkYard", name := "isReduced", desc := "(LShrinkYard$Digits;ILShrinkYard$Digits;)Z" } : Jvm.MethodName)) ∈ lw_tbl := lw_at lw_m7 64 rfl
theorem q1538 : (Jvm.Cond.instanceMethod ({ cls := "ShrinkYard", name := "isReduced", desc := "(LShrinkYard$Digits;ILShrinkYard$Digits;)Z" } : Jvm.MethodName)) ∈ lw_all := lw_g (lw_at lw_m7 65 rfl) rfl
theorem q1539 : (Jvm.Cond.code ({ cls := "ShrinkYard", name := "isReduced", desc := "(LShrinkYard$Digits;ILShrinkYard$Digits;)Z" } : Jvm.MethodName) prog_5_method_17_code (6 : Nat) (Option.some Jvm.ClassFile.FieldType.boolean)) ∈ lw_all := lw_g (lw_at lw_m7 66 rfl) rfl
theorem q1540 : (Jvm.Cond.methodLink "ShrinkYard" (186 : Nat) ({ cls := "ShrinkYard$Digits", name := "delete", desc := "(I)V" } : Jvm.MethodName)) ∈ lw_all := lw_g (lw_at lw_m7 67 rfl) rfl
theorem q1544 : (Jvm.Cond.methodLink "ShrinkYard" (190 : Nat) ({ cls := "ShrinkYard$Machine", name := "isFailing", desc := "(LShrinkYard$Digits;I)Z" } : Jvm.MethodName)) ∈ lw_all := lw_g (lw_at lw_m7 71 rfl) rfl
theorem q1549 : (Jvm.Cond.methodLink "ShrinkYard" (272 : Nat) ({ cls := "Finding", name := "<init>", desc := "(Ljava/lang/String;Ljava/lang/String;I)V" } : Jvm.MethodName)) ∈ lw_all := lw_g (lw_at lw_m7 76 rfl) rfl
theorem q1567 : (Jvm.Cond.instanceMethod ({ cls := "ShrinkYard", name := "takeDerived", desc := "(I)Z" } : Jvm.MethodName)) ∈ lw_all := lw_g (lw_at lw_m7 94 rfl) rfl
theorem q1568 : (Jvm.Cond.selects "ShrinkYard" ({ cls := "ShrinkYard", name := "takeDerived", desc := "(I)Z" } : Jvm.MethodName) ({ cls := "ShrinkYard", name := "takeDerived", desc := "(I)Z" } : Jvm.MethodName)) ∈ lw_all := lw_g (lw_at lw_m7 95 rfl) rfl
theorem q1569 : (Jvm.Cond.code ({ cls := "ShrinkYard", name := "takeDerived", desc := "(I)Z" } : Jvm.MethodName) prog_5_method_23_code (3 : Nat) (Option.some Jvm.ClassFile.FieldType.boolean)) ∈ lw_all := lw_g (lw_at lw_m7 96 rfl) rfl
theorem q1570 : (Jvm.Cond.methodLink "ShrinkYard" (283 : Nat) ({ cls := "ShrinkYard", name := "derive", desc := "(I)Ljava/lang/String;" } : Jvm.MethodName)) ∈ lw_all := lw_g (lw_at lw_m7 97 rfl) rfl
theorem q1575 : (Jvm.Cond.instanceMethod ({ cls := "ShrinkYard", name := "goOn", desc := "(I)I" } : Jvm.MethodName)) ∈ lw_all := lw_g (lw_at lw_m7 102 rfl) rfl
theorem q1576 : (Jvm.Cond.selects "ShrinkYard" ({ cls := "ShrinkYard", name := "goOn", desc := "(I)I" } : Jvm.MethodName) ({ cls := "ShrinkYard", name := "goOn", desc := "(I)I" } : Jvm.MethodName)) ∈ lw_all := lw_g (lw_at lw_m7 103 rfl) rfl
theorem q1577 : (Jvm.Cond.code ({ cls := "ShrinkYard", name := "goOn", desc := "(I)I" } : Jvm.MethodName) prog_5_method_24_code (5 : Nat) (Option.some Jvm.ClassFile.FieldType.int)) ∈ lw_all := lw_g (lw_at lw_m7 104 rfl) rfl
theorem q1578 : (Jvm.Cond.methodLink "ShrinkYard" (287 : Nat) ({ cls := "java/util/LinkedList", name := "isEmpty", desc := "()Z" } : Jvm.MethodName)) ∈ lw_all := lw_g (lw_at lw_m7 105 rfl) rfl
theorem q1582 : (Jvm.Cond.methodLink "ShrinkYard" (291 : Nat) ({ cls := "java/util/LinkedList", name := "getFirst", desc := "()Ljava/lang/Object;" } : Jvm.MethodName)) ∈ lw_all := lw_g (lw_at lw_m7 109 rfl) rfl
theorem q1588 : (Jvm.Cond.classLink "ShrinkYard" (137 : Nat) "ShrinkYard$Edit") ∈ lw_all := lw_g (lw_at lw_m7 115 rfl) rfl
theorem q1589 : (Jvm.Cond.interfaceEntry "ShrinkYard" (294 : Nat)) ∈ lw_tbl := lw_at lw_m7 116 rfl
theorem q1590 : (Jvm.Cond.methodLink "ShrinkYard" (294 : Nat) ({ cls := "ShrinkYard$Edit", name := "isDone", desc := "(LShrinkYard$Digits;)Z" } : Jvm.MethodName)) ∈ lw_all := lw_g (lw_at lw_m7 117 rfl) rfl
theorem q1697 : (Jvm.Cond.methodLink "ShrinkYard" (297 : Nat) ({ cls := "java/util/LinkedList", name := "removeFirst", desc := "()Ljava/lang/Object;" } : Jvm.MethodName)) ∈ lw_all := lw_g (lw_at lw_m7 224 rfl) rfl
theorem q1725 : (Jvm.Cond.instanceMethod ({ cls := "ShrinkYard", name := "isCovered", desc := "(II)Z" } : Jvm.MethodName)) ∈ lw_all := lw_g (lw_at lw_m8 12 rfl) rfl
theorem q1726 : (Jvm.Cond.selects "ShrinkYard" ({ cls := "ShrinkYard", name := "isCovered", desc := "(II)Z" } : Jvm.MethodName) ({ cls := "ShrinkYard", name := "isCovered", desc := "(II)Z" } : Jvm.MethodName)) ∈ lw_all := lw_g (lw_at lw_m8 13 rfl) rfl
theorem q1727 : (Jvm.Cond.code ({ cls := "ShrinkYard", name := "isCovered", desc := "(II)Z" } : Jvm.MethodName) prog_5_method_29_code (3 : Nat) (Option.some Jvm.ClassFile.FieldType.boolean)) ∈ lw_all := lw_g (lw_at lw_m8 14 rfl) rfl
theorem q1728 : (Jvm.Cond.methodLink "ShrinkYard" (305 : Nat) ({ cls := "ShrinkYard", name := "requireIndex", desc := "(II)V" } : Jvm.MethodName)) ∈ lw_all := lw_g (lw_at lw_m8 15 rfl) rfl
theorem q1729 : (Jvm.Cond.static ({ cls := "ShrinkYard", name := "requireIndex", desc := "(II)V" } : Jvm.MethodName)) ∈ lw_all := lw_g (lw_at lw_m8 16 rfl) rfl
theorem q1730 : (Jvm.Cond.code ({ cls := "ShrinkYard", name := "requireIndex", desc := "(II)V" } : Jvm.MethodName) prog_5_method_5_code (2 : Nat) (Option.none : Option Jvm.ClassFile.FieldType)) ∈ lw_all := lw_g (lw_at lw_m8 17 rfl) rfl
theorem q1731 : (Jvm.Cond.classLink "ShrinkYard" (15 : Nat) "java/lang/IndexOutOfBoundsException") ∈ lw_all := lw_g (lw_at lw_m8 18 rfl) rfl
theorem q1732 : (Jvm.Cond.methodLink "ShrinkYard" (17 : Nat) ({ cls := "java/lang/IndexOutOfBoundsException", name := "<init>", desc := "()V" } : Jvm.MethodName)) ∈ lw_all := lw_g (lw_at lw_m8 19 rfl) rfl
theorem q1736 : (Jvm.Cond.methodLink "ShrinkYard" (309 : Nat) ({ cls := "java/util/BitSet", name := "get", desc := "(I)Z" } : Jvm.MethodName)) ∈ lw_all := lw_g (lw_at lw_m8 23 rfl) rfl
theorem q1744 : (Jvm.Cond.instanceMethod ({ cls := "ShrinkYard", name := "keptAt", desc := "(I)Ljava/lang/String;" } : Jvm.MethodName)) ∈ lw_all := lw_g (lw_at lw_m8 31 rfl) rfl
theorem q1745 : (Jvm.Cond.selects "ShrinkYard" ({ cls := "ShrinkYard", name := "keptAt", desc := "(I)Ljava/lang/String;" } : Jvm.MethodName) ({ cls := "ShrinkYard", name := "keptAt", desc := "(I)Ljava/lang/String;" } : Jvm.MethodName)) ∈ lw_all := lw_g (lw_at lw_m8 32 rfl) rfl
theorem q1746 : (Jvm.Cond.code ({ cls := "ShrinkYard", name := "keptAt", desc := "(I)Ljava/lang/String;" } : Jvm.MethodName) prog_5_method_31_code (2 : Nat) (Option.some (Jvm.ClassFile.FieldType.object "java/lang/String"))) ∈ lw_all := lw_g (lw_at lw_m8 33 rfl) rfl
theorem q1751 : (Jvm.Cond.instanceMethod ({ cls := "ShrinkYard", name := "findingAt", desc := "(I)LFinding;" } : Jvm.MethodName)) ∈ lw_all := lw_g (lw_at lw_m8 38 rfl) rfl
theorem q1752 : (Jvm.Cond.selects "ShrinkYard" ({ cls := "ShrinkYard", name := "findingAt", desc := "(I)LFinding;" } : Jvm.MethodName) ({ cls := "ShrinkYard", name := "findingAt", desc := "(I)LFinding;" } : Jvm.MethodName)) ∈ lw_all := lw_g (lw_at lw_m8 39 rfl) rfl
theorem q1753 : (Jvm.Cond.code ({ cls := "ShrinkYard", name := "findingAt", desc := "(I)LFinding;" } : Jvm.MethodName) prog_5_method_34_code (2 : Nat) (Option.some (Jvm.ClassFile.FieldType.object "Finding"))) ∈ lw_all := lw_g (lw_at lw_m8 40 rfl) rfl
theorem q1758 : (Jvm.Cond.instanceMethod ({ cls := "ShrinkYard", name := "verdict", desc := "(Ljava/lang/String;)LVerdict;" } : Jvm.MethodName)) ∈ lw_all := lw_g (lw_at lw_m8 45 rfl) rfl
theorem q1759 : (Jvm.Cond.selects "ShrinkYard" ({ cls := "ShrinkYard", name := "verdict", desc := "(Ljava/lang/String;)LVerdict;" } : Jvm.MethodName) ({ cls := "ShrinkYard", name := "verdict", desc := "(Ljava/lang/String;)LVerdict;" } : Jvm.MethodName)) ∈ lw_all := lw_g (lw_at lw_m8 46 rfl) rfl
theorem q1760 : (Jvm.Cond.code ({ cls := "ShrinkYard", name := "verdict", desc := "(Ljava/lang/String;)LVerdict;" } : Jvm.MethodName) prog_5_method_35_code (2 : Nat) (Option.some (Jvm.ClassFile.FieldType.object "Verdict"))) ∈ lw_all := lw_g (lw_at lw_m8 47 rfl) rfl
theorem q1765 : (Jvm.Cond.instanceMethod ({ cls := "ShrinkYard", name := "code", desc := "(Ljava/lang/String;)I" } : Jvm.MethodName)) ∈ lw_all := lw_g (lw_at lw_m8 52 rfl) rfl
theorem q1766 : (Jvm.Cond.selects "ShrinkYard" ({ cls := "ShrinkYard", name := "code", desc := "(Ljava/lang/String;)I" } : Jvm.MethodName) ({ cls := "ShrinkYard", name := "code", desc := "(Ljava/lang/String;)I" } : Jvm.MethodName)) ∈ lw_all := lw_g (lw_at lw_m8 53 rfl) rfl
theorem q1767 : (Jvm.Cond.code ({ cls := "ShrinkYard", name := "code", desc := "(Ljava/lang/String;)I" } : Jvm.MethodName) prog_5_method_37_code (3 : Nat) (Option.some Jvm.ClassFile.FieldType.int)) ∈ lw_all := lw_g (lw_at lw_m8 54 rfl) rfl
theorem q1768 : (Jvm.Cond.methodLink "ShrinkYard" (312 : Nat) ({ cls := "ShrinkYard", name := "requireFailing", desc := "(Ljava/lang/String;)LShrinkYard$Digits;" } : Jvm.MethodName)) ∈ lw_all := lw_g (lw_at lw_m8 55 rfl) rfl
theorem q1769 : (Jvm.Cond.privateMethod ({ cls := "ShrinkYard", name := "requireFailing", desc := "(Ljava/lang/String;)LShrinkYard$Digits;" } : Jvm.MethodName)) ∈ lw_tbl := lw_at lw_m8 56 rfl
theorem q1770 : (Jvm.Cond.instanceMethod ({ cls := "ShrinkYard", name := "requireFailing", desc := "(Ljava/lang/String;)LShrinkYard$Digits;" } : Jvm.MethodName)) ∈ lw_all := lw_g (lw_at lw_m8 57 rfl) rfl
theorem q1771 : (Jvm.Cond.code ({ cls := "ShrinkYard", name := "requireFailing", desc := "(Ljava/lang/String;)LShrinkYard$Digits;" } : Jvm.MethodName) prog_5_method_36_code (3 : Nat) (Option.some (Jvm.ClassFile.FieldType.object "ShrinkYard$Digits"))) ∈ lw_all := lw_g (lw_at lw_m8 58 rfl) rfl
theorem q1776 : (Jvm.Cond.instanceMethod ({ cls := "ShrinkYard", name := "steps", desc := "(Ljava/lang/String;)I" } : Jvm.MethodName)) ∈ lw_all := lw_g (lw_at lw_m8 63 rfl) rfl
theorem q1777 : (Jvm.Cond.selects "ShrinkYard" ({ cls := "ShrinkYard", name := "steps", desc := "(Ljava/lang/String;)I" } : Jvm.MethodName) ({ cls := "ShrinkYard", name := "steps", desc := "(Ljava/lang/String;)I" } : Jvm.MethodName)) ∈ lw_all := lw_g (lw_at lw_m8 64 rfl) rfl
theorem q1778 : (Jvm.Cond.code ({ cls := "ShrinkYard", name := "steps", desc := "(Ljava/lang/String;)I" } : Jvm.MethodName) prog_5_method_38_code (2 : Nat) (Option.some Jvm.ClassFile.FieldType.int)) ∈ lw_all := lw_g (lw_at lw_m8 65 rfl) rfl
theorem q1783 : (Jvm.Cond.instanceMethod ({ cls := "ShrinkYard", name := "edges", desc := "(Ljava/lang/String;)I" } : Jvm.MethodName)) ∈ lw_all := lw_g (lw_at lw_m8 70 rfl) rfl
theorem q1784 : (Jvm.Cond.selects "ShrinkYard" ({ cls := "ShrinkYard", name := "edges", desc := "(Ljava/lang/String;)I" } : Jvm.MethodName) ({ cls := "ShrinkYard", name := "edges", desc := "(Ljava/lang/String;)I" } : Jvm.MethodName)) ∈ lw_all := lw_g (lw_at lw_m8 71 rfl) rfl
theorem q1785 : (Jvm.Cond.code ({ cls := "ShrinkYard", name := "edges", desc := "(Ljava/lang/String;)I" } : Jvm.MethodName) prog_5_method_39_code (2 : Nat) (Option.some Jvm.ClassFile.FieldType.int)) ∈ lw_all := lw_g (lw_at lw_m8 72 rfl) rfl
theorem q1790 : (Jvm.Cond.instanceMethod ({ cls := "ShrinkYard", name := "changed", desc := "(LChange;IILjava/lang/String;)Ljava/lang/String;" } : Jvm.MethodName)) ∈ lw_all := lw_g (lw_at lw_m8 77 rfl) rfl
theorem q1791 : (Jvm.Cond.selects "ShrinkYard" ({ cls := "ShrinkYard", name := "changed", desc := "(LChange;IILjava/lang/String;)Ljava/lang/String;" } : Jvm.MethodName) ({ cls := "ShrinkYard", name := "changed", desc := "(LChange;IILjava/lang/String;)Ljava/lang/String;" } : Jvm.MethodName)) ∈ lw_all := lw_g (lw_at lw_m8 78 rfl) rfl
theorem q1792 : (Jvm.Cond.code ({ cls := "ShrinkYard", name := "changed", desc := "(LChange;IILjava/lang/String;)Ljava/lang/String;" } : Jvm.MethodName) prog_5_method_40_code (7 : Nat) (Option.some (Jvm.ClassFile.FieldType.object "java/lang/String"))) ∈ lw_all := lw_g (lw_at lw_m8 79 rfl) rfl
theorem q1797 : (Jvm.Cond.instanceMethod ({ cls := "ShrinkYard", name := "shrunk", desc := "(Ljava/lang/String;)Ljava/lang/String;" } : Jvm.MethodName)) ∈ lw_all := lw_g (lw_at lw_m8 84 rfl) rfl
theorem q1798 : (Jvm.Cond.selects "ShrinkYard" ({ cls := "ShrinkYard", name := "shrunk", desc := "(Ljava/lang/String;)Ljava/lang/String;" } : Jvm.MethodName) ({ cls := "ShrinkYard", name := "shrunk", desc := "(Ljava/lang/String;)Ljava/lang/String;" } : Jvm.MethodName)) ∈ lw_all := lw_g (lw_at lw_m8 85 rfl) rfl
theorem q1799 : (Jvm.Cond.code ({ cls := "ShrinkYard", name := "shrunk", desc := "(Ljava/lang/String;)Ljava/lang/String;" } : Jvm.MethodName) prog_5_method_41_code (3 : Nat) (Option.some (Jvm.ClassFile.FieldType.object "java/lang/String"))) ∈ lw_all := lw_g (lw_at lw_m8 86 rfl) rfl
theorem q1804 : (Jvm.Cond.instanceMethod ({ cls := "ShrinkYard", name := "failingReductions", desc := "(Ljava/lang/String;)I" } : Jvm.MethodName)) ∈ lw_all := lw_g (lw_at lw_m8 91 rfl) rfl
theorem q1805 : (Jvm.Cond.selects "ShrinkYard" ({ cls := "ShrinkYard", name := "failingReductions", desc := "(Ljava/lang/String;)I" } : Jvm.MethodName) ({ cls := "ShrinkYard", name := "failingReductions", desc := "(Ljava/lang/String;)I" } : Jvm.MethodName)) ∈ lw_all := lw_g (lw_at lw_m8 92 rfl) rfl
theorem q1806 : (Jvm.Cond.code ({ cls := "ShrinkYard", name := "failingReductions", desc := "(Ljava/lang/String;)I" } : Jvm.MethodName) prog_5_method_42_code (8 : Nat) (Option.some Jvm.ClassFile.FieldType.int)) ∈ lw_all := lw_g (lw_at lw_m8 93 rfl) rfl
theorem q1811 : (Jvm.Cond.instanceMethod ({ cls := "ShrinkYard", name := "smallest", desc := "(II)Ljava/lang/String;" } : Jvm.MethodName)) ∈ lw_all := lw_g (lw_at lw_m8 98 rfl) rfl
theorem q1812 : (Jvm.Cond.selects "ShrinkYard" ({ cls := "ShrinkYard", name := "smallest", desc := "(II)Ljava/lang/String;" } : Jvm.MethodName) ({ cls := "ShrinkYard", name := "smallest", desc := "(II)Ljava/lang/String;" } : Jvm.MethodName)) ∈ lw_all := lw_g (lw_at lw_m8 99 rfl) rfl
theorem q1813 : (Jvm.Cond.code ({ cls := "ShrinkYard", name := "smallest", desc := "(II)Ljava/lang/String;" } : Jvm.MethodName) prog_5_method_44_code (5 : Nat) (Option.some (Jvm.ClassFile.FieldType.object "java/lang/String"))) ∈ lw_all := lw_g (lw_at lw_m8 100 rfl) rfl
theorem q1814 : (Jvm.Cond.methodLink "ShrinkYard" (315 : Nat) ({ cls := "ShrinkYard", name := "requireShort", desc := "(I)V" } : Jvm.MethodName)) ∈ lw_all := lw_g (lw_at lw_m8 101 rfl) rfl
theorem q1815 : (Jvm.Cond.static ({ cls := "ShrinkYard", name := "requireShort", desc := "(I)V" } : Jvm.MethodName)) ∈ lw_all := lw_g (lw_at lw_m8 102 rfl) rfl
theorem q1816 : (Jvm.Cond.code ({ cls := "ShrinkYard", name := "requireShort", desc := "(I)V" } : Jvm.MethodName) prog_5_method_43_code (1 : Nat) (Option.none : Option Jvm.ClassFile.FieldType)) ∈ lw_all := lw_g (lw_at lw_m8 103 rfl) rfl
theorem q1817 : (Jvm.Cond.methodLink "ShrinkYard" (318 : Nat) ({ cls := "ShrinkYard$Digits", name := "clear", desc := "(I)V" } : Jvm.MethodName)) ∈ lw_all := lw_g (lw_at lw_m8 104 rfl) rfl
theorem q1821 : (Jvm.Cond.methodLink "ShrinkYard" (320 : Nat) ({ cls := "ShrinkYard$Digits", name := "isNext", desc := "()Z" } : Jvm.MethodName)) ∈ lw_all := lw_g (lw_at lw_m8 108 rfl) rfl
theorem q1829 : (Jvm.Cond.instanceMethod ({ cls := "ShrinkYard", name := "count", desc := "(LVerdict;I)I" } : Jvm.MethodName)) ∈ lw_all := lw_g (lw_at lw_m8 116 rfl) rfl
theorem q1830 : (Jvm.Cond.selects "ShrinkYard" ({ cls := "ShrinkYard", name := "count", desc := "(LVerdict;I)I" } : Jvm.MethodName) ({ cls := "ShrinkYard", name := "count", desc := "(LVerdict;I)I" } : Jvm.MethodName)) ∈ lw_all := lw_g (lw_at lw_m8 117 rfl) rfl
theorem q1831 : (Jvm.Cond.code ({ cls := "ShrinkYard", name := "count", desc := "(LVerdict;I)I" } : Jvm.MethodName) prog_5_method_45_code (6 : Nat) (Option.some Jvm.ClassFile.FieldType.int)) ∈ lw_all := lw_g (lw_at lw_m8 118 rfl) rfl
theorem q1836 : (Jvm.Cond.instanceMethod ({ cls := "ShrinkYard", name := "reachable", desc := "(I)I" } : Jvm.MethodName)) ∈ lw_all := lw_g (lw_at lw_m8 123 rfl) rfl
theorem q1837 : (Jvm.Cond.selects "ShrinkYard" ({ cls := "ShrinkYard", name := "reachable", desc := "(I)I" } : Jvm.MethodName) ({ cls := "ShrinkYard", name := "reachable", desc := "(I)I" } : Jvm.MethodName)) ∈ lw_all := lw_g (lw_at lw_m8 124 rfl) rfl
theorem q1838 : (Jvm.Cond.code ({ cls := "ShrinkYard", name := "reachable", desc := "(I)I" } : Jvm.MethodName) prog_5_method_46_code (5 : Nat) (Option.some Jvm.ClassFile.FieldType.int)) ∈ lw_all := lw_g (lw_at lw_m8 125 rfl) rfl
theorem q1857 : (Jvm.Cond.instanceMethod ({ cls := "ShrinkYard", name := "keptShare", desc := "()F" } : Jvm.MethodName)) ∈ lw_all := lw_g (lw_at lw_m8 144 rfl) rfl
theorem q1858 : (Jvm.Cond.selects "ShrinkYard" ({ cls := "ShrinkYard", name := "keptShare", desc := "()F" } : Jvm.MethodName) ({ cls := "ShrinkYard", name := "keptShare", desc := "()F" } : Jvm.MethodName)) ∈ lw_all := lw_g (lw_at lw_m8 145 rfl) rfl
theorem q1859 : (Jvm.Cond.code ({ cls := "ShrinkYard", name := "keptShare", desc := "()F" } : Jvm.MethodName) prog_5_method_47_code (1 : Nat) (Option.some Jvm.ClassFile.FieldType.float)) ∈ lw_all := lw_g (lw_at lw_m8 146 rfl) rfl
theorem q1860 : (Jvm.Cond.methodLink "ShrinkYard" (323 : Nat) ({ cls := "ShrinkYard", name := "requireSome", desc := "(I)V" } : Jvm.MethodName)) ∈ lw_all := lw_g (lw_at lw_m8 147 rfl) rfl
theorem q1861 : (Jvm.Cond.static ({ cls := "ShrinkYard", name := "requireSome", desc := "(I)V" } : Jvm.MethodName)) ∈ lw_all := lw_g (lw_at lw_m8 148 rfl) rfl
theorem q1862 : (Jvm.Cond.code ({ cls := "ShrinkYard", name := "requireSome", desc := "(I)V" } : Jvm.MethodName) prog_5_method_6_code (1 : Nat) (Option.none : Option Jvm.ClassFile.FieldType)) ∈ lw_all := lw_g (lw_at lw_m8 149 rfl) rfl
theorem q1863 : (Jvm.Cond.classLink "ShrinkYard" (18 : Nat) "java/lang/ArithmeticException") ∈ lw_all := lw_g (lw_at lw_m8 150 rfl) rfl
theorem q1864 : (Jvm.Cond.methodLink "ShrinkYard" (20 : Nat) ({ cls := "java/lang/ArithmeticException", name := "<init>", desc := "()V" } : Jvm.MethodName)) ∈ lw_all := lw_g (lw_at lw_m8 151 rfl) rfl
theorem q1872 : (Jvm.Cond.instanceMethod ({ cls := "ShrinkYard", name := "meanShrunk", desc := "()D" } : Jvm.MethodName)) ∈ lw_all := lw_g (lw_at lw_m8 159 rfl) rfl
theorem q1873 : (Jvm.Cond.selects "ShrinkYard" ({ cls := "ShrinkYard", name := "meanShrunk", desc := "()D" } : Jvm.MethodName) ({ cls := "ShrinkYard", name := "meanShrunk", desc := "()D" } : Jvm.MethodName)) ∈ lw_all := lw_g (lw_at lw_m8 160 rfl) rfl
theorem q1874 : (Jvm.Cond.code ({ cls := "ShrinkYard", name := "meanShrunk", desc := "()D" } : Jvm.MethodName) prog_5_method_48_code (4 : Nat) (Option.some Jvm.ClassFile.FieldType.double)) ∈ lw_all := lw_g (lw_at lw_m8 161 rfl) rfl
theorem q1875 : (Jvm.Cond.methodLink "ShrinkYard" (326 : Nat) ({ cls := "Finding", name := "shrunk", desc := "()Ljava/lang/String;" } : Jvm.MethodName)) ∈ lw_all := lw_g (lw_at lw_m8 162 rfl) rfl
theorem q2238 : (Jvm.Cond.castable "ShrinkYard" "java/lang/Object") ∈ lw_tbl := lw_at lw_m10 45 rfl
theorem in_X1 : ∀ w ∈ wsX10, w ∈ lw_all := lw_in wsX10 [365, 367, 369, 371, 373, 375, 377, 379, 381, 383, 385] (by decide +kernel) (by decide +kernel)
