/-! the environment at the law's entry: its parts *
-/
set_option maxRecDepth 100000
def eRs : List (String × Nat) := [("ShrinkYardLaw", 13), ("ShrinkYardLaw", 15), ("ShrinkYardLaw", 17), ("ShrinkYardLaw", 19), ("ShrinkYardLaw", 21), ("ShrinkYardLaw", 23), ("ShrinkYardLaw", 25), ("ShrinkYardLaw", 27), ("ShrinkYardLaw", 29), ("ShrinkYardLaw", 31), ("ShrinkYardLaw", 33), ("ShrinkYardLaw", 35), ("ShrinkYardLaw", 37), ("ShrinkYardLaw", 39), ("ShrinkYard", 160)]
def eTm (i : Nat) : Term := .string (eRs.getD i ("", 0)).1 (eRs.getD i ("", 0)).2
section ENV
variable {s : State} {b : Nat} {A : Nat → Prop}
theorem e_str (h : e_ok s b) (hA : ∀ a : Nat, a < s.heap.size → ¬ A a) : ∃ adK adV : Nat → Nat, vk_S 15 gLen gByt adK adV A s s.heap ∧ ∀ i : Nat, i < 15 → (eTm i).eval #[Value.ref b] s none [] s = some (.ref (adK i)) :=
  e_S (by decide +kernel) (fun i hi => e_n h ((by decide +kernel : ∀ i, i < 15 → Jvm.Cond.exactly (eTm i) "java/lang/String" ∈ flatC (Jvm.Cond.and given_1 narrow_1)) i hi))
    (fun i hi => e_n h ((by decide +kernel : ∀ i, i < 15 → Jvm.Cond.eq (.field (eTm i) "java/lang/String" "coder" "B") (.int 0) ∈ flatC (Jvm.Cond.and given_1 narrow_1)) i hi))
    (fun i hi => e_n h ((by decide +kernel : ∀ i, i < 15 → Jvm.Cond.arrayOf (.field (eTm i) "java/lang/String" "value" "[B") .byte ∈ flatC (Jvm.Cond.and given_1 narrow_1)) i hi))
    (fun i hi => e_n h ((by decide +kernel : ∀ i, i < 15 → Jvm.Cond.eq (.length (.field (eTm i) "java/lang/String" "value" "[B")) (.int (Int32.ofNat (gLen.getD i 0))) ∈ flatC (Jvm.Cond.and given_1 narrow_1)) i hi))
    (fun i hi j hj => e_n h ((by decide +kernel : ∀ i, i < 15 → ∀ j, j < gLen.getD i 0 → Jvm.Cond.eq (.elem (.field (eTm i) "java/lang/String" "value" "[B") (.int (Int32.ofNat j))) (.int ((gByt.getD i []).getD j 0)) ∈ flatC (Jvm.Cond.and given_1 narrow_1)) i hi j hj))
    (fun i j hi hj h1 h2 => (by decide +kernel : ∀ i, i < 15 → ∀ j, j < 15 → gLen.getD i 0 = gLen.getD j 0 → (∀ k, k < gLen.getD i 0 → (gByt.getD i []).getD k 0 = (gByt.getD j []).getD k 0) → i = j) i hi j hj h1 h2) hA
theorem e_rs (h : e_ok s b) {adK : Nat → Nat} (ha : ∀ i : Nat, i < 15 → (eTm i).eval #[Value.ref b] s none [] s = some (.ref (adK i))) : ∀ q ∈ gRs, vk_R q.1 q.2.1 q.2.2.1 (adK q.2.2.2) s :=
  List.forall_mem_cons.mpr ⟨vk_R.of (e_t h q488) (ha 0 (by decide)), List.forall_mem_cons.mpr ⟨vk_R.of (e_t h q489) (ha 1 (by decide)), List.forall_mem_cons.mpr ⟨vk_R.of (e_t h q490) (ha 2 (by decide)), List.forall_mem_cons.mpr ⟨vk_R.of (e_t h q491) (ha 3 (by decide)), List.forall_mem_cons.mpr ⟨vk_R.of (e_t h q492) (ha 4 (by decide)), List.forall_mem_cons.mpr ⟨vk_R.of (e_t h q493) (ha 5 (by decide)), List.forall_mem_cons.mpr ⟨vk_R.of (e_t h q494) (ha 6 (by decide)), List.forall_mem_cons.mpr ⟨vk_R.of (e_t h q495) (ha 7 (by decide)), List.forall_mem_cons.mpr ⟨vk_R.of (e_t h q496) (ha 8 (by decide)), List.forall_mem_cons.mpr ⟨vk_R.of (e_t h q497) (ha 9 (by decide)), List.forall_mem_cons.mpr ⟨vk_R.of (e_t h q498) (ha 10 (by decide)), List.forall_mem_cons.mpr ⟨vk_R.of (e_t h q499) (ha 11 (by decide)), List.forall_mem_cons.mpr ⟨vk_R.of (e_t h q500) (ha 12 (by decide)), List.forall_mem_cons.mpr ⟨vk_R.of (e_t h q501) (ha 13 (by decide)), List.forall_mem_cons.mpr ⟨vk_R.of (e_t h q1069) (ha 14 (by decide)), List.forall_mem_cons.mpr ⟨vk_R.of (e_t h q2013) (va_eqR (e_n h (by decide +kernel : Jvm.Cond.eq (.string "ShrinkYard" 160) (.string "ShrinkYardModel" 244) ∈ flatC (Jvm.Cond.and given_1 narrow_1))) (ha 14 (by decide))), List.forall_mem_cons.mpr ⟨vk_R.of (e_t h q2025) (va_eqR (e_n h (by decide +kernel : Jvm.Cond.eq (.string "ShrinkYardLaw" 13) (.string "ShrinkYardModel" 253) ∈ flatC (Jvm.Cond.and given_1 narrow_1))) (ha 0 (by decide))), fun _ h9 => absurd h9 List.not_mem_nil⟩⟩⟩⟩⟩⟩⟩⟩⟩⟩⟩⟩⟩⟩⟩⟩⟩
theorem e_op (h : e_ok s b) (hA : ∀ a : Nat, a < s.heap.size → ¬ A a) : ∃ ad : Nat → Nat, va_En "Op" "LOp;" ["READ", "SET", "ADD", "PLUS", "LESS", "SAME", "JUMP", "FAIL", "STOP"] [("java/lang/Enum", "ordinal", "I", [0, 1, 2, 3, 4, 5, 6, 7, 8])] ad A s s.heap :=
  e_En (fun i hi => match i, hi with
    | 0, _ => (e_t h q507)
    | 1, _ => (e_t h q509)
    | 2, _ => (e_t h q511)
    | 3, _ => (e_t h q513)
    | 4, _ => (e_t h q515)
    | 5, _ => (e_t h q517)
    | 6, _ => (e_t h q519)
    | 7, _ => (e_t h q521)
    | 8, _ => (e_t h q523)
    | n + 9, hi => absurd hi (by simp)) (e_t h (lw_all_tbl q51))
    (fun i hi => e_n h ((by decide +kernel : ∀ i, i < 9 → Jvm.Cond.exactly (.static "Op" ((["READ", "SET", "ADD", "PLUS", "LESS", "SAME", "JUMP", "FAIL", "STOP"] : List String).getD i "") "LOp;") "Op" ∈ flatC (Jvm.Cond.and given_1 narrow_1)) i hi))
    (fun q hq i hi => by rw [List.mem_singleton.mp hq]; exact e_n h ((by decide +kernel : ∀ i, i < 9 → Jvm.Cond.eq (.field (.static "Op" ((["READ", "SET", "ADD", "PLUS", "LESS", "SAME", "JUMP", "FAIL", "STOP"] : List String).getD i "") "LOp;") "java/lang/Enum" "ordinal" "I") (.int (([0, 1, 2, 3, 4, 5, 6, 7, 8] : List Int32).getD i 0)) ∈ flatC (Jvm.Cond.and given_1 narrow_1)) i hi))
    ⟨_, List.mem_singleton.mpr rfl, fun i j hi hj e => (by decide +kernel : ∀ i, i < 9 → ∀ j, j < 9 → ([0, 1, 2, 3, 4, 5, 6, 7, 8] : List Int32).getD i 0 = ([0, 1, 2, 3, 4, 5, 6, 7, 8] : List Int32).getD j 0 → i = j) i hi j hj e⟩ hA
theorem e_ver (h : e_ok s b) (hA : ∀ a : Nat, a < s.heap.size → ¬ A a) : ∃ ad : Nat → Nat, va_En "Verdict" "LVerdict;" ["PASSED", "FAILED", "HUNG"] [("java/lang/Enum", "ordinal", "I", [0, 1, 2])] ad A s s.heap :=
  e_En (fun i hi => match i, hi with
    | 0, _ => (e_t h q528)
    | 1, _ => (e_t h q530)
    | 2, _ => (e_t h q532)
    | n + 3, hi => absurd hi (by simp)) (e_t h (lw_all_tbl q76))
    (fun i hi => e_n h ((by decide +kernel : ∀ i, i < 3 → Jvm.Cond.exactly (.static "Verdict" ((["PASSED", "FAILED", "HUNG"] : List String).getD i "") "LVerdict;") "Verdict" ∈ flatC (Jvm.Cond.and given_1 narrow_1)) i hi))
    (fun q hq i hi => by rw [List.mem_singleton.mp hq]; exact e_n h ((by decide +kernel : ∀ i, i < 3 → Jvm.Cond.eq (.field (.static "Verdict" ((["PASSED", "FAILED", "HUNG"] : List String).getD i "") "LVerdict;") "java/lang/Enum" "ordinal" "I") (.int (([0, 1, 2] : List Int32).getD i 0)) ∈ flatC (Jvm.Cond.and given_1 narrow_1)) i hi))
    ⟨_, List.mem_singleton.mpr rfl, fun i j hi hj e => (by decide +kernel : ∀ i, i < 3 → ∀ j, j < 3 → ([0, 1, 2] : List Int32).getD i 0 = ([0, 1, 2] : List Int32).getD j 0 → i = j) i hi j hj e⟩ hA
theorem e_chg (h : e_ok s b) (hA : ∀ a : Nat, a < s.heap.size → ¬ A a) : ∃ ad : Nat → Nat, va_En "Change" "LChange;" ["REPLACE", "INSERT", "DELETE", "SWAP"] [("java/lang/Enum", "ordinal", "I", [0, 1, 2, 3])] ad A s s.heap :=
  e_En (fun i hi => match i, hi with
    | 0, _ => (e_t h q537)
    | 1, _ => (e_t h q539)
    | 2, _ => (e_t h q541)
    | 3, _ => (e_t h q543)
    | n + 4, hi => absurd hi (by simp)) (e_t h (lw_all_tbl q57))
    (fun i hi => e_n h ((by decide +kernel : ∀ i, i < 4 → Jvm.Cond.exactly (.static "Change" ((["REPLACE", "INSERT", "DELETE", "SWAP"] : List String).getD i "") "LChange;") "Change" ∈ flatC (Jvm.Cond.and given_1 narrow_1)) i hi))
    (fun q hq i hi => by rw [List.mem_singleton.mp hq]; exact e_n h ((by decide +kernel : ∀ i, i < 4 → Jvm.Cond.eq (.field (.static "Change" ((["REPLACE", "INSERT", "DELETE", "SWAP"] : List String).getD i "") "LChange;") "java/lang/Enum" "ordinal" "I") (.int (([0, 1, 2, 3] : List Int32).getD i 0)) ∈ flatC (Jvm.Cond.and given_1 narrow_1)) i hi))
    ⟨_, List.mem_singleton.mpr rfl, fun i j hi hj e => (by decide +kernel : ∀ i, i < 4 → ∀ j, j < 4 → ([0, 1, 2, 3] : List Int32).getD i 0 = ([0, 1, 2, 3] : List Int32).getD j 0 → i = j) i hi j hj e⟩ hA
theorem e_cs (h : e_ok s b) (hA : ∀ a : Nat, a < s.heap.size → ¬ A a) : va_Z "java/lang/String" "COMPACT_STRINGS" "Z" (.int 1) A s s.heap := va_Zof (e_t h q748) (e_t h (lw_all_tbl q63)) (va_eqt (e_n h (by decide +kernel : Jvm.Cond.eq (.static "java/lang/String" "COMPACT_STRINGS" "Z") (.int 1) ∈ flatC (Jvm.Cond.and given_1 narrow_1)))) hA
theorem e_bs (h : e_ok s b) (hA : ∀ a : Nat, a < s.heap.size → ¬ A a) : va_Z "java/util/BitSet" "$assertionsDisabled" "Z" (.int 1) A s s.heap := va_Zof (e_t h q1256) (e_t h (lw_all_tbl q39)) (va_eqt (e_n h (by decide +kernel : Jvm.Cond.eq (.static "java/util/BitSet" "$assertionsDisabled" "Z") (.int 1) ∈ flatC (Jvm.Cond.and given_1 narrow_1)))) hA
theorem e_si (h : e_ok s b) (hA : ∀ a : Nat, a < s.heap.size → ¬ A a) : va_Zq "jdk/internal/util/Preconditions" "SIOOBE_FORMATTER" "Ljava/util/function/BiFunction;" A s s.heap := va_Zqof (e_t h q764) (e_t h (lw_all_tbl q65)) (e_n h (by decide +kernel : Jvm.Cond.isRef (.static "jdk/internal/util/Preconditions" "SIOOBE_FORMATTER" "Ljava/util/function/BiFunction;") ∈ flatC (Jvm.Cond.and given_1 narrow_1))) hA
theorem e_un (h : e_ok s b) (hA : ∀ a : Nat, a < s.heap.size → ¬ A a) : vx_Zq "java/lang/Throwable" "UNASSIGNED_STACK" "[Ljava/lang/StackTraceElement;" A s s.heap := vx_Zqof (e_t h q603) (e_t h (lw_all_tbl q52)) (e_n h (by decide +kernel : Jvm.Cond.isRef (.static "java/lang/Throwable" "UNASSIGNED_STACK" "[Ljava/lang/StackTraceElement;") ∈ flatC (Jvm.Cond.and given_1 narrow_1))) hA
theorem e_su (h : e_ok s b) (hA : ∀ a : Nat, a < s.heap.size → ¬ A a) : vx_Zq "java/lang/Throwable" "SUPPRESSED_SENTINEL" "Ljava/util/List;" A s s.heap := vx_Zqof (e_t h q605) (e_t h (lw_all_tbl q52)) (e_n h (by decide +kernel : Jvm.Cond.isRef (.static "java/lang/Throwable" "SUPPRESSED_SENTINEL" "Ljava/util/List;") ∈ flatC (Jvm.Cond.and given_1 narrow_1))) hA
theorem e_em (h : e_ok s b) (hA : ∀ a : Nat, a < s.heap.size → ¬ A a) : ∃ t : Nat, va_Z "java/util/ArrayList" "DEFAULTCAPACITY_EMPTY_ELEMENTDATA" "[Ljava/lang/Object;" (.ref t) A s s.heap ∧ va_T (.object "java/lang/Object") t 0 (fun _ => .null) A s s.heap := by
  obtain ⟨t, ht, hT⟩ := va_Tof (N := 0) (f := fun _ => .null) (by decide) (e_n h (by decide +kernel : Jvm.Cond.arrayOf (.static "java/util/ArrayList" "DEFAULTCAPACITY_EMPTY_ELEMENTDATA" "[Ljava/lang/Object;") (.object "java/lang/Object") ∈ flatC (Jvm.Cond.and given_1 narrow_1))) (va_eqt (e_n h (by decide +kernel : Jvm.Cond.eq (.length (.static "java/util/ArrayList" "DEFAULTCAPACITY_EMPTY_ELEMENTDATA" "[Ljava/lang/Object;")) (.int 0) ∈ flatC (Jvm.Cond.and given_1 narrow_1)))) (fun j hj => absurd hj (Nat.not_lt_zero j)) hA
  exact ⟨t, va_Zref (e_t h q138) (e_t h (lw_all_tbl q37)) ht hA, hT⟩
theorem e_mi (h : e_ok s b) : ∃ mi : Nat, va_Mi "[Ljava/lang/Object;" mi s := va_Mi.of (e_n h (by decide +kernel : Jvm.Cond.isRef (.mirror "[Ljava/lang/Object;") ∈ flatC (Jvm.Cond.and given_1 narrow_1)))
theorem e_ao (h : e_ok s b) : va_AO "java/lang/Object" s := va_AO.of (e_t h q312)
theorem e_as (h : e_ok s b) : va_AO "java/lang/String" s := va_AO.of (e_t h q1883)
theorem e_gc (h : e_ok s b) : va_Dc s := va_Dc.of (e_t h q2271)
theorem e_sz (h : e_ok s b) : va_Nw (.declares yASz) s := va_Nw.of rfl (e_t h q1085)
end ENV
