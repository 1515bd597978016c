/-! ShrinkYard: require.., kind, hasKinds, requireInput, firstSymbol *
-/
set_option maxRecDepth 100000
/-- 0 for a digit, 1 for a symbol, 2 for any other sign -/
def kKind (c : Nat) : Nat := if 48 ≤ c ∧ c ≤ 55 then 0 else if 65 ≤ c ∧ c ≤ 68 then 1 else 2
def kHas (t : List Nat) (g : Nat) : Bool := t.all (fun c => decide (kKind c ≤ g))
theorem kHas_take {t : List Nat} {g i : Nat} (h : i < t.length) : kHas (t.take (i + 1)) g = (kHas (t.take i) g && decide (kKind (t.getD i 0) ≤ g)) := by
  unfold kHas
  rw [List.take_add_one, List.all_append, List.getElem?_eq_getElem h, List.getD_eq_getElem?_getD, List.getElem?_eq_getElem h]
  simp
theorem k_sw0 : ∀ c, c < 56 → 48 ≤ c → (#[99, 99, 99, 99, 99, 99, 99, 99, 107, 107, 107, 107, 107, 107, 107, 107, 107, 103, 103, 103, 103] : Array Int)[((nI c).toInt - 48).toNat]? = some 99 := by decide +kernel
theorem k_sw1 : ∀ c, c < 69 → 65 ≤ c → (#[99, 99, 99, 99, 99, 99, 99, 99, 107, 107, 107, 107, 107, 107, 107, 107, 107, 103, 103, 103, 103] : Array Int)[((nI c).toInt - 48).toNat]? = some 103 := by decide +kernel
theorem k_sw2 : ∀ c, c < 65 → 56 ≤ c → (#[99, 99, 99, 99, 99, 99, 99, 99, 107, 107, 107, 107, 107, 107, 107, 107, 107, 103, 103, 103, 103] : Array Int)[((nI c).toInt - 48).toNat]? = some 107 := by decide +kernel
theorem kHas0 {t : List Nat} (h : kHas t 0 = true) : ∀ c ∈ t, 48 ≤ c ∧ c ≤ 55 := by
  intro c hc
  have := of_decide_eq_true (List.all_eq_true.mp h c hc)
  unfold kKind at this
  split at this
  · assumption
  · split at this <;> omega
/-- the place of the first sign that is no digit -/
def kFirst : List Nat → Nat
  | [] => 0
  | c :: t => if kKind c = 0 then kFirst t + 1 else 0
theorem kFirst_le : ∀ t : List Nat, kFirst t ≤ t.length
  | [] => Nat.le_refl _
  | c :: t => by unfold kFirst; have := kFirst_le t; split <;> simp <;> omega
theorem kFirst_drop {t : List Nat} {i : Nat} (h : i < t.length) : kFirst (t.drop i) = if kKind (t.getD i 0) = 0 then kFirst (t.drop (i + 1)) + 1 else 0 := by
  rw [List.drop_eq_getElem_cons h, List.getD_eq_getElem?_getD, List.getElem?_eq_getElem h]
  rfl
set_option maxHeartbeats 4000000 in
set_option maxRecDepth 100000 in
/-- ShrinkYard.requireArgument -/
theorem mtX1_requireArgument (l : Launch) (hl9 : l.stackTraces = false) (D : va_G) (w : g_H) (sz : Nat) (z : Int32) : vx_Met l yX1_requireArgument (ws_ yX1_requireArgument cX1_requireArgument 1 none) ({ frames := 8, cells := 1, slots := 6, locals := 110 }) (g_Pc D [.int (z)] w sz) (g_Qv D w sz (fun u => z ≠ 0 ∧ w = u)) (g_XC D w sz (fun E u => E = "java/lang/IllegalArgumentException" ∧ z = 0 ∧ w = u)) (1) (6) (g_A w sz) := by
  refine vx_ofW (cc := cX1_requireArgument) (maxL := 1) (ret := none) (by decide) rfl ?_
  intro p e s m args below meth c s₁ B hml hhand hv
  have hout : ∀ pc : Nat, ∀ x ∈ c.exceptionTable.toList, covers x pc = false := fun _ x hx => (hhand x hx).elim
  obtain ⟨rfl, hI⟩ := hv
  have hx := B.exec
  have hb := B.bytes
  have hr := B.returns
  have hts := atoms_spec (ws := ws_ yX1_requireArgument cX1_requireArgument 1 none) B.pre
  have hts : ∀ w ∈ lw_all, w.before _ s = true := fun w h => hts w (List.mem_cons_of_mem _ h)
  have hown : s.vm.findClass RX1 = some m.cls := findClass_of_methodNamed B.named
  have hlocks := B.notSynchronized
  have hsz := hI.1
  subst hsz
  have hW := g_W.start hI
  have hK := g_K hI
  have hE := g_E hI
  have hl := lv_entry ([.int (z)]) (n := 1) (by exact Nat.le_of_ble_eq_true rfl)
  rw [lg_entry_eq]
  generalize (lg_sl ([.int (z)]) ++ List.replicate (1 - (lg_sl ([.int (z)])).length) Slot.unset).toArray = ls at hl ⊢
  have hl : lv_has ls 1 [(0, .int (z))] := hl
  refine lv_iload_n hx hb dX1_requireArgument_0 rfl (lv_at hl 0 rfl) ?_
  refine lv_if_ne (tgt := 12) hx hb dX1_requireArgument_1 (by decide) (fun hc => ?_) (fun hc => ?_)
  · exact vx_ret (g_vret hx hb hr hlocks hW (⟨hc, rfl⟩) (by omega) (by omega) dX1_requireArgument_12)
  · refine vx_throw0 (names := ["java/lang/RuntimeException", "java/lang/Exception"]) (A := g_A w s.heap.size) hx hb hl9 hown (by decide +kernel) (by decide +kernel) (hts _ q576) (hts _ q55) (g_hat1 hts hE) (by decide +kernel) hE.un hE.su hW.2.2.1 (hl.1.trans hml.symm) dX1_requireArgument_4 dX1_requireArgument_7 dX1_requireArgument_8 dX1_requireArgument_11 (hout _) (Nat.le_of_ble_eq_true rfl) (Nat.le_of_ble_eq_true rfl) ?_ ?_ hlocks (g_xmade hW (⟨rfl, (by first | exact hc | exact Classical.not_not.mp hc), rfl⟩)) hW.2.2.1.2.2 ?_ ?_
    · (try simp only [headSpec]); omega
    · (try simp only [headSpec]); omega
    · (try simp only [headSpec]); omega
    · (try simp only [headSpec]); omega
set_option maxHeartbeats 4000000 in
set_option maxRecDepth 100000 in
/-- ShrinkYard.requireState -/
theorem mtX1_requireState (l : Launch) (hl9 : l.stackTraces = false) (D : va_G) (w : g_H) (sz : Nat) (z : Int32) : vx_Met l yX1_requireState (ws_ yX1_requireState cX1_requireState 1 none) ({ frames := 8, cells := 1, slots := 6, locals := 110 }) (g_Pc D [.int (z)] w sz) (g_Qv D w sz (fun u => z ≠ 0 ∧ w = u)) (g_XC D w sz (fun E u => E = "java/lang/IllegalStateException" ∧ z = 0 ∧ w = u)) (1) (6) (g_A w sz) := by
  refine vx_ofW (cc := cX1_requireState) (maxL := 1) (ret := none) (by decide) rfl ?_
  intro p e s m args below meth c s₁ B hml hhand hv
  have hout : ∀ pc : Nat, ∀ x ∈ c.exceptionTable.toList, covers x pc = false := fun _ x hx => (hhand x hx).elim
  obtain ⟨rfl, hI⟩ := hv
  have hx := B.exec
  have hb := B.bytes
  have hr := B.returns
  have hts := atoms_spec (ws := ws_ yX1_requireState cX1_requireState 1 none) B.pre
  have hts : ∀ w ∈ lw_all, w.before _ s = true := fun w h => hts w (List.mem_cons_of_mem _ h)
  have hown : s.vm.findClass RX1 = some m.cls := findClass_of_methodNamed B.named
  have hlocks := B.notSynchronized
  have hsz := hI.1
  subst hsz
  have hW := g_W.start hI
  have hK := g_K hI
  have hE := g_E hI
  have hl := lv_entry ([.int (z)]) (n := 1) (by exact Nat.le_of_ble_eq_true rfl)
  rw [lg_entry_eq]
  generalize (lg_sl ([.int (z)]) ++ List.replicate (1 - (lg_sl ([.int (z)])).length) Slot.unset).toArray = ls at hl ⊢
  have hl : lv_has ls 1 [(0, .int (z))] := hl
  refine lv_iload_n hx hb dX1_requireState_0 rfl (lv_at hl 0 rfl) ?_
  refine lv_if_ne (tgt := 12) hx hb dX1_requireState_1 (by decide) (fun hc => ?_) (fun hc => ?_)
  · exact vx_ret (g_vret hx hb hr hlocks hW (⟨hc, rfl⟩) (by omega) (by omega) dX1_requireState_12)
  · refine vx_throw0 (names := ["java/lang/RuntimeException", "java/lang/Exception"]) (A := g_A w s.heap.size) hx hb hl9 hown (by decide +kernel) (by decide +kernel) (hts _ q647) (hts _ q56) (g_hat2 hts hE) (by decide +kernel) hE.un hE.su hW.2.2.1 (hl.1.trans hml.symm) dX1_requireState_4 dX1_requireState_7 dX1_requireState_8 dX1_requireState_11 (hout _) (Nat.le_of_ble_eq_true rfl) (Nat.le_of_ble_eq_true rfl) ?_ ?_ hlocks (g_xmade hW (⟨rfl, (by first | exact hc | exact Classical.not_not.mp hc), rfl⟩)) hW.2.2.1.2.2 ?_ ?_
    · (try simp only [headSpec]); omega
    · (try simp only [headSpec]); omega
    · (try simp only [headSpec]); omega
    · (try simp only [headSpec]); omega
set_option maxHeartbeats 4000000 in
set_option maxRecDepth 100000 in
/-- ShrinkYard.requireElement -/
theorem mtX1_requireElement (l : Launch) (hl9 : l.stackTraces = false) (D : va_G) (w : g_H) (sz : Nat) (z : Int32) : vx_Met l yX1_requireElement (ws_ yX1_requireElement cX1_requireElement 1 none) ({ frames := 8, cells := 1, slots := 6, locals := 110 }) (g_Pc D [.int (z)] w sz) (g_Qv D w sz (fun u => z ≠ 0 ∧ w = u)) (g_XC D w sz (fun E u => E = "java/util/NoSuchElementException" ∧ z = 0 ∧ w = u)) (1) (6) (g_A w sz) := by
  refine vx_ofW (cc := cX1_requireElement) (maxL := 1) (ret := none) (by decide) rfl ?_
  intro p e s m args below meth c s₁ B hml hhand hv
  have hout : ∀ pc : Nat, ∀ x ∈ c.exceptionTable.toList, covers x pc = false := fun _ x hx => (hhand x hx).elim
  obtain ⟨rfl, hI⟩ := hv
  have hx := B.exec
  have hb := B.bytes
  have hr := B.returns
  have hts := atoms_spec (ws := ws_ yX1_requireElement cX1_requireElement 1 none) B.pre
  have hts : ∀ w ∈ lw_all, w.before _ s = true := fun w h => hts w (List.mem_cons_of_mem _ h)
  have hown : s.vm.findClass RX1 = some m.cls := findClass_of_methodNamed B.named
  have hlocks := B.notSynchronized
  have hsz := hI.1
  subst hsz
  have hW := g_W.start hI
  have hK := g_K hI
  have hE := g_E hI
  have hl := lv_entry ([.int (z)]) (n := 1) (by exact Nat.le_of_ble_eq_true rfl)
  rw [lg_entry_eq]
  generalize (lg_sl ([.int (z)]) ++ List.replicate (1 - (lg_sl ([.int (z)])).length) Slot.unset).toArray = ls at hl ⊢
  have hl : lv_has ls 1 [(0, .int (z))] := hl
  refine lv_iload_n hx hb dX1_requireElement_0 rfl (lv_at hl 0 rfl) ?_
  refine lv_if_ne (tgt := 12) hx hb dX1_requireElement_1 (by decide) (fun hc => ?_) (fun hc => ?_)
  · exact vx_ret (g_vret hx hb hr hlocks hW (⟨hc, rfl⟩) (by omega) (by omega) dX1_requireElement_12)
  · refine vx_throw0 (names := ["java/lang/RuntimeException", "java/lang/Exception"]) (A := g_A w s.heap.size) hx hb hl9 hown (by decide +kernel) (by decide +kernel) (hts _ q1092) (hts _ q73) (g_hat5 hts hE) (by decide +kernel) hE.un hE.su hW.2.2.1 (hl.1.trans hml.symm) dX1_requireElement_4 dX1_requireElement_7 dX1_requireElement_8 dX1_requireElement_11 (hout _) (Nat.le_of_ble_eq_true rfl) (Nat.le_of_ble_eq_true rfl) ?_ ?_ hlocks (g_xmade hW (⟨rfl, (by first | exact hc | exact Classical.not_not.mp hc), rfl⟩)) hW.2.2.1.2.2 ?_ ?_
    · (try simp only [headSpec]); omega
    · (try simp only [headSpec]); omega
    · (try simp only [headSpec]); omega
    · (try simp only [headSpec]); omega
set_option maxHeartbeats 4000000 in
set_option maxRecDepth 100000 in
/-- ShrinkYard.requireSome -/
theorem mtX1_requireSome (l : Launch) (hl9 : l.stackTraces = false) (D : va_G) (w : g_H) (sz : Nat) (z : Int32) : vx_Met l yX1_requireSome (ws_ yX1_requireSome cX1_requireSome 1 none) ({ frames := 8, cells := 1, slots := 6, locals := 110 }) (g_Pc D [.int (z)] w sz) (g_Qv D w sz (fun u => z ≠ 0 ∧ w = u)) (g_XC D w sz (fun E u => E = "java/lang/ArithmeticException" ∧ z = 0 ∧ w = u)) (1) (6) (g_A w sz) := by
  refine vx_ofW (cc := cX1_requireSome) (maxL := 1) (ret := none) (by decide) rfl ?_
  intro p e s m args below meth c s₁ B hml hhand hv
  have hout : ∀ pc : Nat, ∀ x ∈ c.exceptionTable.toList, covers x pc = false := fun _ x hx => (hhand x hx).elim
  obtain ⟨rfl, hI⟩ := hv
  have hx := B.exec
  have hb := B.bytes
  have hr := B.returns
  have hts := atoms_spec (ws := ws_ yX1_requireSome cX1_requireSome 1 none) B.pre
  have hts : ∀ w ∈ lw_all, w.before _ s = true := fun w h => hts w (List.mem_cons_of_mem _ h)
  have hown : s.vm.findClass RX1 = some m.cls := findClass_of_methodNamed B.named
  have hlocks := B.notSynchronized
  have hsz := hI.1
  subst hsz
  have hW := g_W.start hI
  have hK := g_K hI
  have hE := g_E hI
  have hl := lv_entry ([.int (z)]) (n := 1) (by exact Nat.le_of_ble_eq_true rfl)
  rw [lg_entry_eq]
  generalize (lg_sl ([.int (z)]) ++ List.replicate (1 - (lg_sl ([.int (z)])).length) Slot.unset).toArray = ls at hl ⊢
  have hl : lv_has ls 1 [(0, .int (z))] := hl
  refine lv_iload_n hx hb dX1_requireSome_0 rfl (lv_at hl 0 rfl) ?_
  refine lv_if_ne (tgt := 12) hx hb dX1_requireSome_1 (by decide) (fun hc => ?_) (fun hc => ?_)
  · exact vx_ret (g_vret hx hb hr hlocks hW (⟨hc, rfl⟩) (by omega) (by omega) dX1_requireSome_12)
  · refine vx_throw0 (names := ["java/lang/RuntimeException", "java/lang/Exception"]) (A := g_A w s.heap.size) hx hb hl9 hown (by decide +kernel) (by decide +kernel) (hts _ q1863) (hts _ q85) (g_hat0 hts hE) (by decide +kernel) hE.un hE.su hW.2.2.1 (hl.1.trans hml.symm) dX1_requireSome_4 dX1_requireSome_7 dX1_requireSome_8 dX1_requireSome_11 (hout _) (Nat.le_of_ble_eq_true rfl) (Nat.le_of_ble_eq_true rfl) ?_ ?_ hlocks (g_xmade hW (⟨rfl, (by first | exact hc | exact Classical.not_not.mp hc), rfl⟩)) hW.2.2.1.2.2 ?_ ?_
    · (try simp only [headSpec]); omega
    · (try simp only [headSpec]); omega
    · (try simp only [headSpec]); omega
    · (try simp only [headSpec]); omega
set_option maxHeartbeats 4000000 in
set_option maxRecDepth 100000 in
/-- ShrinkYard.requireIndex -/
theorem mtX1_requireIndex (l : Launch) (hl9 : l.stackTraces = false) (D : va_G) (w : g_H) (sz : Nat) (i9 n9 : Int32) : vx_Met l yX1_requireIndex (ws_ yX1_requireIndex cX1_requireIndex 2 none) ({ frames := 8, cells := 1, slots := 6, locals := 110 }) (g_Pc D [.int (i9), .int (n9)] w sz) (g_Qv D w sz (fun u => (¬ i9 < 0 ∧ i9 < n9) ∧ w = u)) (g_XC D w sz (fun E u => E = "java/lang/IndexOutOfBoundsException" ∧ ¬ (¬ i9 < 0 ∧ i9 < n9) ∧ w = u)) (1) (6) (g_A w sz) := by
  refine vx_ofW (cc := cX1_requireIndex) (maxL := 2) (ret := none) (by decide) rfl ?_
  intro p e s m args below meth c s₁ B hml hhand hv
  have hout : ∀ pc : Nat, ∀ x ∈ c.exceptionTable.toList, covers x pc = false := fun _ x hx => (hhand x hx).elim
  obtain ⟨rfl, hI⟩ := hv
  have hx := B.exec
  have hb := B.bytes
  have hr := B.returns
  have hts := atoms_spec (ws := ws_ yX1_requireIndex cX1_requireIndex 2 none) B.pre
  have hts : ∀ w ∈ lw_all, w.before _ s = true := fun w h => hts w (List.mem_cons_of_mem _ h)
  have hown : s.vm.findClass RX1 = some m.cls := findClass_of_methodNamed B.named
  have hlocks := B.notSynchronized
  have hsz := hI.1
  subst hsz
  have hW := g_W.start hI
  have hK := g_K hI
  have hE := g_E hI
  have hl := lv_entry ([.int (i9), .int (n9)]) (n := 2) (by exact Nat.le_of_ble_eq_true rfl)
  rw [lg_entry_eq]
  generalize (lg_sl ([.int (i9), .int (n9)]) ++ List.replicate (2 - (lg_sl ([.int (i9), .int (n9)])).length) Slot.unset).toArray = ls at hl ⊢
  have hl : lv_has ls 2 [(0, .int (i9)), (1, .int (n9))] := hl
  refine lv_iload_n hx hb dX1_requireIndex_0 rfl (lv_at hl 0 rfl) ?_
  refine lv_if_lt (tgt := 9) hx hb dX1_requireIndex_1 (by decide) (fun hc => ?_) (fun hc => ?_)
  · refine vx_throw0 (names := ["java/lang/RuntimeException", "java/lang/Exception"]) (A := g_A w s.heap.size) hx hb hl9 hown (by decide +kernel) (by decide +kernel) (hts _ q1731) (hts _ q68) (g_hat3 hts hE) (by decide +kernel) hE.un hE.su hW.2.2.1 (hl.1.trans hml.symm) dX1_requireIndex_9 dX1_requireIndex_12 dX1_requireIndex_13 dX1_requireIndex_16 (hout _) (Nat.le_of_ble_eq_true rfl) (Nat.le_of_ble_eq_true rfl) ?_ ?_ hlocks (g_xmade hW (⟨rfl, fun z => z.1 hc, rfl⟩)) hW.2.2.1.2.2 ?_ ?_
    · (try simp only [headSpec]); omega
    · (try simp only [headSpec]); omega
    · (try simp only [headSpec]); omega
    · (try simp only [headSpec]); omega
  · refine lv_iload_n hx hb dX1_requireIndex_4 rfl (lv_at hl 0 rfl) ?_
    refine lv_iload_n hx hb dX1_requireIndex_5 rfl (lv_at hl 1 rfl) ?_
    refine lv_icmp_lt (tgt := 17) hx hb dX1_requireIndex_6 (by decide) (fun hd => ?_) (fun hd => ?_)
    · exact vx_ret (g_vret hx hb hr hlocks hW (⟨⟨hc, hd⟩, rfl⟩) (by omega) (by omega) dX1_requireIndex_17)
    · refine vx_throw0 (names := ["java/lang/RuntimeException", "java/lang/Exception"]) (A := g_A w s.heap.size) hx hb hl9 hown (by decide +kernel) (by decide +kernel) (hts _ q1731) (hts _ q68) (g_hat3 hts hE) (by decide +kernel) hE.un hE.su hW.2.2.1 (hl.1.trans hml.symm) dX1_requireIndex_9 dX1_requireIndex_12 dX1_requireIndex_13 dX1_requireIndex_16 (hout _) (Nat.le_of_ble_eq_true rfl) (Nat.le_of_ble_eq_true rfl) ?_ ?_ hlocks (g_xmade hW (⟨rfl, fun z => hd z.2, rfl⟩)) hW.2.2.1.2.2 ?_ ?_
      · (try simp only [headSpec]); omega
      · (try simp only [headSpec]); omega
      · (try simp only [headSpec]); omega
      · (try simp only [headSpec]); omega
set_option maxHeartbeats 4000000 in
set_option maxRecDepth 100000 in
/-- ShrinkYard.kind -/
theorem mtX1_kind (l : Launch) (D : va_G) (w : g_H) (sz : Nat) (c9 : Nat) (hc9 : c9 < 65536) : Met l yX1_kind (ws_ yX1_kind cX1_kind 1 (some .int)) ({ frames := 1, cells := 0, slots := 0, locals := 12 }) (g_Pc D [.int (nI c9)] w sz) (g_Qi D w sz (fun r u => r = nI (kKind c9) ∧ w = u)) (0) (0) (g_A w sz) := by
  refine Met.ofW (cc := cX1_kind) (maxL := 1) (ret := (some .int)) (by decide) rfl ?_
  intro p e s m args below meth c s₁ B hml hv
  obtain ⟨rfl, hI⟩ := hv
  have hx := B.exec
  have hb := B.bytes
  have hr := B.returns
  have hts := atoms_spec (ws := ws_ yX1_kind cX1_kind 1 (some .int)) B.pre
  have hts : ∀ w ∈ lw_all, w.before _ s = true := fun w h => hts w (List.mem_cons_of_mem _ h)
  have hown : s.vm.findClass RX1 = some m.cls := findClass_of_methodNamed B.named
  have hlocks := B.notSynchronized
  have hsz := hI.1
  subst hsz
  have hW := g_W.start hI
  have hK := g_K hI
  have hE := g_E hI
  have hl := lv_entry ([.int (nI c9)]) (n := 1) (by exact Nat.le_of_ble_eq_true rfl)
  rw [lg_entry_eq]
  generalize (lg_sl ([.int (nI c9)]) ++ List.replicate (1 - (lg_sl ([.int (nI c9)])).length) Slot.unset).toArray = ls at hl ⊢
  have hl : lv_has ls 1 [(0, .int (nI c9))] := hl
  have hti := nI_toInt (n := c9) (by omega)
  refine lv_iload_n hx hb dX1_kind_0 rfl (lv_at hl 0 rfl) ?_
  by_cases hr9 : 48 ≤ c9 ∧ c9 ≤ 55
  · have e : kKind c9 = 0 := if_pos hr9
    rw [e]
    refine lv_tableIn (off := 99) (tgt := 100) hx hb dX1_kind_1 (by rw [hti]; omega) (by rw [hti]; omega) (k_sw0 c9 (by omega) hr9.1) (by decide) ?_
    refine lv_iconst (v := 0) hx hb dX1_kind_100 (by decide) ?_
    refine lv_goto (tgt := 109) hx hb dX1_kind_101 (by decide) ?_
    exact g_iret (v := 0) hx hb hr hlocks hW (⟨rfl, rfl⟩) (by omega) (by omega) dX1_kind_109
  · by_cases hr8 : 65 ≤ c9 ∧ c9 ≤ 68
    · have e : kKind c9 = 1 := by unfold kKind; rw [if_neg hr9, if_pos hr8]
      rw [e]
      refine lv_tableIn (off := 103) (tgt := 104) hx hb dX1_kind_1 (by rw [hti]; omega) (by rw [hti]; omega) (k_sw1 c9 (by omega) hr8.1) (by decide) ?_
      refine lv_iconst (v := 1) hx hb dX1_kind_104 (by decide) ?_
      refine lv_goto (tgt := 109) hx hb dX1_kind_105 (by decide) ?_
      exact g_iret (v := 1) hx hb hr hlocks hW (⟨rfl, rfl⟩) (by omega) (by omega) dX1_kind_109
    · have e : kKind c9 = 2 := by unfold kKind; rw [if_neg hr9, if_neg hr8]
      rw [e]
      by_cases hm : 48 ≤ c9 ∧ c9 ≤ 68
      · refine lv_tableIn (off := 107) (tgt := 108) hx hb dX1_kind_1 (by rw [hti]; omega) (by rw [hti]; omega) (k_sw2 c9 (by omega) (by omega)) (by decide) ?_
        refine lv_iconst (v := 2) hx hb dX1_kind_108 (by decide) ?_
        exact g_iret (v := 2) hx hb hr hlocks hW (⟨rfl, rfl⟩) (by omega) (by omega) dX1_kind_109
      · refine lv_tableOut (tgt := 108) hx hb dX1_kind_1 (by rw [hti]; omega) (by decide) ?_
        refine lv_iconst (v := 2) hx hb dX1_kind_108 (by decide) ?_
        exact g_iret (v := 2) hx hb hr hlocks hW (⟨rfl, rfl⟩) (by omega) (by omega) dX1_kind_109
set_option maxHeartbeats 4000000 in
set_option maxRecDepth 100000 in
/-- ShrinkYard.hasKinds: its loop -/
theorem lpX1_hasKinds {p : Program} {l : Launch} {e : Env} {R : Room} {s : State} {m : MethodId} {args : Array Value} {below : List Frame} {meth : Method} {c : Code} {cells slots : Nat} {Q : State → Prop} {D : va_G} {A : Nat → Prop} (hx : p.tables.exec = Jvm.exec) (hb : c.code = cX1_hasKinds) (hts : ∀ w ∈ lw_all, w.before args s = true) (hown : s.vm.findClass RX1 = some m.cls) (hK : va_K D gCl (gT D) s) (hE : g_Env D A s) (hml : c.maxLocals = 4) (hRf : 5 ≤ R.frames) (hRl : 97 ≤ R.locals) (hRc : cells ≤ R.cells) (hRs : slots ≤ R.slots) (w : g_H) (st g : Nat) (t : List Nat) (hst : g_Str D w st t) (hg : g < 3)
    (kk : ∀ (H : Heap) (locs : List Loc) (ls : Array Slot), g_W D A s.heap H locs w → lv_has ls 4 [(2, .int (if kHas t g = true then 1 else 0))] → W p l e R s m args below meth c H locs cells slots Q (F0 m 38 ls [])) :
    ∀ (k : Nat) (i : Nat) (H : Heap) (locs : List Loc) (ls : Array Slot), t.length < i + k → i ≤ t.length → g_W D A s.heap H locs w → lv_has ls 4 [(3, .int (nI i)), (2, .int ((if kHas (t.take i) g = true then 1 else 0))), (0, .ref st), (1, .int (nI g))] → W p l e R s m args below meth c H locs cells slots Q (F0 m 4 ls []) := by
  intro k
  induction k with
  | zero => intro i H locs ls hfuel hi hW hl; exact absurd hfuel (by omega)
  | succ k ih =>
    intro i H locs ls hfuel hi hW hl
    have hl1 := hst.1.1
    obtain ⟨v, hr1, hb1⟩ := hst.rd hts hK hE hW
    refine lv_iload_n hx hb dX1_hasKinds_4 rfl (lv_at hl 0 rfl) ?_
    refine lv_aload_n hx hb dX1_hasKinds_5 rfl (lv_at hl 2 rfl) ?_
    refine g_calli (va_runV (As := []) (rest := [.int (nI i)]) ⟨hx, hb, hml, hown, hts⟩ (mtJ16_length l D w H.size st t hst) (cwV 0 hts (lw_V q739 q740 q741 q63 q742) rfl rfl rfl (by decide +kernel) ⟨Nat.le_trans (Nat.le_of_ble_eq_true rfl) hRf, Nat.le_trans (Nat.le_of_ble_eq_true rfl) hRl⟩) (g_preVR hW hK hE hr1.2.2.2) rfl rfl hl.1 rfl (lv_room (Nat.le_of_ble_eq_true rfl)) dX1_hasKinds_6 ⟨hRc, hRs⟩) hW (fun r_ u_ H locs hp hW => ?_)
    obtain ⟨er, rfl⟩ := hp
    subst er
    refine g_icmp_ge (tgt := 38) hx hb (by omega) (by omega) dX1_hasKinds_9 (by decide) (fun hc => ?_) (fun hc => ?_)
    · have e0 : i = t.length := by omega
      subst e0
      rw [List.take_length] at hl
      exact kk H locs ls hW (lv_sub hl [1] rfl)
    · refine lv_iload_n hx hb dX1_hasKinds_12 rfl (lv_at hl 1 rfl) ?_
      refine lv_aload_n hx hb dX1_hasKinds_13 rfl (lv_at hl 2 rfl) ?_
      refine lv_iload_n hx hb dX1_hasKinds_14 rfl (lv_at hl 0 rfl) ?_
      obtain ⟨v, hr1, hb1⟩ := hst.rd hts hK hE hW
      refine g_calli (va_runV (As := [.int (nI i)]) (rest := [.int ((if kHas (t.take i) g = true then 1 else 0))]) ⟨hx, hb, hml, hown, hts⟩ (mtJ16_charAt l D w H.size st i t hst hc) (cwV 1 hts (lw_V q749 q750 q751 q63 q752) rfl rfl rfl (by decide +kernel) ⟨Nat.le_trans (Nat.le_of_ble_eq_true rfl) hRf, Nat.le_trans (Nat.le_of_ble_eq_true rfl) hRl⟩) (g_preVR hW hK hE hr1.2.2.2) rfl rfl hl.1 rfl (lv_room (Nat.le_of_ble_eq_true rfl)) dX1_hasKinds_15 ⟨hRc, hRs⟩) hW (fun r_ u_ H locs hp hW => ?_)
      obtain ⟨er, rfl⟩ := hp
      subst er
      have hch := hst.1.lt (j := i)
      refine g_calli (va_runS (As := [.int (nI (t.getD i 0))]) (rest := [.int ((if kHas (t.take i) g = true then 1 else 0))]) ⟨hx, hb, hml, hown, hts⟩ (mtX1_kind l D w H.size (t.getD i 0) (by omega)) (va_cwS 1 hts (lw_S q733 q734 q34 q735) rfl rfl rfl (by decide +kernel) ⟨Nat.le_trans (Nat.le_of_ble_eq_true rfl) hRf, Nat.le_trans (Nat.le_of_ble_eq_true rfl) hRl⟩) (g_preS hW hK hE) rfl rfl hl.1 rfl (lv_room (Nat.le_of_ble_eq_true rfl)) dX1_hasKinds_18 ⟨hRc, hRs⟩) hW (fun r_ u_ H locs hp hW => ?_)
      obtain ⟨er, rfl⟩ := hp
      subst er
      have hk3 : kKind (t.getD i 0) < 3 := by unfold kKind; split; omega; split <;> omega
      refine lv_iload_n hx hb dX1_hasKinds_21 rfl (lv_at hl 3 rfl) ?_
      refine g_icmp_gt (x := kKind (t.getD i 0)) (y := g) (tgt := 29) hx hb (by omega) (by omega) dX1_hasKinds_22 (by decide) (fun hq => ?_) (fun hq => ?_)
      · refine lv_iconst (v := 0) hx hb dX1_hasKinds_29 (by decide) ?_
        refine lv_iand hx hb dX1_hasKinds_30 ?_
        refine g_topi (y := (if kHas (t.take (i + 1)) g = true then 1 else 0)) (by rw [kHas_take hc, decide_eq_false (by omega)]; cases kHas (t.take i) g <;> rfl) ?_
        refine lv_istore_n (lv' := [(2, .int ((if kHas (t.take (i + 1)) g = true then 1 else 0))), (3, .int (nI i)), (0, .ref st), (1, .int (nI g))]) hx hb dX1_hasKinds_31 rfl hl (by decide) rfl (fun ls hl => ?_)
        refine lv_iinc (v := nI (i + 1)) (lv' := [(3, .int (nI (i + 1))), (2, .int ((if kHas (t.take (i + 1)) g = true then 1 else 0))), (0, .ref st), (1, .int (nI g))]) hx hb dX1_hasKinds_32 hl (k := 1) rfl (nI_1 i) (by decide) rfl (fun ls hl => ?_)
        refine lv_goto (tgt := 4) hx hb dX1_hasKinds_35 (by decide) ?_
        exact ih (i + 1) H locs ls (by omega) (by omega) hW hl
      · refine lv_iconst (v := 1) hx hb dX1_hasKinds_25 (by decide) ?_
        refine lv_goto (tgt := 30) hx hb dX1_hasKinds_26 (by decide) ?_
        refine lv_iand hx hb dX1_hasKinds_30 ?_
        refine g_topi (y := (if kHas (t.take (i + 1)) g = true then 1 else 0)) (by rw [kHas_take hc, decide_eq_true hq]; cases kHas (t.take i) g <;> rfl) ?_
        refine lv_istore_n (lv' := [(2, .int ((if kHas (t.take (i + 1)) g = true then 1 else 0))), (3, .int (nI i)), (0, .ref st), (1, .int (nI g))]) hx hb dX1_hasKinds_31 rfl hl (by decide) rfl (fun ls hl => ?_)
        refine lv_iinc (v := nI (i + 1)) (lv' := [(3, .int (nI (i + 1))), (2, .int ((if kHas (t.take (i + 1)) g = true then 1 else 0))), (0, .ref st), (1, .int (nI g))]) hx hb dX1_hasKinds_32 hl (k := 1) rfl (nI_1 i) (by decide) rfl (fun ls hl => ?_)
        refine lv_goto (tgt := 4) hx hb dX1_hasKinds_35 (by decide) ?_
        exact ih (i + 1) H locs ls (by omega) (by omega) hW hl
set_option maxHeartbeats 4000000 in
set_option maxRecDepth 100000 in
/-- ShrinkYard.hasKinds -/
theorem mtX1_hasKinds (l : Launch) (D : va_G) (w : g_H) (sz : Nat) (st g : Nat) (t : List Nat) (hst : g_Str D w st t) (hg : g < 3) : Met l yX1_hasKinds (ws_ yX1_hasKinds cX1_hasKinds 4 (some .boolean)) ({ frames := 5, cells := 0, slots := 0, locals := 97 }) (g_Pc D [.ref st, .int (nI g)] w sz) (g_Qi D w sz (fun r u => r = (if kHas t g = true then 1 else 0) ∧ w = u)) (0) (0) (g_A w sz) := by
  refine Met.ofW (cc := cX1_hasKinds) (maxL := 4) (ret := (some .boolean)) (by decide) rfl ?_
  intro p e s m args below meth c s₁ B hml hv
  obtain ⟨rfl, hI⟩ := hv
  have hx := B.exec
  have hb := B.bytes
  have hr := B.returns
  have hts := atoms_spec (ws := ws_ yX1_hasKinds cX1_hasKinds 4 (some .boolean)) B.pre
  have hts : ∀ w ∈ lw_all, w.before _ s = true := fun w h => hts w (List.mem_cons_of_mem _ h)
  have hown : s.vm.findClass RX1 = some m.cls := findClass_of_methodNamed B.named
  have hlocks := B.notSynchronized
  have hsz := hI.1
  subst hsz
  have hW := g_W.start hI
  have hK := g_K hI
  have hE := g_E hI
  have hl := lv_entry ([.ref st, .int (nI g)]) (n := 4) (by exact Nat.le_of_ble_eq_true rfl)
  rw [lg_entry_eq]
  generalize (lg_sl ([.ref st, .int (nI g)]) ++ List.replicate (4 - (lg_sl ([.ref st, .int (nI g)])).length) Slot.unset).toArray = ls at hl ⊢
  have hl : lv_has ls 4 [(0, .ref st), (1, .int (nI g))] := hl
  refine lv_iconst (v := 1) hx hb dX1_hasKinds_0 (by decide) ?_
  refine lv_istore_n (lv' := [(2, .int (1)), (0, .ref st), (1, .int (nI g))]) hx hb dX1_hasKinds_1 rfl hl (by decide) rfl (fun ls hl => ?_)
  refine lv_iconst (v := 0) hx hb dX1_hasKinds_2 (by decide) ?_
  refine lv_istore_n (lv' := [(3, .int (0)), (2, .int (1)), (0, .ref st), (1, .int (nI g))]) hx hb dX1_hasKinds_3 rfl hl (by decide) rfl (fun ls hl => ?_)
  refine lpX1_hasKinds (D := D) hx hb hts hown hK hE hml (Nat.le_of_ble_eq_true rfl) (Nat.le_of_ble_eq_true rfl) ?_ ?_ w st g t hst hg (fun H locs ls hW hl => ?_) (t.length + 1) 0 _ _ ls (by omega) (by omega) hW hl
  · (try simp only [headSpec]); omega
  · (try simp only [headSpec]); omega
  refine lv_iload_n hx hb dX1_hasKinds_38 rfl (lv_at hl 0 rfl) ?_
  by_cases hq : kHas t g = true
  · rw [if_pos hq]
    exact g_zret (v := 1) hx hb hr hlocks (by rfl) hW (⟨rfl, rfl⟩) (by omega) (by omega) dX1_hasKinds_39
  · rw [if_neg hq]
    exact g_zret (v := 0) hx hb hr hlocks (by rfl) hW (⟨rfl, rfl⟩) (by omega) (by omega) dX1_hasKinds_39
set_option maxHeartbeats 4000000 in
set_option maxRecDepth 100000 in
/-- ShrinkYard.requireShort -/
theorem mtX1_requireShort (l : Launch) (hl9 : l.stackTraces = false) (D : va_G) (w : g_H) (sz : Nat) (n9 : Int32) : vx_Met l yX1_requireShort (ws_ yX1_requireShort cX1_requireShort 1 none) ({ frames := 9, cells := 1, slots := 6, locals := 130 }) (g_Pc D [.int (n9)] w sz) (g_Qv D w sz (fun u => (0 ≤ n9 ∧ n9 ≤ 3) ∧ w = u)) (g_XC D w sz (fun E u => E = "java/lang/IllegalArgumentException" ∧ ¬ (0 ≤ n9 ∧ n9 ≤ 3) ∧ w = u)) (1) (6) (g_A w sz) := by
  refine vx_ofW (cc := cX1_requireShort) (maxL := 1) (ret := none) (by decide) rfl ?_
  intro p e s m args below meth c s₁ B hml hhand hv
  have hout : ∀ pc : Nat, ∀ x ∈ c.exceptionTable.toList, covers x pc = false := fun _ x hx => (hhand x hx).elim
  obtain ⟨rfl, hI⟩ := hv
  have hx := B.exec
  have hb := B.bytes
  have hr := B.returns
  have hts := atoms_spec (ws := ws_ yX1_requireShort cX1_requireShort 1 none) B.pre
  have hts : ∀ w ∈ lw_all, w.before _ s = true := fun w h => hts w (List.mem_cons_of_mem _ h)
  have hown : s.vm.findClass RX1 = some m.cls := findClass_of_methodNamed B.named
  have hlocks := B.notSynchronized
  have hsz := hI.1
  subst hsz
  have hW := g_W.start hI
  have hK := g_K hI
  have hE := g_E hI
  have hl := lv_entry ([.int (n9)]) (n := 1) (by exact Nat.le_of_ble_eq_true rfl)
  rw [lg_entry_eq]
  generalize (lg_sl ([.int (n9)]) ++ List.replicate (1 - (lg_sl ([.int (n9)])).length) Slot.unset).toArray = ls at hl ⊢
  have hl : lv_has ls 1 [(0, .int (n9))] := hl
  refine lv_iload_n hx hb dX1_requireShort_0 rfl (lv_at hl 0 rfl) ?_
  refine lv_iconst (v := 0) hx hb dX1_requireShort_1 (by decide) ?_
  refine lv_iconst (v := 3) hx hb dX1_requireShort_2 (by decide) ?_
  refine g_calli (va_runS (As := [.int (n9), .int (0), .int (3)]) (rest := []) ⟨hx, hb, hml, hown, hts⟩ (mtX1_isIn l D w s.heap.size n9 0 3) (va_cwS 3 hts (lw_S q562 q563 q34 q564) rfl rfl rfl (by decide +kernel) ⟨Nat.le_of_ble_eq_true rfl, Nat.le_of_ble_eq_true rfl⟩) (g_preS hW hK hE) rfl rfl hl.1 rfl (lv_room (Nat.le_of_ble_eq_true rfl)) dX1_requireShort_3 ⟨?_, ?_⟩) hW (fun r_ u_ H locs hp hW => ?_)
  · (try simp only [headSpec]); omega
  · (try simp only [headSpec]); omega
  obtain ⟨er, rfl⟩ := hp
  subst er
  by_cases hq : 0 ≤ n9 ∧ n9 ≤ 3
  · rw [if_pos hq]
    refine g_xcallv (vx_runS (As := [.int (1)]) (rest := []) ⟨hx, hb, hml, hown, hts⟩ (mtX1_requireArgument l hl9 D w H.size 1) (va_cwS 1 hts (lw_S q573 q574 q34 q575) rfl rfl rfl (by decide +kernel) ⟨Nat.le_of_ble_eq_true rfl, Nat.le_of_ble_eq_true rfl⟩) (g_preS hW hK hE) rfl rfl hl.1 rfl (lv_room (Nat.le_of_ble_eq_true rfl)) dX1_requireShort_6 ⟨?_, ?_⟩) hW (fun E ce q9 u_ H locs hp hW hx1 hx2 hx3 => g_xout (hout _) hlocks hW (absurd hp.2.1 (by decide)) hx1 hx2 hx3 ?_ ?_) (fun u_ H locs hp hW => ?_)
    · (try simp only [headSpec]); omega
    · (try simp only [headSpec]); omega
    · (try simp only [headSpec]); omega
    · (try simp only [headSpec]); omega
    exact vx_ret (g_vret hx hb hr hlocks hW (⟨hq, hp.2⟩) (by omega) (by omega) dX1_requireShort_9)
  · rw [if_neg hq]
    refine g_xcallv (vx_runS (As := [.int (0)]) (rest := []) ⟨hx, hb, hml, hown, hts⟩ (mtX1_requireArgument l hl9 D w H.size 0) (va_cwS 1 hts (lw_S q573 q574 q34 q575) rfl rfl rfl (by decide +kernel) ⟨Nat.le_of_ble_eq_true rfl, Nat.le_of_ble_eq_true rfl⟩) (g_preS hW hK hE) rfl rfl hl.1 rfl (lv_room (Nat.le_of_ble_eq_true rfl)) dX1_requireShort_6 ⟨?_, ?_⟩) hW (fun E ce q9 u_ H locs hp hW hx1 hx2 hx3 => g_xout (hout _) hlocks hW (⟨hp.1, hq, hp.2.2⟩) hx1 hx2 hx3 ?_ ?_) (fun u_ H locs hp hW => ?_)
    · (try simp only [headSpec]); omega
    · (try simp only [headSpec]); omega
    · (try simp only [headSpec]); omega
    · (try simp only [headSpec]); omega
    exact absurd rfl hp.1
set_option maxHeartbeats 4000000 in
set_option maxRecDepth 100000 in
/-- ShrinkYard.requireInput -/
theorem mtX1_requireInput (l : Launch) (hl9 : l.stackTraces = false) (D : va_G) (w : g_H) (sz : Nat) (st : Nat) (t : List Nat) (hst : g_Str D w st t) : vx_Met l yX1_requireInput (ws_ yX1_requireInput cX1_requireInput 2 (some (.object "ShrinkYard$Digits"))) ({ frames := 9, cells := 3, slots := 16, locals := 130 }) (g_Pc D [.ref st] w sz) (g_Qq D w sz (fun r u => (t.length ≤ 8 ∧ kHas t 0 = true) ∧ ∃ d da, r = some d ∧ d ∉ w.1 ∧ da ∉ w.1 ∧ g_Dig D u d da (t.map (fun x => x - 48)) ∧ g_ex (fun _ => False) w u)) (g_XC D w sz (fun E u => E = "java/lang/IllegalArgumentException" ∧ ¬ (t.length ≤ 8 ∧ kHas t 0 = true) ∧ w = u)) (3) (16) (g_A w sz) := by
  refine vx_ofW (cc := cX1_requireInput) (maxL := 2) (ret := (some (.object "ShrinkYard$Digits"))) (by decide) rfl ?_
  intro p e s m args below meth c s₁ B hml hhand hv
  have hout : ∀ pc : Nat, ∀ x ∈ c.exceptionTable.toList, covers x pc = false := fun _ x hx => (hhand x hx).elim
  obtain ⟨rfl, hI⟩ := hv
  have hx := B.exec
  have hb := B.bytes
  have hr := B.returns
  have hts := atoms_spec (ws := ws_ yX1_requireInput cX1_requireInput 2 (some (.object "ShrinkYard$Digits"))) B.pre
  have hts : ∀ w ∈ lw_all, w.before _ s = true := fun w h => hts w (List.mem_cons_of_mem _ h)
  have hown : s.vm.findClass RX1 = some m.cls := findClass_of_methodNamed B.named
  have hlocks := B.notSynchronized
  have hsz := hI.1
  subst hsz
  have hW := g_W.start hI
  have hK := g_K hI
  have hE := g_E hI
  have hl := lv_entry ([.ref st]) (n := 2) (by exact Nat.le_of_ble_eq_true rfl)
  rw [lg_entry_eq]
  generalize (lg_sl ([.ref st]) ++ List.replicate (2 - (lg_sl ([.ref st])).length) Slot.unset).toArray = ls at hl ⊢
  have hl : lv_has ls 2 [(0, .ref st)] := hl
  have hl1 := hst.1.1
  obtain ⟨v, hr1, hb1⟩ := hst.rd hts hK hE hW
  refine lv_aload_n hx hb dX1_requireInput_0 rfl (lv_at hl 0 rfl) ?_
  refine g_calli (va_runV (As := []) (rest := []) ⟨hx, hb, hml, hown, hts⟩ (mtJ16_length l D w s.heap.size st t hst) (cwV 0 hts (lw_V q739 q740 q741 q63 q742) rfl rfl rfl (by decide +kernel) ⟨Nat.le_of_ble_eq_true rfl, Nat.le_of_ble_eq_true rfl⟩) (g_preVR hW hK hE hr1.2.2.2) rfl rfl hl.1 rfl (lv_room (Nat.le_of_ble_eq_true rfl)) dX1_requireInput_1 ⟨?_, ?_⟩) hW (fun r_ u_ H locs hp hW => ?_)
  · (try simp only [headSpec]); omega
  · (try simp only [headSpec]); omega
  obtain ⟨er, rfl⟩ := hp
  subst er
  refine lv_bipush (v := 8) hx hb dX1_requireInput_4 (by decide) ?_
  refine g_icmp_gt (x := t.length) (y := 8) (tgt := 21) hx hb (by omega) (by omega) dX1_requireInput_6 (by decide) (fun hc => ?_) (fun hc => ?_)
  · refine lv_iconst (v := 0) hx hb dX1_requireInput_21 (by decide) ?_
    refine g_xcallv (vx_runS (As := [.int (0)]) (rest := []) ⟨hx, hb, hml, hown, hts⟩ (mtX1_requireArgument l hl9 D w H.size 0) (va_cwS 1 hts (lw_S q573 q574 q34 q575) rfl rfl rfl (by decide +kernel) ⟨Nat.le_of_ble_eq_true rfl, Nat.le_of_ble_eq_true rfl⟩) (g_preS hW hK hE) rfl rfl hl.1 rfl (lv_room (Nat.le_of_ble_eq_true rfl)) dX1_requireInput_22 ⟨?_, ?_⟩) hW (fun E ce q9 u_ H locs hp hW hx1 hx2 hx3 => g_xout (hout _) hlocks hW (⟨hp.1, fun z => by omega, hp.2.2⟩) hx1 hx2 hx3 ?_ ?_) (fun u_ H locs hp hW => ?_)
    · (try simp only [headSpec]); omega
    · (try simp only [headSpec]); omega
    · (try simp only [headSpec]); omega
    · (try simp only [headSpec]); omega
    exact absurd rfl hp.1
  · refine lv_aload_n hx hb dX1_requireInput_9 rfl (lv_at hl 0 rfl) ?_
    refine lv_iconst (v := 0) hx hb dX1_requireInput_10 (by decide) ?_
    refine g_calli (va_runS (As := [.ref st, .int (0)]) (rest := []) ⟨hx, hb, hml, hown, hts⟩ (mtX1_hasKinds l D w H.size st 0 t hst (by decide)) (va_cwS 2 hts (lw_S q736 q737 q34 q738) rfl rfl rfl (by decide +kernel) ⟨Nat.le_of_ble_eq_true rfl, Nat.le_of_ble_eq_true rfl⟩) (g_preS hW hK hE) rfl rfl hl.1 rfl (lv_room (Nat.le_of_ble_eq_true rfl)) dX1_requireInput_11 ⟨?_, ?_⟩) hW (fun r_ u_ H locs hp hW => ?_)
    · (try simp only [headSpec]); omega
    · (try simp only [headSpec]); omega
    obtain ⟨er, rfl⟩ := hp
    subst er
    by_cases hkq : kHas t 0 = true
    · rw [if_pos hkq]
      refine lv_if_eq (tgt := 21) hx hb dX1_requireInput_14 (by decide) (fun hz => absurd hz (by decide)) (fun _ => ?_)
      refine lv_iconst (v := 1) hx hb dX1_requireInput_17 (by decide) ?_
      refine lv_goto (tgt := 22) hx hb dX1_requireInput_18 (by decide) ?_
      refine g_xcallv (vx_runS (As := [.int (1)]) (rest := []) ⟨hx, hb, hml, hown, hts⟩ (mtX1_requireArgument l hl9 D w H.size 1) (va_cwS 1 hts (lw_S q573 q574 q34 q575) rfl rfl rfl (by decide +kernel) ⟨Nat.le_of_ble_eq_true rfl, Nat.le_of_ble_eq_true rfl⟩) (g_preS hW hK hE) rfl rfl hl.1 rfl (lv_room (Nat.le_of_ble_eq_true rfl)) dX1_requireInput_22 ⟨?_, ?_⟩) hW (fun E ce q9 u_ H locs hp hW hx1 hx2 hx3 => g_xout (hout _) hlocks hW (absurd hp.2.1 (by decide)) hx1 hx2 hx3 ?_ ?_) (fun u_ H locs hp hW => ?_)
      · (try simp only [headSpec]); omega
      · (try simp only [headSpec]); omega
      · (try simp only [headSpec]); omega
      · (try simp only [headSpec]); omega
      obtain ⟨-, rfl⟩ := hp
      have x_1 : g_ex (fun _ => False) w w := g_ex.rf
      refine g_newo (ci := 2) (C := RX11) (T := TX11) (N := 2) hx hb hts in_X11 tyX11 tyX11_ok hown q1156 q1157 q75 hK hW rfl [.null, .int (0)] (by decide +kernel) ?_ ?_ dX1_requireInput_25 (fun o_2 H hq hW => ?_)
      · show _ ≤ 3; omega
      · show _ ≤ 16; omega
      have ho_2 := hq
      obtain ⟨w_3, ew_3⟩ : ∃ z__, z__ = g_push w o_2 (.inr (2, [.null, .int (0)])) := ⟨_, rfl⟩
      have hW := g_W.ren hW ew_3 rfl
      have h_4 : g_at w_3 o_2 (.inr (2, [.null, .int (0)])) := by rw [ew_3]; exact g_at.push_self
      have x_5 : g_ex (fun _ => False) w w_3 := by rw [ew_3]; exact x_1.push hq
      refine lv_dup hx hb dX1_requireInput_28 rfl ?_
      refine g_callv (va_runIN (As := []) (rest := [.ref o_2]) ⟨hx, hb, hml, hown, hts⟩ (mtX11_init l D w_3 H.size o_2 h_4) ⟨(va_cnB 0 hts (lw_meth q1160) rfl rfl rfl (nm_q1158 hE) (hts _ q75) (by decide +kernel) ⟨Nat.le_of_ble_eq_true rfl, Nat.le_of_ble_eq_true rfl⟩), rfl, hts _ q1159⟩ (g_preS hW hK hE) rfl rfl hl.1 rfl (lv_room (Nat.le_of_ble_eq_true rfl)) dX1_requireInput_29 ⟨?_, ?_⟩) hW (fun u1 H locs hp hW => ?_)
      · (try simp only [headSpec]); omega
      · (try simp only [headSpec]); omega
      obtain ⟨da, hda, hd1, hex1⟩ := hp
      have hx1 : g_ex (fun _ => False) w u1 := x_5.trM hex1 (fun z hz1 hz2 => ho_2 (hz2 ▸ hz1))
      have hst1 : g_Str D u1 st t := hst.ex hx1 (fun _ _ z => z.elim)
      refine lv_astore_n (lv' := [(1, .ref o_2), (0, .ref st)]) hx hb dX1_requireInput_32 rfl hl (by decide) rfl (fun ls hl => ?_)
      refine lv_aload_n hx hb dX1_requireInput_33 rfl (lv_at hl 0 rfl) ?_
      refine lv_aload_n hx hb dX1_requireInput_34 rfl (lv_at hl 1 rfl) ?_
      obtain ⟨hd2, ⟨f9, hf9, -⟩, -⟩ := hd1
      refine g_callv (va_runV (As := [.ref st]) (rest := []) ⟨hx, hb, hml, hown, hts⟩ (mtX11_read l D u1 H.size o_2 da ([] : List Nat).length st f9 t hd2 hf9 hst1 hc (fun x hx => (kHas0 hkq x hx).1)) (cwV 1 hts (lw_V q1177 q1178 q1179 q75 q1180) rfl rfl rfl (by decide +kernel) ⟨Nat.le_of_ble_eq_true rfl, Nat.le_of_ble_eq_true rfl⟩) (g_preV hW hK hE hd2 rfl) rfl rfl hl.1 rfl (lv_room (Nat.le_of_ble_eq_true rfl)) dX1_requireInput_35 ⟨?_, ?_⟩) hW (fun u2 H locs hp hW => ?_)
      · (try simp only [headSpec]); omega
      · (try simp only [headSpec]); omega
      obtain ⟨hd3, hex2⟩ := hp
      refine lv_aload_n hx hb dX1_requireInput_38 rfl (lv_at hl 0 rfl) ?_
      exact vx_ret (g_qret (v := some o_2) hx hb hr (Or.inl ⟨_, rfl⟩) hlocks hW (⟨⟨hc, hkq⟩, o_2, da, rfl, ho_2, (fun z => hda (x_5.1 _ z)), hd3, hx1.trM hex2 (fun z hz1 hz2 => hz2.elim (fun z9 => ho_2 (z9 ▸ hz1)) (fun z9 => hda (x_5.1 _ (z9 ▸ hz1))))⟩) (by omega) (by omega) dX1_requireInput_39)
    · rw [if_neg hkq]
      refine lv_if_eq (tgt := 21) hx hb dX1_requireInput_14 (by decide) (fun _ => ?_) (fun hz => absurd rfl hz)
      refine lv_iconst (v := 0) hx hb dX1_requireInput_21 (by decide) ?_
      refine g_xcallv (vx_runS (As := [.int (0)]) (rest := []) ⟨hx, hb, hml, hown, hts⟩ (mtX1_requireArgument l hl9 D w H.size 0) (va_cwS 1 hts (lw_S q573 q574 q34 q575) rfl rfl rfl (by decide +kernel) ⟨Nat.le_of_ble_eq_true rfl, Nat.le_of_ble_eq_true rfl⟩) (g_preS hW hK hE) rfl rfl hl.1 rfl (lv_room (Nat.le_of_ble_eq_true rfl)) dX1_requireInput_22 ⟨?_, ?_⟩) hW (fun E ce q9 u_ H locs hp hW hx1 hx2 hx3 => g_xout (hout _) hlocks hW (⟨hp.1, fun z => hkq z.2, hp.2.2⟩) hx1 hx2 hx3 ?_ ?_) (fun u_ H locs hp hW => ?_)
      · (try simp only [headSpec]); omega
      · (try simp only [headSpec]); omega
      · (try simp only [headSpec]); omega
      · (try simp only [headSpec]); omega
      exact absurd rfl hp.1
set_option maxHeartbeats 4000000 in
set_option maxRecDepth 100000 in
/-- ShrinkYard.firstSymbol: its loop -/
theorem lpX1_firstSymbol {p : Program} {l : Launch} {e : Env} {R : Room} {s : State} {m : MethodId} {args : Array Value} {below : List Frame} {meth : Method} {c : Code} {cells slots : Nat} {Q : State → Prop} {D : va_G} {A : Nat → Prop} (hx : p.tables.exec = Jvm.exec) (hb : c.code = cX1_firstSymbol) (hts : ∀ w ∈ lw_all, w.before args s = true) (hown : s.vm.findClass RX1 = some m.cls) (hK : va_K D gCl (gT D) s) (hE : g_Env D A s) (hml : c.maxLocals = 2) (hRf : 5 ≤ R.frames) (hRl : 97 ≤ R.locals) (hRc : cells ≤ R.cells) (hRs : slots ≤ R.slots) (w : g_H) (st : Nat) (t : List Nat) (hst : g_Str D w st t)
    (kk : ∀ (H : Heap) (locs : List Loc) (ls : Array Slot), g_W D A s.heap H locs w → lv_has ls 2 [(1, .int (nI (kFirst t)))] → W p l e R s m args below meth c H locs cells slots Q (F0 m 27 ls [])) :
    ∀ (k : Nat) (i : Nat) (H : Heap) (locs : List Loc) (ls : Array Slot), t.length < i + k → i ≤ t.length → kFirst t = i + kFirst (t.drop i) → g_W D A s.heap H locs w → lv_has ls 2 [(1, .int (nI i)), (0, .ref st)] → W p l e R s m args below meth c H locs cells slots Q (F0 m 2 ls []) := by
  intro k
  induction k with
  | zero => intro i H locs ls hfuel hi hf hW hl; exact absurd hfuel (by omega)
  | succ k ih =>
    intro i H locs ls hfuel hi hf hW hl
    have hl1 := hst.1.1
    obtain ⟨v, hr1, hb1⟩ := hst.rd hts hK hE hW
    refine lv_iload_n hx hb dX1_firstSymbol_2 rfl (lv_at hl 0 rfl) ?_
    refine lv_aload_n hx hb dX1_firstSymbol_3 rfl (lv_at hl 1 rfl) ?_
    refine g_calli (va_runV (As := []) (rest := [.int (nI i)]) ⟨hx, hb, hml, hown, hts⟩ (mtJ16_length l D w H.size st t hst) (cwV 0 hts (lw_V q739 q740 q741 q63 q742) rfl rfl rfl (by decide +kernel) ⟨Nat.le_trans (Nat.le_of_ble_eq_true rfl) hRf, Nat.le_trans (Nat.le_of_ble_eq_true rfl) hRl⟩) (g_preVR hW hK hE hr1.2.2.2) rfl rfl hl.1 rfl (lv_room (Nat.le_of_ble_eq_true rfl)) dX1_firstSymbol_4 ⟨hRc, hRs⟩) hW (fun r_ u_ H locs hp hW => ?_)
    obtain ⟨er, rfl⟩ := hp
    subst er
    refine g_icmp_ge (tgt := 27) hx hb (by omega) (by omega) dX1_firstSymbol_7 (by decide) (fun hc => ?_) (fun hc => ?_)
    · have e0 : kFirst t = i := by rw [hf, show t.drop i = [] from List.drop_eq_nil_of_le (by omega)]; rfl
      rw [← e0] at hl
      exact kk H locs ls hW (lv_sub hl [0] rfl)
    · refine lv_aload_n hx hb dX1_firstSymbol_10 rfl (lv_at hl 1 rfl) ?_
      refine lv_iload_n hx hb dX1_firstSymbol_11 rfl (lv_at hl 0 rfl) ?_
      obtain ⟨v, hr1, hb1⟩ := hst.rd hts hK hE hW
      refine g_calli (va_runV (As := [.int (nI i)]) (rest := []) ⟨hx, hb, hml, hown, hts⟩ (mtJ16_charAt l D w H.size st i t hst hc) (cwV 1 hts (lw_V q749 q750 q751 q63 q752) rfl rfl rfl (by decide +kernel) ⟨Nat.le_trans (Nat.le_of_ble_eq_true rfl) hRf, Nat.le_trans (Nat.le_of_ble_eq_true rfl) hRl⟩) (g_preVR hW hK hE hr1.2.2.2) rfl rfl hl.1 rfl (lv_room (Nat.le_of_ble_eq_true rfl)) dX1_firstSymbol_12 ⟨hRc, hRs⟩) hW (fun r_ u_ H locs hp hW => ?_)
      obtain ⟨er, rfl⟩ := hp
      subst er
      have hch := hst.1.lt (j := i)
      refine g_calli (va_runS (As := [.int (nI (t.getD i 0))]) (rest := []) ⟨hx, hb, hml, hown, hts⟩ (mtX1_kind l D w H.size (t.getD i 0) (by omega)) (va_cwS 1 hts (lw_S q733 q734 q34 q735) rfl rfl rfl (by decide +kernel) ⟨Nat.le_trans (Nat.le_of_ble_eq_true rfl) hRf, Nat.le_trans (Nat.le_of_ble_eq_true rfl) hRl⟩) (g_preS hW hK hE) rfl rfl hl.1 rfl (lv_room (Nat.le_of_ble_eq_true rfl)) dX1_firstSymbol_15 ⟨hRc, hRs⟩) hW (fun r_ u_ H locs hp hW => ?_)
      obtain ⟨er, rfl⟩ := hp
      subst er
      have hk3 : kKind (t.getD i 0) < 3 := by unfold kKind; split; omega; split <;> omega
      have hdr := kFirst_drop hc
      refine lv_if_ne (tgt := 27) hx hb dX1_firstSymbol_18 (by decide) (fun hq => ?_) (fun hq => ?_)
      · have hz : ¬ kKind (t.getD i 0) = 0 := fun z => hq (by rw [z]; rfl)
        rw [if_neg hz] at hdr
        have e0 : kFirst t = i := by omega
        rw [← e0] at hl
        exact kk H locs ls hW (lv_sub hl [0] rfl)
      · have hz : kKind (t.getD i 0) = 0 := nI_inj (b := 0) (by omega) (by decide) (by first | exact hq | exact Classical.not_not.mp hq)
        rw [if_pos hz] at hdr
        refine lv_iinc (v := nI (i + 1)) (lv' := [(1, .int (nI (i + 1))), (0, .ref st)]) hx hb dX1_firstSymbol_21 hl (k := 0) rfl (nI_1 i) (by decide) rfl (fun ls hl => ?_)
        refine lv_goto (tgt := 2) hx hb dX1_firstSymbol_24 (by decide) ?_
        exact ih (i + 1) H locs ls (by omega) (by omega) (by omega) hW hl
set_option maxHeartbeats 4000000 in
set_option maxRecDepth 100000 in
/-- ShrinkYard.firstSymbol -/
theorem mtX1_firstSymbol (l : Launch) (D : va_G) (w : g_H) (sz : Nat) (st : Nat) (t : List Nat) (hst : g_Str D w st t) : Met l yX1_firstSymbol (ws_ yX1_firstSymbol cX1_firstSymbol 2 (some .int)) ({ frames := 5, cells := 0, slots := 0, locals := 97 }) (g_Pc D [.ref st] w sz) (g_Qi D w sz (fun r u => r = nI (kFirst t) ∧ w = u)) (0) (0) (g_A w sz) := by
  refine Met.ofW (cc := cX1_firstSymbol) (maxL := 2) (ret := (some .int)) (by decide) rfl ?_
  intro p e s m args below meth c s₁ B hml hv
  obtain ⟨rfl, hI⟩ := hv
  have hx := B.exec
  have hb := B.bytes
  have hr := B.returns
  have hts := atoms_spec (ws := ws_ yX1_firstSymbol cX1_firstSymbol 2 (some .int)) B.pre
  have hts : ∀ w ∈ lw_all, w.before _ s = true := fun w h => hts w (List.mem_cons_of_mem _ h)
  have hown : s.vm.findClass RX1 = some m.cls := findClass_of_methodNamed B.named
  have hlocks := B.notSynchronized
  have hsz := hI.1
  subst hsz
  have hW := g_W.start hI
  have hK := g_K hI
  have hE := g_E hI
  have hl := lv_entry ([.ref st]) (n := 2) (by exact Nat.le_of_ble_eq_true rfl)
  rw [lg_entry_eq]
  generalize (lg_sl ([.ref st]) ++ List.replicate (2 - (lg_sl ([.ref st])).length) Slot.unset).toArray = ls at hl ⊢
  have hl : lv_has ls 2 [(0, .ref st)] := hl
  refine lv_iconst (v := 0) hx hb dX1_firstSymbol_0 (by decide) ?_
  refine lv_istore_n (lv' := [(1, .int (0)), (0, .ref st)]) hx hb dX1_firstSymbol_1 rfl hl (by decide) rfl (fun ls hl => ?_)
  refine lpX1_firstSymbol (D := D) hx hb hts hown hK hE hml (Nat.le_of_ble_eq_true rfl) (Nat.le_of_ble_eq_true rfl) ?_ ?_ w st t hst (fun H locs ls hW hl => ?_) (t.length + 1) 0 _ _ ls (by omega) (by omega) (by rw [List.drop_zero, Nat.zero_add]) hW hl
  · (try simp only [headSpec]); omega
  · (try simp only [headSpec]); omega
  refine lv_iload_n hx hb dX1_firstSymbol_27 rfl (lv_at hl 0 rfl) ?_
  exact g_iret (v := nI (kFirst t)) hx hb hr hlocks hW (⟨rfl, rfl⟩) (by omega) (by omega) dX1_firstSymbol_28
