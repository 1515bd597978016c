/-! java.util.BitSet. g_BS D w b wa E n cap: at b stands a BitSet with the members E, its words (cap of them, n in use) at wa -/
set_option maxRecDepth 100000
def g_bits (f : Nat → Int64) (cap : Nat) (E : Nat → Bool) : Prop := ∀ j, j < cap → ∀ i, i < 64 → (f j).toBitVec.getLsbD i = E (64 * j + i)
def g_BS (D : va_G) (w : g_H) (b wa : Nat) (E : Nat → Bool) (n cap : Nat) : Prop := g_at w b (.inr (14, [.ref wa, .int (nI n), .int 0])) ∧ (∃ f : Nat → Int64, g_at w wa (.inl (D.1 103, cap, .inr (.inl f))) ∧ g_bits f cap E) ∧ n ≤ cap ∧ 0 < cap ∧ (cap ≤ 8 ∧ n ≤ 5) ∧ ∀ x, 64 * n ≤ x → E x = false
theorem g_BS.ex {D : va_G} {M : Nat → Prop} {w w' : g_H} {b wa n cap : Nat} {E : Nat → Bool} (h : g_BS D w b wa E n cap) (k : g_ex M w w') (n1 : ¬ M b) (n2 : ¬ M wa) : g_BS D w' b wa E n cap := by
  obtain ⟨h1, ⟨f, h2, h3⟩, h4⟩ := h
  exact ⟨k.at h1 n1, ⟨f, k.at h2 n2, h3⟩, h4⟩
/-- the words behind a growth to q words, its cells and slots -/
def g_bn (q cap : Nat) : Nat := if cap < q then max (2 * cap) q else cap
def g_bc (q cap : Nat) : Nat := if cap < q then 1 else 0
def g_bs (q cap : Nat) : Nat := if cap < q then max (2 * cap) q else 0
theorem b_six : ∀ b, b < 320 → nI b >>> ((6 : Int32) &&& 31) = nI (b / 64) := by decide +kernel
theorem b_one : ∀ b, b < 320 → ((1 : Int64) <<< ((nI b).toInt64 &&& 63)).toBitVec = BitVec.twoPow 64 (b % 64) := by decide +kernel
theorem g_bits_set {f g : Nat → Int64} {cap b : Nat} {E : Nat → Bool} (h : g_bits f cap E) (hb : b < 320) (h1 : ∀ j, j ≠ b / 64 → g j = f j) (h2 : g (b / 64) = f (b / 64) ||| ((1 : Int64) <<< ((nI b).toInt64 &&& 63))) : g_bits g cap (fun x => x == b || E x) := by
  intro j hj i hi
  by_cases q : j = b / 64
  · subst q
    rw [h2, Int64.toBitVec_or, BitVec.getLsbD_or, b_one b hb, BitVec.getLsbD_twoPow, h _ hj i hi]
    by_cases r : b % 64 = i
    · have e : 64 * (b / 64) + i = b := by omega
      simp [r, e, hi]
    · have e : ¬ 64 * (b / 64) + i = b := by omega
      simp [r, e]
  · rw [h1 j q, h j hj i hi]
    have e : ¬ 64 * j + i = b := by omega
    simp [e]
theorem g_bits_get {f : Nat → Int64} {cap b : Nat} {E : Nat → Bool} (h : g_bits f cap E) (hb : b < 320) (hj : b / 64 < cap) : (f (b / 64) &&& ((1 : Int64) <<< ((nI b).toInt64 &&& 63))) = 0 ↔ E b = false := by
  have e : 64 * (b / 64) + b % 64 = b := by omega
  have k := h _ hj (b % 64) (Nat.mod_lt _ (by decide))
  rw [e] at k
  rw [← k, ← Int64.toBitVec_inj, Int64.toBitVec_and, b_one b hb, BitVec.and_twoPow]
  cases q : (f (b / 64)).toBitVec.getLsbD (b % 64)
  · simp
  · simp only [if_true, Bool.true_eq_false, iff_false]
    have : ∀ i, i < 64 → BitVec.twoPow 64 i ≠ (0 : Int64).toBitVec := by decide +kernel
    exact this _ (Nat.mod_lt _ (by decide))
section GL
variable {p : Program} {l : Launch} {e : Env} {R : Room} {s : State} {m : MethodId} {args : Array Value} {below : List Frame} {meth : Method} {c : Code} {H : Heap} {locs : List Loc} {cells slots : Nat} {Q : State → Prop}
variable {cc : ByteArray} {pc : Nat} {ls : Array Slot} {rest : List Value} {D : va_G} {A : Nat → Prop} {a : Nat} {w : g_H} {H0 : Heap}
theorem g_laldN (hx : p.tables.exec = Jvm.exec) (hb : c.code = cc) (hK : va_K D gCl (gT D) s) (hW : g_W D A H0 H locs w) {n i : Nat} {f : Nat → Int64} (he : g_at w a (.inl (D.1 103, n, .inr (.inl f)))) (hi : i < n) (hn : n < 2 ^ 31) (hdg : decode cc pc = .ok (.laload, 1))
    (kk : W p l e R s m args below meth c H locs cells slots Q (F0 m (pc + 1) ls (.long (f i) :: rest))) : W p l e R s m args below meth c H locs cells slots Q (F0 m pc ls (.int (nI i) :: .ref a :: rest)) :=
  g_lald hx hb hK hW he (vp_in_nI hi hn) hdg (by rw [nI_clamp (by omega)]; exact kk)
theorem g_lastN (hx : p.tables.exec = Jvm.exec) (hb : c.code = cc) (hK : va_K D gCl (gT D) s) (hW : g_W D A H0 H locs w) {n i : Nat} {f : Nat → Int64} (he : g_at w a (.inl (D.1 103, n, .inr (.inl f)))) (hi : i < n) (hn : n < 2 ^ 31) {x : Int64} (hdg : decode cc pc = .ok (.lastore, 1))
    (kk : ∀ (H1 : Heap) (locs1 : List Loc), g_W D A H0 H1 locs1 (g_put w a (.inl (D.1 103, n, .inr (.inl (vp_updL f i x))))) → W p l e R s m args below meth c H1 locs1 cells slots Q (F0 m (pc + 1) ls rest)) : W p l e R s m args below meth c H locs cells slots Q (F0 m pc ls (.long x :: .int (nI i) :: .ref a :: rest)) :=
  g_last hx hb hK hW he (vp_in_nI hi hn) hdg (by rw [nI_clamp (by omega)]; exact kk)
/-- System.arraycopy of longs between two arrays of the world -/
theorem g_copyl (hx : p.tables.exec = Jvm.exec) (hb : c.code = cc) (hml : c.maxLocals = ls.size) {own : String} {index : Nat} (hts : ∀ w ∈ lw_all, w.before args s = true) (hown : s.vm.findClass own = some m.cls) (hlink : Cond.methodLink own index arraycopyName ∈ lw_all) (hK : va_K D gCl (gT D) s) (hW : g_W D A H0 H locs w) {a0 n0 n1 : Nat} {f g : Nat → Int64} (h0 : g_at w a0 (.inl (D.1 103, n0, .inr (.inl f)))) (h1 : g_at w a (.inl (D.1 103, n1, .inr (.inl g)))) (sp dp n : Nat) (hn : sp + n ≤ n0) (hn' : dp + n ≤ n1) (hs : n0 < 2 ^ 31) (hs' : n1 < 2 ^ 31) (hframes : 1 ≤ R.frames) (hlocals : (rest.map fun v => v.category).sum + (nativeFrameWords "java/lang/System" "arraycopy" 5 + 11) ≤ R.locals) (hdg : decode cc pc = .ok (.invokestatic index, 3))
    (kk : ∀ (H1 : Heap) (locs1 : List Loc), g_W D A H0 H1 locs1 (g_put w a (.inl (D.1 103, n1, .inr (.inl (va_cpy f g sp dp n))))) → W p l e R s m args below meth c H1 locs1 cells slots Q (F0 m (pc + 3) ls rest)) : W p l e R s m args below meth c H locs cells slots Q (F0 m pc ls (.int (nI n) :: .int (nI dp) :: .ref a :: .int (nI sp) :: .ref a0 :: rest)) := by
  obtain ⟨q0, k0⟩ := hW.get h0
  obtain ⟨q1, k1⟩ := hW.get h1
  have e1 : (nI sp).toNatClampNeg = sp := nI_clamp (by omega)
  have e2 : (nI dp).toNatClampNeg = dp := nI_clamp (by omega)
  have e3 : (nI n).toNatClampNeg = n := nI_clamp (by omega)
  refine va_copyl hx hb hml hown (hts _ hlink) (hts _ q319) (hts _ q318) (hts _ q45) hK hW.1 hW.2.1 hW.2.2.1 q0 q1 3 3 k0 k1 rfl rfl rfl (nI_pos (by omega)) (nI_pos (by omega)) (nI_pos (by omega)) (by rw [e1, e3]; exact hn) (by rw [e2, e3]; exact hn') (fun i hi => rfl) hframes hlocals hdg (fun H1 locs1 z1 z2 z3 => kk H1 locs1 ?_)
  rw [e1, e2, e3, g_set hW.2.1 h1 k1] at z1 z2
  exact ⟨z1, z2, z3, hW.2.2.2⟩
end GL
theorem vl_s {f : Nat → Int64} {i : Nat} {x : Int64} : vp_updL f i x i = x := by simp [vp_updL]
theorem vl_n {f : Nat → Int64} {i j : Nat} {x : Int64} (h : j ≠ i) : vp_updL f i x j = f j := by simp [vp_updL, h]
set_option maxHeartbeats 4000000 in
set_option maxRecDepth 100000 in
/-- BitSet.wordIndex -/
theorem mtJ3_wordIndex (l : Launch) (D : va_G) (w : g_H) (sz : Nat) (x : Nat) (hx9 : x < 320) : Met l yJ3_wordIndex (ws_ yJ3_wordIndex cJ3_wordIndex 1 (some .int)) ({ frames := 1, cells := 0, slots := 0, locals := 12 }) (g_Pc D [.int (nI x)] w sz) (g_Qi D w sz (fun r u => r = nI (x / 64) ∧ w = u)) (0) (0) (g_A w sz) := by
  refine Met.ofW (cc := cJ3_wordIndex) (maxL := 1) (ret := (some .int)) (by decide) rfl ?_
  intro p e s m args below meth c s₁ B hml hv
  obtain ⟨rfl, hI⟩ := hv
  have hx := B.exec
  have hb := B.bytes
  have hr := B.returns
  have hts := atoms_spec (ws := ws_ yJ3_wordIndex cJ3_wordIndex 1 (some .int)) B.pre
  have hts : ∀ w ∈ lw_all, w.before _ s = true := fun w h => hts w (List.mem_cons_of_mem _ h)
  have hown : s.vm.findClass RJ3 = some m.cls := findClass_of_methodNamed B.named
  have hlocks := B.notSynchronized
  have hsz := hI.1
  subst hsz
  have hW := g_W.start hI
  have hK := g_K hI
  have hE := g_E hI
  have hl := lv_entry ([.int (nI x)]) (n := 1) (by exact Nat.le_of_ble_eq_true rfl)
  rw [lg_entry_eq]
  generalize (lg_sl ([.int (nI x)]) ++ List.replicate (1 - (lg_sl ([.int (nI x)])).length) Slot.unset).toArray = ls at hl ⊢
  have hl : lv_has ls 1 [(0, .int (nI x))] := hl
  refine lv_iload_n hx hb dJ3_wordIndex_0 rfl (lv_at hl 0 rfl) ?_
  refine lv_bipush (v := 6) hx hb dJ3_wordIndex_1 (by decide) ?_
  refine lv_ishr hx hb dJ3_wordIndex_3 ?_
  refine g_topi (y := nI (x / 64)) (b_six x hx9) ?_
  exact g_iret (v := nI (x / 64)) hx hb hr hlocks hW (⟨rfl, rfl⟩) (by omega) (by omega) dJ3_wordIndex_4
set_option maxHeartbeats 4000000 in
set_option maxRecDepth 100000 in
/-- BitSet.initWords -/
theorem mtJ3_initWords (l : Launch) (D : va_G) (w : g_H) (sz : Nat) (b : Nat) (hbo : g_at w b (.inr (14, [.null, .int (nI 0), .int 0]))) : Met l yJ3_initWords (ws_ yJ3_initWords cJ3_initWords 2 none) ({ frames := 2, cells := 1, slots := 1, locals := 32 }) (g_Pc D [.ref b, .int (nI 64)] w sz) (g_Qv D w sz (fun u => ∃ wa, wa ∉ w.1 ∧ g_BS D u b wa (fun _ => false) 0 1 ∧ g_ex (fun q => q = b) w u)) (1) (1) (g_A w sz) := by
  refine Met.ofW (cc := cJ3_initWords) (maxL := 2) (ret := none) (by decide) rfl ?_
  intro p e s m args below meth c s₁ B hml hv
  obtain ⟨rfl, hI⟩ := hv
  have hx := B.exec
  have hb := B.bytes
  have hr := B.returns
  have hts := atoms_spec (ws := ws_ yJ3_initWords cJ3_initWords 2 none) B.pre
  have hts : ∀ w ∈ lw_all, w.before _ s = true := fun w h => hts w (List.mem_cons_of_mem _ h)
  have hown : s.vm.findClass RJ3 = some m.cls := findClass_of_methodNamed B.named
  have hlocks := B.notSynchronized
  have hsz := hI.1
  subst hsz
  have hW := g_W.start hI
  have hK := g_K hI
  have hE := g_E hI
  have hl := lv_entry ([.ref b, .int (nI 64)]) (n := 2) (by exact Nat.le_of_ble_eq_true rfl)
  rw [lg_entry_eq]
  generalize (lg_sl ([.ref b, .int (nI 64)]) ++ List.replicate (2 - (lg_sl ([.ref b, .int (nI 64)])).length) Slot.unset).toArray = ls at hl ⊢
  have hl : lv_has ls 2 [(0, .ref b), (1, .int (nI 64))] := hl
  have x_1 : g_ex (fun q => q = b) w w := g_ex.rf
  refine lv_aload_n hx hb dJ3_initWords_0 rfl (lv_at hl 0 rfl) ?_
  refine lv_iload_n hx hb dJ3_initWords_1 rfl (lv_at hl 1 rfl) ?_
  refine lv_iconst (v := 1) hx hb dJ3_initWords_2 (by decide) ?_
  refine lv_isub hx hb dJ3_initWords_3 ?_
  refine g_calli (va_runS (As := [.int ((nI 64) - (1))]) (rest := [.ref b]) ⟨hx, hb, hml, hown, hts⟩ (mtJ3_wordIndex l D w s.heap.size 63 (by decide)) (va_cwS 1 hts (lw_S q174 q175 q39 q176) rfl rfl rfl (by decide +kernel) ⟨Nat.le_of_ble_eq_true rfl, Nat.le_of_ble_eq_true rfl⟩) (g_preS hW hK hE) rfl rfl hl.1 rfl (lv_room (Nat.le_of_ble_eq_true rfl)) dJ3_initWords_4 ⟨Nat.le_of_ble_eq_true rfl, Nat.le_of_ble_eq_true rfl⟩) hW (fun r_ u_ H locs hp hW => ?_)
  obtain ⟨er, rfl⟩ := hp
  subst er
  refine lv_iconst (v := 1) hx hb dJ3_initWords_7 (by decide) ?_
  refine lv_iadd hx hb dJ3_initWords_8 ?_
  refine g_topi (y := nI 1) (by decide) ?_
  refine g_newa (k := 3) (atype := .long) (ty := .long) (cB := D.1 103) hx hb rfl (hts _ q188) hK hW rfl 1 (1, .inr (.inl (fun _ => 0))) (fun _ => rfl) (by decide) (by decide +kernel) (by decide +kernel) (Nat.le_of_ble_eq_true rfl) (Nat.le_of_ble_eq_true rfl) dJ3_initWords_9 (fun q_2 H hq hW => ?_)
  have hq_2 := hq
  obtain ⟨w_3, ew_3⟩ : ∃ z__, z__ = g_push w q_2 (.inl (D.1 103, 1, .inr (.inl ((fun _ => 0))))) := ⟨_, rfl⟩
  have hW := g_W.ren hW ew_3 rfl
  have h_4 : g_at w_3 b (.inr (14, [.null, .int (nI 0), .int (0)])) := by rw [ew_3]; exact hbo.push hq
  have h_5 : g_at w_3 q_2 (.inl (D.1 103, 1, .inr (.inl ((fun _ => 0))))) := by rw [ew_3]; exact g_at.push_self
  have x_6 : g_ex (fun q => q = b) w w_3 := by rw [ew_3]; exact x_1.push hq
  refine g_putf (ci := 14) (v := .ref q_2) (ty := (.array .long)) (C := RJ3) (T := TJ3) (N := 3) hx hb hts in_J3 tyJ3 tyJ3_ok nmJ3 hown hK hW h_4 rfl 0 (by decide) q177 (fun _ h9 => h9) rfl (by decide +kernel) rfl rfl (Nat.le_of_ble_eq_true rfl) dJ3_initWords_11 (fun H locs hW => ?_)
  obtain ⟨w_7, ew_7⟩ : ∃ z__, z__ = g_put w_3 b (.inr (14, [.ref q_2, .int (nI 0), .int (0)])) := ⟨_, rfl⟩
  have hW := g_W.ren hW ew_7 rfl
  have h_8 : g_at w_7 b (.inr (14, [.ref q_2, .int (nI 0), .int (0)])) := by rw [ew_7]; exact g_at.put_self h_4.1
  have h_9 : g_at w_7 q_2 (.inl (D.1 103, 1, .inr (.inl ((fun _ => 0))))) := by rw [ew_7]; exact h_5.put (g_neAO h_5 h_4)
  have x_10 : g_ex (fun q => q = b) w w_7 := by rw [ew_7]; exact x_6.put (fun hz9 => rfl)
  exact g_vret hx hb hr hlocks hW (⟨q_2, hq_2, ⟨h_8, ⟨fun _ => 0, h_9, fun j _ i _ => by simp⟩, by decide, by decide, by decide, fun _ _ => rfl⟩, x_10⟩) (by omega) (by omega) dJ3_initWords_14
set_option maxHeartbeats 4000000 in
set_option maxRecDepth 100000 in
/-- new BitSet() -/
theorem mtJ3_init (l : Launch) (D : va_G) (w : g_H) (sz : Nat) (b : Nat) (hbo : g_at w b (.inr (14, [.null, .int 0, .int 0]))) : Met l yJ3_init (ws_ yJ3_init cJ3_init 1 none) ({ frames := 3, cells := 1, slots := 1, locals := 53 }) (g_Pc D [.ref b] w sz) (g_Qv D w sz (fun u => ∃ wa, wa ∉ w.1 ∧ g_BS D u b wa (fun _ => false) 0 1 ∧ g_ex (fun q => q = b) w u)) (1) (1) (g_A w sz) := by
  refine Met.ofW (cc := cJ3_init) (maxL := 1) (ret := none) (by decide) rfl ?_
  intro p e s m args below meth c s₁ B hml hv
  obtain ⟨rfl, hI⟩ := hv
  have hx := B.exec
  have hb := B.bytes
  have hr := B.returns
  have hts := atoms_spec (ws := ws_ yJ3_init cJ3_init 1 none) B.pre
  have hts : ∀ w ∈ lw_all, w.before _ s = true := fun w h => hts w (List.mem_cons_of_mem _ h)
  have hown : s.vm.findClass RJ3 = some m.cls := findClass_of_methodNamed B.named
  have hlocks := B.notSynchronized
  have hin : meth.name = "<init>" := (name_of_methodNamed B.named B.method).1
  have hsz := hI.1
  subst hsz
  have hW := g_W.start hI
  have hK := g_K hI
  have hE := g_E hI
  have hl := lv_entry ([.ref b]) (n := 1) (by exact Nat.le_of_ble_eq_true rfl)
  rw [lg_entry_eq]
  generalize (lg_sl ([.ref b]) ++ List.replicate (1 - (lg_sl ([.ref b])).length) Slot.unset).toArray = ls at hl ⊢
  have hl : lv_has ls 1 [(0, .ref b)] := hl
  have x_1 : g_ex (fun q => q = b) w w := g_ex.rf
  refine lv_aload_n hx hb dJ3_init_0 rfl (lv_at hl 0 rfl) ?_
  refine W.objInit hx hb hown (hts _ q169) (hts _ q104) (hts _ q105) rfl (by rw [hml]; exact hl.1) rfl dJ3_init_1 (Nat.le_of_ble_eq_true rfl) (Nat.le_of_ble_eq_true rfl) ?_
  refine W.eq (g2 := F0 m 4 ls []) rfl ?_
  refine lv_aload_n hx hb dJ3_init_4 rfl (lv_at hl 0 rfl) ?_
  refine lv_iconst (v := 0) hx hb dJ3_init_5 (by decide) ?_
  refine g_putf (ci := 14) (v := .int (0)) (ty := .int) (C := RJ3) (T := TJ3) (N := 3) hx hb hts in_J3 tyJ3 tyJ3_ok nmJ3 hown hK hW hbo rfl 1 (by decide) q178 (fun _ h9 => h9) rfl (by decide +kernel) rfl rfl (Nat.le_of_ble_eq_true rfl) dJ3_init_6 (fun H locs hW => ?_)
  obtain ⟨w_2, ew_2⟩ : ∃ z__, z__ = g_put w b (.inr (14, [.null, .int (0), .int (0)])) := ⟨_, rfl⟩
  have hW := g_W.ren hW ew_2 rfl
  have h_3 : g_at w_2 b (.inr (14, [.null, .int (0), .int (0)])) := by rw [ew_2]; exact g_at.put_self hbo.1
  have x_4 : g_ex (fun q => q = b) w w_2 := by rw [ew_2]; exact x_1.put (fun hz9 => rfl)
  refine lv_aload_n hx hb dJ3_init_9 rfl (lv_at hl 0 rfl) ?_
  refine lv_iconst (v := 0) hx hb dJ3_init_10 (by decide) ?_
  refine g_putf (ci := 14) (v := .int (0)) (ty := .boolean) (C := RJ3) (T := TJ3) (N := 3) hx hb hts in_J3 tyJ3 tyJ3_ok nmJ3 hown hK hW h_3 rfl 2 (by decide) q179 (fun _ h9 => h9) rfl (by decide +kernel) rfl rfl (Nat.le_of_ble_eq_true rfl) dJ3_init_11 (fun H locs hW => ?_)
  obtain ⟨w_5, ew_5⟩ : ∃ z__, z__ = g_put w_2 b (.inr (14, [.null, .int (0), .int (0)])) := ⟨_, rfl⟩
  have hW := g_W.ren hW ew_5 rfl
  have h_6 : g_at w_5 b (.inr (14, [.null, .int (0), .int (0)])) := by rw [ew_5]; exact g_at.put_self h_3.1
  have x_7 : g_ex (fun q => q = b) w w_5 := by rw [ew_5]; exact x_4.put (fun hz9 => rfl)
  refine lv_aload_n hx hb dJ3_init_14 rfl (lv_at hl 0 rfl) ?_
  refine lv_bipush (v := 64) hx hb dJ3_init_15 (by decide) ?_
  refine g_callv (va_runV (As := [.int (64)]) (rest := []) ⟨hx, hb, hml, hown, hts⟩ (mtJ3_initWords l D w_5 H.size b h_6) (cwV 1 hts (lw_V q170 q172 qs0 q39 q173) rfl rfl rfl (by decide +kernel) ⟨Nat.le_of_ble_eq_true rfl, Nat.le_of_ble_eq_true rfl⟩) (g_preV hW hK hE h_6 rfl) rfl rfl hl.1 rfl (lv_room (Nat.le_of_ble_eq_true rfl)) dJ3_init_17 ⟨?_, ?_⟩) hW (fun u1 H locs hp hW => ?_)
  · (try simp only [headSpec]); omega
  · (try simp only [headSpec]); omega
  obtain ⟨wa, h1, ⟨hb1, ⟨f, hf, hbits⟩, h3⟩, hex1⟩ := hp
  have hx1 : g_ex (fun q => q = b) w u1 := x_7.tr hex1
  refine lv_aload_n hx hb dJ3_init_20 rfl (lv_at hl 0 rfl) ?_
  refine lv_iconst (v := 0) hx hb dJ3_init_21 (by decide) ?_
  refine g_putf (ci := 14) (v := .int (0)) (ty := .boolean) (C := RJ3) (T := TJ3) (N := 3) hx hb hts in_J3 tyJ3 tyJ3_ok nmJ3 hown hK hW hb1 rfl 2 (by decide) q179 (fun _ h9 => h9) rfl (by decide +kernel) rfl rfl (Nat.le_of_ble_eq_true rfl) dJ3_init_22 (fun H locs hW => ?_)
  obtain ⟨w_8, ew_8⟩ : ∃ z__, z__ = g_put u1 b (.inr (14, [.ref wa, .int (nI 0), .int (0)])) := ⟨_, rfl⟩
  have hW := g_W.ren hW ew_8 rfl
  have h_9 : g_at w_8 b (.inr (14, [.ref wa, .int (nI 0), .int (0)])) := by rw [ew_8]; exact g_at.put_self hb1.1
  have h_10 : g_at w_8 wa (.inl (D.1 103, 1, .inr (.inl (f)))) := by rw [ew_8]; exact hf.put (g_neAO hf hb1)
  have x_11 : g_ex (fun q => q = b) w w_8 := by rw [ew_8]; exact hx1.put (fun hz9 => rfl)
  exact g_vret hx hb hr hlocks hW (⟨wa, fun z => h1 (x_7.1 _ z), ⟨h_9, ⟨f, h_10, hbits⟩, h3⟩, x_11⟩) (by omega) (by omega) dJ3_init_25
set_option maxHeartbeats 4000000 in
set_option maxRecDepth 100000 in
/-- BitSet.checkInvariants (assertions are off) -/
theorem mtJ3_checkInvariants (l : Launch) (D : va_G) (w : g_H) (sz : Nat) (b : Nat) : Met l yJ3_checkInvariants (ws_ yJ3_checkInvariants cJ3_checkInvariants 1 none) ({ frames := 1, cells := 0, slots := 0, locals := 12 }) (g_Pc D [.ref b] w sz) (g_Qv D w sz (fun u => w = u)) (0) (0) (g_A w sz) := by
  refine Met.ofW (cc := cJ3_checkInvariants) (maxL := 1) (ret := none) (by decide) rfl ?_
  intro p e s m args below meth c s₁ B hml hv
  obtain ⟨rfl, hI⟩ := hv
  have hx := B.exec
  have hb := B.bytes
  have hr := B.returns
  have hts := atoms_spec (ws := ws_ yJ3_checkInvariants cJ3_checkInvariants 1 none) B.pre
  have hts : ∀ w ∈ lw_all, w.before _ s = true := fun w h => hts w (List.mem_cons_of_mem _ h)
  have hown : s.vm.findClass RJ3 = some m.cls := findClass_of_methodNamed B.named
  have hlocks := B.notSynchronized
  have hsz := hI.1
  subst hsz
  have hW := g_W.start hI
  have hK := g_K hI
  have hE := g_E hI
  have hl := lv_entry ([.ref b]) (n := 1) (by exact Nat.le_of_ble_eq_true rfl)
  rw [lg_entry_eq]
  generalize (lg_sl ([.ref b]) ++ List.replicate (1 - (lg_sl ([.ref b])).length) Slot.unset).toArray = ls at hl ⊢
  have hl : lv_has ls 1 [(0, .ref b)] := hl
  refine va_gets hx hb (hE.2.2.2.2.1) hW.2.2.1 hown (hts _ q1255) (fun _ h9 => h9) dJ3_checkInvariants_0 ?_
  refine lv_if_ne (tgt := 37) hx hb dJ3_checkInvariants_3 (by decide) (fun _ => ?_) (fun hd => absurd hd (by decide))
  refine va_gets hx hb (hE.2.2.2.2.1) hW.2.2.1 hown (hts _ q1255) (fun _ h9 => h9) dJ3_checkInvariants_37 ?_
  refine lv_if_ne (tgt := 70) hx hb dJ3_checkInvariants_40 (by decide) (fun _ => ?_) (fun hd => absurd hd (by decide))
  refine va_gets hx hb (hE.2.2.2.2.1) hW.2.2.1 hown (hts _ q1255) (fun _ h9 => h9) dJ3_checkInvariants_70 ?_
  refine lv_if_ne (tgt := 110) hx hb dJ3_checkInvariants_73 (by decide) (fun _ => ?_) (fun hd => absurd hd (by decide))
  exact g_vret hx hb hr hlocks hW (rfl) (by omega) (by omega) dJ3_checkInvariants_110
set_option maxHeartbeats 4000000 in
set_option maxRecDepth 100000 in
/-- Arrays.copyOf of longs, to more -/
theorem mtJ8_copyOf_4 (l : Launch) (D : va_G) (w : g_H) (sz : Nat) (v n0 q : Nat) (f : Nat → Int64) (hv : g_at w v (.inl (D.1 103, n0, .inr (.inl f)))) (hq : n0 < q) (hq2 : q ≤ 1024) : Met l yJ8_copyOf_4 (ws_ yJ8_copyOf_4 cJ8_copyOf_4 3 (some (.array .long))) ({ frames := 2, cells := 1, slots := q, locals := 80 }) (g_Pc D [.ref v, .int (nI q)] w sz) (g_Qq D w sz (fun r u => ∃ x, r = some x ∧ x ∉ w.1 ∧ (∃ g : Nat → Int64, g_at u x (.inl (D.1 103, q, .inr (.inl g))) ∧ (∀ j, j < n0 → g j = f j) ∧ ∀ j, n0 ≤ j → g j = 0) ∧ g_ex (fun _ => False) w u)) (1) (q) (g_A w sz) := by
  refine Met.ofW (cc := cJ8_copyOf_4) (maxL := 3) (ret := (some (.array .long))) (by decide) rfl ?_
  intro p e s m args below meth c s₁ B hml hv
  obtain ⟨rfl, hI⟩ := hv
  have hx := B.exec
  have hb := B.bytes
  have hr := B.returns
  have hts := atoms_spec (ws := ws_ yJ8_copyOf_4 cJ8_copyOf_4 3 (some (.array .long))) B.pre
  have hts : ∀ w ∈ lw_all, w.before _ s = true := fun w h => hts w (List.mem_cons_of_mem _ h)
  have hown : s.vm.findClass RJ8 = some m.cls := findClass_of_methodNamed B.named
  have hlocks := B.notSynchronized
  have hsz := hI.1
  subst hsz
  have hW := g_W.start hI
  have hK := g_K hI
  have hE := g_E hI
  have hl := lv_entry ([.ref v, .int (nI q)]) (n := 3) (by exact Nat.le_of_ble_eq_true rfl)
  rw [lg_entry_eq]
  generalize (lg_sl ([.ref v, .int (nI q)]) ++ List.replicate (3 - (lg_sl ([.ref v, .int (nI q)])).length) Slot.unset).toArray = ls at hl ⊢
  have hl : lv_has ls 3 [(0, .ref v), (1, .int (nI q))] := hl
  have x_1 : g_ex (fun _ => False) w w := g_ex.rf
  refine lv_iload_n hx hb dJ8_copyOf_4_0 rfl (lv_at hl 1 rfl) ?_
  refine lv_aload_n hx hb dJ8_copyOf_4_1 rfl (lv_at hl 0 rfl) ?_
  refine g_alen hx hb hK hW 3 hv rfl dJ8_copyOf_4_2 ?_
  refine lv_icmp_ne (tgt := 14) hx hb dJ8_copyOf_4_3 (by decide) (fun hd => ?_) (fun hd => ?_)
  · refine lv_iload_n hx hb dJ8_copyOf_4_14 rfl (lv_at hl 1 rfl) ?_
    refine g_newa (k := 3) (atype := .long) (ty := .long) (cB := D.1 103) hx hb rfl (hts _ q188) hK hW rfl q (q, .inr (.inl (fun _ => 0))) (fun _ => rfl) (nI_pos (by omega)) (nI_clamp (by omega)) (by show q * 8 ≤ _; omega) (?_) (?_) dJ8_copyOf_4_15 (fun q_2 H hq hW => ?_)
    · (try simp only [headSpec]); omega
    · (try simp only [headSpec]); omega
    have hq_2 := hq
    obtain ⟨w_3, ew_3⟩ : ∃ z__, z__ = g_push w q_2 (.inl (D.1 103, q, .inr (.inl ((fun _ => 0))))) := ⟨_, rfl⟩
    have hW := g_W.ren hW ew_3 rfl
    have h_4 : g_at w_3 v (.inl (D.1 103, n0, .inr (.inl (f)))) := by rw [ew_3]; exact hv.push hq
    have h_5 : g_at w_3 q_2 (.inl (D.1 103, q, .inr (.inl ((fun _ => 0))))) := by rw [ew_3]; exact g_at.push_self
    have x_6 : g_ex (fun _ => False) w w_3 := by rw [ew_3]; exact x_1.push hq
    refine lv_astore_n (lv' := [(2, .ref q_2), (0, .ref v), (1, .int (nI q))]) hx hb dJ8_copyOf_4_17 rfl hl (by decide) rfl (fun ls hl => ?_)
    refine lv_aload_n hx hb dJ8_copyOf_4_18 rfl (lv_at hl 1 rfl) ?_
    refine lv_iconst (v := 0) hx hb dJ8_copyOf_4_19 (by decide) ?_
    refine lv_aload_n hx hb dJ8_copyOf_4_20 rfl (lv_at hl 0 rfl) ?_
    refine lv_iconst (v := 0) hx hb dJ8_copyOf_4_21 (by decide) ?_
    refine lv_aload_n hx hb dJ8_copyOf_4_22 rfl (lv_at hl 1 rfl) ?_
    refine g_alen hx hb hK hW 3 h_4 rfl dJ8_copyOf_4_23 ?_
    refine lv_iload_n hx hb dJ8_copyOf_4_24 rfl (lv_at hl 2 rfl) ?_
    refine g_calli (va_runS (As := [.int (nI n0), .int (nI q)]) (rest := [.int (0), .ref q_2, .int (0), .ref v]) ⟨hx, hb, hml, hown, hts⟩ (mtJ7_min l D w_3 H.size n0 q (by omega) (by omega)) (va_cwS 2 hts (lw_S q314 q315 q43 q316) rfl rfl rfl (by decide +kernel) ⟨Nat.le_of_ble_eq_true rfl, Nat.le_of_ble_eq_true rfl⟩) (g_preS hW hK hE) rfl rfl hl.1 rfl (lv_room (Nat.le_of_ble_eq_true rfl)) dJ8_copyOf_4_25 ⟨?_, ?_⟩) hW (fun r_ u_ H locs hp hW => ?_)
    · (try simp only [headSpec]); omega
    · (try simp only [headSpec]); omega
    obtain ⟨er, rfl⟩ := hp
    subst er
    refine g_topi (y := nI n0) (by rw [show min n0 q = n0 by omega]) ?_
    refine g_copyl hx hb (hml.trans hl.1.symm) hts hown q317 hK hW h_4 h_5 0 0 n0 (by omega) (by omega) (by omega) (by omega) (Nat.le_of_ble_eq_true rfl) (Nat.le_of_ble_eq_true rfl) dJ8_copyOf_4_28 (fun H locs hW => ?_)
    obtain ⟨f_7, ef_7⟩ : ∃ z__, z__ = va_cpy f (fun _ => 0) 0 0 n0 := ⟨_, rfl⟩
    rw [← ef_7] at hW
    obtain ⟨w_8, ew_8⟩ : ∃ z__, z__ = g_put w_3 q_2 (.inl (D.1 103, q, .inr (.inl (f_7)))) := ⟨_, rfl⟩
    have hW := g_W.ren hW ew_8 rfl
    have hx9 : g_at w_8 q_2 (.inl (D.1 103, q, .inr (.inl (f_7)))) := by rw [ew_8]; exact g_at.put_self h_5.1
    have hex9 : g_ex (fun _ => False) w w_8 := by rw [ew_8]; exact x_6.put (fun z => absurd z hq_2)
    refine lv_aload_n hx hb dJ8_copyOf_4_31 rfl (lv_at hl 0 rfl) ?_
    refine g_qret (v := some q_2) hx hb hr (Or.inr ⟨_, rfl⟩) hlocks hW (⟨q_2, rfl, hq_2, ⟨f_7, hx9, fun j hj => ?_, fun j hj => ?_⟩, hex9⟩) (by omega) (by omega) dJ8_copyOf_4_32
    · rw [ef_7]; unfold va_cpy; rw [if_pos ⟨Nat.zero_le _, by omega⟩]; simp
    · rw [ef_7]; unfold va_cpy; rw [if_neg (by omega)]
  · exact absurd hd (nI_ne (by omega) (by omega) (by omega))
set_option maxHeartbeats 4000000 in
set_option maxRecDepth 100000 in
/-- BitSet.ensureCapacity -/
theorem mtJ3_ensureCapacity (l : Launch) (D : va_G) (w : g_H) (sz : Nat) (b wa n cap : Nat) (E : Nat → Bool) (hbs : g_BS D w b wa E n cap) (q : Nat) (hq : q ≤ 5) : Met l yJ3_ensureCapacity (ws_ yJ3_ensureCapacity cJ3_ensureCapacity 3 none) ({ frames := 3, cells := g_bc q cap, slots := g_bs q cap, locals := 102 }) (g_Pc D [.ref b, .int (nI q)] w sz) (g_Qv D w sz (fun u => ∃ wb, g_BS D u b wb E n (g_bn q cap) ∧ (wb = wa ∨ wb ∉ w.1) ∧ g_ex (fun z => z = b) w u)) (g_bc q cap) (g_bs q cap) (g_A w sz) := by
  refine Met.ofW (cc := cJ3_ensureCapacity) (maxL := 3) (ret := none) (by decide) rfl ?_
  intro p e s m args below meth c s₁ B hml hv
  obtain ⟨rfl, hI⟩ := hv
  have hx := B.exec
  have hb := B.bytes
  have hr := B.returns
  have hts := atoms_spec (ws := ws_ yJ3_ensureCapacity cJ3_ensureCapacity 3 none) B.pre
  have hts : ∀ w ∈ lw_all, w.before _ s = true := fun w h => hts w (List.mem_cons_of_mem _ h)
  have hown : s.vm.findClass RJ3 = some m.cls := findClass_of_methodNamed B.named
  have hlocks := B.notSynchronized
  have hsz := hI.1
  subst hsz
  have hW := g_W.start hI
  have hK := g_K hI
  have hE := g_E hI
  have hl := lv_entry ([.ref b, .int (nI q)]) (n := 3) (by exact Nat.le_of_ble_eq_true rfl)
  rw [lg_entry_eq]
  generalize (lg_sl ([.ref b, .int (nI q)]) ++ List.replicate (3 - (lg_sl ([.ref b, .int (nI q)])).length) Slot.unset).toArray = ls at hl ⊢
  have hl : lv_has ls 3 [(0, .ref b), (1, .int (nI q))] := hl
  obtain ⟨hbo, ⟨f, hf, hbits⟩, hnc, hc0, hc64, hE0⟩ := hbs
  have x_1 : g_ex (fun q => q = b) w w := g_ex.rf
  refine lv_aload_n hx hb dJ3_ensureCapacity_0 rfl (lv_at hl 0 rfl) ?_
  refine g_get (ci := 14) (v := .ref wa) (C := RJ3) (T := TJ3) (N := 3) hx hb hts in_J3 hown hK hW hbo rfl 0 (by decide) q177 (fun _ h9 => h9) rfl dJ3_ensureCapacity_1 ?_
  refine g_alen hx hb hK hW 3 hf rfl dJ3_ensureCapacity_4 ?_
  refine lv_iload_n hx hb dJ3_ensureCapacity_5 rfl (lv_at hl 1 rfl) ?_
  refine g_icmp_ge (tgt := 38) hx hb (by omega) (by omega) dJ3_ensureCapacity_6 (by decide) (fun hc => ?_) (fun hc => ?_)
  · have e1 : g_bn q cap = cap := if_neg (by omega)
    exact g_vret hx hb hr hlocks hW (⟨wa, by rw [e1]; exact ⟨hbo, ⟨f, hf, hbits⟩, hnc, hc0, hc64, hE0⟩, Or.inl rfl, g_ex.rf⟩) (Nat.zero_le _) (Nat.zero_le _) dJ3_ensureCapacity_38
  · have e1 : g_bn q cap = max (2 * cap) q := if_pos (by omega)
    have e2 : g_bc q cap = 1 := if_pos (by omega)
    have e3 : g_bs q cap = max (2 * cap) q := if_pos (by omega)
    refine lv_iconst (v := 2) hx hb dJ3_ensureCapacity_9 (by decide) ?_
    refine lv_aload_n hx hb dJ3_ensureCapacity_10 rfl (lv_at hl 0 rfl) ?_
    refine g_get (ci := 14) (v := .ref wa) (C := RJ3) (T := TJ3) (N := 3) hx hb hts in_J3 hown hK hW hbo rfl 0 (by decide) q177 (fun _ h9 => h9) rfl dJ3_ensureCapacity_11 ?_
    refine g_alen hx hb hK hW 3 hf rfl dJ3_ensureCapacity_14 ?_
    refine lv_imul hx hb dJ3_ensureCapacity_15 ?_
    refine g_topi (y := nI (2 * cap)) ((Int32.ofNat_mul 2 cap).symm) ?_
    refine lv_iload_n hx hb dJ3_ensureCapacity_16 rfl (lv_at hl 1 rfl) ?_
    refine g_calli (va_runS (As := [.int (nI (2 * cap)), .int (nI q)]) (rest := []) ⟨hx, hb, hml, hown, hts⟩ (mtJ7_max l D w s.heap.size (2 * cap) q (by omega) (by omega)) (va_cwS 2 hts (lw_S q1242 q264 q43 q265) rfl rfl rfl (by decide +kernel) ⟨Nat.le_of_ble_eq_true rfl, Nat.le_of_ble_eq_true rfl⟩) (g_preS hW hK hE) rfl rfl hl.1 rfl (lv_room (Nat.le_of_ble_eq_true rfl)) dJ3_ensureCapacity_17 ⟨?_, ?_⟩) hW (fun r_ u_ H locs hp hW => ?_)
    · (try simp only [headSpec]); (try simp only [e2, e3]); omega
    · (try simp only [headSpec]); (try simp only [e2, e3]); omega
    obtain ⟨er, rfl⟩ := hp
    subst er
    refine lv_istore_n (lv' := [(2, .int (nI (max (2 * cap) q))), (0, .ref b), (1, .int (nI q))]) hx hb dJ3_ensureCapacity_20 rfl hl (by decide) rfl (fun ls hl => ?_)
    refine lv_aload_n hx hb dJ3_ensureCapacity_21 rfl (lv_at hl 1 rfl) ?_
    refine lv_aload_n hx hb dJ3_ensureCapacity_22 rfl (lv_at hl 1 rfl) ?_
    refine g_get (ci := 14) (v := .ref wa) (C := RJ3) (T := TJ3) (N := 3) hx hb hts in_J3 hown hK hW hbo rfl 0 (by decide) q177 (fun _ h9 => h9) rfl dJ3_ensureCapacity_23 ?_
    refine lv_iload_n hx hb dJ3_ensureCapacity_26 rfl (lv_at hl 0 rfl) ?_
    refine g_callq (va_runS (As := [.ref wa, .int (nI (max (2 * cap) q))]) (rest := [.ref b]) ⟨hx, hb, hml, hown, hts⟩ (mtJ8_copyOf_4 l D w H.size wa cap (max (2 * cap) q) f hf (by omega) (by omega)) (va_cwS 2 hts (lw_S q1243 q1244 q44 q1245) rfl rfl rfl (by decide +kernel) ⟨Nat.le_of_ble_eq_true rfl, Nat.le_of_ble_eq_true rfl⟩) (g_preS hW hK hE) rfl rfl hl.1 rfl (lv_room (Nat.le_of_ble_eq_true rfl)) dJ3_ensureCapacity_27 ⟨?_, ?_⟩) hW (fun r_ u1 H locs hp hW => ?_)
    · (try simp only [headSpec]); (try simp only [e2, e3]); omega
    · (try simp only [headSpec]); (try simp only [e2, e3]); omega
    obtain ⟨x, er, hx1, ⟨g, hg, hg1, hg2⟩, hex1⟩ := hp
    subst er
    have hb1 := hex1.at hbo (fun z => z)
    have hex2 : g_ex (fun z => z = b) w u1 := hex1.mono (fun _ _ z => z.elim)
    refine g_putf (ci := 14) (v := .ref x) (ty := (.array .long)) (C := RJ3) (T := TJ3) (N := 3) hx hb hts in_J3 tyJ3 tyJ3_ok nmJ3 hown hK hW hb1 rfl 0 (by decide) q177 (fun _ h9 => h9) rfl (by decide +kernel) rfl rfl (Nat.le_of_ble_eq_true rfl) dJ3_ensureCapacity_30 (fun H locs hW => ?_)
    obtain ⟨w_2, ew_2⟩ : ∃ z__, z__ = g_put u1 b (.inr (14, [.ref x, .int (nI n), .int (0)])) := ⟨_, rfl⟩
    have hW := g_W.ren hW ew_2 rfl
    have h_3 : g_at w_2 b (.inr (14, [.ref x, .int (nI n), .int (0)])) := by rw [ew_2]; exact g_at.put_self hb1.1
    have h_4 : g_at w_2 x (.inl (D.1 103, (max (2 * cap) q), .inr (.inl (g)))) := by rw [ew_2]; exact hg.put (g_neAO hg hb1)
    have x_5 : g_ex (fun q => q = b) w w_2 := by rw [ew_2]; exact hex2.put (fun hz9 => rfl)
    refine lv_aload_n hx hb dJ3_ensureCapacity_33 rfl (lv_at hl 1 rfl) ?_
    refine lv_iconst (v := 0) hx hb dJ3_ensureCapacity_34 (by decide) ?_
    refine g_putf (ci := 14) (v := .int (0)) (ty := .boolean) (C := RJ3) (T := TJ3) (N := 3) hx hb hts in_J3 tyJ3 tyJ3_ok nmJ3 hown hK hW h_3 rfl 2 (by decide) q179 (fun _ h9 => h9) rfl (by decide +kernel) rfl rfl (Nat.le_of_ble_eq_true rfl) dJ3_ensureCapacity_35 (fun H locs hW => ?_)
    obtain ⟨w_6, ew_6⟩ : ∃ z__, z__ = g_put w_2 b (.inr (14, [.ref x, .int (nI n), .int (0)])) := ⟨_, rfl⟩
    have hW := g_W.ren hW ew_6 rfl
    have h_7 : g_at w_6 b (.inr (14, [.ref x, .int (nI n), .int (0)])) := by rw [ew_6]; exact g_at.put_self h_3.1
    have h_8 : g_at w_6 x (.inl (D.1 103, (max (2 * cap) q), .inr (.inl (g)))) := by rw [ew_6]; exact h_4.put (g_neAO h_4 h_3)
    have x_9 : g_ex (fun q => q = b) w w_6 := by rw [ew_6]; exact x_5.put (fun hz9 => rfl)
    refine g_vret hx hb hr hlocks hW (⟨x, ?_, Or.inr hx1, x_9⟩) (by rw [e2]; omega) (by rw [e3]; omega) dJ3_ensureCapacity_38
    rw [e1]
    refine ⟨h_7, ⟨g, h_8, fun j hj i hi => ?_⟩, by omega, by omega, ⟨by omega, by omega⟩, hE0⟩
    by_cases r : j < cap
    · rw [hg1 j r]; exact hbits j r i hi
    · rw [hg2 j (by omega), hE0 _ (by omega)]; simp
set_option maxHeartbeats 4000000 in
set_option maxRecDepth 100000 in
/-- BitSet.expandTo -/
theorem mtJ3_expandTo (l : Launch) (D : va_G) (w : g_H) (sz : Nat) (b wa n cap : Nat) (E : Nat → Bool) (hbs : g_BS D w b wa E n cap) (k : Nat) (hq : k < 5) : Met l yJ3_expandTo (ws_ yJ3_expandTo cJ3_expandTo 3 none) ({ frames := 4, cells := g_bc (k + 1) cap, slots := g_bs (k + 1) cap, locals := 124 }) (g_Pc D [.ref b, .int (nI k)] w sz) (g_Qv D w sz (fun u => ∃ wb, g_BS D u b wb E (max n (k + 1)) (g_bn (k + 1) cap) ∧ (wb = wa ∨ wb ∉ w.1) ∧ g_ex (fun z => z = b) w u)) (g_bc (k + 1) cap) (g_bs (k + 1) cap) (g_A w sz) := by
  refine Met.ofW (cc := cJ3_expandTo) (maxL := 3) (ret := none) (by decide) rfl ?_
  intro p e s m args below meth c s₁ B hml hv
  obtain ⟨rfl, hI⟩ := hv
  have hx := B.exec
  have hb := B.bytes
  have hr := B.returns
  have hts := atoms_spec (ws := ws_ yJ3_expandTo cJ3_expandTo 3 none) B.pre
  have hts : ∀ w ∈ lw_all, w.before _ s = true := fun w h => hts w (List.mem_cons_of_mem _ h)
  have hown : s.vm.findClass RJ3 = some m.cls := findClass_of_methodNamed B.named
  have hlocks := B.notSynchronized
  have hsz := hI.1
  subst hsz
  have hW := g_W.start hI
  have hK := g_K hI
  have hE := g_E hI
  have hl := lv_entry ([.ref b, .int (nI k)]) (n := 3) (by exact Nat.le_of_ble_eq_true rfl)
  rw [lg_entry_eq]
  generalize (lg_sl ([.ref b, .int (nI k)]) ++ List.replicate (3 - (lg_sl ([.ref b, .int (nI k)])).length) Slot.unset).toArray = ls at hl ⊢
  have hl : lv_has ls 3 [(0, .ref b), (1, .int (nI k))] := hl
  have hbs9 := hbs
  obtain ⟨hbo, ⟨f, hf, hbits⟩, hnc, hc0, hc64, hE0⟩ := hbs
  have x_1 : g_ex (fun q => q = b) w w := g_ex.rf
  refine lv_iload_n hx hb dJ3_expandTo_0 rfl (lv_at hl 1 rfl) ?_
  refine lv_iconst (v := 1) hx hb dJ3_expandTo_1 (by decide) ?_
  refine lv_iadd hx hb dJ3_expandTo_2 ?_
  refine g_topi (y := nI (k + 1)) (nI_1 k) ?_
  refine lv_istore_n (lv' := [(2, .int (nI (k + 1))), (0, .ref b), (1, .int (nI k))]) hx hb dJ3_expandTo_3 rfl hl (by decide) rfl (fun ls hl => ?_)
  refine lv_aload_n hx hb dJ3_expandTo_4 rfl (lv_at hl 1 rfl) ?_
  refine g_get (ci := 14) (v := .int (nI n)) (C := RJ3) (T := TJ3) (N := 3) hx hb hts in_J3 hown hK hW hbo rfl 1 (by decide) q178 (fun _ h9 => h9) rfl dJ3_expandTo_5 ?_
  refine lv_iload_n hx hb dJ3_expandTo_8 rfl (lv_at hl 0 rfl) ?_
  refine g_icmp_ge (tgt := 22) hx hb (by omega) (by omega) dJ3_expandTo_9 (by decide) (fun hc => ?_) (fun hc => ?_)
  · have e1 : g_bn (k + 1) cap = cap := if_neg (by omega)
    have e2 : max n (k + 1) = n := by omega
    exact g_vret hx hb hr hlocks hW (⟨wa, by rw [e1, e2]; exact hbs9, Or.inl rfl, g_ex.rf⟩) (Nat.zero_le _) (Nat.zero_le _) dJ3_expandTo_22
  · have e2 : max n (k + 1) = k + 1 := by omega
    refine lv_aload_n hx hb dJ3_expandTo_12 rfl (lv_at hl 1 rfl) ?_
    refine lv_iload_n hx hb dJ3_expandTo_13 rfl (lv_at hl 0 rfl) ?_
    refine g_callv (va_runV (As := [.int (nI (k + 1))]) (rest := []) ⟨hx, hb, hml, hown, hts⟩ (mtJ3_ensureCapacity l D w s.heap.size b wa n cap E hbs9 (k + 1) (by omega)) (cwV 1 hts (lw_V q1238 q1240 qs13 q39 q1241) rfl rfl rfl (by decide +kernel) ⟨Nat.le_of_ble_eq_true rfl, Nat.le_of_ble_eq_true rfl⟩) (g_preV hW hK hE hbo rfl) rfl rfl hl.1 rfl (lv_room (Nat.le_of_ble_eq_true rfl)) dJ3_expandTo_14 ⟨?_, ?_⟩) hW (fun u1 H locs hp hW => ?_)
    · (try simp only [headSpec]); omega
    · (try simp only [headSpec]); omega
    obtain ⟨wb, ⟨hb1, ⟨g, hg, hgb⟩, h4, h5, h6, h7⟩, h2, hex1⟩ := hp
    refine lv_aload_n hx hb dJ3_expandTo_17 rfl (lv_at hl 1 rfl) ?_
    refine lv_iload_n hx hb dJ3_expandTo_18 rfl (lv_at hl 0 rfl) ?_
    refine g_putf (ci := 14) (v := .int (nI (k + 1))) (ty := .int) (C := RJ3) (T := TJ3) (N := 3) hx hb hts in_J3 tyJ3 tyJ3_ok nmJ3 hown hK hW hb1 rfl 1 (by decide) q178 (fun _ h9 => h9) rfl (by decide +kernel) rfl rfl (Nat.le_of_ble_eq_true rfl) dJ3_expandTo_19 (fun H locs hW => ?_)
    obtain ⟨w_2, ew_2⟩ : ∃ z__, z__ = g_put u1 b (.inr (14, [.ref wb, .int (nI (k + 1)), .int (0)])) := ⟨_, rfl⟩
    have hW := g_W.ren hW ew_2 rfl
    have h_3 : g_at w_2 b (.inr (14, [.ref wb, .int (nI (k + 1)), .int (0)])) := by rw [ew_2]; exact g_at.put_self hb1.1
    have h_4 : g_at w_2 wb (.inl (D.1 103, (g_bn (k + 1) cap), .inr (.inl (g)))) := by rw [ew_2]; exact hg.put (g_neAO hg hb1)
    have x_5 : g_ex (fun q => q = b) w w_2 := by rw [ew_2]; exact hex1.put (fun hz9 => rfl)
    refine g_vret hx hb hr hlocks hW (⟨wb, ?_, h2, x_5⟩) (by omega) (by omega) dJ3_expandTo_22
    rw [e2]
    exact ⟨h_3, ⟨g, h_4, hgb⟩, by unfold g_bn; split <;> omega, h5, ⟨h6.1, by omega⟩, fun x hx => hE0 x (by omega)⟩
set_option maxHeartbeats 4000000 in
set_option maxRecDepth 100000 in
/-- BitSet.set -/
theorem mtJ3_set (l : Launch) (D : va_G) (w : g_H) (sz : Nat) (b wa n cap : Nat) (E : Nat → Bool) (hbs : g_BS D w b wa E n cap) (x : Nat) (hx9 : x < 320) : Met l yJ3_set (ws_ yJ3_set cJ3_set 3 none) ({ frames := 5, cells := g_bc (x / 64 + 1) cap, slots := g_bs (x / 64 + 1) cap, locals := 146 }) (g_Pc D [.ref b, .int (nI x)] w sz) (g_Qv D w sz (fun u => ∃ wb, g_BS D u b wb (fun z => z == x || E z) (max n (x / 64 + 1)) (g_bn (x / 64 + 1) cap) ∧ (wb = wa ∨ wb ∉ w.1) ∧ g_ex (fun z => z = b ∨ z = wa) w u)) (g_bc (x / 64 + 1) cap) (g_bs (x / 64 + 1) cap) (g_A w sz) := by
  refine Met.ofW (cc := cJ3_set) (maxL := 3) (ret := none) (by decide) rfl ?_
  intro p e s m args below meth c s₁ B hml hv
  obtain ⟨rfl, hI⟩ := hv
  have hx := B.exec
  have hb := B.bytes
  have hr := B.returns
  have hts := atoms_spec (ws := ws_ yJ3_set cJ3_set 3 none) B.pre
  have hts : ∀ w ∈ lw_all, w.before _ s = true := fun w h => hts w (List.mem_cons_of_mem _ h)
  have hown : s.vm.findClass RJ3 = some m.cls := findClass_of_methodNamed B.named
  have hlocks := B.notSynchronized
  have hsz := hI.1
  subst hsz
  have hW := g_W.start hI
  have hK := g_K hI
  have hE := g_E hI
  have hl := lv_entry ([.ref b, .int (nI x)]) (n := 3) (by exact Nat.le_of_ble_eq_true rfl)
  rw [lg_entry_eq]
  generalize (lg_sl ([.ref b, .int (nI x)]) ++ List.replicate (3 - (lg_sl ([.ref b, .int (nI x)])).length) Slot.unset).toArray = ls at hl ⊢
  have hl : lv_has ls 3 [(0, .ref b), (1, .int (nI x))] := hl
  have hbs9 := hbs
  have hbo := hbs.1
  refine lv_iload_n hx hb dJ3_set_0 rfl (lv_at hl 1 rfl) ?_
  refine lv_if_ge (tgt := 31) hx hb dJ3_set_1 (by decide) (fun hc => ?_) (fun hc => ?_)
  · refine lv_iload_n hx hb dJ3_set_31 rfl (lv_at hl 1 rfl) ?_
    refine g_calli (va_runS (As := [.int (nI x)]) (rest := []) ⟨hx, hb, hml, hown, hts⟩ (mtJ3_wordIndex l D w s.heap.size x hx9) (va_cwS 1 hts (lw_S q174 q175 q39 q176) rfl rfl rfl (by decide +kernel) ⟨Nat.le_of_ble_eq_true rfl, Nat.le_of_ble_eq_true rfl⟩) (g_preS hW hK hE) rfl rfl hl.1 rfl (lv_room (Nat.le_of_ble_eq_true rfl)) dJ3_set_32 ⟨?_, ?_⟩) hW (fun r_ u_ H locs hp hW => ?_)
    · (try simp only [headSpec]); omega
    · (try simp only [headSpec]); omega
    obtain ⟨er, rfl⟩ := hp
    subst er
    refine lv_istore_n (lv' := [(2, .int (nI (x / 64))), (0, .ref b), (1, .int (nI x))]) hx hb dJ3_set_35 rfl hl (by decide) rfl (fun ls hl => ?_)
    refine lv_aload_n hx hb dJ3_set_36 rfl (lv_at hl 1 rfl) ?_
    refine lv_iload_n hx hb dJ3_set_37 rfl (lv_at hl 0 rfl) ?_
    refine g_callv (va_runV (As := [.int (nI (x / 64))]) (rest := []) ⟨hx, hb, hml, hown, hts⟩ (mtJ3_expandTo l D w H.size b wa n cap E hbs9 (x / 64) (by omega)) (cwV 1 hts (lw_V q1234 q1236 qs12 q39 q1237) rfl rfl rfl (by decide +kernel) ⟨Nat.le_of_ble_eq_true rfl, Nat.le_of_ble_eq_true rfl⟩) (g_preV hW hK hE hbo rfl) rfl rfl hl.1 rfl (lv_room (Nat.le_of_ble_eq_true rfl)) dJ3_set_38 ⟨?_, ?_⟩) hW (fun u1 H locs hp hW => ?_)
    · (try simp only [headSpec]); omega
    · (try simp only [headSpec]); omega
    obtain ⟨wb, ⟨hb1, ⟨g, hg, hgb⟩, h4, h5, h6, h7⟩, h2, hex1⟩ := hp
    have hex2 : g_ex (fun z => z = b ∨ z = wb) w u1 := hex1.mono (fun _ _ z => Or.inl z)
    have h16 : g_bn (x / 64 + 1) cap ≤ 8 := h6.1
    refine lv_aload_n hx hb dJ3_set_41 rfl (lv_at hl 1 rfl) ?_
    refine g_get (ci := 14) (v := .ref wb) (C := RJ3) (T := TJ3) (N := 3) hx hb hts in_J3 hown hK hW hb1 rfl 0 (by decide) q177 (fun _ h9 => h9) rfl dJ3_set_42 ?_
    refine lv_iload_n hx hb dJ3_set_45 rfl (lv_at hl 0 rfl) ?_
    refine lv_dup2_11 hx hb dJ3_set_46 rfl rfl ?_
    refine g_laldN (i := x / 64) hx hb hK hW hg (by omega) (by omega) dJ3_set_47 ?_
    refine lv_lconst (v := 1) hx hb dJ3_set_48 rfl ?_
    refine lv_iload_n hx hb dJ3_set_49 rfl (lv_at hl 2 rfl) ?_
    refine lv_lshl (v := (1) <<< ((nI x : Int32).toInt64 &&& 63)) hx hb dJ3_set_50 rfl ?_
    refine lv_lor hx hb dJ3_set_51 ?_
    refine g_lastN (i := x / 64) hx hb hK hW hg (by omega) (by omega) dJ3_set_52 (fun H locs hW => ?_)
    obtain ⟨f_1, ef_1⟩ : ∃ z__, z__ = vp_updL (g) (x / 64) ((g (x / 64)) ||| ((1) <<< ((nI x : Int32).toInt64 &&& 63))) := ⟨_, rfl⟩
    rw [← ef_1] at hW
    obtain ⟨w_2, ew_2⟩ : ∃ z__, z__ = g_put u1 wb (.inl (D.1 103, (g_bn (x / 64 + 1) cap), .inr (.inl (f_1)))) := ⟨_, rfl⟩
    have hW := g_W.ren hW ew_2 rfl
    have h_3 : g_at w_2 b (.inr (14, [.ref wb, .int (nI (max n (x / 64 + 1))), .int (0)])) := by rw [ew_2]; exact hb1.put (g_neOA hb1 hg)
    have h_4 : g_at w_2 wb (.inl (D.1 103, (g_bn (x / 64 + 1) cap), .inr (.inl (f_1)))) := by rw [ew_2]; exact g_at.put_self hg.1
    have x_5 : g_ex (fun z => z = b ∨ z = wb) w w_2 := by rw [ew_2]; exact hex2.put (fun hz9 => (Or.inr rfl))
    refine lv_aload_n hx hb dJ3_set_53 rfl (lv_at hl 1 rfl) ?_
    refine g_callv (va_runV (As := []) (rest := []) ⟨hx, hb, hml, hown, hts⟩ (mtJ3_checkInvariants l D w_2 H.size b) (cwV 0 hts (lw_V q1251 q1253 qs14 q39 q1254) rfl rfl rfl (by decide +kernel) ⟨Nat.le_of_ble_eq_true rfl, Nat.le_of_ble_eq_true rfl⟩) (g_preV hW hK hE h_3 rfl) rfl rfl hl.1 rfl (lv_room (Nat.le_of_ble_eq_true rfl)) dJ3_set_54 ⟨?_, ?_⟩) hW (fun u_ H locs hp hW => ?_)
    · (try simp only [headSpec]); omega
    · (try simp only [headSpec]); omega
    subst hp
    refine g_vret hx hb hr hlocks hW (⟨wb, ⟨h_3, ⟨f_1, h_4, g_bits_set hgb hx9 (fun j hj => by rw [ef_1]; exact vl_n hj) (by rw [ef_1]; exact vl_s)⟩, h4, h5, h6, fun z hz => ?_⟩, h2, x_5.mono (fun a ha z => z.elim Or.inl (fun z => h2.elim (fun q => Or.inr (z.trans q)) (fun q => absurd (z ▸ ha) q)))⟩) (by omega) (by omega) dJ3_set_57
    have e1 : ¬ z = x := by omega
    simp [e1, h7 z hz]
  · exact absurd (Int32.not_lt.mp (nI_pos (by omega))) hc
set_option maxHeartbeats 4000000 in
set_option maxRecDepth 100000 in
/-- BitSet.clear: its loop -/
theorem lpJ3_clear {p : Program} {l : Launch} {e : Env} {R : Room} {s : State} {m : MethodId} {args : Array Value} {below : List Frame} {meth : Method} {c : Code} {cells slots : Nat} {Q : State → Prop} {D : va_G} {A : Nat → Prop} {H0 : Heap} (hx : p.tables.exec = Jvm.exec) (hb : c.code = cJ3_clear) (hts : ∀ w ∈ lw_all, w.before args s = true) (hown : s.vm.findClass RJ3 = some m.cls) (hK : va_K D gCl (gT D) s) (w : g_H) (b wa cap : Nat) (hc64 : cap ≤ 8)
    (kk : ∀ (w1 : g_H) (f : Nat → Int64) (H : Heap) (locs : List Loc) (ls : Array Slot), g_ex (fun z => z = b ∨ z = wa) w w1 → g_at w1 b (.inr (14, [.ref wa, .int (nI 0), .int 0])) → g_at w1 wa (.inl (D.1 103, cap, .inr (.inl f))) → (∀ j, j < cap → f j = 0) → g_W D A H0 H locs w1 → lv_has ls 1 [(0, .ref b)] → W p l e R s m args below meth c H locs cells slots Q (F0 m 27 ls [])) :
    ∀ (k : Nat) (n : Nat) (w1 : g_H) (f : Nat → Int64) (H : Heap) (locs : List Loc) (ls : Array Slot), n < k → n ≤ cap → g_ex (fun z => z = b ∨ z = wa) w w1 → g_at w1 b (.inr (14, [.ref wa, .int (nI n), .int 0])) → g_at w1 wa (.inl (D.1 103, cap, .inr (.inl f))) → (∀ j, n ≤ j → j < cap → f j = 0) → g_W D A H0 H locs w1 → lv_has ls 1 [(0, .ref b)] → W p l e R s m args below meth c H locs cells slots Q (F0 m 0 ls []) := by
  intro k
  induction k with
  | zero => intro n w1 f H locs ls hfuel hnc hex h1 h2 hz hW hl; exact absurd hfuel (by omega)
  | succ k ih =>
    intro n w1 f H locs ls hfuel hnc hex h1 h2 hz hW hl
    refine lv_aload_n hx hb dJ3_clear_0 rfl (lv_at hl 0 rfl) ?_
    refine g_get (ci := 14) (v := .int (nI n)) (C := RJ3) (T := TJ3) (N := 3) hx hb hts in_J3 hown hK hW h1 rfl 1 (by decide) q178 (fun _ h9 => h9) rfl dJ3_clear_1 ?_
    refine lv_if_le (tgt := 27) hx hb dJ3_clear_4 (by decide) (fun hc => ?_) (fun hc => ?_)
    · have e0 : n = 0 := by
        refine Classical.byContradiction fun z => ?_
        exact absurd hc (by first | exact not_not_intro ((nI_gt0 (by omega)).mpr (by omega)) | exact Int32.not_le.mpr ((nI_gt0 (by omega)).mpr (by omega)))
      subst e0
      exact kk w1 f H locs ls hex h1 h2 (fun j hj => hz j (Nat.zero_le _) hj) hW hl
    · have e0 : 0 < n := by
        refine Classical.byContradiction fun z => ?_
        have : n = 0 := by omega
        subst this
        exact hc (by decide)
      refine lv_aload_n hx hb dJ3_clear_7 rfl (lv_at hl 0 rfl) ?_
      refine g_get (ci := 14) (v := .ref wa) (C := RJ3) (T := TJ3) (N := 3) hx hb hts in_J3 hown hK hW h1 rfl 0 (by decide) q177 (fun _ h9 => h9) rfl dJ3_clear_8 ?_
      refine lv_aload_n hx hb dJ3_clear_11 rfl (lv_at hl 0 rfl) ?_
      refine lv_dup hx hb dJ3_clear_12 rfl ?_
      refine g_get (ci := 14) (v := .int (nI n)) (C := RJ3) (T := TJ3) (N := 3) hx hb hts in_J3 hown hK hW h1 rfl 1 (by decide) q178 (fun _ h9 => h9) rfl dJ3_clear_13 ?_
      refine lv_iconst (v := 1) hx hb dJ3_clear_16 (by decide) ?_
      refine lv_isub hx hb dJ3_clear_17 ?_
      refine g_topi (y := nI (n - 1)) (nI_m1 e0) ?_
      refine lv_dup_x1 hx hb dJ3_clear_18 rfl rfl ?_
      refine g_putf (ci := 14) (v := .int (nI (n - 1))) (ty := .int) (C := RJ3) (T := TJ3) (N := 3) hx hb hts in_J3 tyJ3 tyJ3_ok nmJ3 hown hK hW h1 rfl 1 (by decide) q178 (fun _ h9 => h9) rfl (by decide +kernel) rfl rfl (Nat.le_of_ble_eq_true rfl) dJ3_clear_19 (fun H locs hW => ?_)
      obtain ⟨w_1, ew_1⟩ : ∃ z__, z__ = g_put w1 b (.inr (14, [.ref wa, .int (nI (n - 1)), .int (0)])) := ⟨_, rfl⟩
      have hW := g_W.ren hW ew_1 rfl
      have h_2 : g_at w_1 b (.inr (14, [.ref wa, .int (nI (n - 1)), .int (0)])) := by rw [ew_1]; exact g_at.put_self h1.1
      have h_3 : g_at w_1 wa (.inl (D.1 103, cap, .inr (.inl (f)))) := by rw [ew_1]; exact h2.put (g_neAO h2 h1)
      have x_4 : g_ex (fun z => z = b ∨ z = wa) w w_1 := by rw [ew_1]; exact hex.put (fun hz9 => (Or.inl rfl))
      refine lv_lconst (v := 0) hx hb dJ3_clear_22 rfl ?_
      refine g_lastN (i := n - 1) hx hb hK hW h_3 (by omega) (by omega) dJ3_clear_23 (fun H locs hW => ?_)
      obtain ⟨f_5, ef_5⟩ : ∃ z__, z__ = vp_updL (f) (n - 1) (0) := ⟨_, rfl⟩
      rw [← ef_5] at hW
      obtain ⟨w_6, ew_6⟩ : ∃ z__, z__ = g_put w_1 wa (.inl (D.1 103, cap, .inr (.inl (f_5)))) := ⟨_, rfl⟩
      have hW := g_W.ren hW ew_6 rfl
      have h_7 : g_at w_6 b (.inr (14, [.ref wa, .int (nI (n - 1)), .int (0)])) := by rw [ew_6]; exact h_2.put (g_neOA h_2 h_3)
      have h_8 : g_at w_6 wa (.inl (D.1 103, cap, .inr (.inl (f_5)))) := by rw [ew_6]; exact g_at.put_self h_3.1
      have x_9 : g_ex (fun z => z = b ∨ z = wa) w w_6 := by rw [ew_6]; exact x_4.put (fun hz9 => (Or.inr rfl))
      refine lv_goto (tgt := 0) hx hb dJ3_clear_24 (by decide) ?_
      refine ih (n - 1) w_6 f_5 H locs ls (by omega) (by omega) x_9 h_7 h_8 (fun j hj1 hj2 => ?_) hW hl
      rw [ef_5]
      by_cases r : j = n - 1
      · subst r; exact vl_s
      · rw [vl_n r]; exact hz j (by omega) hj2
set_option maxHeartbeats 4000000 in
set_option maxRecDepth 100000 in
/-- BitSet.clear -/
theorem mtJ3_clear (l : Launch) (D : va_G) (w : g_H) (sz : Nat) (b wa n cap : Nat) (E : Nat → Bool) (hbs : g_BS D w b wa E n cap) : Met l yJ3_clear (ws_ yJ3_clear cJ3_clear 1 none) ({ frames := 1, cells := 0, slots := 0, locals := 12 }) (g_Pc D [.ref b] w sz) (g_Qv D w sz (fun u => g_BS D u b wa (fun _ => false) 0 cap ∧ g_ex (fun z => z = b ∨ z = wa) w u)) (0) (0) (g_A w sz) := by
  refine Met.ofW (cc := cJ3_clear) (maxL := 1) (ret := none) (by decide) rfl ?_
  intro p e s m args below meth c s₁ B hml hv
  obtain ⟨rfl, hI⟩ := hv
  have hx := B.exec
  have hb := B.bytes
  have hr := B.returns
  have hts := atoms_spec (ws := ws_ yJ3_clear cJ3_clear 1 none) B.pre
  have hts : ∀ w ∈ lw_all, w.before _ s = true := fun w h => hts w (List.mem_cons_of_mem _ h)
  have hown : s.vm.findClass RJ3 = some m.cls := findClass_of_methodNamed B.named
  have hlocks := B.notSynchronized
  have hsz := hI.1
  subst hsz
  have hW := g_W.start hI
  have hK := g_K hI
  have hE := g_E hI
  have hl := lv_entry ([.ref b]) (n := 1) (by exact Nat.le_of_ble_eq_true rfl)
  rw [lg_entry_eq]
  generalize (lg_sl ([.ref b]) ++ List.replicate (1 - (lg_sl ([.ref b])).length) Slot.unset).toArray = ls at hl ⊢
  have hl : lv_has ls 1 [(0, .ref b)] := hl
  obtain ⟨hbo, ⟨f, hf, hbits⟩, hnc, hc0, hc64, hE0⟩ := hbs
  refine lpJ3_clear (D := D) hx hb hts hown hK w b wa cap hc64.1 (fun w1 f H locs ls hex h1 h2 hz hW hl => ?_) (n + 1) n w f _ _ ls (by omega) hnc g_ex.rf hbo hf (fun j hj1 hj2 => ?_) hW hl
  · exact g_vret hx hb hr hlocks hW (⟨⟨h1, ⟨f, h2, fun j hj i _ => by rw [hz j hj]; simp⟩, Nat.zero_le _, hc0, ⟨hc64.1, Nat.zero_le _⟩, fun _ _ => rfl⟩, hex⟩) (by omega) (by omega) dJ3_clear_27
  · refine Int64.toBitVec_inj.mp (BitVec.eq_of_getLsbD_eq fun i hi => ?_)
    rw [hbits j hj2 i hi, hE0 _ (by omega)]; simp
