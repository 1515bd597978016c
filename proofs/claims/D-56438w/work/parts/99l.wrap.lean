/-! the law's calls of the class: each answers what was thrown *
-/
set_option maxRecDepth 100000
/-- a body with handlers of its own that throws nothing -/
theorem g_ofWH {l : Launch} {y : MethodName} {ws ws' : List Cond} {rm : Room} {Pc : Array Value → State → Prop} {Qc : Array Value → State → Outcome → State → Prop} {mc ms : Nat} {free : Addr → Prop} {cc : ByteArray} {maxL : Nat} {ret : Option FieldType} {hh : List (Nat × Nat × Nat × Nat)}
    (hy : plainName y.cls = true) (hw : ws = Cond.codeWith y cc maxL ret hh :: ws')
    (body : ∀ p e s m args below meth c s₁, BodyLoose p l y (headSpec ws rm) cc maxL ret e s m args below meth c s₁ → c.maxLocals = maxL → Pc args s →
      W p l e (headSpec ws rm).room s m args below meth c s.heap [] 0 0 (MQ below Qc args s mc ms free) (entryFrame m args maxL)) : Met l y ws rm Pc Qc mc ms free := by
  refine MetFree.of_bodyS (code := cc) (maxLocals := maxL) (ret := ret) hy ?_ ?_
  · intro args s m h hn
    obtain ⟨m9, meth, c, hn9, h1, h2, h3, h4, -, h5, h6, -⟩ := Cond.codeWith_spec (atoms_spec (ws := ws) h _ (by rw [hw]; exact List.mem_cons_self))
    cases hn.symm.trans hn9
    exact ⟨meth, c, h1, h2, h3, h4, h5, h6⟩
  · intro p e s m args below meth c s₁ B hml hP _
    have hh0 : s₁.heap = s.heap := by rw [B.state]; rfl
    obtain ⟨t, a1, o, b1, b2, b3⟩ := body p e s m args below meth c s₁ B hml hP s₁ hh0 (Stand.of_body B)
    exact ⟨t, o, a1, b1, b2, ⟨b3.1, b3.2⟩⟩
section GNP
variable {p : Program} {l : Launch} {e : Env} {R : Room} {s : State} {m : MethodId} {args : Array Value} {below : List Frame} {meth : Method} {c : Code} {H : Heap} {locs : List Loc} {cells slots : Nat} {Q : State → Prop}
variable {cc : ByteArray} {pc : Nat} {ls : Array Slot} {rest : List Value} {D : va_G} {A : Nat → Prop} {a : Nat} {w : g_H} {H0 : Heap}
theorem g_putfN (hx : p.tables.exec = Jvm.exec) (hb : c.code = cc) {own ref C host : String} {T : u_T} {N ci index : Nat} (hts : ∀ w ∈ lw_all, w.before args s = true) (hin : ∀ w ∈ u_ws C T N, w ∈ lw_all) (ty0 : Nat → FieldType) (hty : ∀ k, k < N → parseFieldDescriptor (T k).2.2.1 = some (ty0 k)) (hnm : ∀ a, a < N → ∀ b, b < N → a ≠ b → (T a).2.1 ≠ (T b).2.1) (hown : s.vm.findClass own = some m.cls) (hK : va_K D gCl (gT D) s) (hW : g_W D A H0 H locs w) {fs : List Value} (he : g_at w a (.inr (ci, fs))) (hc : gCl[ci]? = some (C, T, N)) (k : Nat) (hk : k < N) (hlink : va_Nw (.fieldLinkNest own index ref (T k).2.1 (T k).2.2.1 host) s) (hsame : ∀ x, s.fieldFound? (T k).1 (T k).2.1 (T k).2.2.1 = some x → s.fieldFound? ref (T k).2.1 (T k).2.2.1 = some x) (hfin : (T k).2.2.2 = false) {ty : FieldType} {v : Value} (hd : parseFieldDescriptor (T k).2.2.1 = some ty) (hn : narrow ty v = v) (hfit : fits ty v = true) (hl : k < fs.length) (hdg : decode cc pc = .ok (.putfield index, 3))
    (kk : ∀ (H1 : Heap) (locs1 : List Loc), g_W D A H0 H1 locs1 (g_put w a (.inr (ci, fs.set k v))) → W p l e R s m args below meth c H1 locs1 cells slots Q (F0 m (pc + 3) ls rest)) : W p l e R s m args below meth c H locs cells slots Q (F0 m pc ls (v :: .ref a :: rest)) := by
  obtain ⟨q0, h0⟩ := hW.get he
  refine va_putN hx hb hts hin ty0 hty hnm hown hK hW.1 hW.2.1 hW.2.2.1 q0 h0 hc k hk (va_Nw.use rfl hlink) hsame hfin hd hn hfit hl hdg (fun H1 locs1 h1 h2 h3 => kk H1 locs1 ?_)
  rw [g_set hW.2.1 he h0] at h1 h2
  exact ⟨h1, h2, h3, hW.2.2.2⟩
end GNP
/-- what the law keeps of an answer -/
abbrev oOut (n : Int64) (d : UInt64) (s v f : Option Nat) : va_E := .inr (9, [.long n, .double d, va_rf s, va_rf v, va_rf f])
set_option maxHeartbeats 4000000 in
set_option maxRecDepth 100000 in
/-- the law: add -/
theorem mtX0_add (l : Launch) (D : va_G) (w : g_H) (sz : Nat) (hl9 : l.stackTraces = false) (lab : Nat → Nat) (x ac rn tt : Nat) (rf : Nat → Nat) (P : List mI) (C : List yC) (A : Nat → List (List Nat)) (cov : Nat → Bool) (K Q : List (List Nat)) (F : List (List Nat × List Nat × Int32)) (cp : Nat → Nat) (hS : g_SZ D w lab x rf P C A cov K Q ac F rn tt cp) (i9 op : Nat) (rg vl tg : Int32) (hi : g_at w i9 (.inr (7, [.ref (D.2 1002 op), .int (rg), .int (vl), .int (tg)]))) (hop : op < 9) (o : Nat) (n0 : Int64) (d0 : UInt64) (s0 v0 f0 : Option Nat) (ho : g_at w o (oOut n0 d0 s0 v0 f0)) (hko : ∀ (r1 : Int32) (u1 : g_H), (fun r u => (iOk op rg vl tg ∧ P.length < 16 ∧ rn = 0) ∧ r = nI (P.length + 1) ∧ ∃ l2, g_SZ D u l2 x rf (P ++ [(op, rg.toNatClampNeg, vl, tg.toNatClampNeg)]) C A cov K Q ac F rn tt (cpU cp 2 (g_an P.length (cp 2))) ∧ yCh w lab u l2) r1 u1 → g_at u1 o (oOut n0 d0 s0 v0 f0)) : Met l yX0_add (wsW_ yX0_add cX0_add 4 (some .int) [(0, 10, 13, 110), (0, 10, 16, 112)]) ({ frames := 13, cells := 2 + g_ac P.length (cp 2), slots := 12 + g_as P.length (cp 2), locals := 326 }) (g_Pc D [.ref x, .ref i9, .ref o] w sz) (g_Qi D w sz (fun r u => (∃ (r1 : Int32) (u1 : g_H), (fun r u => (iOk op rg vl tg ∧ P.length < 16 ∧ rn = 0) ∧ r = nI (P.length + 1) ∧ ∃ l2, g_SZ D u l2 x rf (P ++ [(op, rg.toNatClampNeg, vl, tg.toNatClampNeg)]) C A cov K Q ac F rn tt (cpU cp 2 (g_an P.length (cp 2))) ∧ yCh w lab u l2) r1 u1 ∧ u = g_put u1 o (oOut r1.toInt64 d0 s0 v0 f0) ∧ r = 0) ∨ (∃ E : String, (fun E u => w = u ∧ ((E = "java/lang/IllegalArgumentException" ∧ ¬ iOk op rg vl tg) ∨ (E = "java/lang/IllegalStateException" ∧ iOk op rg vl tg ∧ ¬ (P.length < 16 ∧ rn = 0)))) E u ∧ ((E = "java/lang/IllegalArgumentException" ∧ r = 1) ∨ (E = "java/lang/IllegalStateException" ∧ r = 2))))) (2 + g_ac P.length (cp 2)) (12 + g_as P.length (cp 2)) (g_A w sz) := by
  refine g_ofWH (hh := [(0, 10, 13, 110), (0, 10, 16, 112)]) (cc := cX0_add) (maxL := 4) (ret := (some .int)) (by decide) rfl ?_
  intro p e s m args below meth c s₁ B hml hv
  obtain ⟨rfl, hI⟩ := hv
  have hx := B.exec
  have hb := B.bytes
  have hr := B.returns
  have hts := atoms_spec (ws := wsW_ yX0_add cX0_add 4 (some .int) [(0, 10, 13, 110), (0, 10, 16, 112)]) B.pre
  have hts : ∀ w ∈ lw_all, w.before _ s = true := fun w h => hts w (List.mem_cons_of_mem _ h)
  have hown : s.vm.findClass RX0 = some m.cls := findClass_of_methodNamed B.named
  have hlocks := B.notSynchronized
  have hsz := hI.1
  subst hsz
  have hW := g_W.start hI
  have hK := g_K hI
  have hE := g_E hI
  have hl := lv_entry ([.ref x, .ref i9, .ref o]) (n := 4) (by exact Nat.le_of_ble_eq_true rfl)
  rw [lg_entry_eq]
  generalize (lg_sl ([.ref x, .ref i9, .ref o]) ++ List.replicate (4 - (lg_sl ([.ref x, .ref i9, .ref o])).length) Slot.unset).toArray = ls at hl ⊢
  have hl : lv_has ls 4 [(0, .ref x), (1, .ref i9), (2, .ref o)] := hl
  have hEo : g_at w o (oOut n0 d0 s0 v0 f0) := ho
  have htab : c.exceptionTable.toList = tableOf [(0, 10, 13, 110), (0, 10, 16, 112)] := vx_table (x := yX0_add) (hh := [(0, 10, 13, 110), (0, 10, 16, 112)]) B (atoms_spec (ws := wsW_ yX0_add cX0_add 4 (some .int) [(0, 10, 13, 110), (0, 10, 16, 112)]) B.pre _ List.mem_cons_self)
  refine lv_aload_n hx hb dX0_add_0 rfl (lv_at hl 2 rfl) ?_
  refine lv_aload_n hx hb dX0_add_1 rfl (lv_at hl 0 rfl) ?_
  refine lv_aload_n hx hb dX0_add_2 rfl (lv_at hl 1 rfl) ?_
  refine g_xcalli (vx_runV (As := [.ref i9]) (rest := [.ref o]) ⟨hx, hb, hml, hown, hts⟩ (mtX1_add l hl9 D w s.heap.size lab x ac rn tt rf P C A cov K Q F cp hS i9 op rg vl tg hi hop) (cwV 1 hts (lw_V q549 q550 q551 q34 q552) rfl rfl rfl (by decide +kernel) ⟨Nat.le_of_ble_eq_true rfl, Nat.le_of_ble_eq_true rfl⟩) (g_preV hW hK hE hS.1.1 rfl) rfl rfl hl.1 rfl (lv_room (Nat.le_of_ble_eq_true rfl)) dX0_add_3 ⟨?_, ?_⟩) hW (fun E ce q9 u_ H locs hp hW hxc1 hxc2 hxc3 => ?_) (fun r1 u1 H locs hp hW => ?_)
  · (try simp only [headSpec]); omega
  · (try simp only [headSpec]); omega
  · have hE9 : E = "java/lang/IllegalArgumentException" ∨ E = "java/lang/IllegalStateException" := by
      rcases hp with ⟨-, ⟨h, -⟩ | ⟨h, -⟩⟩
      · exact Or.inl h
      · exact Or.inr h
    rcases hE9 with h9 | h9
    · subst h9
      refine vx_catch (own := RX0) (name := "java/lang/IllegalArgumentException") hown [] ⟨0, 10, 13, 110⟩ [⟨0, 10, 16, 112⟩] (htab.trans rfl) (fun _ z => by cases z) (by decide) (by decide) (hts _ q547) (va_Nw.use rfl (hE.ca (by decide +kernel))) hxc1 hxc2 hxc3 ?_
      refine lv_astore_n (lv' := [(3, .ref q9), (0, .ref x), (1, .ref i9), (2, .ref o)]) hx hb dX0_add_13 rfl hl (by decide) rfl (fun ls hl => ?_)
      refine lv_iconst (v := 1) hx hb dX0_add_14 (by decide) ?_
      exact g_iret (v := 1) hx hb hr hlocks hW (Or.inr ⟨_, hp, Or.inl ⟨rfl, rfl⟩⟩) (by omega) (by omega) dX0_add_15
    · subst h9
      have hpass : ∀ z ∈ ([⟨0, 10, 13, 110⟩] : List ExceptionTableEntry), covers z 3 = false ∨ (z.catchType ≠ 0 ∧ ∃ nm : String, (Cond.classLink RX0 z.catchType nm).before _ s = true ∧ va_Nc "java/lang/IllegalStateException" nm s) := fun z hz => by
        simp only [List.mem_cons, List.not_mem_nil, or_false] at hz
        rcases hz with rfl
        · exact Or.inr ⟨by decide, "java/lang/IllegalArgumentException", hts _ q547, hE.nn (by decide)⟩
      refine vx_catch (own := RX0) (name := "java/lang/IllegalStateException") hown [⟨0, 10, 13, 110⟩] ⟨0, 10, 16, 112⟩ [] (htab.trans rfl) (hpass) (by decide) (by decide) (hts _ q548) (va_Nw.use rfl (hE.ca (by decide +kernel))) hxc1 hxc2 hxc3 ?_
      refine lv_astore_n (lv' := [(3, .ref q9), (0, .ref x), (1, .ref i9), (2, .ref o)]) hx hb dX0_add_16 rfl hl (by decide) rfl (fun ls hl => ?_)
      refine lv_iconst (v := 2) hx hb dX0_add_17 (by decide) ?_
      exact g_iret (v := 2) hx hb hr hlocks hW (Or.inr ⟨_, hp, Or.inr (⟨rfl, rfl⟩)⟩) (by omega) (by omega) dX0_add_18
  · refine lv_i2l (v := (r1 : Int32).toInt64) hx hb dX0_add_6 rfl ?_
    refine g_putfN (ci := 9) (v := .long ((r1 : Int32).toInt64)) (ty := .long) (C := RX4) (T := TX4) (N := 5) hx hb hts in_X4 tyX4 tyX4_ok nmX4 hown hK hW (hko _ _ hp) rfl 0 (by decide) (nf_q466 hE) (fun _ h9 => h9) rfl (by decide +kernel) rfl rfl (Nat.le_of_ble_eq_true rfl) dX0_add_7 (fun H locs hW => ?_)
    obtain ⟨w_1, ew_1⟩ : ∃ z__, z__ = g_put u1 o (.inr (9, [.long ((r1 : Int32).toInt64), .double (d0), va_rf (s0), va_rf (v0), va_rf (f0)])) := ⟨_, rfl⟩
    have hW := g_W.ren hW ew_1 rfl
    have h_2 : g_at w_1 o (.inr (9, [.long ((r1 : Int32).toInt64), .double (d0), va_rf (s0), va_rf (v0), va_rf (f0)])) := by rw [ew_1]; exact g_at.put_self (hko _ _ hp).1
    refine lv_goto (tgt := 19) hx hb dX0_add_10 (by decide) ?_
    refine lv_iconst (v := 0) hx hb dX0_add_19 (by decide) ?_
    exact g_iret (v := 0) hx hb hr hlocks hW (Or.inl ⟨r1, u1, hp, ew_1, rfl⟩) (by omega) (by omega) dX0_add_20
set_option maxHeartbeats 4000000 in
set_option maxRecDepth 100000 in
/-- the law: addChange -/
theorem mtX0_addChange (l : Launch) (D : va_G) (w : g_H) (sz : Nat) (hl9 : l.stackTraces = false) (lab : Nat → Nat) (x ac rn tt : Nat) (rf : Nat → Nat) (P : List mI) (C : List yC) (A : Nat → List (List Nat)) (cov : Nat → Bool) (K Q : List (List Nat)) (F : List (List Nat × List Nat × Int32)) (cp : Nat → Nat) (hS : g_SZ D w lab x rf P C A cov K Q ac F rn tt cp) (k9 : Nat) (p9 d9 : Int32) (hk9 : k9 < 4) (hcp : cp 3 = 0 ∨ 8 < cp 3) (o : Nat) (n0 : Int64) (d0 : UInt64) (s0 v0 f0 : Option Nat) (ho : g_at w o (oOut n0 d0 s0 v0 f0)) (hko : ∀ (r1 : Int32) (u1 : g_H), (fun r u => (kEd p9 d9 ∧ C.length < 8) ∧ r = nI (C.length + 1) ∧ ∃ l2, g_SZ D u l2 x rf P (C ++ [(k9, p9.toNatClampNeg, d9.toNatClampNeg)]) A cov K Q ac F rn tt (cpU cp 3 (g_an C.length (cp 3))) ∧ yCh w lab u l2) r1 u1 → g_at u1 o (oOut n0 d0 s0 v0 f0)) : Met l yX0_addChange (wsW_ yX0_addChange cX0_addChange 6 (some .int) [(0, 13, 16, 110), (0, 13, 20, 112)]) ({ frames := 13, cells := 3 + g_ac C.length (cp 3), slots := 16 + g_as C.length (cp 3), locals := 328 }) (g_Pc D [.ref x, .ref (D.2 1004 k9), .int (p9), .int (d9), .ref o] w sz) (g_Qi D w sz (fun r u => (∃ (r1 : Int32) (u1 : g_H), (fun r u => (kEd p9 d9 ∧ C.length < 8) ∧ r = nI (C.length + 1) ∧ ∃ l2, g_SZ D u l2 x rf P (C ++ [(k9, p9.toNatClampNeg, d9.toNatClampNeg)]) A cov K Q ac F rn tt (cpU cp 3 (g_an C.length (cp 3))) ∧ yCh w lab u l2) r1 u1 ∧ u = g_put u1 o (oOut r1.toInt64 d0 s0 v0 f0) ∧ r = 0) ∨ (∃ E : String, (fun E u => g_ex (fun _ => False) w u ∧ ((E = "java/lang/IllegalArgumentException" ∧ ¬ kEd p9 d9) ∨ (E = "java/lang/IllegalStateException" ∧ kEd p9 d9 ∧ ¬ C.length < 8))) E u ∧ ((E = "java/lang/IllegalArgumentException" ∧ r = 1) ∨ (E = "java/lang/IllegalStateException" ∧ r = 2))))) (3 + g_ac C.length (cp 3)) (16 + g_as C.length (cp 3)) (g_A w sz) := by
  refine g_ofWH (hh := [(0, 13, 16, 110), (0, 13, 20, 112)]) (cc := cX0_addChange) (maxL := 6) (ret := (some .int)) (by decide) rfl ?_
  intro p e s m args below meth c s₁ B hml hv
  obtain ⟨rfl, hI⟩ := hv
  have hx := B.exec
  have hb := B.bytes
  have hr := B.returns
  have hts := atoms_spec (ws := wsW_ yX0_addChange cX0_addChange 6 (some .int) [(0, 13, 16, 110), (0, 13, 20, 112)]) B.pre
  have hts : ∀ w ∈ lw_all, w.before _ s = true := fun w h => hts w (List.mem_cons_of_mem _ h)
  have hown : s.vm.findClass RX0 = some m.cls := findClass_of_methodNamed B.named
  have hlocks := B.notSynchronized
  have hsz := hI.1
  subst hsz
  have hW := g_W.start hI
  have hK := g_K hI
  have hE := g_E hI
  have hl := lv_entry ([.ref x, .ref (D.2 1004 k9), .int (p9), .int (d9), .ref o]) (n := 6) (by exact Nat.le_of_ble_eq_true rfl)
  rw [lg_entry_eq]
  generalize (lg_sl ([.ref x, .ref (D.2 1004 k9), .int (p9), .int (d9), .ref o]) ++ List.replicate (6 - (lg_sl ([.ref x, .ref (D.2 1004 k9), .int (p9), .int (d9), .ref o])).length) Slot.unset).toArray = ls at hl ⊢
  have hl : lv_has ls 6 [(0, .ref x), (1, .ref (D.2 1004 k9)), (2, .int (p9)), (3, .int (d9)), (4, .ref o)] := hl
  have hEo : g_at w o (oOut n0 d0 s0 v0 f0) := ho
  have htab : c.exceptionTable.toList = tableOf [(0, 13, 16, 110), (0, 13, 20, 112)] := vx_table (x := yX0_addChange) (hh := [(0, 13, 16, 110), (0, 13, 20, 112)]) B (atoms_spec (ws := wsW_ yX0_addChange cX0_addChange 6 (some .int) [(0, 13, 16, 110), (0, 13, 20, 112)]) B.pre _ List.mem_cons_self)
  refine lv_aload hx hb dX0_addChange_0 (lv_at hl 4 rfl) ?_
  refine lv_aload_n hx hb dX0_addChange_2 rfl (lv_at hl 0 rfl) ?_
  refine lv_aload_n hx hb dX0_addChange_3 rfl (lv_at hl 1 rfl) ?_
  refine lv_iload_n hx hb dX0_addChange_4 rfl (lv_at hl 2 rfl) ?_
  refine lv_iload_n hx hb dX0_addChange_5 rfl (lv_at hl 3 rfl) ?_
  refine g_xcalli (vx_runV (As := [.ref (D.2 1004 k9), .int (p9), .int (d9)]) (rest := [.ref o]) ⟨hx, hb, hml, hown, hts⟩ (mtX1_addChange l hl9 D w s.heap.size lab x ac rn tt rf P C A cov K Q F cp hS k9 p9 d9 hk9 hcp) (cwV 3 hts (lw_V q665 q666 q667 q34 q668) rfl rfl rfl (by decide +kernel) ⟨Nat.le_of_ble_eq_true rfl, Nat.le_of_ble_eq_true rfl⟩) (g_preV hW hK hE hS.1.1 rfl) rfl rfl hl.1 rfl (lv_room (Nat.le_of_ble_eq_true rfl)) dX0_addChange_6 ⟨?_, ?_⟩) hW (fun E ce q9 u_ H locs hp hW hxc1 hxc2 hxc3 => ?_) (fun r1 u1 H locs hp hW => ?_)
  · (try simp only [headSpec]); omega
  · (try simp only [headSpec]); omega
  · have hE9 : E = "java/lang/IllegalArgumentException" ∨ E = "java/lang/IllegalStateException" := by
      rcases hp with ⟨-, ⟨h, -⟩ | ⟨h, -⟩⟩
      · exact Or.inl h
      · exact Or.inr h
    rcases hE9 with h9 | h9
    · subst h9
      refine vx_catch (own := RX0) (name := "java/lang/IllegalArgumentException") hown [] ⟨0, 13, 16, 110⟩ [⟨0, 13, 20, 112⟩] (htab.trans rfl) (fun _ z => by cases z) (by decide) (by decide) (hts _ q547) (va_Nw.use rfl (hE.ca (by decide +kernel))) hxc1 hxc2 hxc3 ?_
      refine lv_astore (lv' := [(5, .ref q9), (0, .ref x), (1, .ref (D.2 1004 k9)), (2, .int (p9)), (3, .int (d9)), (4, .ref o)]) hx hb dX0_addChange_16 hl (by decide) rfl (fun ls hl => ?_)
      refine lv_iconst (v := 1) hx hb dX0_addChange_18 (by decide) ?_
      exact g_iret (v := 1) hx hb hr hlocks hW (Or.inr ⟨_, hp, Or.inl ⟨rfl, rfl⟩⟩) (by omega) (by omega) dX0_addChange_19
    · subst h9
      have hpass : ∀ z ∈ ([⟨0, 13, 16, 110⟩] : List ExceptionTableEntry), covers z 6 = false ∨ (z.catchType ≠ 0 ∧ ∃ nm : String, (Cond.classLink RX0 z.catchType nm).before _ s = true ∧ va_Nc "java/lang/IllegalStateException" nm s) := fun z hz => by
        simp only [List.mem_cons, List.not_mem_nil, or_false] at hz
        rcases hz with rfl
        · exact Or.inr ⟨by decide, "java/lang/IllegalArgumentException", hts _ q547, hE.nn (by decide)⟩
      refine vx_catch (own := RX0) (name := "java/lang/IllegalStateException") hown [⟨0, 13, 16, 110⟩] ⟨0, 13, 20, 112⟩ [] (htab.trans rfl) (hpass) (by decide) (by decide) (hts _ q548) (va_Nw.use rfl (hE.ca (by decide +kernel))) hxc1 hxc2 hxc3 ?_
      refine lv_astore (lv' := [(5, .ref q9), (0, .ref x), (1, .ref (D.2 1004 k9)), (2, .int (p9)), (3, .int (d9)), (4, .ref o)]) hx hb dX0_addChange_20 hl (by decide) rfl (fun ls hl => ?_)
      refine lv_iconst (v := 2) hx hb dX0_addChange_22 (by decide) ?_
      exact g_iret (v := 2) hx hb hr hlocks hW (Or.inr ⟨_, hp, Or.inr (⟨rfl, rfl⟩)⟩) (by omega) (by omega) dX0_addChange_23
  · refine lv_i2l (v := (r1 : Int32).toInt64) hx hb dX0_addChange_9 rfl ?_
    refine g_putfN (ci := 9) (v := .long ((r1 : Int32).toInt64)) (ty := .long) (C := RX4) (T := TX4) (N := 5) hx hb hts in_X4 tyX4 tyX4_ok nmX4 hown hK hW (hko _ _ hp) rfl 0 (by decide) (nf_q466 hE) (fun _ h9 => h9) rfl (by decide +kernel) rfl rfl (Nat.le_of_ble_eq_true rfl) dX0_addChange_10 (fun H locs hW => ?_)
    obtain ⟨w_1, ew_1⟩ : ∃ z__, z__ = g_put u1 o (.inr (9, [.long ((r1 : Int32).toInt64), .double (d0), va_rf (s0), va_rf (v0), va_rf (f0)])) := ⟨_, rfl⟩
    have hW := g_W.ren hW ew_1 rfl
    have h_2 : g_at w_1 o (.inr (9, [.long ((r1 : Int32).toInt64), .double (d0), va_rf (s0), va_rf (v0), va_rf (f0)])) := by rw [ew_1]; exact g_at.put_self (hko _ _ hp).1
    refine lv_goto (tgt := 24) hx hb dX0_addChange_13 (by decide) ?_
    refine lv_iconst (v := 0) hx hb dX0_addChange_24 (by decide) ?_
    exact g_iret (v := 0) hx hb hr hlocks hW (Or.inl ⟨r1, u1, hp, ew_1, rfl⟩) (by omega) (by omega) dX0_addChange_25
set_option maxHeartbeats 4000000 in
set_option maxRecDepth 100000 in
/-- the law: addAlternative -/
theorem mtX0_addAlternative (l : Launch) (D : va_G) (w : g_H) (sz : Nat) (hl9 : l.stackTraces = false) (lab : Nat → Nat) (x ac rn tt : Nat) (rf : Nat → Nat) (P : List mI) (C : List yC) (A : Nat → List (List Nat)) (cov : Nat → Bool) (K Q : List (List Nat)) (F : List (List Nat × List Nat × Int32)) (cp : Nat → Nat) (hS : g_SZ D w lab x rf P C A cov K Q ac F rn tt cp) (c9 st : Nat) (t : List Nat) (hc9 : c9 < 65536) (hst : g_Str D w st t) (o : Nat) (n0 : Int64) (d0 : UInt64) (s0 v0 f0 : Option Nat) (ho : g_at w o (oOut n0 d0 s0 v0 f0)) (hko : ∀ (r1 : Int32) (u1 : g_H), (fun r u => ((kKind c9 = 1 ∧ kHas t 1 = true) ∧ (A (c9 - 65)).length < 3) ∧ r = nI ((A (c9 - 65)).length + 1) ∧ ∃ l2, g_SZ D u l2 x rf P C (fun i => if i = c9 - 65 then A (c9 - 65) ++ [t] else A i) cov K Q ac F rn tt (cpU cp (5 + (c9 - 65)) (g_an (A (c9 - 65)).length (cp (5 + (c9 - 65))))) ∧ yCh w lab u l2) r1 u1 → g_at u1 o (oOut n0 d0 s0 v0 f0)) : Met l yX0_addAlternative (wsW_ yX0_addAlternative cX0_addAlternative 5 (some .int) [(0, 11, 14, 110), (0, 11, 18, 112)]) ({ frames := 13, cells := 2 + g_ac (A (c9 - 65)).length (cp (5 + (c9 - 65))), slots := 12 + g_as (A (c9 - 65)).length (cp (5 + (c9 - 65))), locals := 327 }) (g_Pc D [.ref x, .int (nI c9), .ref st, .ref o] w sz) (g_Qi D w sz (fun r u => (∃ (r1 : Int32) (u1 : g_H), (fun r u => ((kKind c9 = 1 ∧ kHas t 1 = true) ∧ (A (c9 - 65)).length < 3) ∧ r = nI ((A (c9 - 65)).length + 1) ∧ ∃ l2, g_SZ D u l2 x rf P C (fun i => if i = c9 - 65 then A (c9 - 65) ++ [t] else A i) cov K Q ac F rn tt (cpU cp (5 + (c9 - 65)) (g_an (A (c9 - 65)).length (cp (5 + (c9 - 65))))) ∧ yCh w lab u l2) r1 u1 ∧ u = g_put u1 o (oOut r1.toInt64 d0 s0 v0 f0) ∧ r = 0) ∨ (∃ E : String, (fun E u => w = u ∧ ((E = "java/lang/IllegalArgumentException" ∧ ¬ (kKind c9 = 1 ∧ kHas t 1 = true)) ∨ (E = "java/lang/IllegalStateException" ∧ (kKind c9 = 1 ∧ kHas t 1 = true) ∧ ¬ (A (c9 - 65)).length < 3))) E u ∧ ((E = "java/lang/IllegalArgumentException" ∧ r = 1) ∨ (E = "java/lang/IllegalStateException" ∧ r = 2))))) (2 + g_ac (A (c9 - 65)).length (cp (5 + (c9 - 65)))) (12 + g_as (A (c9 - 65)).length (cp (5 + (c9 - 65)))) (g_A w sz) := by
  refine g_ofWH (hh := [(0, 11, 14, 110), (0, 11, 18, 112)]) (cc := cX0_addAlternative) (maxL := 5) (ret := (some .int)) (by decide) rfl ?_
  intro p e s m args below meth c s₁ B hml hv
  obtain ⟨rfl, hI⟩ := hv
  have hx := B.exec
  have hb := B.bytes
  have hr := B.returns
  have hts := atoms_spec (ws := wsW_ yX0_addAlternative cX0_addAlternative 5 (some .int) [(0, 11, 14, 110), (0, 11, 18, 112)]) B.pre
  have hts : ∀ w ∈ lw_all, w.before _ s = true := fun w h => hts w (List.mem_cons_of_mem _ h)
  have hown : s.vm.findClass RX0 = some m.cls := findClass_of_methodNamed B.named
  have hlocks := B.notSynchronized
  have hsz := hI.1
  subst hsz
  have hW := g_W.start hI
  have hK := g_K hI
  have hE := g_E hI
  have hl := lv_entry ([.ref x, .int (nI c9), .ref st, .ref o]) (n := 5) (by exact Nat.le_of_ble_eq_true rfl)
  rw [lg_entry_eq]
  generalize (lg_sl ([.ref x, .int (nI c9), .ref st, .ref o]) ++ List.replicate (5 - (lg_sl ([.ref x, .int (nI c9), .ref st, .ref o])).length) Slot.unset).toArray = ls at hl ⊢
  have hl : lv_has ls 5 [(0, .ref x), (1, .int (nI c9)), (2, .ref st), (3, .ref o)] := hl
  have hEo : g_at w o (oOut n0 d0 s0 v0 f0) := ho
  have htab : c.exceptionTable.toList = tableOf [(0, 11, 14, 110), (0, 11, 18, 112)] := vx_table (x := yX0_addAlternative) (hh := [(0, 11, 14, 110), (0, 11, 18, 112)]) B (atoms_spec (ws := wsW_ yX0_addAlternative cX0_addAlternative 5 (some .int) [(0, 11, 14, 110), (0, 11, 18, 112)]) B.pre _ List.mem_cons_self)
  refine lv_aload_n hx hb dX0_addAlternative_0 rfl (lv_at hl 3 rfl) ?_
  refine lv_aload_n hx hb dX0_addAlternative_1 rfl (lv_at hl 0 rfl) ?_
  refine lv_iload_n hx hb dX0_addAlternative_2 rfl (lv_at hl 1 rfl) ?_
  refine lv_aload_n hx hb dX0_addAlternative_3 rfl (lv_at hl 2 rfl) ?_
  refine g_xcalli (vx_runV (As := [.int (nI c9), .ref st]) (rest := [.ref o]) ⟨hx, hb, hml, hown, hts⟩ (mtX1_addAlternative l hl9 D w s.heap.size lab x ac rn tt rf P C A cov K Q F cp hS c9 st t hc9 hst) (cwV 2 hts (lw_V q729 q730 q731 q34 q732) rfl rfl rfl (by decide +kernel) ⟨Nat.le_of_ble_eq_true rfl, Nat.le_of_ble_eq_true rfl⟩) (g_preV hW hK hE hS.1.1 rfl) rfl rfl hl.1 rfl (lv_room (Nat.le_of_ble_eq_true rfl)) dX0_addAlternative_4 ⟨?_, ?_⟩) hW (fun E ce q9 u_ H locs hp hW hxc1 hxc2 hxc3 => ?_) (fun r1 u1 H locs hp hW => ?_)
  · (try simp only [headSpec]); omega
  · (try simp only [headSpec]); omega
  · have hE9 : E = "java/lang/IllegalArgumentException" ∨ E = "java/lang/IllegalStateException" := by
      rcases hp with ⟨-, ⟨h, -⟩ | ⟨h, -⟩⟩
      · exact Or.inl h
      · exact Or.inr h
    rcases hE9 with h9 | h9
    · subst h9
      refine vx_catch (own := RX0) (name := "java/lang/IllegalArgumentException") hown [] ⟨0, 11, 14, 110⟩ [⟨0, 11, 18, 112⟩] (htab.trans rfl) (fun _ z => by cases z) (by decide) (by decide) (hts _ q547) (va_Nw.use rfl (hE.ca (by decide +kernel))) hxc1 hxc2 hxc3 ?_
      refine lv_astore (lv' := [(4, .ref q9), (0, .ref x), (1, .int (nI c9)), (2, .ref st), (3, .ref o)]) hx hb dX0_addAlternative_14 hl (by decide) rfl (fun ls hl => ?_)
      refine lv_iconst (v := 1) hx hb dX0_addAlternative_16 (by decide) ?_
      exact g_iret (v := 1) hx hb hr hlocks hW (Or.inr ⟨_, hp, Or.inl ⟨rfl, rfl⟩⟩) (by omega) (by omega) dX0_addAlternative_17
    · subst h9
      have hpass : ∀ z ∈ ([⟨0, 11, 14, 110⟩] : List ExceptionTableEntry), covers z 4 = false ∨ (z.catchType ≠ 0 ∧ ∃ nm : String, (Cond.classLink RX0 z.catchType nm).before _ s = true ∧ va_Nc "java/lang/IllegalStateException" nm s) := fun z hz => by
        simp only [List.mem_cons, List.not_mem_nil, or_false] at hz
        rcases hz with rfl
        · exact Or.inr ⟨by decide, "java/lang/IllegalArgumentException", hts _ q547, hE.nn (by decide)⟩
      refine vx_catch (own := RX0) (name := "java/lang/IllegalStateException") hown [⟨0, 11, 14, 110⟩] ⟨0, 11, 18, 112⟩ [] (htab.trans rfl) (hpass) (by decide) (by decide) (hts _ q548) (va_Nw.use rfl (hE.ca (by decide +kernel))) hxc1 hxc2 hxc3 ?_
      refine lv_astore (lv' := [(4, .ref q9), (0, .ref x), (1, .int (nI c9)), (2, .ref st), (3, .ref o)]) hx hb dX0_addAlternative_18 hl (by decide) rfl (fun ls hl => ?_)
      refine lv_iconst (v := 2) hx hb dX0_addAlternative_20 (by decide) ?_
      exact g_iret (v := 2) hx hb hr hlocks hW (Or.inr ⟨_, hp, Or.inr (⟨rfl, rfl⟩)⟩) (by omega) (by omega) dX0_addAlternative_21
  · refine lv_i2l (v := (r1 : Int32).toInt64) hx hb dX0_addAlternative_7 rfl ?_
    refine g_putfN (ci := 9) (v := .long ((r1 : Int32).toInt64)) (ty := .long) (C := RX4) (T := TX4) (N := 5) hx hb hts in_X4 tyX4 tyX4_ok nmX4 hown hK hW (hko _ _ hp) rfl 0 (by decide) (nf_q466 hE) (fun _ h9 => h9) rfl (by decide +kernel) rfl rfl (Nat.le_of_ble_eq_true rfl) dX0_addAlternative_8 (fun H locs hW => ?_)
    obtain ⟨w_1, ew_1⟩ : ∃ z__, z__ = g_put u1 o (.inr (9, [.long ((r1 : Int32).toInt64), .double (d0), va_rf (s0), va_rf (v0), va_rf (f0)])) := ⟨_, rfl⟩
    have hW := g_W.ren hW ew_1 rfl
    have h_2 : g_at w_1 o (.inr (9, [.long ((r1 : Int32).toInt64), .double (d0), va_rf (s0), va_rf (v0), va_rf (f0)])) := by rw [ew_1]; exact g_at.put_self (hko _ _ hp).1
    refine lv_goto (tgt := 22) hx hb dX0_addAlternative_11 (by decide) ?_
    refine lv_iconst (v := 0) hx hb dX0_addAlternative_22 (by decide) ?_
    exact g_iret (v := 0) hx hb hr hlocks hW (Or.inl ⟨r1, u1, hp, ew_1, rfl⟩) (by omega) (by omega) dX0_addAlternative_23
set_option maxHeartbeats 4000000 in
set_option maxRecDepth 100000 in
/-- the law: derive -/
theorem mtX0_derive (l : Launch) (D : va_G) (w : g_H) (sz : Nat) (hl9 : l.stackTraces = false) (lab : Nat → Nat) (x ac rn tt : Nat) (rf : Nat → Nat) (P : List mI) (C : List yC) (A : Nat → List (List Nat)) (cov : Nat → Bool) (K Q : List (List Nat)) (F : List (List Nat × List Nat × Int32)) (cp : Nat → Nat) (hS : g_SZ D w lab x rf P C A cov K Q ac F rn tt cp) (hA : aOk A) (n9 : Int32) (o : Nat) (n0 : Int64) (d0 : UInt64) (s0 v0 f0 : Option Nat) (ho : g_at w o (oOut n0 d0 s0 v0 f0)) (hko : ∀ (r1 : Option Nat) (u1 : g_H), (fun r u => (¬ n9 < 0 ∧ (dvN A n9).1 = 0) ∧ (∃ s9, r = some s9 ∧ g_Str D u s9 (dvN A n9).2) ∧ g_ex (fun _ => False) w u) r1 u1 → g_at u1 o (oOut n0 d0 s0 v0 f0)) : Met l yX0_derive (wsW_ yX0_derive cX0_derive 4 (some .int) [(0, 9, 12, 110), (0, 9, 15, 130), (0, 9, 18, 132)]) ({ frames := 14, cells := 161, slots := 24206, locals := 550 }) (g_Pc D [.ref x, .int (n9), .ref o] w sz) (g_Qi D w sz (fun r u => (∃ (r1 : Option Nat) (u1 : g_H), (fun r u => (¬ n9 < 0 ∧ (dvN A n9).1 = 0) ∧ (∃ s9, r = some s9 ∧ g_Str D u s9 (dvN A n9).2) ∧ g_ex (fun _ => False) w u) r1 u1 ∧ u = g_put u1 o (oOut n0 d0 r1 v0 f0) ∧ r = 0) ∨ (∃ E : String, (fun E u => g_ex (fun _ => False) w u ∧ ((E = "java/lang/IllegalArgumentException" ∧ n9 < 0) ∨ (E = "java/util/NoSuchElementException" ∧ ¬ n9 < 0 ∧ (dvN A n9).1 = 2) ∨ (E = "java/lang/UnsupportedOperationException" ∧ ¬ n9 < 0 ∧ (dvN A n9).1 = 3))) E u ∧ ((E = "java/lang/IllegalArgumentException" ∧ r = 1) ∨ (E = "java/util/NoSuchElementException" ∧ r = 2) ∨ (E = "java/lang/UnsupportedOperationException" ∧ r = 3))))) (161) (24206) (g_A w sz) := by
  refine g_ofWH (hh := [(0, 9, 12, 110), (0, 9, 15, 130), (0, 9, 18, 132)]) (cc := cX0_derive) (maxL := 4) (ret := (some .int)) (by decide) rfl ?_
  intro p e s m args below meth c s₁ B hml hv
  obtain ⟨rfl, hI⟩ := hv
  have hx := B.exec
  have hb := B.bytes
  have hr := B.returns
  have hts := atoms_spec (ws := wsW_ yX0_derive cX0_derive 4 (some .int) [(0, 9, 12, 110), (0, 9, 15, 130), (0, 9, 18, 132)]) B.pre
  have hts : ∀ w ∈ lw_all, w.before _ s = true := fun w h => hts w (List.mem_cons_of_mem _ h)
  have hown : s.vm.findClass RX0 = some m.cls := findClass_of_methodNamed B.named
  have hlocks := B.notSynchronized
  have hsz := hI.1
  subst hsz
  have hW := g_W.start hI
  have hK := g_K hI
  have hE := g_E hI
  have hl := lv_entry ([.ref x, .int (n9), .ref o]) (n := 4) (by exact Nat.le_of_ble_eq_true rfl)
  rw [lg_entry_eq]
  generalize (lg_sl ([.ref x, .int (n9), .ref o]) ++ List.replicate (4 - (lg_sl ([.ref x, .int (n9), .ref o])).length) Slot.unset).toArray = ls at hl ⊢
  have hl : lv_has ls 4 [(0, .ref x), (1, .int (n9)), (2, .ref o)] := hl
  have hEo : g_at w o (oOut n0 d0 s0 v0 f0) := ho
  have htab : c.exceptionTable.toList = tableOf [(0, 9, 12, 110), (0, 9, 15, 130), (0, 9, 18, 132)] := vx_table (x := yX0_derive) (hh := [(0, 9, 12, 110), (0, 9, 15, 130), (0, 9, 18, 132)]) B (atoms_spec (ws := wsW_ yX0_derive cX0_derive 4 (some .int) [(0, 9, 12, 110), (0, 9, 15, 130), (0, 9, 18, 132)]) B.pre _ List.mem_cons_self)
  refine lv_aload_n hx hb dX0_derive_0 rfl (lv_at hl 2 rfl) ?_
  refine lv_aload_n hx hb dX0_derive_1 rfl (lv_at hl 0 rfl) ?_
  refine lv_iload_n hx hb dX0_derive_2 rfl (lv_at hl 1 rfl) ?_
  refine g_xcallq (vx_runV (As := [.int (n9)]) (rest := [.ref o]) ⟨hx, hb, hml, hown, hts⟩ (mtX1_derive l hl9 D w s.heap.size lab x ac rn tt rf P C A cov K Q F cp hS hA n9) (cwV 1 hts (lw_V q1065 q1066 q1067 q34 q1068) rfl rfl rfl (by decide +kernel) ⟨Nat.le_of_ble_eq_true rfl, Nat.le_of_ble_eq_true rfl⟩) (g_preV hW hK hE hS.1.1 rfl) rfl rfl hl.1 rfl (lv_room (Nat.le_of_ble_eq_true rfl)) dX0_derive_3 ⟨?_, ?_⟩) hW (fun E ce q9 u_ H locs hp hW hxc1 hxc2 hxc3 => ?_) (fun r1 u1 H locs hp hW => ?_)
  · (try simp only [headSpec]); omega
  · (try simp only [headSpec]); omega
  · have hE9 : E = "java/lang/IllegalArgumentException" ∨ E = "java/util/NoSuchElementException" ∨ E = "java/lang/UnsupportedOperationException" := by
      rcases hp with ⟨-, ⟨h, -⟩ | ⟨h, -⟩ | ⟨h, -⟩⟩
      · exact Or.inl h
      · exact Or.inr (Or.inl h)
      · exact Or.inr (Or.inr h)
    rcases hE9 with h9 | h9 | h9
    · subst h9
      refine vx_catch (own := RX0) (name := "java/lang/IllegalArgumentException") hown [] ⟨0, 9, 12, 110⟩ [⟨0, 9, 15, 130⟩, ⟨0, 9, 18, 132⟩] (htab.trans rfl) (fun _ z => by cases z) (by decide) (by decide) (hts _ q547) (va_Nw.use rfl (hE.ca (by decide +kernel))) hxc1 hxc2 hxc3 ?_
      refine lv_astore_n (lv' := [(3, .ref q9), (0, .ref x), (1, .int (n9)), (2, .ref o)]) hx hb dX0_derive_12 rfl hl (by decide) rfl (fun ls hl => ?_)
      refine lv_iconst (v := 1) hx hb dX0_derive_13 (by decide) ?_
      exact g_iret (v := 1) hx hb hr hlocks hW (Or.inr ⟨_, hp, Or.inl ⟨rfl, rfl⟩⟩) (by omega) (by omega) dX0_derive_14
    · subst h9
      have hpass : ∀ z ∈ ([⟨0, 9, 12, 110⟩] : List ExceptionTableEntry), covers z 3 = false ∨ (z.catchType ≠ 0 ∧ ∃ nm : String, (Cond.classLink RX0 z.catchType nm).before _ s = true ∧ va_Nc "java/util/NoSuchElementException" nm s) := fun z hz => by
        simp only [List.mem_cons, List.not_mem_nil, or_false] at hz
        rcases hz with rfl
        · exact Or.inr ⟨by decide, "java/lang/IllegalArgumentException", hts _ q547, hE.nn (by decide)⟩
      refine vx_catch (own := RX0) (name := "java/util/NoSuchElementException") hown [⟨0, 9, 12, 110⟩] ⟨0, 9, 15, 130⟩ [⟨0, 9, 18, 132⟩] (htab.trans rfl) (hpass) (by decide) (by decide) (hts _ q1063) (va_Nw.use rfl (hE.ca (by decide +kernel))) hxc1 hxc2 hxc3 ?_
      refine lv_astore_n (lv' := [(3, .ref q9), (0, .ref x), (1, .int (n9)), (2, .ref o)]) hx hb dX0_derive_15 rfl hl (by decide) rfl (fun ls hl => ?_)
      refine lv_iconst (v := 2) hx hb dX0_derive_16 (by decide) ?_
      exact g_iret (v := 2) hx hb hr hlocks hW (Or.inr ⟨_, hp, Or.inr (Or.inl ⟨rfl, rfl⟩)⟩) (by omega) (by omega) dX0_derive_17
    · subst h9
      have hpass : ∀ z ∈ ([⟨0, 9, 12, 110⟩, ⟨0, 9, 15, 130⟩] : List ExceptionTableEntry), covers z 3 = false ∨ (z.catchType ≠ 0 ∧ ∃ nm : String, (Cond.classLink RX0 z.catchType nm).before _ s = true ∧ va_Nc "java/lang/UnsupportedOperationException" nm s) := fun z hz => by
        simp only [List.mem_cons, List.not_mem_nil, or_false] at hz
        rcases hz with rfl | rfl
        · exact Or.inr ⟨by decide, "java/lang/IllegalArgumentException", hts _ q547, hE.nn (by decide)⟩
        · exact Or.inr ⟨by decide, "java/util/NoSuchElementException", hts _ q1063, hE.nn (by decide)⟩
      refine vx_catch (own := RX0) (name := "java/lang/UnsupportedOperationException") hown [⟨0, 9, 12, 110⟩, ⟨0, 9, 15, 130⟩] ⟨0, 9, 18, 132⟩ [] (htab.trans rfl) (hpass) (by decide) (by decide) (hts _ q1064) (va_Nw.use rfl (hE.ca (by decide +kernel))) hxc1 hxc2 hxc3 ?_
      refine lv_astore_n (lv' := [(3, .ref q9), (0, .ref x), (1, .int (n9)), (2, .ref o)]) hx hb dX0_derive_18 rfl hl (by decide) rfl (fun ls hl => ?_)
      refine lv_iconst (v := 3) hx hb dX0_derive_19 (by decide) ?_
      exact g_iret (v := 3) hx hb hr hlocks hW (Or.inr ⟨_, hp, Or.inr (Or.inr (⟨rfl, rfl⟩))⟩) (by omega) (by omega) dX0_derive_20
  · rcases r1 with _ | s9
    · refine g_putfN (ci := 9) (v := .null) (ty := (.object "java/lang/String")) (C := RX4) (T := TX4) (N := 5) hx hb hts in_X4 tyX4 tyX4_ok nmX4 hown hK hW (hko _ _ hp) rfl 2 (by decide) (nf_q468 hE) (fun _ h9 => h9) rfl (by decide +kernel) rfl rfl (Nat.le_of_ble_eq_true rfl) dX0_derive_6 (fun H locs hW => ?_)
      obtain ⟨w_1, ew_1⟩ : ∃ z__, z__ = g_put u1 o (.inr (9, [.long (n0), .double (d0), .null, va_rf (v0), va_rf (f0)])) := ⟨_, rfl⟩
      have hW := g_W.ren hW ew_1 rfl
      have h_2 : g_at w_1 o (.inr (9, [.long (n0), .double (d0), .null, va_rf (v0), va_rf (f0)])) := by rw [ew_1]; exact g_at.put_self (hko _ _ hp).1
      refine lv_goto (tgt := 21) hx hb dX0_derive_9 (by decide) ?_
      refine lv_iconst (v := 0) hx hb dX0_derive_21 (by decide) ?_
      exact g_iret (v := 0) hx hb hr hlocks hW (Or.inl ⟨none, u1, hp, ew_1, rfl⟩) (by omega) (by omega) dX0_derive_22
    · refine W.eq (g2 := F0 m 6 ls [.ref s9, .ref o]) rfl ?_
      refine g_putfN (ci := 9) (v := .ref s9) (ty := (.object "java/lang/String")) (C := RX4) (T := TX4) (N := 5) hx hb hts in_X4 tyX4 tyX4_ok nmX4 hown hK hW (hko _ _ hp) rfl 2 (by decide) (nf_q468 hE) (fun _ h9 => h9) rfl (by decide +kernel) rfl rfl (Nat.le_of_ble_eq_true rfl) dX0_derive_6 (fun H locs hW => ?_)
      obtain ⟨w_3, ew_3⟩ : ∃ z__, z__ = g_put u1 o (.inr (9, [.long (n0), .double (d0), .ref s9, va_rf (v0), va_rf (f0)])) := ⟨_, rfl⟩
      have hW := g_W.ren hW ew_3 rfl
      have h_4 : g_at w_3 o (.inr (9, [.long (n0), .double (d0), .ref s9, va_rf (v0), va_rf (f0)])) := by rw [ew_3]; exact g_at.put_self (hko _ _ hp).1
      refine lv_goto (tgt := 21) hx hb dX0_derive_9 (by decide) ?_
      refine lv_iconst (v := 0) hx hb dX0_derive_21 (by decide) ?_
      exact g_iret (v := 0) hx hb hr hlocks hW (Or.inl ⟨some s9, u1, hp, ew_3, rfl⟩) (by omega) (by omega) dX0_derive_22
set_option maxHeartbeats 4000000 in
set_option maxRecDepth 100000 in
/-- the law: take -/
theorem mtX0_take (l : Launch) (D : va_G) (w : g_H) (sz : Nat) (hl9 : l.stackTraces = false) (lab : Nat → Nat) (x ac rn tt : Nat) (rf : Nat → Nat) (P : List mI) (C : List yC) (A : Nat → List (List Nat)) (cov : Nat → Bool) (K Q : List (List Nat)) (F : List (List Nat × List Nat × Int32)) (cp : Nat → Nat) (hS : g_SZ D w lab x rf P C A cov K Q ac F rn tt cp) (st : Nat) (t : List Nat) (hst : g_Str D w st t) (hK9 : K.length + 1 < 500) (hQ9 : Q.length ≤ K.length) (hF9 : F.length + 1 < 500) (hrn : rn + 1 < 100000) (htt : tt + 65 < 100000000) (o : Nat) (n0 : Int64) (d0 : UInt64) (s0 v0 f0 : Option Nat) (ho : g_at w o (oOut n0 d0 s0 v0 f0)) (hko : ∀ (r1 : Int32) (u1 : g_H), (fun r u => isIn t ∧ r = (if tkB P (digs t) cov = true then 1 else 0) ∧ ∃ l2, g_SZ D u l2 x rf P C A (cvO cov (mOut P (digs t)).2.2.2) (tkL (tkB P (digs t) cov) K (digs t)) (tkL (tkB P (digs t) cov) Q (digs t)) ac (tkF P (digs t) F cp) (rn + 1) (tt + (mOut P (digs t)).2.2.1) (tkC P (digs t) cov K F cp) ∧ yCh w lab u l2) r1 u1 → g_at u1 o (oOut n0 d0 s0 v0 f0)) : Met l yX0_take (wsW_ yX0_take cX0_take 4 (some .int) [(0, 17, 20, 110)]) ({ frames := 14, cells := 3 + tkM P (digs t) cov K F cp, slots := 16 + tkS P (digs t) cov K F cp, locals := 348 }) (g_Pc D [.ref x, .ref st, .ref o] w sz) (g_Qi D w sz (fun r u => (∃ (r1 : Int32) (u1 : g_H), (fun r u => isIn t ∧ r = (if tkB P (digs t) cov = true then 1 else 0) ∧ ∃ l2, g_SZ D u l2 x rf P C A (cvO cov (mOut P (digs t)).2.2.2) (tkL (tkB P (digs t) cov) K (digs t)) (tkL (tkB P (digs t) cov) Q (digs t)) ac (tkF P (digs t) F cp) (rn + 1) (tt + (mOut P (digs t)).2.2.1) (tkC P (digs t) cov K F cp) ∧ yCh w lab u l2) r1 u1 ∧ u = g_put u1 o (oOut (if r1 = 0 then 0 else 1) d0 s0 v0 f0) ∧ r = 0) ∨ (∃ E : String, (fun E u => E = "java/lang/IllegalArgumentException" ∧ ¬ isIn t ∧ w = u) E u ∧ ((E = "java/lang/IllegalArgumentException" ∧ r = 1))))) (3 + tkM P (digs t) cov K F cp) (16 + tkS P (digs t) cov K F cp) (g_A w sz) := by
  refine g_ofWH (hh := [(0, 17, 20, 110)]) (cc := cX0_take) (maxL := 4) (ret := (some .int)) (by decide) rfl ?_
  intro p e s m args below meth c s₁ B hml hv
  obtain ⟨rfl, hI⟩ := hv
  have hx := B.exec
  have hb := B.bytes
  have hr := B.returns
  have hts := atoms_spec (ws := wsW_ yX0_take cX0_take 4 (some .int) [(0, 17, 20, 110)]) B.pre
  have hts : ∀ w ∈ lw_all, w.before _ s = true := fun w h => hts w (List.mem_cons_of_mem _ h)
  have hown : s.vm.findClass RX0 = some m.cls := findClass_of_methodNamed B.named
  have hlocks := B.notSynchronized
  have hsz := hI.1
  subst hsz
  have hW := g_W.start hI
  have hK := g_K hI
  have hE := g_E hI
  have hl := lv_entry ([.ref x, .ref st, .ref o]) (n := 4) (by exact Nat.le_of_ble_eq_true rfl)
  rw [lg_entry_eq]
  generalize (lg_sl ([.ref x, .ref st, .ref o]) ++ List.replicate (4 - (lg_sl ([.ref x, .ref st, .ref o])).length) Slot.unset).toArray = ls at hl ⊢
  have hl : lv_has ls 4 [(0, .ref x), (1, .ref st), (2, .ref o)] := hl
  have hEo : g_at w o (oOut n0 d0 s0 v0 f0) := ho
  have htab : c.exceptionTable.toList = tableOf [(0, 17, 20, 110)] := vx_table (x := yX0_take) (hh := [(0, 17, 20, 110)]) B (atoms_spec (ws := wsW_ yX0_take cX0_take 4 (some .int) [(0, 17, 20, 110)]) B.pre _ List.mem_cons_self)
  refine lv_aload_n hx hb dX0_take_0 rfl (lv_at hl 2 rfl) ?_
  refine lv_aload_n hx hb dX0_take_1 rfl (lv_at hl 0 rfl) ?_
  refine lv_aload_n hx hb dX0_take_2 rfl (lv_at hl 1 rfl) ?_
  refine g_xcalli (vx_runV (As := [.ref st]) (rest := [.ref o]) ⟨hx, hb, hml, hown, hts⟩ (mtX1_take l hl9 D w s.heap.size lab x ac rn tt rf P C A cov K Q F cp hS st t hst hK9 hQ9 hF9 hrn htt) (cwV 1 hts (lw_V q1149 q1150 q1151 q34 q1152) rfl rfl rfl (by decide +kernel) ⟨Nat.le_of_ble_eq_true rfl, Nat.le_of_ble_eq_true rfl⟩) (g_preV hW hK hE hS.1.1 rfl) rfl rfl hl.1 rfl (lv_room (Nat.le_of_ble_eq_true rfl)) dX0_take_3 ⟨?_, ?_⟩) hW (fun E ce q9 u_ H locs hp hW hxc1 hxc2 hxc3 => ?_) (fun r1 u1 H locs hp hW => ?_)
  · (try simp only [headSpec]); omega
  · (try simp only [headSpec]); omega
  · have hE9 : E = "java/lang/IllegalArgumentException" := by first | exact hp.1 | (rcases hp with h | h <;> exact h.1)
    subst hE9
    refine vx_catch (own := RX0) (name := "java/lang/IllegalArgumentException") hown [] ⟨0, 17, 20, 110⟩ [] (htab.trans rfl) (fun _ z => by cases z) (by decide) (by decide) (hts _ q547) (va_Nw.use rfl (hE.ca (by decide +kernel))) hxc1 hxc2 hxc3 ?_
    refine lv_astore_n (lv' := [(3, .ref q9), (0, .ref x), (1, .ref st), (2, .ref o)]) hx hb dX0_take_20 rfl hl (by decide) rfl (fun ls hl => ?_)
    refine lv_iconst (v := 1) hx hb dX0_take_21 (by decide) ?_
    exact g_iret (v := 1) hx hb hr hlocks hW (Or.inr ⟨_, hp, ⟨rfl, rfl⟩⟩) (by omega) (by omega) dX0_take_22
  · refine lv_if_eq (tgt := 13) hx hb dX0_take_6 (by decide) (fun hc => ?_) (fun hc => ?_)
    · refine lv_lconst (v := 0) hx hb dX0_take_13 rfl ?_
      refine g_putfN (ci := 9) (v := .long (0)) (ty := .long) (C := RX4) (T := TX4) (N := 5) hx hb hts in_X4 tyX4 tyX4_ok nmX4 hown hK hW (hko _ _ hp) rfl 0 (by decide) (nf_q466 hE) (fun _ h9 => h9) rfl (by decide +kernel) rfl rfl (Nat.le_of_ble_eq_true rfl) dX0_take_14 (fun H locs hW => ?_)
      obtain ⟨w_1, ew_1⟩ : ∃ z__, z__ = g_put u1 o (.inr (9, [.long (0), .double (d0), va_rf (s0), va_rf (v0), va_rf (f0)])) := ⟨_, rfl⟩
      have hW := g_W.ren hW ew_1 rfl
      have h_2 : g_at w_1 o (.inr (9, [.long (0), .double (d0), va_rf (s0), va_rf (v0), va_rf (f0)])) := by rw [ew_1]; exact g_at.put_self (hko _ _ hp).1
      refine lv_goto (tgt := 23) hx hb dX0_take_17 (by decide) ?_
      refine lv_iconst (v := 0) hx hb dX0_take_23 (by decide) ?_
      exact g_iret (v := 0) hx hb hr hlocks hW (Or.inl ⟨r1, u1, hp, by rw [if_pos hc]; exact ew_1, rfl⟩) (by omega) (by omega) dX0_take_24
    · refine lv_lconst (v := 1) hx hb dX0_take_9 rfl ?_
      refine lv_goto (tgt := 14) hx hb dX0_take_10 (by decide) ?_
      refine g_putfN (ci := 9) (v := .long (1)) (ty := .long) (C := RX4) (T := TX4) (N := 5) hx hb hts in_X4 tyX4 tyX4_ok nmX4 hown hK hW (hko _ _ hp) rfl 0 (by decide) (nf_q466 hE) (fun _ h9 => h9) rfl (by decide +kernel) rfl rfl (Nat.le_of_ble_eq_true rfl) dX0_take_14 (fun H locs hW => ?_)
      obtain ⟨w_3, ew_3⟩ : ∃ z__, z__ = g_put u1 o (.inr (9, [.long (1), .double (d0), va_rf (s0), va_rf (v0), va_rf (f0)])) := ⟨_, rfl⟩
      have hW := g_W.ren hW ew_3 rfl
      have h_4 : g_at w_3 o (.inr (9, [.long (1), .double (d0), va_rf (s0), va_rf (v0), va_rf (f0)])) := by rw [ew_3]; exact g_at.put_self (hko _ _ hp).1
      refine lv_goto (tgt := 23) hx hb dX0_take_17 (by decide) ?_
      refine lv_iconst (v := 0) hx hb dX0_take_23 (by decide) ?_
      exact g_iret (v := 0) hx hb hr hlocks hW (Or.inl ⟨r1, u1, hp, by rw [if_neg hc]; exact ew_3, rfl⟩) (by omega) (by omega) dX0_take_24
set_option maxHeartbeats 4000000 in
set_option maxRecDepth 100000 in
/-- the law: takeDerived -/
theorem mtX0_takeDerived (l : Launch) (D : va_G) (w : g_H) (sz : Nat) (hl9 : l.stackTraces = false) (lab : Nat → Nat) (x ac rn tt : Nat) (rf : Nat → Nat) (P : List mI) (C : List yC) (A : Nat → List (List Nat)) (cov : Nat → Bool) (K Q : List (List Nat)) (F : List (List Nat × List Nat × Int32)) (cp : Nat → Nat) (hS : g_SZ D w lab x rf P C A cov K Q ac F rn tt cp) (hA : aOk A) (n9 : Int32) (hK9 : K.length + 1 < 500) (hQ9 : Q.length ≤ K.length) (hF9 : F.length + 1 < 500) (hrn : rn + 1 < 100000) (htt : tt + 65 < 100000000) (o : Nat) (n0 : Int64) (d0 : UInt64) (s0 v0 f0 : Option Nat) (ho : g_at w o (oOut n0 d0 s0 v0 f0)) (hko : ∀ (r1 : Int32) (u1 : g_H), (fun r u => (¬ n9 < 0 ∧ (dvN A n9).1 = 0) ∧ r = (if tkB P (digs (dvN A n9).2) cov = true then 1 else 0) ∧ ∃ l2, g_SZ D u l2 x rf P C A (cvO cov (mOut P (digs (dvN A n9).2)).2.2.2) (tkL (tkB P (digs (dvN A n9).2) cov) K (digs (dvN A n9).2)) (tkL (tkB P (digs (dvN A n9).2) cov) Q (digs (dvN A n9).2)) ac (tkF P (digs (dvN A n9).2) F cp) (rn + 1) (tt + (mOut P (digs (dvN A n9).2)).2.2.1) (tkC P (digs (dvN A n9).2) cov K F cp) ∧ yCh w lab u l2) r1 u1 → g_at u1 o (oOut n0 d0 s0 v0 f0)) : Met l yX0_takeDerived (wsW_ yX0_takeDerived cX0_takeDerived 4 (some .int) [(0, 17, 20, 110), (0, 17, 23, 130), (0, 17, 26, 132)]) ({ frames := 15, cells := 163 + tkM P (digs (dvN A n9).2) cov K F cp, slots := 24230 + tkS P (digs (dvN A n9).2) cov K F cp, locals := 572 }) (g_Pc D [.ref x, .int (n9), .ref o] w sz) (g_Qi D w sz (fun r u => (∃ (r1 : Int32) (u1 : g_H), (fun r u => (¬ n9 < 0 ∧ (dvN A n9).1 = 0) ∧ r = (if tkB P (digs (dvN A n9).2) cov = true then 1 else 0) ∧ ∃ l2, g_SZ D u l2 x rf P C A (cvO cov (mOut P (digs (dvN A n9).2)).2.2.2) (tkL (tkB P (digs (dvN A n9).2) cov) K (digs (dvN A n9).2)) (tkL (tkB P (digs (dvN A n9).2) cov) Q (digs (dvN A n9).2)) ac (tkF P (digs (dvN A n9).2) F cp) (rn + 1) (tt + (mOut P (digs (dvN A n9).2)).2.2.1) (tkC P (digs (dvN A n9).2) cov K F cp) ∧ yCh w lab u l2) r1 u1 ∧ u = g_put u1 o (oOut (if r1 = 0 then 0 else 1) d0 s0 v0 f0) ∧ r = 0) ∨ (∃ E : String, (fun E u => g_ex (fun _ => False) w u ∧ ((E = "java/lang/IllegalArgumentException" ∧ n9 < 0) ∨ (E = "java/util/NoSuchElementException" ∧ ¬ n9 < 0 ∧ (dvN A n9).1 = 2) ∨ (E = "java/lang/UnsupportedOperationException" ∧ ¬ n9 < 0 ∧ (dvN A n9).1 = 3))) E u ∧ ((E = "java/lang/IllegalArgumentException" ∧ r = 1) ∨ (E = "java/util/NoSuchElementException" ∧ r = 2) ∨ (E = "java/lang/UnsupportedOperationException" ∧ r = 3))))) (163 + tkM P (digs (dvN A n9).2) cov K F cp) (24230 + tkS P (digs (dvN A n9).2) cov K F cp) (g_A w sz) := by
  refine g_ofWH (hh := [(0, 17, 20, 110), (0, 17, 23, 130), (0, 17, 26, 132)]) (cc := cX0_takeDerived) (maxL := 4) (ret := (some .int)) (by decide) rfl ?_
  intro p e s m args below meth c s₁ B hml hv
  obtain ⟨rfl, hI⟩ := hv
  have hx := B.exec
  have hb := B.bytes
  have hr := B.returns
  have hts := atoms_spec (ws := wsW_ yX0_takeDerived cX0_takeDerived 4 (some .int) [(0, 17, 20, 110), (0, 17, 23, 130), (0, 17, 26, 132)]) B.pre
  have hts : ∀ w ∈ lw_all, w.before _ s = true := fun w h => hts w (List.mem_cons_of_mem _ h)
  have hown : s.vm.findClass RX0 = some m.cls := findClass_of_methodNamed B.named
  have hlocks := B.notSynchronized
  have hsz := hI.1
  subst hsz
  have hW := g_W.start hI
  have hK := g_K hI
  have hE := g_E hI
  have hl := lv_entry ([.ref x, .int (n9), .ref o]) (n := 4) (by exact Nat.le_of_ble_eq_true rfl)
  rw [lg_entry_eq]
  generalize (lg_sl ([.ref x, .int (n9), .ref o]) ++ List.replicate (4 - (lg_sl ([.ref x, .int (n9), .ref o])).length) Slot.unset).toArray = ls at hl ⊢
  have hl : lv_has ls 4 [(0, .ref x), (1, .int (n9)), (2, .ref o)] := hl
  have hEo : g_at w o (oOut n0 d0 s0 v0 f0) := ho
  have htab : c.exceptionTable.toList = tableOf [(0, 17, 20, 110), (0, 17, 23, 130), (0, 17, 26, 132)] := vx_table (x := yX0_takeDerived) (hh := [(0, 17, 20, 110), (0, 17, 23, 130), (0, 17, 26, 132)]) B (atoms_spec (ws := wsW_ yX0_takeDerived cX0_takeDerived 4 (some .int) [(0, 17, 20, 110), (0, 17, 23, 130), (0, 17, 26, 132)]) B.pre _ List.mem_cons_self)
  refine lv_aload_n hx hb dX0_takeDerived_0 rfl (lv_at hl 2 rfl) ?_
  refine lv_aload_n hx hb dX0_takeDerived_1 rfl (lv_at hl 0 rfl) ?_
  refine lv_iload_n hx hb dX0_takeDerived_2 rfl (lv_at hl 1 rfl) ?_
  refine g_xcalli (vx_runV (As := [.int (n9)]) (rest := [.ref o]) ⟨hx, hb, hml, hown, hts⟩ (mtX1_takeDerived l hl9 D w s.heap.size lab x ac rn tt rf P C A cov K Q F cp hS hA n9 hK9 hQ9 hF9 hrn htt) (cwV 1 hts (lw_V q1566 q1567 q1568 q34 q1569) rfl rfl rfl (by decide +kernel) ⟨Nat.le_of_ble_eq_true rfl, Nat.le_of_ble_eq_true rfl⟩) (g_preV hW hK hE hS.1.1 rfl) rfl rfl hl.1 rfl (lv_room (Nat.le_of_ble_eq_true rfl)) dX0_takeDerived_3 ⟨?_, ?_⟩) hW (fun E ce q9 u_ H locs hp hW hxc1 hxc2 hxc3 => ?_) (fun r1 u1 H locs hp hW => ?_)
  · (try simp only [headSpec]); omega
  · (try simp only [headSpec]); omega
  · have hE9 : E = "java/lang/IllegalArgumentException" ∨ E = "java/util/NoSuchElementException" ∨ E = "java/lang/UnsupportedOperationException" := by
      rcases hp with ⟨-, ⟨h, -⟩ | ⟨h, -⟩ | ⟨h, -⟩⟩
      · exact Or.inl h
      · exact Or.inr (Or.inl h)
      · exact Or.inr (Or.inr h)
    rcases hE9 with h9 | h9 | h9
    · subst h9
      refine vx_catch (own := RX0) (name := "java/lang/IllegalArgumentException") hown [] ⟨0, 17, 20, 110⟩ [⟨0, 17, 23, 130⟩, ⟨0, 17, 26, 132⟩] (htab.trans rfl) (fun _ z => by cases z) (by decide) (by decide) (hts _ q547) (va_Nw.use rfl (hE.ca (by decide +kernel))) hxc1 hxc2 hxc3 ?_
      refine lv_astore_n (lv' := [(3, .ref q9), (0, .ref x), (1, .int (n9)), (2, .ref o)]) hx hb dX0_takeDerived_20 rfl hl (by decide) rfl (fun ls hl => ?_)
      refine lv_iconst (v := 1) hx hb dX0_takeDerived_21 (by decide) ?_
      exact g_iret (v := 1) hx hb hr hlocks hW (Or.inr ⟨_, hp, Or.inl ⟨rfl, rfl⟩⟩) (by omega) (by omega) dX0_takeDerived_22
    · subst h9
      have hpass : ∀ z ∈ ([⟨0, 17, 20, 110⟩] : List ExceptionTableEntry), covers z 3 = false ∨ (z.catchType ≠ 0 ∧ ∃ nm : String, (Cond.classLink RX0 z.catchType nm).before _ s = true ∧ va_Nc "java/util/NoSuchElementException" nm s) := fun z hz => by
        simp only [List.mem_cons, List.not_mem_nil, or_false] at hz
        rcases hz with rfl
        · exact Or.inr ⟨by decide, "java/lang/IllegalArgumentException", hts _ q547, hE.nn (by decide)⟩
      refine vx_catch (own := RX0) (name := "java/util/NoSuchElementException") hown [⟨0, 17, 20, 110⟩] ⟨0, 17, 23, 130⟩ [⟨0, 17, 26, 132⟩] (htab.trans rfl) (hpass) (by decide) (by decide) (hts _ q1063) (va_Nw.use rfl (hE.ca (by decide +kernel))) hxc1 hxc2 hxc3 ?_
      refine lv_astore_n (lv' := [(3, .ref q9), (0, .ref x), (1, .int (n9)), (2, .ref o)]) hx hb dX0_takeDerived_23 rfl hl (by decide) rfl (fun ls hl => ?_)
      refine lv_iconst (v := 2) hx hb dX0_takeDerived_24 (by decide) ?_
      exact g_iret (v := 2) hx hb hr hlocks hW (Or.inr ⟨_, hp, Or.inr (Or.inl ⟨rfl, rfl⟩)⟩) (by omega) (by omega) dX0_takeDerived_25
    · subst h9
      have hpass : ∀ z ∈ ([⟨0, 17, 20, 110⟩, ⟨0, 17, 23, 130⟩] : List ExceptionTableEntry), covers z 3 = false ∨ (z.catchType ≠ 0 ∧ ∃ nm : String, (Cond.classLink RX0 z.catchType nm).before _ s = true ∧ va_Nc "java/lang/UnsupportedOperationException" nm s) := fun z hz => by
        simp only [List.mem_cons, List.not_mem_nil, or_false] at hz
        rcases hz with rfl | rfl
        · exact Or.inr ⟨by decide, "java/lang/IllegalArgumentException", hts _ q547, hE.nn (by decide)⟩
        · exact Or.inr ⟨by decide, "java/util/NoSuchElementException", hts _ q1063, hE.nn (by decide)⟩
      refine vx_catch (own := RX0) (name := "java/lang/UnsupportedOperationException") hown [⟨0, 17, 20, 110⟩, ⟨0, 17, 23, 130⟩] ⟨0, 17, 26, 132⟩ [] (htab.trans rfl) (hpass) (by decide) (by decide) (hts _ q1064) (va_Nw.use rfl (hE.ca (by decide +kernel))) hxc1 hxc2 hxc3 ?_
      refine lv_astore_n (lv' := [(3, .ref q9), (0, .ref x), (1, .int (n9)), (2, .ref o)]) hx hb dX0_takeDerived_26 rfl hl (by decide) rfl (fun ls hl => ?_)
      refine lv_iconst (v := 3) hx hb dX0_takeDerived_27 (by decide) ?_
      exact g_iret (v := 3) hx hb hr hlocks hW (Or.inr ⟨_, hp, Or.inr (Or.inr (⟨rfl, rfl⟩))⟩) (by omega) (by omega) dX0_takeDerived_28
  · refine lv_if_eq (tgt := 13) hx hb dX0_takeDerived_6 (by decide) (fun hc => ?_) (fun hc => ?_)
    · refine lv_lconst (v := 0) hx hb dX0_takeDerived_13 rfl ?_
      refine g_putfN (ci := 9) (v := .long (0)) (ty := .long) (C := RX4) (T := TX4) (N := 5) hx hb hts in_X4 tyX4 tyX4_ok nmX4 hown hK hW (hko _ _ hp) rfl 0 (by decide) (nf_q466 hE) (fun _ h9 => h9) rfl (by decide +kernel) rfl rfl (Nat.le_of_ble_eq_true rfl) dX0_takeDerived_14 (fun H locs hW => ?_)
      obtain ⟨w_1, ew_1⟩ : ∃ z__, z__ = g_put u1 o (.inr (9, [.long (0), .double (d0), va_rf (s0), va_rf (v0), va_rf (f0)])) := ⟨_, rfl⟩
      have hW := g_W.ren hW ew_1 rfl
      have h_2 : g_at w_1 o (.inr (9, [.long (0), .double (d0), va_rf (s0), va_rf (v0), va_rf (f0)])) := by rw [ew_1]; exact g_at.put_self (hko _ _ hp).1
      refine lv_goto (tgt := 29) hx hb dX0_takeDerived_17 (by decide) ?_
      refine lv_iconst (v := 0) hx hb dX0_takeDerived_29 (by decide) ?_
      exact g_iret (v := 0) hx hb hr hlocks hW (Or.inl ⟨r1, u1, hp, by rw [if_pos hc]; exact ew_1, rfl⟩) (by omega) (by omega) dX0_takeDerived_30
    · refine lv_lconst (v := 1) hx hb dX0_takeDerived_9 rfl ?_
      refine lv_goto (tgt := 14) hx hb dX0_takeDerived_10 (by decide) ?_
      refine g_putfN (ci := 9) (v := .long (1)) (ty := .long) (C := RX4) (T := TX4) (N := 5) hx hb hts in_X4 tyX4 tyX4_ok nmX4 hown hK hW (hko _ _ hp) rfl 0 (by decide) (nf_q466 hE) (fun _ h9 => h9) rfl (by decide +kernel) rfl rfl (Nat.le_of_ble_eq_true rfl) dX0_takeDerived_14 (fun H locs hW => ?_)
      obtain ⟨w_3, ew_3⟩ : ∃ z__, z__ = g_put u1 o (.inr (9, [.long (1), .double (d0), va_rf (s0), va_rf (v0), va_rf (f0)])) := ⟨_, rfl⟩
      have hW := g_W.ren hW ew_3 rfl
      have h_4 : g_at w_3 o (.inr (9, [.long (1), .double (d0), va_rf (s0), va_rf (v0), va_rf (f0)])) := by rw [ew_3]; exact g_at.put_self (hko _ _ hp).1
      refine lv_goto (tgt := 29) hx hb dX0_takeDerived_17 (by decide) ?_
      refine lv_iconst (v := 0) hx hb dX0_takeDerived_29 (by decide) ?_
      exact g_iret (v := 0) hx hb hr hlocks hW (Or.inl ⟨r1, u1, hp, by rw [if_neg hc]; exact ew_3, rfl⟩) (by omega) (by omega) dX0_takeDerived_30
set_option maxHeartbeats 4000000 in
set_option maxRecDepth 100000 in
/-- the law: goOn -/
theorem mtX0_goOn (l : Launch) (D : va_G) (w : g_H) (sz : Nat) (hl9 : l.stackTraces = false) (lab : Nat → Nat) (x ac rn tt : Nat) (rf : Nat → Nat) (P : List mI) (C : List yC) (A : Nat → List (List Nat)) (cov : Nat → Bool) (K Q : List (List Nat)) (F : List (List Nat × List Nat × Int32)) (cp : Nat → Nat) (hS : g_SZ D w lab x rf P C A cov K Q ac F rn tt cp) (hYI : yI P cov K Q F rn tt) (hrn : rn + 200 < 99000) (n9 : Int32) (o : Nat) (n0 : Int64) (d0 : UInt64) (s0 v0 f0 : Option Nat) (ho : g_at w o (oOut n0 d0 s0 v0 f0)) (hko : ∀ (r1 : Int32) (u1 : g_H), (fun r u => (1 ≤ n9 ∧ n9 ≤ 200) ∧ r = nI (gGo P C n9.toNatClampNeg cov K Q ac F rn tt cp).2.2.2.2.2.2.2.2.1 ∧ ∃ l2, g_SZ D u l2 x rf P C A (gGo P C n9.toNatClampNeg cov K Q ac F rn tt cp).1 (gGo P C n9.toNatClampNeg cov K Q ac F rn tt cp).2.1 (gGo P C n9.toNatClampNeg cov K Q ac F rn tt cp).2.2.1 (gGo P C n9.toNatClampNeg cov K Q ac F rn tt cp).2.2.2.1 (gGo P C n9.toNatClampNeg cov K Q ac F rn tt cp).2.2.2.2.1 (gGo P C n9.toNatClampNeg cov K Q ac F rn tt cp).2.2.2.2.2.1 (gGo P C n9.toNatClampNeg cov K Q ac F rn tt cp).2.2.2.2.2.2.1 (gGo P C n9.toNatClampNeg cov K Q ac F rn tt cp).2.2.2.2.2.2.2.1 ∧ yCh w lab u l2) r1 u1 → g_at u1 o (oOut n0 d0 s0 v0 f0)) : Met l yX0_goOn (wsW_ yX0_goOn cX0_goOn 4 (some .int) [(0, 10, 13, 110)]) ({ frames := 14, cells := 3 + (gGo P C n9.toNatClampNeg cov K Q ac F rn tt cp).2.2.2.2.2.2.2.2.2.1, slots := 18 + (gGo P C n9.toNatClampNeg cov K Q ac F rn tt cp).2.2.2.2.2.2.2.2.2.2, locals := 351 }) (g_Pc D [.ref x, .int (n9), .ref o] w sz) (g_Qi D w sz (fun r u => (∃ (r1 : Int32) (u1 : g_H), (fun r u => (1 ≤ n9 ∧ n9 ≤ 200) ∧ r = nI (gGo P C n9.toNatClampNeg cov K Q ac F rn tt cp).2.2.2.2.2.2.2.2.1 ∧ ∃ l2, g_SZ D u l2 x rf P C A (gGo P C n9.toNatClampNeg cov K Q ac F rn tt cp).1 (gGo P C n9.toNatClampNeg cov K Q ac F rn tt cp).2.1 (gGo P C n9.toNatClampNeg cov K Q ac F rn tt cp).2.2.1 (gGo P C n9.toNatClampNeg cov K Q ac F rn tt cp).2.2.2.1 (gGo P C n9.toNatClampNeg cov K Q ac F rn tt cp).2.2.2.2.1 (gGo P C n9.toNatClampNeg cov K Q ac F rn tt cp).2.2.2.2.2.1 (gGo P C n9.toNatClampNeg cov K Q ac F rn tt cp).2.2.2.2.2.2.1 (gGo P C n9.toNatClampNeg cov K Q ac F rn tt cp).2.2.2.2.2.2.2.1 ∧ yCh w lab u l2) r1 u1 ∧ u = g_put u1 o (oOut r1.toInt64 d0 s0 v0 f0) ∧ r = 0) ∨ (∃ E : String, (fun E u => E = "java/lang/IllegalArgumentException" ∧ ¬ (1 ≤ n9 ∧ n9 ≤ 200) ∧ w = u) E u ∧ ((E = "java/lang/IllegalArgumentException" ∧ r = 1))))) (3 + (gGo P C n9.toNatClampNeg cov K Q ac F rn tt cp).2.2.2.2.2.2.2.2.2.1) (18 + (gGo P C n9.toNatClampNeg cov K Q ac F rn tt cp).2.2.2.2.2.2.2.2.2.2) (g_A w sz) := by
  refine g_ofWH (hh := [(0, 10, 13, 110)]) (cc := cX0_goOn) (maxL := 4) (ret := (some .int)) (by decide) rfl ?_
  intro p e s m args below meth c s₁ B hml hv
  obtain ⟨rfl, hI⟩ := hv
  have hx := B.exec
  have hb := B.bytes
  have hr := B.returns
  have hts := atoms_spec (ws := wsW_ yX0_goOn cX0_goOn 4 (some .int) [(0, 10, 13, 110)]) B.pre
  have hts : ∀ w ∈ lw_all, w.before _ s = true := fun w h => hts w (List.mem_cons_of_mem _ h)
  have hown : s.vm.findClass RX0 = some m.cls := findClass_of_methodNamed B.named
  have hlocks := B.notSynchronized
  have hsz := hI.1
  subst hsz
  have hW := g_W.start hI
  have hK := g_K hI
  have hE := g_E hI
  have hl := lv_entry ([.ref x, .int (n9), .ref o]) (n := 4) (by exact Nat.le_of_ble_eq_true rfl)
  rw [lg_entry_eq]
  generalize (lg_sl ([.ref x, .int (n9), .ref o]) ++ List.replicate (4 - (lg_sl ([.ref x, .int (n9), .ref o])).length) Slot.unset).toArray = ls at hl ⊢
  have hl : lv_has ls 4 [(0, .ref x), (1, .int (n9)), (2, .ref o)] := hl
  have hEo : g_at w o (oOut n0 d0 s0 v0 f0) := ho
  have htab : c.exceptionTable.toList = tableOf [(0, 10, 13, 110)] := vx_table (x := yX0_goOn) (hh := [(0, 10, 13, 110)]) B (atoms_spec (ws := wsW_ yX0_goOn cX0_goOn 4 (some .int) [(0, 10, 13, 110)]) B.pre _ List.mem_cons_self)
  refine lv_aload_n hx hb dX0_goOn_0 rfl (lv_at hl 2 rfl) ?_
  refine lv_aload_n hx hb dX0_goOn_1 rfl (lv_at hl 0 rfl) ?_
  refine lv_iload_n hx hb dX0_goOn_2 rfl (lv_at hl 1 rfl) ?_
  refine g_xcalli (vx_runV (As := [.int (n9)]) (rest := [.ref o]) ⟨hx, hb, hml, hown, hts⟩ (mtX1_goOn l hl9 D w s.heap.size lab x ac rn tt rf P C A cov K Q F cp hS hYI hrn n9) (cwV 1 hts (lw_V q1574 q1575 q1576 q34 q1577) rfl rfl rfl (by decide +kernel) ⟨Nat.le_of_ble_eq_true rfl, Nat.le_of_ble_eq_true rfl⟩) (g_preV hW hK hE hS.1.1 rfl) rfl rfl hl.1 rfl (lv_room (Nat.le_of_ble_eq_true rfl)) dX0_goOn_3 ⟨?_, ?_⟩) hW (fun E ce q9 u_ H locs hp hW hxc1 hxc2 hxc3 => ?_) (fun r1 u1 H locs hp hW => ?_)
  · (try simp only [headSpec]); omega
  · (try simp only [headSpec]); omega
  · have hE9 : E = "java/lang/IllegalArgumentException" := by first | exact hp.1 | (rcases hp with h | h <;> exact h.1)
    subst hE9
    refine vx_catch (own := RX0) (name := "java/lang/IllegalArgumentException") hown [] ⟨0, 10, 13, 110⟩ [] (htab.trans rfl) (fun _ z => by cases z) (by decide) (by decide) (hts _ q547) (va_Nw.use rfl (hE.ca (by decide +kernel))) hxc1 hxc2 hxc3 ?_
    refine lv_astore_n (lv' := [(3, .ref q9), (0, .ref x), (1, .int (n9)), (2, .ref o)]) hx hb dX0_goOn_13 rfl hl (by decide) rfl (fun ls hl => ?_)
    refine lv_iconst (v := 1) hx hb dX0_goOn_14 (by decide) ?_
    exact g_iret (v := 1) hx hb hr hlocks hW (Or.inr ⟨_, hp, ⟨rfl, rfl⟩⟩) (by omega) (by omega) dX0_goOn_15
  · refine lv_i2l (v := (r1 : Int32).toInt64) hx hb dX0_goOn_6 rfl ?_
    refine g_putfN (ci := 9) (v := .long ((r1 : Int32).toInt64)) (ty := .long) (C := RX4) (T := TX4) (N := 5) hx hb hts in_X4 tyX4 tyX4_ok nmX4 hown hK hW (hko _ _ hp) rfl 0 (by decide) (nf_q466 hE) (fun _ h9 => h9) rfl (by decide +kernel) rfl rfl (Nat.le_of_ble_eq_true rfl) dX0_goOn_7 (fun H locs hW => ?_)
    obtain ⟨w_1, ew_1⟩ : ∃ z__, z__ = g_put u1 o (.inr (9, [.long ((r1 : Int32).toInt64), .double (d0), va_rf (s0), va_rf (v0), va_rf (f0)])) := ⟨_, rfl⟩
    have hW := g_W.ren hW ew_1 rfl
    have h_2 : g_at w_1 o (.inr (9, [.long ((r1 : Int32).toInt64), .double (d0), va_rf (s0), va_rf (v0), va_rf (f0)])) := by rw [ew_1]; exact g_at.put_self (hko _ _ hp).1
    refine lv_goto (tgt := 16) hx hb dX0_goOn_10 (by decide) ?_
    refine lv_iconst (v := 0) hx hb dX0_goOn_16 (by decide) ?_
    exact g_iret (v := 0) hx hb hr hlocks hW (Or.inl ⟨r1, u1, hp, ew_1, rfl⟩) (by omega) (by omega) dX0_goOn_17
set_option maxHeartbeats 4000000 in
set_option maxRecDepth 100000 in
/-- the law: isCovered -/
theorem mtX0_isCovered (l : Launch) (D : va_G) (w : g_H) (sz : Nat) (hl9 : l.stackTraces = false) (lab : Nat → Nat) (x fq ac rn tt : Nat) (P : List mI) (C : List yC) (A : Nat → List (List Nat)) (cov : Nat → Bool) (K : List (List Nat)) (F : List (List Nat × List Nat × Int32)) (cp : Nat → Nat) (hS : g_SY D w lab x P C A cov K fq ac F rn tt cp) (i9 j9 : Int32) (o : Nat) (n0 : Int64) (d0 : UInt64) (s0 v0 f0 : Option Nat) (ho : g_at w o (oOut n0 d0 s0 v0 f0)) (hko : ∀ (r1 : Int32) (u1 : g_H), (fun r u => ((¬ i9 < 0 ∧ i9 < nI P.length) ∧ ¬ j9 < 0 ∧ j9 < nI (P.length + 1)) ∧ r = (if cov (17 * i9.toNatClampNeg + j9.toNatClampNeg) = true then 1 else 0) ∧ w = u) r1 u1 → g_at u1 o (oOut n0 d0 s0 v0 f0)) : Met l yX0_isCovered (wsW_ yX0_isCovered cX0_isCovered 5 (some .int) [(0, 18, 21, 150)]) ({ frames := 10, cells := 2, slots := 12, locals := 153 }) (g_Pc D [.ref x, .int (i9), .int (j9), .ref o] w sz) (g_Qi D w sz (fun r u => (∃ (r1 : Int32) (u1 : g_H), (fun r u => ((¬ i9 < 0 ∧ i9 < nI P.length) ∧ ¬ j9 < 0 ∧ j9 < nI (P.length + 1)) ∧ r = (if cov (17 * i9.toNatClampNeg + j9.toNatClampNeg) = true then 1 else 0) ∧ w = u) r1 u1 ∧ u = g_put u1 o (oOut (if r1 = 0 then 0 else 1) d0 s0 v0 f0) ∧ r = 0) ∨ (∃ E : String, (fun E u => E = "java/lang/IndexOutOfBoundsException" ∧ ¬ ((¬ i9 < 0 ∧ i9 < nI P.length) ∧ ¬ j9 < 0 ∧ j9 < nI (P.length + 1)) ∧ w = u) E u ∧ ((E = "java/lang/IndexOutOfBoundsException" ∧ r = 1))))) (2) (12) (g_A w sz) := by
  refine g_ofWH (hh := [(0, 18, 21, 150)]) (cc := cX0_isCovered) (maxL := 5) (ret := (some .int)) (by decide) rfl ?_
  intro p e s m args below meth c s₁ B hml hv
  obtain ⟨rfl, hI⟩ := hv
  have hx := B.exec
  have hb := B.bytes
  have hr := B.returns
  have hts := atoms_spec (ws := wsW_ yX0_isCovered cX0_isCovered 5 (some .int) [(0, 18, 21, 150)]) B.pre
  have hts : ∀ w ∈ lw_all, w.before _ s = true := fun w h => hts w (List.mem_cons_of_mem _ h)
  have hown : s.vm.findClass RX0 = some m.cls := findClass_of_methodNamed B.named
  have hlocks := B.notSynchronized
  have hsz := hI.1
  subst hsz
  have hW := g_W.start hI
  have hK := g_K hI
  have hE := g_E hI
  have hl := lv_entry ([.ref x, .int (i9), .int (j9), .ref o]) (n := 5) (by exact Nat.le_of_ble_eq_true rfl)
  rw [lg_entry_eq]
  generalize (lg_sl ([.ref x, .int (i9), .int (j9), .ref o]) ++ List.replicate (5 - (lg_sl ([.ref x, .int (i9), .int (j9), .ref o])).length) Slot.unset).toArray = ls at hl ⊢
  have hl : lv_has ls 5 [(0, .ref x), (1, .int (i9)), (2, .int (j9)), (3, .ref o)] := hl
  have hEo : g_at w o (oOut n0 d0 s0 v0 f0) := ho
  have htab : c.exceptionTable.toList = tableOf [(0, 18, 21, 150)] := vx_table (x := yX0_isCovered) (hh := [(0, 18, 21, 150)]) B (atoms_spec (ws := wsW_ yX0_isCovered cX0_isCovered 5 (some .int) [(0, 18, 21, 150)]) B.pre _ List.mem_cons_self)
  refine lv_aload_n hx hb dX0_isCovered_0 rfl (lv_at hl 3 rfl) ?_
  refine lv_aload_n hx hb dX0_isCovered_1 rfl (lv_at hl 0 rfl) ?_
  refine lv_iload_n hx hb dX0_isCovered_2 rfl (lv_at hl 1 rfl) ?_
  refine lv_iload_n hx hb dX0_isCovered_3 rfl (lv_at hl 2 rfl) ?_
  obtain ⟨_, _, _, _, _, _, _, _, _, _, _, _, _, _, _, ⟨hat, -⟩, -⟩ := id hS
  refine g_xcalli (vx_runV (As := [.int (i9), .int (j9)]) (rest := [.ref o]) ⟨hx, hb, hml, hown, hts⟩ (mtX1_isCovered l hl9 D w s.heap.size lab x fq ac rn tt P C A cov K F cp hS i9 j9) (cwV 2 hts (lw_V q1724 q1725 q1726 q34 q1727) rfl rfl rfl (by decide +kernel) ⟨Nat.le_of_ble_eq_true rfl, Nat.le_of_ble_eq_true rfl⟩) (g_preV hW hK hE hat rfl) rfl rfl hl.1 rfl (lv_room (Nat.le_of_ble_eq_true rfl)) dX0_isCovered_4 ⟨?_, ?_⟩) hW (fun E ce q9 u_ H locs hp hW hxc1 hxc2 hxc3 => ?_) (fun r1 u1 H locs hp hW => ?_)
  · (try simp only [headSpec]); omega
  · (try simp only [headSpec]); omega
  · have hE9 : E = "java/lang/IndexOutOfBoundsException" := by first | exact hp.1 | (rcases hp with h | h <;> exact h.1)
    subst hE9
    refine vx_catch (own := RX0) (name := "java/lang/IndexOutOfBoundsException") hown [] ⟨0, 18, 21, 150⟩ [] (htab.trans rfl) (fun _ z => by cases z) (by decide) (by decide) (hts _ q1708) (va_Nw.use rfl (hE.ca (by decide +kernel))) hxc1 hxc2 hxc3 ?_
    refine lv_astore (lv' := [(4, .ref q9), (0, .ref x), (1, .int (i9)), (2, .int (j9)), (3, .ref o)]) hx hb dX0_isCovered_21 hl (by decide) rfl (fun ls hl => ?_)
    refine lv_iconst (v := 1) hx hb dX0_isCovered_23 (by decide) ?_
    exact g_iret (v := 1) hx hb hr hlocks hW (Or.inr ⟨_, hp, ⟨rfl, rfl⟩⟩) (by omega) (by omega) dX0_isCovered_24
  · refine lv_if_eq (tgt := 14) hx hb dX0_isCovered_7 (by decide) (fun hc => ?_) (fun hc => ?_)
    · refine lv_lconst (v := 0) hx hb dX0_isCovered_14 rfl ?_
      refine g_putfN (ci := 9) (v := .long (0)) (ty := .long) (C := RX4) (T := TX4) (N := 5) hx hb hts in_X4 tyX4 tyX4_ok nmX4 hown hK hW (hko _ _ hp) rfl 0 (by decide) (nf_q466 hE) (fun _ h9 => h9) rfl (by decide +kernel) rfl rfl (Nat.le_of_ble_eq_true rfl) dX0_isCovered_15 (fun H locs hW => ?_)
      obtain ⟨w_1, ew_1⟩ : ∃ z__, z__ = g_put u1 o (.inr (9, [.long (0), .double (d0), va_rf (s0), va_rf (v0), va_rf (f0)])) := ⟨_, rfl⟩
      have hW := g_W.ren hW ew_1 rfl
      have h_2 : g_at w_1 o (.inr (9, [.long (0), .double (d0), va_rf (s0), va_rf (v0), va_rf (f0)])) := by rw [ew_1]; exact g_at.put_self (hko _ _ hp).1
      refine lv_goto (tgt := 25) hx hb dX0_isCovered_18 (by decide) ?_
      refine lv_iconst (v := 0) hx hb dX0_isCovered_25 (by decide) ?_
      exact g_iret (v := 0) hx hb hr hlocks hW (Or.inl ⟨r1, u1, hp, by rw [if_pos hc]; exact ew_1, rfl⟩) (by omega) (by omega) dX0_isCovered_26
    · refine lv_lconst (v := 1) hx hb dX0_isCovered_10 rfl ?_
      refine lv_goto (tgt := 15) hx hb dX0_isCovered_11 (by decide) ?_
      refine g_putfN (ci := 9) (v := .long (1)) (ty := .long) (C := RX4) (T := TX4) (N := 5) hx hb hts in_X4 tyX4 tyX4_ok nmX4 hown hK hW (hko _ _ hp) rfl 0 (by decide) (nf_q466 hE) (fun _ h9 => h9) rfl (by decide +kernel) rfl rfl (Nat.le_of_ble_eq_true rfl) dX0_isCovered_15 (fun H locs hW => ?_)
      obtain ⟨w_3, ew_3⟩ : ∃ z__, z__ = g_put u1 o (.inr (9, [.long (1), .double (d0), va_rf (s0), va_rf (v0), va_rf (f0)])) := ⟨_, rfl⟩
      have hW := g_W.ren hW ew_3 rfl
      have h_4 : g_at w_3 o (.inr (9, [.long (1), .double (d0), va_rf (s0), va_rf (v0), va_rf (f0)])) := by rw [ew_3]; exact g_at.put_self (hko _ _ hp).1
      refine lv_goto (tgt := 25) hx hb dX0_isCovered_18 (by decide) ?_
      refine lv_iconst (v := 0) hx hb dX0_isCovered_25 (by decide) ?_
      exact g_iret (v := 0) hx hb hr hlocks hW (Or.inl ⟨r1, u1, hp, by rw [if_neg hc]; exact ew_3, rfl⟩) (by omega) (by omega) dX0_isCovered_26
set_option maxHeartbeats 4000000 in
set_option maxRecDepth 100000 in
/-- the law: keptAt -/
theorem mtX0_keptAt (l : Launch) (D : va_G) (w : g_H) (sz : Nat) (hl9 : l.stackTraces = false) (lab : Nat → Nat) (x fq ac rn tt : Nat) (P : List mI) (C : List yC) (A : Nat → List (List Nat)) (cov : Nat → Bool) (K : List (List Nat)) (F : List (List Nat × List Nat × Int32)) (cp : Nat → Nat) (hS : g_SY D w lab x P C A cov K fq ac F rn tt cp) (i9 : Int32) (o : Nat) (n0 : Int64) (d0 : UInt64) (s0 v0 f0 : Option Nat) (ho : g_at w o (oOut n0 d0 s0 v0 f0)) (hko : ∀ (r1 : Option Nat) (u1 : g_H), (fun r u => (¬ i9 < 0 ∧ i9 < nI K.length) ∧ (∃ s9, r = some s9 ∧ g_Str D w s9 (txt (K.getD i9.toNatClampNeg []))) ∧ w = u) r1 u1 → g_at u1 o (oOut n0 d0 s0 v0 f0)) : Met l yX0_keptAt (wsW_ yX0_keptAt cX0_keptAt 4 (some .int) [(0, 9, 12, 150)]) ({ frames := 10, cells := 1, slots := 6, locals := 152 }) (g_Pc D [.ref x, .int (i9), .ref o] w sz) (g_Qi D w sz (fun r u => (∃ (r1 : Option Nat) (u1 : g_H), (fun r u => (¬ i9 < 0 ∧ i9 < nI K.length) ∧ (∃ s9, r = some s9 ∧ g_Str D w s9 (txt (K.getD i9.toNatClampNeg []))) ∧ w = u) r1 u1 ∧ u = g_put u1 o (oOut n0 d0 r1 v0 f0) ∧ r = 0) ∨ (∃ E : String, (fun E u => E = "java/lang/IndexOutOfBoundsException" ∧ ¬ (¬ i9 < 0 ∧ i9 < nI K.length) ∧ w = u) E u ∧ ((E = "java/lang/IndexOutOfBoundsException" ∧ r = 1))))) (1) (6) (g_A w sz) := by
  refine g_ofWH (hh := [(0, 9, 12, 150)]) (cc := cX0_keptAt) (maxL := 4) (ret := (some .int)) (by decide) rfl ?_
  intro p e s m args below meth c s₁ B hml hv
  obtain ⟨rfl, hI⟩ := hv
  have hx := B.exec
  have hb := B.bytes
  have hr := B.returns
  have hts := atoms_spec (ws := wsW_ yX0_keptAt cX0_keptAt 4 (some .int) [(0, 9, 12, 150)]) B.pre
  have hts : ∀ w ∈ lw_all, w.before _ s = true := fun w h => hts w (List.mem_cons_of_mem _ h)
  have hown : s.vm.findClass RX0 = some m.cls := findClass_of_methodNamed B.named
  have hlocks := B.notSynchronized
  have hsz := hI.1
  subst hsz
  have hW := g_W.start hI
  have hK := g_K hI
  have hE := g_E hI
  have hl := lv_entry ([.ref x, .int (i9), .ref o]) (n := 4) (by exact Nat.le_of_ble_eq_true rfl)
  rw [lg_entry_eq]
  generalize (lg_sl ([.ref x, .int (i9), .ref o]) ++ List.replicate (4 - (lg_sl ([.ref x, .int (i9), .ref o])).length) Slot.unset).toArray = ls at hl ⊢
  have hl : lv_has ls 4 [(0, .ref x), (1, .int (i9)), (2, .ref o)] := hl
  have hEo : g_at w o (oOut n0 d0 s0 v0 f0) := ho
  have htab : c.exceptionTable.toList = tableOf [(0, 9, 12, 150)] := vx_table (x := yX0_keptAt) (hh := [(0, 9, 12, 150)]) B (atoms_spec (ws := wsW_ yX0_keptAt cX0_keptAt 4 (some .int) [(0, 9, 12, 150)]) B.pre _ List.mem_cons_self)
  refine lv_aload_n hx hb dX0_keptAt_0 rfl (lv_at hl 2 rfl) ?_
  refine lv_aload_n hx hb dX0_keptAt_1 rfl (lv_at hl 0 rfl) ?_
  refine lv_iload_n hx hb dX0_keptAt_2 rfl (lv_at hl 1 rfl) ?_
  obtain ⟨_, _, _, _, _, _, _, _, _, _, _, _, _, _, _, ⟨hat, -⟩, -⟩ := id hS
  refine g_xcallq (vx_runV (As := [.int (i9)]) (rest := [.ref o]) ⟨hx, hb, hml, hown, hts⟩ (mtX1_keptAt l hl9 D w s.heap.size lab x fq ac rn tt P C A cov K F cp hS i9) (cwV 1 hts (lw_V q1743 q1744 q1745 q34 q1746) rfl rfl rfl (by decide +kernel) ⟨Nat.le_of_ble_eq_true rfl, Nat.le_of_ble_eq_true rfl⟩) (g_preV hW hK hE hat rfl) rfl rfl hl.1 rfl (lv_room (Nat.le_of_ble_eq_true rfl)) dX0_keptAt_3 ⟨?_, ?_⟩) hW (fun E ce q9 u_ H locs hp hW hxc1 hxc2 hxc3 => ?_) (fun r1 u1 H locs hp hW => ?_)
  · (try simp only [headSpec]); omega
  · (try simp only [headSpec]); omega
  · have hE9 : E = "java/lang/IndexOutOfBoundsException" := by first | exact hp.1 | (rcases hp with h | h <;> exact h.1)
    subst hE9
    refine vx_catch (own := RX0) (name := "java/lang/IndexOutOfBoundsException") hown [] ⟨0, 9, 12, 150⟩ [] (htab.trans rfl) (fun _ z => by cases z) (by decide) (by decide) (hts _ q1708) (va_Nw.use rfl (hE.ca (by decide +kernel))) hxc1 hxc2 hxc3 ?_
    refine lv_astore_n (lv' := [(3, .ref q9), (0, .ref x), (1, .int (i9)), (2, .ref o)]) hx hb dX0_keptAt_12 rfl hl (by decide) rfl (fun ls hl => ?_)
    refine lv_iconst (v := 1) hx hb dX0_keptAt_13 (by decide) ?_
    exact g_iret (v := 1) hx hb hr hlocks hW (Or.inr ⟨_, hp, ⟨rfl, rfl⟩⟩) (by omega) (by omega) dX0_keptAt_14
  · rcases r1 with _ | s9
    · refine g_putfN (ci := 9) (v := .null) (ty := (.object "java/lang/String")) (C := RX4) (T := TX4) (N := 5) hx hb hts in_X4 tyX4 tyX4_ok nmX4 hown hK hW (hko _ _ hp) rfl 2 (by decide) (nf_q468 hE) (fun _ h9 => h9) rfl (by decide +kernel) rfl rfl (Nat.le_of_ble_eq_true rfl) dX0_keptAt_6 (fun H locs hW => ?_)
      obtain ⟨w_1, ew_1⟩ : ∃ z__, z__ = g_put u1 o (.inr (9, [.long (n0), .double (d0), .null, va_rf (v0), va_rf (f0)])) := ⟨_, rfl⟩
      have hW := g_W.ren hW ew_1 rfl
      have h_2 : g_at w_1 o (.inr (9, [.long (n0), .double (d0), .null, va_rf (v0), va_rf (f0)])) := by rw [ew_1]; exact g_at.put_self (hko _ _ hp).1
      refine lv_goto (tgt := 15) hx hb dX0_keptAt_9 (by decide) ?_
      refine lv_iconst (v := 0) hx hb dX0_keptAt_15 (by decide) ?_
      exact g_iret (v := 0) hx hb hr hlocks hW (Or.inl ⟨none, u1, hp, ew_1, rfl⟩) (by omega) (by omega) dX0_keptAt_16
    · refine W.eq (g2 := F0 m 6 ls [.ref s9, .ref o]) rfl ?_
      refine g_putfN (ci := 9) (v := .ref s9) (ty := (.object "java/lang/String")) (C := RX4) (T := TX4) (N := 5) hx hb hts in_X4 tyX4 tyX4_ok nmX4 hown hK hW (hko _ _ hp) rfl 2 (by decide) (nf_q468 hE) (fun _ h9 => h9) rfl (by decide +kernel) rfl rfl (Nat.le_of_ble_eq_true rfl) dX0_keptAt_6 (fun H locs hW => ?_)
      obtain ⟨w_3, ew_3⟩ : ∃ z__, z__ = g_put u1 o (.inr (9, [.long (n0), .double (d0), .ref s9, va_rf (v0), va_rf (f0)])) := ⟨_, rfl⟩
      have hW := g_W.ren hW ew_3 rfl
      have h_4 : g_at w_3 o (.inr (9, [.long (n0), .double (d0), .ref s9, va_rf (v0), va_rf (f0)])) := by rw [ew_3]; exact g_at.put_self (hko _ _ hp).1
      refine lv_goto (tgt := 15) hx hb dX0_keptAt_9 (by decide) ?_
      refine lv_iconst (v := 0) hx hb dX0_keptAt_15 (by decide) ?_
      exact g_iret (v := 0) hx hb hr hlocks hW (Or.inl ⟨some s9, u1, hp, ew_3, rfl⟩) (by omega) (by omega) dX0_keptAt_16
set_option maxHeartbeats 4000000 in
set_option maxRecDepth 100000 in
/-- the law: findingAt -/
theorem mtX0_findingAt (l : Launch) (D : va_G) (w : g_H) (sz : Nat) (hl9 : l.stackTraces = false) (lab : Nat → Nat) (x fq ac rn tt : Nat) (P : List mI) (C : List yC) (A : Nat → List (List Nat)) (cov : Nat → Bool) (K : List (List Nat)) (F : List (List Nat × List Nat × Int32)) (cp : Nat → Nat) (hS : g_SY D w lab x P C A cov K fq ac F rn tt cp) (i9 : Int32) (o : Nat) (n0 : Int64) (d0 : UInt64) (s0 v0 f0 : Option Nat) (ho : g_at w o (oOut n0 d0 s0 v0 f0)) (hko : ∀ (r1 : Option Nat) (u1 : g_H), (fun r u => (¬ i9 < 0 ∧ i9 < nI F.length) ∧ (∃ s9, r = some s9 ∧ g_Fins D w [s9] [F.getD i9.toNatClampNeg ([], [], 0)]) ∧ w = u) r1 u1 → g_at u1 o (oOut n0 d0 s0 v0 f0)) : Met l yX0_findingAt (wsW_ yX0_findingAt cX0_findingAt 4 (some .int) [(0, 9, 12, 150)]) ({ frames := 10, cells := 1, slots := 6, locals := 152 }) (g_Pc D [.ref x, .int (i9), .ref o] w sz) (g_Qi D w sz (fun r u => (∃ (r1 : Option Nat) (u1 : g_H), (fun r u => (¬ i9 < 0 ∧ i9 < nI F.length) ∧ (∃ s9, r = some s9 ∧ g_Fins D w [s9] [F.getD i9.toNatClampNeg ([], [], 0)]) ∧ w = u) r1 u1 ∧ u = g_put u1 o (oOut n0 d0 s0 v0 r1) ∧ r = 0) ∨ (∃ E : String, (fun E u => E = "java/lang/IndexOutOfBoundsException" ∧ ¬ (¬ i9 < 0 ∧ i9 < nI F.length) ∧ w = u) E u ∧ ((E = "java/lang/IndexOutOfBoundsException" ∧ r = 1))))) (1) (6) (g_A w sz) := by
  refine g_ofWH (hh := [(0, 9, 12, 150)]) (cc := cX0_findingAt) (maxL := 4) (ret := (some .int)) (by decide) rfl ?_
  intro p e s m args below meth c s₁ B hml hv
  obtain ⟨rfl, hI⟩ := hv
  have hx := B.exec
  have hb := B.bytes
  have hr := B.returns
  have hts := atoms_spec (ws := wsW_ yX0_findingAt cX0_findingAt 4 (some .int) [(0, 9, 12, 150)]) B.pre
  have hts : ∀ w ∈ lw_all, w.before _ s = true := fun w h => hts w (List.mem_cons_of_mem _ h)
  have hown : s.vm.findClass RX0 = some m.cls := findClass_of_methodNamed B.named
  have hlocks := B.notSynchronized
  have hsz := hI.1
  subst hsz
  have hW := g_W.start hI
  have hK := g_K hI
  have hE := g_E hI
  have hl := lv_entry ([.ref x, .int (i9), .ref o]) (n := 4) (by exact Nat.le_of_ble_eq_true rfl)
  rw [lg_entry_eq]
  generalize (lg_sl ([.ref x, .int (i9), .ref o]) ++ List.replicate (4 - (lg_sl ([.ref x, .int (i9), .ref o])).length) Slot.unset).toArray = ls at hl ⊢
  have hl : lv_has ls 4 [(0, .ref x), (1, .int (i9)), (2, .ref o)] := hl
  have hEo : g_at w o (oOut n0 d0 s0 v0 f0) := ho
  have htab : c.exceptionTable.toList = tableOf [(0, 9, 12, 150)] := vx_table (x := yX0_findingAt) (hh := [(0, 9, 12, 150)]) B (atoms_spec (ws := wsW_ yX0_findingAt cX0_findingAt 4 (some .int) [(0, 9, 12, 150)]) B.pre _ List.mem_cons_self)
  refine lv_aload_n hx hb dX0_findingAt_0 rfl (lv_at hl 2 rfl) ?_
  refine lv_aload_n hx hb dX0_findingAt_1 rfl (lv_at hl 0 rfl) ?_
  refine lv_iload_n hx hb dX0_findingAt_2 rfl (lv_at hl 1 rfl) ?_
  obtain ⟨_, _, _, _, _, _, _, _, _, _, _, _, _, _, _, ⟨hat, -⟩, -⟩ := id hS
  refine g_xcallq (vx_runV (As := [.int (i9)]) (rest := [.ref o]) ⟨hx, hb, hml, hown, hts⟩ (mtX1_findingAt l hl9 D w s.heap.size lab x fq ac rn tt P C A cov K F cp hS i9) (cwV 1 hts (lw_V q1750 q1751 q1752 q34 q1753) rfl rfl rfl (by decide +kernel) ⟨Nat.le_of_ble_eq_true rfl, Nat.le_of_ble_eq_true rfl⟩) (g_preV hW hK hE hat rfl) rfl rfl hl.1 rfl (lv_room (Nat.le_of_ble_eq_true rfl)) dX0_findingAt_3 ⟨?_, ?_⟩) hW (fun E ce q9 u_ H locs hp hW hxc1 hxc2 hxc3 => ?_) (fun r1 u1 H locs hp hW => ?_)
  · (try simp only [headSpec]); omega
  · (try simp only [headSpec]); omega
  · have hE9 : E = "java/lang/IndexOutOfBoundsException" := by first | exact hp.1 | (rcases hp with h | h <;> exact h.1)
    subst hE9
    refine vx_catch (own := RX0) (name := "java/lang/IndexOutOfBoundsException") hown [] ⟨0, 9, 12, 150⟩ [] (htab.trans rfl) (fun _ z => by cases z) (by decide) (by decide) (hts _ q1708) (va_Nw.use rfl (hE.ca (by decide +kernel))) hxc1 hxc2 hxc3 ?_
    refine lv_astore_n (lv' := [(3, .ref q9), (0, .ref x), (1, .int (i9)), (2, .ref o)]) hx hb dX0_findingAt_12 rfl hl (by decide) rfl (fun ls hl => ?_)
    refine lv_iconst (v := 1) hx hb dX0_findingAt_13 (by decide) ?_
    exact g_iret (v := 1) hx hb hr hlocks hW (Or.inr ⟨_, hp, ⟨rfl, rfl⟩⟩) (by omega) (by omega) dX0_findingAt_14
  · rcases r1 with _ | s9
    · refine g_putfN (ci := 9) (v := .null) (ty := (.object "Finding")) (C := RX4) (T := TX4) (N := 5) hx hb hts in_X4 tyX4 tyX4_ok nmX4 hown hK hW (hko _ _ hp) rfl 4 (by decide) (nf_q470 hE) (fun _ h9 => h9) rfl (by decide +kernel) rfl rfl (Nat.le_of_ble_eq_true rfl) dX0_findingAt_6 (fun H locs hW => ?_)
      obtain ⟨w_1, ew_1⟩ : ∃ z__, z__ = g_put u1 o (.inr (9, [.long (n0), .double (d0), va_rf (s0), va_rf (v0), .null])) := ⟨_, rfl⟩
      have hW := g_W.ren hW ew_1 rfl
      have h_2 : g_at w_1 o (.inr (9, [.long (n0), .double (d0), va_rf (s0), va_rf (v0), .null])) := by rw [ew_1]; exact g_at.put_self (hko _ _ hp).1
      refine lv_goto (tgt := 15) hx hb dX0_findingAt_9 (by decide) ?_
      refine lv_iconst (v := 0) hx hb dX0_findingAt_15 (by decide) ?_
      exact g_iret (v := 0) hx hb hr hlocks hW (Or.inl ⟨none, u1, hp, ew_1, rfl⟩) (by omega) (by omega) dX0_findingAt_16
    · refine W.eq (g2 := F0 m 6 ls [.ref s9, .ref o]) rfl ?_
      refine g_putfN (ci := 9) (v := .ref s9) (ty := (.object "Finding")) (C := RX4) (T := TX4) (N := 5) hx hb hts in_X4 tyX4 tyX4_ok nmX4 hown hK hW (hko _ _ hp) rfl 4 (by decide) (nf_q470 hE) (fun _ h9 => h9) rfl (by decide +kernel) rfl rfl (Nat.le_of_ble_eq_true rfl) dX0_findingAt_6 (fun H locs hW => ?_)
      obtain ⟨w_3, ew_3⟩ : ∃ z__, z__ = g_put u1 o (.inr (9, [.long (n0), .double (d0), va_rf (s0), va_rf (v0), .ref s9])) := ⟨_, rfl⟩
      have hW := g_W.ren hW ew_3 rfl
      have h_4 : g_at w_3 o (.inr (9, [.long (n0), .double (d0), va_rf (s0), va_rf (v0), .ref s9])) := by rw [ew_3]; exact g_at.put_self (hko _ _ hp).1
      refine lv_goto (tgt := 15) hx hb dX0_findingAt_9 (by decide) ?_
      refine lv_iconst (v := 0) hx hb dX0_findingAt_15 (by decide) ?_
      exact g_iret (v := 0) hx hb hr hlocks hW (Or.inl ⟨some s9, u1, hp, ew_3, rfl⟩) (by omega) (by omega) dX0_findingAt_16
set_option maxHeartbeats 4000000 in
set_option maxRecDepth 100000 in
/-- the law: verdict -/
theorem mtX0_verdict (l : Launch) (D : va_G) (w : g_H) (sz : Nat) (hl9 : l.stackTraces = false) (lab : Nat → Nat) (x ac rn tt : Nat) (rf : Nat → Nat) (P : List mI) (C : List yC) (A : Nat → List (List Nat)) (cov : Nat → Bool) (K Q : List (List Nat)) (F : List (List Nat × List Nat × Int32)) (cp : Nat → Nat) (hS : g_SZ D w lab x rf P C A cov K Q ac F rn tt cp) (st : Nat) (t : List Nat) (hst : g_Str D w st t) (o : Nat) (n0 : Int64) (d0 : UInt64) (s0 v0 f0 : Option Nat) (ho : g_at w o (oOut n0 d0 s0 v0 f0)) (hko : ∀ (r1 : Option Nat) (u1 : g_H), (fun r u => isIn t ∧ r = some (D.2 1003 (mOut P (digs t)).1) ∧ ∃ l2, g_SZ D u l2 x rf P C A cov K Q ac F rn tt (cpU cp 9 (bsC (cp 9) (mOut P (digs t)).2.2.2)) ∧ yCh w lab u l2) r1 u1 → g_at u1 o (oOut n0 d0 s0 v0 f0)) : Met l yX0_verdict (wsW_ yX0_verdict cX0_verdict 4 (some .int) [(0, 9, 12, 110)]) ({ frames := 11, cells := 3 + (bsC (cp 9) (mOut P (digs t)).2.2.2 - (cp 9)), slots := 16 + 2 * (bsC (cp 9) (mOut P (digs t)).2.2.2 - (cp 9)), locals := 212 }) (g_Pc D [.ref x, .ref st, .ref o] w sz) (g_Qi D w sz (fun r u => (∃ (r1 : Option Nat) (u1 : g_H), (fun r u => isIn t ∧ r = some (D.2 1003 (mOut P (digs t)).1) ∧ ∃ l2, g_SZ D u l2 x rf P C A cov K Q ac F rn tt (cpU cp 9 (bsC (cp 9) (mOut P (digs t)).2.2.2)) ∧ yCh w lab u l2) r1 u1 ∧ u = g_put u1 o (oOut n0 d0 s0 r1 f0) ∧ r = 0) ∨ (∃ E : String, (fun E u => E = "java/lang/IllegalArgumentException" ∧ ¬ isIn t ∧ w = u) E u ∧ ((E = "java/lang/IllegalArgumentException" ∧ r = 1))))) (3 + (bsC (cp 9) (mOut P (digs t)).2.2.2 - (cp 9))) (16 + 2 * (bsC (cp 9) (mOut P (digs t)).2.2.2 - (cp 9))) (g_A w sz) := by
  refine g_ofWH (hh := [(0, 9, 12, 110)]) (cc := cX0_verdict) (maxL := 4) (ret := (some .int)) (by decide) rfl ?_
  intro p e s m args below meth c s₁ B hml hv
  obtain ⟨rfl, hI⟩ := hv
  have hx := B.exec
  have hb := B.bytes
  have hr := B.returns
  have hts := atoms_spec (ws := wsW_ yX0_verdict cX0_verdict 4 (some .int) [(0, 9, 12, 110)]) B.pre
  have hts : ∀ w ∈ lw_all, w.before _ s = true := fun w h => hts w (List.mem_cons_of_mem _ h)
  have hown : s.vm.findClass RX0 = some m.cls := findClass_of_methodNamed B.named
  have hlocks := B.notSynchronized
  have hsz := hI.1
  subst hsz
  have hW := g_W.start hI
  have hK := g_K hI
  have hE := g_E hI
  have hl := lv_entry ([.ref x, .ref st, .ref o]) (n := 4) (by exact Nat.le_of_ble_eq_true rfl)
  rw [lg_entry_eq]
  generalize (lg_sl ([.ref x, .ref st, .ref o]) ++ List.replicate (4 - (lg_sl ([.ref x, .ref st, .ref o])).length) Slot.unset).toArray = ls at hl ⊢
  have hl : lv_has ls 4 [(0, .ref x), (1, .ref st), (2, .ref o)] := hl
  have hEo : g_at w o (oOut n0 d0 s0 v0 f0) := ho
  have htab : c.exceptionTable.toList = tableOf [(0, 9, 12, 110)] := vx_table (x := yX0_verdict) (hh := [(0, 9, 12, 110)]) B (atoms_spec (ws := wsW_ yX0_verdict cX0_verdict 4 (some .int) [(0, 9, 12, 110)]) B.pre _ List.mem_cons_self)
  refine lv_aload_n hx hb dX0_verdict_0 rfl (lv_at hl 2 rfl) ?_
  refine lv_aload_n hx hb dX0_verdict_1 rfl (lv_at hl 0 rfl) ?_
  refine lv_aload_n hx hb dX0_verdict_2 rfl (lv_at hl 1 rfl) ?_
  refine g_xcallq (vx_runV (As := [.ref st]) (rest := [.ref o]) ⟨hx, hb, hml, hown, hts⟩ (mtX1_verdict l hl9 D w s.heap.size lab x ac rn tt rf P C A cov K Q F cp hS st t hst) (cwV 1 hts (lw_V q1757 q1758 q1759 q34 q1760) rfl rfl rfl (by decide +kernel) ⟨Nat.le_of_ble_eq_true rfl, Nat.le_of_ble_eq_true rfl⟩) (g_preV hW hK hE hS.1.1 rfl) rfl rfl hl.1 rfl (lv_room (Nat.le_of_ble_eq_true rfl)) dX0_verdict_3 ⟨?_, ?_⟩) hW (fun E ce q9 u_ H locs hp hW hxc1 hxc2 hxc3 => ?_) (fun r1 u1 H locs hp hW => ?_)
  · (try simp only [headSpec]); omega
  · (try simp only [headSpec]); omega
  · have hE9 : E = "java/lang/IllegalArgumentException" := by first | exact hp.1 | (rcases hp with h | h <;> exact h.1)
    subst hE9
    refine vx_catch (own := RX0) (name := "java/lang/IllegalArgumentException") hown [] ⟨0, 9, 12, 110⟩ [] (htab.trans rfl) (fun _ z => by cases z) (by decide) (by decide) (hts _ q547) (va_Nw.use rfl (hE.ca (by decide +kernel))) hxc1 hxc2 hxc3 ?_
    refine lv_astore_n (lv' := [(3, .ref q9), (0, .ref x), (1, .ref st), (2, .ref o)]) hx hb dX0_verdict_12 rfl hl (by decide) rfl (fun ls hl => ?_)
    refine lv_iconst (v := 1) hx hb dX0_verdict_13 (by decide) ?_
    exact g_iret (v := 1) hx hb hr hlocks hW (Or.inr ⟨_, hp, ⟨rfl, rfl⟩⟩) (by omega) (by omega) dX0_verdict_14
  · rcases r1 with _ | s9
    · refine g_putfN (ci := 9) (v := .null) (ty := (.object "Verdict")) (C := RX4) (T := TX4) (N := 5) hx hb hts in_X4 tyX4 tyX4_ok nmX4 hown hK hW (hko _ _ hp) rfl 3 (by decide) (nf_q469 hE) (fun _ h9 => h9) rfl (by decide +kernel) rfl rfl (Nat.le_of_ble_eq_true rfl) dX0_verdict_6 (fun H locs hW => ?_)
      obtain ⟨w_1, ew_1⟩ : ∃ z__, z__ = g_put u1 o (.inr (9, [.long (n0), .double (d0), va_rf (s0), .null, va_rf (f0)])) := ⟨_, rfl⟩
      have hW := g_W.ren hW ew_1 rfl
      have h_2 : g_at w_1 o (.inr (9, [.long (n0), .double (d0), va_rf (s0), .null, va_rf (f0)])) := by rw [ew_1]; exact g_at.put_self (hko _ _ hp).1
      refine lv_goto (tgt := 15) hx hb dX0_verdict_9 (by decide) ?_
      refine lv_iconst (v := 0) hx hb dX0_verdict_15 (by decide) ?_
      exact g_iret (v := 0) hx hb hr hlocks hW (Or.inl ⟨none, u1, hp, ew_1, rfl⟩) (by omega) (by omega) dX0_verdict_16
    · refine W.eq (g2 := F0 m 6 ls [.ref s9, .ref o]) rfl ?_
      refine g_putfN (ci := 9) (v := .ref s9) (ty := (.object "Verdict")) (C := RX4) (T := TX4) (N := 5) hx hb hts in_X4 tyX4 tyX4_ok nmX4 hown hK hW (hko _ _ hp) rfl 3 (by decide) (nf_q469 hE) (fun _ h9 => h9) rfl (by decide +kernel) rfl rfl (Nat.le_of_ble_eq_true rfl) dX0_verdict_6 (fun H locs hW => ?_)
      obtain ⟨w_3, ew_3⟩ : ∃ z__, z__ = g_put u1 o (.inr (9, [.long (n0), .double (d0), va_rf (s0), .ref s9, va_rf (f0)])) := ⟨_, rfl⟩
      have hW := g_W.ren hW ew_3 rfl
      have h_4 : g_at w_3 o (.inr (9, [.long (n0), .double (d0), va_rf (s0), .ref s9, va_rf (f0)])) := by rw [ew_3]; exact g_at.put_self (hko _ _ hp).1
      refine lv_goto (tgt := 15) hx hb dX0_verdict_9 (by decide) ?_
      refine lv_iconst (v := 0) hx hb dX0_verdict_15 (by decide) ?_
      exact g_iret (v := 0) hx hb hr hlocks hW (Or.inl ⟨some s9, u1, hp, ew_3, rfl⟩) (by omega) (by omega) dX0_verdict_16
set_option maxHeartbeats 4000000 in
set_option maxRecDepth 100000 in
/-- the law: code -/
theorem mtX0_code (l : Launch) (D : va_G) (w : g_H) (sz : Nat) (hl9 : l.stackTraces = false) (lab : Nat → Nat) (x ac rn tt : Nat) (rf : Nat → Nat) (P : List mI) (C : List yC) (A : Nat → List (List Nat)) (cov : Nat → Bool) (K Q : List (List Nat)) (F : List (List Nat × List Nat × Int32)) (cp : Nat → Nat) (hS : g_SZ D w lab x rf P C A cov K Q ac F rn tt cp) (st : Nat) (t : List Nat) (hst : g_Str D w st t) (o : Nat) (n0 : Int64) (d0 : UInt64) (s0 v0 f0 : Option Nat) (ho : g_at w o (oOut n0 d0 s0 v0 f0)) (hko : ∀ (r1 : Int32) (u1 : g_H), (fun r u => (isIn t ∧ (mOut P (digs t)).1 = 1) ∧ r = mCode P (digs t) ∧ ∃ l2, g_SZ D u l2 x rf P C A cov K Q ac F rn tt (cpU cp 9 (bsC (cp 9) (mOut P (digs t)).2.2.2)) ∧ yCh w lab u l2) r1 u1 → g_at u1 o (oOut n0 d0 s0 v0 f0)) : Met l yX0_code (wsW_ yX0_code cX0_code 4 (some .int) [(0, 10, 13, 110), (0, 10, 16, 112)]) ({ frames := 12, cells := 4 + (bsC (cp 9) (mOut P (digs t)).2.2.2 - (cp 9)), slots := 22 + 2 * (bsC (cp 9) (mOut P (digs t)).2.2.2 - (cp 9)), locals := 235 }) (g_Pc D [.ref x, .ref st, .ref o] w sz) (g_Qi D w sz (fun r u => (∃ (r1 : Int32) (u1 : g_H), (fun r u => (isIn t ∧ (mOut P (digs t)).1 = 1) ∧ r = mCode P (digs t) ∧ ∃ l2, g_SZ D u l2 x rf P C A cov K Q ac F rn tt (cpU cp 9 (bsC (cp 9) (mOut P (digs t)).2.2.2)) ∧ yCh w lab u l2) r1 u1 ∧ u = g_put u1 o (oOut r1.toInt64 d0 s0 v0 f0) ∧ r = 0) ∨ (∃ E : String, (fun E u => (E = "java/lang/IllegalArgumentException" ∧ ¬ isIn t ∧ w = u) ∨ (E = "java/lang/IllegalStateException" ∧ isIn t ∧ (mOut P (digs t)).1 ≠ 1 ∧ ∃ l2, g_SZ D u l2 x rf P C A cov K Q ac F rn tt (cpU cp 9 (bsC (cp 9) (mOut P (digs t)).2.2.2)) ∧ yCh w lab u l2)) E u ∧ ((E = "java/lang/IllegalArgumentException" ∧ r = 1) ∨ (E = "java/lang/IllegalStateException" ∧ r = 2))))) (4 + (bsC (cp 9) (mOut P (digs t)).2.2.2 - (cp 9))) (22 + 2 * (bsC (cp 9) (mOut P (digs t)).2.2.2 - (cp 9))) (g_A w sz) := by
  refine g_ofWH (hh := [(0, 10, 13, 110), (0, 10, 16, 112)]) (cc := cX0_code) (maxL := 4) (ret := (some .int)) (by decide) rfl ?_
  intro p e s m args below meth c s₁ B hml hv
  obtain ⟨rfl, hI⟩ := hv
  have hx := B.exec
  have hb := B.bytes
  have hr := B.returns
  have hts := atoms_spec (ws := wsW_ yX0_code cX0_code 4 (some .int) [(0, 10, 13, 110), (0, 10, 16, 112)]) B.pre
  have hts : ∀ w ∈ lw_all, w.before _ s = true := fun w h => hts w (List.mem_cons_of_mem _ h)
  have hown : s.vm.findClass RX0 = some m.cls := findClass_of_methodNamed B.named
  have hlocks := B.notSynchronized
  have hsz := hI.1
  subst hsz
  have hW := g_W.start hI
  have hK := g_K hI
  have hE := g_E hI
  have hl := lv_entry ([.ref x, .ref st, .ref o]) (n := 4) (by exact Nat.le_of_ble_eq_true rfl)
  rw [lg_entry_eq]
  generalize (lg_sl ([.ref x, .ref st, .ref o]) ++ List.replicate (4 - (lg_sl ([.ref x, .ref st, .ref o])).length) Slot.unset).toArray = ls at hl ⊢
  have hl : lv_has ls 4 [(0, .ref x), (1, .ref st), (2, .ref o)] := hl
  have hEo : g_at w o (oOut n0 d0 s0 v0 f0) := ho
  have htab : c.exceptionTable.toList = tableOf [(0, 10, 13, 110), (0, 10, 16, 112)] := vx_table (x := yX0_code) (hh := [(0, 10, 13, 110), (0, 10, 16, 112)]) B (atoms_spec (ws := wsW_ yX0_code cX0_code 4 (some .int) [(0, 10, 13, 110), (0, 10, 16, 112)]) B.pre _ List.mem_cons_self)
  refine lv_aload_n hx hb dX0_code_0 rfl (lv_at hl 2 rfl) ?_
  refine lv_aload_n hx hb dX0_code_1 rfl (lv_at hl 0 rfl) ?_
  refine lv_aload_n hx hb dX0_code_2 rfl (lv_at hl 1 rfl) ?_
  refine g_xcalli (vx_runV (As := [.ref st]) (rest := [.ref o]) ⟨hx, hb, hml, hown, hts⟩ (mtX1_code l hl9 D w s.heap.size lab x ac rn tt rf P C A cov K Q F cp hS st t hst) (cwV 1 hts (lw_V q1764 q1765 q1766 q34 q1767) rfl rfl rfl (by decide +kernel) ⟨Nat.le_of_ble_eq_true rfl, Nat.le_of_ble_eq_true rfl⟩) (g_preV hW hK hE hS.1.1 rfl) rfl rfl hl.1 rfl (lv_room (Nat.le_of_ble_eq_true rfl)) dX0_code_3 ⟨?_, ?_⟩) hW (fun E ce q9 u_ H locs hp hW hxc1 hxc2 hxc3 => ?_) (fun r1 u1 H locs hp hW => ?_)
  · (try simp only [headSpec]); omega
  · (try simp only [headSpec]); omega
  · have hE9 : E = "java/lang/IllegalArgumentException" ∨ E = "java/lang/IllegalStateException" := by
      rcases hp with ⟨h, -⟩ | ⟨h, -⟩
      · exact Or.inl h
      · exact Or.inr h
    rcases hE9 with h9 | h9
    · subst h9
      refine vx_catch (own := RX0) (name := "java/lang/IllegalArgumentException") hown [] ⟨0, 10, 13, 110⟩ [⟨0, 10, 16, 112⟩] (htab.trans rfl) (fun _ z => by cases z) (by decide) (by decide) (hts _ q547) (va_Nw.use rfl (hE.ca (by decide +kernel))) hxc1 hxc2 hxc3 ?_
      refine lv_astore_n (lv' := [(3, .ref q9), (0, .ref x), (1, .ref st), (2, .ref o)]) hx hb dX0_code_13 rfl hl (by decide) rfl (fun ls hl => ?_)
      refine lv_iconst (v := 1) hx hb dX0_code_14 (by decide) ?_
      exact g_iret (v := 1) hx hb hr hlocks hW (Or.inr ⟨_, hp, Or.inl ⟨rfl, rfl⟩⟩) (by omega) (by omega) dX0_code_15
    · subst h9
      have hpass : ∀ z ∈ ([⟨0, 10, 13, 110⟩] : List ExceptionTableEntry), covers z 3 = false ∨ (z.catchType ≠ 0 ∧ ∃ nm : String, (Cond.classLink RX0 z.catchType nm).before _ s = true ∧ va_Nc "java/lang/IllegalStateException" nm s) := fun z hz => by
        simp only [List.mem_cons, List.not_mem_nil, or_false] at hz
        rcases hz with rfl
        · exact Or.inr ⟨by decide, "java/lang/IllegalArgumentException", hts _ q547, hE.nn (by decide)⟩
      refine vx_catch (own := RX0) (name := "java/lang/IllegalStateException") hown [⟨0, 10, 13, 110⟩] ⟨0, 10, 16, 112⟩ [] (htab.trans rfl) (hpass) (by decide) (by decide) (hts _ q548) (va_Nw.use rfl (hE.ca (by decide +kernel))) hxc1 hxc2 hxc3 ?_
      refine lv_astore_n (lv' := [(3, .ref q9), (0, .ref x), (1, .ref st), (2, .ref o)]) hx hb dX0_code_16 rfl hl (by decide) rfl (fun ls hl => ?_)
      refine lv_iconst (v := 2) hx hb dX0_code_17 (by decide) ?_
      exact g_iret (v := 2) hx hb hr hlocks hW (Or.inr ⟨_, hp, Or.inr (⟨rfl, rfl⟩)⟩) (by omega) (by omega) dX0_code_18
  · refine lv_i2l (v := (r1 : Int32).toInt64) hx hb dX0_code_6 rfl ?_
    refine g_putfN (ci := 9) (v := .long ((r1 : Int32).toInt64)) (ty := .long) (C := RX4) (T := TX4) (N := 5) hx hb hts in_X4 tyX4 tyX4_ok nmX4 hown hK hW (hko _ _ hp) rfl 0 (by decide) (nf_q466 hE) (fun _ h9 => h9) rfl (by decide +kernel) rfl rfl (Nat.le_of_ble_eq_true rfl) dX0_code_7 (fun H locs hW => ?_)
    obtain ⟨w_1, ew_1⟩ : ∃ z__, z__ = g_put u1 o (.inr (9, [.long ((r1 : Int32).toInt64), .double (d0), va_rf (s0), va_rf (v0), va_rf (f0)])) := ⟨_, rfl⟩
    have hW := g_W.ren hW ew_1 rfl
    have h_2 : g_at w_1 o (.inr (9, [.long ((r1 : Int32).toInt64), .double (d0), va_rf (s0), va_rf (v0), va_rf (f0)])) := by rw [ew_1]; exact g_at.put_self (hko _ _ hp).1
    refine lv_goto (tgt := 19) hx hb dX0_code_10 (by decide) ?_
    refine lv_iconst (v := 0) hx hb dX0_code_19 (by decide) ?_
    exact g_iret (v := 0) hx hb hr hlocks hW (Or.inl ⟨r1, u1, hp, ew_1, rfl⟩) (by omega) (by omega) dX0_code_20
set_option maxHeartbeats 4000000 in
set_option maxRecDepth 100000 in
/-- the law: steps -/
theorem mtX0_steps (l : Launch) (D : va_G) (w : g_H) (sz : Nat) (hl9 : l.stackTraces = false) (lab : Nat → Nat) (x ac rn tt : Nat) (rf : Nat → Nat) (P : List mI) (C : List yC) (A : Nat → List (List Nat)) (cov : Nat → Bool) (K Q : List (List Nat)) (F : List (List Nat × List Nat × Int32)) (cp : Nat → Nat) (hS : g_SZ D w lab x rf P C A cov K Q ac F rn tt cp) (st : Nat) (t : List Nat) (hst : g_Str D w st t) (o : Nat) (n0 : Int64) (d0 : UInt64) (s0 v0 f0 : Option Nat) (ho : g_at w o (oOut n0 d0 s0 v0 f0)) (hko : ∀ (r1 : Int32) (u1 : g_H), (fun r u => isIn t ∧ r = nI (mOut P (digs t)).2.2.1 ∧ ∃ l2, g_SZ D u l2 x rf P C A cov K Q ac F rn tt (cpU cp 9 (bsC (cp 9) (mOut P (digs t)).2.2.2)) ∧ yCh w lab u l2) r1 u1 → g_at u1 o (oOut n0 d0 s0 v0 f0)) : Met l yX0_steps (wsW_ yX0_steps cX0_steps 4 (some .int) [(0, 10, 13, 110)]) ({ frames := 11, cells := 3 + (bsC (cp 9) (mOut P (digs t)).2.2.2 - (cp 9)), slots := 16 + 2 * (bsC (cp 9) (mOut P (digs t)).2.2.2 - (cp 9)), locals := 212 }) (g_Pc D [.ref x, .ref st, .ref o] w sz) (g_Qi D w sz (fun r u => (∃ (r1 : Int32) (u1 : g_H), (fun r u => isIn t ∧ r = nI (mOut P (digs t)).2.2.1 ∧ ∃ l2, g_SZ D u l2 x rf P C A cov K Q ac F rn tt (cpU cp 9 (bsC (cp 9) (mOut P (digs t)).2.2.2)) ∧ yCh w lab u l2) r1 u1 ∧ u = g_put u1 o (oOut r1.toInt64 d0 s0 v0 f0) ∧ r = 0) ∨ (∃ E : String, (fun E u => E = "java/lang/IllegalArgumentException" ∧ ¬ isIn t ∧ w = u) E u ∧ ((E = "java/lang/IllegalArgumentException" ∧ r = 1))))) (3 + (bsC (cp 9) (mOut P (digs t)).2.2.2 - (cp 9))) (16 + 2 * (bsC (cp 9) (mOut P (digs t)).2.2.2 - (cp 9))) (g_A w sz) := by
  refine g_ofWH (hh := [(0, 10, 13, 110)]) (cc := cX0_steps) (maxL := 4) (ret := (some .int)) (by decide) rfl ?_
  intro p e s m args below meth c s₁ B hml hv
  obtain ⟨rfl, hI⟩ := hv
  have hx := B.exec
  have hb := B.bytes
  have hr := B.returns
  have hts := atoms_spec (ws := wsW_ yX0_steps cX0_steps 4 (some .int) [(0, 10, 13, 110)]) B.pre
  have hts : ∀ w ∈ lw_all, w.before _ s = true := fun w h => hts w (List.mem_cons_of_mem _ h)
  have hown : s.vm.findClass RX0 = some m.cls := findClass_of_methodNamed B.named
  have hlocks := B.notSynchronized
  have hsz := hI.1
  subst hsz
  have hW := g_W.start hI
  have hK := g_K hI
  have hE := g_E hI
  have hl := lv_entry ([.ref x, .ref st, .ref o]) (n := 4) (by exact Nat.le_of_ble_eq_true rfl)
  rw [lg_entry_eq]
  generalize (lg_sl ([.ref x, .ref st, .ref o]) ++ List.replicate (4 - (lg_sl ([.ref x, .ref st, .ref o])).length) Slot.unset).toArray = ls at hl ⊢
  have hl : lv_has ls 4 [(0, .ref x), (1, .ref st), (2, .ref o)] := hl
  have hEo : g_at w o (oOut n0 d0 s0 v0 f0) := ho
  have htab : c.exceptionTable.toList = tableOf [(0, 10, 13, 110)] := vx_table (x := yX0_steps) (hh := [(0, 10, 13, 110)]) B (atoms_spec (ws := wsW_ yX0_steps cX0_steps 4 (some .int) [(0, 10, 13, 110)]) B.pre _ List.mem_cons_self)
  refine lv_aload_n hx hb dX0_steps_0 rfl (lv_at hl 2 rfl) ?_
  refine lv_aload_n hx hb dX0_steps_1 rfl (lv_at hl 0 rfl) ?_
  refine lv_aload_n hx hb dX0_steps_2 rfl (lv_at hl 1 rfl) ?_
  refine g_xcalli (vx_runV (As := [.ref st]) (rest := [.ref o]) ⟨hx, hb, hml, hown, hts⟩ (mtX1_steps l hl9 D w s.heap.size lab x ac rn tt rf P C A cov K Q F cp hS st t hst) (cwV 1 hts (lw_V q1775 q1776 q1777 q34 q1778) rfl rfl rfl (by decide +kernel) ⟨Nat.le_of_ble_eq_true rfl, Nat.le_of_ble_eq_true rfl⟩) (g_preV hW hK hE hS.1.1 rfl) rfl rfl hl.1 rfl (lv_room (Nat.le_of_ble_eq_true rfl)) dX0_steps_3 ⟨?_, ?_⟩) hW (fun E ce q9 u_ H locs hp hW hxc1 hxc2 hxc3 => ?_) (fun r1 u1 H locs hp hW => ?_)
  · (try simp only [headSpec]); omega
  · (try simp only [headSpec]); omega
  · have hE9 : E = "java/lang/IllegalArgumentException" := by first | exact hp.1 | (rcases hp with h | h <;> exact h.1)
    subst hE9
    refine vx_catch (own := RX0) (name := "java/lang/IllegalArgumentException") hown [] ⟨0, 10, 13, 110⟩ [] (htab.trans rfl) (fun _ z => by cases z) (by decide) (by decide) (hts _ q547) (va_Nw.use rfl (hE.ca (by decide +kernel))) hxc1 hxc2 hxc3 ?_
    refine lv_astore_n (lv' := [(3, .ref q9), (0, .ref x), (1, .ref st), (2, .ref o)]) hx hb dX0_steps_13 rfl hl (by decide) rfl (fun ls hl => ?_)
    refine lv_iconst (v := 1) hx hb dX0_steps_14 (by decide) ?_
    exact g_iret (v := 1) hx hb hr hlocks hW (Or.inr ⟨_, hp, ⟨rfl, rfl⟩⟩) (by omega) (by omega) dX0_steps_15
  · refine lv_i2l (v := (r1 : Int32).toInt64) hx hb dX0_steps_6 rfl ?_
    refine g_putfN (ci := 9) (v := .long ((r1 : Int32).toInt64)) (ty := .long) (C := RX4) (T := TX4) (N := 5) hx hb hts in_X4 tyX4 tyX4_ok nmX4 hown hK hW (hko _ _ hp) rfl 0 (by decide) (nf_q466 hE) (fun _ h9 => h9) rfl (by decide +kernel) rfl rfl (Nat.le_of_ble_eq_true rfl) dX0_steps_7 (fun H locs hW => ?_)
    obtain ⟨w_1, ew_1⟩ : ∃ z__, z__ = g_put u1 o (.inr (9, [.long ((r1 : Int32).toInt64), .double (d0), va_rf (s0), va_rf (v0), va_rf (f0)])) := ⟨_, rfl⟩
    have hW := g_W.ren hW ew_1 rfl
    have h_2 : g_at w_1 o (.inr (9, [.long ((r1 : Int32).toInt64), .double (d0), va_rf (s0), va_rf (v0), va_rf (f0)])) := by rw [ew_1]; exact g_at.put_self (hko _ _ hp).1
    refine lv_goto (tgt := 16) hx hb dX0_steps_10 (by decide) ?_
    refine lv_iconst (v := 0) hx hb dX0_steps_16 (by decide) ?_
    exact g_iret (v := 0) hx hb hr hlocks hW (Or.inl ⟨r1, u1, hp, ew_1, rfl⟩) (by omega) (by omega) dX0_steps_17
set_option maxHeartbeats 4000000 in
set_option maxRecDepth 100000 in
/-- the law: edges -/
theorem mtX0_edges (l : Launch) (D : va_G) (w : g_H) (sz : Nat) (hl9 : l.stackTraces = false) (lab : Nat → Nat) (x ac rn tt : Nat) (rf : Nat → Nat) (P : List mI) (C : List yC) (A : Nat → List (List Nat)) (cov : Nat → Bool) (K Q : List (List Nat)) (F : List (List Nat × List Nat × Int32)) (cp : Nat → Nat) (hS : g_SZ D w lab x rf P C A cov K Q ac F rn tt cp) (st : Nat) (t : List Nat) (hst : g_Str D w st t) (o : Nat) (n0 : Int64) (d0 : UInt64) (s0 v0 f0 : Option Nat) (ho : g_at w o (oOut n0 d0 s0 v0 f0)) (hko : ∀ (r1 : Int32) (u1 : g_H), (fun r u => isIn t ∧ r = nI (fb_ct (bsE (fun _ => false) (mOut P (digs t)).2.2.2) 320) ∧ ∃ l2, g_SZ D u l2 x rf P C A cov K Q ac F rn tt (cpU cp 9 (bsC (cp 9) (mOut P (digs t)).2.2.2)) ∧ yCh w lab u l2) r1 u1 → g_at u1 o (oOut n0 d0 s0 v0 f0)) : Met l yX0_edges (wsW_ yX0_edges cX0_edges 4 (some .int) [(0, 10, 13, 110)]) ({ frames := 11, cells := 3 + (bsC (cp 9) (mOut P (digs t)).2.2.2 - (cp 9)), slots := 16 + 2 * (bsC (cp 9) (mOut P (digs t)).2.2.2 - (cp 9)), locals := 212 }) (g_Pc D [.ref x, .ref st, .ref o] w sz) (g_Qi D w sz (fun r u => (∃ (r1 : Int32) (u1 : g_H), (fun r u => isIn t ∧ r = nI (fb_ct (bsE (fun _ => false) (mOut P (digs t)).2.2.2) 320) ∧ ∃ l2, g_SZ D u l2 x rf P C A cov K Q ac F rn tt (cpU cp 9 (bsC (cp 9) (mOut P (digs t)).2.2.2)) ∧ yCh w lab u l2) r1 u1 ∧ u = g_put u1 o (oOut r1.toInt64 d0 s0 v0 f0) ∧ r = 0) ∨ (∃ E : String, (fun E u => E = "java/lang/IllegalArgumentException" ∧ ¬ isIn t ∧ w = u) E u ∧ ((E = "java/lang/IllegalArgumentException" ∧ r = 1))))) (3 + (bsC (cp 9) (mOut P (digs t)).2.2.2 - (cp 9))) (16 + 2 * (bsC (cp 9) (mOut P (digs t)).2.2.2 - (cp 9))) (g_A w sz) := by
  refine g_ofWH (hh := [(0, 10, 13, 110)]) (cc := cX0_edges) (maxL := 4) (ret := (some .int)) (by decide) rfl ?_
  intro p e s m args below meth c s₁ B hml hv
  obtain ⟨rfl, hI⟩ := hv
  have hx := B.exec
  have hb := B.bytes
  have hr := B.returns
  have hts := atoms_spec (ws := wsW_ yX0_edges cX0_edges 4 (some .int) [(0, 10, 13, 110)]) B.pre
  have hts : ∀ w ∈ lw_all, w.before _ s = true := fun w h => hts w (List.mem_cons_of_mem _ h)
  have hown : s.vm.findClass RX0 = some m.cls := findClass_of_methodNamed B.named
  have hlocks := B.notSynchronized
  have hsz := hI.1
  subst hsz
  have hW := g_W.start hI
  have hK := g_K hI
  have hE := g_E hI
  have hl := lv_entry ([.ref x, .ref st, .ref o]) (n := 4) (by exact Nat.le_of_ble_eq_true rfl)
  rw [lg_entry_eq]
  generalize (lg_sl ([.ref x, .ref st, .ref o]) ++ List.replicate (4 - (lg_sl ([.ref x, .ref st, .ref o])).length) Slot.unset).toArray = ls at hl ⊢
  have hl : lv_has ls 4 [(0, .ref x), (1, .ref st), (2, .ref o)] := hl
  have hEo : g_at w o (oOut n0 d0 s0 v0 f0) := ho
  have htab : c.exceptionTable.toList = tableOf [(0, 10, 13, 110)] := vx_table (x := yX0_edges) (hh := [(0, 10, 13, 110)]) B (atoms_spec (ws := wsW_ yX0_edges cX0_edges 4 (some .int) [(0, 10, 13, 110)]) B.pre _ List.mem_cons_self)
  refine lv_aload_n hx hb dX0_edges_0 rfl (lv_at hl 2 rfl) ?_
  refine lv_aload_n hx hb dX0_edges_1 rfl (lv_at hl 0 rfl) ?_
  refine lv_aload_n hx hb dX0_edges_2 rfl (lv_at hl 1 rfl) ?_
  refine g_xcalli (vx_runV (As := [.ref st]) (rest := [.ref o]) ⟨hx, hb, hml, hown, hts⟩ (mtX1_edges l hl9 D w s.heap.size lab x ac rn tt rf P C A cov K Q F cp hS st t hst) (cwV 1 hts (lw_V q1782 q1783 q1784 q34 q1785) rfl rfl rfl (by decide +kernel) ⟨Nat.le_of_ble_eq_true rfl, Nat.le_of_ble_eq_true rfl⟩) (g_preV hW hK hE hS.1.1 rfl) rfl rfl hl.1 rfl (lv_room (Nat.le_of_ble_eq_true rfl)) dX0_edges_3 ⟨?_, ?_⟩) hW (fun E ce q9 u_ H locs hp hW hxc1 hxc2 hxc3 => ?_) (fun r1 u1 H locs hp hW => ?_)
  · (try simp only [headSpec]); omega
  · (try simp only [headSpec]); omega
  · have hE9 : E = "java/lang/IllegalArgumentException" := by first | exact hp.1 | (rcases hp with h | h <;> exact h.1)
    subst hE9
    refine vx_catch (own := RX0) (name := "java/lang/IllegalArgumentException") hown [] ⟨0, 10, 13, 110⟩ [] (htab.trans rfl) (fun _ z => by cases z) (by decide) (by decide) (hts _ q547) (va_Nw.use rfl (hE.ca (by decide +kernel))) hxc1 hxc2 hxc3 ?_
    refine lv_astore_n (lv' := [(3, .ref q9), (0, .ref x), (1, .ref st), (2, .ref o)]) hx hb dX0_edges_13 rfl hl (by decide) rfl (fun ls hl => ?_)
    refine lv_iconst (v := 1) hx hb dX0_edges_14 (by decide) ?_
    exact g_iret (v := 1) hx hb hr hlocks hW (Or.inr ⟨_, hp, ⟨rfl, rfl⟩⟩) (by omega) (by omega) dX0_edges_15
  · refine lv_i2l (v := (r1 : Int32).toInt64) hx hb dX0_edges_6 rfl ?_
    refine g_putfN (ci := 9) (v := .long ((r1 : Int32).toInt64)) (ty := .long) (C := RX4) (T := TX4) (N := 5) hx hb hts in_X4 tyX4 tyX4_ok nmX4 hown hK hW (hko _ _ hp) rfl 0 (by decide) (nf_q466 hE) (fun _ h9 => h9) rfl (by decide +kernel) rfl rfl (Nat.le_of_ble_eq_true rfl) dX0_edges_7 (fun H locs hW => ?_)
    obtain ⟨w_1, ew_1⟩ : ∃ z__, z__ = g_put u1 o (.inr (9, [.long ((r1 : Int32).toInt64), .double (d0), va_rf (s0), va_rf (v0), va_rf (f0)])) := ⟨_, rfl⟩
    have hW := g_W.ren hW ew_1 rfl
    have h_2 : g_at w_1 o (.inr (9, [.long ((r1 : Int32).toInt64), .double (d0), va_rf (s0), va_rf (v0), va_rf (f0)])) := by rw [ew_1]; exact g_at.put_self (hko _ _ hp).1
    refine lv_goto (tgt := 16) hx hb dX0_edges_10 (by decide) ?_
    refine lv_iconst (v := 0) hx hb dX0_edges_16 (by decide) ?_
    exact g_iret (v := 0) hx hb hr hlocks hW (Or.inl ⟨r1, u1, hp, ew_1, rfl⟩) (by omega) (by omega) dX0_edges_17
set_option maxHeartbeats 4000000 in
set_option maxRecDepth 100000 in
/-- the law: changed -/
theorem mtX0_changed (l : Launch) (D : va_G) (w : g_H) (sz : Nat) (hl9 : l.stackTraces = false) (x k9 : Nat) (p9 d9 : Int32) (hk9 : k9 < 4) (st : Nat) (t : List Nat) (hst : g_Str D w st t) (xfs : List Value) (hx1 : g_at w x (.inr (0, xfs))) (o : Nat) (n0 : Int64) (d0 : UInt64) (s0 v0 f0 : Option Nat) (ho : g_at w o (oOut n0 d0 s0 v0 f0)) (hko : ∀ (r1 : Option Nat) (u1 : g_H), (fun r u => ((kEd p9 d9 ∧ isIn t) ∧ eFits k9 p9.toNatClampNeg d9.toNatClampNeg (digs t) = true) ∧ ∃ s9, r = some s9 ∧ s9 ∉ w.1 ∧ g_Str D u s9 (txt (eAct k9 p9.toNatClampNeg d9.toNatClampNeg (digs t))) ∧ g_ex (fun _ => False) w u) r1 u1 → g_at u1 o (oOut n0 d0 s0 v0 f0)) : Met l yX0_changed (wsW_ yX0_changed cX0_changed 7 (some .int) [(0, 14, 17, 110), (0, 14, 21, 112)]) ({ frames := 11, cells := 10, slots := 70, locals := 239 }) (g_Pc D [.ref x, .ref (D.2 1004 k9), .int (p9), .int (d9), .ref st, .ref o] w sz) (g_Qi D w sz (fun r u => (∃ (r1 : Option Nat) (u1 : g_H), (fun r u => ((kEd p9 d9 ∧ isIn t) ∧ eFits k9 p9.toNatClampNeg d9.toNatClampNeg (digs t) = true) ∧ ∃ s9, r = some s9 ∧ s9 ∉ w.1 ∧ g_Str D u s9 (txt (eAct k9 p9.toNatClampNeg d9.toNatClampNeg (digs t))) ∧ g_ex (fun _ => False) w u) r1 u1 ∧ u = g_put u1 o (oOut n0 d0 r1 v0 f0) ∧ r = 0) ∨ (∃ E : String, (fun E u => g_ex (fun _ => False) w u ∧ ((E = "java/lang/IllegalArgumentException" ∧ ¬ (kEd p9 d9 ∧ isIn t)) ∨ (E = "java/lang/IllegalStateException" ∧ (kEd p9 d9 ∧ isIn t) ∧ ¬ eFits k9 p9.toNatClampNeg d9.toNatClampNeg (digs t) = true))) E u ∧ ((E = "java/lang/IllegalArgumentException" ∧ r = 1) ∨ (E = "java/lang/IllegalStateException" ∧ r = 2))))) (10) (70) (g_A w sz) := by
  refine g_ofWH (hh := [(0, 14, 17, 110), (0, 14, 21, 112)]) (cc := cX0_changed) (maxL := 7) (ret := (some .int)) (by decide) rfl ?_
  intro p e s m args below meth c s₁ B hml hv
  obtain ⟨rfl, hI⟩ := hv
  have hx := B.exec
  have hb := B.bytes
  have hr := B.returns
  have hts := atoms_spec (ws := wsW_ yX0_changed cX0_changed 7 (some .int) [(0, 14, 17, 110), (0, 14, 21, 112)]) B.pre
  have hts : ∀ w ∈ lw_all, w.before _ s = true := fun w h => hts w (List.mem_cons_of_mem _ h)
  have hown : s.vm.findClass RX0 = some m.cls := findClass_of_methodNamed B.named
  have hlocks := B.notSynchronized
  have hsz := hI.1
  subst hsz
  have hW := g_W.start hI
  have hK := g_K hI
  have hE := g_E hI
  have hl := lv_entry ([.ref x, .ref (D.2 1004 k9), .int (p9), .int (d9), .ref st, .ref o]) (n := 7) (by exact Nat.le_of_ble_eq_true rfl)
  rw [lg_entry_eq]
  generalize (lg_sl ([.ref x, .ref (D.2 1004 k9), .int (p9), .int (d9), .ref st, .ref o]) ++ List.replicate (7 - (lg_sl ([.ref x, .ref (D.2 1004 k9), .int (p9), .int (d9), .ref st, .ref o])).length) Slot.unset).toArray = ls at hl ⊢
  have hl : lv_has ls 7 [(0, .ref x), (1, .ref (D.2 1004 k9)), (2, .int (p9)), (3, .int (d9)), (4, .ref st), (5, .ref o)] := hl
  have hEo : g_at w o (oOut n0 d0 s0 v0 f0) := ho
  have htab : c.exceptionTable.toList = tableOf [(0, 14, 17, 110), (0, 14, 21, 112)] := vx_table (x := yX0_changed) (hh := [(0, 14, 17, 110), (0, 14, 21, 112)]) B (atoms_spec (ws := wsW_ yX0_changed cX0_changed 7 (some .int) [(0, 14, 17, 110), (0, 14, 21, 112)]) B.pre _ List.mem_cons_self)
  refine lv_aload hx hb dX0_changed_0 (lv_at hl 5 rfl) ?_
  refine lv_aload_n hx hb dX0_changed_2 rfl (lv_at hl 0 rfl) ?_
  refine lv_aload_n hx hb dX0_changed_3 rfl (lv_at hl 1 rfl) ?_
  refine lv_iload_n hx hb dX0_changed_4 rfl (lv_at hl 2 rfl) ?_
  refine lv_iload_n hx hb dX0_changed_5 rfl (lv_at hl 3 rfl) ?_
  refine lv_aload hx hb dX0_changed_6 (lv_at hl 4 rfl) ?_
  refine g_xcallq (vx_runV (As := [.ref (D.2 1004 k9), .int (p9), .int (d9), .ref st]) (rest := [.ref o]) ⟨hx, hb, hml, hown, hts⟩ (mtX1_changed l hl9 D w s.heap.size x k9 p9 d9 hk9 st t hst) (cwV 4 hts (lw_V q1789 q1790 q1791 q34 q1792) rfl rfl rfl (by decide +kernel) ⟨Nat.le_of_ble_eq_true rfl, Nat.le_of_ble_eq_true rfl⟩) (g_preV hW hK hE hx1 rfl) rfl rfl hl.1 rfl (lv_room (Nat.le_of_ble_eq_true rfl)) dX0_changed_8 ⟨?_, ?_⟩) hW (fun E ce q9 u_ H locs hp hW hxc1 hxc2 hxc3 => ?_) (fun r1 u1 H locs hp hW => ?_)
  · (try simp only [headSpec]); omega
  · (try simp only [headSpec]); omega
  · have hE9 : E = "java/lang/IllegalArgumentException" ∨ E = "java/lang/IllegalStateException" := by
      rcases hp with ⟨-, ⟨h, -⟩ | ⟨h, -⟩⟩
      · exact Or.inl h
      · exact Or.inr h
    rcases hE9 with h9 | h9
    · subst h9
      refine vx_catch (own := RX0) (name := "java/lang/IllegalArgumentException") hown [] ⟨0, 14, 17, 110⟩ [⟨0, 14, 21, 112⟩] (htab.trans rfl) (fun _ z => by cases z) (by decide) (by decide) (hts _ q547) (va_Nw.use rfl (hE.ca (by decide +kernel))) hxc1 hxc2 hxc3 ?_
      refine lv_astore (lv' := [(6, .ref q9), (0, .ref x), (1, .ref (D.2 1004 k9)), (2, .int (p9)), (3, .int (d9)), (4, .ref st), (5, .ref o)]) hx hb dX0_changed_17 hl (by decide) rfl (fun ls hl => ?_)
      refine lv_iconst (v := 1) hx hb dX0_changed_19 (by decide) ?_
      exact g_iret (v := 1) hx hb hr hlocks hW (Or.inr ⟨_, hp, Or.inl ⟨rfl, rfl⟩⟩) (by omega) (by omega) dX0_changed_20
    · subst h9
      have hpass : ∀ z ∈ ([⟨0, 14, 17, 110⟩] : List ExceptionTableEntry), covers z 8 = false ∨ (z.catchType ≠ 0 ∧ ∃ nm : String, (Cond.classLink RX0 z.catchType nm).before _ s = true ∧ va_Nc "java/lang/IllegalStateException" nm s) := fun z hz => by
        simp only [List.mem_cons, List.not_mem_nil, or_false] at hz
        rcases hz with rfl
        · exact Or.inr ⟨by decide, "java/lang/IllegalArgumentException", hts _ q547, hE.nn (by decide)⟩
      refine vx_catch (own := RX0) (name := "java/lang/IllegalStateException") hown [⟨0, 14, 17, 110⟩] ⟨0, 14, 21, 112⟩ [] (htab.trans rfl) (hpass) (by decide) (by decide) (hts _ q548) (va_Nw.use rfl (hE.ca (by decide +kernel))) hxc1 hxc2 hxc3 ?_
      refine lv_astore (lv' := [(6, .ref q9), (0, .ref x), (1, .ref (D.2 1004 k9)), (2, .int (p9)), (3, .int (d9)), (4, .ref st), (5, .ref o)]) hx hb dX0_changed_21 hl (by decide) rfl (fun ls hl => ?_)
      refine lv_iconst (v := 2) hx hb dX0_changed_23 (by decide) ?_
      exact g_iret (v := 2) hx hb hr hlocks hW (Or.inr ⟨_, hp, Or.inr (⟨rfl, rfl⟩)⟩) (by omega) (by omega) dX0_changed_24
  · rcases r1 with _ | s9
    · refine g_putfN (ci := 9) (v := .null) (ty := (.object "java/lang/String")) (C := RX4) (T := TX4) (N := 5) hx hb hts in_X4 tyX4 tyX4_ok nmX4 hown hK hW (hko _ _ hp) rfl 2 (by decide) (nf_q468 hE) (fun _ h9 => h9) rfl (by decide +kernel) rfl rfl (Nat.le_of_ble_eq_true rfl) dX0_changed_11 (fun H locs hW => ?_)
      obtain ⟨w_1, ew_1⟩ : ∃ z__, z__ = g_put u1 o (.inr (9, [.long (n0), .double (d0), .null, va_rf (v0), va_rf (f0)])) := ⟨_, rfl⟩
      have hW := g_W.ren hW ew_1 rfl
      have h_2 : g_at w_1 o (.inr (9, [.long (n0), .double (d0), .null, va_rf (v0), va_rf (f0)])) := by rw [ew_1]; exact g_at.put_self (hko _ _ hp).1
      refine lv_goto (tgt := 25) hx hb dX0_changed_14 (by decide) ?_
      refine lv_iconst (v := 0) hx hb dX0_changed_25 (by decide) ?_
      exact g_iret (v := 0) hx hb hr hlocks hW (Or.inl ⟨none, u1, hp, ew_1, rfl⟩) (by omega) (by omega) dX0_changed_26
    · refine W.eq (g2 := F0 m 11 ls [.ref s9, .ref o]) rfl ?_
      refine g_putfN (ci := 9) (v := .ref s9) (ty := (.object "java/lang/String")) (C := RX4) (T := TX4) (N := 5) hx hb hts in_X4 tyX4 tyX4_ok nmX4 hown hK hW (hko _ _ hp) rfl 2 (by decide) (nf_q468 hE) (fun _ h9 => h9) rfl (by decide +kernel) rfl rfl (Nat.le_of_ble_eq_true rfl) dX0_changed_11 (fun H locs hW => ?_)
      obtain ⟨w_3, ew_3⟩ : ∃ z__, z__ = g_put u1 o (.inr (9, [.long (n0), .double (d0), .ref s9, va_rf (v0), va_rf (f0)])) := ⟨_, rfl⟩
      have hW := g_W.ren hW ew_3 rfl
      have h_4 : g_at w_3 o (.inr (9, [.long (n0), .double (d0), .ref s9, va_rf (v0), va_rf (f0)])) := by rw [ew_3]; exact g_at.put_self (hko _ _ hp).1
      refine lv_goto (tgt := 25) hx hb dX0_changed_14 (by decide) ?_
      refine lv_iconst (v := 0) hx hb dX0_changed_25 (by decide) ?_
      exact g_iret (v := 0) hx hb hr hlocks hW (Or.inl ⟨some s9, u1, hp, ew_3, rfl⟩) (by omega) (by omega) dX0_changed_26
set_option maxHeartbeats 4000000 in
set_option maxRecDepth 100000 in
/-- the law: shrunk -/
theorem mtX0_shrunk (l : Launch) (D : va_G) (w : g_H) (sz : Nat) (hl9 : l.stackTraces = false) (lab : Nat → Nat) (x ac rn tt : Nat) (rf : Nat → Nat) (P : List mI) (C : List yC) (A : Nat → List (List Nat)) (cov : Nat → Bool) (K Q : List (List Nat)) (F : List (List Nat × List Nat × Int32)) (cp : Nat → Nat) (hS : g_SZ D w lab x rf P C A cov K Q ac F rn tt cp) (st : Nat) (t : List Nat) (hst : g_Str D w st t) (o : Nat) (n0 : Int64) (d0 : UInt64) (s0 v0 f0 : Option Nat) (ho : g_at w o (oOut n0 d0 s0 v0 f0)) (hko : ∀ (r1 : Option Nat) (u1 : g_H), (fun r u => (isIn t ∧ (mOut P (digs t)).1 = 1) ∧ ∃ s9 l2, r = some s9 ∧ s9 ∉ w.1 ∧ g_Str D u s9 (txt (sShr P (mCode P (digs t)) (sMs (digs t) + 1) (digs t) (bsC (cp 9) (mOut P (digs t)).2.2.2)).1) ∧ g_SZ D u l2 x rf P C A cov K Q ac F rn tt (cpU (cpU cp 9 (bsC (cp 9) (mOut P (digs t)).2.2.2)) 9 (sShr P (mCode P (digs t)) (sMs (digs t) + 1) (digs t) (bsC (cp 9) (mOut P (digs t)).2.2.2)).2) ∧ yCh w lab u l2) r1 u1 → g_at u1 o (oOut n0 d0 s0 v0 f0)) : Met l yX0_shrunk (wsW_ yX0_shrunk cX0_shrunk 4 (some .int) [(0, 9, 12, 110), (0, 9, 15, 112)]) ({ frames := 12, cells := 12 + ((sShr P (mCode P (digs t)) (sMs (digs t) + 1) (digs t) (bsC (cp 9) (mOut P (digs t)).2.2.2)).2 - cp 9), slots := 74 + 2 * ((sShr P (mCode P (digs t)) (sMs (digs t) + 1) (digs t) (bsC (cp 9) (mOut P (digs t)).2.2.2)).2 - cp 9), locals := 284 }) (g_Pc D [.ref x, .ref st, .ref o] w sz) (g_Qi D w sz (fun r u => (∃ (r1 : Option Nat) (u1 : g_H), (fun r u => (isIn t ∧ (mOut P (digs t)).1 = 1) ∧ ∃ s9 l2, r = some s9 ∧ s9 ∉ w.1 ∧ g_Str D u s9 (txt (sShr P (mCode P (digs t)) (sMs (digs t) + 1) (digs t) (bsC (cp 9) (mOut P (digs t)).2.2.2)).1) ∧ g_SZ D u l2 x rf P C A cov K Q ac F rn tt (cpU (cpU cp 9 (bsC (cp 9) (mOut P (digs t)).2.2.2)) 9 (sShr P (mCode P (digs t)) (sMs (digs t) + 1) (digs t) (bsC (cp 9) (mOut P (digs t)).2.2.2)).2) ∧ yCh w lab u l2) r1 u1 ∧ u = g_put u1 o (oOut n0 d0 r1 v0 f0) ∧ r = 0) ∨ (∃ E : String, (fun E u => (E = "java/lang/IllegalArgumentException" ∧ ¬ isIn t ∧ w = u) ∨ (E = "java/lang/IllegalStateException" ∧ isIn t ∧ (mOut P (digs t)).1 ≠ 1 ∧ ∃ l2, g_SZ D u l2 x rf P C A cov K Q ac F rn tt (cpU cp 9 (bsC (cp 9) (mOut P (digs t)).2.2.2)) ∧ yCh w lab u l2)) E u ∧ ((E = "java/lang/IllegalArgumentException" ∧ r = 1) ∨ (E = "java/lang/IllegalStateException" ∧ r = 2))))) (12 + ((sShr P (mCode P (digs t)) (sMs (digs t) + 1) (digs t) (bsC (cp 9) (mOut P (digs t)).2.2.2)).2 - cp 9)) (74 + 2 * ((sShr P (mCode P (digs t)) (sMs (digs t) + 1) (digs t) (bsC (cp 9) (mOut P (digs t)).2.2.2)).2 - cp 9)) (g_A w sz) := by
  refine g_ofWH (hh := [(0, 9, 12, 110), (0, 9, 15, 112)]) (cc := cX0_shrunk) (maxL := 4) (ret := (some .int)) (by decide) rfl ?_
  intro p e s m args below meth c s₁ B hml hv
  obtain ⟨rfl, hI⟩ := hv
  have hx := B.exec
  have hb := B.bytes
  have hr := B.returns
  have hts := atoms_spec (ws := wsW_ yX0_shrunk cX0_shrunk 4 (some .int) [(0, 9, 12, 110), (0, 9, 15, 112)]) B.pre
  have hts : ∀ w ∈ lw_all, w.before _ s = true := fun w h => hts w (List.mem_cons_of_mem _ h)
  have hown : s.vm.findClass RX0 = some m.cls := findClass_of_methodNamed B.named
  have hlocks := B.notSynchronized
  have hsz := hI.1
  subst hsz
  have hW := g_W.start hI
  have hK := g_K hI
  have hE := g_E hI
  have hl := lv_entry ([.ref x, .ref st, .ref o]) (n := 4) (by exact Nat.le_of_ble_eq_true rfl)
  rw [lg_entry_eq]
  generalize (lg_sl ([.ref x, .ref st, .ref o]) ++ List.replicate (4 - (lg_sl ([.ref x, .ref st, .ref o])).length) Slot.unset).toArray = ls at hl ⊢
  have hl : lv_has ls 4 [(0, .ref x), (1, .ref st), (2, .ref o)] := hl
  have hEo : g_at w o (oOut n0 d0 s0 v0 f0) := ho
  have htab : c.exceptionTable.toList = tableOf [(0, 9, 12, 110), (0, 9, 15, 112)] := vx_table (x := yX0_shrunk) (hh := [(0, 9, 12, 110), (0, 9, 15, 112)]) B (atoms_spec (ws := wsW_ yX0_shrunk cX0_shrunk 4 (some .int) [(0, 9, 12, 110), (0, 9, 15, 112)]) B.pre _ List.mem_cons_self)
  refine lv_aload_n hx hb dX0_shrunk_0 rfl (lv_at hl 2 rfl) ?_
  refine lv_aload_n hx hb dX0_shrunk_1 rfl (lv_at hl 0 rfl) ?_
  refine lv_aload_n hx hb dX0_shrunk_2 rfl (lv_at hl 1 rfl) ?_
  refine g_xcallq (vx_runV (As := [.ref st]) (rest := [.ref o]) ⟨hx, hb, hml, hown, hts⟩ (mtX1_shrunk l hl9 D w s.heap.size lab x ac rn tt rf P C A cov K Q F cp hS st t hst) (cwV 1 hts (lw_V q1796 q1797 q1798 q34 q1799) rfl rfl rfl (by decide +kernel) ⟨Nat.le_of_ble_eq_true rfl, Nat.le_of_ble_eq_true rfl⟩) (g_preV hW hK hE hS.1.1 rfl) rfl rfl hl.1 rfl (lv_room (Nat.le_of_ble_eq_true rfl)) dX0_shrunk_3 ⟨?_, ?_⟩) hW (fun E ce q9 u_ H locs hp hW hxc1 hxc2 hxc3 => ?_) (fun r1 u1 H locs hp hW => ?_)
  · (try simp only [headSpec]); omega
  · (try simp only [headSpec]); omega
  · have hE9 : E = "java/lang/IllegalArgumentException" ∨ E = "java/lang/IllegalStateException" := by
      rcases hp with ⟨h, -⟩ | ⟨h, -⟩
      · exact Or.inl h
      · exact Or.inr h
    rcases hE9 with h9 | h9
    · subst h9
      refine vx_catch (own := RX0) (name := "java/lang/IllegalArgumentException") hown [] ⟨0, 9, 12, 110⟩ [⟨0, 9, 15, 112⟩] (htab.trans rfl) (fun _ z => by cases z) (by decide) (by decide) (hts _ q547) (va_Nw.use rfl (hE.ca (by decide +kernel))) hxc1 hxc2 hxc3 ?_
      refine lv_astore_n (lv' := [(3, .ref q9), (0, .ref x), (1, .ref st), (2, .ref o)]) hx hb dX0_shrunk_12 rfl hl (by decide) rfl (fun ls hl => ?_)
      refine lv_iconst (v := 1) hx hb dX0_shrunk_13 (by decide) ?_
      exact g_iret (v := 1) hx hb hr hlocks hW (Or.inr ⟨_, hp, Or.inl ⟨rfl, rfl⟩⟩) (by omega) (by omega) dX0_shrunk_14
    · subst h9
      have hpass : ∀ z ∈ ([⟨0, 9, 12, 110⟩] : List ExceptionTableEntry), covers z 3 = false ∨ (z.catchType ≠ 0 ∧ ∃ nm : String, (Cond.classLink RX0 z.catchType nm).before _ s = true ∧ va_Nc "java/lang/IllegalStateException" nm s) := fun z hz => by
        simp only [List.mem_cons, List.not_mem_nil, or_false] at hz
        rcases hz with rfl
        · exact Or.inr ⟨by decide, "java/lang/IllegalArgumentException", hts _ q547, hE.nn (by decide)⟩
      refine vx_catch (own := RX0) (name := "java/lang/IllegalStateException") hown [⟨0, 9, 12, 110⟩] ⟨0, 9, 15, 112⟩ [] (htab.trans rfl) (hpass) (by decide) (by decide) (hts _ q548) (va_Nw.use rfl (hE.ca (by decide +kernel))) hxc1 hxc2 hxc3 ?_
      refine lv_astore_n (lv' := [(3, .ref q9), (0, .ref x), (1, .ref st), (2, .ref o)]) hx hb dX0_shrunk_15 rfl hl (by decide) rfl (fun ls hl => ?_)
      refine lv_iconst (v := 2) hx hb dX0_shrunk_16 (by decide) ?_
      exact g_iret (v := 2) hx hb hr hlocks hW (Or.inr ⟨_, hp, Or.inr (⟨rfl, rfl⟩)⟩) (by omega) (by omega) dX0_shrunk_17
  · rcases r1 with _ | s9
    · refine g_putfN (ci := 9) (v := .null) (ty := (.object "java/lang/String")) (C := RX4) (T := TX4) (N := 5) hx hb hts in_X4 tyX4 tyX4_ok nmX4 hown hK hW (hko _ _ hp) rfl 2 (by decide) (nf_q468 hE) (fun _ h9 => h9) rfl (by decide +kernel) rfl rfl (Nat.le_of_ble_eq_true rfl) dX0_shrunk_6 (fun H locs hW => ?_)
      obtain ⟨w_1, ew_1⟩ : ∃ z__, z__ = g_put u1 o (.inr (9, [.long (n0), .double (d0), .null, va_rf (v0), va_rf (f0)])) := ⟨_, rfl⟩
      have hW := g_W.ren hW ew_1 rfl
      have h_2 : g_at w_1 o (.inr (9, [.long (n0), .double (d0), .null, va_rf (v0), va_rf (f0)])) := by rw [ew_1]; exact g_at.put_self (hko _ _ hp).1
      refine lv_goto (tgt := 18) hx hb dX0_shrunk_9 (by decide) ?_
      refine lv_iconst (v := 0) hx hb dX0_shrunk_18 (by decide) ?_
      exact g_iret (v := 0) hx hb hr hlocks hW (Or.inl ⟨none, u1, hp, ew_1, rfl⟩) (by omega) (by omega) dX0_shrunk_19
    · refine W.eq (g2 := F0 m 6 ls [.ref s9, .ref o]) rfl ?_
      refine g_putfN (ci := 9) (v := .ref s9) (ty := (.object "java/lang/String")) (C := RX4) (T := TX4) (N := 5) hx hb hts in_X4 tyX4 tyX4_ok nmX4 hown hK hW (hko _ _ hp) rfl 2 (by decide) (nf_q468 hE) (fun _ h9 => h9) rfl (by decide +kernel) rfl rfl (Nat.le_of_ble_eq_true rfl) dX0_shrunk_6 (fun H locs hW => ?_)
      obtain ⟨w_3, ew_3⟩ : ∃ z__, z__ = g_put u1 o (.inr (9, [.long (n0), .double (d0), .ref s9, va_rf (v0), va_rf (f0)])) := ⟨_, rfl⟩
      have hW := g_W.ren hW ew_3 rfl
      have h_4 : g_at w_3 o (.inr (9, [.long (n0), .double (d0), .ref s9, va_rf (v0), va_rf (f0)])) := by rw [ew_3]; exact g_at.put_self (hko _ _ hp).1
      refine lv_goto (tgt := 18) hx hb dX0_shrunk_9 (by decide) ?_
      refine lv_iconst (v := 0) hx hb dX0_shrunk_18 (by decide) ?_
      exact g_iret (v := 0) hx hb hr hlocks hW (Or.inl ⟨some s9, u1, hp, ew_3, rfl⟩) (by omega) (by omega) dX0_shrunk_19
set_option maxHeartbeats 4000000 in
set_option maxRecDepth 100000 in
/-- the law: failingReductions -/
theorem mtX0_failingReductions (l : Launch) (D : va_G) (w : g_H) (sz : Nat) (hl9 : l.stackTraces = false) (lab : Nat → Nat) (x ac rn tt : Nat) (rf : Nat → Nat) (P : List mI) (C : List yC) (A9 : Nat → List (List Nat)) (cov : Nat → Bool) (K Q9 : List (List Nat)) (F : List (List Nat × List Nat × Int32)) (cp : Nat → Nat) (hS : g_SZ D w lab x rf P C A9 cov K Q9 ac F rn tt cp) (st : Nat) (t : List Nat) (hst : g_Str D w st t) (o : Nat) (n0 : Int64) (d0 : UInt64) (s0 v0 f0 : Option Nat) (ho : g_at w o (oOut n0 d0 s0 v0 f0)) (hko : ∀ (r1 : Int32) (u1 : g_H), (fun r u => (isIn t ∧ (mOut P (digs t)).1 = 1) ∧ r = nI (cFail P (mCode P (digs t)) (frC (digs t) 0)) ∧ ∃ l2, g_SZ D u l2 x rf P C A9 cov K Q9 ac F rn tt (cpU cp 9 (rFold P (frC (digs t) 0) (bsC (cp 9) (mOut P (digs t)).2.2.2))) ∧ yCh w lab u l2) r1 u1 → g_at u1 o (oOut n0 d0 s0 v0 f0)) : Met l yX0_failingReductions (wsW_ yX0_failingReductions cX0_failingReductions 4 (some .int) [(0, 10, 13, 110), (0, 10, 16, 112)]) ({ frames := 12, cells := 6 + ((rFold P (frC (digs t) 0) (bsC (cp 9) (mOut P (digs t)).2.2.2)) - cp 9), slots := 32 + 2 * ((rFold P (frC (digs t) 0) (bsC (cp 9) (mOut P (digs t)).2.2.2)) - cp 9), locals := 240 }) (g_Pc D [.ref x, .ref st, .ref o] w sz) (g_Qi D w sz (fun r u => (∃ (r1 : Int32) (u1 : g_H), (fun r u => (isIn t ∧ (mOut P (digs t)).1 = 1) ∧ r = nI (cFail P (mCode P (digs t)) (frC (digs t) 0)) ∧ ∃ l2, g_SZ D u l2 x rf P C A9 cov K Q9 ac F rn tt (cpU cp 9 (rFold P (frC (digs t) 0) (bsC (cp 9) (mOut P (digs t)).2.2.2))) ∧ yCh w lab u l2) r1 u1 ∧ u = g_put u1 o (oOut r1.toInt64 d0 s0 v0 f0) ∧ r = 0) ∨ (∃ E : String, (fun E u => (E = "java/lang/IllegalArgumentException" ∧ ¬ isIn t ∧ w = u) ∨ (E = "java/lang/IllegalStateException" ∧ isIn t ∧ (mOut P (digs t)).1 ≠ 1 ∧ ∃ l2, g_SZ D u l2 x rf P C A9 cov K Q9 ac F rn tt (cpU cp 9 (bsC (cp 9) (mOut P (digs t)).2.2.2)) ∧ yCh w lab u l2)) E u ∧ ((E = "java/lang/IllegalArgumentException" ∧ r = 1) ∨ (E = "java/lang/IllegalStateException" ∧ r = 2))))) (6 + ((rFold P (frC (digs t) 0) (bsC (cp 9) (mOut P (digs t)).2.2.2)) - cp 9)) (32 + 2 * ((rFold P (frC (digs t) 0) (bsC (cp 9) (mOut P (digs t)).2.2.2)) - cp 9)) (g_A w sz) := by
  refine g_ofWH (hh := [(0, 10, 13, 110), (0, 10, 16, 112)]) (cc := cX0_failingReductions) (maxL := 4) (ret := (some .int)) (by decide) rfl ?_
  intro p e s m args below meth c s₁ B hml hv
  obtain ⟨rfl, hI⟩ := hv
  have hx := B.exec
  have hb := B.bytes
  have hr := B.returns
  have hts := atoms_spec (ws := wsW_ yX0_failingReductions cX0_failingReductions 4 (some .int) [(0, 10, 13, 110), (0, 10, 16, 112)]) B.pre
  have hts : ∀ w ∈ lw_all, w.before _ s = true := fun w h => hts w (List.mem_cons_of_mem _ h)
  have hown : s.vm.findClass RX0 = some m.cls := findClass_of_methodNamed B.named
  have hlocks := B.notSynchronized
  have hsz := hI.1
  subst hsz
  have hW := g_W.start hI
  have hK := g_K hI
  have hE := g_E hI
  have hl := lv_entry ([.ref x, .ref st, .ref o]) (n := 4) (by exact Nat.le_of_ble_eq_true rfl)
  rw [lg_entry_eq]
  generalize (lg_sl ([.ref x, .ref st, .ref o]) ++ List.replicate (4 - (lg_sl ([.ref x, .ref st, .ref o])).length) Slot.unset).toArray = ls at hl ⊢
  have hl : lv_has ls 4 [(0, .ref x), (1, .ref st), (2, .ref o)] := hl
  have hEo : g_at w o (oOut n0 d0 s0 v0 f0) := ho
  have htab : c.exceptionTable.toList = tableOf [(0, 10, 13, 110), (0, 10, 16, 112)] := vx_table (x := yX0_failingReductions) (hh := [(0, 10, 13, 110), (0, 10, 16, 112)]) B (atoms_spec (ws := wsW_ yX0_failingReductions cX0_failingReductions 4 (some .int) [(0, 10, 13, 110), (0, 10, 16, 112)]) B.pre _ List.mem_cons_self)
  refine lv_aload_n hx hb dX0_failingReductions_0 rfl (lv_at hl 2 rfl) ?_
  refine lv_aload_n hx hb dX0_failingReductions_1 rfl (lv_at hl 0 rfl) ?_
  refine lv_aload_n hx hb dX0_failingReductions_2 rfl (lv_at hl 1 rfl) ?_
  refine g_xcalli (vx_runV (As := [.ref st]) (rest := [.ref o]) ⟨hx, hb, hml, hown, hts⟩ (mtX1_failingReductions l hl9 D w s.heap.size lab x ac rn tt rf P C A9 cov K Q9 F cp hS st t hst) (cwV 1 hts (lw_V q1803 q1804 q1805 q34 q1806) rfl rfl rfl (by decide +kernel) ⟨Nat.le_of_ble_eq_true rfl, Nat.le_of_ble_eq_true rfl⟩) (g_preV hW hK hE hS.1.1 rfl) rfl rfl hl.1 rfl (lv_room (Nat.le_of_ble_eq_true rfl)) dX0_failingReductions_3 ⟨?_, ?_⟩) hW (fun E ce q9 u_ H locs hp hW hxc1 hxc2 hxc3 => ?_) (fun r1 u1 H locs hp hW => ?_)
  · (try simp only [headSpec]); omega
  · (try simp only [headSpec]); omega
  · have hE9 : E = "java/lang/IllegalArgumentException" ∨ E = "java/lang/IllegalStateException" := by
      rcases hp with ⟨h, -⟩ | ⟨h, -⟩
      · exact Or.inl h
      · exact Or.inr h
    rcases hE9 with h9 | h9
    · subst h9
      refine vx_catch (own := RX0) (name := "java/lang/IllegalArgumentException") hown [] ⟨0, 10, 13, 110⟩ [⟨0, 10, 16, 112⟩] (htab.trans rfl) (fun _ z => by cases z) (by decide) (by decide) (hts _ q547) (va_Nw.use rfl (hE.ca (by decide +kernel))) hxc1 hxc2 hxc3 ?_
      refine lv_astore_n (lv' := [(3, .ref q9), (0, .ref x), (1, .ref st), (2, .ref o)]) hx hb dX0_failingReductions_13 rfl hl (by decide) rfl (fun ls hl => ?_)
      refine lv_iconst (v := 1) hx hb dX0_failingReductions_14 (by decide) ?_
      exact g_iret (v := 1) hx hb hr hlocks hW (Or.inr ⟨_, hp, Or.inl ⟨rfl, rfl⟩⟩) (by omega) (by omega) dX0_failingReductions_15
    · subst h9
      have hpass : ∀ z ∈ ([⟨0, 10, 13, 110⟩] : List ExceptionTableEntry), covers z 3 = false ∨ (z.catchType ≠ 0 ∧ ∃ nm : String, (Cond.classLink RX0 z.catchType nm).before _ s = true ∧ va_Nc "java/lang/IllegalStateException" nm s) := fun z hz => by
        simp only [List.mem_cons, List.not_mem_nil, or_false] at hz
        rcases hz with rfl
        · exact Or.inr ⟨by decide, "java/lang/IllegalArgumentException", hts _ q547, hE.nn (by decide)⟩
      refine vx_catch (own := RX0) (name := "java/lang/IllegalStateException") hown [⟨0, 10, 13, 110⟩] ⟨0, 10, 16, 112⟩ [] (htab.trans rfl) (hpass) (by decide) (by decide) (hts _ q548) (va_Nw.use rfl (hE.ca (by decide +kernel))) hxc1 hxc2 hxc3 ?_
      refine lv_astore_n (lv' := [(3, .ref q9), (0, .ref x), (1, .ref st), (2, .ref o)]) hx hb dX0_failingReductions_16 rfl hl (by decide) rfl (fun ls hl => ?_)
      refine lv_iconst (v := 2) hx hb dX0_failingReductions_17 (by decide) ?_
      exact g_iret (v := 2) hx hb hr hlocks hW (Or.inr ⟨_, hp, Or.inr (⟨rfl, rfl⟩)⟩) (by omega) (by omega) dX0_failingReductions_18
  · refine lv_i2l (v := (r1 : Int32).toInt64) hx hb dX0_failingReductions_6 rfl ?_
    refine g_putfN (ci := 9) (v := .long ((r1 : Int32).toInt64)) (ty := .long) (C := RX4) (T := TX4) (N := 5) hx hb hts in_X4 tyX4 tyX4_ok nmX4 hown hK hW (hko _ _ hp) rfl 0 (by decide) (nf_q466 hE) (fun _ h9 => h9) rfl (by decide +kernel) rfl rfl (Nat.le_of_ble_eq_true rfl) dX0_failingReductions_7 (fun H locs hW => ?_)
    obtain ⟨w_1, ew_1⟩ : ∃ z__, z__ = g_put u1 o (.inr (9, [.long ((r1 : Int32).toInt64), .double (d0), va_rf (s0), va_rf (v0), va_rf (f0)])) := ⟨_, rfl⟩
    have hW := g_W.ren hW ew_1 rfl
    have h_2 : g_at w_1 o (.inr (9, [.long ((r1 : Int32).toInt64), .double (d0), va_rf (s0), va_rf (v0), va_rf (f0)])) := by rw [ew_1]; exact g_at.put_self (hko _ _ hp).1
    refine lv_goto (tgt := 19) hx hb dX0_failingReductions_10 (by decide) ?_
    refine lv_iconst (v := 0) hx hb dX0_failingReductions_19 (by decide) ?_
    exact g_iret (v := 0) hx hb hr hlocks hW (Or.inl ⟨r1, u1, hp, ew_1, rfl⟩) (by omega) (by omega) dX0_failingReductions_20
set_option maxHeartbeats 4000000 in
set_option maxRecDepth 100000 in
/-- the law: smallest -/
theorem mtX0_smallest (l : Launch) (D : va_G) (w : g_H) (sz : Nat) (hl9 : l.stackTraces = false) (lab : Nat → Nat) (x ac rn tt : Nat) (rf : Nat → Nat) (P : List mI) (C : List yC) (A9 : Nat → List (List Nat)) (cov : Nat → Bool) (K Q9 : List (List Nat)) (F : List (List Nat × List Nat × Int32)) (cp : Nat → Nat) (hS : g_SZ D w lab x rf P C A9 cov K Q9 ac F rn tt cp) (c9 n9 : Int32) (o : Nat) (n0 : Int64) (d0 : UInt64) (s0 v0 f0 : Option Nat) (ho : g_at w o (oOut n0 d0 s0 v0 f0)) (hko : ∀ (r1 : Option Nat) (u1 : g_H), (fun r u => (0 ≤ n9 ∧ n9 ≤ 3) ∧ ∃ zs s9 l2, (sFind P c9 (octs 0 n9.toNatClampNeg) (cp 9)).1 = some zs ∧ r = some s9 ∧ s9 ∉ w.1 ∧ g_Str D u s9 (txt zs) ∧ g_SZ D u l2 x rf P C A9 cov K Q9 ac F rn tt (cpU cp 9 (sFind P c9 (octs 0 n9.toNatClampNeg) (cp 9)).2) ∧ yCh w lab u l2) r1 u1 → g_at u1 o (oOut n0 d0 s0 v0 f0)) : Met l yX0_smallest (wsW_ yX0_smallest cX0_smallest 5 (some .int) [(0, 10, 13, 110), (0, 10, 17, 130)]) ({ frames := 11, cells := 8 + ((sFind P c9 (octs 0 n9.toNatClampNeg) (cp 9)).2 - cp 9), slots := 56 + 2 * ((sFind P c9 (octs 0 n9.toNatClampNeg) (cp 9)).2 - cp 9), locals := 237 }) (g_Pc D [.ref x, .int (c9), .int (n9), .ref o] w sz) (g_Qi D w sz (fun r u => (∃ (r1 : Option Nat) (u1 : g_H), (fun r u => (0 ≤ n9 ∧ n9 ≤ 3) ∧ ∃ zs s9 l2, (sFind P c9 (octs 0 n9.toNatClampNeg) (cp 9)).1 = some zs ∧ r = some s9 ∧ s9 ∉ w.1 ∧ g_Str D u s9 (txt zs) ∧ g_SZ D u l2 x rf P C A9 cov K Q9 ac F rn tt (cpU cp 9 (sFind P c9 (octs 0 n9.toNatClampNeg) (cp 9)).2) ∧ yCh w lab u l2) r1 u1 ∧ u = g_put u1 o (oOut n0 d0 r1 v0 f0) ∧ r = 0) ∨ (∃ E : String, (fun E u => (E = "java/lang/IllegalArgumentException" ∧ ¬ (0 ≤ n9 ∧ n9 ≤ 3) ∧ w = u) ∨ (E = "java/util/NoSuchElementException" ∧ (0 ≤ n9 ∧ n9 ≤ 3) ∧ (sFind P c9 (octs 0 n9.toNatClampNeg) (cp 9)).1 = none ∧ ∃ l2, g_SZ D u l2 x rf P C A9 cov K Q9 ac F rn tt (cpU cp 9 (sFind P c9 (octs 0 n9.toNatClampNeg) (cp 9)).2) ∧ yCh w lab u l2)) E u ∧ ((E = "java/lang/IllegalArgumentException" ∧ r = 1) ∨ (E = "java/util/NoSuchElementException" ∧ r = 2))))) (8 + ((sFind P c9 (octs 0 n9.toNatClampNeg) (cp 9)).2 - cp 9)) (56 + 2 * ((sFind P c9 (octs 0 n9.toNatClampNeg) (cp 9)).2 - cp 9)) (g_A w sz) := by
  refine g_ofWH (hh := [(0, 10, 13, 110), (0, 10, 17, 130)]) (cc := cX0_smallest) (maxL := 5) (ret := (some .int)) (by decide) rfl ?_
  intro p e s m args below meth c s₁ B hml hv
  obtain ⟨rfl, hI⟩ := hv
  have hx := B.exec
  have hb := B.bytes
  have hr := B.returns
  have hts := atoms_spec (ws := wsW_ yX0_smallest cX0_smallest 5 (some .int) [(0, 10, 13, 110), (0, 10, 17, 130)]) B.pre
  have hts : ∀ w ∈ lw_all, w.before _ s = true := fun w h => hts w (List.mem_cons_of_mem _ h)
  have hown : s.vm.findClass RX0 = some m.cls := findClass_of_methodNamed B.named
  have hlocks := B.notSynchronized
  have hsz := hI.1
  subst hsz
  have hW := g_W.start hI
  have hK := g_K hI
  have hE := g_E hI
  have hl := lv_entry ([.ref x, .int (c9), .int (n9), .ref o]) (n := 5) (by exact Nat.le_of_ble_eq_true rfl)
  rw [lg_entry_eq]
  generalize (lg_sl ([.ref x, .int (c9), .int (n9), .ref o]) ++ List.replicate (5 - (lg_sl ([.ref x, .int (c9), .int (n9), .ref o])).length) Slot.unset).toArray = ls at hl ⊢
  have hl : lv_has ls 5 [(0, .ref x), (1, .int (c9)), (2, .int (n9)), (3, .ref o)] := hl
  have hEo : g_at w o (oOut n0 d0 s0 v0 f0) := ho
  have htab : c.exceptionTable.toList = tableOf [(0, 10, 13, 110), (0, 10, 17, 130)] := vx_table (x := yX0_smallest) (hh := [(0, 10, 13, 110), (0, 10, 17, 130)]) B (atoms_spec (ws := wsW_ yX0_smallest cX0_smallest 5 (some .int) [(0, 10, 13, 110), (0, 10, 17, 130)]) B.pre _ List.mem_cons_self)
  refine lv_aload_n hx hb dX0_smallest_0 rfl (lv_at hl 3 rfl) ?_
  refine lv_aload_n hx hb dX0_smallest_1 rfl (lv_at hl 0 rfl) ?_
  refine lv_iload_n hx hb dX0_smallest_2 rfl (lv_at hl 1 rfl) ?_
  refine lv_iload_n hx hb dX0_smallest_3 rfl (lv_at hl 2 rfl) ?_
  refine g_xcallq (vx_runV (As := [.int (c9), .int (n9)]) (rest := [.ref o]) ⟨hx, hb, hml, hown, hts⟩ (mtX1_smallest l hl9 D w s.heap.size lab x ac rn tt rf P C A9 cov K Q9 F cp hS c9 n9) (cwV 2 hts (lw_V q1810 q1811 q1812 q34 q1813) rfl rfl rfl (by decide +kernel) ⟨Nat.le_of_ble_eq_true rfl, Nat.le_of_ble_eq_true rfl⟩) (g_preV hW hK hE hS.1.1 rfl) rfl rfl hl.1 rfl (lv_room (Nat.le_of_ble_eq_true rfl)) dX0_smallest_4 ⟨?_, ?_⟩) hW (fun E ce q9 u_ H locs hp hW hxc1 hxc2 hxc3 => ?_) (fun r1 u1 H locs hp hW => ?_)
  · (try simp only [headSpec]); omega
  · (try simp only [headSpec]); omega
  · have hE9 : E = "java/lang/IllegalArgumentException" ∨ E = "java/util/NoSuchElementException" := by
      rcases hp with ⟨h, -⟩ | ⟨h, -⟩
      · exact Or.inl h
      · exact Or.inr h
    rcases hE9 with h9 | h9
    · subst h9
      refine vx_catch (own := RX0) (name := "java/lang/IllegalArgumentException") hown [] ⟨0, 10, 13, 110⟩ [⟨0, 10, 17, 130⟩] (htab.trans rfl) (fun _ z => by cases z) (by decide) (by decide) (hts _ q547) (va_Nw.use rfl (hE.ca (by decide +kernel))) hxc1 hxc2 hxc3 ?_
      refine lv_astore (lv' := [(4, .ref q9), (0, .ref x), (1, .int (c9)), (2, .int (n9)), (3, .ref o)]) hx hb dX0_smallest_13 hl (by decide) rfl (fun ls hl => ?_)
      refine lv_iconst (v := 1) hx hb dX0_smallest_15 (by decide) ?_
      exact g_iret (v := 1) hx hb hr hlocks hW (Or.inr ⟨_, hp, Or.inl ⟨rfl, rfl⟩⟩) (by omega) (by omega) dX0_smallest_16
    · subst h9
      have hpass : ∀ z ∈ ([⟨0, 10, 13, 110⟩] : List ExceptionTableEntry), covers z 4 = false ∨ (z.catchType ≠ 0 ∧ ∃ nm : String, (Cond.classLink RX0 z.catchType nm).before _ s = true ∧ va_Nc "java/util/NoSuchElementException" nm s) := fun z hz => by
        simp only [List.mem_cons, List.not_mem_nil, or_false] at hz
        rcases hz with rfl
        · exact Or.inr ⟨by decide, "java/lang/IllegalArgumentException", hts _ q547, hE.nn (by decide)⟩
      refine vx_catch (own := RX0) (name := "java/util/NoSuchElementException") hown [⟨0, 10, 13, 110⟩] ⟨0, 10, 17, 130⟩ [] (htab.trans rfl) (hpass) (by decide) (by decide) (hts _ q1063) (va_Nw.use rfl (hE.ca (by decide +kernel))) hxc1 hxc2 hxc3 ?_
      refine lv_astore (lv' := [(4, .ref q9), (0, .ref x), (1, .int (c9)), (2, .int (n9)), (3, .ref o)]) hx hb dX0_smallest_17 hl (by decide) rfl (fun ls hl => ?_)
      refine lv_iconst (v := 2) hx hb dX0_smallest_19 (by decide) ?_
      exact g_iret (v := 2) hx hb hr hlocks hW (Or.inr ⟨_, hp, Or.inr (⟨rfl, rfl⟩)⟩) (by omega) (by omega) dX0_smallest_20
  · rcases r1 with _ | s9
    · refine g_putfN (ci := 9) (v := .null) (ty := (.object "java/lang/String")) (C := RX4) (T := TX4) (N := 5) hx hb hts in_X4 tyX4 tyX4_ok nmX4 hown hK hW (hko _ _ hp) rfl 2 (by decide) (nf_q468 hE) (fun _ h9 => h9) rfl (by decide +kernel) rfl rfl (Nat.le_of_ble_eq_true rfl) dX0_smallest_7 (fun H locs hW => ?_)
      obtain ⟨w_1, ew_1⟩ : ∃ z__, z__ = g_put u1 o (.inr (9, [.long (n0), .double (d0), .null, va_rf (v0), va_rf (f0)])) := ⟨_, rfl⟩
      have hW := g_W.ren hW ew_1 rfl
      have h_2 : g_at w_1 o (.inr (9, [.long (n0), .double (d0), .null, va_rf (v0), va_rf (f0)])) := by rw [ew_1]; exact g_at.put_self (hko _ _ hp).1
      refine lv_goto (tgt := 21) hx hb dX0_smallest_10 (by decide) ?_
      refine lv_iconst (v := 0) hx hb dX0_smallest_21 (by decide) ?_
      exact g_iret (v := 0) hx hb hr hlocks hW (Or.inl ⟨none, u1, hp, ew_1, rfl⟩) (by omega) (by omega) dX0_smallest_22
    · refine W.eq (g2 := F0 m 7 ls [.ref s9, .ref o]) rfl ?_
      refine g_putfN (ci := 9) (v := .ref s9) (ty := (.object "java/lang/String")) (C := RX4) (T := TX4) (N := 5) hx hb hts in_X4 tyX4 tyX4_ok nmX4 hown hK hW (hko _ _ hp) rfl 2 (by decide) (nf_q468 hE) (fun _ h9 => h9) rfl (by decide +kernel) rfl rfl (Nat.le_of_ble_eq_true rfl) dX0_smallest_7 (fun H locs hW => ?_)
      obtain ⟨w_3, ew_3⟩ : ∃ z__, z__ = g_put u1 o (.inr (9, [.long (n0), .double (d0), .ref s9, va_rf (v0), va_rf (f0)])) := ⟨_, rfl⟩
      have hW := g_W.ren hW ew_3 rfl
      have h_4 : g_at w_3 o (.inr (9, [.long (n0), .double (d0), .ref s9, va_rf (v0), va_rf (f0)])) := by rw [ew_3]; exact g_at.put_self (hko _ _ hp).1
      refine lv_goto (tgt := 21) hx hb dX0_smallest_10 (by decide) ?_
      refine lv_iconst (v := 0) hx hb dX0_smallest_21 (by decide) ?_
      exact g_iret (v := 0) hx hb hr hlocks hW (Or.inl ⟨some s9, u1, hp, ew_3, rfl⟩) (by omega) (by omega) dX0_smallest_22
set_option maxHeartbeats 4000000 in
set_option maxRecDepth 100000 in
/-- the law: count -/
theorem mtX0_count (l : Launch) (D : va_G) (w : g_H) (sz : Nat) (hl9 : l.stackTraces = false) (lab : Nat → Nat) (x ac rn tt : Nat) (rf : Nat → Nat) (P : List mI) (C : List yC) (A9 : Nat → List (List Nat)) (cov : Nat → Bool) (K Q9 : List (List Nat)) (F : List (List Nat × List Nat × Int32)) (cp : Nat → Nat) (hS : g_SZ D w lab x rf P C A9 cov K Q9 ac F rn tt cp) (v9 : Nat) (n9 : Int32) (hv9 : v9 < 3) (o : Nat) (n0 : Int64) (d0 : UInt64) (s0 v0 f0 : Option Nat) (ho : g_at w o (oOut n0 d0 s0 v0 f0)) (hko : ∀ (r1 : Int32) (u1 : g_H), (fun r u => (0 ≤ n9 ∧ n9 ≤ 3) ∧ r = nI (cCount P v9 (octs 0 n9.toNatClampNeg)) ∧ ∃ l2, g_SZ D u l2 x rf P C A9 cov K Q9 ac F rn tt (cpU cp 9 (rFold P (octs 0 n9.toNatClampNeg) (cp 9))) ∧ yCh w lab u l2) r1 u1 → g_at u1 o (oOut n0 d0 s0 v0 f0)) : Met l yX0_count (wsW_ yX0_count cX0_count 5 (some .int) [(0, 11, 14, 110)]) ({ frames := 11, cells := 3 + ((rFold P (octs 0 n9.toNatClampNeg) (cp 9)) - cp 9), slots := 20 + 2 * ((rFold P (octs 0 n9.toNatClampNeg) (cp 9)) - cp 9), locals := 216 }) (g_Pc D [.ref x, .ref (D.2 1003 v9), .int (n9), .ref o] w sz) (g_Qi D w sz (fun r u => (∃ (r1 : Int32) (u1 : g_H), (fun r u => (0 ≤ n9 ∧ n9 ≤ 3) ∧ r = nI (cCount P v9 (octs 0 n9.toNatClampNeg)) ∧ ∃ l2, g_SZ D u l2 x rf P C A9 cov K Q9 ac F rn tt (cpU cp 9 (rFold P (octs 0 n9.toNatClampNeg) (cp 9))) ∧ yCh w lab u l2) r1 u1 ∧ u = g_put u1 o (oOut r1.toInt64 d0 s0 v0 f0) ∧ r = 0) ∨ (∃ E : String, (fun E u => (E = "java/lang/IllegalArgumentException" ∧ ¬ (0 ≤ n9 ∧ n9 ≤ 3) ∧ w = u)) E u ∧ ((E = "java/lang/IllegalArgumentException" ∧ r = 1))))) (3 + ((rFold P (octs 0 n9.toNatClampNeg) (cp 9)) - cp 9)) (20 + 2 * ((rFold P (octs 0 n9.toNatClampNeg) (cp 9)) - cp 9)) (g_A w sz) := by
  refine g_ofWH (hh := [(0, 11, 14, 110)]) (cc := cX0_count) (maxL := 5) (ret := (some .int)) (by decide) rfl ?_
  intro p e s m args below meth c s₁ B hml hv
  obtain ⟨rfl, hI⟩ := hv
  have hx := B.exec
  have hb := B.bytes
  have hr := B.returns
  have hts := atoms_spec (ws := wsW_ yX0_count cX0_count 5 (some .int) [(0, 11, 14, 110)]) B.pre
  have hts : ∀ w ∈ lw_all, w.before _ s = true := fun w h => hts w (List.mem_cons_of_mem _ h)
  have hown : s.vm.findClass RX0 = some m.cls := findClass_of_methodNamed B.named
  have hlocks := B.notSynchronized
  have hsz := hI.1
  subst hsz
  have hW := g_W.start hI
  have hK := g_K hI
  have hE := g_E hI
  have hl := lv_entry ([.ref x, .ref (D.2 1003 v9), .int (n9), .ref o]) (n := 5) (by exact Nat.le_of_ble_eq_true rfl)
  rw [lg_entry_eq]
  generalize (lg_sl ([.ref x, .ref (D.2 1003 v9), .int (n9), .ref o]) ++ List.replicate (5 - (lg_sl ([.ref x, .ref (D.2 1003 v9), .int (n9), .ref o])).length) Slot.unset).toArray = ls at hl ⊢
  have hl : lv_has ls 5 [(0, .ref x), (1, .ref (D.2 1003 v9)), (2, .int (n9)), (3, .ref o)] := hl
  have hEo : g_at w o (oOut n0 d0 s0 v0 f0) := ho
  have htab : c.exceptionTable.toList = tableOf [(0, 11, 14, 110)] := vx_table (x := yX0_count) (hh := [(0, 11, 14, 110)]) B (atoms_spec (ws := wsW_ yX0_count cX0_count 5 (some .int) [(0, 11, 14, 110)]) B.pre _ List.mem_cons_self)
  refine lv_aload_n hx hb dX0_count_0 rfl (lv_at hl 3 rfl) ?_
  refine lv_aload_n hx hb dX0_count_1 rfl (lv_at hl 0 rfl) ?_
  refine lv_aload_n hx hb dX0_count_2 rfl (lv_at hl 1 rfl) ?_
  refine lv_iload_n hx hb dX0_count_3 rfl (lv_at hl 2 rfl) ?_
  refine g_xcalli (vx_runV (As := [.ref (D.2 1003 v9), .int (n9)]) (rest := [.ref o]) ⟨hx, hb, hml, hown, hts⟩ (mtX1_count l hl9 D w s.heap.size lab x ac rn tt rf P C A9 cov K Q9 F cp hS v9 n9 hv9) (cwV 2 hts (lw_V q1828 q1829 q1830 q34 q1831) rfl rfl rfl (by decide +kernel) ⟨Nat.le_of_ble_eq_true rfl, Nat.le_of_ble_eq_true rfl⟩) (g_preV hW hK hE hS.1.1 rfl) rfl rfl hl.1 rfl (lv_room (Nat.le_of_ble_eq_true rfl)) dX0_count_4 ⟨?_, ?_⟩) hW (fun E ce q9 u_ H locs hp hW hxc1 hxc2 hxc3 => ?_) (fun r1 u1 H locs hp hW => ?_)
  · (try simp only [headSpec]); omega
  · (try simp only [headSpec]); omega
  · have hE9 : E = "java/lang/IllegalArgumentException" := by first | exact hp.1 | (rcases hp with h | h <;> exact h.1)
    subst hE9
    refine vx_catch (own := RX0) (name := "java/lang/IllegalArgumentException") hown [] ⟨0, 11, 14, 110⟩ [] (htab.trans rfl) (fun _ z => by cases z) (by decide) (by decide) (hts _ q547) (va_Nw.use rfl (hE.ca (by decide +kernel))) hxc1 hxc2 hxc3 ?_
    refine lv_astore (lv' := [(4, .ref q9), (0, .ref x), (1, .ref (D.2 1003 v9)), (2, .int (n9)), (3, .ref o)]) hx hb dX0_count_14 hl (by decide) rfl (fun ls hl => ?_)
    refine lv_iconst (v := 1) hx hb dX0_count_16 (by decide) ?_
    exact g_iret (v := 1) hx hb hr hlocks hW (Or.inr ⟨_, hp, ⟨rfl, rfl⟩⟩) (by omega) (by omega) dX0_count_17
  · refine lv_i2l (v := (r1 : Int32).toInt64) hx hb dX0_count_7 rfl ?_
    refine g_putfN (ci := 9) (v := .long ((r1 : Int32).toInt64)) (ty := .long) (C := RX4) (T := TX4) (N := 5) hx hb hts in_X4 tyX4 tyX4_ok nmX4 hown hK hW (hko _ _ hp) rfl 0 (by decide) (nf_q466 hE) (fun _ h9 => h9) rfl (by decide +kernel) rfl rfl (Nat.le_of_ble_eq_true rfl) dX0_count_8 (fun H locs hW => ?_)
    obtain ⟨w_1, ew_1⟩ : ∃ z__, z__ = g_put u1 o (.inr (9, [.long ((r1 : Int32).toInt64), .double (d0), va_rf (s0), va_rf (v0), va_rf (f0)])) := ⟨_, rfl⟩
    have hW := g_W.ren hW ew_1 rfl
    have h_2 : g_at w_1 o (.inr (9, [.long ((r1 : Int32).toInt64), .double (d0), va_rf (s0), va_rf (v0), va_rf (f0)])) := by rw [ew_1]; exact g_at.put_self (hko _ _ hp).1
    refine lv_goto (tgt := 18) hx hb dX0_count_11 (by decide) ?_
    refine lv_iconst (v := 0) hx hb dX0_count_18 (by decide) ?_
    exact g_iret (v := 0) hx hb hr hlocks hW (Or.inl ⟨r1, u1, hp, ew_1, rfl⟩) (by omega) (by omega) dX0_count_19
set_option maxHeartbeats 4000000 in
set_option maxRecDepth 100000 in
/-- the law: reachable -/
theorem mtX0_reachable (l : Launch) (D : va_G) (w : g_H) (sz : Nat) (hl9 : l.stackTraces = false) (lab : Nat → Nat) (x ac rn tt : Nat) (rf : Nat → Nat) (P : List mI) (C : List yC) (A9 : Nat → List (List Nat)) (cov : Nat → Bool) (K Q9 : List (List Nat)) (F : List (List Nat × List Nat × Int32)) (cp : Nat → Nat) (hS : g_SZ D w lab x rf P C A9 cov K Q9 ac F rn tt cp) (n9 : Int32) (o : Nat) (n0 : Int64) (d0 : UInt64) (s0 v0 f0 : Option Nat) (ho : g_at w o (oOut n0 d0 s0 v0 f0)) (hko : ∀ (r1 : Int32) (u1 : g_H), (fun r u => (0 ≤ n9 ∧ n9 ≤ 3) ∧ r = nI (fb_ct (rE P (octs 0 n9.toNatClampNeg) (fun _ => false)) 320) ∧ ∃ l2, g_SZ D u l2 x rf P C A9 cov K Q9 ac F rn tt (cpU cp 9 (rFold P (octs 0 n9.toNatClampNeg) (cp 9))) ∧ yCh w lab u l2) r1 u1 → g_at u1 o (oOut n0 d0 s0 v0 f0)) : Met l yX0_reachable (wsW_ yX0_reachable cX0_reachable 4 (some .int) [(0, 10, 13, 110)]) ({ frames := 11, cells := 5 + ((rFold P (octs 0 n9.toNatClampNeg) (cp 9)) - cp 9) + ((rF2 P (octs 0 n9.toNatClampNeg) 1) - 1), slots := 20 + 2 * ((rFold P (octs 0 n9.toNatClampNeg) (cp 9)) - cp 9) + 2 * ((rF2 P (octs 0 n9.toNatClampNeg) 1) - 1), locals := 215 }) (g_Pc D [.ref x, .int (n9), .ref o] w sz) (g_Qi D w sz (fun r u => (∃ (r1 : Int32) (u1 : g_H), (fun r u => (0 ≤ n9 ∧ n9 ≤ 3) ∧ r = nI (fb_ct (rE P (octs 0 n9.toNatClampNeg) (fun _ => false)) 320) ∧ ∃ l2, g_SZ D u l2 x rf P C A9 cov K Q9 ac F rn tt (cpU cp 9 (rFold P (octs 0 n9.toNatClampNeg) (cp 9))) ∧ yCh w lab u l2) r1 u1 ∧ u = g_put u1 o (oOut r1.toInt64 d0 s0 v0 f0) ∧ r = 0) ∨ (∃ E : String, (fun E u => (E = "java/lang/IllegalArgumentException" ∧ ¬ (0 ≤ n9 ∧ n9 ≤ 3) ∧ w = u)) E u ∧ ((E = "java/lang/IllegalArgumentException" ∧ r = 1))))) (5 + ((rFold P (octs 0 n9.toNatClampNeg) (cp 9)) - cp 9) + ((rF2 P (octs 0 n9.toNatClampNeg) 1) - 1)) (20 + 2 * ((rFold P (octs 0 n9.toNatClampNeg) (cp 9)) - cp 9) + 2 * ((rF2 P (octs 0 n9.toNatClampNeg) 1) - 1)) (g_A w sz) := by
  refine g_ofWH (hh := [(0, 10, 13, 110)]) (cc := cX0_reachable) (maxL := 4) (ret := (some .int)) (by decide) rfl ?_
  intro p e s m args below meth c s₁ B hml hv
  obtain ⟨rfl, hI⟩ := hv
  have hx := B.exec
  have hb := B.bytes
  have hr := B.returns
  have hts := atoms_spec (ws := wsW_ yX0_reachable cX0_reachable 4 (some .int) [(0, 10, 13, 110)]) B.pre
  have hts : ∀ w ∈ lw_all, w.before _ s = true := fun w h => hts w (List.mem_cons_of_mem _ h)
  have hown : s.vm.findClass RX0 = some m.cls := findClass_of_methodNamed B.named
  have hlocks := B.notSynchronized
  have hsz := hI.1
  subst hsz
  have hW := g_W.start hI
  have hK := g_K hI
  have hE := g_E hI
  have hl := lv_entry ([.ref x, .int (n9), .ref o]) (n := 4) (by exact Nat.le_of_ble_eq_true rfl)
  rw [lg_entry_eq]
  generalize (lg_sl ([.ref x, .int (n9), .ref o]) ++ List.replicate (4 - (lg_sl ([.ref x, .int (n9), .ref o])).length) Slot.unset).toArray = ls at hl ⊢
  have hl : lv_has ls 4 [(0, .ref x), (1, .int (n9)), (2, .ref o)] := hl
  have hEo : g_at w o (oOut n0 d0 s0 v0 f0) := ho
  have htab : c.exceptionTable.toList = tableOf [(0, 10, 13, 110)] := vx_table (x := yX0_reachable) (hh := [(0, 10, 13, 110)]) B (atoms_spec (ws := wsW_ yX0_reachable cX0_reachable 4 (some .int) [(0, 10, 13, 110)]) B.pre _ List.mem_cons_self)
  refine lv_aload_n hx hb dX0_reachable_0 rfl (lv_at hl 2 rfl) ?_
  refine lv_aload_n hx hb dX0_reachable_1 rfl (lv_at hl 0 rfl) ?_
  refine lv_iload_n hx hb dX0_reachable_2 rfl (lv_at hl 1 rfl) ?_
  refine g_xcalli (vx_runV (As := [.int (n9)]) (rest := [.ref o]) ⟨hx, hb, hml, hown, hts⟩ (mtX1_reachable l hl9 D w s.heap.size lab x ac rn tt rf P C A9 cov K Q9 F cp hS n9) (cwV 1 hts (lw_V q1835 q1836 q1837 q34 q1838) rfl rfl rfl (by decide +kernel) ⟨Nat.le_of_ble_eq_true rfl, Nat.le_of_ble_eq_true rfl⟩) (g_preV hW hK hE hS.1.1 rfl) rfl rfl hl.1 rfl (lv_room (Nat.le_of_ble_eq_true rfl)) dX0_reachable_3 ⟨?_, ?_⟩) hW (fun E ce q9 u_ H locs hp hW hxc1 hxc2 hxc3 => ?_) (fun r1 u1 H locs hp hW => ?_)
  · (try simp only [headSpec]); omega
  · (try simp only [headSpec]); omega
  · have hE9 : E = "java/lang/IllegalArgumentException" := by first | exact hp.1 | (rcases hp with h | h <;> exact h.1)
    subst hE9
    refine vx_catch (own := RX0) (name := "java/lang/IllegalArgumentException") hown [] ⟨0, 10, 13, 110⟩ [] (htab.trans rfl) (fun _ z => by cases z) (by decide) (by decide) (hts _ q547) (va_Nw.use rfl (hE.ca (by decide +kernel))) hxc1 hxc2 hxc3 ?_
    refine lv_astore_n (lv' := [(3, .ref q9), (0, .ref x), (1, .int (n9)), (2, .ref o)]) hx hb dX0_reachable_13 rfl hl (by decide) rfl (fun ls hl => ?_)
    refine lv_iconst (v := 1) hx hb dX0_reachable_14 (by decide) ?_
    exact g_iret (v := 1) hx hb hr hlocks hW (Or.inr ⟨_, hp, ⟨rfl, rfl⟩⟩) (by omega) (by omega) dX0_reachable_15
  · refine lv_i2l (v := (r1 : Int32).toInt64) hx hb dX0_reachable_6 rfl ?_
    refine g_putfN (ci := 9) (v := .long ((r1 : Int32).toInt64)) (ty := .long) (C := RX4) (T := TX4) (N := 5) hx hb hts in_X4 tyX4 tyX4_ok nmX4 hown hK hW (hko _ _ hp) rfl 0 (by decide) (nf_q466 hE) (fun _ h9 => h9) rfl (by decide +kernel) rfl rfl (Nat.le_of_ble_eq_true rfl) dX0_reachable_7 (fun H locs hW => ?_)
    obtain ⟨w_1, ew_1⟩ : ∃ z__, z__ = g_put u1 o (.inr (9, [.long ((r1 : Int32).toInt64), .double (d0), va_rf (s0), va_rf (v0), va_rf (f0)])) := ⟨_, rfl⟩
    have hW := g_W.ren hW ew_1 rfl
    have h_2 : g_at w_1 o (.inr (9, [.long ((r1 : Int32).toInt64), .double (d0), va_rf (s0), va_rf (v0), va_rf (f0)])) := by rw [ew_1]; exact g_at.put_self (hko _ _ hp).1
    refine lv_goto (tgt := 16) hx hb dX0_reachable_10 (by decide) ?_
    refine lv_iconst (v := 0) hx hb dX0_reachable_16 (by decide) ?_
    exact g_iret (v := 0) hx hb hr hlocks hW (Or.inl ⟨r1, u1, hp, ew_1, rfl⟩) (by omega) (by omega) dX0_reachable_17
set_option maxHeartbeats 4000000 in
set_option maxRecDepth 100000 in
/-- the law: keptShare -/
theorem mtX0_keptShare (l : Launch) (D : va_G) (w : g_H) (sz : Nat) (hl9 : l.stackTraces = false) (lab : Nat → Nat) (x ac rn tt : Nat) (rf : Nat → Nat) (P : List mI) (C : List yC) (A : Nat → List (List Nat)) (cov : Nat → Bool) (K Q : List (List Nat)) (F : List (List Nat × List Nat × Int32)) (cp : Nat → Nat) (hS : g_SZ D w lab x rf P C A cov K Q ac F rn tt cp) (o : Nat) (n0 : Int64) (d0 : UInt64) (s0 v0 f0 : Option Nat) (ho : g_at w o (oOut n0 d0 s0 v0 f0)) (hko : ∀ (r1 : UInt32) (u1 : g_H), (fun r u => rn ≠ 0 ∧ r = fKS K.length rn ∧ w = u) r1 u1 → g_at u1 o (oOut n0 d0 s0 v0 f0)) : Met l yX0_keptShare (wsW_ yX0_keptShare cX0_keptShare 3 (some .int) [(0, 9, 12, 210)]) ({ frames := 10, cells := 1, slots := 6, locals := 150 }) (g_Pc D [.ref x, .ref o] w sz) (g_Qi D w sz (fun r u => (∃ (r1 : UInt32) (u1 : g_H), (fun r u => rn ≠ 0 ∧ r = fKS K.length rn ∧ w = u) r1 u1 ∧ u = g_put u1 o (oOut n0 (FP.f2d r1) s0 v0 f0) ∧ r = 0) ∨ (∃ E : String, (fun E u => E = "java/lang/ArithmeticException" ∧ rn = 0 ∧ w = u) E u ∧ ((E = "java/lang/ArithmeticException" ∧ r = 1))))) (1) (6) (g_A w sz) := by
  refine g_ofWH (hh := [(0, 9, 12, 210)]) (cc := cX0_keptShare) (maxL := 3) (ret := (some .int)) (by decide) rfl ?_
  intro p e s m args below meth c s₁ B hml hv
  obtain ⟨rfl, hI⟩ := hv
  have hx := B.exec
  have hb := B.bytes
  have hr := B.returns
  have hts := atoms_spec (ws := wsW_ yX0_keptShare cX0_keptShare 3 (some .int) [(0, 9, 12, 210)]) B.pre
  have hts : ∀ w ∈ lw_all, w.before _ s = true := fun w h => hts w (List.mem_cons_of_mem _ h)
  have hown : s.vm.findClass RX0 = some m.cls := findClass_of_methodNamed B.named
  have hlocks := B.notSynchronized
  have hsz := hI.1
  subst hsz
  have hW := g_W.start hI
  have hK := g_K hI
  have hE := g_E hI
  have hl := lv_entry ([.ref x, .ref o]) (n := 3) (by exact Nat.le_of_ble_eq_true rfl)
  rw [lg_entry_eq]
  generalize (lg_sl ([.ref x, .ref o]) ++ List.replicate (3 - (lg_sl ([.ref x, .ref o])).length) Slot.unset).toArray = ls at hl ⊢
  have hl : lv_has ls 3 [(0, .ref x), (1, .ref o)] := hl
  have hEo : g_at w o (oOut n0 d0 s0 v0 f0) := ho
  have htab : c.exceptionTable.toList = tableOf [(0, 9, 12, 210)] := vx_table (x := yX0_keptShare) (hh := [(0, 9, 12, 210)]) B (atoms_spec (ws := wsW_ yX0_keptShare cX0_keptShare 3 (some .int) [(0, 9, 12, 210)]) B.pre _ List.mem_cons_self)
  refine lv_aload_n hx hb dX0_keptShare_0 rfl (lv_at hl 1 rfl) ?_
  refine lv_aload_n hx hb dX0_keptShare_1 rfl (lv_at hl 0 rfl) ?_
  refine g_xcallf (vx_runV (As := []) (rest := [.ref o]) ⟨hx, hb, hml, hown, hts⟩ (mtX1_keptShare l hl9 D w s.heap.size lab x ac rn tt rf P C A cov K Q F cp hS) (cwV 0 hts (lw_V q1856 q1857 q1858 q34 q1859) rfl rfl rfl (by decide +kernel) ⟨Nat.le_of_ble_eq_true rfl, Nat.le_of_ble_eq_true rfl⟩) (g_preV hW hK hE hS.1.1 rfl) rfl rfl hl.1 rfl (lv_room (Nat.le_of_ble_eq_true rfl)) dX0_keptShare_2 ⟨?_, ?_⟩) hW (fun E ce q9 u_ H locs hp hW hxc1 hxc2 hxc3 => ?_) (fun r1 u1 H locs hp hW => ?_)
  · (try simp only [headSpec]); omega
  · (try simp only [headSpec]); omega
  · have hE9 : E = "java/lang/ArithmeticException" := by first | exact hp.1 | (rcases hp with h | h <;> exact h.1)
    subst hE9
    refine vx_catch (own := RX0) (name := "java/lang/ArithmeticException") hown [] ⟨0, 9, 12, 210⟩ [] (htab.trans rfl) (fun _ z => by cases z) (by decide) (by decide) (hts _ q1842) (va_Nw.use rfl (hE.ca (by decide +kernel))) hxc1 hxc2 hxc3 ?_
    refine lv_astore_n (lv' := [(2, .ref q9), (0, .ref x), (1, .ref o)]) hx hb dX0_keptShare_12 rfl hl (by decide) rfl (fun ls hl => ?_)
    refine lv_iconst (v := 1) hx hb dX0_keptShare_13 (by decide) ?_
    exact g_iret (v := 1) hx hb hr hlocks hW (Or.inr ⟨_, hp, ⟨rfl, rfl⟩⟩) (by omega) (by omega) dX0_keptShare_14
  · refine lv_f2d hx hb dX0_keptShare_5 (fl_f2d (by rw [hp.2.1]; have hb9 := hS.2.2.2.2.2.2.2.2.2; have hr9 := hp.1; exact fl_div32 (by omega) (by omega) (by omega))) ?_
    refine g_putfN (ci := 9) (v := .double (FP.f2d r1)) (ty := .double) (C := RX4) (T := TX4) (N := 5) hx hb hts in_X4 tyX4 tyX4_ok nmX4 hown hK hW (hko _ _ hp) rfl 1 (by decide) (nf_q467 hE) (fun _ h9 => h9) rfl (by decide +kernel) rfl rfl (Nat.le_of_ble_eq_true rfl) dX0_keptShare_6 (fun H locs hW => ?_)
    obtain ⟨w_1, ew_1⟩ : ∃ z__, z__ = g_put u1 o (.inr (9, [.long (n0), .double (FP.f2d r1), va_rf (s0), va_rf (v0), va_rf (f0)])) := ⟨_, rfl⟩
    have hW := g_W.ren hW ew_1 rfl
    have h_2 : g_at w_1 o (.inr (9, [.long (n0), .double (FP.f2d r1), va_rf (s0), va_rf (v0), va_rf (f0)])) := by rw [ew_1]; exact g_at.put_self (hko _ _ hp).1
    refine lv_goto (tgt := 15) hx hb dX0_keptShare_9 (by decide) ?_
    refine lv_iconst (v := 0) hx hb dX0_keptShare_15 (by decide) ?_
    exact g_iret (v := 0) hx hb hr hlocks hW (Or.inl ⟨r1, u1, hp, ew_1, rfl⟩) (by omega) (by omega) dX0_keptShare_16
set_option maxHeartbeats 4000000 in
set_option maxRecDepth 100000 in
/-- the law: meanShrunk -/
theorem mtX0_meanShrunk (l : Launch) (D : va_G) (w : g_H) (sz : Nat) (hl9 : l.stackTraces = false) (lab : Nat → Nat) (x ac rn tt : Nat) (rf : Nat → Nat) (P : List mI) (C : List yC) (A : Nat → List (List Nat)) (cov : Nat → Bool) (K Q : List (List Nat)) (F : List (List Nat × List Nat × Int32)) (cp : Nat → Nat) (hS : g_SZ D w lab x rf P C A cov K Q ac F rn tt cp) (o : Nat) (n0 : Int64) (d0 : UInt64) (s0 v0 f0 : Option Nat) (ho : g_at w o (oOut n0 d0 s0 v0 f0)) (hko : ∀ (r1 : UInt64) (u1 : g_H), (fun r u => F.length ≠ 0 ∧ r = dMS (sSum F) F.length ∧ g_ex (fun _ => False) w u) r1 u1 → g_at u1 o (oOut n0 d0 s0 v0 f0)) : Met l yX0_meanShrunk (wsW_ yX0_meanShrunk cX0_meanShrunk 3 (some .int) [(0, 8, 11, 210)]) ({ frames := 10, cells := 2, slots := 10, locals := 153 }) (g_Pc D [.ref x, .ref o] w sz) (g_Qi D w sz (fun r u => (∃ (r1 : UInt64) (u1 : g_H), (fun r u => F.length ≠ 0 ∧ r = dMS (sSum F) F.length ∧ g_ex (fun _ => False) w u) r1 u1 ∧ u = g_put u1 o (oOut n0 r1 s0 v0 f0) ∧ r = 0) ∨ (∃ E : String, (fun E u => E = "java/lang/ArithmeticException" ∧ F.length = 0 ∧ w = u) E u ∧ ((E = "java/lang/ArithmeticException" ∧ r = 1))))) (2) (10) (g_A w sz) := by
  refine g_ofWH (hh := [(0, 8, 11, 210)]) (cc := cX0_meanShrunk) (maxL := 3) (ret := (some .int)) (by decide) rfl ?_
  intro p e s m args below meth c s₁ B hml hv
  obtain ⟨rfl, hI⟩ := hv
  have hx := B.exec
  have hb := B.bytes
  have hr := B.returns
  have hts := atoms_spec (ws := wsW_ yX0_meanShrunk cX0_meanShrunk 3 (some .int) [(0, 8, 11, 210)]) B.pre
  have hts : ∀ w ∈ lw_all, w.before _ s = true := fun w h => hts w (List.mem_cons_of_mem _ h)
  have hown : s.vm.findClass RX0 = some m.cls := findClass_of_methodNamed B.named
  have hlocks := B.notSynchronized
  have hsz := hI.1
  subst hsz
  have hW := g_W.start hI
  have hK := g_K hI
  have hE := g_E hI
  have hl := lv_entry ([.ref x, .ref o]) (n := 3) (by exact Nat.le_of_ble_eq_true rfl)
  rw [lg_entry_eq]
  generalize (lg_sl ([.ref x, .ref o]) ++ List.replicate (3 - (lg_sl ([.ref x, .ref o])).length) Slot.unset).toArray = ls at hl ⊢
  have hl : lv_has ls 3 [(0, .ref x), (1, .ref o)] := hl
  have hEo : g_at w o (oOut n0 d0 s0 v0 f0) := ho
  have htab : c.exceptionTable.toList = tableOf [(0, 8, 11, 210)] := vx_table (x := yX0_meanShrunk) (hh := [(0, 8, 11, 210)]) B (atoms_spec (ws := wsW_ yX0_meanShrunk cX0_meanShrunk 3 (some .int) [(0, 8, 11, 210)]) B.pre _ List.mem_cons_self)
  refine lv_aload_n hx hb dX0_meanShrunk_0 rfl (lv_at hl 1 rfl) ?_
  refine lv_aload_n hx hb dX0_meanShrunk_1 rfl (lv_at hl 0 rfl) ?_
  refine g_xcalld (vx_runV (As := []) (rest := [.ref o]) ⟨hx, hb, hml, hown, hts⟩ (mtX1_meanShrunk l hl9 D w s.heap.size lab x ac rn tt rf P C A cov K Q F cp hS) (cwV 0 hts (lw_V q1871 q1872 q1873 q34 q1874) rfl rfl rfl (by decide +kernel) ⟨Nat.le_of_ble_eq_true rfl, Nat.le_of_ble_eq_true rfl⟩) (g_preV hW hK hE hS.1.1 rfl) rfl rfl hl.1 rfl (lv_room (Nat.le_of_ble_eq_true rfl)) dX0_meanShrunk_2 ⟨?_, ?_⟩) hW (fun E ce q9 u_ H locs hp hW hxc1 hxc2 hxc3 => ?_) (fun r1 u1 H locs hp hW => ?_)
  · (try simp only [headSpec]); omega
  · (try simp only [headSpec]); omega
  · have hE9 : E = "java/lang/ArithmeticException" := by first | exact hp.1 | (rcases hp with h | h <;> exact h.1)
    subst hE9
    refine vx_catch (own := RX0) (name := "java/lang/ArithmeticException") hown [] ⟨0, 8, 11, 210⟩ [] (htab.trans rfl) (fun _ z => by cases z) (by decide) (by decide) (hts _ q1842) (va_Nw.use rfl (hE.ca (by decide +kernel))) hxc1 hxc2 hxc3 ?_
    refine lv_astore_n (lv' := [(2, .ref q9), (0, .ref x), (1, .ref o)]) hx hb dX0_meanShrunk_11 rfl hl (by decide) rfl (fun ls hl => ?_)
    refine lv_iconst (v := 1) hx hb dX0_meanShrunk_12 (by decide) ?_
    exact g_iret (v := 1) hx hb hr hlocks hW (Or.inr ⟨_, hp, ⟨rfl, rfl⟩⟩) (by omega) (by omega) dX0_meanShrunk_13
  · refine g_putfN (ci := 9) (v := .double (r1)) (ty := .double) (C := RX4) (T := TX4) (N := 5) hx hb hts in_X4 tyX4 tyX4_ok nmX4 hown hK hW (hko _ _ hp) rfl 1 (by decide) (nf_q467 hE) (fun _ h9 => h9) rfl (by decide +kernel) rfl rfl (Nat.le_of_ble_eq_true rfl) dX0_meanShrunk_5 (fun H locs hW => ?_)
    obtain ⟨w_1, ew_1⟩ : ∃ z__, z__ = g_put u1 o (.inr (9, [.long (n0), .double (r1), va_rf (s0), va_rf (v0), va_rf (f0)])) := ⟨_, rfl⟩
    have hW := g_W.ren hW ew_1 rfl
    have h_2 : g_at w_1 o (.inr (9, [.long (n0), .double (r1), va_rf (s0), va_rf (v0), va_rf (f0)])) := by rw [ew_1]; exact g_at.put_self (hko _ _ hp).1
    refine lv_goto (tgt := 14) hx hb dX0_meanShrunk_8 (by decide) ?_
    refine lv_iconst (v := 0) hx hb dX0_meanShrunk_14 (by decide) ?_
    exact g_iret (v := 0) hx hb hr hlocks hW (Or.inl ⟨r1, u1, hp, ew_1, rfl⟩) (by omega) (by omega) dX0_meanShrunk_15
