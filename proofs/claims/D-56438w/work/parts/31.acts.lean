/-! the edits' act -/
set_option maxRecDepth 100000
section GN
variable {p : Program} {l : Launch} {e : Env} {R : Room} {s : State} {m : MethodId} {args : Array Value} {below : List Frame} {meth : Method} {c : Code} {H : Heap} {locs : List Loc} {cells slots : Nat} {Q : State → Prop}
variable {cc : ByteArray} {pc : Nat} {ls : Array Slot} {rest : List Value} {D : va_G} {A : Nat → Prop} {a : Nat} {w : g_H} {H0 : Heap}
theorem g_getN (hx : p.tables.exec = Jvm.exec) (hb : c.code = cc) {own ref C host : String} {T : u_T} {N ci index : Nat} (hts : ∀ w ∈ lw_all, w.before args s = true) (hin : ∀ w ∈ u_ws C T N, w ∈ lw_all) (hown : s.vm.findClass own = some m.cls) (hK : va_K D gCl (gT D) s) (hW : g_W D A H0 H locs w) {fs : List Value} (he : g_at w a (.inr (ci, fs))) (hc : gCl[ci]? = some (C, T, N)) (k : Nat) (hk : k < N) (hlink : va_Nw (.fieldLinkNest own index ref (T k).2.1 (T k).2.2.1 host) s) (hsame : ∀ x, s.fieldFound? (T k).1 (T k).2.1 (T k).2.2.1 = some x → s.fieldFound? ref (T k).2.1 (T k).2.2.1 = some x) {v : Value} (hv : fs[k]? = some v) (hdg : decode cc pc = .ok (.getfield index, 3))
    (kk : W p l e R s m args below meth c H locs cells slots Q (F0 m (pc + 3) ls (v :: rest))) : W p l e R s m args below meth c H locs cells slots Q (F0 m pc ls (.ref a :: rest)) := by
  obtain ⟨q0, h0⟩ := hW.get he
  exact va_getN hx hb hts hin hown hK hW.1 q0 h0 hc k hk (va_Nw.use rfl hlink) hsame hv hdg kk
end GN
set_option maxHeartbeats 4000000 in
set_option maxRecDepth 100000 in
/-- ShrinkYard$Swapping.act -/
theorem mtX10_act (l : Launch) (D : va_G) (w : g_H) (sz : Nat) (a d da pl : Nat) (xs : List Nat) (ha : g_at w a (.inr (6, [.int (nI pl)]))) (hd : g_Dig D w d da xs) (hp : pl + 1 < xs.length) : Met l yX10_act (ws_ yX10_act cX10_act 2 none) ({ frames := 2, cells := 0, slots := 0, locals := 34 }) (g_Pc D [.ref a, .ref d] w sz) (g_Qv D w sz (fun u => g_Dig D u d da ((xs.set pl (xs.getD (pl + 1) 0)).set (pl + 1) (xs.getD pl 0)) ∧ g_ex (fun q => q = d ∨ q = da) w u)) (0) (0) (g_A w sz) := by
  refine Met.ofW (cc := cX10_act) (maxL := 2) (ret := none) (by decide) rfl ?_
  intro p e s m args below meth c s₁ B hml hv
  obtain ⟨rfl, hI⟩ := hv
  have hx := B.exec
  have hb := B.bytes
  have hr := B.returns
  have hts := atoms_spec (ws := ws_ yX10_act cX10_act 2 none) B.pre
  have hts : ∀ w ∈ lw_all, w.before _ s = true := fun w h => hts w (List.mem_cons_of_mem _ h)
  have hown : s.vm.findClass RX10 = some m.cls := findClass_of_methodNamed B.named
  have hlocks := B.notSynchronized
  have hsz := hI.1
  subst hsz
  have hW := g_W.start hI
  have hK := g_K hI
  have hE := g_E hI
  have hl := lv_entry ([.ref a, .ref d]) (n := 2) (by exact Nat.le_of_ble_eq_true rfl)
  rw [lg_entry_eq]
  generalize (lg_sl ([.ref a, .ref d]) ++ List.replicate (2 - (lg_sl ([.ref a, .ref d])).length) Slot.unset).toArray = ls at hl ⊢
  have hl : lv_has ls 2 [(0, .ref a), (1, .ref d)] := hl
  refine lv_aload_n hx hb dX10_act_0 rfl (lv_at hl 1 rfl) ?_
  refine lv_aload_n hx hb dX10_act_1 rfl (lv_at hl 0 rfl) ?_
  refine g_get (ci := 6) (v := .int (nI pl)) (C := RX10) (T := TX10) (N := 1) hx hb hts in_X10 hown hK hW ha rfl 0 (by decide) q722 (fun _ h9 => h9) rfl dX10_act_2 ?_
  refine g_callv (va_runV (As := [.int (nI pl)]) (rest := []) ⟨hx, hb, hml, hown, hts⟩ (mtX11_swap l D w s.heap.size d da pl xs hd hp) (cwV 1 hts (lw_V q1690 q1691 q1692 q75 q1693) rfl rfl rfl (by decide +kernel) ⟨Nat.le_of_ble_eq_true rfl, Nat.le_of_ble_eq_true rfl⟩) (g_preV hW hK hE hd.1 rfl) rfl rfl hl.1 rfl (lv_room (Nat.le_of_ble_eq_true rfl)) dX10_act_5 ⟨?_, ?_⟩) hW (fun u1 H locs hp hW => ?_)
  · show _ ≤ 0; omega
  · show _ ≤ 0; omega
  exact g_vret hx hb hr hlocks hW (hp) (by omega) (by omega) dX10_act_8
set_option maxHeartbeats 4000000 in
set_option maxRecDepth 100000 in
/-- ShrinkYard$Deleting.act -/
theorem mtX9_act (l : Launch) (D : va_G) (w : g_H) (sz : Nat) (a d da pl : Nat) (xs : List Nat) (ha : g_at w a (.inr (5, [.int (nI pl)]))) (hd : g_Dig D w d da xs) (hp : pl < xs.length) : Met l yX9_act (ws_ yX9_act cX9_act 2 none) ({ frames := 2, cells := 0, slots := 0, locals := 34 }) (g_Pc D [.ref a, .ref d] w sz) (g_Qv D w sz (fun u => g_Dig D u d da (xs.eraseIdx pl) ∧ g_ex (fun q => q = d ∨ q = da) w u)) (0) (0) (g_A w sz) := by
  refine Met.ofW (cc := cX9_act) (maxL := 2) (ret := none) (by decide) rfl ?_
  intro p e s m args below meth c s₁ B hml hv
  obtain ⟨rfl, hI⟩ := hv
  have hx := B.exec
  have hb := B.bytes
  have hr := B.returns
  have hts := atoms_spec (ws := ws_ yX9_act cX9_act 2 none) B.pre
  have hts : ∀ w ∈ lw_all, w.before _ s = true := fun w h => hts w (List.mem_cons_of_mem _ h)
  have hown : s.vm.findClass RX9 = some m.cls := findClass_of_methodNamed B.named
  have hlocks := B.notSynchronized
  have hsz := hI.1
  subst hsz
  have hW := g_W.start hI
  have hK := g_K hI
  have hE := g_E hI
  have hl := lv_entry ([.ref a, .ref d]) (n := 2) (by exact Nat.le_of_ble_eq_true rfl)
  rw [lg_entry_eq]
  generalize (lg_sl ([.ref a, .ref d]) ++ List.replicate (2 - (lg_sl ([.ref a, .ref d])).length) Slot.unset).toArray = ls at hl ⊢
  have hl : lv_has ls 2 [(0, .ref a), (1, .ref d)] := hl
  refine lv_aload_n hx hb dX9_act_0 rfl (lv_at hl 1 rfl) ?_
  refine lv_aload_n hx hb dX9_act_1 rfl (lv_at hl 0 rfl) ?_
  refine g_get (ci := 5) (v := .int (nI pl)) (C := RX9) (T := TX9) (N := 1) hx hb hts in_X9 hown hK hW ha rfl 0 (by decide) q712 (fun _ h9 => h9) rfl dX9_act_2 ?_
  refine g_callv (va_runV (As := [.int (nI pl)]) (rest := []) ⟨hx, hb, hml, hown, hts⟩ (mtX11_delete l D w s.heap.size d da pl xs hd hp) (cwV 1 hts (lw_V q1670 q1541 q1542 q75 q1543) rfl rfl rfl (by decide +kernel) ⟨Nat.le_of_ble_eq_true rfl, Nat.le_of_ble_eq_true rfl⟩) (g_preV hW hK hE hd.1 rfl) rfl rfl hl.1 rfl (lv_room (Nat.le_of_ble_eq_true rfl)) dX9_act_5 ⟨?_, ?_⟩) hW (fun u1 H locs hp hW => ?_)
  · show _ ≤ 0; omega
  · show _ ≤ 0; omega
  exact g_vret hx hb hr hlocks hW (hp) (by omega) (by omega) dX9_act_8
set_option maxHeartbeats 4000000 in
set_option maxRecDepth 100000 in
/-- ShrinkYard$Inserting.act -/
theorem mtX8_act (l : Launch) (D : va_G) (w : g_H) (sz : Nat) (a d da pl : Nat) (dg : Nat) (xs : List Nat) (ha : g_at w a (.inr (4, [.int (nI pl), .int (nI dg)]))) (hd : g_Dig D w d da xs) (hp : pl ≤ xs.length) (h8 : xs.length < 8) : Met l yX8_act (ws_ yX8_act cX8_act 2 none) ({ frames := 2, cells := 0, slots := 0, locals := 35 }) (g_Pc D [.ref a, .ref d] w sz) (g_Qv D w sz (fun u => g_Dig D u d da (xs.insertIdx pl dg) ∧ g_ex (fun q => q = d ∨ q = da) w u)) (0) (0) (g_A w sz) := by
  refine Met.ofW (cc := cX8_act) (maxL := 2) (ret := none) (by decide) rfl ?_
  intro p e s m args below meth c s₁ B hml hv
  obtain ⟨rfl, hI⟩ := hv
  have hx := B.exec
  have hb := B.bytes
  have hr := B.returns
  have hts := atoms_spec (ws := ws_ yX8_act cX8_act 2 none) B.pre
  have hts : ∀ w ∈ lw_all, w.before _ s = true := fun w h => hts w (List.mem_cons_of_mem _ h)
  have hown : s.vm.findClass RX8 = some m.cls := findClass_of_methodNamed B.named
  have hlocks := B.notSynchronized
  have hsz := hI.1
  subst hsz
  have hW := g_W.start hI
  have hK := g_K hI
  have hE := g_E hI
  have hl := lv_entry ([.ref a, .ref d]) (n := 2) (by exact Nat.le_of_ble_eq_true rfl)
  rw [lg_entry_eq]
  generalize (lg_sl ([.ref a, .ref d]) ++ List.replicate (2 - (lg_sl ([.ref a, .ref d])).length) Slot.unset).toArray = ls at hl ⊢
  have hl : lv_has ls 2 [(0, .ref a), (1, .ref d)] := hl
  refine lv_aload_n hx hb dX8_act_0 rfl (lv_at hl 1 rfl) ?_
  refine lv_aload_n hx hb dX8_act_1 rfl (lv_at hl 0 rfl) ?_
  refine g_get (ci := 4) (v := .int (nI pl)) (C := RX8) (T := TX8) (N := 2) hx hb hts in_X8 hown hK hW ha rfl 0 (by decide) q699 (fun _ h9 => h9) rfl dX8_act_2 ?_
  refine lv_aload_n hx hb dX8_act_5 rfl (lv_at hl 0 rfl) ?_
  refine g_get (ci := 4) (v := .int (nI dg)) (C := RX8) (T := TX8) (N := 2) hx hb hts in_X8 hown hK hW ha rfl 1 (by decide) q700 (fun _ h9 => h9) rfl dX8_act_6 ?_
  refine g_callv (va_runV (As := [.int (nI pl), .int (nI dg)]) (rest := []) ⟨hx, hb, hml, hown, hts⟩ (mtX11_insert l D w s.heap.size d da pl dg xs hd hp h8) (cwV 2 hts (lw_V q1676 q1677 q1678 q75 q1679) rfl rfl rfl (by decide +kernel) ⟨Nat.le_of_ble_eq_true rfl, Nat.le_of_ble_eq_true rfl⟩) (g_preV hW hK hE hd.1 rfl) rfl rfl hl.1 rfl (lv_room (Nat.le_of_ble_eq_true rfl)) dX8_act_9 ⟨?_, ?_⟩) hW (fun u1 H locs hp hW => ?_)
  · show _ ≤ 0; omega
  · show _ ≤ 0; omega
  exact g_vret hx hb hr hlocks hW (hp) (by omega) (by omega) dX8_act_12
set_option maxHeartbeats 4000000 in
set_option maxRecDepth 100000 in
/-- Replacing.act -/
theorem mtX7_act (l : Launch) (D : va_G) (w : g_H) (sz : Nat) (a d da pl dg : Nat) (xs : List Nat) (ha : g_at w a (.inr (3, [.int (nI pl), .int (nI dg)]))) (hd : g_Dig D w d da xs) (hp : pl < xs.length) : Met l yX7_act (ws_ yX7_act cX7_act 2 none) ({ frames := 1, cells := 0, slots := 0, locals := 12 }) (g_Pc D [.ref a, .ref d] w sz) (g_Qv D w sz (fun u => g_Dig D u d da (xs.set pl dg) ∧ g_ex (fun q => q = d ∨ q = da) w u)) (0) (0) (g_A w sz) := by
  refine Met.ofW (cc := cX7_act) (maxL := 2) (ret := none) (by decide) rfl ?_
  intro p e s m args below meth c s₁ B hml hv
  obtain ⟨rfl, hI⟩ := hv
  have hx := B.exec
  have hb := B.bytes
  have hr := B.returns
  have hts := atoms_spec (ws := ws_ yX7_act cX7_act 2 none) B.pre
  have hts : ∀ w ∈ lw_all, w.before _ s = true := fun w h => hts w (List.mem_cons_of_mem _ h)
  have hown : s.vm.findClass RX7 = some m.cls := findClass_of_methodNamed B.named
  have hlocks := B.notSynchronized
  have hsz := hI.1
  subst hsz
  have hW := g_W.start hI
  have hK := g_K hI
  have hE := g_E hI
  have hl := lv_entry ([.ref a, .ref d]) (n := 2) (by exact Nat.le_of_ble_eq_true rfl)
  rw [lg_entry_eq]
  generalize (lg_sl ([.ref a, .ref d]) ++ List.replicate (2 - (lg_sl ([.ref a, .ref d])).length) Slot.unset).toArray = ls at hl ⊢
  have hl : lv_has ls 2 [(0, .ref a), (1, .ref d)] := hl
  obtain ⟨hd1, ⟨g, hd2, hg⟩, h8⟩ := hd
  have x_1 : g_ex (fun q => q = d ∨ q = da) w w := g_ex.rf
  refine lv_aload_n hx hb dX7_act_0 rfl (lv_at hl 1 rfl) ?_
  refine g_getN (ci := 2) (v := .ref da) (C := RX11) (T := TX11) (N := 2) hx hb hts in_X11 hown hK hW hd1 rfl 0 (by decide) (nf_q1164 hE) (fun _ h9 => h9) rfl dX7_act_1 ?_
  refine lv_aload_n hx hb dX7_act_4 rfl (lv_at hl 0 rfl) ?_
  refine g_get (ci := 3) (v := .int (nI pl)) (C := RX7) (T := TX7) (N := 2) hx hb hts in_X7 hown hK hW ha rfl 0 (by decide) q686 (fun _ h9 => h9) rfl dX7_act_5 ?_
  refine lv_aload_n hx hb dX7_act_8 rfl (lv_at hl 0 rfl) ?_
  refine g_get (ci := 3) (v := .int (nI dg)) (C := RX7) (T := TX7) (N := 2) hx hb hts in_X7 hown hK hW ha rfl 1 (by decide) q687 (fun _ h9 => h9) rfl dX7_act_9 ?_
  refine g_iast (i := pl) hx hb hK hW hd2 (by omega) (by decide) dX7_act_12 (fun H locs hW => ?_)
  obtain ⟨f_2, ef_2⟩ : ∃ z__, z__ = upd (g) (pl) (nI dg) := ⟨_, rfl⟩
  rw [← ef_2] at hW
  obtain ⟨w_3, ew_3⟩ : ∃ z__, z__ = g_put w da (.inl (D.1 100, 8, .inl (f_2))) := ⟨_, rfl⟩
  have hW := g_W.ren hW ew_3 rfl
  have h_4 : g_at w_3 a (.inr (3, [.int (nI pl), .int (nI dg)])) := by rw [ew_3]; exact ha.put (g_neOA ha hd2)
  have h_5 : g_at w_3 d (.inr (2, [.ref da, .int (nI xs.length)])) := by rw [ew_3]; exact hd1.put (g_neOA hd1 hd2)
  have h_6 : g_at w_3 da (.inl (D.1 100, 8, .inl (f_2))) := by rw [ew_3]; exact g_at.put_self hd2.1
  have x_7 : g_ex (fun q => q = d ∨ q = da) w w_3 := by rw [ew_3]; exact x_1.put (fun hz9 => (Or.inr (rfl)))
  refine g_vret hx hb hr hlocks hW (⟨⟨by rw [List.length_set]; exact h_5, ⟨f_2, h_6, fun j hj => ?_⟩, by rw [List.length_set]; exact h8⟩, x_7⟩) (by omega) (by omega) dX7_act_13
  rw [List.length_set] at hj
  rw [ef_2, List.getD_eq_getElem?_getD, List.getElem?_set]
  by_cases q : j = pl
  · subst q; rw [pk_us, if_pos rfl, if_pos hj]; rfl
  · rw [pk_un q, if_neg (Ne.symm q), hg j hj, List.getD_eq_getElem?_getD]
