/-! the machine: what a run does, in plain Lean; ShrinkYard$Machine.execute, end, nextDigit -/
set_option maxRecDepth 100000
/-- an instruction: op, register, value, target -/
abbrev mI : Type := Nat × Nat × Int32 × Nat
def mDig (xs : List Nat) (rd : Nat) : Int32 := if rd < xs.length then nI (xs.getD rd 0) else -1
def mRegs (i : mI) (xs : List Nat) (rd : Nat) (g : Nat → Int32) : Nat → Int32 := if i.1 = 0 then upd g i.2.1 (mDig xs rd) else if i.1 = 1 then upd g i.2.1 i.2.2.1 else if i.1 = 2 then upd g i.2.1 (g i.2.1 + i.2.2.1) else if i.1 = 3 then upd g i.2.1 (g i.2.1 + g i.2.2.2) else g
def mRd (i : mI) (rd : Nat) : Nat := if i.1 = 0 then rd + 1 else rd
def mNext (i : mI) (g : Nat → Int32) (ad : Nat) : Option Nat := if i.1 = 4 then some (if g i.2.1 < i.2.2.1 then i.2.2.2 else ad + 1) else if i.1 = 5 then some (if g i.2.1 = i.2.2.1 then i.2.2.2 else ad + 1) else if i.1 = 6 then some i.2.2.2 else if i.1 = 7 ∨ i.1 = 8 then none else some (ad + 1)
def mRes : Option Nat → Int32
  | none => -1
  | some n => nI n
def mOk (i : mI) : Prop := i.1 < 9 ∧ i.2.1 < 4 ∧ i.2.2.2 < 32 ∧ (i.1 = 3 → i.2.2.2 < 4)
def g_Ins (D : va_G) (w : g_H) (a : Nat) (i : mI) : Prop := g_at w a (.inr (7, [.ref (D.2 1002 i.1), .int (nI i.2.1), .int i.2.2.1, .int (nI i.2.2.2)])) ∧ mOk i
theorem g_ord : ∀ k, k < 9 → (([0, 1, 2, 3, 4, 5, 6, 7, 8] : List Int32).getD k 0) = nI k := by decide +kernel
theorem g_ord3 : ∀ k, k < 4 → (([0, 1, 2, 3] : List Int32).getD k 0) = nI k := by decide +kernel
theorem g_op {D : va_G} {A : Nat → Prop} {k : Nat} (hk : k < 9) : ∀ s : State, g_Env D A s → va_OF "java/lang/Enum" "ordinal" "I" (.int (nI k)) (D.2 1002 k) g_no s s.heap := by
  intro s hE
  have h := (hE.2.2.2.2.2.2.1.1 k hk).2.2 _ (List.mem_singleton.mpr rfl)
  rw [g_ord k hk] at h
  exact h.narrow (fun _ z => z.elim)
theorem g_chg {D : va_G} {A : Nat → Prop} {k : Nat} (hk : k < 4) : ∀ s : State, g_Env D A s → va_OF "java/lang/Enum" "ordinal" "I" (.int (nI k)) (D.2 1004 k) g_no s s.heap := by
  intro s hE
  have h := (hE.2.2.2.2.2.2.2.2.1.1 k hk).2.2 _ (List.mem_singleton.mpr rfl)
  rw [g_ord3 k hk] at h
  exact h.narrow (fun _ z => z.elim)
theorem g_opO {D : va_G} {A : Nat → Prop} {s : State} {H : Heap} {locs : List Loc} {w : g_H} {k : Nat} (hE : g_Env D A s) (hW : g_W D A s.heap H locs w) (hk : k < 9) : ∃ cell : Cell, H[D.2 1002 k]? = some cell ∧ cell.vm.isStatics = false ∧ s.vm.findClass "Op" = some cell.cls := by
  obtain ⟨cell, c1, c2, c3, -⟩ := ((hE.2.2.2.2.2.2.1.1 k hk).2.1).kept hW.2.2.1.2.1
  exact ⟨cell, c1, c2, c3⟩
theorem g_chgO {D : va_G} {A : Nat → Prop} {s : State} {H : Heap} {locs : List Loc} {w : g_H} {k : Nat} (hE : g_Env D A s) (hW : g_W D A s.heap H locs w) (hk : k < 4) : ∃ cell : Cell, H[D.2 1004 k]? = some cell ∧ cell.vm.isStatics = false ∧ s.vm.findClass "Change" = some cell.cls := by
  obtain ⟨cell, c1, c2, c3, -⟩ := ((hE.2.2.2.2.2.2.2.2.1.1 k hk).2.1).kept hW.2.2.1.2.1
  exact ⟨cell, c1, c2, c3⟩
theorem g_opI {D : va_G} {A : Nat → Prop} {s : State} (hE : g_Env D A s) {i j : Nat} (hi : i < 9) (hj : j < 9) (h : D.2 1002 i = D.2 1002 j) : i = j := hE.2.2.2.2.2.2.1.2 i j hi hj h
theorem g_vdI {D : va_G} {A : Nat → Prop} {s : State} (hE : g_Env D A s) {i j : Nat} (hi : i < 3) (hj : j < 3) (h : D.2 1003 i = D.2 1003 j) : i = j := hE.2.2.2.2.2.2.2.1.2 i j hi hj h
set_option maxHeartbeats 4000000 in
set_option maxRecDepth 100000 in
/-- Machine.nextDigit -/
theorem mtX2_nextDigit (l : Launch) (D : va_G) (w : g_H) (sz : Nat) (m9 d da ra eb x rd st : Nat) (vv : Value) (cd : Int32) (xs : List Nat) (hm : g_at w m9 (.inr (1, [.ref ra, .ref eb, vv, .int (cd), .int (nI st), .int (nI rd), .ref x]))) (hd : g_Dig D w d da xs) (hrd : rd < 1000) : Met l yX2_nextDigit (ws_ yX2_nextDigit cX2_nextDigit 3 (some .int)) ({ frames := 1, cells := 0, slots := 0, locals := 12 }) (g_Pc D [.ref m9, .ref d] w sz) (g_Qi D w sz (fun r u => r = mDig xs rd ∧ g_at u m9 (.inr (1, [.ref ra, .ref eb, vv, .int (cd), .int (nI st), .int (nI (rd + 1)), .ref x])) ∧ g_ex (fun q => q = m9) w u)) (0) (0) (g_A w sz) := by
  refine Met.ofW (cc := cX2_nextDigit) (maxL := 3) (ret := (some .int)) (by decide) rfl ?_
  intro p e s m args below meth c s₁ B hml hv
  obtain ⟨rfl, hI⟩ := hv
  have hx := B.exec
  have hb := B.bytes
  have hr := B.returns
  have hts := atoms_spec (ws := ws_ yX2_nextDigit cX2_nextDigit 3 (some .int)) B.pre
  have hts : ∀ w ∈ lw_all, w.before _ s = true := fun w h => hts w (List.mem_cons_of_mem _ h)
  have hown : s.vm.findClass RX2 = some m.cls := findClass_of_methodNamed B.named
  have hlocks := B.notSynchronized
  have hsz := hI.1
  subst hsz
  have hW := g_W.start hI
  have hK := g_K hI
  have hE := g_E hI
  have hl := lv_entry ([.ref m9, .ref d]) (n := 3) (by exact Nat.le_of_ble_eq_true rfl)
  rw [lg_entry_eq]
  generalize (lg_sl ([.ref m9, .ref d]) ++ List.replicate (3 - (lg_sl ([.ref m9, .ref d])).length) Slot.unset).toArray = ls at hl ⊢
  have hl : lv_has ls 3 [(0, .ref m9), (1, .ref d)] := hl
  obtain ⟨hd1, ⟨g, hd2, his⟩, h8⟩ := hd
  have x_1 : g_ex (fun q => q = m9) w w := g_ex.rf
  refine lv_aload_n hx hb dX2_nextDigit_0 rfl (lv_at hl 0 rfl) ?_
  refine g_get (ci := 1) (v := .int (nI rd)) (C := RX2) (T := TX2) (N := 7) hx hb hts in_X2 hown hK hW hm rfl 5 (by decide) q198 (fun _ h9 => h9) rfl dX2_nextDigit_1 ?_
  refine lv_aload_n hx hb dX2_nextDigit_4 rfl (lv_at hl 1 rfl) ?_
  refine g_getN (ci := 2) (v := .int (nI xs.length)) (C := RX11) (T := TX11) (N := 2) hx hb hts in_X11 hown hK hW hd1 rfl 1 (by decide) (nf_q1168 hE) (fun _ h9 => h9) rfl dX2_nextDigit_5 ?_
  refine g_icmp_ge (tgt := 23) hx hb (by omega) (by omega) dX2_nextDigit_8 (by decide) (fun hc => ?_) (fun hc => ?_)
  · have e1 : mDig xs rd = -1 := if_neg (by omega)
    refine lv_iconst (v := (-1)) hx hb dX2_nextDigit_23 (by decide) ?_
    refine lv_istore_n (lv' := [(2, .int ((-1))), (0, .ref m9), (1, .ref d)]) hx hb dX2_nextDigit_24 rfl hl (by decide) rfl (fun ls hl => ?_)
    refine lv_aload_n hx hb dX2_nextDigit_25 rfl (lv_at hl 1 rfl) ?_
    refine lv_dup hx hb dX2_nextDigit_26 rfl ?_
    refine g_get (ci := 1) (v := .int (nI rd)) (C := RX2) (T := TX2) (N := 7) hx hb hts in_X2 hown hK hW hm rfl 5 (by decide) q198 (fun _ h9 => h9) rfl dX2_nextDigit_27 ?_
    refine lv_iconst (v := 1) hx hb dX2_nextDigit_30 (by decide) ?_
    refine lv_iadd hx hb dX2_nextDigit_31 ?_
    refine g_topi (y := nI (rd + 1)) (nI_1 rd) ?_
    refine g_putf (ci := 1) (v := .int (nI (rd + 1))) (ty := .int) (C := RX2) (T := TX2) (N := 7) hx hb hts in_X2 tyX2 tyX2_ok nmX2 hown hK hW hm rfl 5 (by decide) q198 (fun _ h9 => h9) rfl (by decide +kernel) rfl rfl (Nat.le_of_ble_eq_true rfl) dX2_nextDigit_32 (fun H locs hW => ?_)
    obtain ⟨w_2, ew_2⟩ : ∃ z__, z__ = g_put w m9 (.inr (1, [.ref ra, .ref eb, vv, .int (cd), .int (nI st), .int (nI (rd + 1)), .ref x])) := ⟨_, rfl⟩
    have hW := g_W.ren hW ew_2 rfl
    have h_3 : g_at w_2 m9 (.inr (1, [.ref ra, .ref eb, vv, .int (cd), .int (nI st), .int (nI (rd + 1)), .ref x])) := by rw [ew_2]; exact g_at.put_self hm.1
    have h_4 : g_at w_2 d (.inr (2, [.ref da, .int (nI xs.length)])) := by rw [ew_2]; exact hd1.put (g_neO hd1 hm (by decide))
    have h_5 : g_at w_2 da (.inl (D.1 100, 8, .inl (g))) := by rw [ew_2]; exact hd2.put (g_neAO hd2 hm)
    have x_6 : g_ex (fun q => q = m9) w w_2 := by rw [ew_2]; exact x_1.put (fun hz9 => rfl)
    refine lv_iload_n hx hb dX2_nextDigit_35 rfl (lv_at hl 0 rfl) ?_
    exact g_iret (v := (-1)) hx hb hr hlocks hW (⟨e1.symm, h_3, x_6⟩) (by omega) (by omega) dX2_nextDigit_36
  · have e1 : mDig xs rd = g rd := by rw [mDig, if_pos hc]; exact (his rd hc).symm
    refine lv_aload_n hx hb dX2_nextDigit_11 rfl (lv_at hl 1 rfl) ?_
    refine g_getN (ci := 2) (v := .ref da) (C := RX11) (T := TX11) (N := 2) hx hb hts in_X11 hown hK hW hd1 rfl 0 (by decide) (nf_q1163 hE) (fun _ h9 => h9) rfl dX2_nextDigit_12 ?_
    refine lv_aload_n hx hb dX2_nextDigit_15 rfl (lv_at hl 0 rfl) ?_
    refine g_get (ci := 1) (v := .int (nI rd)) (C := RX2) (T := TX2) (N := 7) hx hb hts in_X2 hown hK hW hm rfl 5 (by decide) q198 (fun _ h9 => h9) rfl dX2_nextDigit_16 ?_
    refine g_iald (i := rd) hx hb hK hW hd2 (by omega) (by decide) dX2_nextDigit_19 ?_
    refine lv_goto (tgt := 24) hx hb dX2_nextDigit_20 (by decide) ?_
    refine lv_istore_n (lv' := [(2, .int (g (rd))), (0, .ref m9), (1, .ref d)]) hx hb dX2_nextDigit_24 rfl hl (by decide) rfl (fun ls hl => ?_)
    refine lv_aload_n hx hb dX2_nextDigit_25 rfl (lv_at hl 1 rfl) ?_
    refine lv_dup hx hb dX2_nextDigit_26 rfl ?_
    refine g_get (ci := 1) (v := .int (nI rd)) (C := RX2) (T := TX2) (N := 7) hx hb hts in_X2 hown hK hW hm rfl 5 (by decide) q198 (fun _ h9 => h9) rfl dX2_nextDigit_27 ?_
    refine lv_iconst (v := 1) hx hb dX2_nextDigit_30 (by decide) ?_
    refine lv_iadd hx hb dX2_nextDigit_31 ?_
    refine g_topi (y := nI (rd + 1)) (nI_1 rd) ?_
    refine g_putf (ci := 1) (v := .int (nI (rd + 1))) (ty := .int) (C := RX2) (T := TX2) (N := 7) hx hb hts in_X2 tyX2 tyX2_ok nmX2 hown hK hW hm rfl 5 (by decide) q198 (fun _ h9 => h9) rfl (by decide +kernel) rfl rfl (Nat.le_of_ble_eq_true rfl) dX2_nextDigit_32 (fun H locs hW => ?_)
    obtain ⟨w_7, ew_7⟩ : ∃ z__, z__ = g_put w m9 (.inr (1, [.ref ra, .ref eb, vv, .int (cd), .int (nI st), .int (nI (rd + 1)), .ref x])) := ⟨_, rfl⟩
    have hW := g_W.ren hW ew_7 rfl
    have h_8 : g_at w_7 m9 (.inr (1, [.ref ra, .ref eb, vv, .int (cd), .int (nI st), .int (nI (rd + 1)), .ref x])) := by rw [ew_7]; exact g_at.put_self hm.1
    have h_9 : g_at w_7 d (.inr (2, [.ref da, .int (nI xs.length)])) := by rw [ew_7]; exact hd1.put (g_neO hd1 hm (by decide))
    have h_10 : g_at w_7 da (.inl (D.1 100, 8, .inl (g))) := by rw [ew_7]; exact hd2.put (g_neAO hd2 hm)
    have x_11 : g_ex (fun q => q = m9) w w_7 := by rw [ew_7]; exact x_1.put (fun hz9 => rfl)
    refine lv_iload_n hx hb dX2_nextDigit_35 rfl (lv_at hl 0 rfl) ?_
    exact g_iret (v := g (rd)) hx hb hr hlocks hW (⟨e1.symm, h_8, x_11⟩) (by omega) (by omega) dX2_nextDigit_36
set_option maxHeartbeats 4000000 in
set_option maxRecDepth 100000 in
/-- Machine.execute -/
theorem mtX2_execute (l : Launch) (D : va_G) (w : g_H) (sz : Nat) (m9 i9 d da ra eb x rd st ad op rg tg : Nat) (vl : Int32) (vv : Value) (cd : Int32) (f : Nat → Int32) (xs : List Nat) (hm : g_at w m9 (.inr (1, [.ref ra, .ref eb, vv, .int (cd), .int (nI st), .int (nI rd), .ref x]))) (hra : g_at w ra (.inl (D.1 100, 4, .inl f))) (hi : g_at w i9 (.inr (7, [.ref (D.2 1002 op), .int (nI rg), .int vl, .int (nI tg)]))) (hok : mOk (op, rg, vl, tg)) (hd : g_Dig D w d da xs) (hrd : rd < 1000) (had : ad < 1000) : Met l yX2_execute (ws_ yX2_execute cX2_execute 7 (some .int)) ({ frames := 2, cells := 0, slots := 0, locals := 34 }) (g_Pc D [.ref m9, .ref i9, .int (nI ad), .ref d] w sz) (g_Qi D w sz (fun r u => r = mRes (mNext (op, rg, vl, tg) (mRegs (op, rg, vl, tg) xs rd f) ad) ∧ g_at u m9 (.inr (1, [.ref ra, .ref eb, vv, .int (cd), .int (nI st), .int (nI (mRd (op, rg, vl, tg) rd)), .ref x])) ∧ g_at u ra (.inl (D.1 100, 4, .inl (mRegs (op, rg, vl, tg) xs rd f))) ∧ g_ex (fun q => q = m9 ∨ q = ra) w u)) (0) (0) (g_A w sz) := by
  refine Met.ofW (cc := cX2_execute) (maxL := 7) (ret := (some .int)) (by decide) rfl ?_
  intro p e s m args below meth c s₁ B hml hv
  obtain ⟨rfl, hI⟩ := hv
  have hx := B.exec
  have hb := B.bytes
  have hr := B.returns
  have hts := atoms_spec (ws := ws_ yX2_execute cX2_execute 7 (some .int)) B.pre
  have hts : ∀ w ∈ lw_all, w.before _ s = true := fun w h => hts w (List.mem_cons_of_mem _ h)
  have hown : s.vm.findClass RX2 = some m.cls := findClass_of_methodNamed B.named
  have hlocks := B.notSynchronized
  have hsz := hI.1
  subst hsz
  have hW := g_W.start hI
  have hK := g_K hI
  have hE := g_E hI
  have hl := lv_entry ([.ref m9, .ref i9, .int (nI ad), .ref d]) (n := 7) (by exact Nat.le_of_ble_eq_true rfl)
  rw [lg_entry_eq]
  generalize (lg_sl ([.ref m9, .ref i9, .int (nI ad), .ref d]) ++ List.replicate (7 - (lg_sl ([.ref m9, .ref i9, .int (nI ad), .ref d])).length) Slot.unset).toArray = ls at hl ⊢
  have hl : lv_has ls 7 [(0, .ref m9), (1, .ref i9), (2, .int (nI ad)), (3, .ref d)] := hl
  have ho : op < 9 := hok.1
  have hrg : rg < 4 := hok.2.1
  have htg : op = 3 → tg < 4 := hok.2.2.2
  have htg2 : tg < 32 := hok.2.2.1
  have x_1 : g_ex (fun q => q = m9 ∨ q = ra) w w := g_ex.rf
  refine lv_aload_n hx hb dX2_execute_0 rfl (lv_at hl 1 rfl) ?_
  refine g_calli (va_runV (As := []) (rest := []) ⟨hx, hb, hml, hown, hts⟩ (mtX5_register l D w s.heap.size i9 (D.2 1002 op) (nI rg) vl (nI tg) hi) (cwV 0 hts (lw_V q1203 q559 q560 q49 q561) rfl rfl rfl (by decide +kernel) ⟨Nat.le_of_ble_eq_true rfl, Nat.le_of_ble_eq_true rfl⟩) (g_preV hW hK hE hi rfl) rfl rfl hl.1 rfl (lv_room (Nat.le_of_ble_eq_true rfl)) dX2_execute_1 ⟨Nat.le_of_ble_eq_true rfl, Nat.le_of_ble_eq_true rfl⟩) hW (fun r_ u_ H locs hp hW => ?_)
  obtain ⟨er, rfl⟩ := hp
  subst er
  refine lv_istore (lv' := [(4, .int (nI rg)), (0, .ref m9), (1, .ref i9), (2, .int (nI ad)), (3, .ref d)]) hx hb dX2_execute_4 hl (by decide) rfl (fun ls hl => ?_)
  refine lv_aload_n hx hb dX2_execute_6 rfl (lv_at hl 2 rfl) ?_
  refine g_calli (va_runV (As := []) (rest := []) ⟨hx, hb, hml, hown, hts⟩ (mtX5_value l D w H.size i9 (D.2 1002 op) (nI rg) vl (nI tg) hi) (cwV 0 hts (lw_V q1204 q566 q567 q49 q568) rfl rfl rfl (by decide +kernel) ⟨Nat.le_of_ble_eq_true rfl, Nat.le_of_ble_eq_true rfl⟩) (g_preV hW hK hE hi rfl) rfl rfl hl.1 rfl (lv_room (Nat.le_of_ble_eq_true rfl)) dX2_execute_7 ⟨Nat.le_of_ble_eq_true rfl, Nat.le_of_ble_eq_true rfl⟩) hW (fun r_ u_ H locs hp hW => ?_)
  obtain ⟨er, rfl⟩ := hp
  rw [er]
  refine lv_istore (lv' := [(5, .int (vl)), (4, .int (nI rg)), (0, .ref m9), (1, .ref i9), (2, .int (nI ad)), (3, .ref d)]) hx hb dX2_execute_10 hl (by decide) rfl (fun ls hl => ?_)
  refine lv_aload_n hx hb dX2_execute_12 rfl (lv_at hl 3 rfl) ?_
  refine g_calli (va_runV (As := []) (rest := []) ⟨hx, hb, hml, hown, hts⟩ (mtX5_target l D w H.size i9 (D.2 1002 op) (nI rg) vl (nI tg) hi) (cwV 0 hts (lw_V q1205 q570 q571 q49 q572) rfl rfl rfl (by decide +kernel) ⟨Nat.le_of_ble_eq_true rfl, Nat.le_of_ble_eq_true rfl⟩) (g_preV hW hK hE hi rfl) rfl rfl hl.1 rfl (lv_room (Nat.le_of_ble_eq_true rfl)) dX2_execute_13 ⟨Nat.le_of_ble_eq_true rfl, Nat.le_of_ble_eq_true rfl⟩) hW (fun r_ u_ H locs hp hW => ?_)
  obtain ⟨er, rfl⟩ := hp
  subst er
  refine lv_istore (lv' := [(6, .int (nI tg)), (5, .int (vl)), (4, .int (nI rg)), (0, .ref m9), (1, .ref i9), (2, .int (nI ad)), (3, .ref d)]) hx hb dX2_execute_16 hl (by decide) rfl (fun ls hl => ?_)
  have hop : op = 0 ∨ op = 1 ∨ op = 2 ∨ op = 3 ∨ op = 4 ∨ op = 5 ∨ op = 6 ∨ op = 7 ∨ op = 8 := by omega
  rcases hop with rfl | rfl | rfl | rfl | rfl | rfl | rfl | rfl | rfl
  · refine lv_aload_n hx hb dX2_execute_18 rfl (lv_at hl 4 rfl) ?_
    refine g_callq (va_runV (As := []) (rest := []) ⟨hx, hb, hml, hown, hts⟩ (mtX5_op l D w H.size i9 (D.2 1002 0) (nI rg) vl (nI tg) hi) (cwV 0 hts (lw_V q1206 q554 q555 q49 q556) rfl rfl rfl (by decide +kernel) ⟨Nat.le_of_ble_eq_true rfl, Nat.le_of_ble_eq_true rfl⟩) (g_preV hW hK hE hi rfl) rfl rfl hl.1 rfl (lv_room (Nat.le_of_ble_eq_true rfl)) dX2_execute_19 ⟨Nat.le_of_ble_eq_true rfl, Nat.le_of_ble_eq_true rfl⟩) hW (fun r_ u_ H locs hp hW => ?_)
    obtain ⟨er, rfl⟩ := hp
    subst er
    refine g_calli (va_runU (As := []) (rest := []) ⟨hx, hb, hml, hown, hts⟩ (mtJ10_ordinal l D w H.size (D.2 1002 0) (nI 0) (fun s hE => g_op (by decide) s hE)) (va_cwU (owner := "java/lang/Enum") (x := ⟨"Op", "ordinal", "()I"⟩) 0 hts (lw_app (lw_in _ [1207, 1208, 1209, 678, 50] (by decide +kernel) (by decide +kernel)) (lw_meth q679)) rfl rfl rfl rfl (by decide +kernel) ⟨Nat.le_of_ble_eq_true rfl, Nat.le_of_ble_eq_true rfl⟩) (g_preVR hW hK hE (g_opO hE hW (by decide))) rfl rfl hl.1 rfl (lv_room (Nat.le_of_ble_eq_true rfl)) dX2_execute_22 ⟨Nat.le_of_ble_eq_true rfl, Nat.le_of_ble_eq_true rfl⟩) hW (fun r_ u_ H locs hp hW => ?_)
    obtain ⟨er, rfl⟩ := hp
    subst er
    refine lv_tableIn (tgt := 56) hx hb dX2_execute_25 (by decide) (by decide) rfl (by decide) ?_
    refine lv_aload_n hx hb dX2_execute_56 rfl (lv_at hl 3 rfl) ?_
    refine g_get (ci := 1) (v := .ref ra) (C := RX2) (T := TX2) (N := 7) hx hb hts in_X2 hown hK hW hm rfl 0 (by decide) q189 (fun _ h9 => h9) rfl dX2_execute_57 ?_
    refine lv_iload hx hb dX2_execute_60 (lv_at hl 2 rfl) ?_
    refine lv_aload_n hx hb dX2_execute_62 rfl (lv_at hl 3 rfl) ?_
    refine lv_aload_n hx hb dX2_execute_63 rfl (lv_at hl 6 rfl) ?_
    refine g_calli (va_runV (As := [.ref d]) (rest := [.int (nI rg), .ref ra]) ⟨hx, hb, hml, hown, hts⟩ (mtX2_nextDigit l D w H.size m9 d da ra eb x rd st vv cd xs hm hd hrd) (cwV 1 hts (lw_V q1210 q1212 qs10 q38 q1213) rfl rfl rfl (by decide +kernel) ⟨Nat.le_of_ble_eq_true rfl, Nat.le_of_ble_eq_true rfl⟩) (g_preV hW hK hE hm rfl) rfl rfl hl.1 rfl (lv_room (Nat.le_of_ble_eq_true rfl)) dX2_execute_64 ⟨Nat.le_of_ble_eq_true rfl, Nat.le_of_ble_eq_true rfl⟩) hW (fun r_ u1 H locs hp hW => ?_)
    obtain ⟨er, hm1, hex1⟩ := hp
    subst er
    have hra1 := hex1.at hra (fun z => g_neAO hra hm z)
    have hi1 := hex1.at hi (fun z => g_neO hi hm (by decide) z)
    have hex2 : g_ex (fun q => q = m9 ∨ q = ra) w u1 := hex1.mono (fun _ _ z => Or.inl z)
    refine g_iast (i := rg) hx hb hK hW hra1 (hrg) (by decide) dX2_execute_67 (fun H locs hW => ?_)
    obtain ⟨f_2, ef_2⟩ : ∃ z__, z__ = upd (f) (rg) (mDig xs rd) := ⟨_, rfl⟩
    rw [← ef_2] at hW
    obtain ⟨w_3, ew_3⟩ : ∃ z__, z__ = g_put u1 ra (.inl (D.1 100, 4, .inl (f_2))) := ⟨_, rfl⟩
    have hW := g_W.ren hW ew_3 rfl
    have h_4 : g_at w_3 m9 (.inr (1, [.ref ra, .ref eb, vv, .int (cd), .int (nI st), .int (nI (rd + 1)), .ref x])) := by rw [ew_3]; exact hm1.put (g_neOA hm1 hra1)
    have h_5 : g_at w_3 ra (.inl (D.1 100, 4, .inl (f_2))) := by rw [ew_3]; exact g_at.put_self hra1.1
    have h_6 : g_at w_3 i9 (.inr (7, [.ref (D.2 1002 0), .int (nI rg), .int (vl), .int (nI tg)])) := by rw [ew_3]; exact hi1.put (g_neOA hi1 hra1)
    have x_7 : g_ex (fun q => q = m9 ∨ q = ra) w w_3 := by rw [ew_3]; exact hex2.put (fun hz9 => (Or.inr rfl))
    refine lv_goto (tgt := 118) hx hb dX2_execute_68 (by decide) ?_
    refine lv_aload_n hx hb dX2_execute_118 rfl (lv_at hl 4 rfl) ?_
    refine g_callq (va_runV (As := []) (rest := []) ⟨hx, hb, hml, hown, hts⟩ (mtX5_op l D w_3 H.size i9 (D.2 1002 0) (nI rg) vl (nI tg) h_6) (cwV 0 hts (lw_V q1206 q554 q555 q49 q556) rfl rfl rfl (by decide +kernel) ⟨Nat.le_of_ble_eq_true rfl, Nat.le_of_ble_eq_true rfl⟩) (g_preV hW hK hE h_6 rfl) rfl rfl hl.1 rfl (lv_room (Nat.le_of_ble_eq_true rfl)) dX2_execute_119 ⟨Nat.le_of_ble_eq_true rfl, Nat.le_of_ble_eq_true rfl⟩) hW (fun r_ u_ H locs hp hW => ?_)
    obtain ⟨er, rfl⟩ := hp
    subst er
    refine g_calli (va_runU (As := []) (rest := []) ⟨hx, hb, hml, hown, hts⟩ (mtJ10_ordinal l D w_3 H.size (D.2 1002 0) (nI 0) (fun s hE => g_op (by decide) s hE)) (va_cwU (owner := "java/lang/Enum") (x := ⟨"Op", "ordinal", "()I"⟩) 0 hts (lw_app (lw_in _ [1207, 1208, 1209, 678, 50] (by decide +kernel) (by decide +kernel)) (lw_meth q679)) rfl rfl rfl rfl (by decide +kernel) ⟨Nat.le_of_ble_eq_true rfl, Nat.le_of_ble_eq_true rfl⟩) (g_preVR hW hK hE (g_opO hE hW (by decide))) rfl rfl hl.1 rfl (lv_room (Nat.le_of_ble_eq_true rfl)) dX2_execute_122 ⟨Nat.le_of_ble_eq_true rfl, Nat.le_of_ble_eq_true rfl⟩) hW (fun r_ u_ H locs hp hW => ?_)
    obtain ⟨er, rfl⟩ := hp
    subst er
    refine lv_tableOut (tgt := 215) hx hb dX2_execute_125 (by decide) (by decide) ?_
    refine lv_iload_n hx hb dX2_execute_215 rfl (lv_at hl 5 rfl) ?_
    refine lv_iconst (v := 1) hx hb dX2_execute_216 (by decide) ?_
    refine lv_iadd hx hb dX2_execute_217 ?_
    refine g_topi (y := nI (ad + 1)) (nI_1 ad) ?_
    have hrr : mRegs (0, rg, vl, tg) xs rd f = f_2 := by first | rfl | (rw [ef_2]; rfl)
    have hrd9 : mRd (0, rg, vl, tg) rd = rd + 1 := rfl
    exact g_iret (v := nI (ad + 1)) hx hb hr hlocks hW (⟨rfl, by rw [hrd9]; exact h_4, by rw [hrr]; exact h_5, x_7⟩) (by omega) (by omega) dX2_execute_218
  · refine lv_aload_n hx hb dX2_execute_18 rfl (lv_at hl 4 rfl) ?_
    refine g_callq (va_runV (As := []) (rest := []) ⟨hx, hb, hml, hown, hts⟩ (mtX5_op l D w H.size i9 (D.2 1002 1) (nI rg) vl (nI tg) hi) (cwV 0 hts (lw_V q1206 q554 q555 q49 q556) rfl rfl rfl (by decide +kernel) ⟨Nat.le_of_ble_eq_true rfl, Nat.le_of_ble_eq_true rfl⟩) (g_preV hW hK hE hi rfl) rfl rfl hl.1 rfl (lv_room (Nat.le_of_ble_eq_true rfl)) dX2_execute_19 ⟨Nat.le_of_ble_eq_true rfl, Nat.le_of_ble_eq_true rfl⟩) hW (fun r_ u_ H locs hp hW => ?_)
    obtain ⟨er, rfl⟩ := hp
    subst er
    refine g_calli (va_runU (As := []) (rest := []) ⟨hx, hb, hml, hown, hts⟩ (mtJ10_ordinal l D w H.size (D.2 1002 1) (nI 1) (fun s hE => g_op (by decide) s hE)) (va_cwU (owner := "java/lang/Enum") (x := ⟨"Op", "ordinal", "()I"⟩) 0 hts (lw_app (lw_in _ [1207, 1208, 1209, 678, 50] (by decide +kernel) (by decide +kernel)) (lw_meth q679)) rfl rfl rfl rfl (by decide +kernel) ⟨Nat.le_of_ble_eq_true rfl, Nat.le_of_ble_eq_true rfl⟩) (g_preVR hW hK hE (g_opO hE hW (by decide))) rfl rfl hl.1 rfl (lv_room (Nat.le_of_ble_eq_true rfl)) dX2_execute_22 ⟨Nat.le_of_ble_eq_true rfl, Nat.le_of_ble_eq_true rfl⟩) hW (fun r_ u_ H locs hp hW => ?_)
    obtain ⟨er, rfl⟩ := hp
    subst er
    refine lv_tableIn (tgt := 71) hx hb dX2_execute_25 (by decide) (by decide) rfl (by decide) ?_
    refine lv_aload_n hx hb dX2_execute_71 rfl (lv_at hl 3 rfl) ?_
    refine g_get (ci := 1) (v := .ref ra) (C := RX2) (T := TX2) (N := 7) hx hb hts in_X2 hown hK hW hm rfl 0 (by decide) q189 (fun _ h9 => h9) rfl dX2_execute_72 ?_
    refine lv_iload hx hb dX2_execute_75 (lv_at hl 2 rfl) ?_
    refine lv_iload hx hb dX2_execute_77 (lv_at hl 1 rfl) ?_
    refine g_iast (i := rg) hx hb hK hW hra (hrg) (by decide) dX2_execute_79 (fun H locs hW => ?_)
    obtain ⟨f_8, ef_8⟩ : ∃ z__, z__ = upd (f) (rg) (vl) := ⟨_, rfl⟩
    rw [← ef_8] at hW
    obtain ⟨w_9, ew_9⟩ : ∃ z__, z__ = g_put w ra (.inl (D.1 100, 4, .inl (f_8))) := ⟨_, rfl⟩
    have hW := g_W.ren hW ew_9 rfl
    have h_10 : g_at w_9 m9 (.inr (1, [.ref ra, .ref eb, vv, .int (cd), .int (nI st), .int (nI rd), .ref x])) := by rw [ew_9]; exact hm.put (g_neOA hm hra)
    have h_11 : g_at w_9 ra (.inl (D.1 100, 4, .inl (f_8))) := by rw [ew_9]; exact g_at.put_self hra.1
    have h_12 : g_at w_9 i9 (.inr (7, [.ref (D.2 1002 1), .int (nI rg), .int (vl), .int (nI tg)])) := by rw [ew_9]; exact hi.put (g_neOA hi hra)
    have x_13 : g_ex (fun q => q = m9 ∨ q = ra) w w_9 := by rw [ew_9]; exact x_1.put (fun hz9 => (Or.inr rfl))
    refine lv_goto (tgt := 118) hx hb dX2_execute_80 (by decide) ?_
    refine lv_aload_n hx hb dX2_execute_118 rfl (lv_at hl 4 rfl) ?_
    refine g_callq (va_runV (As := []) (rest := []) ⟨hx, hb, hml, hown, hts⟩ (mtX5_op l D w_9 H.size i9 (D.2 1002 1) (nI rg) vl (nI tg) h_12) (cwV 0 hts (lw_V q1206 q554 q555 q49 q556) rfl rfl rfl (by decide +kernel) ⟨Nat.le_of_ble_eq_true rfl, Nat.le_of_ble_eq_true rfl⟩) (g_preV hW hK hE h_12 rfl) rfl rfl hl.1 rfl (lv_room (Nat.le_of_ble_eq_true rfl)) dX2_execute_119 ⟨Nat.le_of_ble_eq_true rfl, Nat.le_of_ble_eq_true rfl⟩) hW (fun r_ u_ H locs hp hW => ?_)
    obtain ⟨er, rfl⟩ := hp
    subst er
    refine g_calli (va_runU (As := []) (rest := []) ⟨hx, hb, hml, hown, hts⟩ (mtJ10_ordinal l D w_9 H.size (D.2 1002 1) (nI 1) (fun s hE => g_op (by decide) s hE)) (va_cwU (owner := "java/lang/Enum") (x := ⟨"Op", "ordinal", "()I"⟩) 0 hts (lw_app (lw_in _ [1207, 1208, 1209, 678, 50] (by decide +kernel) (by decide +kernel)) (lw_meth q679)) rfl rfl rfl rfl (by decide +kernel) ⟨Nat.le_of_ble_eq_true rfl, Nat.le_of_ble_eq_true rfl⟩) (g_preVR hW hK hE (g_opO hE hW (by decide))) rfl rfl hl.1 rfl (lv_room (Nat.le_of_ble_eq_true rfl)) dX2_execute_122 ⟨Nat.le_of_ble_eq_true rfl, Nat.le_of_ble_eq_true rfl⟩) hW (fun r_ u_ H locs hp hW => ?_)
    obtain ⟨er, rfl⟩ := hp
    subst er
    refine lv_tableOut (tgt := 215) hx hb dX2_execute_125 (by decide) (by decide) ?_
    refine lv_iload_n hx hb dX2_execute_215 rfl (lv_at hl 5 rfl) ?_
    refine lv_iconst (v := 1) hx hb dX2_execute_216 (by decide) ?_
    refine lv_iadd hx hb dX2_execute_217 ?_
    refine g_topi (y := nI (ad + 1)) (nI_1 ad) ?_
    have hrr : mRegs (1, rg, vl, tg) xs rd f = f_8 := by first | rfl | (rw [ef_8]; rfl)
    have hrd9 : mRd (1, rg, vl, tg) rd = rd := rfl
    exact g_iret (v := nI (ad + 1)) hx hb hr hlocks hW (⟨rfl, by rw [hrd9]; exact h_10, by rw [hrr]; exact h_11, x_13⟩) (by omega) (by omega) dX2_execute_218
  · refine lv_aload_n hx hb dX2_execute_18 rfl (lv_at hl 4 rfl) ?_
    refine g_callq (va_runV (As := []) (rest := []) ⟨hx, hb, hml, hown, hts⟩ (mtX5_op l D w H.size i9 (D.2 1002 2) (nI rg) vl (nI tg) hi) (cwV 0 hts (lw_V q1206 q554 q555 q49 q556) rfl rfl rfl (by decide +kernel) ⟨Nat.le_of_ble_eq_true rfl, Nat.le_of_ble_eq_true rfl⟩) (g_preV hW hK hE hi rfl) rfl rfl hl.1 rfl (lv_room (Nat.le_of_ble_eq_true rfl)) dX2_execute_19 ⟨Nat.le_of_ble_eq_true rfl, Nat.le_of_ble_eq_true rfl⟩) hW (fun r_ u_ H locs hp hW => ?_)
    obtain ⟨er, rfl⟩ := hp
    subst er
    refine g_calli (va_runU (As := []) (rest := []) ⟨hx, hb, hml, hown, hts⟩ (mtJ10_ordinal l D w H.size (D.2 1002 2) (nI 2) (fun s hE => g_op (by decide) s hE)) (va_cwU (owner := "java/lang/Enum") (x := ⟨"Op", "ordinal", "()I"⟩) 0 hts (lw_app (lw_in _ [1207, 1208, 1209, 678, 50] (by decide +kernel) (by decide +kernel)) (lw_meth q679)) rfl rfl rfl rfl (by decide +kernel) ⟨Nat.le_of_ble_eq_true rfl, Nat.le_of_ble_eq_true rfl⟩) (g_preVR hW hK hE (g_opO hE hW (by decide))) rfl rfl hl.1 rfl (lv_room (Nat.le_of_ble_eq_true rfl)) dX2_execute_22 ⟨Nat.le_of_ble_eq_true rfl, Nat.le_of_ble_eq_true rfl⟩) hW (fun r_ u_ H locs hp hW => ?_)
    obtain ⟨er, rfl⟩ := hp
    subst er
    refine lv_tableIn (tgt := 83) hx hb dX2_execute_25 (by decide) (by decide) rfl (by decide) ?_
    refine lv_aload_n hx hb dX2_execute_83 rfl (lv_at hl 3 rfl) ?_
    refine g_get (ci := 1) (v := .ref ra) (C := RX2) (T := TX2) (N := 7) hx hb hts in_X2 hown hK hW hm rfl 0 (by decide) q189 (fun _ h9 => h9) rfl dX2_execute_84 ?_
    refine lv_iload hx hb dX2_execute_87 (lv_at hl 2 rfl) ?_
    refine lv_dup2_11 hx hb dX2_execute_89 rfl rfl ?_
    refine g_iald (i := rg) hx hb hK hW hra (hrg) (by decide) dX2_execute_90 ?_
    refine lv_iload hx hb dX2_execute_91 (lv_at hl 1 rfl) ?_
    refine lv_iadd hx hb dX2_execute_93 ?_
    refine g_iast (i := rg) hx hb hK hW hra (hrg) (by decide) dX2_execute_94 (fun H locs hW => ?_)
    obtain ⟨f_14, ef_14⟩ : ∃ z__, z__ = upd (f) (rg) ((f (rg)) + (vl)) := ⟨_, rfl⟩
    rw [← ef_14] at hW
    obtain ⟨w_15, ew_15⟩ : ∃ z__, z__ = g_put w ra (.inl (D.1 100, 4, .inl (f_14))) := ⟨_, rfl⟩
    have hW := g_W.ren hW ew_15 rfl
    have h_16 : g_at w_15 m9 (.inr (1, [.ref ra, .ref eb, vv, .int (cd), .int (nI st), .int (nI rd), .ref x])) := by rw [ew_15]; exact hm.put (g_neOA hm hra)
    have h_17 : g_at w_15 ra (.inl (D.1 100, 4, .inl (f_14))) := by rw [ew_15]; exact g_at.put_self hra.1
    have h_18 : g_at w_15 i9 (.inr (7, [.ref (D.2 1002 2), .int (nI rg), .int (vl), .int (nI tg)])) := by rw [ew_15]; exact hi.put (g_neOA hi hra)
    have x_19 : g_ex (fun q => q = m9 ∨ q = ra) w w_15 := by rw [ew_15]; exact x_1.put (fun hz9 => (Or.inr rfl))
    refine lv_goto (tgt := 118) hx hb dX2_execute_95 (by decide) ?_
    refine lv_aload_n hx hb dX2_execute_118 rfl (lv_at hl 4 rfl) ?_
    refine g_callq (va_runV (As := []) (rest := []) ⟨hx, hb, hml, hown, hts⟩ (mtX5_op l D w_15 H.size i9 (D.2 1002 2) (nI rg) vl (nI tg) h_18) (cwV 0 hts (lw_V q1206 q554 q555 q49 q556) rfl rfl rfl (by decide +kernel) ⟨Nat.le_of_ble_eq_true rfl, Nat.le_of_ble_eq_true rfl⟩) (g_preV hW hK hE h_18 rfl) rfl rfl hl.1 rfl (lv_room (Nat.le_of_ble_eq_true rfl)) dX2_execute_119 ⟨Nat.le_of_ble_eq_true rfl, Nat.le_of_ble_eq_true rfl⟩) hW (fun r_ u_ H locs hp hW => ?_)
    obtain ⟨er, rfl⟩ := hp
    subst er
    refine g_calli (va_runU (As := []) (rest := []) ⟨hx, hb, hml, hown, hts⟩ (mtJ10_ordinal l D w_15 H.size (D.2 1002 2) (nI 2) (fun s hE => g_op (by decide) s hE)) (va_cwU (owner := "java/lang/Enum") (x := ⟨"Op", "ordinal", "()I"⟩) 0 hts (lw_app (lw_in _ [1207, 1208, 1209, 678, 50] (by decide +kernel) (by decide +kernel)) (lw_meth q679)) rfl rfl rfl rfl (by decide +kernel) ⟨Nat.le_of_ble_eq_true rfl, Nat.le_of_ble_eq_true rfl⟩) (g_preVR hW hK hE (g_opO hE hW (by decide))) rfl rfl hl.1 rfl (lv_room (Nat.le_of_ble_eq_true rfl)) dX2_execute_122 ⟨Nat.le_of_ble_eq_true rfl, Nat.le_of_ble_eq_true rfl⟩) hW (fun r_ u_ H locs hp hW => ?_)
    obtain ⟨er, rfl⟩ := hp
    subst er
    refine lv_tableOut (tgt := 215) hx hb dX2_execute_125 (by decide) (by decide) ?_
    refine lv_iload_n hx hb dX2_execute_215 rfl (lv_at hl 5 rfl) ?_
    refine lv_iconst (v := 1) hx hb dX2_execute_216 (by decide) ?_
    refine lv_iadd hx hb dX2_execute_217 ?_
    refine g_topi (y := nI (ad + 1)) (nI_1 ad) ?_
    have hrr : mRegs (2, rg, vl, tg) xs rd f = f_14 := by first | rfl | (rw [ef_14]; rfl)
    have hrd9 : mRd (2, rg, vl, tg) rd = rd := rfl
    exact g_iret (v := nI (ad + 1)) hx hb hr hlocks hW (⟨rfl, by rw [hrd9]; exact h_16, by rw [hrr]; exact h_17, x_19⟩) (by omega) (by omega) dX2_execute_218
  · refine lv_aload_n hx hb dX2_execute_18 rfl (lv_at hl 4 rfl) ?_
    refine g_callq (va_runV (As := []) (rest := []) ⟨hx, hb, hml, hown, hts⟩ (mtX5_op l D w H.size i9 (D.2 1002 3) (nI rg) vl (nI tg) hi) (cwV 0 hts (lw_V q1206 q554 q555 q49 q556) rfl rfl rfl (by decide +kernel) ⟨Nat.le_of_ble_eq_true rfl, Nat.le_of_ble_eq_true rfl⟩) (g_preV hW hK hE hi rfl) rfl rfl hl.1 rfl (lv_room (Nat.le_of_ble_eq_true rfl)) dX2_execute_19 ⟨Nat.le_of_ble_eq_true rfl, Nat.le_of_ble_eq_true rfl⟩) hW (fun r_ u_ H locs hp hW => ?_)
    obtain ⟨er, rfl⟩ := hp
    subst er
    refine g_calli (va_runU (As := []) (rest := []) ⟨hx, hb, hml, hown, hts⟩ (mtJ10_ordinal l D w H.size (D.2 1002 3) (nI 3) (fun s hE => g_op (by decide) s hE)) (va_cwU (owner := "java/lang/Enum") (x := ⟨"Op", "ordinal", "()I"⟩) 0 hts (lw_app (lw_in _ [1207, 1208, 1209, 678, 50] (by decide +kernel) (by decide +kernel)) (lw_meth q679)) rfl rfl rfl rfl (by decide +kernel) ⟨Nat.le_of_ble_eq_true rfl, Nat.le_of_ble_eq_true rfl⟩) (g_preVR hW hK hE (g_opO hE hW (by decide))) rfl rfl hl.1 rfl (lv_room (Nat.le_of_ble_eq_true rfl)) dX2_execute_22 ⟨Nat.le_of_ble_eq_true rfl, Nat.le_of_ble_eq_true rfl⟩) hW (fun r_ u_ H locs hp hW => ?_)
    obtain ⟨er, rfl⟩ := hp
    subst er
    refine lv_tableIn (tgt := 98) hx hb dX2_execute_25 (by decide) (by decide) rfl (by decide) ?_
    refine lv_aload_n hx hb dX2_execute_98 rfl (lv_at hl 3 rfl) ?_
    refine g_get (ci := 1) (v := .ref ra) (C := RX2) (T := TX2) (N := 7) hx hb hts in_X2 hown hK hW hm rfl 0 (by decide) q189 (fun _ h9 => h9) rfl dX2_execute_99 ?_
    refine lv_iload hx hb dX2_execute_102 (lv_at hl 2 rfl) ?_
    refine lv_dup2_11 hx hb dX2_execute_104 rfl rfl ?_
    refine g_iald (i := rg) hx hb hK hW hra (hrg) (by decide) dX2_execute_105 ?_
    refine lv_aload_n hx hb dX2_execute_106 rfl (lv_at hl 3 rfl) ?_
    refine g_get (ci := 1) (v := .ref ra) (C := RX2) (T := TX2) (N := 7) hx hb hts in_X2 hown hK hW hm rfl 0 (by decide) q189 (fun _ h9 => h9) rfl dX2_execute_107 ?_
    refine lv_iload hx hb dX2_execute_110 (lv_at hl 0 rfl) ?_
    refine g_iald (i := tg) hx hb hK hW hra (htg rfl) (by decide) dX2_execute_112 ?_
    refine lv_iadd hx hb dX2_execute_113 ?_
    refine g_iast (i := rg) hx hb hK hW hra (hrg) (by decide) dX2_execute_114 (fun H locs hW => ?_)
    obtain ⟨f_20, ef_20⟩ : ∃ z__, z__ = upd (f) (rg) ((f (rg)) + (f (tg))) := ⟨_, rfl⟩
    rw [← ef_20] at hW
    obtain ⟨w_21, ew_21⟩ : ∃ z__, z__ = g_put w ra (.inl (D.1 100, 4, .inl (f_20))) := ⟨_, rfl⟩
    have hW := g_W.ren hW ew_21 rfl
    have h_22 : g_at w_21 m9 (.inr (1, [.ref ra, .ref eb, vv, .int (cd), .int (nI st), .int (nI rd), .ref x])) := by rw [ew_21]; exact hm.put (g_neOA hm hra)
    have h_23 : g_at w_21 ra (.inl (D.1 100, 4, .inl (f_20))) := by rw [ew_21]; exact g_at.put_self hra.1
    have h_24 : g_at w_21 i9 (.inr (7, [.ref (D.2 1002 3), .int (nI rg), .int (vl), .int (nI tg)])) := by rw [ew_21]; exact hi.put (g_neOA hi hra)
    have x_25 : g_ex (fun q => q = m9 ∨ q = ra) w w_21 := by rw [ew_21]; exact x_1.put (fun hz9 => (Or.inr rfl))
    refine lv_goto (tgt := 118) hx hb dX2_execute_115 (by decide) ?_
    refine lv_aload_n hx hb dX2_execute_118 rfl (lv_at hl 4 rfl) ?_
    refine g_callq (va_runV (As := []) (rest := []) ⟨hx, hb, hml, hown, hts⟩ (mtX5_op l D w_21 H.size i9 (D.2 1002 3) (nI rg) vl (nI tg) h_24) (cwV 0 hts (lw_V q1206 q554 q555 q49 q556) rfl rfl rfl (by decide +kernel) ⟨Nat.le_of_ble_eq_true rfl, Nat.le_of_ble_eq_true rfl⟩) (g_preV hW hK hE h_24 rfl) rfl rfl hl.1 rfl (lv_room (Nat.le_of_ble_eq_true rfl)) dX2_execute_119 ⟨Nat.le_of_ble_eq_true rfl, Nat.le_of_ble_eq_true rfl⟩) hW (fun r_ u_ H locs hp hW => ?_)
    obtain ⟨er, rfl⟩ := hp
    subst er
    refine g_calli (va_runU (As := []) (rest := []) ⟨hx, hb, hml, hown, hts⟩ (mtJ10_ordinal l D w_21 H.size (D.2 1002 3) (nI 3) (fun s hE => g_op (by decide) s hE)) (va_cwU (owner := "java/lang/Enum") (x := ⟨"Op", "ordinal", "()I"⟩) 0 hts (lw_app (lw_in _ [1207, 1208, 1209, 678, 50] (by decide +kernel) (by decide +kernel)) (lw_meth q679)) rfl rfl rfl rfl (by decide +kernel) ⟨Nat.le_of_ble_eq_true rfl, Nat.le_of_ble_eq_true rfl⟩) (g_preVR hW hK hE (g_opO hE hW (by decide))) rfl rfl hl.1 rfl (lv_room (Nat.le_of_ble_eq_true rfl)) dX2_execute_122 ⟨Nat.le_of_ble_eq_true rfl, Nat.le_of_ble_eq_true rfl⟩) hW (fun r_ u_ H locs hp hW => ?_)
    obtain ⟨er, rfl⟩ := hp
    subst er
    refine lv_tableOut (tgt := 215) hx hb dX2_execute_125 (by decide) (by decide) ?_
    refine lv_iload_n hx hb dX2_execute_215 rfl (lv_at hl 5 rfl) ?_
    refine lv_iconst (v := 1) hx hb dX2_execute_216 (by decide) ?_
    refine lv_iadd hx hb dX2_execute_217 ?_
    refine g_topi (y := nI (ad + 1)) (nI_1 ad) ?_
    have hrr : mRegs (3, rg, vl, tg) xs rd f = f_20 := by first | rfl | (rw [ef_20]; rfl)
    have hrd9 : mRd (3, rg, vl, tg) rd = rd := rfl
    exact g_iret (v := nI (ad + 1)) hx hb hr hlocks hW (⟨rfl, by rw [hrd9]; exact h_22, by rw [hrr]; exact h_23, x_25⟩) (by omega) (by omega) dX2_execute_218
  · refine lv_aload_n hx hb dX2_execute_18 rfl (lv_at hl 4 rfl) ?_
    refine g_callq (va_runV (As := []) (rest := []) ⟨hx, hb, hml, hown, hts⟩ (mtX5_op l D w H.size i9 (D.2 1002 4) (nI rg) vl (nI tg) hi) (cwV 0 hts (lw_V q1206 q554 q555 q49 q556) rfl rfl rfl (by decide +kernel) ⟨Nat.le_of_ble_eq_true rfl, Nat.le_of_ble_eq_true rfl⟩) (g_preV hW hK hE hi rfl) rfl rfl hl.1 rfl (lv_room (Nat.le_of_ble_eq_true rfl)) dX2_execute_19 ⟨Nat.le_of_ble_eq_true rfl, Nat.le_of_ble_eq_true rfl⟩) hW (fun r_ u_ H locs hp hW => ?_)
    obtain ⟨er, rfl⟩ := hp
    subst er
    refine g_calli (va_runU (As := []) (rest := []) ⟨hx, hb, hml, hown, hts⟩ (mtJ10_ordinal l D w H.size (D.2 1002 4) (nI 4) (fun s hE => g_op (by decide) s hE)) (va_cwU (owner := "java/lang/Enum") (x := ⟨"Op", "ordinal", "()I"⟩) 0 hts (lw_app (lw_in _ [1207, 1208, 1209, 678, 50] (by decide +kernel) (by decide +kernel)) (lw_meth q679)) rfl rfl rfl rfl (by decide +kernel) ⟨Nat.le_of_ble_eq_true rfl, Nat.le_of_ble_eq_true rfl⟩) (g_preVR hW hK hE (g_opO hE hW (by decide))) rfl rfl hl.1 rfl (lv_room (Nat.le_of_ble_eq_true rfl)) dX2_execute_22 ⟨Nat.le_of_ble_eq_true rfl, Nat.le_of_ble_eq_true rfl⟩) hW (fun r_ u_ H locs hp hW => ?_)
    obtain ⟨er, rfl⟩ := hp
    subst er
    refine lv_tableOut (tgt := 118) hx hb dX2_execute_25 (by decide) (by decide) ?_
    refine lv_aload_n hx hb dX2_execute_118 rfl (lv_at hl 4 rfl) ?_
    refine g_callq (va_runV (As := []) (rest := []) ⟨hx, hb, hml, hown, hts⟩ (mtX5_op l D w H.size i9 (D.2 1002 4) (nI rg) vl (nI tg) hi) (cwV 0 hts (lw_V q1206 q554 q555 q49 q556) rfl rfl rfl (by decide +kernel) ⟨Nat.le_of_ble_eq_true rfl, Nat.le_of_ble_eq_true rfl⟩) (g_preV hW hK hE hi rfl) rfl rfl hl.1 rfl (lv_room (Nat.le_of_ble_eq_true rfl)) dX2_execute_119 ⟨Nat.le_of_ble_eq_true rfl, Nat.le_of_ble_eq_true rfl⟩) hW (fun r_ u_ H locs hp hW => ?_)
    obtain ⟨er, rfl⟩ := hp
    subst er
    refine g_calli (va_runU (As := []) (rest := []) ⟨hx, hb, hml, hown, hts⟩ (mtJ10_ordinal l D w H.size (D.2 1002 4) (nI 4) (fun s hE => g_op (by decide) s hE)) (va_cwU (owner := "java/lang/Enum") (x := ⟨"Op", "ordinal", "()I"⟩) 0 hts (lw_app (lw_in _ [1207, 1208, 1209, 678, 50] (by decide +kernel) (by decide +kernel)) (lw_meth q679)) rfl rfl rfl rfl (by decide +kernel) ⟨Nat.le_of_ble_eq_true rfl, Nat.le_of_ble_eq_true rfl⟩) (g_preVR hW hK hE (g_opO hE hW (by decide))) rfl rfl hl.1 rfl (lv_room (Nat.le_of_ble_eq_true rfl)) dX2_execute_122 ⟨Nat.le_of_ble_eq_true rfl, Nat.le_of_ble_eq_true rfl⟩) hW (fun r_ u_ H locs hp hW => ?_)
    obtain ⟨er, rfl⟩ := hp
    subst er
    refine lv_tableIn (tgt := 160) hx hb dX2_execute_125 (by decide) (by decide) rfl (by decide) ?_
    refine lv_aload_n hx hb dX2_execute_160 rfl (lv_at hl 3 rfl) ?_
    refine g_get (ci := 1) (v := .ref ra) (C := RX2) (T := TX2) (N := 7) hx hb hts in_X2 hown hK hW hm rfl 0 (by decide) q189 (fun _ h9 => h9) rfl dX2_execute_161 ?_
    refine lv_iload hx hb dX2_execute_164 (lv_at hl 2 rfl) ?_
    refine g_iald (i := rg) hx hb hK hW hra (hrg) (by decide) dX2_execute_166 ?_
    refine lv_iload hx hb dX2_execute_167 (lv_at hl 1 rfl) ?_
    refine lv_icmp_ge (tgt := 177) hx hb dX2_execute_169 (by decide) (fun hc => ?_) (fun hc => ?_)
    · refine lv_iload_n hx hb dX2_execute_177 rfl (lv_at hl 5 rfl) ?_
      refine lv_iconst (v := 1) hx hb dX2_execute_178 (by decide) ?_
      refine lv_iadd hx hb dX2_execute_179 ?_
      refine g_topi (y := nI (ad + 1)) (nI_1 ad) ?_
      refine lv_goto (tgt := 218) hx hb dX2_execute_180 (by decide) ?_
      have hrr : mRegs (4, rg, vl, tg) xs rd f = f := rfl
      have hrd9 : mRd (4, rg, vl, tg) rd = rd := rfl
      exact g_iret (v := nI (ad + 1)) hx hb hr hlocks hW (⟨by show _ = nI (if f rg < vl then tg else ad + 1); rw [if_neg (Int32.not_lt.mpr hc)], by rw [hrd9]; exact hm, by rw [hrr]; exact hra, x_1⟩) (by omega) (by omega) dX2_execute_218
    · refine lv_iload hx hb dX2_execute_172 (lv_at hl 0 rfl) ?_
      refine lv_goto (tgt := 218) hx hb dX2_execute_174 (by decide) ?_
      have hrr : mRegs (4, rg, vl, tg) xs rd f = f := rfl
      have hrd9 : mRd (4, rg, vl, tg) rd = rd := rfl
      exact g_iret (v := nI tg) hx hb hr hlocks hW (⟨by show _ = nI (if f rg < vl then tg else ad + 1); rw [if_pos (Int32.not_le.mp hc)], by rw [hrd9]; exact hm, by rw [hrr]; exact hra, x_1⟩) (by omega) (by omega) dX2_execute_218
  · refine lv_aload_n hx hb dX2_execute_18 rfl (lv_at hl 4 rfl) ?_
    refine g_callq (va_runV (As := []) (rest := []) ⟨hx, hb, hml, hown, hts⟩ (mtX5_op l D w H.size i9 (D.2 1002 5) (nI rg) vl (nI tg) hi) (cwV 0 hts (lw_V q1206 q554 q555 q49 q556) rfl rfl rfl (by decide +kernel) ⟨Nat.le_of_ble_eq_true rfl, Nat.le_of_ble_eq_true rfl⟩) (g_preV hW hK hE hi rfl) rfl rfl hl.1 rfl (lv_room (Nat.le_of_ble_eq_true rfl)) dX2_execute_19 ⟨Nat.le_of_ble_eq_true rfl, Nat.le_of_ble_eq_true rfl⟩) hW (fun r_ u_ H locs hp hW => ?_)
    obtain ⟨er, rfl⟩ := hp
    subst er
    refine g_calli (va_runU (As := []) (rest := []) ⟨hx, hb, hml, hown, hts⟩ (mtJ10_ordinal l D w H.size (D.2 1002 5) (nI 5) (fun s hE => g_op (by decide) s hE)) (va_cwU (owner := "java/lang/Enum") (x := ⟨"Op", "ordinal", "()I"⟩) 0 hts (lw_app (lw_in _ [1207, 1208, 1209, 678, 50] (by decide +kernel) (by decide +kernel)) (lw_meth q679)) rfl rfl rfl rfl (by decide +kernel) ⟨Nat.le_of_ble_eq_true rfl, Nat.le_of_ble_eq_true rfl⟩) (g_preVR hW hK hE (g_opO hE hW (by decide))) rfl rfl hl.1 rfl (lv_room (Nat.le_of_ble_eq_true rfl)) dX2_execute_22 ⟨Nat.le_of_ble_eq_true rfl, Nat.le_of_ble_eq_true rfl⟩) hW (fun r_ u_ H locs hp hW => ?_)
    obtain ⟨er, rfl⟩ := hp
    subst er
    refine lv_tableOut (tgt := 118) hx hb dX2_execute_25 (by decide) (by decide) ?_
    refine lv_aload_n hx hb dX2_execute_118 rfl (lv_at hl 4 rfl) ?_
    refine g_callq (va_runV (As := []) (rest := []) ⟨hx, hb, hml, hown, hts⟩ (mtX5_op l D w H.size i9 (D.2 1002 5) (nI rg) vl (nI tg) hi) (cwV 0 hts (lw_V q1206 q554 q555 q49 q556) rfl rfl rfl (by decide +kernel) ⟨Nat.le_of_ble_eq_true rfl, Nat.le_of_ble_eq_true rfl⟩) (g_preV hW hK hE hi rfl) rfl rfl hl.1 rfl (lv_room (Nat.le_of_ble_eq_true rfl)) dX2_execute_119 ⟨Nat.le_of_ble_eq_true rfl, Nat.le_of_ble_eq_true rfl⟩) hW (fun r_ u_ H locs hp hW => ?_)
    obtain ⟨er, rfl⟩ := hp
    subst er
    refine g_calli (va_runU (As := []) (rest := []) ⟨hx, hb, hml, hown, hts⟩ (mtJ10_ordinal l D w H.size (D.2 1002 5) (nI 5) (fun s hE => g_op (by decide) s hE)) (va_cwU (owner := "java/lang/Enum") (x := ⟨"Op", "ordinal", "()I"⟩) 0 hts (lw_app (lw_in _ [1207, 1208, 1209, 678, 50] (by decide +kernel) (by decide +kernel)) (lw_meth q679)) rfl rfl rfl rfl (by decide +kernel) ⟨Nat.le_of_ble_eq_true rfl, Nat.le_of_ble_eq_true rfl⟩) (g_preVR hW hK hE (g_opO hE hW (by decide))) rfl rfl hl.1 rfl (lv_room (Nat.le_of_ble_eq_true rfl)) dX2_execute_122 ⟨Nat.le_of_ble_eq_true rfl, Nat.le_of_ble_eq_true rfl⟩) hW (fun r_ u_ H locs hp hW => ?_)
    obtain ⟨er, rfl⟩ := hp
    subst er
    refine lv_tableIn (tgt := 183) hx hb dX2_execute_125 (by decide) (by decide) rfl (by decide) ?_
    refine lv_aload_n hx hb dX2_execute_183 rfl (lv_at hl 3 rfl) ?_
    refine g_get (ci := 1) (v := .ref ra) (C := RX2) (T := TX2) (N := 7) hx hb hts in_X2 hown hK hW hm rfl 0 (by decide) q189 (fun _ h9 => h9) rfl dX2_execute_184 ?_
    refine lv_iload hx hb dX2_execute_187 (lv_at hl 2 rfl) ?_
    refine g_iald (i := rg) hx hb hK hW hra (hrg) (by decide) dX2_execute_189 ?_
    refine lv_iload hx hb dX2_execute_190 (lv_at hl 1 rfl) ?_
    refine lv_icmp_ne (tgt := 200) hx hb dX2_execute_192 (by decide) (fun hc => ?_) (fun hc => ?_)
    · refine lv_iload_n hx hb dX2_execute_200 rfl (lv_at hl 5 rfl) ?_
      refine lv_iconst (v := 1) hx hb dX2_execute_201 (by decide) ?_
      refine lv_iadd hx hb dX2_execute_202 ?_
      refine g_topi (y := nI (ad + 1)) (nI_1 ad) ?_
      refine lv_goto (tgt := 218) hx hb dX2_execute_203 (by decide) ?_
      have hrr : mRegs (5, rg, vl, tg) xs rd f = f := rfl
      have hrd9 : mRd (5, rg, vl, tg) rd = rd := rfl
      exact g_iret (v := nI (ad + 1)) hx hb hr hlocks hW (⟨by show _ = nI (if f rg = vl then tg else ad + 1); rw [if_neg hc], by rw [hrd9]; exact hm, by rw [hrr]; exact hra, x_1⟩) (by omega) (by omega) dX2_execute_218
    · refine lv_iload hx hb dX2_execute_195 (lv_at hl 0 rfl) ?_
      refine lv_goto (tgt := 218) hx hb dX2_execute_197 (by decide) ?_
      have hrr : mRegs (5, rg, vl, tg) xs rd f = f := rfl
      have hrd9 : mRd (5, rg, vl, tg) rd = rd := rfl
      exact g_iret (v := nI tg) hx hb hr hlocks hW (⟨by show _ = nI (if f rg = vl then tg else ad + 1); rw [if_pos (by first | exact hc | exact Classical.not_not.mp hc)], by rw [hrd9]; exact hm, by rw [hrr]; exact hra, x_1⟩) (by omega) (by omega) dX2_execute_218
  · refine lv_aload_n hx hb dX2_execute_18 rfl (lv_at hl 4 rfl) ?_
    refine g_callq (va_runV (As := []) (rest := []) ⟨hx, hb, hml, hown, hts⟩ (mtX5_op l D w H.size i9 (D.2 1002 6) (nI rg) vl (nI tg) hi) (cwV 0 hts (lw_V q1206 q554 q555 q49 q556) rfl rfl rfl (by decide +kernel) ⟨Nat.le_of_ble_eq_true rfl, Nat.le_of_ble_eq_true rfl⟩) (g_preV hW hK hE hi rfl) rfl rfl hl.1 rfl (lv_room (Nat.le_of_ble_eq_true rfl)) dX2_execute_19 ⟨Nat.le_of_ble_eq_true rfl, Nat.le_of_ble_eq_true rfl⟩) hW (fun r_ u_ H locs hp hW => ?_)
    obtain ⟨er, rfl⟩ := hp
    subst er
    refine g_calli (va_runU (As := []) (rest := []) ⟨hx, hb, hml, hown, hts⟩ (mtJ10_ordinal l D w H.size (D.2 1002 6) (nI 6) (fun s hE => g_op (by decide) s hE)) (va_cwU (owner := "java/lang/Enum") (x := ⟨"Op", "ordinal", "()I"⟩) 0 hts (lw_app (lw_in _ [1207, 1208, 1209, 678, 50] (by decide +kernel) (by decide +kernel)) (lw_meth q679)) rfl rfl rfl rfl (by decide +kernel) ⟨Nat.le_of_ble_eq_true rfl, Nat.le_of_ble_eq_true rfl⟩) (g_preVR hW hK hE (g_opO hE hW (by decide))) rfl rfl hl.1 rfl (lv_room (Nat.le_of_ble_eq_true rfl)) dX2_execute_22 ⟨Nat.le_of_ble_eq_true rfl, Nat.le_of_ble_eq_true rfl⟩) hW (fun r_ u_ H locs hp hW => ?_)
    obtain ⟨er, rfl⟩ := hp
    subst er
    refine lv_tableOut (tgt := 118) hx hb dX2_execute_25 (by decide) (by decide) ?_
    refine lv_aload_n hx hb dX2_execute_118 rfl (lv_at hl 4 rfl) ?_
    refine g_callq (va_runV (As := []) (rest := []) ⟨hx, hb, hml, hown, hts⟩ (mtX5_op l D w H.size i9 (D.2 1002 6) (nI rg) vl (nI tg) hi) (cwV 0 hts (lw_V q1206 q554 q555 q49 q556) rfl rfl rfl (by decide +kernel) ⟨Nat.le_of_ble_eq_true rfl, Nat.le_of_ble_eq_true rfl⟩) (g_preV hW hK hE hi rfl) rfl rfl hl.1 rfl (lv_room (Nat.le_of_ble_eq_true rfl)) dX2_execute_119 ⟨Nat.le_of_ble_eq_true rfl, Nat.le_of_ble_eq_true rfl⟩) hW (fun r_ u_ H locs hp hW => ?_)
    obtain ⟨er, rfl⟩ := hp
    subst er
    refine g_calli (va_runU (As := []) (rest := []) ⟨hx, hb, hml, hown, hts⟩ (mtJ10_ordinal l D w H.size (D.2 1002 6) (nI 6) (fun s hE => g_op (by decide) s hE)) (va_cwU (owner := "java/lang/Enum") (x := ⟨"Op", "ordinal", "()I"⟩) 0 hts (lw_app (lw_in _ [1207, 1208, 1209, 678, 50] (by decide +kernel) (by decide +kernel)) (lw_meth q679)) rfl rfl rfl rfl (by decide +kernel) ⟨Nat.le_of_ble_eq_true rfl, Nat.le_of_ble_eq_true rfl⟩) (g_preVR hW hK hE (g_opO hE hW (by decide))) rfl rfl hl.1 rfl (lv_room (Nat.le_of_ble_eq_true rfl)) dX2_execute_122 ⟨Nat.le_of_ble_eq_true rfl, Nat.le_of_ble_eq_true rfl⟩) hW (fun r_ u_ H locs hp hW => ?_)
    obtain ⟨er, rfl⟩ := hp
    subst er
    refine lv_tableIn (tgt := 206) hx hb dX2_execute_125 (by decide) (by decide) rfl (by decide) ?_
    refine lv_iload hx hb dX2_execute_206 (lv_at hl 0 rfl) ?_
    refine lv_goto (tgt := 218) hx hb dX2_execute_208 (by decide) ?_
    have hrr : mRegs (6, rg, vl, tg) xs rd f = f := rfl
    have hrd9 : mRd (6, rg, vl, tg) rd = rd := rfl
    exact g_iret (v := nI tg) hx hb hr hlocks hW (⟨rfl, by rw [hrd9]; exact hm, by rw [hrr]; exact hra, x_1⟩) (by omega) (by omega) dX2_execute_218
  · refine lv_aload_n hx hb dX2_execute_18 rfl (lv_at hl 4 rfl) ?_
    refine g_callq (va_runV (As := []) (rest := []) ⟨hx, hb, hml, hown, hts⟩ (mtX5_op l D w H.size i9 (D.2 1002 7) (nI rg) vl (nI tg) hi) (cwV 0 hts (lw_V q1206 q554 q555 q49 q556) rfl rfl rfl (by decide +kernel) ⟨Nat.le_of_ble_eq_true rfl, Nat.le_of_ble_eq_true rfl⟩) (g_preV hW hK hE hi rfl) rfl rfl hl.1 rfl (lv_room (Nat.le_of_ble_eq_true rfl)) dX2_execute_19 ⟨Nat.le_of_ble_eq_true rfl, Nat.le_of_ble_eq_true rfl⟩) hW (fun r_ u_ H locs hp hW => ?_)
    obtain ⟨er, rfl⟩ := hp
    subst er
    refine g_calli (va_runU (As := []) (rest := []) ⟨hx, hb, hml, hown, hts⟩ (mtJ10_ordinal l D w H.size (D.2 1002 7) (nI 7) (fun s hE => g_op (by decide) s hE)) (va_cwU (owner := "java/lang/Enum") (x := ⟨"Op", "ordinal", "()I"⟩) 0 hts (lw_app (lw_in _ [1207, 1208, 1209, 678, 50] (by decide +kernel) (by decide +kernel)) (lw_meth q679)) rfl rfl rfl rfl (by decide +kernel) ⟨Nat.le_of_ble_eq_true rfl, Nat.le_of_ble_eq_true rfl⟩) (g_preVR hW hK hE (g_opO hE hW (by decide))) rfl rfl hl.1 rfl (lv_room (Nat.le_of_ble_eq_true rfl)) dX2_execute_22 ⟨Nat.le_of_ble_eq_true rfl, Nat.le_of_ble_eq_true rfl⟩) hW (fun r_ u_ H locs hp hW => ?_)
    obtain ⟨er, rfl⟩ := hp
    subst er
    refine lv_tableOut (tgt := 118) hx hb dX2_execute_25 (by decide) (by decide) ?_
    refine lv_aload_n hx hb dX2_execute_118 rfl (lv_at hl 4 rfl) ?_
    refine g_callq (va_runV (As := []) (rest := []) ⟨hx, hb, hml, hown, hts⟩ (mtX5_op l D w H.size i9 (D.2 1002 7) (nI rg) vl (nI tg) hi) (cwV 0 hts (lw_V q1206 q554 q555 q49 q556) rfl rfl rfl (by decide +kernel) ⟨Nat.le_of_ble_eq_true rfl, Nat.le_of_ble_eq_true rfl⟩) (g_preV hW hK hE hi rfl) rfl rfl hl.1 rfl (lv_room (Nat.le_of_ble_eq_true rfl)) dX2_execute_119 ⟨Nat.le_of_ble_eq_true rfl, Nat.le_of_ble_eq_true rfl⟩) hW (fun r_ u_ H locs hp hW => ?_)
    obtain ⟨er, rfl⟩ := hp
    subst er
    refine g_calli (va_runU (As := []) (rest := []) ⟨hx, hb, hml, hown, hts⟩ (mtJ10_ordinal l D w H.size (D.2 1002 7) (nI 7) (fun s hE => g_op (by decide) s hE)) (va_cwU (owner := "java/lang/Enum") (x := ⟨"Op", "ordinal", "()I"⟩) 0 hts (lw_app (lw_in _ [1207, 1208, 1209, 678, 50] (by decide +kernel) (by decide +kernel)) (lw_meth q679)) rfl rfl rfl rfl (by decide +kernel) ⟨Nat.le_of_ble_eq_true rfl, Nat.le_of_ble_eq_true rfl⟩) (g_preVR hW hK hE (g_opO hE hW (by decide))) rfl rfl hl.1 rfl (lv_room (Nat.le_of_ble_eq_true rfl)) dX2_execute_122 ⟨Nat.le_of_ble_eq_true rfl, Nat.le_of_ble_eq_true rfl⟩) hW (fun r_ u_ H locs hp hW => ?_)
    obtain ⟨er, rfl⟩ := hp
    subst er
    refine lv_tableIn (tgt := 211) hx hb dX2_execute_125 (by decide) (by decide) rfl (by decide) ?_
    refine lv_iconst (v := (-1)) hx hb dX2_execute_211 (by decide) ?_
    refine lv_goto (tgt := 218) hx hb dX2_execute_212 (by decide) ?_
    have hrr : mRegs (7, rg, vl, tg) xs rd f = f := rfl
    have hrd9 : mRd (7, rg, vl, tg) rd = rd := rfl
    exact g_iret (v := (-1)) hx hb hr hlocks hW (⟨rfl, by rw [hrd9]; exact hm, by rw [hrr]; exact hra, x_1⟩) (by omega) (by omega) dX2_execute_218
  · refine lv_aload_n hx hb dX2_execute_18 rfl (lv_at hl 4 rfl) ?_
    refine g_callq (va_runV (As := []) (rest := []) ⟨hx, hb, hml, hown, hts⟩ (mtX5_op l D w H.size i9 (D.2 1002 8) (nI rg) vl (nI tg) hi) (cwV 0 hts (lw_V q1206 q554 q555 q49 q556) rfl rfl rfl (by decide +kernel) ⟨Nat.le_of_ble_eq_true rfl, Nat.le_of_ble_eq_true rfl⟩) (g_preV hW hK hE hi rfl) rfl rfl hl.1 rfl (lv_room (Nat.le_of_ble_eq_true rfl)) dX2_execute_19 ⟨Nat.le_of_ble_eq_true rfl, Nat.le_of_ble_eq_true rfl⟩) hW (fun r_ u_ H locs hp hW => ?_)
    obtain ⟨er, rfl⟩ := hp
    subst er
    refine g_calli (va_runU (As := []) (rest := []) ⟨hx, hb, hml, hown, hts⟩ (mtJ10_ordinal l D w H.size (D.2 1002 8) (nI 8) (fun s hE => g_op (by decide) s hE)) (va_cwU (owner := "java/lang/Enum") (x := ⟨"Op", "ordinal", "()I"⟩) 0 hts (lw_app (lw_in _ [1207, 1208, 1209, 678, 50] (by decide +kernel) (by decide +kernel)) (lw_meth q679)) rfl rfl rfl rfl (by decide +kernel) ⟨Nat.le_of_ble_eq_true rfl, Nat.le_of_ble_eq_true rfl⟩) (g_preVR hW hK hE (g_opO hE hW (by decide))) rfl rfl hl.1 rfl (lv_room (Nat.le_of_ble_eq_true rfl)) dX2_execute_22 ⟨Nat.le_of_ble_eq_true rfl, Nat.le_of_ble_eq_true rfl⟩) hW (fun r_ u_ H locs hp hW => ?_)
    obtain ⟨er, rfl⟩ := hp
    subst er
    refine lv_tableOut (tgt := 118) hx hb dX2_execute_25 (by decide) (by decide) ?_
    refine lv_aload_n hx hb dX2_execute_118 rfl (lv_at hl 4 rfl) ?_
    refine g_callq (va_runV (As := []) (rest := []) ⟨hx, hb, hml, hown, hts⟩ (mtX5_op l D w H.size i9 (D.2 1002 8) (nI rg) vl (nI tg) hi) (cwV 0 hts (lw_V q1206 q554 q555 q49 q556) rfl rfl rfl (by decide +kernel) ⟨Nat.le_of_ble_eq_true rfl, Nat.le_of_ble_eq_true rfl⟩) (g_preV hW hK hE hi rfl) rfl rfl hl.1 rfl (lv_room (Nat.le_of_ble_eq_true rfl)) dX2_execute_119 ⟨Nat.le_of_ble_eq_true rfl, Nat.le_of_ble_eq_true rfl⟩) hW (fun r_ u_ H locs hp hW => ?_)
    obtain ⟨er, rfl⟩ := hp
    subst er
    refine g_calli (va_runU (As := []) (rest := []) ⟨hx, hb, hml, hown, hts⟩ (mtJ10_ordinal l D w H.size (D.2 1002 8) (nI 8) (fun s hE => g_op (by decide) s hE)) (va_cwU (owner := "java/lang/Enum") (x := ⟨"Op", "ordinal", "()I"⟩) 0 hts (lw_app (lw_in _ [1207, 1208, 1209, 678, 50] (by decide +kernel) (by decide +kernel)) (lw_meth q679)) rfl rfl rfl rfl (by decide +kernel) ⟨Nat.le_of_ble_eq_true rfl, Nat.le_of_ble_eq_true rfl⟩) (g_preVR hW hK hE (g_opO hE hW (by decide))) rfl rfl hl.1 rfl (lv_room (Nat.le_of_ble_eq_true rfl)) dX2_execute_122 ⟨Nat.le_of_ble_eq_true rfl, Nat.le_of_ble_eq_true rfl⟩) hW (fun r_ u_ H locs hp hW => ?_)
    obtain ⟨er, rfl⟩ := hp
    subst er
    refine lv_tableIn (tgt := 211) hx hb dX2_execute_125 (by decide) (by decide) rfl (by decide) ?_
    refine lv_iconst (v := (-1)) hx hb dX2_execute_211 (by decide) ?_
    refine lv_goto (tgt := 218) hx hb dX2_execute_212 (by decide) ?_
    have hrr : mRegs (8, rg, vl, tg) xs rd f = f := rfl
    have hrd9 : mRd (8, rg, vl, tg) rd = rd := rfl
    exact g_iret (v := (-1)) hx hb hr hlocks hW (⟨rfl, by rw [hrd9]; exact hm, by rw [hrr]; exact hra, x_1⟩) (by omega) (by omega) dX2_execute_218
set_option maxHeartbeats 4000000 in
set_option maxRecDepth 100000 in
/-- Machine.end -/
theorem mtX2_end (l : Launch) (D : va_G) (w : g_H) (sz : Nat) (m9 i9 ra eb x rd st op rg tg : Nat) (vl : Int32) (vv : Value) (cd : Int32) (hm : g_at w m9 (.inr (1, [.ref ra, .ref eb, vv, .int (cd), .int (nI st), .int (nI rd), .ref x]))) (hi : g_at w i9 (.inr (7, [.ref (D.2 1002 op), .int (nI rg), .int vl, .int (nI tg)]))) (ho : op < 9) : Met l yX2_end (ws_ yX2_end cX2_end 2 none) ({ frames := 2, cells := 0, slots := 0, locals := 32 }) (g_Pc D [.ref m9, .ref i9] w sz) (g_Qv D w sz (fun u => g_at u m9 (.inr (1, [.ref ra, .ref eb, .ref (D.2 1003 (if op = 7 then 1 else 0)), .int (vl), .int (nI st), .int (nI rd), .ref x])) ∧ g_ex (fun q => q = m9) w u)) (0) (0) (g_A w sz) := by
  refine Met.ofW (cc := cX2_end) (maxL := 2) (ret := none) (by decide) rfl ?_
  intro p e s m args below meth c s₁ B hml hv
  obtain ⟨rfl, hI⟩ := hv
  have hx := B.exec
  have hb := B.bytes
  have hr := B.returns
  have hts := atoms_spec (ws := ws_ yX2_end cX2_end 2 none) B.pre
  have hts : ∀ w ∈ lw_all, w.before _ s = true := fun w h => hts w (List.mem_cons_of_mem _ h)
  have hown : s.vm.findClass RX2 = some m.cls := findClass_of_methodNamed B.named
  have hlocks := B.notSynchronized
  have hsz := hI.1
  subst hsz
  have hW := g_W.start hI
  have hK := g_K hI
  have hE := g_E hI
  have hl := lv_entry ([.ref m9, .ref i9]) (n := 2) (by exact Nat.le_of_ble_eq_true rfl)
  rw [lg_entry_eq]
  generalize (lg_sl ([.ref m9, .ref i9]) ++ List.replicate (2 - (lg_sl ([.ref m9, .ref i9])).length) Slot.unset).toArray = ls at hl ⊢
  have hl : lv_has ls 2 [(0, .ref m9), (1, .ref i9)] := hl
  have x_1 : g_ex (fun q => q = m9) w w := g_ex.rf
  refine lv_aload_n hx hb dX2_end_0 rfl (lv_at hl 0 rfl) ?_
  refine lv_aload_n hx hb dX2_end_1 rfl (lv_at hl 1 rfl) ?_
  refine g_callq (va_runV (As := []) (rest := [.ref m9]) ⟨hx, hb, hml, hown, hts⟩ (mtX5_op l D w s.heap.size i9 (D.2 1002 op) (nI rg) vl (nI tg) hi) (cwV 0 hts (lw_V q1206 q554 q555 q49 q556) rfl rfl rfl (by decide +kernel) ⟨Nat.le_of_ble_eq_true rfl, Nat.le_of_ble_eq_true rfl⟩) (g_preV hW hK hE hi rfl) rfl rfl hl.1 rfl (lv_room (Nat.le_of_ble_eq_true rfl)) dX2_end_2 ⟨Nat.le_of_ble_eq_true rfl, Nat.le_of_ble_eq_true rfl⟩) hW (fun r_ u_ H locs hp hW => ?_)
  obtain ⟨er, rfl⟩ := hp
  subst er
  refine va_gets hx hb ((hE.2.2.2.2.2.2.1.1 7 (by decide)).1) hW.2.2.1 hown (hts _ q1218) (fun _ h9 => h9) dX2_end_5 ?_
  refine lv_acmp_ne (rx := some (D.2 1002 op)) (ry := some (D.2 1002 7)) (tgt := 17) hx hb dX2_end_8 (by decide) (fun hc => ?_) (fun hc => ?_)
  · have e7 : (if op = 7 then 1 else 0) = 0 := if_neg (fun z => hc (by rw [z]))
    rw [e7]
    refine va_gets hx hb ((hE.2.2.2.2.2.2.2.1.1 0 (by decide)).1) hW.2.2.1 hown (hts _ q1192) (fun _ h9 => h9) dX2_end_17 ?_
    refine g_putf (ci := 1) (v := .ref (D.2 1003 0)) (ty := (.object "Verdict")) (C := RX2) (T := TX2) (N := 7) hx hb hts in_X2 tyX2 tyX2_ok nmX2 hown hK hW hm rfl 2 (by decide) q192 (fun _ h9 => h9) rfl (by decide +kernel) rfl rfl (Nat.le_of_ble_eq_true rfl) dX2_end_20 (fun H locs hW => ?_)
    obtain ⟨w_2, ew_2⟩ : ∃ z__, z__ = g_put w m9 (.inr (1, [.ref ra, .ref eb, .ref (D.2 1003 0), .int (cd), .int (nI st), .int (nI rd), .ref x])) := ⟨_, rfl⟩
    have hW := g_W.ren hW ew_2 rfl
    have h_3 : g_at w_2 m9 (.inr (1, [.ref ra, .ref eb, .ref (D.2 1003 0), .int (cd), .int (nI st), .int (nI rd), .ref x])) := by rw [ew_2]; exact g_at.put_self hm.1
    have h_4 : g_at w_2 i9 (.inr (7, [.ref (D.2 1002 op), .int (nI rg), .int (vl), .int (nI tg)])) := by rw [ew_2]; exact hi.put (g_neO hi hm (by decide))
    have x_5 : g_ex (fun q => q = m9) w w_2 := by rw [ew_2]; exact x_1.put (fun hz9 => rfl)
    refine lv_aload_n hx hb dX2_end_23 rfl (lv_at hl 0 rfl) ?_
    refine lv_aload_n hx hb dX2_end_24 rfl (lv_at hl 1 rfl) ?_
    refine g_calli (va_runV (As := []) (rest := [.ref m9]) ⟨hx, hb, hml, hown, hts⟩ (mtX5_value l D w_2 H.size i9 (D.2 1002 op) (nI rg) vl (nI tg) h_4) (cwV 0 hts (lw_V q1204 q566 q567 q49 q568) rfl rfl rfl (by decide +kernel) ⟨Nat.le_of_ble_eq_true rfl, Nat.le_of_ble_eq_true rfl⟩) (g_preV hW hK hE h_4 rfl) rfl rfl hl.1 rfl (lv_room (Nat.le_of_ble_eq_true rfl)) dX2_end_25 ⟨Nat.le_of_ble_eq_true rfl, Nat.le_of_ble_eq_true rfl⟩) hW (fun r_ u_ H locs hp hW => ?_)
    obtain ⟨er, ew⟩ := hp
    rw [er]
    subst ew
    refine g_putf (ci := 1) (v := .int (vl)) (ty := .int) (C := RX2) (T := TX2) (N := 7) hx hb hts in_X2 tyX2 tyX2_ok nmX2 hown hK hW h_3 rfl 3 (by decide) q194 (fun _ h9 => h9) rfl (by decide +kernel) rfl rfl (Nat.le_of_ble_eq_true rfl) dX2_end_28 (fun H locs hW => ?_)
    obtain ⟨w_6, ew_6⟩ : ∃ z__, z__ = g_put w_2 m9 (.inr (1, [.ref ra, .ref eb, .ref (D.2 1003 0), .int (vl), .int (nI st), .int (nI rd), .ref x])) := ⟨_, rfl⟩
    have hW := g_W.ren hW ew_6 rfl
    have h_7 : g_at w_6 m9 (.inr (1, [.ref ra, .ref eb, .ref (D.2 1003 0), .int (vl), .int (nI st), .int (nI rd), .ref x])) := by rw [ew_6]; exact g_at.put_self h_3.1
    have h_8 : g_at w_6 i9 (.inr (7, [.ref (D.2 1002 op), .int (nI rg), .int (vl), .int (nI tg)])) := by rw [ew_6]; exact h_4.put (g_neO h_4 h_3 (by decide))
    have x_9 : g_ex (fun q => q = m9) w w_6 := by rw [ew_6]; exact x_5.put (fun hz9 => rfl)
    exact g_vret hx hb hr hlocks hW (⟨h_7, x_9⟩) (by omega) (by omega) dX2_end_31
  · have e7 : (if op = 7 then 1 else 0) = 1 := if_pos (g_opI hE ho (by decide) (Option.some.inj (by first | exact hc | exact Classical.not_not.mp hc)))
    rw [e7]
    refine va_gets hx hb ((hE.2.2.2.2.2.2.2.1.1 1 (by decide)).1) hW.2.2.1 hown (hts _ q1219) (fun _ h9 => h9) dX2_end_11 ?_
    refine lv_goto (tgt := 20) hx hb dX2_end_14 (by decide) ?_
    refine g_putf (ci := 1) (v := .ref (D.2 1003 1)) (ty := (.object "Verdict")) (C := RX2) (T := TX2) (N := 7) hx hb hts in_X2 tyX2 tyX2_ok nmX2 hown hK hW hm rfl 2 (by decide) q192 (fun _ h9 => h9) rfl (by decide +kernel) rfl rfl (Nat.le_of_ble_eq_true rfl) dX2_end_20 (fun H locs hW => ?_)
    obtain ⟨w_10, ew_10⟩ : ∃ z__, z__ = g_put w m9 (.inr (1, [.ref ra, .ref eb, .ref (D.2 1003 1), .int (cd), .int (nI st), .int (nI rd), .ref x])) := ⟨_, rfl⟩
    have hW := g_W.ren hW ew_10 rfl
    have h_11 : g_at w_10 m9 (.inr (1, [.ref ra, .ref eb, .ref (D.2 1003 1), .int (cd), .int (nI st), .int (nI rd), .ref x])) := by rw [ew_10]; exact g_at.put_self hm.1
    have h_12 : g_at w_10 i9 (.inr (7, [.ref (D.2 1002 op), .int (nI rg), .int (vl), .int (nI tg)])) := by rw [ew_10]; exact hi.put (g_neO hi hm (by decide))
    have x_13 : g_ex (fun q => q = m9) w w_10 := by rw [ew_10]; exact x_1.put (fun hz9 => rfl)
    refine lv_aload_n hx hb dX2_end_23 rfl (lv_at hl 0 rfl) ?_
    refine lv_aload_n hx hb dX2_end_24 rfl (lv_at hl 1 rfl) ?_
    refine g_calli (va_runV (As := []) (rest := [.ref m9]) ⟨hx, hb, hml, hown, hts⟩ (mtX5_value l D w_10 H.size i9 (D.2 1002 op) (nI rg) vl (nI tg) h_12) (cwV 0 hts (lw_V q1204 q566 q567 q49 q568) rfl rfl rfl (by decide +kernel) ⟨Nat.le_of_ble_eq_true rfl, Nat.le_of_ble_eq_true rfl⟩) (g_preV hW hK hE h_12 rfl) rfl rfl hl.1 rfl (lv_room (Nat.le_of_ble_eq_true rfl)) dX2_end_25 ⟨Nat.le_of_ble_eq_true rfl, Nat.le_of_ble_eq_true rfl⟩) hW (fun r_ u_ H locs hp hW => ?_)
    obtain ⟨er, ew⟩ := hp
    rw [er]
    subst ew
    refine g_putf (ci := 1) (v := .int (vl)) (ty := .int) (C := RX2) (T := TX2) (N := 7) hx hb hts in_X2 tyX2 tyX2_ok nmX2 hown hK hW h_11 rfl 3 (by decide) q194 (fun _ h9 => h9) rfl (by decide +kernel) rfl rfl (Nat.le_of_ble_eq_true rfl) dX2_end_28 (fun H locs hW => ?_)
    obtain ⟨w_14, ew_14⟩ : ∃ z__, z__ = g_put w_10 m9 (.inr (1, [.ref ra, .ref eb, .ref (D.2 1003 1), .int (vl), .int (nI st), .int (nI rd), .ref x])) := ⟨_, rfl⟩
    have hW := g_W.ren hW ew_14 rfl
    have h_15 : g_at w_14 m9 (.inr (1, [.ref ra, .ref eb, .ref (D.2 1003 1), .int (vl), .int (nI st), .int (nI rd), .ref x])) := by rw [ew_14]; exact g_at.put_self h_11.1
    have h_16 : g_at w_14 i9 (.inr (7, [.ref (D.2 1002 op), .int (nI rg), .int (vl), .int (nI tg)])) := by rw [ew_14]; exact h_12.put (g_neO h_12 h_11 (by decide))
    have x_17 : g_ex (fun q => q = m9) w w_14 := by rw [ew_14]; exact x_13.put (fun hz9 => rfl)
    exact g_vret hx hb hr hlocks hW (⟨h_15, x_17⟩) (by omega) (by omega) dX2_end_31
