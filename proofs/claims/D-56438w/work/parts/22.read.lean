/-! ShrinkYard$Digits.read -/
set_option maxRecDepth 100000
theorem g_nin {D : va_G} {s : State} (hK : va_K D gCl (gT D) s) : D.1 100 ≠ D.1 101 := g_neA hK (i := 0) (j := 1) rfl rfl (fun z => by cases z)
set_option maxHeartbeats 4000000 in
set_option maxRecDepth 100000 in
/-- Digits.read: its loop -/
theorem lpX11_read {p : Program} {l : Launch} {e : Env} {R : Room} {s : State} {m : MethodId} {args : Array Value} {below : List Frame} {meth : Method} {c : Code} {cells slots : Nat} {Q : State → Prop} {D : va_G} {A : Nat → Prop} (hx : p.tables.exec = Jvm.exec) (hb : c.code = cX11_read) (hts : ∀ w ∈ lw_all, w.before args s = true) (hown : s.vm.findClass RX11 = some m.cls) (hK : va_K D gCl (gT D) s) (hE : g_Env D A s) (hml : c.maxLocals = 3) (hRf : 5 ≤ R.frames) (hRl : 97 ≤ R.locals) (hRc : cells ≤ R.cells) (hRs : slots ≤ R.slots) (w : g_H) (a da st : Nat) (t : List Nat) (h8 : t.length ≤ 8) (h48 : ∀ x ∈ t, 48 ≤ x)
    (kk : ∀ (w1 : g_H) (f1 : Nat → Int32) (H : Heap) (locs : List Loc) (ls : Array Slot), (∀ j, j < t.length → f1 j = nI (t.getD j 0 - 48)) → g_ex (fun q => q = a ∨ q = da) w w1 → g_at w1 a (.inr (2, [.ref da, .int (nI t.length)])) → g_at w1 da (.inl (D.1 100, 8, .inl (f1))) → g_W D A s.heap H locs w1 → lv_has ls 3 [(0, .ref a)] → W p l e R s m args below meth c H locs cells slots Q (F0 m 38 ls [])) :
    ∀ (k : Nat) (i : Nat) (w1 : g_H) (f1 : Nat → Int32) (H : Heap) (locs : List Loc) (ls : Array Slot), t.length < i + k → i ≤ t.length → (∀ j, j < i → f1 j = nI (t.getD j 0 - 48)) → g_ex (fun q => q = a ∨ q = da) w w1 → g_Str D w1 st t → g_at w1 a (.inr (2, [.ref da, .int (nI t.length)])) → g_at w1 da (.inl (D.1 100, 8, .inl (f1))) → g_W D A s.heap H locs w1 → lv_has ls 3 [(2, .int (nI i)), (0, .ref a), (1, .ref st)] → W p l e R s m args below meth c H locs cells slots Q (F0 m 10 ls []) := by
  intro k
  induction k with
  | zero => intro i w1 f1 H locs ls hfuel hi hf hex hst h1 h2 hW hl; exact absurd hfuel (by omega)
  | succ k ih =>
    intro i w1 f1 H locs ls hfuel hi hf hex hst h1 h2 hW hl
    refine lv_iload_n hx hb dX11_read_10 rfl (lv_at hl 0 rfl) ?_
    refine lv_aload_n hx hb dX11_read_11 rfl (lv_at hl 1 rfl) ?_
    refine g_get (ci := 2) (v := .int (nI t.length)) (C := RX11) (T := TX11) (N := 2) hx hb hts in_X11 hown hK hW h1 rfl 1 (by decide) q1167 (fun _ h9 => h9) rfl dX11_read_12 ?_
    refine g_icmp_ge (tgt := 38) hx hb (by omega) (by omega) dX11_read_15 (by decide) (fun hc => ?_) (fun hc => ?_)
    · have e1 : i = t.length := by omega
      subst e1
      exact kk w1 f1 H locs ls hf hex h1 h2 hW (lv_sub hl [1] rfl)
    · refine lv_aload_n hx hb dX11_read_18 rfl (lv_at hl 1 rfl) ?_
      refine g_get (ci := 2) (v := .ref da) (C := RX11) (T := TX11) (N := 2) hx hb hts in_X11 hown hK hW h1 rfl 0 (by decide) q1162 (fun _ h9 => h9) rfl dX11_read_19 ?_
      refine lv_iload_n hx hb dX11_read_22 rfl (lv_at hl 0 rfl) ?_
      refine lv_aload_n hx hb dX11_read_23 rfl (lv_at hl 2 rfl) ?_
      refine lv_iload_n hx hb dX11_read_24 rfl (lv_at hl 0 rfl) ?_
      obtain ⟨v, ⟨hv, hco, hby, hrc⟩, hbv⟩ := hst.rd hts hK hE hW
      refine g_calli (va_runV (As := [.int (nI i)]) (rest := [.int (nI i), .ref da]) ⟨hx, hb, hml, hown, hts⟩ (mtJ16_charAt l D w1 H.size st i t hst hc) (cwV 1 hts (lw_V q1182 q750 q751 q63 q752) rfl rfl rfl (by decide +kernel) ⟨hRf, hRl⟩) (g_preVR hW hK hE hrc) rfl rfl hl.1 rfl (lv_room (Nat.le_of_ble_eq_true rfl)) dX11_read_25 ⟨hRc, hRs⟩) hW (fun r_ u_ H locs hp hW => ?_)
      obtain ⟨er, rfl⟩ := hp
      subst er
      refine lv_bipush (v := 48) hx hb dX11_read_28 (by decide) ?_
      refine lv_isub hx hb dX11_read_30 ?_
      refine g_topi (y := nI (t.getD i 0 - 48)) (pk_sub (b := 48) (by rw [List.getD_eq_getElem?_getD, List.getElem?_eq_getElem hc]; exact h48 _ (List.getElem_mem hc))) ?_
      refine g_iast (i := i) hx hb hK hW h2 (by omega) (by decide) dX11_read_31 (fun H locs hW => ?_)
      obtain ⟨f_1, ef_1⟩ : ∃ z__, z__ = upd (f1) (i) (nI (t.getD i 0 - 48)) := ⟨_, rfl⟩
      rw [← ef_1] at hW
      obtain ⟨w_2, ew_2⟩ : ∃ z__, z__ = g_put w1 da (.inl (D.1 100, 8, .inl (f_1))) := ⟨_, rfl⟩
      have hW := g_W.ren hW ew_2 rfl
      have h_3 : g_at w_2 a (.inr (2, [.ref da, .int (nI t.length)])) := by rw [ew_2]; exact h1.put (g_neOA h1 h2)
      have h_4 : g_at w_2 da (.inl (D.1 100, 8, .inl (f_1))) := by rw [ew_2]; exact g_at.put_self h2.1
      have x_5 : g_ex (fun q => q = a ∨ q = da) w w_2 := by rw [ew_2]; exact hex.put (fun hz9 => (Or.inr (rfl)))
      have hst2 : g_Str D w_2 st t := by rw [ew_2]; exact hst.put h2 (fun _ z => by cases z) (fun _ z => g_nin hK (Prod.mk.inj (Sum.inl.inj z)).1)
      refine lv_iinc (v := nI (i + 1)) (lv' := [(2, .int (nI (i + 1))), (0, .ref a), (1, .ref st)]) hx hb dX11_read_32 hl (k := 0) rfl (nI_1 i) (by decide) rfl (fun ls hl => ?_)
      refine lv_goto (tgt := 10) hx hb dX11_read_35 (by decide) ?_
      refine ih (i + 1) w_2 f_1 H locs ls (by omega) (by omega) (fun j hj => ?_) x_5 hst2 h_3 h_4 hW hl
      rw [ef_1]
      by_cases hji : j = i
      · subst hji; exact pk_us
      · rw [pk_un hji]; exact hf j (by omega)
set_option maxHeartbeats 4000000 in
set_option maxRecDepth 100000 in
/-- Digits.read: the digits of a text -/
theorem mtX11_read (l : Launch) (D : va_G) (w : g_H) (sz : Nat) (a da la st : Nat) (fa : Nat → Int32) (t : List Nat) (ha : g_at w a (.inr (2, [.ref da, .int (nI la)]))) (hda : g_at w da (.inl (D.1 100, 8, .inl fa))) (hst : g_Str D w st t) (h8 : t.length ≤ 8) (h48 : ∀ x ∈ t, 48 ≤ x) : Met l yX11_read (ws_ yX11_read cX11_read 3 none) ({ frames := 5, cells := 0, slots := 0, locals := 97 }) (g_Pc D [.ref a, .ref st] w sz) (g_Qv D w sz (fun u => g_Dig D u a da (t.map (fun x => x - 48)) ∧ g_ex (fun q => q = a ∨ q = da) w u)) (0) (0) (g_A w sz) := by
  refine Met.ofW (cc := cX11_read) (maxL := 3) (ret := none) (by decide) rfl ?_
  intro p e s m args below meth c s₁ B hml hv
  obtain ⟨rfl, hI⟩ := hv
  have hx := B.exec
  have hb := B.bytes
  have hr := B.returns
  have hts := atoms_spec (ws := ws_ yX11_read cX11_read 3 none) B.pre
  have hts : ∀ w ∈ lw_all, w.before _ s = true := fun w h => hts w (List.mem_cons_of_mem _ h)
  have hown : s.vm.findClass RX11 = some m.cls := findClass_of_methodNamed B.named
  have hlocks := B.notSynchronized
  have hsz := hI.1
  subst hsz
  have hW := g_W.start hI
  have hK := g_K hI
  have hE := g_E hI
  have hl := lv_entry ([.ref a, .ref st]) (n := 3) (by exact Nat.le_of_ble_eq_true rfl)
  rw [lg_entry_eq]
  generalize (lg_sl ([.ref a, .ref st]) ++ List.replicate (3 - (lg_sl ([.ref a, .ref st])).length) Slot.unset).toArray = ls at hl ⊢
  have hl : lv_has ls 3 [(0, .ref a), (1, .ref st)] := hl
  have x_1 : g_ex (fun q => q = a ∨ q = da) w w := g_ex.rf
  refine lv_aload_n hx hb dX11_read_0 rfl (lv_at hl 0 rfl) ?_
  refine lv_aload_n hx hb dX11_read_1 rfl (lv_at hl 1 rfl) ?_
  obtain ⟨v, ⟨hv, hco, hby, hrc⟩, hbv⟩ := hst.rd hts hK hE hW
  refine g_calli (va_runV (As := []) (rest := [.ref a]) ⟨hx, hb, hml, hown, hts⟩ (mtJ16_length l D w s.heap.size st t hst) (cwV 0 hts (lw_V q1181 q740 q741 q63 q742) rfl rfl rfl (by decide +kernel) ⟨Nat.le_of_ble_eq_true rfl, Nat.le_of_ble_eq_true rfl⟩) (g_preVR hW hK hE hrc) rfl rfl hl.1 rfl (lv_room (Nat.le_of_ble_eq_true rfl)) dX11_read_2 ⟨Nat.le_of_ble_eq_true rfl, Nat.le_of_ble_eq_true rfl⟩) hW (fun r_ u_ H locs hp hW => ?_)
  obtain ⟨er, rfl⟩ := hp
  subst er
  refine g_putf (ci := 2) (v := .int (nI t.length)) (ty := .int) (C := RX11) (T := TX11) (N := 2) hx hb hts in_X11 tyX11 tyX11_ok nmX11 hown hK hW ha rfl 1 (by decide) q1167 (fun _ h9 => h9) rfl (by decide +kernel) rfl rfl (Nat.le_of_ble_eq_true rfl) dX11_read_5 (fun H locs hW => ?_)
  obtain ⟨w_2, ew_2⟩ : ∃ z__, z__ = g_put w a (.inr (2, [.ref da, .int (nI t.length)])) := ⟨_, rfl⟩
  have hW := g_W.ren hW ew_2 rfl
  have h_3 : g_at w_2 a (.inr (2, [.ref da, .int (nI t.length)])) := by rw [ew_2]; exact g_at.put_self ha.1
  have h_4 : g_at w_2 da (.inl (D.1 100, 8, .inl (fa))) := by rw [ew_2]; exact hda.put (g_neAO hda ha)
  have x_5 : g_ex (fun q => q = a ∨ q = da) w w_2 := by rw [ew_2]; exact x_1.put (fun hz9 => (Or.inl rfl))
  have hst2 : g_Str D w_2 st t := by rw [ew_2]; exact hst.put ha (fun _ z => by cases z) (fun _ z => by cases z)
  refine lv_iconst (v := 0) hx hb dX11_read_8 (by decide) ?_
  refine lv_istore_n (lv' := [(2, .int (0)), (0, .ref a), (1, .ref st)]) hx hb dX11_read_9 rfl hl (by decide) rfl (fun ls hl => ?_)
  refine lpX11_read (D := D) hx hb hts hown hK hE hml (Nat.le_of_ble_eq_true rfl) (Nat.le_of_ble_eq_true rfl) (Nat.le_of_ble_eq_true rfl) (Nat.le_of_ble_eq_true rfl) w a da st t h8 h48 (fun w1 f1 H locs ls hf hex k1 k2 hW hl => ?_) (t.length + 1) 0 w_2 fa H locs ls (by omega) (by omega) (fun j hj => absurd hj (by omega)) x_5 hst2 h_3 h_4 hW hl
  have el : (t.map (fun x => x - 48)).length = t.length := List.length_map ..
  exact g_vret hx hb hr hlocks hW (⟨⟨by rw [el]; exact k1, ⟨f1, k2, fun j hj => by rw [el] at hj; rw [hf j hj, List.getD_eq_getElem?_getD, List.getD_eq_getElem?_getD, List.getElem?_map, List.getElem?_eq_getElem hj]; rfl⟩, by rw [el]; exact h8⟩, hex⟩) (by omega) (by omega) dX11_read_38
