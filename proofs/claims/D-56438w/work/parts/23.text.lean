/-! ShrinkYard$Digits.text -/
set_option maxRecDepth 100000
theorem g_take1 {xs : List Nat} {i : Nat} (h : i < xs.length) : (xs.take (i + 1)).map (fun x => 48 + x) = (xs.take i).map (fun x => 48 + x) ++ [48 + xs.getD i 0] := by
  rw [List.take_add_one, List.map_append, List.getElem?_eq_getElem h, List.getD_eq_getElem?_getD, List.getElem?_eq_getElem h]
  rfl
set_option maxHeartbeats 4000000 in
set_option maxRecDepth 100000 in
/-- Digits.text: its loop -/
theorem lpX11_text {p : Program} {l : Launch} {e : Env} {R : Room} {s : State} {m : MethodId} {args : Array Value} {below : List Frame} {meth : Method} {c : Code} {cells slots : Nat} {Q : State → Prop} {D : va_G} {A : Nat → Prop} (hx : p.tables.exec = Jvm.exec) (hb : c.code = cX11_text) (hts : ∀ w ∈ lw_all, w.before args s = true) (hown : s.vm.findClass RX11 = some m.cls) (hK : va_K D gCl (gT D) s) (hE : g_Env D A s) (hml : c.maxLocals = 3) (hRf : 7 ≤ R.frames) (hRl : 166 ≤ R.locals) (hRc : cells ≤ R.cells) (hRs : slots ≤ R.slots) (w : g_H) (a da b : Nat) (xs : List Nat) (hd : g_Dig D w a da xs) (h9 : ∀ x ∈ xs, x ≤ 9) (hb0 : b ∉ w.1)
    (kk : ∀ (w1 : g_H) (ba : Nat) (H : Heap) (locs : List Loc) (ls : Array Slot), g_ex (fun _ => False) w w1 → g_SB D w1 b ba 0 (xs.map (fun x => 48 + x)) 16 → g_W D A s.heap H locs w1 → lv_has ls 3 [(0, .ref a), (1, .ref b)] → W p l e R s m args below meth c H locs cells slots Q (F0 m 39 ls [])) :
    ∀ (k : Nat) (i : Nat) (w1 : g_H) (ba : Nat) (H : Heap) (locs : List Loc) (ls : Array Slot), xs.length < i + k → i ≤ xs.length → g_ex (fun _ => False) w w1 → ba ∉ w.1 → g_SB D w1 b ba 0 ((xs.take i).map (fun x => 48 + x)) 16 → g_W D A s.heap H locs w1 → lv_has ls 3 [(2, .int (nI i)), (0, .ref a), (1, .ref b)] → W p l e R s m args below meth c H locs cells slots Q (F0 m 10 ls []) := by
  intro k
  induction k with
  | zero => intro i w1 ba H locs ls hfuel hi hex hbw hsb hW hl; exact absurd hfuel (by omega)
  | succ k ih =>
    intro i w1 ba H locs ls hfuel hi hex hbw hsb hW hl
    obtain ⟨h1, ⟨g, h2, hg⟩, h8⟩ := hd.ex hex (fun z => z) (fun z => z)
    refine lv_iload_n hx hb dX11_text_10 rfl (lv_at hl 0 rfl) ?_
    refine lv_aload_n hx hb dX11_text_11 rfl (lv_at hl 1 rfl) ?_
    refine g_get (ci := 2) (v := .int (nI xs.length)) (C := RX11) (T := TX11) (N := 2) hx hb hts in_X11 hown hK hW h1 rfl 1 (by decide) q1167 (fun _ h9 => h9) rfl dX11_text_12 ?_
    refine g_icmp_ge (tgt := 39) hx hb (by omega) (by omega) dX11_text_15 (by decide) (fun hc => ?_) (fun hc => ?_)
    · have e1 : i = xs.length := by omega
      subst e1
      rw [List.take_length] at hsb
      exact kk w1 ba H locs ls hex hsb hW (lv_sub hl [1, 2] rfl)
    · refine lv_aload_n hx hb dX11_text_18 rfl (lv_at hl 2 rfl) ?_
      refine lv_bipush (v := 48) hx hb dX11_text_19 (by decide) ?_
      refine lv_aload_n hx hb dX11_text_21 rfl (lv_at hl 1 rfl) ?_
      refine g_get (ci := 2) (v := .ref da) (C := RX11) (T := TX11) (N := 2) hx hb hts in_X11 hown hK hW h1 rfl 0 (by decide) q1162 (fun _ h9 => h9) rfl dX11_text_22 ?_
      refine lv_iload_n hx hb dX11_text_25 rfl (lv_at hl 0 rfl) ?_
      refine g_iald (i := i) hx hb hK hW h2 (by omega) (by decide) dX11_text_26 ?_
      refine lv_iadd hx hb dX11_text_27 ?_
      refine g_topi (y := nI (48 + xs.getD i 0)) (by rw [hg i hc]; exact nI_add 48 _) ?_
      have hch : 48 + xs.getD i 0 < 128 := by
        have := h9 _ (List.getElem_mem hc)
        rw [List.getD_eq_getElem?_getD, List.getElem?_eq_getElem hc]
        show 48 + xs[i] < 128
        omega
      refine lv_i2c (v := nI (48 + xs.getD i 0)) hx hb dX11_text_28 (sb_byte _ (by omega)).2.1 ?_
      have hlen : ((xs.take i).map (fun x => 48 + x)).length = i := by simp; omega
      have hcn : g_cn (((xs.take i).map (fun x => 48 + x)).length + 1) 16 = 16 := if_pos (by omega)
      have hcc : g_cc (((xs.take i).map (fun x => 48 + x)).length + 1) 16 = 0 := if_pos (by omega)
      have hcs : g_cs (((xs.take i).map (fun x => 48 + x)).length + 1) 16 = 0 := if_pos (by omega)
      refine g_callq (va_runV (As := [.int (nI (48 + xs.getD i 0))]) (rest := []) ⟨hx, hb, hml, hown, hts⟩ (mtJ23_append_3 l D w1 H.size b ba 16 0 ((xs.take i).map (fun x => 48 + x)) hsb (48 + xs.getD i 0) hch (by omega) (by omega)) (cwV 1 hts (lw_V q1274 q1114 q1115 q70 q1116) rfl rfl rfl (by decide +kernel) ⟨hRf, hRl⟩) (g_preV hW hK hE hsb.1 rfl) rfl rfl hl.1 rfl (lv_room (Nat.le_of_ble_eq_true rfl)) dX11_text_29 ⟨?_, ?_⟩) hW (fun r_ u1 H locs hp hW => ?_)
      · rw [hcc]; exact hRc
      · rw [hcs]; exact hRs
      rw [hcc, hcs]
      obtain ⟨bb, er, hsb2, hbb, hex2⟩ := hp
      subst er
      rw [hcn, ← g_take1 hc] at hsb2
      refine lv_pop hx hb dX11_text_32 rfl ?_
      refine lv_iinc (v := nI (i + 1)) (lv' := [(2, .int (nI (i + 1))), (0, .ref a), (1, .ref b)]) hx hb dX11_text_33 hl (k := 0) rfl (nI_1 i) (by decide) rfl (fun ls hl => ?_)
      refine lv_goto (tgt := 10) hx hb dX11_text_36 (by decide) ?_
      exact ih (i + 1) u1 bb H locs ls (by omega) (by omega) (hex.trM hex2 (fun z hz hM => hM.elim (fun q => hb0 (by rw [← q]; exact hz)) (fun q => hbw (by rw [← q]; exact hz)))) (hbb.elim (fun q => by rw [q]; exact hbw) (fun n z => n (hex.1 _ z))) hsb2 hW hl
set_option maxHeartbeats 4000000 in
set_option maxRecDepth 100000 in
/-- Digits.text -/
theorem mtX11_text (l : Launch) (D : va_G) (w : g_H) (sz : Nat) (a da : Nat) (xs : List Nat) (hd : g_Dig D w a da xs) (h9 : ∀ x ∈ xs, x ≤ 9) : Met l yX11_text (ws_ yX11_text cX11_text 3 (some (.object "java/lang/String"))) ({ frames := 7, cells := 4, slots := 24 + xs.length, locals := 191 }) (g_Pc D [.ref a] w sz) (g_Qq D w sz (fun r u => ∃ st, r = some st ∧ st ∉ w.1 ∧ g_Str D u st (xs.map (fun x => 48 + x)) ∧ g_ex (fun _ => False) w u)) (4) (24 + xs.length) (g_A w sz) := by
  refine Met.ofW (cc := cX11_text) (maxL := 3) (ret := (some (.object "java/lang/String"))) (by decide) rfl ?_
  intro p e s m args below meth c s₁ B hml hv
  obtain ⟨rfl, hI⟩ := hv
  have hx := B.exec
  have hb := B.bytes
  have hr := B.returns
  have hts := atoms_spec (ws := ws_ yX11_text cX11_text 3 (some (.object "java/lang/String"))) B.pre
  have hts : ∀ w ∈ lw_all, w.before _ s = true := fun w h => hts w (List.mem_cons_of_mem _ h)
  have hown : s.vm.findClass RX11 = some m.cls := findClass_of_methodNamed B.named
  have hlocks := B.notSynchronized
  have hsz := hI.1
  subst hsz
  have hW := g_W.start hI
  have hK := g_K hI
  have hE := g_E hI
  have hl := lv_entry ([.ref a]) (n := 3) (by exact Nat.le_of_ble_eq_true rfl)
  rw [lg_entry_eq]
  generalize (lg_sl ([.ref a]) ++ List.replicate (3 - (lg_sl ([.ref a])).length) Slot.unset).toArray = ls at hl ⊢
  have hl : lv_has ls 3 [(0, .ref a)] := hl
  have x_1 : g_ex (fun _ => False) w w := g_ex.rf
  refine g_newo (ci := 15) (C := RJ23) (T := TJ23) (N := 4) hx hb hts in_J23 tyJ23 tyJ23_ok hown q1272 q831 q70 hK hW rfl [.null, .int (0), .int (0), .int (0)] (by decide +kernel) ?_ ?_ dX11_text_0 (fun o_2 H hq hW => ?_)
  · show _ ≤ 4; omega
  · show _ ≤ 24 + xs.length; omega
  have ho_2 := hq
  obtain ⟨w_3, ew_3⟩ : ∃ z__, z__ = g_push w o_2 (.inr (15, [.null, .int (0), .int (0), .int (0)])) := ⟨_, rfl⟩
  have hW := g_W.ren hW ew_3 rfl
  have h_4 : g_at w_3 o_2 (.inr (15, [.null, .int (0), .int (0), .int (0)])) := by rw [ew_3]; exact g_at.push_self
  have x_5 : g_ex (fun _ => False) w w_3 := by rw [ew_3]; exact x_1.push hq
  refine lv_dup hx hb dX11_text_3 rfl ?_
  refine g_callv (va_runI (As := []) (rest := [.ref o_2]) ⟨hx, hb, hml, hown, hts⟩ (mtJ23_init l D w_3 H.size o_2 0 h_4) (cwI 0 hts (lw_meth q834) rfl rfl rfl (hts _ q70) (hts _ q1273) (hts _ q833) rfl (by decide +kernel) ⟨Nat.le_of_ble_eq_true rfl, Nat.le_of_ble_eq_true rfl⟩) (g_preS hW hK hE) rfl rfl hl.1 rfl (lv_room (Nat.le_of_ble_eq_true rfl)) dX11_text_4 ⟨?_, ?_⟩) hW (fun u1 H locs hp hW => ?_)
  · show _ ≤ 4; omega
  · show _ ≤ 24 + xs.length; omega
  obtain ⟨ba, hba, hsb, hex⟩ := hp
  have hx0 : g_ex (fun _ => False) w u1 := x_5.trM hex (fun z hz1 hz2 => ho_2 (by rw [← hz2]; exact hz1))
  refine lv_astore_n (lv' := [(1, .ref o_2), (0, .ref a)]) hx hb dX11_text_7 rfl hl (by decide) rfl (fun ls hl => ?_)
  refine lv_iconst (v := 0) hx hb dX11_text_8 (by decide) ?_
  refine lv_istore_n (lv' := [(2, .int (0)), (1, .ref o_2), (0, .ref a)]) hx hb dX11_text_9 rfl hl (by decide) rfl (fun ls hl => ?_)
  have hbw : ba ∉ w.1 := fun z => hba (x_5.1 _ z)
  refine lpX11_text (D := D) hx hb hts hown hK hE hml (Nat.le_of_ble_eq_true rfl) (Nat.le_of_ble_eq_true rfl) ?_ ?_ w a da o_2 xs hd h9 ho_2 (fun w1 ba H locs ls hex hsb hW hl => ?_) (xs.length + 1) 0 u1 ba H locs ls (by omega) (by omega) hx0 hbw hsb hW (lv_sub hl [0, 2, 1] rfl)
  · show _ ≤ 4; omega
  · show _ ≤ 24 + xs.length; omega
  refine lv_aload_n hx hb dX11_text_39 rfl (lv_at hl 1 rfl) ?_
  have hlen : (xs.map (fun x => 48 + x)).length = xs.length := List.length_map ..
  have h8 := hd.2.2
  refine g_callq (va_runV (As := []) (rest := []) ⟨hx, hb, hml, hown, hts⟩ (mtJ23_toString l D w1 H.size o_2 ba 16 0 (xs.map (fun x => 48 + x)) hsb (by omega)) (cwV 0 hts (lw_V q1275 q974 q975 q70 q976) rfl rfl rfl (by decide +kernel) ⟨Nat.le_of_ble_eq_true rfl, Nat.le_of_ble_eq_true rfl⟩) (g_preV hW hK hE hsb.1 rfl) rfl rfl hl.1 rfl (lv_room (Nat.le_of_ble_eq_true rfl)) dX11_text_40 ⟨?_, ?_⟩) hW (fun r_ u2 H locs hp hW => ?_)
  · show _ ≤ 4; omega
  · show _ ≤ 24 + xs.length; omega
  obtain ⟨st, er, hst, hs2, hex2⟩ := hp
  subst er
  exact g_qret (v := some st) hx hb hr (Or.inl ⟨_, rfl⟩) hlocks hW ⟨st, rfl, fun z => hst (hex.1 _ z), hs2, hex.tr hex2⟩ (by omega) (by omega) dX11_text_43
