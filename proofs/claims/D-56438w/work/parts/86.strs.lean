/-! the model: without, with, putIn *
-/
set_option maxRecDepth 100000
theorem tk1 {t : List Nat} {i : Nat} (h : i < t.length) : t.take (i + 1) = t.take i ++ [t.getD i 0] := by
  rw [List.take_add_one, List.getElem?_eq_getElem h, List.getD_eq_getElem?_getD, List.getElem?_eq_getElem h]
  rfl
theorem wo_0 {t : List Nat} {i p : Nat} (h : i < t.length) (e : i = p) : (t.take (i + 1)).eraseIdx p = (t.take i).eraseIdx p := by
  subst e
  have hl : (t.take i).length = i := by rw [List.length_take]; omega
  rw [tk1 h, List.eraseIdx_append_of_length_le (by omega), hl, Nat.sub_self]
  rw [List.eraseIdx_of_length_le (l := t.take i) (by omega)]
  exact List.append_nil _
theorem wo_1 {t : List Nat} {i p : Nat} (h : i < t.length) (e : i ≠ p) : (t.take (i + 1)).eraseIdx p = (t.take i).eraseIdx p ++ [t.getD i 0] := by
  have hl : (t.take i).length = i := by rw [List.length_take]; omega
  rw [tk1 h]
  by_cases q : p < i
  · rw [List.eraseIdx_append_of_lt_length (by omega)]
  · rw [List.eraseIdx_of_length_le (k := p) (by rw [List.length_append, hl]; show i + 1 ≤ p; omega), List.eraseIdx_of_length_le (by omega)]
theorem wi_1 {t : List Nat} {i p c : Nat} (h : i < t.length) : (t.take (i + 1)).set p c = (t.take i).set p c ++ [if i = p then c else t.getD i 0] := by
  have hl : (t.take i).length = i := by rw [List.length_take]; omega
  rw [tk1 h, List.set_append, hl]
  by_cases q : p < i
  · rw [if_pos q, if_neg (by omega)]
  · rw [if_neg q, List.set_eq_of_length_le (l := t.take i) (by omega)]
    by_cases e : i = p
    · rw [if_pos e, e, Nat.sub_self]; rfl
    · rw [if_neg e]
      rw [List.set_eq_of_length_le (by show 1 ≤ p - i; omega)]
theorem insIdx_eq {t : List Nat} {p c : Nat} (h : p ≤ t.length) : t.insertIdx p c = t.take p ++ c :: t.drop p := by
  induction t generalizing p with
  | nil => have : p = 0 := by simpa using h
           subst this; rfl
  | cons x t ih =>
    cases p with
    | zero => rfl
    | succ p => rw [List.insertIdx_succ_cons, ih (by simpa using h)]; rfl
def pT (t : List Nat) (p c i : Nat) : List Nat := t.take (min i p) ++ (if p < i then [c] else []) ++ (t.take i).drop p
theorem pT_0 {t : List Nat} {p c : Nat} : pT t p c 0 = [] := by unfold pT; simp
theorem pT_end {t : List Nat} {p c : Nat} (h : p ≤ t.length) : pT t p c (t.length + 1) = t.insertIdx p c := by
  unfold pT
  rw [if_pos (by omega), show min (t.length + 1) p = p by omega, List.take_of_length_le (i := t.length + 1) (by omega)]
  rw [show t.insertIdx p c = t.take p ++ c :: t.drop p from insIdx_eq h]
  simp
theorem pT_c {t : List Nat} {p c i : Nat} (e : i = p) : pT t p c i ++ [c] = t.take p ++ [c] := by
  subst e
  unfold pT
  rw [if_neg (by omega), Nat.min_self, List.drop_take, Nat.sub_self, List.take_zero]
  simp
theorem pT_a {t : List Nat} {p c i : Nat} (h : i < t.length) (e : i = p) : t.take p ++ [c] ++ [t.getD i 0] = pT t p c (i + 1) := by
  subst e
  have hl : (t.take i).length = i := by rw [List.length_take]; omega
  unfold pT
  rw [if_pos (by omega), show min (i + 1) i = i by omega, tk1 h, List.drop_append_of_le_length (by omega), List.drop_of_length_le (by omega)]
  simp
theorem pT_b {t : List Nat} {p c i : Nat} (h : i < t.length) (e : i ≠ p) : pT t p c i ++ [t.getD i 0] = pT t p c (i + 1) := by
  have hl : (t.take i).length = i := by rw [List.length_take]; omega
  unfold pT
  by_cases q : p < i
  · rw [if_pos q, if_pos (by omega), show min i p = p by omega, show min (i + 1) p = p by omega, tk1 h, List.drop_append_of_le_length (by omega)]
    simp
  · rw [if_neg q, if_neg (by omega), show min i p = i by omega, show min (i + 1) p = i + 1 by omega, List.drop_of_length_le (by omega), List.drop_of_length_le (by rw [List.length_take]; omega), tk1 h]
    simp
theorem pT_e {t : List Nat} {p c : Nat} (e : t.length = p) : t.take p ++ [c] = pT t p c (t.length + 1) := by
  rw [pT_end (by omega), insIdx_eq (by omega)]
  rw [List.drop_of_length_le (by omega)]
theorem pT_n {t : List Nat} {p c : Nat} (h : p ≤ t.length) (e : t.length ≠ p) : pT t p c t.length = pT t p c (t.length + 1) := by
  unfold pT
  rw [if_pos (by omega), if_pos (by omega), show min t.length p = p by omega, show min (t.length + 1) p = p by omega, List.take_of_length_le (i := t.length + 1) (by omega), List.take_length]
theorem g_Str.cd {D : va_G} {w : g_H} {a : Nat} {t : List Nat} (h : g_Str D w a t) (i : Nat) : t.getD i 0 < 128 := h.1.lt
set_option maxHeartbeats 4000000 in
set_option maxRecDepth 100000 in
/-- Model.without: its loop -/
theorem lpX3_without {p : Program} {l : Launch} {e : Env} {R : Room} {s : State} {m : MethodId} {args : Array Value} {below : List Frame} {meth : Method} {c : Code} {cells slots : Nat} {Q : State → Prop} {D : va_G} {A : Nat → Prop} (hx : p.tables.exec = Jvm.exec) (hb : c.code = cX3_without) (hts : ∀ w ∈ lw_all, w.before args s = true) (hown : s.vm.findClass RX3 = some m.cls) (hK : va_K D gCl (gT D) s) (hE : g_Env D A s) (hml : c.maxLocals = 4) (hRf : 7 ≤ R.frames) (hRl : 166 ≤ R.locals) (hRc : cells ≤ R.cells) (hRs : slots ≤ R.slots) (w : g_H) (b : Nat) (hb0 : b ∉ w.1) (sp pl : Nat) (t : List Nat) (hst : g_Str D w sp t) (hl15 : t.length ≤ 15) (hpl : pl < 2 ^ 31)
    (kk : ∀ (w1 : g_H) (ba : Nat) (H : Heap) (locs : List Loc) (ls : Array Slot), g_ex (fun _ => False) w w1 → g_SB D w1 b ba 0 (t.eraseIdx pl) 16 → g_W D A s.heap H locs w1 → lv_has ls 4 [(2, .ref b)] → W p l e R s m args below meth c H locs cells slots Q (F0 m 39 ls [])) :
    ∀ (k : Nat) (i : Nat) (w1 : g_H) (ba : Nat) (H : Heap) (locs : List Loc) (ls : Array Slot), t.length < i + k → i ≤ t.length → g_ex (fun _ => False) w w1 → ba ∉ w.1 → g_SB D w1 b ba 0 ((t.take i).eraseIdx pl) 16 → g_W D A s.heap H locs w1 → lv_has ls 4 [(3, .int (nI i)), (0, .ref sp), (1, .int (nI pl)), (2, .ref b)] → W p l e R s m args below meth c H locs cells slots Q (F0 m 10 ls []) := by
  intro k
  induction k with
  | zero => intro i w1 ba H locs ls hfuel hi hex hbw hsb hW hl; exact absurd hfuel (by omega)
  | succ k ih =>
    intro i w1 ba H locs ls hfuel hi hex hbw hsb hW hl
    have hstb : g_Str D w1 sp t := hst.ex hex (fun _ _ z => z.elim)
    obtain ⟨v, hr1, hb1⟩ := hstb.rd hts hK hE hW
    refine lv_iload_n hx hb dX3_without_10 rfl (lv_at hl 0 rfl) ?_
    refine lv_aload_n hx hb dX3_without_11 rfl (lv_at hl 1 rfl) ?_
    refine g_calli (va_runV (As := []) (rest := [.int (nI i)]) ⟨hx, hb, hml, hown, hts⟩ (mtJ16_length l D w1 H.size sp t hstb) (cwV 0 hts (lw_V q2004 q740 q741 q63 q742) rfl rfl rfl (by decide +kernel) ⟨Nat.le_trans (Nat.le_of_ble_eq_true rfl) hRf, Nat.le_trans (Nat.le_of_ble_eq_true rfl) hRl⟩) (g_preVR hW hK hE hr1.2.2.2) rfl rfl hl.1 rfl (lv_room (Nat.le_of_ble_eq_true rfl)) dX3_without_12 ⟨hRc, hRs⟩) hW (fun r_ u_ H locs hp hW => ?_)
    obtain ⟨er, rfl⟩ := hp
    subst er
    refine g_icmp_ge (x := i) (y := t.length) (tgt := 39) hx hb (by omega) (by omega) dX3_without_15 (by decide) (fun hc => ?_) (fun hc => ?_)
    · have e1 : i = t.length := by omega
      subst e1
      rw [List.take_length] at hsb
      exact kk w1 ba H locs ls hex hsb hW (lv_sub hl [3] rfl)
    · refine lv_iload_n hx hb dX3_without_18 rfl (lv_at hl 0 rfl) ?_
      refine lv_iload_n hx hb dX3_without_19 rfl (lv_at hl 2 rfl) ?_
      refine lv_icmp_eq (tgt := 33) hx hb dX3_without_20 (by decide) (fun hd => ?_) (fun hd => ?_)
      · have e : i = pl := nI_inj (by omega) hpl hd
        refine lv_iinc (v := nI (i + 1)) (lv' := [(3, .int (nI (i + 1))), (0, .ref sp), (1, .int (nI pl)), (2, .ref b)]) hx hb dX3_without_33 hl (k := 0) rfl (nI_1 i) (by decide) rfl (fun ls hl => ?_)
        refine lv_goto (tgt := 10) hx hb dX3_without_36 (by decide) ?_
        exact ih (i + 1) w1 ba H locs ls (by omega) (by omega) hex hbw (by rw [wo_0 hc e]; exact hsb) hW (lv_sub hl [0, 1, 2, 3] rfl)
      · have e : i ≠ pl := fun z => hd (by rw [z])
        refine lv_aload_n hx hb dX3_without_23 rfl (lv_at hl 3 rfl) ?_
        refine lv_aload_n hx hb dX3_without_24 rfl (lv_at hl 1 rfl) ?_
        refine lv_iload_n hx hb dX3_without_25 rfl (lv_at hl 0 rfl) ?_
        have hstb : g_Str D w1 sp t := hst.ex hex (fun _ _ z => z.elim)
        obtain ⟨v, hr1, hb1⟩ := hstb.rd hts hK hE hW
        refine g_calli (va_runV (As := [.int (nI i)]) (rest := [.ref b]) ⟨hx, hb, hml, hown, hts⟩ (mtJ16_charAt l D w1 H.size sp i t hstb hc) (cwV 1 hts (lw_V q2005 q750 q751 q63 q752) rfl rfl rfl (by decide +kernel) ⟨Nat.le_trans (Nat.le_of_ble_eq_true rfl) hRf, Nat.le_trans (Nat.le_of_ble_eq_true rfl) hRl⟩) (g_preVR hW hK hE hr1.2.2.2) rfl rfl hl.1 rfl (lv_room (Nat.le_of_ble_eq_true rfl)) dX3_without_26 ⟨hRc, hRs⟩) hW (fun r_ u_ H locs hp hW => ?_)
        obtain ⟨er, rfl⟩ := hp
        subst er
        have hTl : ((t.take i).eraseIdx pl).length ≤ 15 := Nat.le_trans (List.length_eraseIdx_le _ _) (by rw [List.length_take]; omega)
        have hcn : g_cn (((t.take i).eraseIdx pl).length + 1) 16 = 16 := if_pos (by omega)
        have hcc : g_cc (((t.take i).eraseIdx pl).length + 1) 16 = 0 := if_pos (by omega)
        have hcs : g_cs (((t.take i).eraseIdx pl).length + 1) 16 = 0 := if_pos (by omega)
        refine g_callq (va_runV (As := [.int (nI (t.getD i 0))]) (rest := []) ⟨hx, hb, hml, hown, hts⟩ (mtJ23_append_3 l D w1 H.size b ba 16 0 ((t.take i).eraseIdx pl) hsb (t.getD i 0) (hst.cd i) (by omega) (by omega)) (cwV 1 hts (lw_V q2023 q1114 q1115 q70 q1116) rfl rfl rfl (by decide +kernel) ⟨Nat.le_trans (Nat.le_of_ble_eq_true rfl) hRf, Nat.le_trans (Nat.le_of_ble_eq_true rfl) hRl⟩) (g_preV hW hK hE hsb.1 rfl) rfl rfl hl.1 rfl (lv_room (Nat.le_of_ble_eq_true rfl)) dX3_without_29 ⟨?_, ?_⟩) hW (fun r_ u1 H locs hp hW => ?_)
        · rw [hcc]; exact hRc
        · rw [hcs]; exact hRs
        rw [hcc, hcs]
        obtain ⟨bb, er, hsb2, hbb, hex2⟩ := hp
        subst er
        rw [hcn] at hsb2
        have hex3 : g_ex (fun _ => False) w u1 := hex.trM hex2 (fun z hz hM => hM.elim (fun q => hb0 (by rw [← q]; exact hz)) (fun q => hbw (by rw [← q]; exact hz)))
        have hbw2 : bb ∉ w.1 := hbb.elim (fun q => by rw [q]; exact hbw) (fun n z => n (hex.1 _ z))
        rw [← wo_1 hc e] at hsb2
        refine lv_pop hx hb dX3_without_32 rfl ?_
        refine lv_iinc (v := nI (i + 1)) (lv' := [(3, .int (nI (i + 1))), (0, .ref sp), (1, .int (nI pl)), (2, .ref b)]) hx hb dX3_without_33 hl (k := 0) rfl (nI_1 i) (by decide) rfl (fun ls hl => ?_)
        refine lv_goto (tgt := 10) hx hb dX3_without_36 (by decide) ?_
        exact ih (i + 1) u1 bb H locs ls (by omega) (by omega) hex3 hbw2 hsb2 hW (lv_sub hl [0, 1, 2, 3] rfl)
set_option maxHeartbeats 4000000 in
set_option maxRecDepth 100000 in
/-- Model.without -/
theorem mtX3_without (l : Launch) (D : va_G) (w : g_H) (sz : Nat) (sp pl : Nat) (t : List Nat) (hst : g_Str D w sp t) (hl15 : t.length ≤ 15) (hpl : pl < 2 ^ 31) : Met l yX3_without (ws_ yX3_without cX3_without 4 (some (.object "java/lang/String"))) ({ frames := 7, cells := 4, slots := 24 + t.length, locals := 191 }) (g_Pc D [.ref sp, .int (nI pl)] w sz) (g_Qq D w sz (fun r u => ∃ st, r = some st ∧ st ∉ w.1 ∧ g_Str D u st (t.eraseIdx pl) ∧ g_ex (fun _ => False) w u)) (4) (24 + t.length) (g_A w sz) := by
  refine Met.ofW (cc := cX3_without) (maxL := 4) (ret := (some (.object "java/lang/String"))) (by decide) rfl ?_
  intro p e s m args below meth c s₁ B hml hv
  obtain ⟨rfl, hI⟩ := hv
  have hx := B.exec
  have hb := B.bytes
  have hr := B.returns
  have hts := atoms_spec (ws := ws_ yX3_without cX3_without 4 (some (.object "java/lang/String"))) B.pre
  have hts : ∀ w ∈ lw_all, w.before _ s = true := fun w h => hts w (List.mem_cons_of_mem _ h)
  have hown : s.vm.findClass RX3 = some m.cls := findClass_of_methodNamed B.named
  have hlocks := B.notSynchronized
  have hsz := hI.1
  subst hsz
  have hW := g_W.start hI
  have hK := g_K hI
  have hE := g_E hI
  have hl := lv_entry ([.ref sp, .int (nI pl)]) (n := 4) (by exact Nat.le_of_ble_eq_true rfl)
  rw [lg_entry_eq]
  generalize (lg_sl ([.ref sp, .int (nI pl)]) ++ List.replicate (4 - (lg_sl ([.ref sp, .int (nI pl)])).length) Slot.unset).toArray = ls at hl ⊢
  have hl : lv_has ls 4 [(0, .ref sp), (1, .int (nI pl))] := hl
  have x_1 : g_ex (fun _ => False) w w := g_ex.rf
  refine g_newo (ci := 15) (C := RJ23) (T := TJ23) (N := 4) hx hb hts in_J23 tyJ23 tyJ23_ok hown q2020 q831 q70 hK hW rfl [.null, .int (0), .int (0), .int (0)] (by decide +kernel) ?_ ?_ dX3_without_0 (fun o_2 H hq hW => ?_)
  · show _ ≤ 4; omega
  · show _ ≤ 24 + t.length; omega
  have ho_2 := hq
  obtain ⟨w_3, ew_3⟩ : ∃ z__, z__ = g_push w o_2 (.inr (15, [.null, .int (0), .int (0), .int (0)])) := ⟨_, rfl⟩
  have hW := g_W.ren hW ew_3 rfl
  have h_4 : g_at w_3 o_2 (.inr (15, [.null, .int (0), .int (0), .int (0)])) := by rw [ew_3]; exact g_at.push_self
  have x_5 : g_ex (fun _ => False) w w_3 := by rw [ew_3]; exact x_1.push hq
  refine lv_dup hx hb dX3_without_3 rfl ?_
  refine g_callv (va_runI (As := []) (rest := [.ref o_2]) ⟨hx, hb, hml, hown, hts⟩ (mtJ23_init l D w_3 H.size o_2 0 h_4) (cwI 0 hts (lw_meth q834) rfl rfl rfl (hts _ q70) (hts _ q2021) (hts _ q833) rfl (by decide +kernel) ⟨Nat.le_of_ble_eq_true rfl, Nat.le_of_ble_eq_true rfl⟩) (g_preS hW hK hE) rfl rfl hl.1 rfl (lv_room (Nat.le_of_ble_eq_true rfl)) dX3_without_4 ⟨?_, ?_⟩) hW (fun u1 H locs hp hW => ?_)
  · (try simp only [headSpec]); omega
  · (try simp only [headSpec]); omega
  obtain ⟨ba, hba, hsb, hex⟩ := hp
  have hx0 : g_ex (fun _ => False) w u1 := x_5.trM hex (fun z hz1 hz2 => ho_2 (by rw [← hz2]; exact hz1))
  have hbw : ba ∉ w.1 := fun z => hba (x_5.1 _ z)
  refine lv_astore_n (lv' := [(2, .ref o_2), (0, .ref sp), (1, .int (nI pl))]) hx hb dX3_without_7 rfl hl (by decide) rfl (fun ls hl => ?_)
  refine lv_iconst (v := 0) hx hb dX3_without_8 (by decide) ?_
  refine lv_istore_n (lv' := [(3, .int (0)), (2, .ref o_2), (0, .ref sp), (1, .int (nI pl))]) hx hb dX3_without_9 rfl hl (by decide) rfl (fun ls hl => ?_)
  refine lpX3_without (D := D) hx hb hts hown hK hE hml (Nat.le_of_ble_eq_true rfl) (Nat.le_of_ble_eq_true rfl) ?_ ?_ w o_2 ho_2 sp pl t hst hl15 hpl (fun w1 ba H locs ls hex hsb hW hl => ?_) (t.length + 1) 0 u1 ba _ _ ls (by omega) (by omega) hx0 hbw hsb hW (lv_sub hl [0, 2, 3, 1] rfl)
  · (try simp only [headSpec]); omega
  · (try simp only [headSpec]); omega
  have hTl : (t.eraseIdx pl).length ≤ t.length := List.length_eraseIdx_le _ _
  refine lv_aload_n hx hb dX3_without_39 rfl (lv_at hl 0 rfl) ?_
  refine g_callq (va_runV (As := []) (rest := []) ⟨hx, hb, hml, hown, hts⟩ (mtJ23_toString l D w1 H.size o_2 ba 16 0 (t.eraseIdx pl) hsb (by omega)) (cwV 0 hts (lw_V q2024 q974 q975 q70 q976) rfl rfl rfl (by decide +kernel) ⟨Nat.le_of_ble_eq_true rfl, Nat.le_of_ble_eq_true rfl⟩) (g_preV hW hK hE hsb.1 rfl) rfl rfl hl.1 rfl (lv_room (Nat.le_of_ble_eq_true rfl)) dX3_without_40 ⟨?_, ?_⟩) hW (fun r_ u2 H locs hp hW => ?_)
  · (try simp only [headSpec]); omega
  · (try simp only [headSpec]); omega
  obtain ⟨st, er, hst9, hs2, hex2⟩ := hp
  subst er
  exact g_qret (v := some st) hx hb hr (Or.inl ⟨_, rfl⟩) hlocks hW (⟨st, rfl, fun z => hst9 (hex.1 _ z), hs2, hex.tr hex2⟩) (by omega) (by omega) dX3_without_43
set_option maxHeartbeats 4000000 in
set_option maxRecDepth 100000 in
/-- Model.with: its loop -/
theorem lpX3_with {p : Program} {l : Launch} {e : Env} {R : Room} {s : State} {m : MethodId} {args : Array Value} {below : List Frame} {meth : Method} {c : Code} {cells slots : Nat} {Q : State → Prop} {D : va_G} {A : Nat → Prop} (hx : p.tables.exec = Jvm.exec) (hb : c.code = cX3_with) (hts : ∀ w ∈ lw_all, w.before args s = true) (hown : s.vm.findClass RX3 = some m.cls) (hK : va_K D gCl (gT D) s) (hE : g_Env D A s) (hml : c.maxLocals = 5) (hRf : 7 ≤ R.frames) (hRl : 166 ≤ R.locals) (hRc : cells ≤ R.cells) (hRs : slots ≤ R.slots) (w : g_H) (b : Nat) (hb0 : b ∉ w.1) (sp pl c9 : Nat) (t : List Nat) (hst : g_Str D w sp t) (hl15 : t.length ≤ 15) (hpl : pl < 2 ^ 31) (hc9 : c9 < 128)
    (kk : ∀ (w1 : g_H) (ba : Nat) (H : Heap) (locs : List Loc) (ls : Array Slot), g_ex (fun _ => False) w w1 → g_SB D w1 b ba 0 (t.set pl c9) 16 → g_W D A s.heap H locs w1 → lv_has ls 5 [(3, .ref b)] → W p l e R s m args below meth c H locs cells slots Q (F0 m 47 ls [])) :
    ∀ (k : Nat) (i : Nat) (w1 : g_H) (ba : Nat) (H : Heap) (locs : List Loc) (ls : Array Slot), t.length < i + k → i ≤ t.length → g_ex (fun _ => False) w w1 → ba ∉ w.1 → g_SB D w1 b ba 0 ((t.take i).set pl c9) 16 → g_W D A s.heap H locs w1 → lv_has ls 5 [(4, .int (nI i)), (0, .ref sp), (1, .int (nI pl)), (2, .int (nI c9)), (3, .ref b)] → W p l e R s m args below meth c H locs cells slots Q (F0 m 11 ls []) := by
  intro k
  induction k with
  | zero => intro i w1 ba H locs ls hfuel hi hex hbw hsb hW hl; exact absurd hfuel (by omega)
  | succ k ih =>
    intro i w1 ba H locs ls hfuel hi hex hbw hsb hW hl
    have hstb : g_Str D w1 sp t := hst.ex hex (fun _ _ z => z.elim)
    obtain ⟨v, hr1, hb1⟩ := hstb.rd hts hK hE hW
    refine lv_iload hx hb dX3_with_11 (lv_at hl 0 rfl) ?_
    refine lv_aload_n hx hb dX3_with_13 rfl (lv_at hl 1 rfl) ?_
    refine g_calli (va_runV (As := []) (rest := [.int (nI i)]) ⟨hx, hb, hml, hown, hts⟩ (mtJ16_length l D w1 H.size sp t hstb) (cwV 0 hts (lw_V q2004 q740 q741 q63 q742) rfl rfl rfl (by decide +kernel) ⟨Nat.le_trans (Nat.le_of_ble_eq_true rfl) hRf, Nat.le_trans (Nat.le_of_ble_eq_true rfl) hRl⟩) (g_preVR hW hK hE hr1.2.2.2) rfl rfl hl.1 rfl (lv_room (Nat.le_of_ble_eq_true rfl)) dX3_with_14 ⟨hRc, hRs⟩) hW (fun r_ u_ H locs hp hW => ?_)
    obtain ⟨er, rfl⟩ := hp
    subst er
    refine g_icmp_ge (x := i) (y := t.length) (tgt := 47) hx hb (by omega) (by omega) dX3_with_17 (by decide) (fun hc => ?_) (fun hc => ?_)
    · have e1 : i = t.length := by omega
      subst e1
      rw [List.take_length] at hsb
      exact kk w1 ba H locs ls hex hsb hW (lv_sub hl [4] rfl)
    · have hTl : ((t.take i).set pl c9).length ≤ 15 := by rw [List.length_set, List.length_take]; omega
      refine lv_aload_n hx hb dX3_with_20 rfl (lv_at hl 4 rfl) ?_
      refine lv_iload hx hb dX3_with_21 (lv_at hl 0 rfl) ?_
      refine lv_iload_n hx hb dX3_with_23 rfl (lv_at hl 2 rfl) ?_
      refine lv_icmp_ne (tgt := 31) hx hb dX3_with_24 (by decide) (fun hd => ?_) (fun hd => ?_)
      · have e : i ≠ pl := fun z => hd (by rw [z])
        refine lv_aload_n hx hb dX3_with_31 rfl (lv_at hl 1 rfl) ?_
        refine lv_iload hx hb dX3_with_32 (lv_at hl 0 rfl) ?_
        have hstb : g_Str D w1 sp t := hst.ex hex (fun _ _ z => z.elim)
        obtain ⟨v, hr1, hb1⟩ := hstb.rd hts hK hE hW
        refine g_calli (va_runV (As := [.int (nI i)]) (rest := [.ref b]) ⟨hx, hb, hml, hown, hts⟩ (mtJ16_charAt l D w1 H.size sp i t hstb hc) (cwV 1 hts (lw_V q2005 q750 q751 q63 q752) rfl rfl rfl (by decide +kernel) ⟨Nat.le_trans (Nat.le_of_ble_eq_true rfl) hRf, Nat.le_trans (Nat.le_of_ble_eq_true rfl) hRl⟩) (g_preVR hW hK hE hr1.2.2.2) rfl rfl hl.1 rfl (lv_room (Nat.le_of_ble_eq_true rfl)) dX3_with_34 ⟨hRc, hRs⟩) hW (fun r_ u_ H locs hp hW => ?_)
        obtain ⟨er, rfl⟩ := hp
        subst er
        have hcn : g_cn (((t.take i).set pl c9).length + 1) 16 = 16 := if_pos (by omega)
        have hcc : g_cc (((t.take i).set pl c9).length + 1) 16 = 0 := if_pos (by omega)
        have hcs : g_cs (((t.take i).set pl c9).length + 1) 16 = 0 := if_pos (by omega)
        refine g_callq (va_runV (As := [.int (nI (t.getD i 0))]) (rest := []) ⟨hx, hb, hml, hown, hts⟩ (mtJ23_append_3 l D w1 H.size b ba 16 0 ((t.take i).set pl c9) hsb (t.getD i 0) (hst.cd i) (by omega) (by omega)) (cwV 1 hts (lw_V q2023 q1114 q1115 q70 q1116) rfl rfl rfl (by decide +kernel) ⟨Nat.le_trans (Nat.le_of_ble_eq_true rfl) hRf, Nat.le_trans (Nat.le_of_ble_eq_true rfl) hRl⟩) (g_preV hW hK hE hsb.1 rfl) rfl rfl hl.1 rfl (lv_room (Nat.le_of_ble_eq_true rfl)) dX3_with_37 ⟨?_, ?_⟩) hW (fun r_ u1 H locs hp hW => ?_)
        · rw [hcc]; exact hRc
        · rw [hcs]; exact hRs
        rw [hcc, hcs]
        obtain ⟨bb, er, hsb2, hbb, hex2⟩ := hp
        subst er
        rw [hcn] at hsb2
        have hex3 : g_ex (fun _ => False) w u1 := hex.trM hex2 (fun z hz hM => hM.elim (fun q => hb0 (by rw [← q]; exact hz)) (fun q => hbw (by rw [← q]; exact hz)))
        have hbw2 : bb ∉ w.1 := hbb.elim (fun q => by rw [q]; exact hbw) (fun n z => n (hex.1 _ z))
        have hw := wi_1 (p := pl) (c := c9) hc
        rw [if_neg e] at hw
        rw [← hw] at hsb2
        refine lv_pop hx hb dX3_with_40 rfl ?_
        refine lv_iinc (v := nI (i + 1)) (lv' := [(4, .int (nI (i + 1))), (0, .ref sp), (1, .int (nI pl)), (2, .int (nI c9)), (3, .ref b)]) hx hb dX3_with_41 hl (k := 0) rfl (nI_1 i) (by decide) rfl (fun ls hl => ?_)
        refine lv_goto (tgt := 11) hx hb dX3_with_44 (by decide) ?_
        exact ih (i + 1) u1 bb H locs ls (by omega) (by omega) hex3 hbw2 hsb2 hW (lv_sub hl [0, 1, 2, 3, 4] rfl)
      · have e : i = pl := nI_inj (by omega) hpl (by first | exact hd | exact Classical.not_not.mp hd)
        refine lv_iload_n hx hb dX3_with_27 rfl (lv_at hl 3 rfl) ?_
        refine lv_goto (tgt := 37) hx hb dX3_with_28 (by decide) ?_
        have hcn : g_cn (((t.take i).set pl c9).length + 1) 16 = 16 := if_pos (by omega)
        have hcc : g_cc (((t.take i).set pl c9).length + 1) 16 = 0 := if_pos (by omega)
        have hcs : g_cs (((t.take i).set pl c9).length + 1) 16 = 0 := if_pos (by omega)
        refine g_callq (va_runV (As := [.int (nI c9)]) (rest := []) ⟨hx, hb, hml, hown, hts⟩ (mtJ23_append_3 l D w1 H.size b ba 16 0 ((t.take i).set pl c9) hsb (c9) (hc9) (by omega) (by omega)) (cwV 1 hts (lw_V q2023 q1114 q1115 q70 q1116) rfl rfl rfl (by decide +kernel) ⟨Nat.le_trans (Nat.le_of_ble_eq_true rfl) hRf, Nat.le_trans (Nat.le_of_ble_eq_true rfl) hRl⟩) (g_preV hW hK hE hsb.1 rfl) rfl rfl hl.1 rfl (lv_room (Nat.le_of_ble_eq_true rfl)) dX3_with_37 ⟨?_, ?_⟩) hW (fun r_ u1 H locs hp hW => ?_)
        · rw [hcc]; exact hRc
        · rw [hcs]; exact hRs
        rw [hcc, hcs]
        obtain ⟨bb, er, hsb2, hbb, hex2⟩ := hp
        subst er
        rw [hcn] at hsb2
        have hex3 : g_ex (fun _ => False) w u1 := hex.trM hex2 (fun z hz hM => hM.elim (fun q => hb0 (by rw [← q]; exact hz)) (fun q => hbw (by rw [← q]; exact hz)))
        have hbw2 : bb ∉ w.1 := hbb.elim (fun q => by rw [q]; exact hbw) (fun n z => n (hex.1 _ z))
        have hw := wi_1 (p := pl) (c := c9) hc
        rw [if_pos e] at hw
        rw [← hw] at hsb2
        refine lv_pop hx hb dX3_with_40 rfl ?_
        refine lv_iinc (v := nI (i + 1)) (lv' := [(4, .int (nI (i + 1))), (0, .ref sp), (1, .int (nI pl)), (2, .int (nI c9)), (3, .ref b)]) hx hb dX3_with_41 hl (k := 0) rfl (nI_1 i) (by decide) rfl (fun ls hl => ?_)
        refine lv_goto (tgt := 11) hx hb dX3_with_44 (by decide) ?_
        exact ih (i + 1) u1 bb H locs ls (by omega) (by omega) hex3 hbw2 hsb2 hW (lv_sub hl [0, 1, 2, 3, 4] rfl)
set_option maxHeartbeats 4000000 in
set_option maxRecDepth 100000 in
/-- Model.with -/
theorem mtX3_with (l : Launch) (D : va_G) (w : g_H) (sz : Nat) (sp pl c9 : Nat) (t : List Nat) (hst : g_Str D w sp t) (hl15 : t.length ≤ 15) (hpl : pl < 2 ^ 31) (hc9 : c9 < 128) : Met l yX3_with (ws_ yX3_with cX3_with 5 (some (.object "java/lang/String"))) ({ frames := 7, cells := 4, slots := 24 + t.length, locals := 191 }) (g_Pc D [.ref sp, .int (nI pl), .int (nI c9)] w sz) (g_Qq D w sz (fun r u => ∃ st, r = some st ∧ st ∉ w.1 ∧ g_Str D u st (t.set pl c9) ∧ g_ex (fun _ => False) w u)) (4) (24 + t.length) (g_A w sz) := by
  refine Met.ofW (cc := cX3_with) (maxL := 5) (ret := (some (.object "java/lang/String"))) (by decide) rfl ?_
  intro p e s m args below meth c s₁ B hml hv
  obtain ⟨rfl, hI⟩ := hv
  have hx := B.exec
  have hb := B.bytes
  have hr := B.returns
  have hts := atoms_spec (ws := ws_ yX3_with cX3_with 5 (some (.object "java/lang/String"))) B.pre
  have hts : ∀ w ∈ lw_all, w.before _ s = true := fun w h => hts w (List.mem_cons_of_mem _ h)
  have hown : s.vm.findClass RX3 = some m.cls := findClass_of_methodNamed B.named
  have hlocks := B.notSynchronized
  have hsz := hI.1
  subst hsz
  have hW := g_W.start hI
  have hK := g_K hI
  have hE := g_E hI
  have hl := lv_entry ([.ref sp, .int (nI pl), .int (nI c9)]) (n := 5) (by exact Nat.le_of_ble_eq_true rfl)
  rw [lg_entry_eq]
  generalize (lg_sl ([.ref sp, .int (nI pl), .int (nI c9)]) ++ List.replicate (5 - (lg_sl ([.ref sp, .int (nI pl), .int (nI c9)])).length) Slot.unset).toArray = ls at hl ⊢
  have hl : lv_has ls 5 [(0, .ref sp), (1, .int (nI pl)), (2, .int (nI c9))] := hl
  have x_1 : g_ex (fun _ => False) w w := g_ex.rf
  refine g_newo (ci := 15) (C := RJ23) (T := TJ23) (N := 4) hx hb hts in_J23 tyJ23 tyJ23_ok hown q2020 q831 q70 hK hW rfl [.null, .int (0), .int (0), .int (0)] (by decide +kernel) ?_ ?_ dX3_with_0 (fun o_2 H hq hW => ?_)
  · show _ ≤ 4; omega
  · show _ ≤ 24 + t.length; omega
  have ho_2 := hq
  obtain ⟨w_3, ew_3⟩ : ∃ z__, z__ = g_push w o_2 (.inr (15, [.null, .int (0), .int (0), .int (0)])) := ⟨_, rfl⟩
  have hW := g_W.ren hW ew_3 rfl
  have h_4 : g_at w_3 o_2 (.inr (15, [.null, .int (0), .int (0), .int (0)])) := by rw [ew_3]; exact g_at.push_self
  have x_5 : g_ex (fun _ => False) w w_3 := by rw [ew_3]; exact x_1.push hq
  refine lv_dup hx hb dX3_with_3 rfl ?_
  refine g_callv (va_runI (As := []) (rest := [.ref o_2]) ⟨hx, hb, hml, hown, hts⟩ (mtJ23_init l D w_3 H.size o_2 0 h_4) (cwI 0 hts (lw_meth q834) rfl rfl rfl (hts _ q70) (hts _ q2021) (hts _ q833) rfl (by decide +kernel) ⟨Nat.le_of_ble_eq_true rfl, Nat.le_of_ble_eq_true rfl⟩) (g_preS hW hK hE) rfl rfl hl.1 rfl (lv_room (Nat.le_of_ble_eq_true rfl)) dX3_with_4 ⟨?_, ?_⟩) hW (fun u1 H locs hp hW => ?_)
  · (try simp only [headSpec]); omega
  · (try simp only [headSpec]); omega
  obtain ⟨ba, hba, hsb, hex⟩ := hp
  have hx0 : g_ex (fun _ => False) w u1 := x_5.trM hex (fun z hz1 hz2 => ho_2 (by rw [← hz2]; exact hz1))
  have hbw : ba ∉ w.1 := fun z => hba (x_5.1 _ z)
  refine lv_astore_n (lv' := [(3, .ref o_2), (0, .ref sp), (1, .int (nI pl)), (2, .int (nI c9))]) hx hb dX3_with_7 rfl hl (by decide) rfl (fun ls hl => ?_)
  refine lv_iconst (v := 0) hx hb dX3_with_8 (by decide) ?_
  refine lv_istore (lv' := [(4, .int (0)), (3, .ref o_2), (0, .ref sp), (1, .int (nI pl)), (2, .int (nI c9))]) hx hb dX3_with_9 hl (by decide) rfl (fun ls hl => ?_)
  refine lpX3_with (D := D) hx hb hts hown hK hE hml (Nat.le_of_ble_eq_true rfl) (Nat.le_of_ble_eq_true rfl) ?_ ?_ w o_2 ho_2 sp pl c9 t hst hl15 hpl hc9 (fun w1 ba H locs ls hex hsb hW hl => ?_) (t.length + 1) 0 u1 ba _ _ ls (by omega) (by omega) hx0 hbw hsb hW (lv_sub hl [0, 2, 3, 4, 1] rfl)
  · (try simp only [headSpec]); omega
  · (try simp only [headSpec]); omega
  have hTl : (t.set pl c9).length = t.length := List.length_set ..
  refine lv_aload_n hx hb dX3_with_47 rfl (lv_at hl 0 rfl) ?_
  refine g_callq (va_runV (As := []) (rest := []) ⟨hx, hb, hml, hown, hts⟩ (mtJ23_toString l D w1 H.size o_2 ba 16 0 (t.set pl c9) hsb (by omega)) (cwV 0 hts (lw_V q2024 q974 q975 q70 q976) rfl rfl rfl (by decide +kernel) ⟨Nat.le_of_ble_eq_true rfl, Nat.le_of_ble_eq_true rfl⟩) (g_preV hW hK hE hsb.1 rfl) rfl rfl hl.1 rfl (lv_room (Nat.le_of_ble_eq_true rfl)) dX3_with_48 ⟨?_, ?_⟩) hW (fun r_ u2 H locs hp hW => ?_)
  · (try simp only [headSpec]); omega
  · (try simp only [headSpec]); omega
  obtain ⟨st, er, hst9, hs2, hex2⟩ := hp
  subst er
  exact g_qret (v := some st) hx hb hr (Or.inl ⟨_, rfl⟩) hlocks hW (⟨st, rfl, fun z => hst9 (hex.1 _ z), hs2, hex.tr hex2⟩) (by omega) (by omega) dX3_with_51
set_option maxHeartbeats 4000000 in
set_option maxRecDepth 100000 in
/-- Model.putIn: its loop -/
theorem lpX3_putIn {p : Program} {l : Launch} {e : Env} {R : Room} {s : State} {m : MethodId} {args : Array Value} {below : List Frame} {meth : Method} {c : Code} {cells slots : Nat} {Q : State → Prop} {D : va_G} {A : Nat → Prop} (hx : p.tables.exec = Jvm.exec) (hb : c.code = cX3_putIn) (hts : ∀ w ∈ lw_all, w.before args s = true) (hown : s.vm.findClass RX3 = some m.cls) (hK : va_K D gCl (gT D) s) (hE : g_Env D A s) (hml : c.maxLocals = 5) (hRf : 7 ≤ R.frames) (hRl : 166 ≤ R.locals) (hRc : cells ≤ R.cells) (hRs : slots ≤ R.slots) (w : g_H) (b : Nat) (hb0 : b ∉ w.1) (sp pl c9 : Nat) (t : List Nat) (hst : g_Str D w sp t) (hl15 : t.length ≤ 14) (hpl : pl ≤ t.length) (hc9 : c9 < 128)
    (kk : ∀ (w1 : g_H) (ba : Nat) (H : Heap) (locs : List Loc) (ls : Array Slot), g_ex (fun _ => False) w w1 → g_SB D w1 b ba 0 (t.insertIdx pl c9) 16 → g_W D A s.heap H locs w1 → lv_has ls 5 [(3, .ref b)] → W p l e R s m args below meth c H locs cells slots Q (F0 m 58 ls [])) :
    ∀ (k : Nat) (i : Nat) (w1 : g_H) (ba : Nat) (H : Heap) (locs : List Loc) (ls : Array Slot), (t.length + 1) < i + k → i ≤ (t.length + 1) → g_ex (fun _ => False) w w1 → ba ∉ w.1 → g_SB D w1 b ba 0 (pT t pl c9 i) 16 → g_W D A s.heap H locs w1 → lv_has ls 5 [(4, .int (nI i)), (0, .ref sp), (1, .int (nI pl)), (2, .int (nI c9)), (3, .ref b)] → W p l e R s m args below meth c H locs cells slots Q (F0 m 11 ls []) := by
  intro k
  induction k with
  | zero => intro i w1 ba H locs ls hfuel hi hex hbw hsb hW hl; exact absurd hfuel (by omega)
  | succ k ih =>
    intro i w1 ba H locs ls hfuel hi hex hbw hsb hW hl
    have hstb : g_Str D w1 sp t := hst.ex hex (fun _ _ z => z.elim)
    obtain ⟨v, hr1, hb1⟩ := hstb.rd hts hK hE hW
    refine lv_iload hx hb dX3_putIn_11 (lv_at hl 0 rfl) ?_
    refine lv_aload_n hx hb dX3_putIn_13 rfl (lv_at hl 1 rfl) ?_
    refine g_calli (va_runV (As := []) (rest := [.int (nI i)]) ⟨hx, hb, hml, hown, hts⟩ (mtJ16_length l D w1 H.size sp t hstb) (cwV 0 hts (lw_V q2004 q740 q741 q63 q742) rfl rfl rfl (by decide +kernel) ⟨Nat.le_trans (Nat.le_of_ble_eq_true rfl) hRf, Nat.le_trans (Nat.le_of_ble_eq_true rfl) hRl⟩) (g_preVR hW hK hE hr1.2.2.2) rfl rfl hl.1 rfl (lv_room (Nat.le_of_ble_eq_true rfl)) dX3_putIn_14 ⟨hRc, hRs⟩) hW (fun r_ u_ H locs hp hW => ?_)
    obtain ⟨er, rfl⟩ := hp
    subst er
    refine lv_icmp_gt (tgt := 58) hx hb dX3_putIn_17 (by decide) (fun hc0 => ?_) (fun hc0 => ?_)
    · have hc : t.length < i := (nI_ltI (by omega) (by omega)).mp hc0
      have e1 : i = t.length + 1 := by omega
      subst e1
      rw [pT_end hpl] at hsb
      exact kk w1 ba H locs ls hex hsb hW (lv_sub hl [4] rfl)
    · have hc : i ≤ t.length := Nat.le_of_not_lt (fun z => hc0 ((nI_ltI (by omega) (by omega)).mpr z))
      have hTl : (pT t pl c9 i).length ≤ 15 := by unfold pT; rw [List.length_append, List.length_append, List.length_take, List.length_drop, List.length_take]; split <;> simp <;> omega
      refine lv_iload hx hb dX3_putIn_20 (lv_at hl 0 rfl) ?_
      refine lv_iload_n hx hb dX3_putIn_22 rfl (lv_at hl 2 rfl) ?_
      refine lv_icmp_ne (tgt := 32) hx hb dX3_putIn_23 (by decide) (fun hd => ?_) (fun hd => ?_)
      · have e : i ≠ pl := fun z => hd (by rw [z])
        refine lv_iload hx hb dX3_putIn_32 (lv_at hl 0 rfl) ?_
        refine lv_aload_n hx hb dX3_putIn_34 rfl (lv_at hl 1 rfl) ?_
        have hstc : g_Str D w1 sp t := hst.ex hex (fun _ _ z => z.elim)
        obtain ⟨v, hr1, hb1⟩ := hstc.rd hts hK hE hW
        refine g_calli (va_runV (As := []) (rest := [.int (nI i)]) ⟨hx, hb, hml, hown, hts⟩ (mtJ16_length l D w1 H.size sp t hstc) (cwV 0 hts (lw_V q2004 q740 q741 q63 q742) rfl rfl rfl (by decide +kernel) ⟨Nat.le_trans (Nat.le_of_ble_eq_true rfl) hRf, Nat.le_trans (Nat.le_of_ble_eq_true rfl) hRl⟩) (g_preVR hW hK hE hr1.2.2.2) rfl rfl hl.1 rfl (lv_room (Nat.le_of_ble_eq_true rfl)) dX3_putIn_35 ⟨hRc, hRs⟩) hW (fun r_ u_ H locs hp hW => ?_)
        obtain ⟨er, rfl⟩ := hp
        subst er
        refine g_icmp_ge (x := i) (y := t.length) (tgt := 52) hx hb (by omega) (by omega) dX3_putIn_38 (by decide) (fun he => ?_) (fun he => ?_)
        · have e9 : i = t.length := by omega
          refine lv_iinc (v := nI (i + 1)) (lv' := [(4, .int (nI (i + 1))), (0, .ref sp), (1, .int (nI pl)), (2, .int (nI c9)), (3, .ref b)]) hx hb dX3_putIn_52 hl (k := 0) rfl (nI_1 i) (by decide) rfl (fun ls hl => ?_)
          refine lv_goto (tgt := 11) hx hb dX3_putIn_55 (by decide) ?_
          exact ih (i + 1) w1 ba H locs ls (by omega) (by omega) hex hbw (by subst e9; rw [← pT_n hpl e]; exact hsb) hW (lv_sub hl [0, 1, 2, 3, 4] rfl)
        · refine lv_aload_n hx hb dX3_putIn_41 rfl (lv_at hl 4 rfl) ?_
          refine lv_aload_n hx hb dX3_putIn_42 rfl (lv_at hl 1 rfl) ?_
          refine lv_iload hx hb dX3_putIn_43 (lv_at hl 0 rfl) ?_
          have hstd : g_Str D w1 sp t := hst.ex hex (fun _ _ z => z.elim)
          obtain ⟨v, hr1, hb1⟩ := hstd.rd hts hK hE hW
          refine g_calli (va_runV (As := [.int (nI i)]) (rest := [.ref b]) ⟨hx, hb, hml, hown, hts⟩ (mtJ16_charAt l D w1 H.size sp i t hstd he) (cwV 1 hts (lw_V q2005 q750 q751 q63 q752) rfl rfl rfl (by decide +kernel) ⟨Nat.le_trans (Nat.le_of_ble_eq_true rfl) hRf, Nat.le_trans (Nat.le_of_ble_eq_true rfl) hRl⟩) (g_preVR hW hK hE hr1.2.2.2) rfl rfl hl.1 rfl (lv_room (Nat.le_of_ble_eq_true rfl)) dX3_putIn_45 ⟨hRc, hRs⟩) hW (fun r_ u_ H locs hp hW => ?_)
          obtain ⟨er, rfl⟩ := hp
          subst er
          have hcn : g_cn ((pT t pl c9 i).length + 1) 16 = 16 := if_pos (by omega)
          have hcc : g_cc ((pT t pl c9 i).length + 1) 16 = 0 := if_pos (by omega)
          have hcs : g_cs ((pT t pl c9 i).length + 1) 16 = 0 := if_pos (by omega)
          refine g_callq (va_runV (As := [.int (nI (t.getD i 0))]) (rest := []) ⟨hx, hb, hml, hown, hts⟩ (mtJ23_append_3 l D w1 H.size b ba 16 0 (pT t pl c9 i) hsb (t.getD i 0) (hst.cd i) (by omega) (by omega)) (cwV 1 hts (lw_V q2023 q1114 q1115 q70 q1116) rfl rfl rfl (by decide +kernel) ⟨Nat.le_trans (Nat.le_of_ble_eq_true rfl) hRf, Nat.le_trans (Nat.le_of_ble_eq_true rfl) hRl⟩) (g_preV hW hK hE hsb.1 rfl) rfl rfl hl.1 rfl (lv_room (Nat.le_of_ble_eq_true rfl)) dX3_putIn_48 ⟨?_, ?_⟩) hW (fun r_ u5 H locs hp hW => ?_)
          · rw [hcc]; exact hRc
          · rw [hcs]; exact hRs
          rw [hcc, hcs]
          obtain ⟨bc, er, hsb5, hbc, hex5⟩ := hp
          subst er
          rw [hcn, pT_b he e] at hsb5
          have hex6 : g_ex (fun _ => False) w u5 := hex.trM hex5 (fun z hz hM => hM.elim (fun q => hb0 (by rw [← q]; exact hz)) (fun q => hbw (by rw [← q]; exact hz)))
          have hbw6 : bc ∉ w.1 := hbc.elim (fun q => by rw [q]; exact hbw) (fun n z => n (hex.1 _ z))
          refine lv_pop hx hb dX3_putIn_51 rfl ?_
          refine lv_iinc (v := nI (i + 1)) (lv' := [(4, .int (nI (i + 1))), (0, .ref sp), (1, .int (nI pl)), (2, .int (nI c9)), (3, .ref b)]) hx hb dX3_putIn_52 hl (k := 0) rfl (nI_1 i) (by decide) rfl (fun ls hl => ?_)
          refine lv_goto (tgt := 11) hx hb dX3_putIn_55 (by decide) ?_
          exact ih (i + 1) u5 bc H locs ls (by omega) (by omega) hex6 hbw6 hsb5 hW (lv_sub hl [0, 1, 2, 3, 4] rfl)
      · have e : i = pl := nI_inj (by omega) (by omega) (by first | exact hd | exact Classical.not_not.mp hd)
        refine lv_aload_n hx hb dX3_putIn_26 rfl (lv_at hl 4 rfl) ?_
        refine lv_iload_n hx hb dX3_putIn_27 rfl (lv_at hl 3 rfl) ?_
        have hcn : g_cn ((pT t pl c9 i).length + 1) 16 = 16 := if_pos (by omega)
        have hcc : g_cc ((pT t pl c9 i).length + 1) 16 = 0 := if_pos (by omega)
        have hcs : g_cs ((pT t pl c9 i).length + 1) 16 = 0 := if_pos (by omega)
        refine g_callq (va_runV (As := [.int (nI c9)]) (rest := []) ⟨hx, hb, hml, hown, hts⟩ (mtJ23_append_3 l D w1 H.size b ba 16 0 (pT t pl c9 i) hsb (c9) (hc9) (by omega) (by omega)) (cwV 1 hts (lw_V q2023 q1114 q1115 q70 q1116) rfl rfl rfl (by decide +kernel) ⟨Nat.le_trans (Nat.le_of_ble_eq_true rfl) hRf, Nat.le_trans (Nat.le_of_ble_eq_true rfl) hRl⟩) (g_preV hW hK hE hsb.1 rfl) rfl rfl hl.1 rfl (lv_room (Nat.le_of_ble_eq_true rfl)) dX3_putIn_28 ⟨?_, ?_⟩) hW (fun r_ u1 H locs hp hW => ?_)
        · rw [hcc]; exact hRc
        · rw [hcs]; exact hRs
        rw [hcc, hcs]
        obtain ⟨bb, er, hsb2, hbb, hex2⟩ := hp
        subst er
        rw [hcn] at hsb2
        have hex3 : g_ex (fun _ => False) w u1 := hex.trM hex2 (fun z hz hM => hM.elim (fun q => hb0 (by rw [← q]; exact hz)) (fun q => hbw (by rw [← q]; exact hz)))
        have hbw2 : bb ∉ w.1 := hbb.elim (fun q => by rw [q]; exact hbw) (fun n z => n (hex.1 _ z))
        rw [pT_c e] at hsb2
        have hTl2 : (t.take pl ++ [c9]).length ≤ 15 := by rw [List.length_append, List.length_take]; simp; omega
        refine lv_pop hx hb dX3_putIn_31 rfl ?_
        refine lv_iload hx hb dX3_putIn_32 (lv_at hl 0 rfl) ?_
        refine lv_aload_n hx hb dX3_putIn_34 rfl (lv_at hl 1 rfl) ?_
        have hstc : g_Str D u1 sp t := hst.ex hex3 (fun _ _ z => z.elim)
        obtain ⟨v, hr1, hb1⟩ := hstc.rd hts hK hE hW
        refine g_calli (va_runV (As := []) (rest := [.int (nI i)]) ⟨hx, hb, hml, hown, hts⟩ (mtJ16_length l D u1 H.size sp t hstc) (cwV 0 hts (lw_V q2004 q740 q741 q63 q742) rfl rfl rfl (by decide +kernel) ⟨Nat.le_trans (Nat.le_of_ble_eq_true rfl) hRf, Nat.le_trans (Nat.le_of_ble_eq_true rfl) hRl⟩) (g_preVR hW hK hE hr1.2.2.2) rfl rfl hl.1 rfl (lv_room (Nat.le_of_ble_eq_true rfl)) dX3_putIn_35 ⟨hRc, hRs⟩) hW (fun r_ u_ H locs hp hW => ?_)
        obtain ⟨er, rfl⟩ := hp
        subst er
        refine g_icmp_ge (x := i) (y := t.length) (tgt := 52) hx hb (by omega) (by omega) dX3_putIn_38 (by decide) (fun he => ?_) (fun he => ?_)
        · have e9 : i = t.length := by omega
          refine lv_iinc (v := nI (i + 1)) (lv' := [(4, .int (nI (i + 1))), (0, .ref sp), (1, .int (nI pl)), (2, .int (nI c9)), (3, .ref b)]) hx hb dX3_putIn_52 hl (k := 0) rfl (nI_1 i) (by decide) rfl (fun ls hl => ?_)
          refine lv_goto (tgt := 11) hx hb dX3_putIn_55 (by decide) ?_
          exact ih (i + 1) u1 bb H locs ls (by omega) (by omega) hex3 hbw2 (by subst e9; rw [← pT_e e]; exact hsb2) hW (lv_sub hl [0, 1, 2, 3, 4] rfl)
        · refine lv_aload_n hx hb dX3_putIn_41 rfl (lv_at hl 4 rfl) ?_
          refine lv_aload_n hx hb dX3_putIn_42 rfl (lv_at hl 1 rfl) ?_
          refine lv_iload hx hb dX3_putIn_43 (lv_at hl 0 rfl) ?_
          have hstd : g_Str D u1 sp t := hst.ex hex3 (fun _ _ z => z.elim)
          obtain ⟨v, hr1, hb1⟩ := hstd.rd hts hK hE hW
          refine g_calli (va_runV (As := [.int (nI i)]) (rest := [.ref b]) ⟨hx, hb, hml, hown, hts⟩ (mtJ16_charAt l D u1 H.size sp i t hstd he) (cwV 1 hts (lw_V q2005 q750 q751 q63 q752) rfl rfl rfl (by decide +kernel) ⟨Nat.le_trans (Nat.le_of_ble_eq_true rfl) hRf, Nat.le_trans (Nat.le_of_ble_eq_true rfl) hRl⟩) (g_preVR hW hK hE hr1.2.2.2) rfl rfl hl.1 rfl (lv_room (Nat.le_of_ble_eq_true rfl)) dX3_putIn_45 ⟨hRc, hRs⟩) hW (fun r_ u_ H locs hp hW => ?_)
          obtain ⟨er, rfl⟩ := hp
          subst er
          have hcn : g_cn ((t.take pl ++ [c9]).length + 1) 16 = 16 := if_pos (by omega)
          have hcc : g_cc ((t.take pl ++ [c9]).length + 1) 16 = 0 := if_pos (by omega)
          have hcs : g_cs ((t.take pl ++ [c9]).length + 1) 16 = 0 := if_pos (by omega)
          refine g_callq (va_runV (As := [.int (nI (t.getD i 0))]) (rest := []) ⟨hx, hb, hml, hown, hts⟩ (mtJ23_append_3 l D u1 H.size b bb 16 0 (t.take pl ++ [c9]) hsb2 (t.getD i 0) (hst.cd i) (by omega) (by omega)) (cwV 1 hts (lw_V q2023 q1114 q1115 q70 q1116) rfl rfl rfl (by decide +kernel) ⟨Nat.le_trans (Nat.le_of_ble_eq_true rfl) hRf, Nat.le_trans (Nat.le_of_ble_eq_true rfl) hRl⟩) (g_preV hW hK hE hsb2.1 rfl) rfl rfl hl.1 rfl (lv_room (Nat.le_of_ble_eq_true rfl)) dX3_putIn_48 ⟨?_, ?_⟩) hW (fun r_ u5 H locs hp hW => ?_)
          · rw [hcc]; exact hRc
          · rw [hcs]; exact hRs
          rw [hcc, hcs]
          obtain ⟨bc, er, hsb5, hbc, hex5⟩ := hp
          subst er
          rw [hcn, pT_a he e] at hsb5
          have hex6 : g_ex (fun _ => False) w u5 := hex3.trM hex5 (fun z hz hM => hM.elim (fun q => hb0 (by rw [← q]; exact hz)) (fun q => hbw2 (by rw [← q]; exact hz)))
          have hbw6 : bc ∉ w.1 := hbc.elim (fun q => by rw [q]; exact hbw2) (fun n z => n (hex3.1 _ z))
          refine lv_pop hx hb dX3_putIn_51 rfl ?_
          refine lv_iinc (v := nI (i + 1)) (lv' := [(4, .int (nI (i + 1))), (0, .ref sp), (1, .int (nI pl)), (2, .int (nI c9)), (3, .ref b)]) hx hb dX3_putIn_52 hl (k := 0) rfl (nI_1 i) (by decide) rfl (fun ls hl => ?_)
          refine lv_goto (tgt := 11) hx hb dX3_putIn_55 (by decide) ?_
          exact ih (i + 1) u5 bc H locs ls (by omega) (by omega) hex6 hbw6 hsb5 hW (lv_sub hl [0, 1, 2, 3, 4] rfl)
set_option maxHeartbeats 4000000 in
set_option maxRecDepth 100000 in
/-- Model.putIn -/
theorem mtX3_putIn (l : Launch) (D : va_G) (w : g_H) (sz : Nat) (sp pl c9 : Nat) (t : List Nat) (hst : g_Str D w sp t) (hl15 : t.length ≤ 14) (hpl : pl ≤ t.length) (hc9 : c9 < 128) : Met l yX3_putIn (ws_ yX3_putIn cX3_putIn 5 (some (.object "java/lang/String"))) ({ frames := 7, cells := 4, slots := 25 + t.length, locals := 191 }) (g_Pc D [.ref sp, .int (nI pl), .int (nI c9)] w sz) (g_Qq D w sz (fun r u => ∃ st, r = some st ∧ st ∉ w.1 ∧ g_Str D u st (t.insertIdx pl c9) ∧ g_ex (fun _ => False) w u)) (4) (25 + t.length) (g_A w sz) := by
  refine Met.ofW (cc := cX3_putIn) (maxL := 5) (ret := (some (.object "java/lang/String"))) (by decide) rfl ?_
  intro p e s m args below meth c s₁ B hml hv
  obtain ⟨rfl, hI⟩ := hv
  have hx := B.exec
  have hb := B.bytes
  have hr := B.returns
  have hts := atoms_spec (ws := ws_ yX3_putIn cX3_putIn 5 (some (.object "java/lang/String"))) B.pre
  have hts : ∀ w ∈ lw_all, w.before _ s = true := fun w h => hts w (List.mem_cons_of_mem _ h)
  have hown : s.vm.findClass RX3 = some m.cls := findClass_of_methodNamed B.named
  have hlocks := B.notSynchronized
  have hsz := hI.1
  subst hsz
  have hW := g_W.start hI
  have hK := g_K hI
  have hE := g_E hI
  have hl := lv_entry ([.ref sp, .int (nI pl), .int (nI c9)]) (n := 5) (by exact Nat.le_of_ble_eq_true rfl)
  rw [lg_entry_eq]
  generalize (lg_sl ([.ref sp, .int (nI pl), .int (nI c9)]) ++ List.replicate (5 - (lg_sl ([.ref sp, .int (nI pl), .int (nI c9)])).length) Slot.unset).toArray = ls at hl ⊢
  have hl : lv_has ls 5 [(0, .ref sp), (1, .int (nI pl)), (2, .int (nI c9))] := hl
  have x_1 : g_ex (fun _ => False) w w := g_ex.rf
  refine g_newo (ci := 15) (C := RJ23) (T := TJ23) (N := 4) hx hb hts in_J23 tyJ23 tyJ23_ok hown q2020 q831 q70 hK hW rfl [.null, .int (0), .int (0), .int (0)] (by decide +kernel) ?_ ?_ dX3_putIn_0 (fun o_2 H hq hW => ?_)
  · show _ ≤ 4; omega
  · show _ ≤ 25 + t.length; omega
  have ho_2 := hq
  obtain ⟨w_3, ew_3⟩ : ∃ z__, z__ = g_push w o_2 (.inr (15, [.null, .int (0), .int (0), .int (0)])) := ⟨_, rfl⟩
  have hW := g_W.ren hW ew_3 rfl
  have h_4 : g_at w_3 o_2 (.inr (15, [.null, .int (0), .int (0), .int (0)])) := by rw [ew_3]; exact g_at.push_self
  have x_5 : g_ex (fun _ => False) w w_3 := by rw [ew_3]; exact x_1.push hq
  refine lv_dup hx hb dX3_putIn_3 rfl ?_
  refine g_callv (va_runI (As := []) (rest := [.ref o_2]) ⟨hx, hb, hml, hown, hts⟩ (mtJ23_init l D w_3 H.size o_2 0 h_4) (cwI 0 hts (lw_meth q834) rfl rfl rfl (hts _ q70) (hts _ q2021) (hts _ q833) rfl (by decide +kernel) ⟨Nat.le_of_ble_eq_true rfl, Nat.le_of_ble_eq_true rfl⟩) (g_preS hW hK hE) rfl rfl hl.1 rfl (lv_room (Nat.le_of_ble_eq_true rfl)) dX3_putIn_4 ⟨?_, ?_⟩) hW (fun u1 H locs hp hW => ?_)
  · (try simp only [headSpec]); omega
  · (try simp only [headSpec]); omega
  obtain ⟨ba, hba, hsb, hex⟩ := hp
  have hx0 : g_ex (fun _ => False) w u1 := x_5.trM hex (fun z hz1 hz2 => ho_2 (by rw [← hz2]; exact hz1))
  have hbw : ba ∉ w.1 := fun z => hba (x_5.1 _ z)
  refine lv_astore_n (lv' := [(3, .ref o_2), (0, .ref sp), (1, .int (nI pl)), (2, .int (nI c9))]) hx hb dX3_putIn_7 rfl hl (by decide) rfl (fun ls hl => ?_)
  refine lv_iconst (v := 0) hx hb dX3_putIn_8 (by decide) ?_
  refine lv_istore (lv' := [(4, .int (0)), (3, .ref o_2), (0, .ref sp), (1, .int (nI pl)), (2, .int (nI c9))]) hx hb dX3_putIn_9 hl (by decide) rfl (fun ls hl => ?_)
  refine lpX3_putIn (D := D) hx hb hts hown hK hE hml (Nat.le_of_ble_eq_true rfl) (Nat.le_of_ble_eq_true rfl) ?_ ?_ w o_2 ho_2 sp pl c9 t hst hl15 hpl hc9 (fun w1 ba H locs ls hex hsb hW hl => ?_) (t.length + 2) 0 u1 ba _ _ ls (by omega) (by omega) hx0 hbw (by rw [pT_0]; exact hsb) hW (lv_sub hl [0, 2, 3, 4, 1] rfl)
  · (try simp only [headSpec]); omega
  · (try simp only [headSpec]); omega
  have hTl : (t.insertIdx pl c9).length = t.length + 1 := by rw [List.length_insertIdx, if_pos hpl]
  refine lv_aload_n hx hb dX3_putIn_58 rfl (lv_at hl 0 rfl) ?_
  refine g_callq (va_runV (As := []) (rest := []) ⟨hx, hb, hml, hown, hts⟩ (mtJ23_toString l D w1 H.size o_2 ba 16 0 (t.insertIdx pl c9) hsb (by omega)) (cwV 0 hts (lw_V q2024 q974 q975 q70 q976) rfl rfl rfl (by decide +kernel) ⟨Nat.le_of_ble_eq_true rfl, Nat.le_of_ble_eq_true rfl⟩) (g_preV hW hK hE hsb.1 rfl) rfl rfl hl.1 rfl (lv_room (Nat.le_of_ble_eq_true rfl)) dX3_putIn_59 ⟨?_, ?_⟩) hW (fun r_ u2 H locs hp hW => ?_)
  · (try simp only [headSpec]); omega
  · (try simp only [headSpec]); omega
  obtain ⟨st, er, hst9, hs2, hex2⟩ := hp
  subst er
  exact g_qret (v := some st) hx hb hr (Or.inl ⟨_, rfl⟩) hlocks hW (⟨st, rfl, fun z => hst9 (hex.1 _ z), hs2, hex.tr hex2⟩) (by omega) (by omega) dX3_putIn_62
