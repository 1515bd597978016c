/-! the model: symbolAt, replaced *
-/
set_option maxRecDepth 100000
def rpI (t : List Nat) (ad : Nat) (y : List Nat) (i : Nat) : List Nat := if i ≤ ad then t.take i else t.take ad ++ y ++ (t.drop (ad + 1)).take (i - (ad + 1))
theorem rpI_0 {t : List Nat} {ad : Nat} {y : List Nat} : rpI t ad y 0 = [] := by unfold rpI; rw [if_pos (Nat.zero_le _)]; rfl
theorem rpI_ad {t : List Nat} {ad : Nat} {y : List Nat} : rpI t ad y (ad + 1) = rpI t ad y ad ++ y := by unfold rpI; rw [if_neg (by omega), if_pos (Nat.le_refl _), Nat.sub_self, List.take_zero, List.append_nil]
theorem rpI_s {t : List Nat} {ad : Nat} {y : List Nat} {i : Nat} (h : i < t.length) (n : i ≠ ad) : rpI t ad y (i + 1) = rpI t ad y i ++ [t.getD i 0] := by
  unfold rpI
  by_cases e : i < ad
  · rw [if_pos (by omega), if_pos (by omega), List.take_add_one, List.getElem?_eq_getElem h, List.getD_eq_getElem?_getD, List.getElem?_eq_getElem h]; rfl
  · rw [if_neg (by omega), if_neg (by omega), rp_step (pre := t.take ad ++ y) (by omega) h]
theorem rpI_l {t : List Nat} {ad : Nat} {y : List Nat} (h : ad < t.length) : rpI t ad y t.length = rpT t ad y := by unfold rpI rpT; rw [if_neg (by omega), show t.length - (ad + 1) = (t.drop (ad + 1)).length by rw [List.length_drop], List.take_length]
theorem rpI_len {t : List Nat} {ad : Nat} {y : List Nat} {i : Nat} (h : i ≤ t.length) : (rpI t ad y i).length ≤ i + y.length := by
  unfold rpI
  split
  · rw [List.length_take]; omega
  · rw [List.length_append, List.length_append, List.length_take, List.length_take, List.length_drop]; omega
set_option maxHeartbeats 4000000 in
set_option maxRecDepth 100000 in
/-- Model.symbolAt: its loop -/
theorem lpX3_symbolAt {p : Program} {l : Launch} {e : Env} {R : Room} {s : State} {m : MethodId} {args : Array Value} {below : List Frame} {meth : Method} {c : Code} {cells slots : Nat} {Q : State → Prop} {D : va_G} {A : Nat → Prop} (hx : p.tables.exec = Jvm.exec) (hb : c.code = cX3_symbolAt) (hts : ∀ w ∈ lw_all, w.before args s = true) (hown : s.vm.findClass RX3 = some m.cls) (hK : va_K D gCl (gT D) s) (hE : g_Env D A s) (hml : c.maxLocals = 2) (hRf : 5 ≤ R.frames) (hRl : 97 ≤ R.locals) (hRc : cells ≤ R.cells) (hRs : slots ≤ R.slots) (w : g_H) (sp : Nat) (t : List Nat) (hst : g_Str D w sp t) (hkt : kHas t 1 = true) (kk1 : ∀ (H : Heap) (locs : List Loc) (ls : Array Slot), kFirst t < t.length → g_W D A s.heap H locs w → lv_has ls 2 [(1, .int (nI (kFirst t)))] → W p l e R s m args below meth c H locs cells slots Q (F0 m 21 ls []))
    (kk : ∀ (H : Heap) (locs : List Loc) (ls : Array Slot), ¬ kFirst t < t.length → g_W D A s.heap H locs w → W p l e R s m args below meth c H locs cells slots Q (F0 m 29 ls [])) :
    ∀ (k : Nat) (i : Nat) (H : Heap) (locs : List Loc) (ls : Array Slot), t.length < i + k → i ≤ t.length → kFirst t = i + kFirst (t.drop i) → g_W D A s.heap H locs w → lv_has ls 2 [(1, .int (nI i)), (0, .ref sp)] → W p l e R s m args below meth c H locs cells slots Q (F0 m 2 ls []) := by
  intro k
  induction k with
  | zero => intro i H locs ls hfuel hi hkf hW hl; exact absurd hfuel (by omega)
  | succ k ih =>
    intro i H locs ls hfuel hi hkf hW hl
    have hl1 := hst.1.1
    refine lv_iload_n hx hb dX3_symbolAt_2 rfl (lv_at hl 0 rfl) ?_
    refine lv_aload_n hx hb dX3_symbolAt_3 rfl (lv_at hl 1 rfl) ?_
    obtain ⟨v, hr1, hb1⟩ := hst.rd hts hK hE hW
    refine g_calli (va_runV (As := []) (rest := [.int (nI i)]) ⟨hx, hb, hml, hown, hts⟩ (mtJ16_length l D w H.size sp t hst) (cwV 0 hts (lw_V q2004 q740 q741 q63 q742) rfl rfl rfl (by decide +kernel) ⟨Nat.le_trans (Nat.le_of_ble_eq_true rfl) hRf, Nat.le_trans (Nat.le_of_ble_eq_true rfl) hRl⟩) (g_preVR hW hK hE hr1.2.2.2) rfl rfl hl.1 rfl (lv_room (Nat.le_of_ble_eq_true rfl)) dX3_symbolAt_4 ⟨hRc, hRs⟩) hW (fun r_ u_ H locs hp hW => ?_)
    obtain ⟨er, rfl⟩ := hp
    subst er
    refine g_icmp_ge (x := i) (y := t.length) (tgt := 29) hx hb (by omega) (by omega) dX3_symbolAt_7 (by decide) (fun hc => ?_) (fun hc => ?_)
    · exact kk H locs ls (by omega) hW
    · have hch := hst.1.lt (j := i)
      have hkd := kFirst_drop hc
      refine lv_aload_n hx hb dX3_symbolAt_10 rfl (lv_at hl 1 rfl) ?_
      refine lv_iload_n hx hb dX3_symbolAt_11 rfl (lv_at hl 0 rfl) ?_
      obtain ⟨v, hr1, hb1⟩ := hst.rd hts hK hE hW
      refine g_calli (va_runV (As := [.int (nI i)]) (rest := []) ⟨hx, hb, hml, hown, hts⟩ (mtJ16_charAt l D w H.size sp i t hst hc) (cwV 1 hts (lw_V q2005 q750 q751 q63 q752) rfl rfl rfl (by decide +kernel) ⟨Nat.le_trans (Nat.le_of_ble_eq_true rfl) hRf, Nat.le_trans (Nat.le_of_ble_eq_true rfl) hRl⟩) (g_preVR hW hK hE hr1.2.2.2) rfl rfl hl.1 rfl (lv_room (Nat.le_of_ble_eq_true rfl)) dX3_symbolAt_12 ⟨hRc, hRs⟩) hW (fun r_ u_ H locs hp hW => ?_)
      obtain ⟨er, rfl⟩ := hp
      subst er
      refine g_calli (va_runS (As := [.int (nI (t.getD i 0))]) (rest := []) ⟨hx, hb, hml, hown, hts⟩ (mtX3_isSymbol l D w H.size (t.getD i 0) (by omega)) (va_cwS 1 hts (lw_S q2001 q2002 q47 q2003) rfl rfl rfl (by decide +kernel) ⟨Nat.le_trans (Nat.le_of_ble_eq_true rfl) hRf, Nat.le_trans (Nat.le_of_ble_eq_true rfl) hRl⟩) (g_preS hW hK hE) rfl rfl hl.1 rfl (lv_room (Nat.le_of_ble_eq_true rfl)) dX3_symbolAt_15 ⟨hRc, hRs⟩) hW (fun r_ u_ H locs hp hW => ?_)
      obtain ⟨er, rfl⟩ := hp
      subst er
      by_cases hq9 : kKind (t.getD i 0) = 1
      · rw [if_pos hq9]
        refine lv_if_eq (tgt := 23) hx hb dX3_symbolAt_18 (by decide) (fun hz => absurd hz (by decide)) (fun _ => ?_)
        have e0 : kFirst t = i := by rw [hkf, hkd, if_neg (by omega)]; rfl
        exact kk1 H locs ls (by omega) hW (by rw [e0]; exact lv_sub hl [0] rfl)
      · rw [if_neg hq9]
        refine lv_if_eq (tgt := 23) hx hb dX3_symbolAt_18 (by decide) (fun _ => ?_) (fun hz => absurd rfl hz)
        have hk1 := kHas_mem.mp hkt (t.getD i 0) (g_mem hc)
        have hk0 : kKind (t.getD i 0) = 0 := by omega
        refine lv_iinc (v := nI (i + 1)) (lv' := [(1, .int (nI (i + 1))), (0, .ref sp)]) hx hb dX3_symbolAt_23 hl (k := 0) rfl (nI_1 i) (by decide) rfl (fun ls hl => ?_)
        refine lv_goto (tgt := 2) hx hb dX3_symbolAt_26 (by decide) ?_
        exact ih (i + 1) H locs ls (by omega) (by omega) (by rw [hkf, hkd, if_pos hk0]; omega) hW (lv_sub hl [0, 1] rfl)
set_option maxHeartbeats 4000000 in
set_option maxRecDepth 100000 in
/-- Model.symbolAt -/
theorem mtX3_symbolAt (l : Launch) (D : va_G) (w : g_H) (sz : Nat) (sp : Nat) (t : List Nat) (hst : g_Str D w sp t) (hkt : kHas t 1 = true) : Met l yX3_symbolAt (ws_ yX3_symbolAt cX3_symbolAt 2 (some .int)) ({ frames := 5, cells := 0, slots := 0, locals := 97 }) (g_Pc D [.ref sp] w sz) (g_Qi D w sz (fun r u => r = (if kFirst t < t.length then nI (kFirst t) else -1) ∧ w = u)) (0) (0) (g_A w sz) := by
  refine Met.ofW (cc := cX3_symbolAt) (maxL := 2) (ret := (some .int)) (by decide) rfl ?_
  intro p e s m args below meth c s₁ B hml hv
  obtain ⟨rfl, hI⟩ := hv
  have hx := B.exec
  have hb := B.bytes
  have hr := B.returns
  have hts := atoms_spec (ws := ws_ yX3_symbolAt cX3_symbolAt 2 (some .int)) B.pre
  have hts : ∀ w ∈ lw_all, w.before _ s = true := fun w h => hts w (List.mem_cons_of_mem _ h)
  have hown : s.vm.findClass RX3 = some m.cls := findClass_of_methodNamed B.named
  have hlocks := B.notSynchronized
  have hsz := hI.1
  subst hsz
  have hW := g_W.start hI
  have hK := g_K hI
  have hE := g_E hI
  have hl := lv_entry ([.ref sp]) (n := 2) (by exact Nat.le_of_ble_eq_true rfl)
  rw [lg_entry_eq]
  generalize (lg_sl ([.ref sp]) ++ List.replicate (2 - (lg_sl ([.ref sp])).length) Slot.unset).toArray = ls at hl ⊢
  have hl : lv_has ls 2 [(0, .ref sp)] := hl
  refine lv_iconst (v := 0) hx hb dX3_symbolAt_0 (by decide) ?_
  refine lv_istore_n (lv' := [(1, .int (0)), (0, .ref sp)]) hx hb dX3_symbolAt_1 rfl hl (by decide) rfl (fun ls hl => ?_)
  refine lpX3_symbolAt (D := D) hx hb hts hown hK hE hml (Nat.le_of_ble_eq_true rfl) (Nat.le_of_ble_eq_true rfl) ?_ ?_ w sp t hst hkt (fun H locs ls hlt hW hl => ?_) (fun H locs ls hge hW => ?_) (t.length + 1) 0 _ _ ls (by omega) (Nat.zero_le _) (by rw [List.drop_zero]; omega) hW (lv_sub hl [0, 1] rfl)
  · (try simp only [headSpec]); omega
  · (try simp only [headSpec]); omega
  · refine lv_iload_n hx hb dX3_symbolAt_21 rfl (lv_at hl 0 rfl) ?_
    exact g_iret (v := nI (kFirst t)) hx hb hr hlocks hW (⟨(if_pos hlt).symm, rfl⟩) (by omega) (by omega) dX3_symbolAt_22
  · refine lv_iconst (v := (-1)) hx hb dX3_symbolAt_29 (by decide) ?_
    exact g_iret (v := (-1)) hx hb hr hlocks hW (⟨(if_neg hge).symm, rfl⟩) (by omega) (by omega) dX3_symbolAt_30
set_option maxHeartbeats 4000000 in
set_option maxRecDepth 100000 in
/-- Model.replaced: its loop -/
theorem lpX3_replaced {p : Program} {l : Launch} {e : Env} {R : Room} {s : State} {m : MethodId} {args : Array Value} {below : List Frame} {meth : Method} {c : Code} {Q : State → Prop} {D : va_G} {A : Nat → Prop} (hx : p.tables.exec = Jvm.exec) (hb : c.code = cX3_replaced) (hts : ∀ w ∈ lw_all, w.before args s = true) (hown : s.vm.findClass RX3 = some m.cls) (hK : va_K D gCl (gT D) s) (hE : g_Env D A s) (hml : c.maxLocals = 5) (hRf : 7 ≤ R.frames) (hRl : 168 ≤ R.locals) (w : g_H) (st sy b ad c0 s0 : Nat) (t y : List Nat) (hst : g_Str D w st t) (hsy : g_Str D w sy y) (hlen : t.length + y.length ≤ 100) (had : ad < t.length) (hb0 : b ∉ w.1) (hRc : c0 + 4 ≤ R.cells) (hRs : s0 + 800 ≤ R.slots)
    (kk : ∀ (cap : Nat) (ba : Nat) (w1 : g_H) (cells : Nat) (slots : Nat) (H : Heap) (locs : List Loc) (ls : Array Slot), g_SB D w1 b ba 0 (rpT t ad y) cap → ba ∉ w.1 → g_ex (fun _ => False) w w1 → 16 ≤ cap → cap ≤ max 16 (2 * (rpT t ad y).length) → cells ≤ c0 + (Nat.log2 cap - 4) → slots ≤ s0 + 2 * (cap - 16) → g_W D A s.heap H locs w1 → lv_has ls 5 [(3, .ref b)] → W p l e R s m args below meth c H locs cells slots Q (F0 m 52 ls [])) :
    ∀ (k : Nat) (i : Nat) (cap : Nat) (ba : Nat) (w1 : g_H) (cells : Nat) (slots : Nat) (H : Heap) (locs : List Loc) (ls : Array Slot), t.length < i + k → i ≤ t.length → g_SB D w1 b ba 0 (rpI t ad y i) cap → ba ∉ w.1 → g_ex (fun _ => False) w w1 → 16 ≤ cap → cap ≤ max 16 (2 * (rpI t ad y i).length) → cells ≤ c0 + (Nat.log2 cap - 4) → slots ≤ s0 + 2 * (cap - 16) → g_W D A s.heap H locs w1 → lv_has ls 5 [(4, .int (nI i)), (0, .ref st), (1, .int (nI ad)), (2, .ref sy), (3, .ref b)] → W p l e R s m args below meth c H locs cells slots Q (F0 m 11 ls []) := by
  intro k
  induction k with
  | zero => intro i cap ba w1 cells slots H locs ls hfuel hi hsb hba hex h16 hcap hcl hsl hW hl; exact absurd hfuel (by omega)
  | succ k ih =>
    intro i cap ba w1 cells slots H locs ls hfuel hi hsb hba hex h16 hcap hcl hsl hW hl
    have hl1 := hst.1.1
    have hst1 : g_Str D w1 st t := hst.ex hex (fun _ _ z => z.elim)
    have hsy1 : g_Str D w1 sy y := hsy.ex hex (fun _ _ z => z.elim)
    obtain ⟨v, hr1, hb1⟩ := hst1.rd hts hK hE hW
    have hTl := rpI_len (t := t) (ad := ad) (y := y) hi
    have hlg := g_lg (cap := cap) (by omega) h16
    refine lv_iload hx hb dX3_replaced_11 (lv_at hl 0 rfl) ?_
    refine lv_aload_n hx hb dX3_replaced_13 rfl (lv_at hl 1 rfl) ?_
    refine g_calli (va_runV (As := []) (rest := [.int (nI i)]) ⟨hx, hb, hml, hown, hts⟩ (mtJ16_length l D w1 H.size st t hst1) (cwV 0 hts (lw_V q2004 q740 q741 q63 q742) rfl rfl rfl (by decide +kernel) ⟨Nat.le_trans (Nat.le_of_ble_eq_true rfl) hRf, Nat.le_trans (Nat.le_of_ble_eq_true rfl) hRl⟩) (g_preVR hW hK hE hr1.2.2.2) rfl rfl hl.1 rfl (lv_room (Nat.le_of_ble_eq_true rfl)) dX3_replaced_14 ⟨?_, ?_⟩) hW (fun r_ u_ H locs hp hW => ?_)
    · (try simp only [headSpec]); omega
    · (try simp only [headSpec]); omega
    obtain ⟨er, rfl⟩ := hp
    subst er
    refine g_icmp_ge (tgt := 52) hx hb (by omega) (by omega) dX3_replaced_17 (by decide) (fun hc => ?_) (fun hc => ?_)
    · have e0 : i = t.length := by omega
      subst e0
      rw [rpI_l had] at hsb hcap
      exact kk cap ba w1 cells slots H locs ls hsb hba hex h16 hcap hcl hsl hW (lv_sub hl [4] rfl)
    · have hit : i < t.length := by omega
      refine lv_iload hx hb dX3_replaced_20 (lv_at hl 0 rfl) ?_
      refine lv_iload_n hx hb dX3_replaced_22 rfl (lv_at hl 2 rfl) ?_
      refine lv_icmp_ne (tgt := 35) hx hb dX3_replaced_23 (by decide) (fun hd => ?_) (fun hd => ?_)
      · have hne : i ≠ ad := fun z => hd (by rw [z])
        have hrs := rpI_s (y := y) hit hne
        refine lv_aload_n hx hb dX3_replaced_35 rfl (lv_at hl 4 rfl) ?_
        refine lv_aload_n hx hb dX3_replaced_36 rfl (lv_at hl 1 rfl) ?_
        refine lv_iload hx hb dX3_replaced_37 (lv_at hl 0 rfl) ?_
        obtain ⟨v, hr1, hb1⟩ := hst1.rd hts hK hE hW
        refine g_calli (va_runV (As := [.int (nI i)]) (rest := [.ref b]) ⟨hx, hb, hml, hown, hts⟩ (mtJ16_charAt l D w1 H.size st i t hst1 hit) (cwV 1 hts (lw_V q2005 q750 q751 q63 q752) rfl rfl rfl (by decide +kernel) ⟨Nat.le_trans (Nat.le_of_ble_eq_true rfl) hRf, Nat.le_trans (Nat.le_of_ble_eq_true rfl) hRl⟩) (g_preVR hW hK hE hr1.2.2.2) rfl rfl hl.1 rfl (lv_room (Nat.le_of_ble_eq_true rfl)) dX3_replaced_39 ⟨?_, ?_⟩) hW (fun r_ u_ H locs hp hW => ?_)
        · (try simp only [headSpec]); omega
        · (try simp only [headSpec]); omega
        obtain ⟨er, rfl⟩ := hp
        subst er
        have hch := hst1.1.lt (j := i)
        obtain ⟨q1, q2, q3⟩ := g_cn_b (q := (rpI t ad y i).length + 1) h16
        have q4 := g_cc_b (q := (rpI t ad y i).length + 1) h16
        have hlen2 : (rpI t ad y (i + 1)).length = (rpI t ad y i).length + 1 := by rw [hrs, List.length_append, List.length_singleton]
        have hlg2 := g_lg (cap := g_cn ((rpI t ad y i).length + 1) cap) (by omega) (by omega)
        refine g_callq (va_runV (As := [.int (nI (t.getD i 0))]) (rest := []) ⟨hx, hb, hml, hown, hts⟩ (mtJ23_append_3 l D w1 H.size b ba cap 0 (rpI t ad y i) hsb (t.getD i 0) hch (by omega) (by omega)) (cwV 1 hts (lw_V q2023 q1114 q1115 q70 q1116) rfl rfl rfl (by decide +kernel) ⟨Nat.le_trans (Nat.le_of_ble_eq_true rfl) hRf, Nat.le_trans (Nat.le_of_ble_eq_true rfl) hRl⟩) (g_preV hW hK hE hsb.1 rfl) rfl rfl hl.1 rfl (lv_room (Nat.le_of_ble_eq_true rfl)) dX3_replaced_42 ⟨?_, ?_⟩) hW (fun r_ u1 H locs hp hW => ?_)
        · omega
        · omega
        obtain ⟨bb, er, hsb2, hbb, hex2⟩ := hp
        subst er
        rw [← hrs] at hsb2
        refine lv_pop hx hb dX3_replaced_45 rfl ?_
        refine lv_iinc (v := nI (i + 1)) (lv' := [(4, .int (nI (i + 1))), (0, .ref st), (1, .int (nI ad)), (2, .ref sy), (3, .ref b)]) hx hb dX3_replaced_46 hl (k := 0) rfl (nI_1 i) (by decide) rfl (fun ls hl => ?_)
        refine lv_goto (tgt := 11) hx hb dX3_replaced_49 (by decide) ?_
        exact ih (i + 1) _ bb u1 _ _ H locs ls (by omega) (by omega) hsb2 (hbb.elim (fun q => by rw [q]; exact hba) (fun n z => n (hex.1 _ z))) (hex.trM hex2 (fun z hz hM => hM.elim (fun q => hb0 (by rw [← q]; exact hz)) (fun q => hba (by rw [← q]; exact hz)))) (by omega) (by omega) (by omega) (by omega) hW (lv_sub hl [0, 1, 2, 3, 4] rfl)
      · have he : i = ad := nI_inj (by omega) (by omega) (by first | exact hd | exact Classical.not_not.mp hd)
        subst he
        have hrs := rpI_ad (t := t) (ad := i) (y := y)
        refine lv_aload_n hx hb dX3_replaced_26 rfl (lv_at hl 4 rfl) ?_
        refine lv_aload_n hx hb dX3_replaced_27 rfl (lv_at hl 3 rfl) ?_
        obtain ⟨q1, q2, q3⟩ := g_cn_b (q := (rpI t i y i).length + y.length) h16
        have q4 := g_cc_b (q := (rpI t i y i).length + y.length) h16
        have hlen2 : (rpI t i y (i + 1)).length = (rpI t i y i).length + y.length := by rw [hrs, List.length_append]
        have hlg2 := g_lg (cap := g_cn ((rpI t i y i).length + y.length) cap) (by omega) (by omega)
        refine g_callq (va_runV (As := [.ref sy]) (rest := []) ⟨hx, hb, hml, hown, hts⟩ (mtJ23_append l D w1 H.size b ba cap 0 (rpI t i y i) hsb sy y hsy1 (by omega) (by omega)) (cwV 1 hts (lw_V q2022 q862 q863 q70 q864) rfl rfl rfl (by decide +kernel) ⟨Nat.le_trans (Nat.le_of_ble_eq_true rfl) hRf, Nat.le_trans (Nat.le_of_ble_eq_true rfl) hRl⟩) (g_preV hW hK hE hsb.1 rfl) rfl rfl hl.1 rfl (lv_room (Nat.le_of_ble_eq_true rfl)) dX3_replaced_28 ⟨?_, ?_⟩) hW (fun r_ u1 H locs hp hW => ?_)
        · omega
        · omega
        obtain ⟨bb, er, hsb2, hbb, hex2⟩ := hp
        subst er
        rw [← hrs] at hsb2
        refine lv_pop hx hb dX3_replaced_31 rfl ?_
        refine lv_goto (tgt := 46) hx hb dX3_replaced_32 (by decide) ?_
        refine lv_iinc (v := nI (i + 1)) (lv' := [(4, .int (nI (i + 1))), (0, .ref st), (1, .int (nI i)), (2, .ref sy), (3, .ref b)]) hx hb dX3_replaced_46 hl (k := 0) rfl (nI_1 i) (by decide) rfl (fun ls hl => ?_)
        refine lv_goto (tgt := 11) hx hb dX3_replaced_49 (by decide) ?_
        exact ih (i + 1) _ bb u1 _ _ H locs ls (by omega) (by omega) hsb2 (hbb.elim (fun q => by rw [q]; exact hba) (fun n z => n (hex.1 _ z))) (hex.trM hex2 (fun z hz hM => hM.elim (fun q => hb0 (by rw [← q]; exact hz)) (fun q => hba (by rw [← q]; exact hz)))) (by omega) (by omega) (by omega) (by omega) hW (lv_sub hl [0, 1, 2, 3, 4] rfl)
set_option maxHeartbeats 4000000 in
set_option maxRecDepth 100000 in
/-- Model.replaced -/
theorem mtX3_replaced (l : Launch) (D : va_G) (w : g_H) (sz : Nat) (st sy ad : Nat) (t y : List Nat) (hst : g_Str D w st t) (hsy : g_Str D w sy y) (had : ad < t.length) (hlen : t.length + y.length ≤ 100) : Met l yX3_replaced (ws_ yX3_replaced cX3_replaced 5 (some (.object "java/lang/String"))) ({ frames := 12, cells := 12, slots := 2000, locals := 500 }) (g_Pc D [.ref st, .int (nI ad), .ref sy] w sz) (g_Qq D w sz (fun r u => ∃ s9, r = some s9 ∧ s9 ∉ w.1 ∧ g_Str D u s9 (rpT t ad y) ∧ g_ex (fun _ => False) w u)) (12) (2000) (g_A w sz) := by
  refine Met.ofW (cc := cX3_replaced) (maxL := 5) (ret := (some (.object "java/lang/String"))) (by decide) rfl ?_
  intro p e s m args below meth c s₁ B hml hv
  obtain ⟨rfl, hI⟩ := hv
  have hx := B.exec
  have hb := B.bytes
  have hr := B.returns
  have hts := atoms_spec (ws := ws_ yX3_replaced cX3_replaced 5 (some (.object "java/lang/String"))) B.pre
  have hts : ∀ w ∈ lw_all, w.before _ s = true := fun w h => hts w (List.mem_cons_of_mem _ h)
  have hown : s.vm.findClass RX3 = some m.cls := findClass_of_methodNamed B.named
  have hlocks := B.notSynchronized
  have hsz := hI.1
  subst hsz
  have hW := g_W.start hI
  have hK := g_K hI
  have hE := g_E hI
  have hl := lv_entry ([.ref st, .int (nI ad), .ref sy]) (n := 5) (by exact Nat.le_of_ble_eq_true rfl)
  rw [lg_entry_eq]
  generalize (lg_sl ([.ref st, .int (nI ad), .ref sy]) ++ List.replicate (5 - (lg_sl ([.ref st, .int (nI ad), .ref sy])).length) Slot.unset).toArray = ls at hl ⊢
  have hl : lv_has ls 5 [(0, .ref st), (1, .int (nI ad)), (2, .ref sy)] := hl
  have x_1 : g_ex (fun _ => False) w w := g_ex.rf
  refine g_newo (ci := 15) (C := RJ23) (T := TJ23) (N := 4) hx hb hts in_J23 tyJ23 tyJ23_ok hown q2020 q831 q70 hK hW rfl [.null, .int (0), .int (0), .int (0)] (by decide +kernel) ?_ ?_ dX3_replaced_0 (fun o_2 H hq hW => ?_)
  · show _ ≤ 12; omega
  · show _ ≤ 2000; omega
  have ho_2 := hq
  obtain ⟨w_3, ew_3⟩ : ∃ z__, z__ = g_push w o_2 (.inr (15, [.null, .int (0), .int (0), .int (0)])) := ⟨_, rfl⟩
  have hW := g_W.ren hW ew_3 rfl
  have h_4 : g_at w_3 o_2 (.inr (15, [.null, .int (0), .int (0), .int (0)])) := by rw [ew_3]; exact g_at.push_self
  have x_5 : g_ex (fun _ => False) w w_3 := by rw [ew_3]; exact x_1.push hq
  refine lv_dup hx hb dX3_replaced_3 rfl ?_
  refine g_callv (va_runI (As := []) (rest := [.ref o_2]) ⟨hx, hb, hml, hown, hts⟩ (mtJ23_init l D w_3 H.size o_2 0 h_4) (cwI 0 hts (lw_meth q834) rfl rfl rfl (hts _ q70) (hts _ q2021) (hts _ q833) rfl (by decide +kernel) ⟨Nat.le_of_ble_eq_true rfl, Nat.le_of_ble_eq_true rfl⟩) (g_preS hW hK hE) rfl rfl hl.1 rfl (lv_room (Nat.le_of_ble_eq_true rfl)) dX3_replaced_4 ⟨?_, ?_⟩) hW (fun u1 H locs hp hW => ?_)
  · (try simp only [headSpec]); omega
  · (try simp only [headSpec]); omega
  obtain ⟨ba, hba, hsb, hex⟩ := hp
  have hx0 : g_ex (fun _ => False) w u1 := x_5.trM hex (fun z hz1 hz2 => ho_2 (by rw [← hz2]; exact hz1))
  have hbw : ba ∉ w.1 := fun z => hba (x_5.1 _ z)
  have hl4 : Nat.log2 16 = 4 := by decide
  refine lv_astore_n (lv' := [(3, .ref o_2), (0, .ref st), (1, .int (nI ad)), (2, .ref sy)]) hx hb dX3_replaced_7 rfl hl (by decide) rfl (fun ls hl => ?_)
  refine lv_iconst (v := 0) hx hb dX3_replaced_8 (by decide) ?_
  refine lv_istore (lv' := [(4, .int (0)), (3, .ref o_2), (0, .ref st), (1, .int (nI ad)), (2, .ref sy)]) hx hb dX3_replaced_9 hl (by decide) rfl (fun ls hl => ?_)
  refine lpX3_replaced (D := D) hx hb hts hown hK hE hml (Nat.le_of_ble_eq_true rfl) (Nat.le_of_ble_eq_true rfl) w st sy o_2 ad 2 20 t y hst hsy hlen had ho_2 ?_ ?_ (fun cap2 ba2 w2 cells slots H locs ls hsb hba2 hex2 h16 hcap hcl hsl hW hl => ?_) (t.length + 1) 0 16 ba u1 _ _ _ _ ls (by omega) (Nat.zero_le _) (by rw [rpI_0]; exact hsb) hbw hx0 (by decide) (by omega) (by omega) (by omega) hW (lv_sub hl [0, 2, 3, 4, 1] rfl)
  · (try simp only [headSpec]); omega
  · (try simp only [headSpec]); omega
  have hrl : (rpT t ad y).length ≤ 200 := by unfold rpT; rw [List.length_append, List.length_append, List.length_take, List.length_drop]; omega
  have hlg4 := g_lg (cap := cap2) (by omega) h16
  refine lv_aload_n hx hb dX3_replaced_52 rfl (lv_at hl 0 rfl) ?_
  refine g_callq (va_runV (As := []) (rest := []) ⟨hx, hb, hml, hown, hts⟩ (mtJ23_toString l D w2 H.size o_2 ba2 cap2 0 (rpT t ad y) hsb (by omega)) (cwV 0 hts (lw_V q2024 q974 q975 q70 q976) rfl rfl rfl (by decide +kernel) ⟨Nat.le_of_ble_eq_true rfl, Nat.le_of_ble_eq_true rfl⟩) (g_preV hW hK hE hsb.1 rfl) rfl rfl hl.1 rfl (lv_room (Nat.le_of_ble_eq_true rfl)) dX3_replaced_53 ⟨?_, ?_⟩) hW (fun r_ u5 H locs hp hW => ?_)
  · (try simp only [headSpec]); omega
  · (try simp only [headSpec]); omega
  obtain ⟨s9, er, hs9, hs5, hex5⟩ := hp
  subst er
  exact g_qret (v := some s9) hx hb hr (Or.inl ⟨_, rfl⟩) hlocks hW (⟨s9, rfl, (fun z => hs9 (hex2.1 _ z)), hs5, hex2.tr hex5⟩) (by omega) (by omega) dX3_replaced_56
