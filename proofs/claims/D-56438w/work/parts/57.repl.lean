/-! ShrinkYard.replaced; what a growing StringBuilder costs *
-/
set_option maxRecDepth 100000
theorem g_cn_b {q cap : Nat} (h : 16 ≤ cap) : cap ≤ g_cn q cap ∧ g_cn q cap ≤ max cap (2 * q) ∧ g_cs q cap ≤ 2 * (g_cn q cap - cap) := by
  unfold g_cn g_cs
  split <;> omega
theorem g_cc_b {q cap : Nat} (h : 16 ≤ cap) : g_cc q cap + Nat.log2 cap ≤ Nat.log2 (g_cn q cap) := by
  unfold g_cn g_cc
  split
  · omega
  · have h0 : cap ≠ 0 := by omega
    have h1 : 2 ^ Nat.log2 cap ≤ cap := (Nat.le_log2 h0).mp (Nat.le_refl _)
    have h2 : Nat.log2 cap + 1 ≤ Nat.log2 (cap + max (q - cap) (cap + 2)) := (Nat.le_log2 (by omega)).mpr (by rw [Nat.pow_succ]; omega)
    omega
theorem g_lg {cap : Nat} (h : cap < 512) (h16 : 16 ≤ cap) : 4 ≤ Nat.log2 cap ∧ Nat.log2 cap ≤ 8 := by
  refine ⟨(Nat.le_log2 (by omega)).mpr (by omega), ?_⟩
  exact Nat.le_of_lt_succ ((Nat.log2_lt (by omega)).mpr (by omega))
theorem rp_step {pre t : List Nat} {a i : Nat} (ha : a ≤ i) (hi : i < t.length) : pre ++ (t.drop a).take (i + 1 - a) = (pre ++ (t.drop a).take (i - a)) ++ [t.getD i 0] := by
  rw [show i + 1 - a = (i - a) + 1 by omega, List.take_add_one, List.getElem?_drop, show a + (i - a) = i by omega, List.getElem?_eq_getElem hi, List.getD_eq_getElem?_getD, List.getElem?_eq_getElem hi, List.append_assoc]
  rfl
def rpT (t : List Nat) (ad : Nat) (y : List Nat) : List Nat := t.take ad ++ y ++ t.drop (ad + 1)
set_option maxHeartbeats 4000000 in
set_option maxRecDepth 100000 in
/-- ShrinkYard.replaced: a loop -/
theorem lpX1_replaced1 {p : Program} {l : Launch} {e : Env} {R : Room} {s : State} {m : MethodId} {args : Array Value} {below : List Frame} {meth : Method} {c : Code} {Q : State → Prop} {D : va_G} {A : Nat → Prop} (hx : p.tables.exec = Jvm.exec) (hb : c.code = cX1_replaced) (hts : ∀ w ∈ lw_all, w.before args s = true) (hown : s.vm.findClass RX1 = some m.cls) (hK : va_K D gCl (gT D) s) (hE : g_Env D A s) (hml : c.maxLocals = 5) (hRf : 7 ≤ R.frames) (hRl : 166 ≤ R.locals) (w : g_H) (st sy b ad a0 c0 s0 : Nat) (t pre : List Nat) (hst : g_Str D w st t) (hpre : pre.length + t.length ≤ 200) (hpc : ∀ c ∈ pre, c < 128) (had : ad < t.length) (hb0 : b ∉ w.1) (hRc : c0 + 4 ≤ R.cells) (hRs : s0 + 800 ≤ R.slots)
    (kk : ∀ (cap : Nat) (ba : Nat) (w1 : g_H) (cells : Nat) (slots : Nat) (H : Heap) (locs : List Loc) (ls : Array Slot), g_SB D w1 b ba 0 (pre ++ (t.drop a0).take (ad - a0)) cap → ba ∉ w.1 → g_ex (fun _ => False) w w1 → 16 ≤ cap → cap ≤ max 16 (2 * (pre ++ (t.drop a0).take (ad - a0)).length) → cells ≤ c0 + (Nat.log2 cap - 4) → slots ≤ s0 + 2 * (cap - 16) → g_W D A s.heap H locs w1 → lv_has ls 5 [(0, .ref st), (1, .int (nI ad)), (2, .ref sy), (3, .ref b)] → W p l e R s m args below meth c H locs cells slots Q (F0 m 34 ls [])) :
    ∀ (k : Nat) (i : Nat) (cap : Nat) (ba : Nat) (w1 : g_H) (cells : Nat) (slots : Nat) (H : Heap) (locs : List Loc) (ls : Array Slot), ad < i + k → a0 ≤ i → i ≤ ad → g_SB D w1 b ba 0 (pre ++ (t.drop a0).take (i - a0)) cap → ba ∉ w.1 → g_ex (fun _ => False) w w1 → 16 ≤ cap → cap ≤ max 16 (2 * (pre ++ (t.drop a0).take (i - a0)).length) → cells ≤ c0 + (Nat.log2 cap - 4) → slots ≤ s0 + 2 * (cap - 16) → g_W D A s.heap H locs w1 → lv_has ls 5 [(4, .int (nI i)), (0, .ref st), (1, .int (nI ad)), (2, .ref sy), (3, .ref b)] → W p l e R s m args below meth c H locs cells slots Q (F0 m 11 ls []) := by
  intro k
  induction k with
  | zero => intro i cap ba w1 cells slots H locs ls hfuel ha0 hi hsb hba hex h16 hcap hcl hsl hW hl; exact absurd hfuel (by omega)
  | succ k ih =>
    intro i cap ba w1 cells slots H locs ls hfuel ha0 hi hsb hba hex h16 hcap hcl hsl hW hl
    have hl1 := hst.1.1
    have hst1 : g_Str D w1 st t := hst.ex hex (fun _ _ z => z.elim)
    obtain ⟨v, hr1, hb1⟩ := hst1.rd hts hK hE hW
    have hTl : (pre ++ (t.drop a0).take (i - a0)).length ≤ pre.length + t.length := by rw [List.length_append, List.length_take, List.length_drop]; omega
    have hlg := g_lg (cap := cap) (by omega) h16
    refine lv_iload hx hb dX1_replaced_11 (lv_at hl 0 rfl) ?_
    refine lv_iload_n hx hb dX1_replaced_13 rfl (lv_at hl 2 rfl) ?_
    refine g_icmp_ge (tgt := 34) hx hb (by omega) (by omega) dX1_replaced_14 (by decide) (fun hc => ?_) (fun hc => ?_)
    · have e0 : i = ad := by omega
      subst e0
      exact kk cap ba w1 cells slots H locs ls hsb hba hex h16 hcap hcl hsl hW (lv_sub hl [1, 2, 3, 4] rfl)
    · have hit : i < t.length := by omega
      refine lv_aload_n hx hb dX1_replaced_17 rfl (lv_at hl 4 rfl) ?_
      refine lv_aload_n hx hb dX1_replaced_18 rfl (lv_at hl 1 rfl) ?_
      refine lv_iload hx hb dX1_replaced_19 (lv_at hl 0 rfl) ?_
      obtain ⟨v, hr1, hb1⟩ := hst1.rd hts hK hE hW
      refine g_calli (va_runV (As := [.int (nI i)]) (rest := [.ref b]) ⟨hx, hb, hml, hown, hts⟩ (mtJ16_charAt l D w1 H.size st i t hst1 hit) (cwV 1 hts (lw_V q749 q750 q751 q63 q752) rfl rfl rfl (by decide +kernel) ⟨Nat.le_trans (Nat.le_of_ble_eq_true rfl) hRf, Nat.le_trans (Nat.le_of_ble_eq_true rfl) hRl⟩) (g_preVR hW hK hE hr1.2.2.2) rfl rfl hl.1 rfl (lv_room (Nat.le_of_ble_eq_true rfl)) dX1_replaced_21 ⟨?_, ?_⟩) hW (fun r_ u_ H locs hp hW => ?_)
      · (try simp only [headSpec]); omega
      · (try simp only [headSpec]); omega
      obtain ⟨er, rfl⟩ := hp
      subst er
      have hch := hst1.1.lt (j := i)
      have hrs := rp_step (pre := pre) ha0 hit
      obtain ⟨q1, q2, q3⟩ := g_cn_b (q := (pre ++ (t.drop a0).take (i - a0)).length + 1) h16
      have q4 := g_cc_b (q := (pre ++ (t.drop a0).take (i - a0)).length + 1) h16
      have hlen2 : (pre ++ (t.drop a0).take (i + 1 - a0)).length = (pre ++ (t.drop a0).take (i - a0)).length + 1 := by rw [hrs, List.length_append, List.length_singleton]
      have hlg2 := g_lg (cap := g_cn ((pre ++ (t.drop a0).take (i - a0)).length + 1) cap) (by omega) (by omega)
      refine g_callq (va_runV (As := [.int (nI (t.getD i 0))]) (rest := []) ⟨hx, hb, hml, hown, hts⟩ (mtJ23_append_3 l D w1 H.size b ba cap 0 (pre ++ (t.drop a0).take (i - a0)) hsb (t.getD i 0) hch (by omega) (by omega)) (cwV 1 hts (lw_V q1113 q1114 q1115 q70 q1116) rfl rfl rfl (by decide +kernel) ⟨Nat.le_trans (Nat.le_of_ble_eq_true rfl) hRf, Nat.le_trans (Nat.le_of_ble_eq_true rfl) hRl⟩) (g_preV hW hK hE hsb.1 rfl) rfl rfl hl.1 rfl (lv_room (Nat.le_of_ble_eq_true rfl)) dX1_replaced_24 ⟨?_, ?_⟩) hW (fun r_ u1 H locs hp hW => ?_)
      · omega
      · omega
      obtain ⟨bb, er, hsb2, hbb, hex2⟩ := hp
      subst er
      rw [← hrs] at hsb2
      refine lv_pop hx hb dX1_replaced_27 rfl ?_
      refine lv_iinc (v := nI (i + 1)) (lv' := [(4, .int (nI (i + 1))), (0, .ref st), (1, .int (nI ad)), (2, .ref sy), (3, .ref b)]) hx hb dX1_replaced_28 hl (k := 0) rfl (nI_1 i) (by decide) rfl (fun ls hl => ?_)
      refine lv_goto (tgt := 11) hx hb dX1_replaced_31 (by decide) ?_
      exact ih (i + 1) _ bb u1 _ _ H locs ls (by omega) (by omega) (by omega) hsb2 (hbb.elim (fun q => by rw [q]; exact hba) (fun n z => n (hex.1 _ z))) (hex.trM hex2 (fun z hz hM => hM.elim (fun q => hb0 (by rw [← q]; exact hz)) (fun q => hba (by rw [← q]; exact hz)))) (by omega) (by omega) (by omega) (by omega) hW hl
set_option maxHeartbeats 4000000 in
set_option maxRecDepth 100000 in
/-- ShrinkYard.replaced: a loop -/
theorem lpX1_replaced2 {p : Program} {l : Launch} {e : Env} {R : Room} {s : State} {m : MethodId} {args : Array Value} {below : List Frame} {meth : Method} {c : Code} {Q : State → Prop} {D : va_G} {A : Nat → Prop} (hx : p.tables.exec = Jvm.exec) (hb : c.code = cX1_replaced) (hts : ∀ w ∈ lw_all, w.before args s = true) (hown : s.vm.findClass RX1 = some m.cls) (hK : va_K D gCl (gT D) s) (hE : g_Env D A s) (hml : c.maxLocals = 5) (hRf : 7 ≤ R.frames) (hRl : 166 ≤ R.locals) (w : g_H) (st sy b ad a0 c0 s0 : Nat) (t pre : List Nat) (hst : g_Str D w st t) (hpre : pre.length + t.length ≤ 200) (hpc : ∀ c ∈ pre, c < 128) (had : ad < t.length) (hb0 : b ∉ w.1) (hRc : c0 + 4 ≤ R.cells) (hRs : s0 + 800 ≤ R.slots)
    (kk : ∀ (cap : Nat) (ba : Nat) (w1 : g_H) (cells : Nat) (slots : Nat) (H : Heap) (locs : List Loc) (ls : Array Slot), g_SB D w1 b ba 0 (pre ++ (t.drop a0).take (t.length - a0)) cap → ba ∉ w.1 → g_ex (fun _ => False) w w1 → 16 ≤ cap → cap ≤ max 16 (2 * (pre ++ (t.drop a0).take (t.length - a0)).length) → cells ≤ c0 + (Nat.log2 cap - 4) → slots ≤ s0 + 2 * (cap - 16) → g_W D A s.heap H locs w1 → lv_has ls 5 [(0, .ref st), (1, .int (nI ad)), (2, .ref sy), (3, .ref b)] → W p l e R s m args below meth c H locs cells slots Q (F0 m 71 ls [])) :
    ∀ (k : Nat) (i : Nat) (cap : Nat) (ba : Nat) (w1 : g_H) (cells : Nat) (slots : Nat) (H : Heap) (locs : List Loc) (ls : Array Slot), t.length < i + k → a0 ≤ i → i ≤ t.length → g_SB D w1 b ba 0 (pre ++ (t.drop a0).take (i - a0)) cap → ba ∉ w.1 → g_ex (fun _ => False) w w1 → 16 ≤ cap → cap ≤ max 16 (2 * (pre ++ (t.drop a0).take (i - a0)).length) → cells ≤ c0 + (Nat.log2 cap - 4) → slots ≤ s0 + 2 * (cap - 16) → g_W D A s.heap H locs w1 → lv_has ls 5 [(4, .int (nI i)), (0, .ref st), (1, .int (nI ad)), (2, .ref sy), (3, .ref b)] → W p l e R s m args below meth c H locs cells slots Q (F0 m 45 ls []) := by
  intro k
  induction k with
  | zero => intro i cap ba w1 cells slots H locs ls hfuel ha0 hi hsb hba hex h16 hcap hcl hsl hW hl; exact absurd hfuel (by omega)
  | succ k ih =>
    intro i cap ba w1 cells slots H locs ls hfuel ha0 hi hsb hba hex h16 hcap hcl hsl hW hl
    have hl1 := hst.1.1
    have hst1 : g_Str D w1 st t := hst.ex hex (fun _ _ z => z.elim)
    obtain ⟨v, hr1, hb1⟩ := hst1.rd hts hK hE hW
    have hTl : (pre ++ (t.drop a0).take (i - a0)).length ≤ pre.length + t.length := by rw [List.length_append, List.length_take, List.length_drop]; omega
    have hlg := g_lg (cap := cap) (by omega) h16
    refine lv_iload hx hb dX1_replaced_45 (lv_at hl 0 rfl) ?_
    refine lv_aload_n hx hb dX1_replaced_47 rfl (lv_at hl 1 rfl) ?_
    refine g_calli (va_runV (As := []) (rest := [.int (nI i)]) ⟨hx, hb, hml, hown, hts⟩ (mtJ16_length l D w1 H.size st t hst1) (cwV 0 hts (lw_V q739 q740 q741 q63 q742) rfl rfl rfl (by decide +kernel) ⟨Nat.le_trans (Nat.le_of_ble_eq_true rfl) hRf, Nat.le_trans (Nat.le_of_ble_eq_true rfl) hRl⟩) (g_preVR hW hK hE hr1.2.2.2) rfl rfl hl.1 rfl (lv_room (Nat.le_of_ble_eq_true rfl)) dX1_replaced_48 ⟨?_, ?_⟩) hW (fun r_ u_ H locs hp hW => ?_)
    · (try simp only [headSpec]); omega
    · (try simp only [headSpec]); omega
    obtain ⟨er, rfl⟩ := hp
    subst er
    refine g_icmp_ge (tgt := 71) hx hb (by omega) (by omega) dX1_replaced_51 (by decide) (fun hc => ?_) (fun hc => ?_)
    · have e0 : i = t.length := by omega
      subst e0
      exact kk cap ba w1 cells slots H locs ls hsb hba hex h16 hcap hcl hsl hW (lv_sub hl [1, 2, 3, 4] rfl)
    · have hit : i < t.length := by omega
      refine lv_aload_n hx hb dX1_replaced_54 rfl (lv_at hl 4 rfl) ?_
      refine lv_aload_n hx hb dX1_replaced_55 rfl (lv_at hl 1 rfl) ?_
      refine lv_iload hx hb dX1_replaced_56 (lv_at hl 0 rfl) ?_
      obtain ⟨v, hr1, hb1⟩ := hst1.rd hts hK hE hW
      refine g_calli (va_runV (As := [.int (nI i)]) (rest := [.ref b]) ⟨hx, hb, hml, hown, hts⟩ (mtJ16_charAt l D w1 H.size st i t hst1 hit) (cwV 1 hts (lw_V q749 q750 q751 q63 q752) rfl rfl rfl (by decide +kernel) ⟨Nat.le_trans (Nat.le_of_ble_eq_true rfl) hRf, Nat.le_trans (Nat.le_of_ble_eq_true rfl) hRl⟩) (g_preVR hW hK hE hr1.2.2.2) rfl rfl hl.1 rfl (lv_room (Nat.le_of_ble_eq_true rfl)) dX1_replaced_58 ⟨?_, ?_⟩) hW (fun r_ u_ H locs hp hW => ?_)
      · (try simp only [headSpec]); omega
      · (try simp only [headSpec]); omega
      obtain ⟨er, rfl⟩ := hp
      subst er
      have hch := hst1.1.lt (j := i)
      have hrs := rp_step (pre := pre) ha0 hit
      obtain ⟨q1, q2, q3⟩ := g_cn_b (q := (pre ++ (t.drop a0).take (i - a0)).length + 1) h16
      have q4 := g_cc_b (q := (pre ++ (t.drop a0).take (i - a0)).length + 1) h16
      have hlen2 : (pre ++ (t.drop a0).take (i + 1 - a0)).length = (pre ++ (t.drop a0).take (i - a0)).length + 1 := by rw [hrs, List.length_append, List.length_singleton]
      have hlg2 := g_lg (cap := g_cn ((pre ++ (t.drop a0).take (i - a0)).length + 1) cap) (by omega) (by omega)
      refine g_callq (va_runV (As := [.int (nI (t.getD i 0))]) (rest := []) ⟨hx, hb, hml, hown, hts⟩ (mtJ23_append_3 l D w1 H.size b ba cap 0 (pre ++ (t.drop a0).take (i - a0)) hsb (t.getD i 0) hch (by omega) (by omega)) (cwV 1 hts (lw_V q1113 q1114 q1115 q70 q1116) rfl rfl rfl (by decide +kernel) ⟨Nat.le_trans (Nat.le_of_ble_eq_true rfl) hRf, Nat.le_trans (Nat.le_of_ble_eq_true rfl) hRl⟩) (g_preV hW hK hE hsb.1 rfl) rfl rfl hl.1 rfl (lv_room (Nat.le_of_ble_eq_true rfl)) dX1_replaced_61 ⟨?_, ?_⟩) hW (fun r_ u1 H locs hp hW => ?_)
      · omega
      · omega
      obtain ⟨bb, er, hsb2, hbb, hex2⟩ := hp
      subst er
      rw [← hrs] at hsb2
      refine lv_pop hx hb dX1_replaced_64 rfl ?_
      refine lv_iinc (v := nI (i + 1)) (lv' := [(4, .int (nI (i + 1))), (0, .ref st), (1, .int (nI ad)), (2, .ref sy), (3, .ref b)]) hx hb dX1_replaced_65 hl (k := 0) rfl (nI_1 i) (by decide) rfl (fun ls hl => ?_)
      refine lv_goto (tgt := 45) hx hb dX1_replaced_68 (by decide) ?_
      exact ih (i + 1) _ bb u1 _ _ H locs ls (by omega) (by omega) (by omega) hsb2 (hbb.elim (fun q => by rw [q]; exact hba) (fun n z => n (hex.1 _ z))) (hex.trM hex2 (fun z hz hM => hM.elim (fun q => hb0 (by rw [← q]; exact hz)) (fun q => hba (by rw [← q]; exact hz)))) (by omega) (by omega) (by omega) (by omega) hW hl
set_option maxHeartbeats 4000000 in
set_option maxRecDepth 100000 in
/-- ShrinkYard.replaced -/
theorem mtX1_replaced (l : Launch) (D : va_G) (w : g_H) (sz : Nat) (st sy ad : Nat) (t y : List Nat) (hst : g_Str D w st t) (hsy : g_Str D w sy y) (had : ad < t.length) (hlen : t.length + y.length ≤ 100) : Met l yX1_replaced (ws_ yX1_replaced cX1_replaced 5 (some (.object "java/lang/String"))) ({ frames := 12, cells := 12, slots := 2000, locals := 500 }) (g_Pc D [.ref st, .int (nI ad), .ref sy] w sz) (g_Qq D w sz (fun r u => ∃ s9, r = some s9 ∧ s9 ∉ w.1 ∧ g_Str D u s9 (rpT t ad y) ∧ g_ex (fun _ => False) w u)) (12) (2000) (g_A w sz) := by
  refine Met.ofW (cc := cX1_replaced) (maxL := 5) (ret := (some (.object "java/lang/String"))) (by decide) rfl ?_
  intro p e s m args below meth c s₁ B hml hv
  obtain ⟨rfl, hI⟩ := hv
  have hx := B.exec
  have hb := B.bytes
  have hr := B.returns
  have hts := atoms_spec (ws := ws_ yX1_replaced cX1_replaced 5 (some (.object "java/lang/String"))) B.pre
  have hts : ∀ w ∈ lw_all, w.before _ s = true := fun w h => hts w (List.mem_cons_of_mem _ h)
  have hown : s.vm.findClass RX1 = some m.cls := findClass_of_methodNamed B.named
  have hlocks := B.notSynchronized
  have hsz := hI.1
  subst hsz
  have hW := g_W.start hI
  have hK := g_K hI
  have hE := g_E hI
  have hl := lv_entry ([.ref st, .int (nI ad), .ref sy]) (n := 5) (by exact Nat.le_of_ble_eq_true rfl)
  rw [lg_entry_eq]
  generalize (lg_sl ([.ref st, .int (nI ad), .ref sy]) ++ List.replicate (5 - (lg_sl ([.ref st, .int (nI ad), .ref sy])).length) Slot.unset).toArray = ls at hl ⊢
  have hl : lv_has ls 5 [(0, .ref st), (1, .int (nI ad)), (2, .ref sy)] := hl
  have x_1 : g_ex (fun _ => False) w w := g_ex.rf
  refine g_newo (ci := 15) (C := RJ23) (T := TJ23) (N := 4) hx hb hts in_J23 tyJ23 tyJ23_ok hown q1111 q831 q70 hK hW rfl [.null, .int (0), .int (0), .int (0)] (by decide +kernel) ?_ ?_ dX1_replaced_0 (fun o_2 H hq hW => ?_)
  · show _ ≤ 12; omega
  · show _ ≤ 2000; omega
  have ho_2 := hq
  obtain ⟨w_3, ew_3⟩ : ∃ z__, z__ = g_push w o_2 (.inr (15, [.null, .int (0), .int (0), .int (0)])) := ⟨_, rfl⟩
  have hW := g_W.ren hW ew_3 rfl
  have h_4 : g_at w_3 o_2 (.inr (15, [.null, .int (0), .int (0), .int (0)])) := by rw [ew_3]; exact g_at.push_self
  have x_5 : g_ex (fun _ => False) w w_3 := by rw [ew_3]; exact x_1.push hq
  refine lv_dup hx hb dX1_replaced_3 rfl ?_
  refine g_callv (va_runI (As := []) (rest := [.ref o_2]) ⟨hx, hb, hml, hown, hts⟩ (mtJ23_init l D w_3 H.size o_2 0 h_4) (cwI 0 hts (lw_meth q834) rfl rfl rfl (hts _ q70) (hts _ q1112) (hts _ q833) rfl (by decide +kernel) ⟨Nat.le_of_ble_eq_true rfl, Nat.le_of_ble_eq_true rfl⟩) (g_preS hW hK hE) rfl rfl hl.1 rfl (lv_room (Nat.le_of_ble_eq_true rfl)) dX1_replaced_4 ⟨?_, ?_⟩) hW (fun u1 H locs hp hW => ?_)
  · (try simp only [headSpec]); omega
  · (try simp only [headSpec]); omega
  obtain ⟨ba, hba, hsb, hex⟩ := hp
  have hx0 : g_ex (fun _ => False) w u1 := x_5.trM hex (fun z hz1 hz2 => ho_2 (by rw [← hz2]; exact hz1))
  have hbw : ba ∉ w.1 := fun z => hba (x_5.1 _ z)
  have hl4 : Nat.log2 16 = 4 := by decide
  refine lv_astore_n (lv' := [(3, .ref o_2), (0, .ref st), (1, .int (nI ad)), (2, .ref sy)]) hx hb dX1_replaced_7 rfl hl (by decide) rfl (fun ls hl => ?_)
  refine lv_iconst (v := 0) hx hb dX1_replaced_8 (by decide) ?_
  refine lv_istore (lv' := [(4, .int (0)), (3, .ref o_2), (0, .ref st), (1, .int (nI ad)), (2, .ref sy)]) hx hb dX1_replaced_9 hl (by decide) rfl (fun ls hl => ?_)
  refine lpX1_replaced1 (D := D) hx hb hts hown hK hE hml (Nat.le_of_ble_eq_true rfl) (Nat.le_of_ble_eq_true rfl) w st sy o_2 ad 0 2 20 t [] hst (by simp; omega) (fun _ z => by cases z) had ho_2 ?_ ?_ (fun cap2 ba2 w2 cells slots H locs ls hsb hba2 hex2 h16 hcap hcl hsl hW hl => ?_) (ad + 1) 0 16 ba u1 _ _ _ _ ls (by omega) (Nat.le_refl _) (Nat.zero_le _) hsb hbw hx0 (by decide) (by omega) (by omega) (by omega) hW (lv_sub hl [0, 2, 3, 4, 1] rfl)
  · (try simp only [headSpec]); omega
  · (try simp only [headSpec]); omega
  rw [show ([] : List Nat) ++ (t.drop 0).take (ad - 0) = t.take ad from rfl] at hsb hcap
  have ht1 : (t.take ad).length = ad := by rw [List.length_take]; omega
  have hlg := g_lg (cap := cap2) (by omega) h16
  obtain ⟨q1, q2, q3⟩ := g_cn_b (q := (t.take ad).length + y.length) h16
  have q4 := g_cc_b (q := (t.take ad).length + y.length) h16
  have hlg2 := g_lg (cap := g_cn ((t.take ad).length + y.length) cap2) (by omega) (by omega)
  refine lv_aload_n hx hb dX1_replaced_34 rfl (lv_at hl 3 rfl) ?_
  refine lv_aload_n hx hb dX1_replaced_35 rfl (lv_at hl 2 rfl) ?_
  have hsy2 : g_Str D w2 sy y := hsy.ex hex2 (fun _ _ z => z.elim)
  refine g_callq (va_runV (As := [.ref sy]) (rest := []) ⟨hx, hb, hml, hown, hts⟩ (mtJ23_append l D w2 H.size o_2 ba2 cap2 0 (t.take ad) hsb sy y hsy2 (by omega) (by omega)) (cwV 1 hts (lw_V q1126 q862 q863 q70 q864) rfl rfl rfl (by decide +kernel) ⟨Nat.le_of_ble_eq_true rfl, Nat.le_of_ble_eq_true rfl⟩) (g_preV hW hK hE hsb.1 rfl) rfl rfl hl.1 rfl (lv_room (Nat.le_of_ble_eq_true rfl)) dX1_replaced_36 ⟨?_, ?_⟩) hW (fun r_ u3 H locs hp hW => ?_)
  · (try simp only [headSpec]); omega
  · (try simp only [headSpec]); omega
  obtain ⟨bb, er, hsb3, hbb, hex3⟩ := hp
  subst er
  have hex4 : g_ex (fun _ => False) w u3 := hex2.trM hex3 (fun z hz hM => hM.elim (fun q => ho_2 (by rw [← q]; exact hz)) (fun q => hba2 (by rw [← q]; exact hz)))
  have hbb2 : bb ∉ w.1 := hbb.elim (fun q => by rw [q]; exact hba2) (fun n z => n (hex2.1 _ z))
  refine lv_pop hx hb dX1_replaced_39 rfl ?_
  refine lv_iload_n hx hb dX1_replaced_40 rfl (lv_at hl 1 rfl) ?_
  refine lv_iconst (v := 1) hx hb dX1_replaced_41 (by decide) ?_
  refine lv_iadd hx hb dX1_replaced_42 ?_
  refine g_topi (y := nI (ad + 1)) (nI_1 ad) ?_
  refine lv_istore (lv' := [(4, .int (nI (ad + 1))), (0, .ref st), (1, .int (nI ad)), (2, .ref sy), (3, .ref o_2)]) hx hb dX1_replaced_43 hl (by decide) rfl (fun ls hl => ?_)
  have hTy : (t.take ad ++ y).length = ad + y.length := by rw [List.length_append, ht1]
  refine lpX1_replaced2 (D := D) hx hb hts hown hK hE hml (Nat.le_of_ble_eq_true rfl) (Nat.le_of_ble_eq_true rfl) w st sy o_2 ad (ad + 1) 2 20 t (t.take ad ++ y) hst (by omega) (fun c hc => (List.mem_append.mp hc).elim (fun z => hst.1.2 c (List.mem_of_mem_take z)) (fun z => hsy.1.2 c z)) had ho_2 ?_ ?_ (fun cap4 ba4 w4 cells slots H locs ls hsb hba4 hex4 h16 hcap hcl hsl hW hl => ?_) (t.length + 1) (ad + 1) _ bb u3 _ _ _ _ ls (by omega) (Nat.le_refl _) (by omega) (by rw [Nat.sub_self, List.take_zero, List.append_nil]; exact hsb3) hbb2 hex4 (by omega) (by rw [Nat.sub_self, List.take_zero, List.append_nil]; omega) (by omega) (by omega) hW (lv_sub hl [0, 1, 2, 3, 4] rfl)
  · (try simp only [headSpec]); omega
  · (try simp only [headSpec]); omega
  have hfin : t.take ad ++ y ++ (t.drop (ad + 1)).take (t.length - (ad + 1)) = rpT t ad y := by unfold rpT; rw [show t.length - (ad + 1) = (t.drop (ad + 1)).length by rw [List.length_drop], List.take_length]
  rw [hfin] at hsb hcap
  have hrl : (rpT t ad y).length ≤ 200 := by unfold rpT; rw [List.length_append, List.length_append, List.length_take, List.length_drop]; omega
  have hlg4 := g_lg (cap := cap4) (by omega) h16
  refine lv_aload_n hx hb dX1_replaced_71 rfl (lv_at hl 3 rfl) ?_
  refine g_callq (va_runV (As := []) (rest := []) ⟨hx, hb, hml, hown, hts⟩ (mtJ23_toString l D w4 H.size o_2 ba4 cap4 0 (rpT t ad y) hsb (by omega)) (cwV 0 hts (lw_V q1127 q974 q975 q70 q976) rfl rfl rfl (by decide +kernel) ⟨Nat.le_of_ble_eq_true rfl, Nat.le_of_ble_eq_true rfl⟩) (g_preV hW hK hE hsb.1 rfl) rfl rfl hl.1 rfl (lv_room (Nat.le_of_ble_eq_true rfl)) dX1_replaced_72 ⟨?_, ?_⟩) hW (fun r_ u5 H locs hp hW => ?_)
  · (try simp only [headSpec]); omega
  · (try simp only [headSpec]); omega
  obtain ⟨s9, er, hs9, hs5, hex5⟩ := hp
  subst er
  exact g_qret (v := some s9) hx hb hr (Or.inl ⟨_, rfl⟩) hlocks hW (⟨s9, rfl, (fun z => hs9 (hex4.1 _ z)), hs5, hex4.tr hex5⟩) (by omega) (by omega) dX1_replaced_75
