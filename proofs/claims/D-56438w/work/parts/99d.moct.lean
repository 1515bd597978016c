/-! the model: inputMany, inputAt *
-/
set_option maxRecDepth 100000
theorem oct_g {n k i : Nat} (h : i < n) : (txt (oct n k)).getD i 0 = 48 + k / 2 ^ (3 * (n - i - 1)) % 2 ^ 3 := by
  unfold txt oct
  rw [List.getD_eq_getElem?_getD, List.getElem?_map, List.getElem?_map, List.getElem?_range h, Nat.pow_mul]
  show 48 + k / 8 ^ (n - 1 - i) % 8 = 48 + k / (2 ^ 3) ^ (n - i - 1) % 2 ^ 3
  rw [show n - 1 - i = n - i - 1 by omega]
theorem oct_l {n k : Nat} : (txt (oct n k)).length = n := by unfold txt oct; rw [List.length_map, List.length_map, List.length_range]
theorem p8_le {n : Nat} (h : n ≤ 3) : 8 ^ n ≤ 512 := by
  have : n = 0 ∨ n = 1 ∨ n = 2 ∨ n = 3 := by omega
  rcases this with rfl | rfl | rfl | rfl <;> decide
set_option maxHeartbeats 4000000 in
set_option maxRecDepth 100000 in
/-- Model.inputMany -/
theorem mtX3_inputMany (l : Launch) (D : va_G) (w : g_H) (sz : Nat) (n : Nat) (hn : n ≤ 3) : Met l yX3_inputMany (ws_ yX3_inputMany cX3_inputMany 1 (some .int)) ({ frames := 1, cells := 0, slots := 0, locals := 12 }) (g_Pc D [.int (nI n)] w sz) (g_Qi D w sz (fun r u => r = nI (8 ^ n) ∧ w = u)) (0) (0) (g_A w sz) := by
  refine Met.ofW (cc := cX3_inputMany) (maxL := 1) (ret := (some .int)) (by decide) rfl ?_
  intro p e s m args below meth c s₁ B hml hv
  obtain ⟨rfl, hI⟩ := hv
  have hx := B.exec
  have hb := B.bytes
  have hr := B.returns
  have hts := atoms_spec (ws := ws_ yX3_inputMany cX3_inputMany 1 (some .int)) B.pre
  have hts : ∀ w ∈ lw_all, w.before _ s = true := fun w h => hts w (List.mem_cons_of_mem _ h)
  have hown : s.vm.findClass RX3 = some m.cls := findClass_of_methodNamed B.named
  have hlocks := B.notSynchronized
  have hsz := hI.1
  subst hsz
  have hW := g_W.start hI
  have hK := g_K hI
  have hE := g_E hI
  have hl := lv_entry ([.int (nI n)]) (n := 1) (by exact Nat.le_of_ble_eq_true rfl)
  rw [lg_entry_eq]
  generalize (lg_sl ([.int (nI n)]) ++ List.replicate (1 - (lg_sl ([.int (nI n)])).length) Slot.unset).toArray = ls at hl ⊢
  have hl : lv_has ls 1 [(0, .int (nI n))] := hl
  refine lv_iconst (v := 1) hx hb dX3_inputMany_0 (by decide) ?_
  refine lv_iconst (v := 3) hx hb dX3_inputMany_1 (by decide) ?_
  refine lv_iload_n hx hb dX3_inputMany_2 rfl (lv_at hl 0 rfl) ?_
  refine lv_imul hx hb dX3_inputMany_3 ?_
  refine lv_ishl hx hb dX3_inputMany_4 ?_
  refine g_topi (y := nI (8 ^ n)) ((by decide : ∀ k, k < 4 → (1 : Int32) <<< ((3 * nI k) &&& 31) = nI (8 ^ k)) n (by omega)) ?_
  exact g_iret (v := nI (8 ^ n)) hx hb hr hlocks hW (⟨rfl, rfl⟩) (by omega) (by omega) dX3_inputMany_5
set_option maxHeartbeats 4000000 in
set_option maxRecDepth 100000 in
/-- Model.inputAt: its loop -/
theorem lpX3_inputAt {p : Program} {l : Launch} {e : Env} {R : Room} {s : State} {m : MethodId} {args : Array Value} {below : List Frame} {meth : Method} {c : Code} {cells slots : Nat} {Q : State → Prop} {D : va_G} {A : Nat → Prop} (hx : p.tables.exec = Jvm.exec) (hb : c.code = cX3_inputAt) (hts : ∀ w ∈ lw_all, w.before args s = true) (hown : s.vm.findClass RX3 = some m.cls) (hK : va_K D gCl (gT D) s) (hE : g_Env D A s) (hml : c.maxLocals = 4) (hRf : 7 ≤ R.frames) (hRl : 166 ≤ R.locals) (hRc : cells ≤ R.cells) (hRs : slots ≤ R.slots) (w : g_H) (b : Nat) (hb0 : b ∉ w.1) (n ix : Nat) (hn : n ≤ 3) (hix : ix < 512)
    (kk : ∀ (w1 : g_H) (ba : Nat) (H : Heap) (locs : List Loc) (ls : Array Slot), g_ex (fun _ => False) w w1 → g_SB D w1 b ba 0 (txt (oct n ix)) 16 → g_W D A s.heap H locs w1 → lv_has ls 4 [(2, .ref b)] → W p l e R s m args below meth c H locs cells slots Q (F0 m 39 ls [])) :
    ∀ (k : Nat) (i : Nat) (w1 : g_H) (ba : Nat) (H : Heap) (locs : List Loc) (ls : Array Slot), n < i + k → i ≤ n → g_ex (fun _ => False) w w1 → ba ∉ w.1 → g_SB D w1 b ba 0 ((txt (oct n ix)).take i) 16 → g_W D A s.heap H locs w1 → lv_has ls 4 [(3, .int (nI (n - i) - 1)), (0, .int (nI n)), (1, .int (nI ix)), (2, .ref b)] → W p l e R s m args below meth c H locs cells slots Q (F0 m 12 ls []) := by
  intro k
  induction k with
  | zero => intro i w1 ba H locs ls hfuel hi hex hbw hsb hW hl; exact absurd hfuel (by omega)
  | succ k ih =>
    intro i w1 ba H locs ls hfuel hi hex hbw hsb hW hl
    have hTl : ((txt (oct n ix)).take i).length ≤ 3 := by rw [List.length_take, oct_l]; omega
    refine lv_iload_n hx hb dX3_inputAt_12 rfl (lv_at hl 0 rfl) ?_
    refine lv_if_lt (tgt := 39) hx hb dX3_inputAt_13 (by decide) (fun hc => ?_) (fun hc => ?_)
    · have e0 : i = n := by have := (nI_pneg (by omega)).mp hc; omega
      subst e0
      rw [List.take_of_length_le (by rw [oct_l]; omega)] at hsb
      exact kk w1 ba H locs ls hex hsb hW (lv_sub hl [3] rfl)
    · have hlt : i < n := by have h9 : ¬ n - i = 0 := fun z => hc ((nI_pneg (by omega)).mpr z); omega
      refine lv_aload_n hx hb dX3_inputAt_16 rfl (lv_at hl 3 rfl) ?_
      refine lv_bipush (v := 48) hx hb dX3_inputAt_17 (by decide) ?_
      refine lv_iload_n hx hb dX3_inputAt_19 rfl (lv_at hl 2 rfl) ?_
      refine lv_iconst (v := 3) hx hb dX3_inputAt_20 (by decide) ?_
      refine lv_iload_n hx hb dX3_inputAt_21 rfl (lv_at hl 0 rfl) ?_
      refine lv_imul hx hb dX3_inputAt_22 ?_
      refine g_topi (y := nI (3 * (n - i - 1))) (by rw [nI_m1 (by omega)]; exact (Int32.ofNat_mul 3 _).symm) ?_
      refine lv_ishr hx hb dX3_inputAt_23 ?_
      refine g_topi (y := nI (ix / 2 ^ (3 * (n - i - 1)))) (pk_shrN (by omega) _ (3 * (n - i - 1)) ((by decide : ∀ k, k < 9 → ((nI k &&& 31).toBitVec.smod 32).toNat = k) _ (by omega))) ?_
      refine lv_bipush (v := 7) hx hb dX3_inputAt_24 (by decide) ?_
      refine lv_iand hx hb dX3_inputAt_26 ?_
      refine g_topi (y := nI (ix / 2 ^ (3 * (n - i - 1)) % 2 ^ 3)) (pk_andN (Nat.lt_of_le_of_lt (Nat.div_le_self _ _) (by omega)) 3 (by decide)) ?_
      refine lv_iadd hx hb dX3_inputAt_27 ?_
      have hd8 : ix / 2 ^ (3 * (n - i - 1)) % 2 ^ 3 < 8 := Nat.mod_lt _ (by decide)
      refine g_topi (y := nI (48 + ix / 2 ^ (3 * (n - i - 1)) % 2 ^ 3)) (nI_add 48 _) ?_
      refine lv_i2c (v := nI (48 + ix / 2 ^ (3 * (n - i - 1)) % 2 ^ 3)) hx hb dX3_inputAt_28 (sb_byte _ (by omega)).2.1 ?_
      have hcn : g_cn (((txt (oct n ix)).take i).length + 1) 16 = 16 := if_pos (by omega)
      have hcc : g_cc (((txt (oct n ix)).take i).length + 1) 16 = 0 := if_pos (by omega)
      have hcs : g_cs (((txt (oct n ix)).take i).length + 1) 16 = 0 := if_pos (by omega)
      refine g_callq (va_runV (As := [.int (nI (48 + ix / 2 ^ (3 * (n - i - 1)) % 2 ^ 3))]) (rest := []) ⟨hx, hb, hml, hown, hts⟩ (mtJ23_append_3 l D w1 H.size b ba 16 0 ((txt (oct n ix)).take i) hsb (48 + ix / 2 ^ (3 * (n - i - 1)) % 2 ^ 3) (by omega) (by omega) (by omega)) (cwV 1 hts (lw_V q2023 q1114 q1115 q70 q1116) rfl rfl rfl (by decide +kernel) ⟨Nat.le_trans (Nat.le_of_ble_eq_true rfl) hRf, Nat.le_trans (Nat.le_of_ble_eq_true rfl) hRl⟩) (g_preV hW hK hE hsb.1 rfl) rfl rfl hl.1 rfl (lv_room (Nat.le_of_ble_eq_true rfl)) dX3_inputAt_29 ⟨?_, ?_⟩) hW (fun r_ u1 H locs hp hW => ?_)
      · rw [hcc]; exact hRc
      · rw [hcs]; exact hRs
      rw [hcc, hcs]
      obtain ⟨bb, er, hsb2, hbb, hex2⟩ := hp
      subst er
      rw [hcn] at hsb2
      have hex3 : g_ex (fun _ => False) w u1 := hex.trM hex2 (fun z hz hM => hM.elim (fun q => hb0 (by rw [← q]; exact hz)) (fun q => hbw (by rw [← q]; exact hz)))
      have hbw2 : bb ∉ w.1 := hbb.elim (fun q => by rw [q]; exact hbw) (fun n z => n (hex.1 _ z))
      rw [← oct_g hlt, ← tk1 (by rw [oct_l]; exact hlt)] at hsb2
      refine lv_pop hx hb dX3_inputAt_32 rfl ?_
      refine lv_iinc (v := nI (n - (i + 1)) - 1) (lv' := [(3, .int (nI (n - (i + 1)) - 1)), (0, .int (nI n)), (1, .int (nI ix)), (2, .ref b)]) hx hb dX3_inputAt_33 hl (k := 0) rfl (by rw [nI_dec, show n - (i + 1) = n - i - 1 by omega, nI_m1 (by omega)]) (by decide) rfl (fun ls hl => ?_)
      refine lv_goto (tgt := 12) hx hb dX3_inputAt_36 (by decide) ?_
      exact ih (i + 1) u1 bb H locs ls (by omega) (by omega) hex3 hbw2 hsb2 hW (lv_sub hl [0, 1, 2, 3] rfl)
set_option maxHeartbeats 4000000 in
set_option maxRecDepth 100000 in
/-- Model.inputAt -/
theorem mtX3_inputAt (l : Launch) (D : va_G) (w : g_H) (sz : Nat) (n ix : Nat) (hn : n ≤ 3) (hix : ix < 512) : Met l yX3_inputAt (ws_ yX3_inputAt cX3_inputAt 4 (some (.object "java/lang/String"))) ({ frames := 7, cells := 4, slots := 27, locals := 191 }) (g_Pc D [.int (nI n), .int (nI ix)] w sz) (g_Qq D w sz (fun r u => ∃ st, r = some st ∧ st ∉ w.1 ∧ g_Str D u st (txt (oct n ix)) ∧ g_ex (fun _ => False) w u)) (4) (27) (g_A w sz) := by
  refine Met.ofW (cc := cX3_inputAt) (maxL := 4) (ret := (some (.object "java/lang/String"))) (by decide) rfl ?_
  intro p e s m args below meth c s₁ B hml hv
  obtain ⟨rfl, hI⟩ := hv
  have hx := B.exec
  have hb := B.bytes
  have hr := B.returns
  have hts := atoms_spec (ws := ws_ yX3_inputAt cX3_inputAt 4 (some (.object "java/lang/String"))) B.pre
  have hts : ∀ w ∈ lw_all, w.before _ s = true := fun w h => hts w (List.mem_cons_of_mem _ h)
  have hown : s.vm.findClass RX3 = some m.cls := findClass_of_methodNamed B.named
  have hlocks := B.notSynchronized
  have hsz := hI.1
  subst hsz
  have hW := g_W.start hI
  have hK := g_K hI
  have hE := g_E hI
  have hl := lv_entry ([.int (nI n), .int (nI ix)]) (n := 4) (by exact Nat.le_of_ble_eq_true rfl)
  rw [lg_entry_eq]
  generalize (lg_sl ([.int (nI n), .int (nI ix)]) ++ List.replicate (4 - (lg_sl ([.int (nI n), .int (nI ix)])).length) Slot.unset).toArray = ls at hl ⊢
  have hl : lv_has ls 4 [(0, .int (nI n)), (1, .int (nI ix))] := hl
  have x_1 : g_ex (fun _ => False) w w := g_ex.rf
  refine g_newo (ci := 15) (C := RJ23) (T := TJ23) (N := 4) hx hb hts in_J23 tyJ23 tyJ23_ok hown q2020 q831 q70 hK hW rfl [.null, .int (0), .int (0), .int (0)] (by decide +kernel) ?_ ?_ dX3_inputAt_0 (fun o_2 H hq hW => ?_)
  · show _ ≤ 4; omega
  · show _ ≤ 27; omega
  have ho_2 := hq
  obtain ⟨w_3, ew_3⟩ : ∃ z__, z__ = g_push w o_2 (.inr (15, [.null, .int (0), .int (0), .int (0)])) := ⟨_, rfl⟩
  have hW := g_W.ren hW ew_3 rfl
  have h_4 : g_at w_3 o_2 (.inr (15, [.null, .int (0), .int (0), .int (0)])) := by rw [ew_3]; exact g_at.push_self
  have x_5 : g_ex (fun _ => False) w w_3 := by rw [ew_3]; exact x_1.push hq
  refine lv_dup hx hb dX3_inputAt_3 rfl ?_
  refine g_callv (va_runI (As := []) (rest := [.ref o_2]) ⟨hx, hb, hml, hown, hts⟩ (mtJ23_init l D w_3 H.size o_2 0 h_4) (cwI 0 hts (lw_meth q834) rfl rfl rfl (hts _ q70) (hts _ q2021) (hts _ q833) rfl (by decide +kernel) ⟨Nat.le_of_ble_eq_true rfl, Nat.le_of_ble_eq_true rfl⟩) (g_preS hW hK hE) rfl rfl hl.1 rfl (lv_room (Nat.le_of_ble_eq_true rfl)) dX3_inputAt_4 ⟨?_, ?_⟩) hW (fun u1 H locs hp hW => ?_)
  · (try simp only [headSpec]); omega
  · (try simp only [headSpec]); omega
  obtain ⟨ba, hba, hsb, hex⟩ := hp
  have hx0 : g_ex (fun _ => False) w u1 := x_5.trM hex (fun z hz1 hz2 => ho_2 (by rw [← hz2]; exact hz1))
  have hbw : ba ∉ w.1 := fun z => hba (x_5.1 _ z)
  refine lv_astore_n (lv' := [(2, .ref o_2), (0, .int (nI n)), (1, .int (nI ix))]) hx hb dX3_inputAt_7 rfl hl (by decide) rfl (fun ls hl => ?_)
  refine lv_iload_n hx hb dX3_inputAt_8 rfl (lv_at hl 1 rfl) ?_
  refine lv_iconst (v := 1) hx hb dX3_inputAt_9 (by decide) ?_
  refine lv_isub hx hb dX3_inputAt_10 ?_
  refine lv_istore_n (lv' := [(3, .int ((nI n) - (1))), (2, .ref o_2), (0, .int (nI n)), (1, .int (nI ix))]) hx hb dX3_inputAt_11 rfl hl (by decide) rfl (fun ls hl => ?_)
  refine lpX3_inputAt (D := D) hx hb hts hown hK hE hml (Nat.le_of_ble_eq_true rfl) (Nat.le_of_ble_eq_true rfl) ?_ ?_ w o_2 ho_2 n ix hn hix (fun w1 ba H locs ls hex hsb hW hl => ?_) (n + 1) 0 u1 ba _ _ ls (by omega) (Nat.zero_le _) hx0 hbw hsb hW (lv_sub hl [0, 2, 3, 1] rfl)
  · (try simp only [headSpec]); omega
  · (try simp only [headSpec]); omega
  have hTl := oct_l (n := n) (k := ix)
  refine lv_aload_n hx hb dX3_inputAt_39 rfl (lv_at hl 0 rfl) ?_
  refine g_callq (va_runV (As := []) (rest := []) ⟨hx, hb, hml, hown, hts⟩ (mtJ23_toString l D w1 H.size o_2 ba 16 0 (txt (oct n ix)) hsb (by omega)) (cwV 0 hts (lw_V q2024 q974 q975 q70 q976) rfl rfl rfl (by decide +kernel) ⟨Nat.le_of_ble_eq_true rfl, Nat.le_of_ble_eq_true rfl⟩) (g_preV hW hK hE hsb.1 rfl) rfl rfl hl.1 rfl (lv_room (Nat.le_of_ble_eq_true rfl)) dX3_inputAt_40 ⟨?_, ?_⟩) hW (fun r_ u2 H locs hp hW => ?_)
  · (try simp only [headSpec]); omega
  · (try simp only [headSpec]); omega
  obtain ⟨st, er, hst9, hs2, hex2⟩ := hp
  subst er
  exact g_qret (v := some st) hx hb hr (Or.inl ⟨_, rfl⟩) hlocks hW (⟨st, rfl, fun z => hst9 (hex.1 _ z), hs2, hex.tr hex2⟩) (by omega) (by omega) dX3_inputAt_43
