/-! ShrinkYard: keptShare, meanShrunk *
-/
set_option maxRecDepth 100000
def fKS (k r : Nat) : UInt32 := FP.fdiv (FP.i2f (nI k)) (FP.i2f (nI r))
def dMS (a b : Nat) : UInt64 := FP.ddiv (FP.i2d (nI a)) (FP.i2d (nI b))
def sSum (F : List yF) : Nat := (F.map (fun f => f.2.1.length)).sum
theorem sSum_take {F : List yF} {i : Nat} (h : i < F.length) : sSum (F.take (i + 1)) = sSum (F.take i) + (F.getD i ([], [], 0)).2.1.length := by
  unfold sSum
  rw [List.take_add_one, List.map_append, List.sum_append, List.getElem?_eq_getElem h, List.getD_eq_getElem?_getD, List.getElem?_eq_getElem h]
  simp
theorem sSum_le {F : List yF} (h : ∀ f ∈ F, f.2.1.length < 1000) : sSum F ≤ 1000 * F.length := by
  unfold sSum
  induction F with
  | nil => exact Nat.zero_le _
  | cons f F ih =>
    have := h f List.mem_cons_self
    have := ih (fun g hg => h g (List.mem_cons_of_mem _ hg))
    simp only [List.map_cons, List.sum_cons, List.length_cons]
    omega
theorem g_Fins.len {D : va_G} {w : g_H} {fs : List Nat} {F : List yF} (h : g_Fins D w fs F) : ∀ f ∈ F, f.2.1.length < 1000 := fun f hf => by
  obtain ⟨i, hi, e⟩ := List.mem_iff_getElem.mp hf
  obtain ⟨a, b, -, -, h3⟩ := h.2 i hi
  rw [List.getD_eq_getElem?_getD, List.getElem?_eq_getElem hi] at h3
  rw [← e]
  exact h3.1.1
set_option maxHeartbeats 4000000 in
set_option maxRecDepth 100000 in
/-- ShrinkYard.keptShare -/
theorem mtX1_keptShare (l : Launch) (hl9 : l.stackTraces = false) (D : va_G) (w : g_H) (sz : Nat) (lab : Nat → Nat) (x ac rn tt : Nat) (rf : Nat → Nat) (P : List mI) (C : List yC) (A : Nat → List (List Nat)) (cov : Nat → Bool) (K Q : List (List Nat)) (F : List (List Nat × List Nat × Int32)) (cp : Nat → Nat) (hS : g_SZ D w lab x rf P C A cov K Q ac F rn tt cp) : vx_Met l yX1_keptShare (ws_ yX1_keptShare cX1_keptShare 1 (some .float)) ({ frames := 9, cells := 1, slots := 6, locals := 130 }) (g_Pc D [.ref x] w sz) (g_Qf D w sz (fun r u => rn ≠ 0 ∧ r = fKS K.length rn ∧ w = u)) (g_XC D w sz (fun E u => E = "java/lang/ArithmeticException" ∧ rn = 0 ∧ w = u)) (1) (6) (g_A w sz) := by
  refine vx_ofW (cc := cX1_keptShare) (maxL := 1) (ret := (some .float)) (by decide) rfl ?_
  intro p e s m args below meth c s₁ B hml hhand hv
  have hout : ∀ pc : Nat, ∀ x ∈ c.exceptionTable.toList, covers x pc = false := fun _ x hx => (hhand x hx).elim
  obtain ⟨rfl, hI⟩ := hv
  have hx := B.exec
  have hb := B.bytes
  have hr := B.returns
  have hts := atoms_spec (ws := ws_ yX1_keptShare cX1_keptShare 1 (some .float)) B.pre
  have hts : ∀ w ∈ lw_all, w.before _ s = true := fun w h => hts w (List.mem_cons_of_mem _ h)
  have hown : s.vm.findClass RX1 = some m.cls := findClass_of_methodNamed B.named
  have hlocks := B.notSynchronized
  have hsz := hI.1
  subst hsz
  have hW := g_W.start hI
  have hK := g_K hI
  have hE := g_E hI
  have hl := lv_entry ([.ref x]) (n := 1) (by exact Nat.le_of_ble_eq_true rfl)
  rw [lg_entry_eq]
  generalize (lg_sl ([.ref x]) ++ List.replicate (1 - (lg_sl ([.ref x])).length) Slot.unset).toArray = ls at hl ⊢
  have hl : lv_has ls 1 [(0, .ref x)] := hl
  have hrn := hS.2.2.2.2.2.2.2.2.2.2.2.1
  have hK5 := hS.2.2.2.2.2.2.2.2.2.1
  refine lv_aload_n hx hb dX1_keptShare_0 rfl (lv_at hl 0 rfl) ?_
  refine g_get (ci := 0) (v := .int (nI rn)) (C := RX1) (T := TX1) (N := 11) hx hb hts in_X1 hown hK hW hS.1.1 rfl 8 (by decide) q362 (fun _ h9 => h9) rfl dX1_keptShare_1 ?_
  refine g_xcallv (vx_runS (As := [.int (nI rn)]) (rest := []) ⟨hx, hb, hml, hown, hts⟩ (mtX1_requireSome l hl9 D w s.heap.size (nI rn)) (va_cwS 1 hts (lw_S q1860 q1861 q34 q1862) rfl rfl rfl (by decide +kernel) ⟨Nat.le_of_ble_eq_true rfl, Nat.le_of_ble_eq_true rfl⟩) (g_preS hW hK hE) rfl rfl hl.1 rfl (lv_room (Nat.le_of_ble_eq_true rfl)) dX1_keptShare_4 ⟨?_, ?_⟩) hW (fun E ce q9 u_ H locs hp hW hxc1 hxc2 hxc3 => g_xout (hout _) hlocks hW (⟨hp.1, Classical.byContradiction (fun z => nI_ne0 (Nat.pos_of_ne_zero z) (by omega) hp.2.1), hp.2.2⟩) hxc1 hxc2 hxc3 ?_ ?_) (fun u_ H locs hp hW => ?_)
  · (try simp only [headSpec]); omega
  · (try simp only [headSpec]); omega
  · (try simp only [headSpec]); omega
  · (try simp only [headSpec]); omega
  obtain ⟨hz, rfl⟩ := hp
  have hr0 : rn ≠ 0 := fun z => hz (by rw [z]; rfl)
  obtain ⟨ar, ks, hal, ⟨hkl, -, -⟩, -, -⟩ := hS.kept hK (g_e0 hE hW)
  obtain ⟨mo4, hat4, -⟩ := id hal
  refine lv_aload_n hx hb dX1_keptShare_7 rfl (lv_at hl 0 rfl) ?_
  refine g_get (ci := 0) (v := .ref (rf 11)) (C := RX1) (T := TX1) (N := 11) hx hb hts in_X1 hown hK hW hS.1.1 rfl 5 (by decide) q359 (fun _ h9 => h9) rfl dX1_keptShare_8 ?_
  refine g_callFi (va_runF (cC := D.1 11) (hK.1 11 _ rfl).2 (As := []) (rest := []) ⟨hx, hb, hml, hown, hts⟩ (mtJ2_size l D w H.size (rf 11) ar (cp 11) ks hal) (va_cwF 0 hts (lw_app (lw_in _ [438, 441, 443, 37] (by decide +kernel) (by decide +kernel)) (lw_meth q445)) rfl rfl rfl (fw_24 hE) (by decide +kernel) ⟨Nat.le_of_ble_eq_true rfl, Nat.le_of_ble_eq_true rfl⟩) (g_preV hW hK hE hat4 rfl) rfl rfl hl.1 rfl (lv_room (Nat.le_of_ble_eq_true rfl)) dX1_keptShare_11 ⟨?_, ?_⟩) hW (fun r_ u_ H locs hp hW => ?_)
  · (try simp only [headSpec]); omega
  · (try simp only [headSpec]); omega
  obtain ⟨er, rfl⟩ := hp
  subst er
  refine g_topi (y := nI K.length) (by rw [hkl]) ?_
  refine lv_i2f hx hb dX1_keptShare_16 ?_
  refine lv_aload_n hx hb dX1_keptShare_17 rfl (lv_at hl 0 rfl) ?_
  refine g_get (ci := 0) (v := .int (nI rn)) (C := RX1) (T := TX1) (N := 11) hx hb hts in_X1 hown hK hW hS.1.1 rfl 8 (by decide) q362 (fun _ h9 => h9) rfl dX1_keptShare_18 ?_
  refine lv_i2f hx hb dX1_keptShare_21 ?_
  refine lv_fdiv hx hb dX1_keptShare_22 (fl_div32 (by omega) (by omega) (by omega)) ?_
  exact vx_ret (g_fret (v := fKS K.length rn) hx hb hr hlocks hW ⟨hr0, rfl, rfl⟩ (by omega) (by omega) dX1_keptShare_23)
set_option maxHeartbeats 4000000 in
set_option maxRecDepth 100000 in
/-- ShrinkYard.meanShrunk: its loop -/
theorem lpX1_meanShrunk {p : Program} {l : Launch} {e : Env} {R : Room} {s : State} {m : MethodId} {args : Array Value} {below : List Frame} {meth : Method} {c : Code} {cells slots : Nat} {Q : State → Prop} {D : va_G} {A : Nat → Prop} (hx : p.tables.exec = Jvm.exec) (hb : c.code = cX1_meanShrunk) (hts : ∀ w ∈ lw_all, w.before args s = true) (hown : s.vm.findClass RX1 = some m.cls) (hK : va_K D gCl (gT D) s) (hE : g_Env D A s) (hml : c.maxLocals = 4) (hRf : 3 ≤ R.frames) (hRl : 54 ≤ R.locals) (hRc : cells ≤ R.cells) (hRs : slots ≤ R.slots) (w : g_H) (x fi far cp it : Nat) (fs : List Nat) (F : List yF) (mo : Int32) (hal : g_AL D w fi far fs cp) (hat : g_at w fi (.inr (11, [.int mo, .ref far, .int (nI fs.length)]))) (hfs : g_Fins D w fs F) (hF : F.length < 500)
    (kk : ∀ (w1 : g_H) (H : Heap) (locs : List Loc) (ls : Array Slot), g_ex (fun _ => False) w w1 → g_W D A s.heap H locs w1 → lv_has ls 4 [(1, .int (nI (sSum F))), (0, .ref x)] → W p l e R s m args below meth c H locs cells slots Q (F0 m 56 ls [])) :
    ∀ (k : Nat) (i : Nat) (lr : Int32) (w1 : g_H) (H : Heap) (locs : List Loc) (ls : Array Slot), F.length < i + k → i ≤ F.length → g_ex (fun _ => False) w w1 → g_at w1 it (.inr (17, [.int (nI i), .int lr, .int mo, .ref fi])) → it ∉ w.1 → g_W D A s.heap H locs w1 → lv_has ls 4 [(1, .int (nI (sSum (F.take i)))), (0, .ref x), (2, .ref it)] → W p l e R s m args below meth c H locs cells slots Q (F0 m 24 ls []) := by
  intro k
  induction k with
  | zero => intro i lr w1 H locs ls hfuel hi hex hit fit hW hl; exact absurd hfuel (by omega)
  | succ k ih =>
    intro i lr w1 H locs ls hfuel hi hex hit fit hW hl
    have hlen := hfs.1
    have hat1 := hex.at hat (fun z => z.elim)
    have hcapb : fs.length ≤ cp ∧ cp < 1000 := by obtain ⟨mo2, -, q1, q2, -⟩ := hal; exact ⟨q1, q2⟩
    refine lv_aload_n hx hb dX1_meanShrunk_24 rfl (lv_at hl 2 rfl) ?_
    refine g_callFi (va_runF (cC := D.1 17) (hK.1 17 _ rfl).2 (As := []) (rest := []) ⟨hx, hb, hml, hown, hts⟩ (mtJ28_hasNext l D w1 H.size it fi far fs.length i mo lr hat1 hit (by omega) (by omega)) (va_cwF 0 hts (lw_app (lw_in _ [1399, 1413, 1415, 78] (by decide +kernel) (by decide +kernel)) (lw_meth q1417)) rfl rfl rfl (fw_12 hE) (by decide +kernel) ⟨Nat.le_trans (Nat.le_of_ble_eq_true rfl) hRf, Nat.le_trans (Nat.le_of_ble_eq_true rfl) hRl⟩) (g_preV hW hK hE hit rfl) rfl rfl hl.1 rfl (lv_room (Nat.le_of_ble_eq_true rfl)) dX1_meanShrunk_25 ⟨hRc, hRs⟩) hW (fun r_ u_ H locs hp hW => ?_)
    obtain ⟨er, rfl⟩ := hp
    subst er
    by_cases hc : i < fs.length
    · rw [if_pos hc]
      refine lv_if_eq (tgt := 56) hx hb dX1_meanShrunk_30 (by decide) (fun hz => absurd hz (by decide)) (fun _ => ?_)
      refine lv_aload_n hx hb dX1_meanShrunk_33 rfl (lv_at hl 2 rfl) ?_
      obtain ⟨mo2, -, q1, q2, q3 | ⟨q4, f9, q5, q6⟩⟩ := id hal
      · omega
      have q5b := hex.at q5 (fun z => z.elim)
      refine g_callFq (va_runF (cC := D.1 17) (hK.1 17 _ rfl).2 (As := []) (rest := []) ⟨hx, hb, hml, hown, hts⟩ (mtJ28_next l D w1 H.size it fi far cp i fs f9 mo lr hat1 q5b q6 hit hc q1 q2) (va_cwF 0 hts (lw_app (lw_in _ [1428, 1498, 1500, 78] (by decide +kernel) (by decide +kernel)) (lw_meth q1502)) rfl rfl rfl (fw_16 hE) (by decide +kernel) ⟨Nat.le_trans (Nat.le_of_ble_eq_true rfl) hRf, Nat.le_trans (Nat.le_of_ble_eq_true rfl) hRl⟩) (g_preV hW hK hE hit rfl) rfl rfl hl.1 rfl (lv_room (Nat.le_of_ble_eq_true rfl)) dX1_meanShrunk_34 ⟨hRc, hRs⟩) hW (fun r_ u1 H locs hp hW => ?_)
      obtain ⟨er, hit2, hex2⟩ := hp
      subst er
      have hex3 : g_ex (fun _ => False) w u1 := hex.trM hex2 (fun z hz hq => fit (hq ▸ hz))
      obtain ⟨a9, b9, hf1, hs1, hs2⟩ := hfs.2 i (by omega)
      have hf1b := hex3.at hf1 (fun z => z.elim)
      refine va_castS hx hb hown (hts _ q1525) (hK.1 8 _ rfl).2 (g_Ob.rd (D := D) (w := u1) (ci := 8) (Or.inl ⟨_, hf1b⟩) rfl hK hE hW) dX1_meanShrunk_39 ?_
      refine lv_astore_n (lv' := [(3, .ref (fs.getD i 0)), (1, .int (nI (sSum (F.take i)))), (0, .ref x), (2, .ref it)]) hx hb dX1_meanShrunk_42 rfl hl (by decide) rfl (fun ls hl => ?_)
      refine lv_iload_n hx hb dX1_meanShrunk_43 rfl (lv_at hl 1 rfl) ?_
      refine lv_aload_n hx hb dX1_meanShrunk_44 rfl (lv_at hl 0 rfl) ?_
      refine g_callq (va_runV (As := []) (rest := [.int (nI (sSum (F.take i)))]) ⟨hx, hb, hml, hown, hts⟩ (mtX12_shrunk l D u1 H.size (fs.getD i 0) a9 b9 (F.getD i ([], [], 0)).2.2 hf1b) (cwV 0 hts (lw_V q1875 q91 q92 q83 q93) rfl rfl rfl (by decide +kernel) ⟨Nat.le_trans (Nat.le_of_ble_eq_true rfl) hRf, Nat.le_trans (Nat.le_of_ble_eq_true rfl) hRl⟩) (g_preV hW hK hE hf1b rfl) rfl rfl hl.1 rfl (lv_room (Nat.le_of_ble_eq_true rfl)) dX1_meanShrunk_45 ⟨hRc, hRs⟩) hW (fun r_ u_ H locs hp hW => ?_)
      obtain ⟨er, rfl⟩ := hp
      subst er
      have hs3 : g_Str D u1 b9 (F.getD i ([], [], 0)).2.1 := hs2.ex hex3 (fun _ _ z => z.elim)
      obtain ⟨v, hr1, hb1⟩ := hs3.rd hts hK hE hW
      refine g_calli (va_runV (As := []) (rest := [.int (nI (sSum (F.take i)))]) ⟨hx, hb, hml, hown, hts⟩ (mtJ16_length l D u1 H.size b9 (F.getD i ([], [], 0)).2.1 hs3) (cwV 0 hts (lw_V q739 q740 q741 q63 q742) rfl rfl rfl (by decide +kernel) ⟨Nat.le_trans (Nat.le_of_ble_eq_true rfl) hRf, Nat.le_trans (Nat.le_of_ble_eq_true rfl) hRl⟩) (g_preVR hW hK hE hr1.2.2.2) rfl rfl hl.1 rfl (lv_room (Nat.le_of_ble_eq_true rfl)) dX1_meanShrunk_48 ⟨hRc, hRs⟩) hW (fun r_ u_ H locs hp hW => ?_)
      obtain ⟨er, rfl⟩ := hp
      subst er
      refine lv_iadd hx hb dX1_meanShrunk_51 ?_
      refine g_topi (y := nI (sSum (F.take (i + 1)))) (by rw [sSum_take (by omega), nI_add]) ?_
      refine lv_istore_n (lv' := [(1, .int (nI (sSum (F.take (i + 1))))), (3, .ref (fs.getD i 0)), (0, .ref x), (2, .ref it)]) hx hb dX1_meanShrunk_52 rfl hl (by decide) rfl (fun ls hl => ?_)
      refine lv_goto (tgt := 24) hx hb dX1_meanShrunk_53 (by decide) ?_
      exact ih (i + 1) _ u1 H locs ls (by omega) (by omega) hex3 hit2 fit hW (lv_sub hl [0, 2, 3] rfl)
    · rw [if_neg hc]
      refine lv_if_eq (tgt := 56) hx hb dX1_meanShrunk_30 (by decide) (fun _ => ?_) (fun hz => absurd rfl hz)
      have e0 : i = F.length := by omega
      subst e0
      rw [List.take_length] at hl
      exact kk w1 H locs ls hex hW (lv_sub hl [0, 1] rfl)
set_option maxHeartbeats 4000000 in
set_option maxRecDepth 100000 in
/-- ShrinkYard.meanShrunk -/
theorem mtX1_meanShrunk (l : Launch) (hl9 : l.stackTraces = false) (D : va_G) (w : g_H) (sz : Nat) (lab : Nat → Nat) (x ac rn tt : Nat) (rf : Nat → Nat) (P : List mI) (C : List yC) (A : Nat → List (List Nat)) (cov : Nat → Bool) (K Q : List (List Nat)) (F : List (List Nat × List Nat × Int32)) (cp : Nat → Nat) (hS : g_SZ D w lab x rf P C A cov K Q ac F rn tt cp) : vx_Met l yX1_meanShrunk (ws_ yX1_meanShrunk cX1_meanShrunk 4 (some .double)) ({ frames := 9, cells := 2, slots := 10, locals := 130 }) (g_Pc D [.ref x] w sz) (g_Qd D w sz (fun r u => F.length ≠ 0 ∧ r = dMS (sSum F) F.length ∧ g_ex (fun _ => False) w u)) (g_XC D w sz (fun E u => E = "java/lang/ArithmeticException" ∧ F.length = 0 ∧ w = u)) (2) (10) (g_A w sz) := by
  refine vx_ofW (cc := cX1_meanShrunk) (maxL := 4) (ret := (some .double)) (by decide) rfl ?_
  intro p e s m args below meth c s₁ B hml hhand hv
  have hout : ∀ pc : Nat, ∀ x ∈ c.exceptionTable.toList, covers x pc = false := fun _ x hx => (hhand x hx).elim
  obtain ⟨rfl, hI⟩ := hv
  have hx := B.exec
  have hb := B.bytes
  have hr := B.returns
  have hts := atoms_spec (ws := ws_ yX1_meanShrunk cX1_meanShrunk 4 (some .double)) B.pre
  have hts : ∀ w ∈ lw_all, w.before _ s = true := fun w h => hts w (List.mem_cons_of_mem _ h)
  have hown : s.vm.findClass RX1 = some m.cls := findClass_of_methodNamed B.named
  have hlocks := B.notSynchronized
  have hsz := hI.1
  subst hsz
  have hW := g_W.start hI
  have hK := g_K hI
  have hE := g_E hI
  have hl := lv_entry ([.ref x]) (n := 4) (by exact Nat.le_of_ble_eq_true rfl)
  rw [lg_entry_eq]
  generalize (lg_sl ([.ref x]) ++ List.replicate (4 - (lg_sl ([.ref x])).length) Slot.unset).toArray = ls at hl ⊢
  have hl : lv_has ls 4 [(0, .ref x)] := hl
  obtain ⟨far, fs, hal, ⟨hfl, hfs⟩, -, -⟩ := hS.fnd hK (g_e0 hE hW)
  obtain ⟨mo, hat, -⟩ := id hal
  have hF5 := hS.2.2.2.2.2.2.2.2.2.2.1
  have hsl := sSum_le hfs.len
  refine lv_aload_n hx hb dX1_meanShrunk_0 rfl (lv_at hl 0 rfl) ?_
  refine g_get (ci := 0) (v := .ref (rf 13)) (C := RX1) (T := TX1) (N := 11) hx hb hts in_X1 hown hK hW hS.1.1 rfl 7 (by decide) q361 (fun _ h9 => h9) rfl dX1_meanShrunk_1 ?_
  refine g_callFi (va_runF (cC := D.1 11) (hK.1 11 _ rfl).2 (As := []) (rest := []) ⟨hx, hb, hml, hown, hts⟩ (mtJ2_size l D w s.heap.size (rf 13) far (cp 13) fs hal) (va_cwF 0 hts (lw_app (lw_in _ [438, 441, 443, 37] (by decide +kernel) (by decide +kernel)) (lw_meth q445)) rfl rfl rfl (fw_24 hE) (by decide +kernel) ⟨Nat.le_of_ble_eq_true rfl, Nat.le_of_ble_eq_true rfl⟩) (g_preV hW hK hE hat rfl) rfl rfl hl.1 rfl (lv_room (Nat.le_of_ble_eq_true rfl)) dX1_meanShrunk_4 ⟨?_, ?_⟩) hW (fun r_ u_ H locs hp hW => ?_)
  · (try simp only [headSpec]); omega
  · (try simp only [headSpec]); omega
  obtain ⟨er, rfl⟩ := hp
  subst er
  refine g_topi (y := nI F.length) (by rw [hfl]) ?_
  refine g_xcallv (vx_runS (As := [.int (nI F.length)]) (rest := []) ⟨hx, hb, hml, hown, hts⟩ (mtX1_requireSome l hl9 D w H.size (nI F.length)) (va_cwS 1 hts (lw_S q1860 q1861 q34 q1862) rfl rfl rfl (by decide +kernel) ⟨Nat.le_of_ble_eq_true rfl, Nat.le_of_ble_eq_true rfl⟩) (g_preS hW hK hE) rfl rfl hl.1 rfl (lv_room (Nat.le_of_ble_eq_true rfl)) dX1_meanShrunk_9 ⟨?_, ?_⟩) hW (fun E ce q9 u_ H locs hp hW hxc1 hxc2 hxc3 => g_xout (hout _) hlocks hW (⟨hp.1, Classical.byContradiction (fun z => nI_ne0 (Nat.pos_of_ne_zero z) (by omega) hp.2.1), hp.2.2⟩) hxc1 hxc2 hxc3 ?_ ?_) (fun u_ H locs hp hW => ?_)
  · (try simp only [headSpec]); omega
  · (try simp only [headSpec]); omega
  · (try simp only [headSpec]); omega
  · (try simp only [headSpec]); omega
  obtain ⟨hz, rfl⟩ := hp
  have hr0 : F.length ≠ 0 := fun z => hz (by rw [z]; rfl)
  refine lv_iconst (v := 0) hx hb dX1_meanShrunk_12 (by decide) ?_
  refine lv_istore_n (lv' := [(1, .int (0)), (0, .ref x)]) hx hb dX1_meanShrunk_13 rfl hl (by decide) rfl (fun ls hl => ?_)
  refine lv_aload_n hx hb dX1_meanShrunk_14 rfl (lv_at hl 1 rfl) ?_
  refine g_get (ci := 0) (v := .ref (rf 13)) (C := RX1) (T := TX1) (N := 11) hx hb hts in_X1 hown hK hW hS.1.1 rfl 7 (by decide) q361 (fun _ h9 => h9) rfl dX1_meanShrunk_15 ?_
  refine g_callFq (va_runF (cC := D.1 11) (hK.1 11 _ rfl).2 (As := []) (rest := []) ⟨hx, hb, hml, hown, hts⟩ (mtJ2_iterator l D w H.size (rf 13) far fs.length mo hat) (va_cwF 0 hts (lw_app (lw_in _ [1286, 1289, 1291, 37] (by decide +kernel) (by decide +kernel)) (lw_meth q1293)) rfl rfl rfl (fw_30 hE) (by decide +kernel) ⟨Nat.le_of_ble_eq_true rfl, Nat.le_of_ble_eq_true rfl⟩) (g_preV hW hK hE hat rfl) rfl rfl hl.1 rfl (lv_room (Nat.le_of_ble_eq_true rfl)) dX1_meanShrunk_18 ⟨?_, ?_⟩) hW (fun r_ u1 H locs hp hW => ?_)
  · (try simp only [headSpec]); omega
  · (try simp only [headSpec]); omega
  obtain ⟨it, er, fit, hit, hex⟩ := hp
  subst er
  refine lv_astore_n (lv' := [(2, .ref it), (1, .int (0)), (0, .ref x)]) hx hb dX1_meanShrunk_23 rfl hl (by decide) rfl (fun ls hl => ?_)
  refine lpX1_meanShrunk (D := D) hx hb hts hown hK hE hml (Nat.le_of_ble_eq_true rfl) (Nat.le_of_ble_eq_true rfl) ?_ ?_ w x (rf 13) far _ it fs F mo hal hat hfs hF5 (fun w1 H locs ls hex hW hl => ?_) (F.length + 1) 0 _ u1 _ _ ls (by omega) (by omega) hex hit fit hW (lv_sub hl [1, 2, 0] rfl)
  · (try simp only [headSpec]); omega
  · (try simp only [headSpec]); omega
  have hS1 := hS.new hex 0
  have hal1 := hal.ex hex (fun z => z.elim) (fun _ z => z.elim)
  have hat1 := hex.at hat (fun z => z.elim)
  refine lv_iload_n hx hb dX1_meanShrunk_56 rfl (lv_at hl 0 rfl) ?_
  refine lv_i2d hx hb dX1_meanShrunk_57 ?_
  refine lv_aload_n hx hb dX1_meanShrunk_58 rfl (lv_at hl 1 rfl) ?_
  refine g_get (ci := 0) (v := .ref (rf 13)) (C := RX1) (T := TX1) (N := 11) hx hb hts in_X1 hown hK hW hS1.1.1 rfl 7 (by decide) q361 (fun _ h9 => h9) rfl dX1_meanShrunk_59 ?_
  refine g_callFi (va_runF (cC := D.1 11) (hK.1 11 _ rfl).2 (As := []) (rest := [.double (FP.i2d (nI (sSum F)))]) ⟨hx, hb, hml, hown, hts⟩ (mtJ2_size l D w1 H.size (rf 13) far (cp 13) fs hal1) (va_cwF 0 hts (lw_app (lw_in _ [438, 441, 443, 37] (by decide +kernel) (by decide +kernel)) (lw_meth q445)) rfl rfl rfl (fw_24 hE) (by decide +kernel) ⟨Nat.le_of_ble_eq_true rfl, Nat.le_of_ble_eq_true rfl⟩) (g_preV hW hK hE hat1 rfl) rfl rfl hl.1 rfl (lv_room (Nat.le_of_ble_eq_true rfl)) dX1_meanShrunk_62 ⟨?_, ?_⟩) hW (fun r_ u_ H locs hp hW => ?_)
  · (try simp only [headSpec]); omega
  · (try simp only [headSpec]); omega
  obtain ⟨er, rfl⟩ := hp
  subst er
  refine g_topi (y := nI F.length) (by rw [hfl]) ?_
  refine lv_i2d hx hb dX1_meanShrunk_67 ?_
  refine lv_ddiv hx hb dX1_meanShrunk_68 (fl_div64 (by omega) (by omega) (by omega)) ?_
  exact vx_ret (g_dret (v := dMS (sSum F) F.length) hx hb hr hlocks hW ⟨hr0, rfl, hex⟩ (by omega) (by omega) dX1_meanShrunk_69)
