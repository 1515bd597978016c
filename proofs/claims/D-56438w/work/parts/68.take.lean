/-! ShrinkYard: isFound, coversMore, take of digits *
-/
set_option maxRecDepth 100000
abbrev yF : Type := List Nat × List Nat × Int32
def fnd (F : List yF) (c : Int32) : Bool := F.any (fun f => f.2.2 == c)
theorem fnd_take {F : List yF} {c : Int32} {i : Nat} (h : i < F.length) : fnd (F.take (i + 1)) c = (fnd (F.take i) c || ((F.getD i ([], [], 0)).2.2 == c)) := by
  unfold fnd
  rw [List.take_add_one, List.any_append, List.getElem?_eq_getElem h, List.getD_eq_getElem?_getD, List.getElem?_eq_getElem h]
  simp
theorem m_steps {P : List mI} {xs : List Nat} : ∀ (k ad : Nat) (g : Nat → Int32) (rd st : Nat), (mRun P xs k ad g rd st).2.2.1 ≤ st + k := by
  intro k
  induction k with
  | zero => intro ad g rd st; exact Nat.le_refl _
  | succ k ih =>
    intro ad g rd st
    unfold mRun
    split
    · split
      · exact (by omega : st + 1 ≤ st + (k + 1))
      · split
        · exact (by omega : st + 1 ≤ st + (k + 1))
        · exact Nat.le_trans (ih _ _ _ _) (by omega)
    · exact (by omega : st ≤ st + (k + 1))
theorem mOut_steps {P : List mI} {xs : List Nat} : (mOut P xs).2.2.1 ≤ 65 := by
  rw [mOut_eq]
  have := m_steps (P := P) (xs := xs) 65 0 (fun _ => 0) 0 0
  omega
def cvO (cov : Nat → Bool) (es : List Nat) : Nat → Bool := fun e => cov e || bsE (fun _ => false) es e
def cvM (cov : Nat → Bool) (es : List Nat) : Bool := decide (fb_ct cov 320 < fb_ct (cvO cov es) 320)
set_option maxHeartbeats 4000000 in
set_option maxRecDepth 100000 in
/-- ShrinkYard.isFound: its loop -/
theorem lpX1_isFound {p : Program} {l : Launch} {e : Env} {R : Room} {s : State} {m : MethodId} {args : Array Value} {below : List Frame} {meth : Method} {c : Code} {cells slots : Nat} {Q : State → Prop} {D : va_G} {A : Nat → Prop} (hx : p.tables.exec = Jvm.exec) (hb : c.code = cX1_isFound) (hts : ∀ w ∈ lw_all, w.before args s = true) (hown : s.vm.findClass RX1 = some m.cls) (hK : va_K D gCl (gT D) s) (hE : g_Env D A s) (hml : c.maxLocals = 5) (hRf : 3 ≤ R.frames) (hRl : 54 ≤ R.locals) (hRc : cells ≤ R.cells) (hRs : slots ≤ R.slots) (w : g_H) (fi far cp it : Nat) (fs : List Nat) (F : List yF) (c9 mo : Int32) (hal : g_AL D w fi far fs cp) (hat : g_at w fi (.inr (11, [.int mo, .ref far, .int (nI fs.length)]))) (hfs : g_Fins D w fs F) (hF : F.length < 500)
    (kk : ∀ (w1 : g_H) (H : Heap) (locs : List Loc) (ls : Array Slot), g_ex (fun _ => False) w w1 → g_W D A s.heap H locs w1 → lv_has ls 5 [(2, .int (if fnd F c9 = true then 1 else 0))] → W p l e R s m args below meth c H locs cells slots Q (F0 m 52 ls [])) :
    ∀ (k : Nat) (i : Nat) (lr : Int32) (w1 : g_H) (H : Heap) (locs : List Loc) (ls : Array Slot), F.length < i + k → i ≤ F.length → g_ex (fun _ => False) w w1 → g_at w1 it (.inr (17, [.int (nI i), .int lr, .int mo, .ref fi])) → it ∉ w.1 → g_W D A s.heap H locs w1 → lv_has ls 5 [(2, .int ((if fnd (F.take i) c9 = true then 1 else 0))), (1, .int (c9)), (3, .ref it)] → W p l e R s m args below meth c H locs cells slots Q (F0 m 12 ls []) := by
  intro k
  induction k with
  | zero => intro i lr w1 H locs ls hfuel hi hex hit fit hW hl; exact absurd hfuel (by omega)
  | succ k ih =>
    intro i lr w1 H locs ls hfuel hi hex hit fit hW hl
    have hlen := hfs.1
    have hat1 := hex.at hat (fun z => z.elim)
    have hcapb : fs.length ≤ cp ∧ cp < 1000 := by obtain ⟨mo2, -, q1, q2, -⟩ := hal; exact ⟨q1, q2⟩
    refine lv_aload_n hx hb dX1_isFound_12 rfl (lv_at hl 2 rfl) ?_
    refine g_callFi (va_runF (cC := D.1 17) (hK.1 17 _ rfl).2 (As := []) (rest := []) ⟨hx, hb, hml, hown, hts⟩ (mtJ28_hasNext l D w1 H.size it fi far fs.length i mo lr hat1 hit (by omega) (by omega)) (va_cwF 0 hts (lw_app (lw_in _ [1399, 1413, 1415, 78] (by decide +kernel) (by decide +kernel)) (lw_meth q1417)) rfl rfl rfl (fw_12 hE) (by decide +kernel) ⟨Nat.le_trans (Nat.le_of_ble_eq_true rfl) hRf, Nat.le_trans (Nat.le_of_ble_eq_true rfl) hRl⟩) (g_preV hW hK hE hit rfl) rfl rfl hl.1 rfl (lv_room (Nat.le_of_ble_eq_true rfl)) dX1_isFound_13 ⟨hRc, hRs⟩) hW (fun r_ u_ H locs hp hW => ?_)
    obtain ⟨er, rfl⟩ := hp
    subst er
    by_cases hc : i < fs.length
    · rw [if_pos hc]
      refine lv_if_eq (tgt := 52) hx hb dX1_isFound_18 (by decide) (fun hz => absurd hz (by decide)) (fun _ => ?_)
      refine lv_aload_n hx hb dX1_isFound_21 rfl (lv_at hl 2 rfl) ?_
      obtain ⟨mo2, -, q1, q2, q3 | ⟨q4, f9, q5, q6⟩⟩ := id hal
      · omega
      have q5b := hex.at q5 (fun z => z.elim)
      refine g_callFq (va_runF (cC := D.1 17) (hK.1 17 _ rfl).2 (As := []) (rest := []) ⟨hx, hb, hml, hown, hts⟩ (mtJ28_next l D w1 H.size it fi far cp i fs f9 mo lr hat1 q5b q6 hit hc q1 q2) (va_cwF 0 hts (lw_app (lw_in _ [1428, 1498, 1500, 78] (by decide +kernel) (by decide +kernel)) (lw_meth q1502)) rfl rfl rfl (fw_16 hE) (by decide +kernel) ⟨Nat.le_trans (Nat.le_of_ble_eq_true rfl) hRf, Nat.le_trans (Nat.le_of_ble_eq_true rfl) hRl⟩) (g_preV hW hK hE hit rfl) rfl rfl hl.1 rfl (lv_room (Nat.le_of_ble_eq_true rfl)) dX1_isFound_22 ⟨hRc, hRs⟩) hW (fun r_ u1 H locs hp hW => ?_)
      obtain ⟨er, hit2, hex2⟩ := hp
      subst er
      have hex3 : g_ex (fun _ => False) w u1 := hex.trM hex2 (fun z hz hq => fit (hq ▸ hz))
      obtain ⟨a9, b9, hf1, -, -⟩ := hfs.2 i (by omega)
      have hf1b := hex3.at hf1 (fun z => z.elim)
      refine va_castS hx hb hown (hts _ q1525) (hK.1 8 _ rfl).2 (g_Ob.rd (D := D) (w := u1) (ci := 8) (Or.inl ⟨_, hf1b⟩) rfl hK hE hW) dX1_isFound_27 ?_
      refine lv_astore (lv' := [(4, .ref (fs.getD i 0)), (2, .int ((if fnd (F.take i) c9 = true then 1 else 0))), (1, .int (c9)), (3, .ref it)]) hx hb dX1_isFound_30 hl (by decide) rfl (fun ls hl => ?_)
      refine lv_iload_n hx hb dX1_isFound_32 rfl (lv_at hl 1 rfl) ?_
      refine lv_aload hx hb dX1_isFound_33 (lv_at hl 0 rfl) ?_
      refine g_calli (va_runV (As := []) (rest := [.int ((if fnd (F.take i) c9 = true then 1 else 0))]) ⟨hx, hb, hml, hown, hts⟩ (mtX12_code l D u1 H.size (fs.getD i 0) a9 b9 (F.getD i ([], [], 0)).2.2 hf1b) (cwV 0 hts (lw_V q1526 q95 q96 q83 q97) rfl rfl rfl (by decide +kernel) ⟨Nat.le_trans (Nat.le_of_ble_eq_true rfl) hRf, Nat.le_trans (Nat.le_of_ble_eq_true rfl) hRl⟩) (g_preV hW hK hE hf1b rfl) rfl rfl hl.1 rfl (lv_room (Nat.le_of_ble_eq_true rfl)) dX1_isFound_35 ⟨hRc, hRs⟩) hW (fun r_ u_ H locs hp hW => ?_)
      obtain ⟨er, rfl⟩ := hp
      subst er
      refine lv_iload_n hx hb dX1_isFound_38 rfl (lv_at hl 2 rfl) ?_
      refine lv_icmp_ne (tgt := 46) hx hb dX1_isFound_39 (by decide) (fun hd => ?_) (fun hd => ?_)
      · have hd1 : ((F.getD i ([], [], 0)).2.2 == c9) = false := beq_eq_false_iff_ne.mpr hd
        refine lv_iconst (v := 0) hx hb dX1_isFound_46 (by decide) ?_
        refine lv_ior hx hb dX1_isFound_47 ?_
        refine g_topi (y := (if fnd (F.take (i + 1)) c9 = true then 1 else 0)) (by rw [fnd_take (by omega), hd1]; cases fnd (F.take i) c9 <;> rfl) ?_
        refine lv_istore_n (lv' := [(2, .int ((if fnd (F.take (i + 1)) c9 = true then 1 else 0))), (4, .ref (fs.getD i 0)), (1, .int (c9)), (3, .ref it)]) hx hb dX1_isFound_48 rfl hl (by decide) rfl (fun ls hl => ?_)
        refine lv_goto (tgt := 12) hx hb dX1_isFound_49 (by decide) ?_
        exact ih (i + 1) _ u1 H locs ls (by omega) (by omega) hex3 hit2 fit hW (lv_sub hl [0, 2, 3] rfl)
      · have hd1 : ((F.getD i ([], [], 0)).2.2 == c9) = true := beq_iff_eq.mpr (by first | exact hd | exact Classical.not_not.mp hd)
        refine lv_iconst (v := 1) hx hb dX1_isFound_42 (by decide) ?_
        refine lv_goto (tgt := 47) hx hb dX1_isFound_43 (by decide) ?_
        refine lv_ior hx hb dX1_isFound_47 ?_
        refine g_topi (y := (if fnd (F.take (i + 1)) c9 = true then 1 else 0)) (by rw [fnd_take (by omega), hd1]; cases fnd (F.take i) c9 <;> rfl) ?_
        refine lv_istore_n (lv' := [(2, .int ((if fnd (F.take (i + 1)) c9 = true then 1 else 0))), (4, .ref (fs.getD i 0)), (1, .int (c9)), (3, .ref it)]) hx hb dX1_isFound_48 rfl hl (by decide) rfl (fun ls hl => ?_)
        refine lv_goto (tgt := 12) hx hb dX1_isFound_49 (by decide) ?_
        exact ih (i + 1) _ u1 H locs ls (by omega) (by omega) hex3 hit2 fit hW (lv_sub hl [0, 2, 3] rfl)
    · rw [if_neg hc]
      refine lv_if_eq (tgt := 52) hx hb dX1_isFound_18 (by decide) (fun _ => ?_) (fun hz => absurd rfl hz)
      have e0 : i = F.length := by omega
      subst e0
      rw [List.take_length] at hl
      exact kk w1 H locs ls hex hW (lv_sub hl [0] rfl)
set_option maxHeartbeats 4000000 in
set_option maxRecDepth 100000 in
/-- ShrinkYard.isFound -/
theorem mtX1_isFound (l : Launch) (D : va_G) (w : g_H) (sz : Nat) (lab : Nat → Nat) (x ac rn tt : Nat) (rf : Nat → Nat) (P : List mI) (C : List yC) (A : Nat → List (List Nat)) (cov : Nat → Bool) (K Q : List (List Nat)) (F : List (List Nat × List Nat × Int32)) (cp : Nat → Nat) (hS : g_SZ D w lab x rf P C A cov K Q ac F rn tt cp) (c9 : Int32) : Met l yX1_isFound (ws_ yX1_isFound cX1_isFound 5 (some .boolean)) ({ frames := 3, cells := 1, slots := 4, locals := 54 }) (g_Pc D [.ref x, .int (c9)] w sz) (g_Qi D w sz (fun r u => r = (if fnd F c9 = true then 1 else 0) ∧ g_ex (fun _ => False) w u)) (1) (4) (g_A w sz) := by
  refine Met.ofW (cc := cX1_isFound) (maxL := 5) (ret := (some .boolean)) (by decide) rfl ?_
  intro p e s m args below meth c s₁ B hml hv
  obtain ⟨rfl, hI⟩ := hv
  have hx := B.exec
  have hb := B.bytes
  have hr := B.returns
  have hts := atoms_spec (ws := ws_ yX1_isFound cX1_isFound 5 (some .boolean)) B.pre
  have hts : ∀ w ∈ lw_all, w.before _ s = true := fun w h => hts w (List.mem_cons_of_mem _ h)
  have hown : s.vm.findClass RX1 = some m.cls := findClass_of_methodNamed B.named
  have hlocks := B.notSynchronized
  have hsz := hI.1
  subst hsz
  have hW := g_W.start hI
  have hK := g_K hI
  have hE := g_E hI
  have hl := lv_entry ([.ref x, .int (c9)]) (n := 5) (by exact Nat.le_of_ble_eq_true rfl)
  rw [lg_entry_eq]
  generalize (lg_sl ([.ref x, .int (c9)]) ++ List.replicate (5 - (lg_sl ([.ref x, .int (c9)])).length) Slot.unset).toArray = ls at hl ⊢
  have hl : lv_has ls 5 [(0, .ref x), (1, .int (c9))] := hl
  obtain ⟨far, fs, hal, ⟨hfl, hfs⟩, -, -⟩ := hS.fnd hK (g_e0 hE hW)
  obtain ⟨mo, hat, -⟩ := id hal
  have hF5 := hS.2.2.2.2.2.2.2.2.2.2.1
  refine lv_iconst (v := 0) hx hb dX1_isFound_0 (by decide) ?_
  refine lv_istore_n (lv' := [(2, .int (0)), (0, .ref x), (1, .int (c9))]) hx hb dX1_isFound_1 rfl hl (by decide) rfl (fun ls hl => ?_)
  refine lv_aload_n hx hb dX1_isFound_2 rfl (lv_at hl 1 rfl) ?_
  refine g_get (ci := 0) (v := .ref (rf 13)) (C := RX1) (T := TX1) (N := 11) hx hb hts in_X1 hown hK hW hS.1.1 rfl 7 (by decide) q361 (fun _ h9 => h9) rfl dX1_isFound_3 ?_
  refine g_callFq (va_runF (cC := D.1 11) (hK.1 11 _ rfl).2 (As := []) (rest := []) ⟨hx, hb, hml, hown, hts⟩ (mtJ2_iterator l D w s.heap.size (rf 13) far fs.length mo hat) (va_cwF 0 hts (lw_app (lw_in _ [1286, 1289, 1291, 37] (by decide +kernel) (by decide +kernel)) (lw_meth q1293)) rfl rfl rfl (fw_30 hE) (by decide +kernel) ⟨Nat.le_of_ble_eq_true rfl, Nat.le_of_ble_eq_true rfl⟩) (g_preV hW hK hE hat rfl) rfl rfl hl.1 rfl (lv_room (Nat.le_of_ble_eq_true rfl)) dX1_isFound_6 ⟨?_, ?_⟩) hW (fun r_ u1 H locs hp hW => ?_)
  · (try simp only [headSpec]); omega
  · (try simp only [headSpec]); omega
  obtain ⟨it, er, fit, hit, hex⟩ := hp
  subst er
  refine lv_astore_n (lv' := [(3, .ref it), (2, .int (0)), (0, .ref x), (1, .int (c9))]) hx hb dX1_isFound_11 rfl hl (by decide) rfl (fun ls hl => ?_)
  refine lpX1_isFound (D := D) hx hb hts hown hK hE hml (Nat.le_of_ble_eq_true rfl) (Nat.le_of_ble_eq_true rfl) ?_ ?_ w (rf 13) far _ it fs F c9 mo hal hat hfs hF5 (fun w1 H locs ls hex hW hl => ?_) (F.length + 1) 0 _ u1 _ _ ls (by omega) (by omega) hex hit fit hW (lv_sub hl [1, 3, 0] rfl)
  · (try simp only [headSpec]); omega
  · (try simp only [headSpec]); omega
  refine lv_iload_n hx hb dX1_isFound_52 rfl (lv_at hl 0 rfl) ?_
  by_cases hq9 : fnd F c9 = true
  · rw [if_pos hq9]
    exact g_zret (v := 1) hx hb hr hlocks (by rfl) hW (⟨rfl, hex⟩) (by omega) (by omega) dX1_isFound_53
  · rw [if_neg hq9]
    exact g_zret (v := 0) hx hb hr hlocks (by rfl) hW (⟨rfl, hex⟩) (by omega) (by omega) dX1_isFound_53
set_option maxHeartbeats 4000000 in
set_option maxRecDepth 100000 in
/-- ShrinkYard.coversMore -/
theorem mtX1_coversMore (l : Launch) (D : va_G) (w : g_H) (sz : Nat) (lab : Nat → Nat) (x ac rn tt : Nat) (rf : Nat → Nat) (P : List mI) (C : List yC) (A : Nat → List (List Nat)) (cov : Nat → Bool) (K Q : List (List Nat)) (F : List (List Nat × List Nat × Int32)) (cp : Nat → Nat) (hS : g_SZ D w lab x rf P C A cov K Q ac F rn tt cp) (ra eb wb st n : Nat) (vv : Value) (cd : Int32) (es : List Nat) (hMa : g_Ma D w (rf 9) ra eb wb x vv cd st (bsE (fun _ => false) es) n (cp 9)) (hlm : lab eb = 9 ∧ lab wb = 9) : Met l yX1_coversMore (ws_ yX1_coversMore cX1_coversMore 2 (some .boolean)) ({ frames := 5, cells := g_bc n (cp 10), slots := g_bs n (cp 10), locals := 147 }) (g_Pc D [.ref x] w sz) (g_Qi D w sz (fun r u => r = (if cvM cov es = true then 1 else 0) ∧ ∃ l2, g_SZ D u l2 x rf P C A (cvO cov es) K Q ac F rn tt (cpU cp 10 (g_bn n (cp 10))) ∧ (∀ z, z ∈ w.1 → l2 z = lab z) ∧ g_ex (fun q => lab q = 10) w u)) (g_bc n (cp 10)) (g_bs n (cp 10)) (g_A w sz) := by
  refine Met.ofW (cc := cX1_coversMore) (maxL := 2) (ret := (some .boolean)) (by decide) rfl ?_
  intro p e s m args below meth c s₁ B hml hv
  obtain ⟨rfl, hI⟩ := hv
  have hx := B.exec
  have hb := B.bytes
  have hr := B.returns
  have hts := atoms_spec (ws := ws_ yX1_coversMore cX1_coversMore 2 (some .boolean)) B.pre
  have hts : ∀ w ∈ lw_all, w.before _ s = true := fun w h => hts w (List.mem_cons_of_mem _ h)
  have hown : s.vm.findClass RX1 = some m.cls := findClass_of_methodNamed B.named
  have hlocks := B.notSynchronized
  have hsz := hI.1
  subst hsz
  have hW := g_W.start hI
  have hK := g_K hI
  have hE := g_E hI
  have hl := lv_entry ([.ref x]) (n := 2) (by exact Nat.le_of_ble_eq_true rfl)
  rw [lg_entry_eq]
  generalize (lg_sl ([.ref x]) ++ List.replicate (2 - (lg_sl ([.ref x])).length) Slot.unset).toArray = ls at hl ⊢
  have hl : lv_has ls 2 [(0, .ref x)] := hl
  obtain ⟨wa, n9, hbs, ⟨c1, c2⟩, hcl⟩ := hS.covd hK
  obtain ⟨rd9, hm0⟩ := hMa.1
  refine lv_aload_n hx hb dX1_coversMore_0 rfl (lv_at hl 0 rfl) ?_
  refine g_get (ci := 0) (v := .ref (rf 10)) (C := RX1) (T := TX1) (N := 11) hx hb hts in_X1 hown hK hW hS.1.1 rfl 4 (by decide) q358 (fun _ h9 => h9) rfl dX1_coversMore_1 ?_
  refine g_calli (va_runV (As := []) (rest := []) ⟨hx, hb, hml, hown, hts⟩ (mtJ3_cardinality l D w s.heap.size (rf 10) wa n9 (cp 10) cov hbs) (cwV 0 hts (lw_V q423 q424 q425 q39 q426) rfl rfl rfl (by decide +kernel) ⟨Nat.le_of_ble_eq_true rfl, Nat.le_of_ble_eq_true rfl⟩) (g_preV hW hK hE hbs.1 rfl) rfl rfl hl.1 rfl (lv_room (Nat.le_of_ble_eq_true rfl)) dX1_coversMore_4 ⟨?_, ?_⟩) hW (fun r_ u_ H locs hp hW => ?_)
  · (try simp only [headSpec]); omega
  · (try simp only [headSpec]); omega
  obtain ⟨er, rfl⟩ := hp
  subst er
  refine g_topi (y := nI (fb_ct cov 320)) (by rw [ct_320 hbs.2.2.2.2.1.2 hbs.2.2.2.2.2]) ?_
  refine lv_istore_n (lv' := [(1, .int (nI (fb_ct cov 320))), (0, .ref x)]) hx hb dX1_coversMore_7 rfl hl (by decide) rfl (fun ls hl => ?_)
  refine lv_aload_n hx hb dX1_coversMore_8 rfl (lv_at hl 1 rfl) ?_
  refine g_get (ci := 0) (v := .ref (rf 10)) (C := RX1) (T := TX1) (N := 11) hx hb hts in_X1 hown hK hW hS.1.1 rfl 4 (by decide) q358 (fun _ h9 => h9) rfl dX1_coversMore_9 ?_
  refine lv_aload_n hx hb dX1_coversMore_12 rfl (lv_at hl 1 rfl) ?_
  refine g_get (ci := 0) (v := .ref (rf 9)) (C := RX1) (T := TX1) (N := 11) hx hb hts in_X1 hown hK hW hS.1.1 rfl 3 (by decide) q357 (fun _ h9 => h9) rfl dX1_coversMore_13 ?_
  refine g_getN (ci := 1) (v := .ref eb) (C := RX2) (T := TX2) (N := 7) hx hb hts in_X2 hown hK hW hm0 rfl 1 (by decide) (nf_q191 hE) (fun _ h9 => h9) rfl dX1_coversMore_16 ?_
  refine g_callv (va_runV (As := [.ref eb]) (rest := []) ⟨hx, hb, hml, hown, hts⟩ (mtJ3_or l D w H.size (rf 10) wa n9 (cp 10) cov hbs eb wb _ _ _ hMa.2.2 (fun z => by rw [z] at c1; omega) (fun z => by rw [z] at c2; omega)) (cwV 1 hts (lw_V q1261 q1262 q1263 q39 q1264) rfl rfl rfl (by decide +kernel) ⟨Nat.le_of_ble_eq_true rfl, Nat.le_of_ble_eq_true rfl⟩) (g_preV hW hK hE hbs.1 rfl) rfl rfl hl.1 rfl (lv_room (Nat.le_of_ble_eq_true rfl)) dX1_coversMore_19 ⟨?_, ?_⟩) hW (fun u1 H locs hp hW => ?_)
  · (try simp only [headSpec]); omega
  · (try simp only [headSpec]); omega
  obtain ⟨wb4, hbs4, hwb4, hx4⟩ := hp
  have hS2 := hcl u1 wb4 _ _ _ hbs4 hwb4 hx4
  have hx5 : g_ex (fun q => lab q = 10) w u1 := hx4.mono (fun z _ hz => by rcases hz with hz | hz <;> rw [hz] <;> assumption)
  refine lv_aload_n hx hb dX1_coversMore_22 rfl (lv_at hl 1 rfl) ?_
  refine g_get (ci := 0) (v := .ref (rf 10)) (C := RX1) (T := TX1) (N := 11) hx hb hts in_X1 hown hK hW hS2.1.1 rfl 4 (by decide) q358 (fun _ h9 => h9) rfl dX1_coversMore_23 ?_
  refine g_calli (va_runV (As := []) (rest := []) ⟨hx, hb, hml, hown, hts⟩ (mtJ3_cardinality l D u1 H.size (rf 10) wb4 _ _ _ hbs4) (cwV 0 hts (lw_V q423 q424 q425 q39 q426) rfl rfl rfl (by decide +kernel) ⟨Nat.le_of_ble_eq_true rfl, Nat.le_of_ble_eq_true rfl⟩) (g_preV hW hK hE hbs4.1 rfl) rfl rfl hl.1 rfl (lv_room (Nat.le_of_ble_eq_true rfl)) dX1_coversMore_26 ⟨?_, ?_⟩) hW (fun r_ u_ H locs hp hW => ?_)
  · (try simp only [headSpec]); omega
  · (try simp only [headSpec]); omega
  obtain ⟨er, rfl⟩ := hp
  subst er
  refine g_topi (y := nI (fb_ct (cvO cov es) 320)) (by rw [ct_320 hbs4.2.2.2.2.1.2 hbs4.2.2.2.2.2]; rfl) ?_
  refine lv_iload_n hx hb dX1_coversMore_29 rfl (lv_at hl 0 rfl) ?_
  have b1 := fb_ct_le cov 320
  have b2 := fb_ct_le (cvO cov es) 320
  refine g_icmp_le (x := fb_ct (cvO cov es) 320) (y := fb_ct cov 320) (tgt := 37) hx hb (by omega) (by omega) dX1_coversMore_30 (by decide) (fun hc => ?_) (fun hc => ?_)
  · refine lv_iconst (v := 0) hx hb dX1_coversMore_37 (by decide) ?_
    exact g_zret (v := 0) hx hb hr hlocks (by rfl) hW (⟨by rw [cvM, decide_eq_false (by omega)]; rfl, _, hS2, lb_in, hx5⟩) (by omega) (by omega) dX1_coversMore_38
  · refine lv_iconst (v := 1) hx hb dX1_coversMore_33 (by decide) ?_
    refine lv_goto (tgt := 38) hx hb dX1_coversMore_34 (by decide) ?_
    exact g_zret (v := 1) hx hb hr hlocks (by rfl) hW (⟨by rw [cvM, decide_eq_true (by omega)]; rfl, _, hS2, lb_in, hx5⟩) (by omega) (by omega) dX1_coversMore_38
