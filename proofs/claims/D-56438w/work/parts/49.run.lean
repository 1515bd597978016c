/-! ShrinkYard$Machine.run, isFailing; mRun: what a run does *
-/
set_option maxRecDepth 100000
abbrev mI0 : mI := (8, 0, 0, 0)
/-- a run from the address ad on: how it ends (0 passed, 1 failed, 2 hung), the value of the last instruction, the steps, the edges -/
def mRun (P : List mI) (xs : List Nat) : Nat → Nat → (Nat → Int32) → Nat → Nat → Nat × Option Int32 × Nat × List Nat
  | 0, _, _, _, st => (2, none, st, [])
  | k + 1, ad, g, rd, st =>
    if ad < P.length then
      match mNext (P.getD ad mI0) (mRegs (P.getD ad mI0) xs rd g) ad with
      | none => (if (P.getD ad mI0).1 = 7 then 1 else 0, some (P.getD ad mI0).2.2.1, st + 1, [])
      | some nx =>
        if nx < P.length ∧ st + 1 = 64 then (2, none, st + 1, [])
        else ((mRun P xs k nx (mRegs (P.getD ad mI0) xs rd g) (mRd (P.getD ad mI0) rd) (st + 1)).1, (mRun P xs k nx (mRegs (P.getD ad mI0) xs rd g) (mRd (P.getD ad mI0) rd) (st + 1)).2.1, (mRun P xs k nx (mRegs (P.getD ad mI0) xs rd g) (mRd (P.getD ad mI0) rd) (st + 1)).2.2.1, (17 * ad + min nx P.length) :: (mRun P xs k nx (mRegs (P.getD ad mI0) xs rd g) (mRd (P.getD ad mI0) rd) (st + 1)).2.2.2)
    else (0, none, st, [])
theorem mOut_ex : ∃ f : List mI → List Nat → Nat × Option Int32 × Nat × List Nat, ∀ P xs, f P xs = mRun P xs 65 0 (fun _ => 0) 0 0 := ⟨fun P xs => mRun P xs 65 0 (fun _ => 0) 0 0, fun _ _ => rfl⟩
/-- a run from the start (by choice, so that nothing unfolds it) -/
noncomputable def mOut : List mI → List Nat → Nat × Option Int32 × Nat × List Nat := Classical.choose mOut_ex
theorem mOut_eq (P : List mI) (xs : List Nat) : mOut P xs = mRun P xs 65 0 (fun _ => 0) 0 0 := Classical.choose_spec mOut_ex P xs
/-- a BitSet behind the setting of es, one after another -/
def bsE (E : Nat → Bool) : List Nat → Nat → Bool
  | [] => E
  | x :: es => bsE (fun z => z == x || E z) es
def bsN (n : Nat) : List Nat → Nat
  | [] => n
  | x :: es => bsN (max n (x / 64 + 1)) es
def bsC (cap : Nat) : List Nat → Nat
  | [] => cap
  | x :: es => bsC (g_bn (x / 64 + 1) cap) es
theorem g_bn_ge (q cap : Nat) : cap ≤ g_bn q cap := by unfold g_bn; split <;> omega
theorem g_bc_le (q cap : Nat) : g_bc q cap ≤ g_bn q cap - cap := by unfold g_bn g_bc; split <;> omega
theorem g_bs_le (q cap : Nat) (h : 0 < cap) : g_bs q cap ≤ 2 * (g_bn q cap - cap) := by unfold g_bn g_bs; split <;> omega
theorem bsC_ge : ∀ (es : List Nat) (cap : Nat), cap ≤ bsC cap es
  | [], _ => Nat.le_refl _
  | x :: es, cap => Nat.le_trans (g_bn_ge (x / 64 + 1) cap) (bsC_ge es _)
theorem m_in : ∀ a, a < 64 → ∀ n, n < 17 → (((0 : Int32) ≤ nI a ∧ nI a ≤ nI n - 1) ↔ a < n) := by decide +kernel
theorem m_in1 : ∀ n, n < 17 → ¬ ((0 : Int32) ≤ -1 ∧ (-1 : Int32) ≤ nI n - 1) := by decide +kernel
theorem m_nx {i : mI} {g : Nat → Int32} {ad nx : Nat} (hi : mOk i) (ha : ad < 16) (h : mNext i g ad = some nx) : nx < 32 := by
  unfold mNext at h
  have h2 := hi.2.2.1
  split at h
  · cases h; split <;> omega
  · split at h
    · cases h; split <;> omega
    · split at h
      · cases h; omega
      · split at h
        · cases h
        · cases h; omega
theorem m_rd (i : mI) (rd : Nat) : mRd i rd ≤ rd + 1 := by unfold mRd; split <;> omega
theorem g_BS.put {D : va_G} {w : g_H} {b wa n cap a ci : Nat} {E : Nat → Bool} {fs : List Value} {e : va_E} (h : g_BS D w b wa E n cap) (ha : g_at w a (.inr (ci, fs))) (hc : ci ≠ 14 := by decide) : g_BS D (g_put w a e) b wa E n cap := by
  obtain ⟨h1, ⟨f, h2, h3⟩, h4⟩ := h
  exact ⟨h1.put (g_neO h1 ha hc.symm), ⟨f, h2.put (g_neAO h2 ha), h3⟩, h4⟩
set_option maxHeartbeats 4000000 in
set_option maxRecDepth 100000 in
/-- ShrinkYard.isIn -/
theorem mtX1_isIn (l : Launch) (D : va_G) (w : g_H) (sz : Nat) (n lo hi : Int32) : Met l yX1_isIn (ws_ yX1_isIn cX1_isIn 3 (some .boolean)) ({ frames := 1, cells := 0, slots := 0, locals := 12 }) (g_Pc D [.int (n), .int (lo), .int (hi)] w sz) (g_Qi D w sz (fun r u => r = (if lo ≤ n ∧ n ≤ hi then 1 else 0) ∧ w = u)) (0) (0) (g_A w sz) := by
  refine Met.ofW (cc := cX1_isIn) (maxL := 3) (ret := (some .boolean)) (by decide) rfl ?_
  intro p e s m args below meth c s₁ B hml hv
  obtain ⟨rfl, hI⟩ := hv
  have hx := B.exec
  have hb := B.bytes
  have hr := B.returns
  have hts := atoms_spec (ws := ws_ yX1_isIn cX1_isIn 3 (some .boolean)) B.pre
  have hts : ∀ w ∈ lw_all, w.before _ s = true := fun w h => hts w (List.mem_cons_of_mem _ h)
  have hown : s.vm.findClass RX1 = some m.cls := findClass_of_methodNamed B.named
  have hlocks := B.notSynchronized
  have hsz := hI.1
  subst hsz
  have hW := g_W.start hI
  have hK := g_K hI
  have hE := g_E hI
  have hl := lv_entry ([.int (n), .int (lo), .int (hi)]) (n := 3) (by exact Nat.le_of_ble_eq_true rfl)
  rw [lg_entry_eq]
  generalize (lg_sl ([.int (n), .int (lo), .int (hi)]) ++ List.replicate (3 - (lg_sl ([.int (n), .int (lo), .int (hi)])).length) Slot.unset).toArray = ls at hl ⊢
  have hl : lv_has ls 3 [(0, .int (n)), (1, .int (lo)), (2, .int (hi))] := hl
  refine lv_iload_n hx hb dX1_isIn_0 rfl (lv_at hl 1 rfl) ?_
  refine lv_iload_n hx hb dX1_isIn_1 rfl (lv_at hl 0 rfl) ?_
  refine lv_icmp_gt (tgt := 14) hx hb dX1_isIn_2 (by decide) (fun hc => ?_) (fun hc => ?_)
  · refine lv_iconst (v := 0) hx hb dX1_isIn_14 (by decide) ?_
    exact g_zret (v := 0) hx hb hr hlocks (by rfl) hW (⟨by rw [if_neg (fun z => absurd hc (Int32.not_lt.mpr z.1))], rfl⟩) (by omega) (by omega) dX1_isIn_15
  · refine lv_iload_n hx hb dX1_isIn_5 rfl (lv_at hl 0 rfl) ?_
    refine lv_iload_n hx hb dX1_isIn_6 rfl (lv_at hl 2 rfl) ?_
    refine lv_icmp_gt (tgt := 14) hx hb dX1_isIn_7 (by decide) (fun hd => ?_) (fun hd => ?_)
    · refine lv_iconst (v := 0) hx hb dX1_isIn_14 (by decide) ?_
      exact g_zret (v := 0) hx hb hr hlocks (by rfl) hW (⟨by rw [if_neg (fun z => absurd hd (Int32.not_lt.mpr z.2))], rfl⟩) (by omega) (by omega) dX1_isIn_15
    · refine lv_iconst (v := 1) hx hb dX1_isIn_10 (by decide) ?_
      refine lv_goto (tgt := 15) hx hb dX1_isIn_11 (by decide) ?_
      exact g_zret (v := 1) hx hb hr hlocks (by rfl) hW (⟨by rw [if_pos ⟨Int32.not_lt.mp hc, Int32.not_lt.mp hd⟩], rfl⟩) (by omega) (by omega) dX1_isIn_15
set_option maxHeartbeats 4000000 in
set_option maxRecDepth 100000 in
/-- Machine.run: its loop -/
theorem lpX2_run {p : Program} {l : Launch} {e : Env} {R : Room} {s : State} {m : MethodId} {args : Array Value} {below : List Frame} {meth : Method} {c : Code} {Q : State → Prop} {D : va_G} {A : Nat → Prop} (hx : p.tables.exec = Jvm.exec) (hb : c.code = cX2_run) (hts : ∀ w ∈ lw_all, w.before args s = true) (hown : s.vm.findClass RX2 = some m.cls) (hK : va_K D gCl (gT D) s) (hE : g_Env D A s) (w : g_H) (m9 ra eb wb0 x d da pg par pcap : Nat) (cd : Int32) (x1 x2 x3 x4 x5 x6 x7 x8 x9 x10 : Value) (ps : List Nat) (P : List mI) (xs : List Nat) (hx0 : g_at w x (.inr (0, [.ref pg, x1, x2, x3, x4, x5, x6, x7, x8, x9, x10]))) (hal : g_AL D w pg par ps pcap) (hpl : ps.length = P.length) (hP16 : P.length ≤ 16) (hins : ∀ j, j < P.length → g_Ins D w (ps.getD j 0) (P.getD j mI0)) (hd : g_Dig D w d da xs) (hpgM : ¬ (fun q => q = m9 ∨ q = ra ∨ q = eb ∨ q = wb0) pg) (hparM : 0 < pcap → ¬ (fun q => q = m9 ∨ q = ra ∨ q = eb ∨ q = wb0) par) (hxM : ¬ (fun q => q = m9 ∨ q = ra ∨ q = eb ∨ q = wb0) x) (hdM : ¬ (fun q => q = m9 ∨ q = ra ∨ q = eb ∨ q = wb0) d) (hdaM : ¬ (fun q => q = m9 ∨ q = ra ∨ q = eb ∨ q = wb0) da) (hinsM : ∀ j, j < P.length → ¬ (fun q => q = m9 ∨ q = ra ∨ q = eb ∨ q = wb0) (ps.getD j 0)) (hraw : ra ∈ w.1) (vdF sF nF capF CF SF : Nat) (coF : Option Int32) (EF : Nat → Bool) (hRf : 6 ≤ R.frames) (hRl : 168 ≤ R.locals) (hRc : CF ≤ R.cells) (hRs : SF ≤ R.slots) (hml : c.maxLocals = 4)
    (kk : ∀ (rdF : Nat) (gF : Nat → Int32) (wb : Nat) (w1 : g_H) (cells : Nat) (slots : Nat) (H : Heap) (locs : List Loc) (ls : Array Slot), cells ≤ CF → slots ≤ SF → g_ex (fun q => q = m9 ∨ q = ra ∨ q = eb ∨ q = wb0) w w1 → g_at w1 m9 (.inr (1, [.ref ra, .ref eb, (.ref (D.2 1003 vdF)), .int ((coF.getD cd)), .int (nI sF), .int (nI rdF), .ref x])) → g_at w1 ra (.inl (D.1 100, 4, .inl gF)) → g_BS D w1 eb wb EF nF capF → (wb = wb0 ∨ wb ∉ w.1) → g_W D A s.heap H locs w1 → lv_has ls 4 [(0, .ref m9)] → W p l e R s m args below meth c H locs cells slots Q (F0 m 198 ls [])) :
    ∀ (k : Nat) (ad : Nat) (g : Nat → Int32) (rd : Nat) (st : Nat) (E : Nat → Bool) (n : Nat) (cap : Nat) (wb : Nat) (w1 : g_H) (cells : Nat) (slots : Nat) (H : Heap) (locs : List Loc) (ls : Array Slot), st + k = 65 → st ≤ 64 → ad < 64 → rd ≤ st → (st = 64 → P.length ≤ ad) → (mRun P xs k ad g rd st).1 = vdF → (mRun P xs k ad g rd st).2.1 = coF → (mRun P xs k ad g rd st).2.2.1 = sF → bsE E (mRun P xs k ad g rd st).2.2.2 = EF → bsN n (mRun P xs k ad g rd st).2.2.2 = nF → bsC cap (mRun P xs k ad g rd st).2.2.2 = capF → cells + (capF - cap) ≤ CF → slots + 2 * (capF - cap) ≤ SF → g_ex (fun q => q = m9 ∨ q = ra ∨ q = eb ∨ q = wb0) w w1 → g_at w1 m9 (.inr (1, [.ref ra, .ref eb, (.ref (D.2 1003 0)), .int (cd), .int (nI st), .int (nI rd), .ref x])) → g_at w1 ra (.inl (D.1 100, 4, .inl g)) → g_BS D w1 eb wb E n cap → (wb = wb0 ∨ wb ∉ w.1) → g_W D A s.heap H locs w1 → lv_has ls 4 [(2, .int (nI ad)), (0, .ref m9), (1, .ref d)] → W p l e R s m args below meth c H locs cells slots Q (F0 m 46 ls []) := by
  intro k
  induction k with
  | zero => intro ad g rd st E n cap wb w1 cells slots H locs ls hfuel hst had hrd hend hv1 hv2 hv3 hv4 hv5 hv6 hcl hsl hex hm hra hbs hwb hW hl; omega
  | succ k ih =>
    intro ad g rd st E n cap wb w1 cells slots H locs ls hfuel hst had hrd hend hv1 hv2 hv3 hv4 hv5 hv6 hcl hsl hex hm hra hbs hwb hW hl
    have hal1 : g_AL D w1 pg par ps pcap := hal.ex hex hpgM hparM
    have hx1 : g_at w1 x (.inr (0, [.ref pg, x1, x2, x3, x4, x5, x6, x7, x8, x9, x10])) := hex.at hx0 hxM
    have hd1 : g_Dig D w1 d da xs := hd.ex hex hdM hdaM
    obtain ⟨mo1, hpg1, -⟩ := id hal1
    refine lv_iload_n hx hb dX2_run_46 rfl (lv_at hl 0 rfl) ?_
    refine lv_iconst (v := 0) hx hb dX2_run_47 (by decide) ?_
    refine lv_aload_n hx hb dX2_run_48 rfl (lv_at hl 1 rfl) ?_
    refine g_get (ci := 1) (v := .ref x) (C := RX2) (T := TX2) (N := 7) hx hb hts in_X2 hown hK hW hm rfl 6 (by decide) q199 (fun _ h9 => h9) rfl dX2_run_49 ?_
    refine g_getN (ci := 0) (v := .ref pg) (C := RX1) (T := TX1) (N := 11) hx hb hts in_X1 hown hK hW hx1 rfl 0 (by decide) (nf_q353 hE) (fun _ h9 => h9) rfl dX2_run_52 ?_
    refine g_callFi (va_runF (cC := D.1 11) (hK.1 11 _ rfl).2 (As := []) (rest := [.int (0), .int (nI ad)]) ⟨hx, hb, hml, hown, hts⟩ (mtJ2_size l D w1 H.size pg par pcap ps hal1) (va_cwF 0 hts (lw_app (lw_in _ [1194, 441, 443, 37] (by decide +kernel) (by decide +kernel)) (lw_meth q445)) rfl rfl rfl (fw_24 hE) (by decide +kernel) ⟨Nat.le_trans (Nat.le_of_ble_eq_true rfl) hRf, Nat.le_trans (Nat.le_of_ble_eq_true rfl) hRl⟩) (g_preV hW hK hE hpg1 rfl) rfl rfl hl.1 rfl (lv_room (Nat.le_of_ble_eq_true rfl)) dX2_run_55 ⟨?_, ?_⟩) hW (fun r_ u_ H locs hp hW => ?_)
    · omega
    · omega
    obtain ⟨er, rfl⟩ := hp
    subst er
    refine lv_iconst (v := 1) hx hb dX2_run_60 (by decide) ?_
    refine lv_isub hx hb dX2_run_61 ?_
    refine g_calli (va_runSN (As := [.int (nI ad), .int (0), .int ((nI ps.length) - (1))]) (rest := []) ⟨hx, hb, hml, hown, hts⟩ (mtX1_isIn l D w1 H.size (nI ad) 0 (nI ps.length - 1)) ⟨(va_cnB 3 hts (lw_meth q564) rfl rfl rfl (nm_q1195 hE) (hts _ q34) (by decide +kernel) ⟨Nat.le_trans (Nat.le_of_ble_eq_true rfl) hRf, Nat.le_trans (Nat.le_of_ble_eq_true rfl) hRl⟩), hts _ q563, trivial⟩ (g_preS hW hK hE) rfl rfl hl.1 rfl (lv_room (Nat.le_of_ble_eq_true rfl)) dX2_run_62 ⟨?_, ?_⟩) hW (fun r_ u_ H locs hp hW => ?_)
    · omega
    · omega
    obtain ⟨er, rfl⟩ := hp
    subst er
    have hin9 := m_in ad had ps.length (by omega)
    by_cases hlt : ad < P.length
    · rw [if_pos (hin9.mpr (by omega))]
      refine lv_if_eq (tgt := 198) hx hb dX2_run_65 (by decide) (fun hz => absurd hz (by decide)) (fun _ => ?_)
      obtain ⟨⟨op, rg, vl, tg⟩, hi9⟩ : ∃ i, i = P.getD ad mI0 := ⟨_, rfl⟩
      have hin : g_Ins D w1 (ps.getD ad 0) (op, rg, vl, tg) := by rw [hi9]; exact ⟨hex.at (hins ad hlt).1 (hinsM ad hlt), (hins ad hlt).2⟩
      have hst2 : st < 64 := by omega
      have hun : mRun P xs (k + 1) ad g rd st = _ := if_pos hlt
      rw [← hi9] at hun
      refine lv_aload_n hx hb dX2_run_68 rfl (lv_at hl 1 rfl) ?_
      refine lv_aload_n hx hb dX2_run_69 rfl (lv_at hl 1 rfl) ?_
      refine g_get (ci := 1) (v := .ref x) (C := RX2) (T := TX2) (N := 7) hx hb hts in_X2 hown hK hW hm rfl 6 (by decide) q199 (fun _ h9 => h9) rfl dX2_run_70 ?_
      refine g_getN (ci := 0) (v := .ref pg) (C := RX1) (T := TX1) (N := 11) hx hb hts in_X1 hown hK hW hx1 rfl 0 (by decide) (nf_q353 hE) (fun _ h9 => h9) rfl dX2_run_73 ?_
      refine lv_iload_n hx hb dX2_run_76 rfl (lv_at hl 0 rfl) ?_
      refine g_callFq (va_runF (cC := D.1 11) (hK.1 11 _ rfl).2 (As := [.int (nI ad)]) (rest := [.ref m9]) ⟨hx, hb, hml, hown, hts⟩ (mtJ2_get l D w1 H.size pg par pcap ps hal1 ad (by omega)) (va_cwF 1 hts (lw_app (lw_in _ [1197, 791, 793, 37] (by decide +kernel) (by decide +kernel)) (lw_meth q795)) rfl rfl rfl (fw_26 hE) (by decide +kernel) ⟨Nat.le_trans (Nat.le_of_ble_eq_true rfl) hRf, Nat.le_trans (Nat.le_of_ble_eq_true rfl) hRl⟩) (g_preV hW hK hE hpg1 rfl) rfl rfl hl.1 rfl (lv_room (Nat.le_of_ble_eq_true rfl)) dX2_run_77 ⟨?_, ?_⟩) hW (fun r_ u_ H locs hp hW => ?_)
      · omega
      · omega
      obtain ⟨er, rfl⟩ := hp
      subst er
      refine va_castS hx hb hown (hts _ q1198) (hK.1 7 _ rfl).2 (g_Ob.rd (D := D) (w := w1) (ci := 7) (Or.inl ⟨_, hin.1⟩) rfl hK hE hW) dX2_run_82 ?_
      refine lv_iload_n hx hb dX2_run_85 rfl (lv_at hl 0 rfl) ?_
      refine lv_aload_n hx hb dX2_run_86 rfl (lv_at hl 2 rfl) ?_
      refine g_calli (va_runV (As := [.ref (ps.getD ad 0), .int (nI ad), .ref d]) (rest := []) ⟨hx, hb, hml, hown, hts⟩ (mtX2_execute l D w1 H.size m9 (ps.getD ad 0) d da ra eb x rd st ad op rg tg vl (.ref (D.2 1003 0)) cd g xs hm hra hin.1 hin.2 hd1 (by omega) (by omega)) (cwV 3 hts (lw_V q1199 q1201 qs9 q38 q1202) rfl rfl rfl (by decide +kernel) ⟨Nat.le_trans (Nat.le_of_ble_eq_true rfl) hRf, Nat.le_trans (Nat.le_of_ble_eq_true rfl) hRl⟩) (g_preV hW hK hE hm rfl) rfl rfl hl.1 rfl (lv_room (Nat.le_of_ble_eq_true rfl)) dX2_run_87 ⟨?_, ?_⟩) hW (fun r_ u1 H locs hp hW => ?_)
      · omega
      · omega
      obtain ⟨er, hm2, hra2, hex2⟩ := hp
      subst er
      have hx2M : g_ex (fun q => q = m9 ∨ q = ra ∨ q = eb ∨ q = wb0) w u1 := hex.trM hex2 (fun z _ hz => hz.elim Or.inl (fun z => Or.inr (Or.inl z)))
      have hbs2 : g_BS D u1 eb wb E n cap := hbs.ex hex2 (fun z => z.elim (fun z => g_neO hbs.1 hm (by decide) z) (fun z => g_neOA hbs.1 hra z)) (fun z => z.elim (fun z => by obtain ⟨f9, hf9, -⟩ := hbs.2.1; exact g_neAO hf9 hm z) (fun z => by obtain ⟨f9, hf9, -⟩ := hbs.2.1; exact g_ne hf9 hra (fun q => g_neA hK (i := 3) (j := 0) rfl rfl (fun z => by cases z) (Prod.mk.inj (Sum.inl.inj q)).1) z))
      obtain ⟨g2, hg2⟩ : ∃ z__, z__ = mRegs (op, rg, vl, tg) xs rd g := ⟨_, rfl⟩
      rw [← hg2] at hra2 hun ⊢
      have hrd2 := m_rd (op, rg, vl, tg) rd
      rcases hnx : mNext (op, rg, vl, tg) g2 ad with _ | nx
      · rw [hnx] at hun
        simp only [mRes]
        rw [hun] at hv1 hv2 hv3 hv4 hv5 hv6
        refine lv_istore_n (lv' := [(3, .int ((-1))), (2, .int (nI ad)), (0, .ref m9), (1, .ref d)]) hx hb dX2_run_90 rfl hl (by decide) rfl (fun ls hl => ?_)
        refine lv_aload_n hx hb dX2_run_91 rfl (lv_at hl 2 rfl) ?_
        refine lv_dup hx hb dX2_run_92 rfl ?_
        refine g_get (ci := 1) (v := .int (nI st)) (C := RX2) (T := TX2) (N := 7) hx hb hts in_X2 hown hK hW hm2 rfl 4 (by decide) q196 (fun _ h9 => h9) rfl dX2_run_93 ?_
        refine lv_iconst (v := 1) hx hb dX2_run_96 (by decide) ?_
        refine lv_iadd hx hb dX2_run_97 ?_
        refine g_topi (y := nI (st + 1)) (nI_1 st) ?_
        refine g_putf (ci := 1) (v := .int (nI (st + 1))) (ty := .int) (C := RX2) (T := TX2) (N := 7) hx hb hts in_X2 tyX2 tyX2_ok nmX2 hown hK hW hm2 rfl 4 (by decide) q196 (fun _ h9 => h9) rfl (by decide +kernel) rfl rfl (Nat.le_of_ble_eq_true rfl) dX2_run_98 (fun H locs hW => ?_)
        obtain ⟨w_1, ew_1⟩ : ∃ z__, z__ = g_put u1 m9 (.inr (1, [.ref ra, .ref eb, (.ref (D.2 1003 0)), .int (cd), .int (nI (st + 1)), .int (nI (mRd (op, rg, vl, tg) rd)), .ref x])) := ⟨_, rfl⟩
        have hW := g_W.ren hW ew_1 rfl
        have h_2 : g_at w_1 m9 (.inr (1, [.ref ra, .ref eb, (.ref (D.2 1003 0)), .int (cd), .int (nI (st + 1)), .int (nI (mRd (op, rg, vl, tg) rd)), .ref x])) := by rw [ew_1]; exact g_at.put_self hm2.1
        have h_3 : g_at w_1 ra (.inl (D.1 100, 4, .inl (g2))) := by rw [ew_1]; exact hra2.put (g_neAO hra2 hm2)
        have x_4 : g_ex (fun q => q = m9 ∨ q = ra ∨ q = eb ∨ q = wb0) w w_1 := by rw [ew_1]; exact hx2M.put (fun hz9 => (Or.inl rfl))
        refine lv_iload_n hx hb dX2_run_101 rfl (lv_at hl 0 rfl) ?_
        refine lv_if_ge (tgt := 128) hx hb dX2_run_102 (by decide) (fun hz => absurd hz (by decide)) (fun _ => ?_)
        have hal2 : g_AL D w_1 pg par ps pcap := hal.ex x_4 hpgM hparM
        have hx2 : g_at w_1 x (.inr (0, [.ref pg, x1, x2, x3, x4, x5, x6, x7, x8, x9, x10])) := x_4.at hx0 hxM
        have hd2 : g_Dig D w_1 d da xs := hd.ex x_4 hdM hdaM
        obtain ⟨mo2, hpg2, -⟩ := id hal2
        have hin : g_Ins D w_1 (ps.getD ad 0) (op, rg, vl, tg) := by rw [hi9]; exact ⟨x_4.at (hins ad hlt).1 (hinsM ad hlt), (hins ad hlt).2⟩
        refine lv_aload_n hx hb dX2_run_105 rfl (lv_at hl 2 rfl) ?_
        refine lv_aload_n hx hb dX2_run_106 rfl (lv_at hl 2 rfl) ?_
        refine g_get (ci := 1) (v := .ref x) (C := RX2) (T := TX2) (N := 7) hx hb hts in_X2 hown hK hW h_2 rfl 6 (by decide) q199 (fun _ h9 => h9) rfl dX2_run_107 ?_
        refine g_getN (ci := 0) (v := .ref pg) (C := RX1) (T := TX1) (N := 11) hx hb hts in_X1 hown hK hW hx2 rfl 0 (by decide) (nf_q353 hE) (fun _ h9 => h9) rfl dX2_run_110 ?_
        refine lv_iload_n hx hb dX2_run_113 rfl (lv_at hl 1 rfl) ?_
        refine g_callFq (va_runF (cC := D.1 11) (hK.1 11 _ rfl).2 (As := [.int (nI ad)]) (rest := [.ref m9]) ⟨hx, hb, hml, hown, hts⟩ (mtJ2_get l D w_1 H.size pg par pcap ps hal2 ad (by omega)) (va_cwF 1 hts (lw_app (lw_in _ [1197, 791, 793, 37] (by decide +kernel) (by decide +kernel)) (lw_meth q795)) rfl rfl rfl (fw_26 hE) (by decide +kernel) ⟨Nat.le_trans (Nat.le_of_ble_eq_true rfl) hRf, Nat.le_trans (Nat.le_of_ble_eq_true rfl) hRl⟩) (g_preV hW hK hE hpg2 rfl) rfl rfl hl.1 rfl (lv_room (Nat.le_of_ble_eq_true rfl)) dX2_run_114 ⟨?_, ?_⟩) hW (fun r_ u_ H locs hp hW => ?_)
        · omega
        · omega
        obtain ⟨er, rfl⟩ := hp
        subst er
        refine va_castS hx hb hown (hts _ q1198) (hK.1 7 _ rfl).2 (g_Ob.rd (D := D) (w := w_1) (ci := 7) (Or.inl ⟨_, hin.1⟩) rfl hK hE hW) dX2_run_119 ?_
        have hbs3 : g_BS D w_1 eb wb E n cap := by rw [ew_1]; exact g_BS.put hbs2 hm2
        refine g_callv (va_runV (As := [.ref (ps.getD ad 0)]) (rest := []) ⟨hx, hb, hml, hown, hts⟩ (mtX2_end l D w_1 H.size m9 (ps.getD ad 0) ra eb x (mRd (op, rg, vl, tg) rd) (st + 1) op rg tg vl (.ref (D.2 1003 0)) cd h_2 hin.1 hin.2.1) (cwV 1 hts (lw_V q1214 q1216 qs11 q38 q1217) rfl rfl rfl (by decide +kernel) ⟨Nat.le_trans (Nat.le_of_ble_eq_true rfl) hRf, Nat.le_trans (Nat.le_of_ble_eq_true rfl) hRl⟩) (g_preV hW hK hE h_2 rfl) rfl rfl hl.1 rfl (lv_room (Nat.le_of_ble_eq_true rfl)) dX2_run_122 ⟨?_, ?_⟩) hW (fun u2 H locs hp hW => ?_)
        · omega
        · omega
        obtain ⟨hm4, hex4⟩ := hp
        have hra4 := hex4.at h_3 (fun z => g_neAO h_3 h_2 z)
        have hbs4 : g_BS D u2 eb wb E n cap := hbs3.ex hex4 (fun z => g_neO hbs3.1 h_2 (by decide) z) (fun z => by obtain ⟨f9, hf9, -⟩ := hbs3.2.1; exact g_neAO hf9 h_2 z)
        have hx4 : g_ex (fun q => q = m9 ∨ q = ra ∨ q = eb ∨ q = wb0) w u2 := x_4.trM hex4 (fun z _ hz => Or.inl hz)
        simp only [bsE, bsN, bsC] at hv4 hv5 hv6
        have hal3 : g_AL D u2 pg par ps pcap := hal.ex hx4 hpgM hparM
        have hx3 : g_at u2 x (.inr (0, [.ref pg, x1, x2, x3, x4, x5, x6, x7, x8, x9, x10])) := hx4.at hx0 hxM
        have hd3 : g_Dig D u2 d da xs := hd.ex hx4 hdM hdaM
        obtain ⟨mo3, hpg3, -⟩ := id hal3
        refine lv_goto (tgt := 193) hx hb dX2_run_125 (by decide) ?_
        refine lv_iload_n hx hb dX2_run_193 rfl (lv_at hl 0 rfl) ?_
        refine lv_istore_n (lv' := [(2, .int ((-1))), (3, .int ((-1))), (0, .ref m9), (1, .ref d)]) hx hb dX2_run_194 rfl hl (by decide) rfl (fun ls hl => ?_)
        refine lv_goto (tgt := 46) hx hb dX2_run_195 (by decide) ?_
        refine lv_iload_n hx hb dX2_run_46 rfl (lv_at hl 0 rfl) ?_
        refine lv_iconst (v := 0) hx hb dX2_run_47 (by decide) ?_
        refine lv_aload_n hx hb dX2_run_48 rfl (lv_at hl 2 rfl) ?_
        refine g_get (ci := 1) (v := .ref x) (C := RX2) (T := TX2) (N := 7) hx hb hts in_X2 hown hK hW hm4 rfl 6 (by decide) q199 (fun _ h9 => h9) rfl dX2_run_49 ?_
        refine g_getN (ci := 0) (v := .ref pg) (C := RX1) (T := TX1) (N := 11) hx hb hts in_X1 hown hK hW hx3 rfl 0 (by decide) (nf_q353 hE) (fun _ h9 => h9) rfl dX2_run_52 ?_
        refine g_callFi (va_runF (cC := D.1 11) (hK.1 11 _ rfl).2 (As := []) (rest := [.int (0), .int ((-1))]) ⟨hx, hb, hml, hown, hts⟩ (mtJ2_size l D u2 H.size pg par pcap ps hal3) (va_cwF 0 hts (lw_app (lw_in _ [1194, 441, 443, 37] (by decide +kernel) (by decide +kernel)) (lw_meth q445)) rfl rfl rfl (fw_24 hE) (by decide +kernel) ⟨Nat.le_trans (Nat.le_of_ble_eq_true rfl) hRf, Nat.le_trans (Nat.le_of_ble_eq_true rfl) hRl⟩) (g_preV hW hK hE hpg3 rfl) rfl rfl hl.1 rfl (lv_room (Nat.le_of_ble_eq_true rfl)) dX2_run_55 ⟨?_, ?_⟩) hW (fun r_ u_ H locs hp hW => ?_)
        · omega
        · omega
        obtain ⟨er, rfl⟩ := hp
        subst er
        refine lv_iconst (v := 1) hx hb dX2_run_60 (by decide) ?_
        refine lv_isub hx hb dX2_run_61 ?_
        refine g_calli (va_runSN (As := [.int ((-1)), .int (0), .int ((nI ps.length) - (1))]) (rest := []) ⟨hx, hb, hml, hown, hts⟩ (mtX1_isIn l D u2 H.size (-1) 0 (nI ps.length - 1)) ⟨(va_cnB 3 hts (lw_meth q564) rfl rfl rfl (nm_q1195 hE) (hts _ q34) (by decide +kernel) ⟨Nat.le_trans (Nat.le_of_ble_eq_true rfl) hRf, Nat.le_trans (Nat.le_of_ble_eq_true rfl) hRl⟩), hts _ q563, trivial⟩ (g_preS hW hK hE) rfl rfl hl.1 rfl (lv_room (Nat.le_of_ble_eq_true rfl)) dX2_run_62 ⟨?_, ?_⟩) hW (fun r_ u_ H locs hp hW => ?_)
        · omega
        · omega
        obtain ⟨er, rfl⟩ := hp
        subst er
        rw [if_neg (m_in1 ps.length (by omega))]
        refine lv_if_eq (tgt := 198) hx hb dX2_run_65 (by decide) (fun hz0 => ?_) (fun hz0 => ?_)
        · exact kk (mRd (op, rg, vl, tg) rd) g2 wb u2 cells slots H locs ls (by omega) (by omega) hx4 (by rw [← hv1, ← hv2, ← hv3]; exact hm4) hra4 (by rw [← hv4, ← hv5, ← hv6]; exact hbs4) hwb hW (lv_sub hl [2] rfl)
        · exact absurd rfl hz0
      · rw [hnx] at hun
        simp only [mRes]
        have hnx32 : nx < 32 := m_nx hin.2 (by omega) hnx
        refine lv_istore_n (lv' := [(3, .int (nI nx)), (2, .int (nI ad)), (0, .ref m9), (1, .ref d)]) hx hb dX2_run_90 rfl hl (by decide) rfl (fun ls hl => ?_)
        refine lv_aload_n hx hb dX2_run_91 rfl (lv_at hl 2 rfl) ?_
        refine lv_dup hx hb dX2_run_92 rfl ?_
        refine g_get (ci := 1) (v := .int (nI st)) (C := RX2) (T := TX2) (N := 7) hx hb hts in_X2 hown hK hW hm2 rfl 4 (by decide) q196 (fun _ h9 => h9) rfl dX2_run_93 ?_
        refine lv_iconst (v := 1) hx hb dX2_run_96 (by decide) ?_
        refine lv_iadd hx hb dX2_run_97 ?_
        refine g_topi (y := nI (st + 1)) (nI_1 st) ?_
        refine g_putf (ci := 1) (v := .int (nI (st + 1))) (ty := .int) (C := RX2) (T := TX2) (N := 7) hx hb hts in_X2 tyX2 tyX2_ok nmX2 hown hK hW hm2 rfl 4 (by decide) q196 (fun _ h9 => h9) rfl (by decide +kernel) rfl rfl (Nat.le_of_ble_eq_true rfl) dX2_run_98 (fun H locs hW => ?_)
        obtain ⟨w_5, ew_5⟩ : ∃ z__, z__ = g_put u1 m9 (.inr (1, [.ref ra, .ref eb, (.ref (D.2 1003 0)), .int (cd), .int (nI (st + 1)), .int (nI (mRd (op, rg, vl, tg) rd)), .ref x])) := ⟨_, rfl⟩
        have hW := g_W.ren hW ew_5 rfl
        have h_6 : g_at w_5 m9 (.inr (1, [.ref ra, .ref eb, (.ref (D.2 1003 0)), .int (cd), .int (nI (st + 1)), .int (nI (mRd (op, rg, vl, tg) rd)), .ref x])) := by rw [ew_5]; exact g_at.put_self hm2.1
        have h_7 : g_at w_5 ra (.inl (D.1 100, 4, .inl (g2))) := by rw [ew_5]; exact hra2.put (g_neAO hra2 hm2)
        have x_8 : g_ex (fun q => q = m9 ∨ q = ra ∨ q = eb ∨ q = wb0) w w_5 := by rw [ew_5]; exact hx2M.put (fun hz9 => (Or.inl rfl))
        refine lv_iload_n hx hb dX2_run_101 rfl (lv_at hl 0 rfl) ?_
        refine lv_if_ge (tgt := 128) hx hb dX2_run_102 (by decide) (fun _ => ?_) (fun hz => absurd (Int32.not_lt.mp (nI_pos (by omega))) hz)
        have hbs3 : g_BS D w_5 eb wb E n cap := by rw [ew_5]; exact g_BS.put hbs2 hm2
        have hal4 : g_AL D w_5 pg par ps pcap := hal.ex x_8 hpgM hparM
        have hx4 : g_at w_5 x (.inr (0, [.ref pg, x1, x2, x3, x4, x5, x6, x7, x8, x9, x10])) := x_8.at hx0 hxM
        have hd4 : g_Dig D w_5 d da xs := hd.ex x_8 hdM hdaM
        obtain ⟨mo4, hpg4, -⟩ := id hal4
        refine lv_iload_n hx hb dX2_run_128 rfl (lv_at hl 0 rfl) ?_
        refine lv_aload_n hx hb dX2_run_129 rfl (lv_at hl 2 rfl) ?_
        refine g_get (ci := 1) (v := .ref x) (C := RX2) (T := TX2) (N := 7) hx hb hts in_X2 hown hK hW h_6 rfl 6 (by decide) q199 (fun _ h9 => h9) rfl dX2_run_130 ?_
        refine g_getN (ci := 0) (v := .ref pg) (C := RX1) (T := TX1) (N := 11) hx hb hts in_X1 hown hK hW hx4 rfl 0 (by decide) (nf_q353 hE) (fun _ h9 => h9) rfl dX2_run_133 ?_
        refine g_callFi (va_runF (cC := D.1 11) (hK.1 11 _ rfl).2 (As := []) (rest := [.int (nI nx)]) ⟨hx, hb, hml, hown, hts⟩ (mtJ2_size l D w_5 H.size pg par pcap ps hal4) (va_cwF 0 hts (lw_app (lw_in _ [1194, 441, 443, 37] (by decide +kernel) (by decide +kernel)) (lw_meth q445)) rfl rfl rfl (fw_24 hE) (by decide +kernel) ⟨Nat.le_trans (Nat.le_of_ble_eq_true rfl) hRf, Nat.le_trans (Nat.le_of_ble_eq_true rfl) hRl⟩) (g_preV hW hK hE hpg4 rfl) rfl rfl hl.1 rfl (lv_room (Nat.le_of_ble_eq_true rfl)) dX2_run_136 ⟨?_, ?_⟩) hW (fun r_ u_ H locs hp hW => ?_)
        · omega
        · omega
        obtain ⟨er, rfl⟩ := hp
        subst er
        refine g_icmp_ge (x := nx) (y := ps.length) (tgt := 165) hx hb (by omega) (by omega) dX2_run_141 (by decide) (fun hge => ?_) (fun hge => ?_)
        · have hne : ¬ (nx < P.length ∧ st + 1 = 64) := by omega
          simp only [if_neg hne] at hun
          rw [hun] at hv1 hv2 hv3 hv4 hv5 hv6
          refine lv_aload_n hx hb dX2_run_165 rfl (lv_at hl 2 rfl) ?_
          refine g_get (ci := 1) (v := .ref eb) (C := RX2) (T := TX2) (N := 7) hx hb hts in_X2 hown hK hW h_6 rfl 1 (by decide) q190 (fun _ h9 => h9) rfl dX2_run_166 ?_
          refine lv_bipush (v := 17) hx hb dX2_run_169 (by decide) ?_
          refine lv_iload_n hx hb dX2_run_171 rfl (lv_at hl 1 rfl) ?_
          refine lv_imul hx hb dX2_run_172 ?_
          refine g_topi (y := nI (17 * ad)) ((Int32.ofNat_mul 17 ad).symm) ?_
          refine lv_iload_n hx hb dX2_run_173 rfl (lv_at hl 0 rfl) ?_
          refine lv_aload_n hx hb dX2_run_174 rfl (lv_at hl 2 rfl) ?_
          refine g_get (ci := 1) (v := .ref x) (C := RX2) (T := TX2) (N := 7) hx hb hts in_X2 hown hK hW h_6 rfl 6 (by decide) q199 (fun _ h9 => h9) rfl dX2_run_175 ?_
          refine g_getN (ci := 0) (v := .ref pg) (C := RX1) (T := TX1) (N := 11) hx hb hts in_X1 hown hK hW hx4 rfl 0 (by decide) (nf_q353 hE) (fun _ h9 => h9) rfl dX2_run_178 ?_
          refine g_callFi (va_runF (cC := D.1 11) (hK.1 11 _ rfl).2 (As := []) (rest := [.int (nI nx), .int (nI (17 * ad)), .ref eb]) ⟨hx, hb, hml, hown, hts⟩ (mtJ2_size l D w_5 H.size pg par pcap ps hal4) (va_cwF 0 hts (lw_app (lw_in _ [1194, 441, 443, 37] (by decide +kernel) (by decide +kernel)) (lw_meth q445)) rfl rfl rfl (fw_24 hE) (by decide +kernel) ⟨Nat.le_trans (Nat.le_of_ble_eq_true rfl) hRf, Nat.le_trans (Nat.le_of_ble_eq_true rfl) hRl⟩) (g_preV hW hK hE hpg4 rfl) rfl rfl hl.1 rfl (lv_room (Nat.le_of_ble_eq_true rfl)) dX2_run_181 ⟨?_, ?_⟩) hW (fun r_ u_ H locs hp hW => ?_)
          · omega
          · omega
          obtain ⟨er, rfl⟩ := hp
          subst er
          refine g_calli (va_runS (As := [.int (nI nx), .int (nI ps.length)]) (rest := [.int (nI (17 * ad)), .ref eb]) ⟨hx, hb, hml, hown, hts⟩ (mtJ7_min l D w_5 H.size nx ps.length (by omega) (by omega)) (va_cwS 2 hts (lw_S q1221 q315 q43 q316) rfl rfl rfl (by decide +kernel) ⟨Nat.le_trans (Nat.le_of_ble_eq_true rfl) hRf, Nat.le_trans (Nat.le_of_ble_eq_true rfl) hRl⟩) (g_preS hW hK hE) rfl rfl hl.1 rfl (lv_room (Nat.le_of_ble_eq_true rfl)) dX2_run_186 ⟨?_, ?_⟩) hW (fun r_ u_ H locs hp hW => ?_)
          · omega
          · omega
          obtain ⟨er, rfl⟩ := hp
          subst er
          refine lv_iadd hx hb dX2_run_189 ?_
          refine g_topi (y := nI (17 * ad + min nx P.length)) (by rw [nI_add, hpl]) ?_
          simp only [bsE, bsN, bsC] at hv4 hv5 hv6
          have hq0 := g_bn_ge ((17 * ad + min nx P.length) / 64 + 1) cap
          have hq1 := g_bc_le ((17 * ad + min nx P.length) / 64 + 1) cap
          have hq3 := g_bs_le ((17 * ad + min nx P.length) / 64 + 1) cap hbs3.2.2.2.1
          have hq2 : g_bn ((17 * ad + min nx P.length) / 64 + 1) cap ≤ capF := by rw [← hv6]; exact bsC_ge _ _
          refine g_callv (va_runV (As := [.int (nI (17 * ad + min nx P.length))]) (rest := []) ⟨hx, hb, hml, hown, hts⟩ (mtJ3_set l D w_5 H.size eb wb n cap E hbs3 (17 * ad + min nx P.length) (by omega)) (cwV 1 hts (lw_V q1222 q1223 q1224 q39 q1225) rfl rfl rfl (by decide +kernel) ⟨Nat.le_trans (Nat.le_of_ble_eq_true rfl) hRf, Nat.le_trans (Nat.le_of_ble_eq_true rfl) hRl⟩) (g_preV hW hK hE hbs3.1 rfl) rfl rfl hl.1 rfl (lv_room (Nat.le_of_ble_eq_true rfl)) dX2_run_190 ⟨?_, ?_⟩) hW (fun u2 H locs hp hW => ?_)
          · omega
          · omega
          obtain ⟨wb2, hbs4, hwb4, hex4⟩ := hp
          have hm4 := hex4.at h_6 (fun z => z.elim (fun z => g_neO h_6 hbs3.1 (by decide) z) (fun z => by obtain ⟨f9, hf9, -⟩ := hbs3.2.1; exact g_neOA h_6 hf9 z))
          have hra4 := hex4.at h_7 (fun z => z.elim (fun z => g_neAO h_7 hbs3.1 z) (fun z => by obtain ⟨f9, hf9, -⟩ := hbs3.2.1; exact g_ne h_7 hf9 (fun q => g_neA hK (i := 0) (j := 3) rfl rfl (fun z => by cases z) (Prod.mk.inj (Sum.inl.inj q)).1) z))
          have hx4 : g_ex (fun q => q = m9 ∨ q = ra ∨ q = eb ∨ q = wb0) w u2 := x_8.trM hex4 (fun z hz1 hz => hz.elim (fun z => Or.inr (Or.inr (Or.inl z))) (fun z => hwb.elim (fun q => Or.inr (Or.inr (Or.inr (z.trans q)))) (fun q => absurd (z ▸ hz1) q)))
          refine lv_iload_n hx hb dX2_run_193 rfl (lv_at hl 0 rfl) ?_
          refine lv_istore_n (lv' := [(2, .int (nI nx)), (3, .int (nI nx)), (0, .ref m9), (1, .ref d)]) hx hb dX2_run_194 rfl hl (by decide) rfl (fun ls hl => ?_)
          refine lv_goto (tgt := 46) hx hb dX2_run_195 (by decide) ?_
          exact ih nx g2 (mRd (op, rg, vl, tg) rd) (st + 1) _ _ _ wb2 u2 _ _ H locs ls (by omega) (by omega) (by omega) (by omega) (fun z => by omega) hv1 hv2 hv3 hv4 hv5 hv6 (by omega) (by omega) hx4 hm4 hra4 hbs4 (hwb4.elim (fun q => q ▸ hwb) (fun q => Or.inr (fun z => q (x_8.1 _ z)))) hW (lv_sub hl [0, 2, 3] rfl)
        · refine lv_aload_n hx hb dX2_run_144 rfl (lv_at hl 2 rfl) ?_
          refine g_get (ci := 1) (v := .int (nI (st + 1))) (C := RX2) (T := TX2) (N := 7) hx hb hts in_X2 hown hK hW h_6 rfl 4 (by decide) q196 (fun _ h9 => h9) rfl dX2_run_145 ?_
          refine lv_bipush (v := 64) hx hb dX2_run_148 (by decide) ?_
          refine lv_icmp_ne (tgt := 165) hx hb dX2_run_150 (by decide) (fun hs64 => ?_) (fun hs64 => ?_)
          · have hne : ¬ (nx < P.length ∧ st + 1 = 64) := fun z => hs64 (by rw [z.2]; rfl)
            simp only [if_neg hne] at hun
            rw [hun] at hv1 hv2 hv3 hv4 hv5 hv6
            refine lv_aload_n hx hb dX2_run_165 rfl (lv_at hl 2 rfl) ?_
            refine g_get (ci := 1) (v := .ref eb) (C := RX2) (T := TX2) (N := 7) hx hb hts in_X2 hown hK hW h_6 rfl 1 (by decide) q190 (fun _ h9 => h9) rfl dX2_run_166 ?_
            refine lv_bipush (v := 17) hx hb dX2_run_169 (by decide) ?_
            refine lv_iload_n hx hb dX2_run_171 rfl (lv_at hl 1 rfl) ?_
            refine lv_imul hx hb dX2_run_172 ?_
            refine g_topi (y := nI (17 * ad)) ((Int32.ofNat_mul 17 ad).symm) ?_
            refine lv_iload_n hx hb dX2_run_173 rfl (lv_at hl 0 rfl) ?_
            refine lv_aload_n hx hb dX2_run_174 rfl (lv_at hl 2 rfl) ?_
            refine g_get (ci := 1) (v := .ref x) (C := RX2) (T := TX2) (N := 7) hx hb hts in_X2 hown hK hW h_6 rfl 6 (by decide) q199 (fun _ h9 => h9) rfl dX2_run_175 ?_
            refine g_getN (ci := 0) (v := .ref pg) (C := RX1) (T := TX1) (N := 11) hx hb hts in_X1 hown hK hW hx4 rfl 0 (by decide) (nf_q353 hE) (fun _ h9 => h9) rfl dX2_run_178 ?_
            refine g_callFi (va_runF (cC := D.1 11) (hK.1 11 _ rfl).2 (As := []) (rest := [.int (nI nx), .int (nI (17 * ad)), .ref eb]) ⟨hx, hb, hml, hown, hts⟩ (mtJ2_size l D w_5 H.size pg par pcap ps hal4) (va_cwF 0 hts (lw_app (lw_in _ [1194, 441, 443, 37] (by decide +kernel) (by decide +kernel)) (lw_meth q445)) rfl rfl rfl (fw_24 hE) (by decide +kernel) ⟨Nat.le_trans (Nat.le_of_ble_eq_true rfl) hRf, Nat.le_trans (Nat.le_of_ble_eq_true rfl) hRl⟩) (g_preV hW hK hE hpg4 rfl) rfl rfl hl.1 rfl (lv_room (Nat.le_of_ble_eq_true rfl)) dX2_run_181 ⟨?_, ?_⟩) hW (fun r_ u_ H locs hp hW => ?_)
            · omega
            · omega
            obtain ⟨er, rfl⟩ := hp
            subst er
            refine g_calli (va_runS (As := [.int (nI nx), .int (nI ps.length)]) (rest := [.int (nI (17 * ad)), .ref eb]) ⟨hx, hb, hml, hown, hts⟩ (mtJ7_min l D w_5 H.size nx ps.length (by omega) (by omega)) (va_cwS 2 hts (lw_S q1221 q315 q43 q316) rfl rfl rfl (by decide +kernel) ⟨Nat.le_trans (Nat.le_of_ble_eq_true rfl) hRf, Nat.le_trans (Nat.le_of_ble_eq_true rfl) hRl⟩) (g_preS hW hK hE) rfl rfl hl.1 rfl (lv_room (Nat.le_of_ble_eq_true rfl)) dX2_run_186 ⟨?_, ?_⟩) hW (fun r_ u_ H locs hp hW => ?_)
            · omega
            · omega
            obtain ⟨er, rfl⟩ := hp
            subst er
            refine lv_iadd hx hb dX2_run_189 ?_
            refine g_topi (y := nI (17 * ad + min nx P.length)) (by rw [nI_add, hpl]) ?_
            simp only [bsE, bsN, bsC] at hv4 hv5 hv6
            have hq0 := g_bn_ge ((17 * ad + min nx P.length) / 64 + 1) cap
            have hq1 := g_bc_le ((17 * ad + min nx P.length) / 64 + 1) cap
            have hq3 := g_bs_le ((17 * ad + min nx P.length) / 64 + 1) cap hbs3.2.2.2.1
            have hq2 : g_bn ((17 * ad + min nx P.length) / 64 + 1) cap ≤ capF := by rw [← hv6]; exact bsC_ge _ _
            refine g_callv (va_runV (As := [.int (nI (17 * ad + min nx P.length))]) (rest := []) ⟨hx, hb, hml, hown, hts⟩ (mtJ3_set l D w_5 H.size eb wb n cap E hbs3 (17 * ad + min nx P.length) (by omega)) (cwV 1 hts (lw_V q1222 q1223 q1224 q39 q1225) rfl rfl rfl (by decide +kernel) ⟨Nat.le_trans (Nat.le_of_ble_eq_true rfl) hRf, Nat.le_trans (Nat.le_of_ble_eq_true rfl) hRl⟩) (g_preV hW hK hE hbs3.1 rfl) rfl rfl hl.1 rfl (lv_room (Nat.le_of_ble_eq_true rfl)) dX2_run_190 ⟨?_, ?_⟩) hW (fun u2 H locs hp hW => ?_)
            · omega
            · omega
            obtain ⟨wb2, hbs4, hwb4, hex4⟩ := hp
            have hm4 := hex4.at h_6 (fun z => z.elim (fun z => g_neO h_6 hbs3.1 (by decide) z) (fun z => by obtain ⟨f9, hf9, -⟩ := hbs3.2.1; exact g_neOA h_6 hf9 z))
            have hra4 := hex4.at h_7 (fun z => z.elim (fun z => g_neAO h_7 hbs3.1 z) (fun z => by obtain ⟨f9, hf9, -⟩ := hbs3.2.1; exact g_ne h_7 hf9 (fun q => g_neA hK (i := 0) (j := 3) rfl rfl (fun z => by cases z) (Prod.mk.inj (Sum.inl.inj q)).1) z))
            have hx4 : g_ex (fun q => q = m9 ∨ q = ra ∨ q = eb ∨ q = wb0) w u2 := x_8.trM hex4 (fun z hz1 hz => hz.elim (fun z => Or.inr (Or.inr (Or.inl z))) (fun z => hwb.elim (fun q => Or.inr (Or.inr (Or.inr (z.trans q)))) (fun q => absurd (z ▸ hz1) q)))
            refine lv_iload_n hx hb dX2_run_193 rfl (lv_at hl 0 rfl) ?_
            refine lv_istore_n (lv' := [(2, .int (nI nx)), (3, .int (nI nx)), (0, .ref m9), (1, .ref d)]) hx hb dX2_run_194 rfl hl (by decide) rfl (fun ls hl => ?_)
            refine lv_goto (tgt := 46) hx hb dX2_run_195 (by decide) ?_
            exact ih nx g2 (mRd (op, rg, vl, tg) rd) (st + 1) _ _ _ wb2 u2 _ _ H locs ls (by omega) (by omega) (by omega) (by omega) (fun z => by omega) hv1 hv2 hv3 hv4 hv5 hv6 (by omega) (by omega) hx4 hm4 hra4 hbs4 (hwb4.elim (fun q => q ▸ hwb) (fun q => Or.inr (fun z => q (x_8.1 _ z)))) hW (lv_sub hl [0, 2, 3] rfl)
          · have hye : nx < P.length ∧ st + 1 = 64 := ⟨by omega, nI_inj (b := 64) (by omega) (by decide) (by first | exact hs64 | exact Classical.not_not.mp hs64)⟩
            simp only [if_pos hye] at hun
            rw [hun] at hv1 hv2 hv3 hv4 hv5 hv6
            simp only [bsE, bsN, bsC] at hv4 hv5 hv6
            refine lv_aload_n hx hb dX2_run_153 rfl (lv_at hl 2 rfl) ?_
            refine va_gets hx hb ((hE.2.2.2.2.2.2.2.1.1 2 (by decide)).1) hW.2.2.1 hown (hts _ q1220) (fun _ h9 => h9) dX2_run_154 ?_
            refine g_putf (ci := 1) (v := .ref (D.2 1003 2)) (ty := (.object "Verdict")) (C := RX2) (T := TX2) (N := 7) hx hb hts in_X2 tyX2 tyX2_ok nmX2 hown hK hW h_6 rfl 2 (by decide) q192 (fun _ h9 => h9) rfl (by decide +kernel) rfl rfl (Nat.le_of_ble_eq_true rfl) dX2_run_157 (fun H locs hW => ?_)
            obtain ⟨w_9, ew_9⟩ : ∃ z__, z__ = g_put w_5 m9 (.inr (1, [.ref ra, .ref eb, .ref (D.2 1003 2), .int (cd), .int (nI (st + 1)), .int (nI (mRd (op, rg, vl, tg) rd)), .ref x])) := ⟨_, rfl⟩
            have hW := g_W.ren hW ew_9 rfl
            have h_10 : g_at w_9 m9 (.inr (1, [.ref ra, .ref eb, .ref (D.2 1003 2), .int (cd), .int (nI (st + 1)), .int (nI (mRd (op, rg, vl, tg) rd)), .ref x])) := by rw [ew_9]; exact g_at.put_self h_6.1
            have h_11 : g_at w_9 ra (.inl (D.1 100, 4, .inl (g2))) := by rw [ew_9]; exact h_7.put (g_neAO h_7 h_6)
            have h_12 : g_at w_9 x (.inr (0, [.ref pg, x1, x2, x3, x4, x5, x6, x7, x8, x9, x10])) := by rw [ew_9]; exact hx4.put (g_neO hx4 h_6 (by decide))
            have x_13 : g_ex (fun q => q = m9 ∨ q = ra ∨ q = eb ∨ q = wb0) w w_9 := by rw [ew_9]; exact x_8.put (fun hz9 => (Or.inl rfl))
            refine lv_iconst (v := (-1)) hx hb dX2_run_160 (by decide) ?_
            refine lv_istore_n (lv' := [(3, .int ((-1))), (2, .int (nI ad)), (0, .ref m9), (1, .ref d)]) hx hb dX2_run_161 rfl hl (by decide) rfl (fun ls hl => ?_)
            refine lv_goto (tgt := 193) hx hb dX2_run_162 (by decide) ?_
            refine lv_iload_n hx hb dX2_run_193 rfl (lv_at hl 0 rfl) ?_
            refine lv_istore_n (lv' := [(2, .int ((-1))), (3, .int ((-1))), (0, .ref m9), (1, .ref d)]) hx hb dX2_run_194 rfl hl (by decide) rfl (fun ls hl => ?_)
            refine lv_goto (tgt := 46) hx hb dX2_run_195 (by decide) ?_
            have hbs5 : g_BS D w_9 eb wb E n cap := by rw [ew_9]; exact g_BS.put hbs3 h_6
            have hal5 : g_AL D w_9 pg par ps pcap := hal.ex x_13 hpgM hparM
            have hx5 : g_at w_9 x (.inr (0, [.ref pg, x1, x2, x3, x4, x5, x6, x7, x8, x9, x10])) := x_13.at hx0 hxM
            have hd5 : g_Dig D w_9 d da xs := hd.ex x_13 hdM hdaM
            obtain ⟨mo5, hpg5, -⟩ := id hal5
            refine lv_iload_n hx hb dX2_run_46 rfl (lv_at hl 0 rfl) ?_
            refine lv_iconst (v := 0) hx hb dX2_run_47 (by decide) ?_
            refine lv_aload_n hx hb dX2_run_48 rfl (lv_at hl 2 rfl) ?_
            refine g_get (ci := 1) (v := .ref x) (C := RX2) (T := TX2) (N := 7) hx hb hts in_X2 hown hK hW h_10 rfl 6 (by decide) q199 (fun _ h9 => h9) rfl dX2_run_49 ?_
            refine g_getN (ci := 0) (v := .ref pg) (C := RX1) (T := TX1) (N := 11) hx hb hts in_X1 hown hK hW hx5 rfl 0 (by decide) (nf_q353 hE) (fun _ h9 => h9) rfl dX2_run_52 ?_
            refine g_callFi (va_runF (cC := D.1 11) (hK.1 11 _ rfl).2 (As := []) (rest := [.int (0), .int ((-1))]) ⟨hx, hb, hml, hown, hts⟩ (mtJ2_size l D w_9 H.size pg par pcap ps hal5) (va_cwF 0 hts (lw_app (lw_in _ [1194, 441, 443, 37] (by decide +kernel) (by decide +kernel)) (lw_meth q445)) rfl rfl rfl (fw_24 hE) (by decide +kernel) ⟨Nat.le_trans (Nat.le_of_ble_eq_true rfl) hRf, Nat.le_trans (Nat.le_of_ble_eq_true rfl) hRl⟩) (g_preV hW hK hE hpg5 rfl) rfl rfl hl.1 rfl (lv_room (Nat.le_of_ble_eq_true rfl)) dX2_run_55 ⟨?_, ?_⟩) hW (fun r_ u_ H locs hp hW => ?_)
            · omega
            · omega
            obtain ⟨er, rfl⟩ := hp
            subst er
            refine lv_iconst (v := 1) hx hb dX2_run_60 (by decide) ?_
            refine lv_isub hx hb dX2_run_61 ?_
            refine g_calli (va_runSN (As := [.int ((-1)), .int (0), .int ((nI ps.length) - (1))]) (rest := []) ⟨hx, hb, hml, hown, hts⟩ (mtX1_isIn l D w_9 H.size (-1) 0 (nI ps.length - 1)) ⟨(va_cnB 3 hts (lw_meth q564) rfl rfl rfl (nm_q1195 hE) (hts _ q34) (by decide +kernel) ⟨Nat.le_trans (Nat.le_of_ble_eq_true rfl) hRf, Nat.le_trans (Nat.le_of_ble_eq_true rfl) hRl⟩), hts _ q563, trivial⟩ (g_preS hW hK hE) rfl rfl hl.1 rfl (lv_room (Nat.le_of_ble_eq_true rfl)) dX2_run_62 ⟨?_, ?_⟩) hW (fun r_ u_ H locs hp hW => ?_)
            · omega
            · omega
            obtain ⟨er, rfl⟩ := hp
            subst er
            rw [if_neg (m_in1 ps.length (by omega))]
            refine lv_if_eq (tgt := 198) hx hb dX2_run_65 (by decide) (fun hz0 => ?_) (fun hz0 => ?_)
            · exact kk (mRd (op, rg, vl, tg) rd) g2 wb w_9 cells slots H locs ls (by omega) (by omega) x_13 (by rw [← hv1, ← hv2, ← hv3]; exact h_10) h_11 (by rw [← hv4, ← hv5, ← hv6]; exact hbs5) hwb hW (lv_sub hl [2] rfl)
            · exact absurd rfl hz0
    · rw [if_neg (fun z => hlt (by have := hin9.mp z; omega))]
      have hun : mRun P xs (k + 1) ad g rd st = _ := if_neg hlt
      rw [hun] at hv1 hv2 hv3 hv4 hv5 hv6
      simp only [bsE, bsN, bsC] at hv4 hv5 hv6
      refine lv_if_eq (tgt := 198) hx hb dX2_run_65 (by decide) (fun hz0 => ?_) (fun hz0 => ?_)
      · exact kk rd g wb w1 cells slots H locs ls (by omega) (by omega) hex (by rw [← hv1, ← hv2, ← hv3]; exact hm) hra (by rw [← hv4, ← hv5, ← hv6]; exact hbs) hwb hW (lv_sub hl [1] rfl)
      · exact absurd rfl hz0
