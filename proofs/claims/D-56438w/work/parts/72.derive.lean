/-! ShrinkYard.derive, take, takeDerived *
-/
set_option maxRecDepth 100000
/-- derive: k replacements are left; what is thrown, the text -/
def dv (A : Nat → List (List Nat)) : Nat → Nat → List Nat → Nat → Nat × List Nat
  | 0, _, t, ad => if ad < t.length ∨ 8 < t.length then (3, []) else (0, t)
  | k + 1, lf, t, ad => if ad < t.length then (if (A (t.getD ad 0 - 65)).length = 0 then (2, []) else dv A k (lf / (A (t.getD ad 0 - 65)).length) (rpT t ad ((A (t.getD ad 0 - 65)).getD (lf % (A (t.getD ad 0 - 65)).length) [])) (kFirst (rpT t ad ((A (t.getD ad 0 - 65)).getD (lf % (A (t.getD ad 0 - 65)).length) [])))) else if ad < t.length ∨ 8 < t.length then (3, []) else (0, t)
def dvN (A : Nat → List (List Nat)) (n9 : Int32) : Nat × List Nat := dv A 12 n9.toNatClampNeg [65] 0
def aOk (A : Nat → List (List Nat)) : Prop := ∀ j, j < 4 → ∀ y ∈ A j, kHas y 1 = true ∧ y.length ≤ 8
theorem dv_end {A : Nat → List (List Nat)} {k lf : Nat} {t : List Nat} {ad : Nat} (h : k = 0 ∨ ¬ ad < t.length) : dv A k lf t ad = if ad < t.length ∨ 8 < t.length then (3, []) else (0, t) := by
  cases k with
  | zero => rfl
  | succ k => rw [dv, if_neg (h.resolve_left (by omega))]
theorem kFirst_ne : ∀ t : List Nat, kFirst t < t.length → kKind (t.getD (kFirst t) 0) ≠ 0
  | [], h => absurd h (by decide)
  | c :: t, h => by
    unfold kFirst at h ⊢
    by_cases e : kKind c = 0
    · rw [if_pos e] at h ⊢
      have := kFirst_ne t (by simp at h; omega)
      simpa using this
    · rw [if_neg e]; simpa using e
theorem kHas_mem {t : List Nat} {g : Nat} : kHas t g = true ↔ ∀ c ∈ t, kKind c ≤ g := by unfold kHas; rw [List.all_eq_true]; exact ⟨fun h c hc => of_decide_eq_true (h c hc), fun h c hc => decide_eq_true (h c hc)⟩
theorem kHas_rp {t y : List Nat} {ad : Nat} (ht : kHas t 1 = true) (hy : kHas y 1 = true) : kHas (rpT t ad y) 1 = true := by
  rw [kHas_mem] at *
  intro c hc
  unfold rpT at hc
  rcases List.mem_append.mp hc with hc | hc
  · rcases List.mem_append.mp hc with hc | hc
    · exact ht c (List.mem_of_mem_take hc)
    · exact hy c hc
  · exact ht c (List.mem_of_mem_drop hc)
theorem rpT_len {t y : List Nat} {ad : Nat} (h : ad < t.length) : (rpT t ad y).length = t.length + y.length - 1 := by unfold rpT; rw [List.length_append, List.length_append, List.length_take, List.length_drop]; omega
theorem kKind_1 {t : List Nat} (ht : kHas t 1 = true) (h : kFirst t < t.length) : 65 ≤ t.getD (kFirst t) 0 ∧ t.getD (kFirst t) 0 ≤ 68 := by
  have h1 := kFirst_ne t h
  have h2 := kHas_mem.mp ht (t.getD (kFirst t) 0) (g_mem h)
  generalize t.getD (kFirst t) 0 = c at h1 h2
  unfold kKind at h1 h2
  split at h1
  · exact absurd rfl h1
  · rename_i h3
    rw [if_neg h3] at h2
    split at h2
    · assumption
    · omega
theorem kFirst_all : ∀ t : List Nat, kFirst t = t.length → ∀ c ∈ t, kKind c = 0
  | [], _, _, h => by cases h
  | x :: t, h, c, hc => by
    unfold kFirst at h
    by_cases e : kKind x = 0
    · rw [if_pos e] at h
      rcases List.mem_cons.mp hc with z | z
      · rw [z]; exact e
      · exact kFirst_all t (by simp at h; omega) c z
    · rw [if_neg e] at h; simp at h
theorem g_getDT {ts : List (List Nat)} {i : Nat} (h : i < ts.length) : ts[i]? = some (ts.getD i []) := by rw [List.getD_eq_getElem?_getD, List.getElem?_eq_getElem h]; rfl
/-- what derive answers is an input -/
theorem dv_in {A : Nat → List (List Nat)} (hA : aOk A) : ∀ (k lf : Nat) (t : List Nat), kHas t 1 = true → (dv A k lf t (kFirst t)).1 = 0 → isIn (dv A k lf t (kFirst t)).2 := by
  intro k
  induction k with
  | zero =>
    intro lf t ht h
    rw [dv_end (Or.inl rfl)] at h ⊢
    split at h
    · cases h
    · rename_i h1
      rw [if_neg h1]
      refine ⟨by show t.length ≤ 8; omega, kHas_mem.mpr (fun c hc => ?_)⟩
      exact Nat.le_of_eq (kFirst_all t (by have := kFirst_le t; omega) c hc)
  | succ k ih =>
    intro lf t ht h
    by_cases h0 : kFirst t < t.length
    · rw [dv, if_pos h0] at h ⊢
      have hc := kKind_1 ht h0
      split at h
      · cases h
      · rename_i h1
        rw [if_neg h1]
        refine ih _ _ (kHas_rp ht ?_) h
        exact (hA _ (by omega) _ (List.mem_of_getElem? (g_getDT (Nat.mod_lt _ (Nat.pos_of_ne_zero h1))))).1
    · rw [dv_end (Or.inr h0)] at h ⊢
      split at h
      · cases h
      · rename_i h1
        rw [if_neg h1]
        refine ⟨by show t.length ≤ 8; omega, kHas_mem.mpr (fun c hc => ?_)⟩
        exact Nat.le_of_eq (kFirst_all t (by have := kFirst_le t; omega) c hc)
set_option maxHeartbeats 4000000 in
set_option maxRecDepth 100000 in
/-- ShrinkYard.derive: its loop -/
theorem lpX1_derive {p : Program} {l : Launch} {e : Env} {R : Room} {s : State} {m : MethodId} {args : Array Value} {below : List Frame} {meth : Method} {c : Code} {Q : State → Prop} {D : va_G} {A : Nat → Prop} (hx : p.tables.exec = Jvm.exec) (hb : c.code = cX1_derive) (hts : ∀ w ∈ lw_all, w.before args s = true) (hown : s.vm.findClass RX1 = some m.cls) (hK : va_K D gCl (gT D) s) (hE : g_Env D A s) (hml : c.maxLocals = 7) (hRf : 13 ≤ R.frames) (hRl : 524 ≤ R.locals) (hl9 : l.stackTraces = false) (lab : Nat → Nat) (x ac rn tt : Nat) (rf : Nat → Nat) (P : List mI) (C : List yC) (A9 : Nat → List (List Nat)) (cov : Nat → Bool) (K Q9 : List (List Nat)) (F : List yF) (cp : Nat → Nat) (w : g_H) (hS : g_SZ D w lab x rf P C A9 cov K Q9 ac F rn tt cp) (hA : aOk A9) (c0 s0 : Nat) (Z : Nat × List Nat) (hRc : c0 + 160 ≤ R.cells) (hRs : s0 + 24200 ≤ R.slots) (kt : ∀ (w1 : g_H) (cells slots : Nat) (H : Heap) (locs : List Loc) (ls : Array Slot), ((2 : Nat), ([] : List Nat)) = Z → g_ex (fun _ => False) w w1 → cells ≤ c0 + 156 → slots ≤ s0 + 24072 → g_W D A s.heap H locs w1 → lv_has ls 7 [] → W p l e R s m args below meth c H locs cells slots Q (F0 m 77 ls [.int 0]))
    (kk : ∀ (st : Nat) (t : List Nat) (w1 : g_H) (cells slots : Nat) (H : Heap) (locs : List Loc) (ls : Array Slot), (if kFirst t < t.length ∨ 8 < t.length then ((3 : Nat), ([] : List Nat)) else (0, t)) = Z → t.length ≤ 85 → g_Str D w1 st t → g_ex (fun _ => False) w w1 → cells ≤ c0 + 156 → slots ≤ s0 + 24072 → g_W D A s.heap H locs w1 → lv_has ls 7 [(2, .ref st), (4, .int (nI (kFirst t)))] → W p l e R s m args below meth c H locs cells slots Q (F0 m 128 ls [])) :
    ∀ (k : Nat) (i : Nat) (lf : Nat) (st : Nat) (t : List Nat) (w1 : g_H) (cells : Nat) (slots : Nat) (H : Heap) (locs : List Loc) (ls : Array Slot), 12 < i + k → i ≤ 12 → dv A9 (12 - i) lf t (kFirst t) = Z → lf < 2 ^ 31 → t.length ≤ 1 + 7 * i → kHas t 1 = true → g_Str D w1 st t → g_ex (fun _ => False) w w1 → cells ≤ c0 + 13 * i → slots ≤ s0 + 2006 * i → g_W D A s.heap H locs w1 → lv_has ls 7 [(0, .ref x), (2, .ref st), (3, .int (nI lf)), (4, .int (nI (kFirst t))), (5, .int (nI i))] → W p l e R s m args below meth c H locs cells slots Q (F0 m 23 ls []) := by
  intro k
  induction k with
  | zero => intro i lf st t w1 cells slots H locs ls hfuel hi hdv hlf htl hkt hst hex hcl hsl hW hl; exact absurd hfuel (by omega)
  | succ k ih =>
    intro i lf st t w1 cells slots H locs ls hfuel hi hdv hlf htl hkt hst hex hcl hsl hW hl
    have hfl := kFirst_le t
    have hS1 := hS.new hex 0
    obtain ⟨v, hr1, hb1⟩ := hst.rd hts hK hE hW
    refine lv_iload hx hb dX1_derive_23 (lv_at hl 4 rfl) ?_
    refine lv_bipush (v := 12) hx hb dX1_derive_25 (by decide) ?_
    refine g_icmp_ge (x := i) (y := 12) (tgt := 128) hx hb (by omega) (by decide) dX1_derive_27 (by decide) (fun hc1 => ?_) (fun hc1 => ?_)
    · rw [dv_end (by omega)] at hdv
      exact kk st t w1 cells slots H locs ls hdv (by omega) hst hex (by omega) (by omega) hW (lv_sub hl [1, 3] rfl)
    · refine lv_iload hx hb dX1_derive_30 (lv_at hl 3 rfl) ?_
      refine lv_aload_n hx hb dX1_derive_32 rfl (lv_at hl 1 rfl) ?_
      refine g_calli (va_runV (As := []) (rest := [.int (nI (kFirst t))]) ⟨hx, hb, hml, hown, hts⟩ (mtJ16_length l D w1 H.size st t hst) (cwV 0 hts (lw_V q739 q740 q741 q63 q742) rfl rfl rfl (by decide +kernel) ⟨Nat.le_trans (Nat.le_of_ble_eq_true rfl) hRf, Nat.le_trans (Nat.le_of_ble_eq_true rfl) hRl⟩) (g_preVR hW hK hE hr1.2.2.2) rfl rfl hl.1 rfl (lv_room (Nat.le_of_ble_eq_true rfl)) dX1_derive_33 ⟨?_, ?_⟩) hW (fun r_ u_ H locs hp hW => ?_)
      · (try simp only [headSpec]); omega
      · (try simp only [headSpec]); omega
      obtain ⟨er, rfl⟩ := hp
      subst er
      refine g_icmp_ge (x := kFirst t) (y := t.length) (tgt := 128) hx hb (by omega) (by omega) dX1_derive_36 (by decide) (fun hc2 => ?_) (fun hc2 => ?_)
      · rw [dv_end (by omega)] at hdv
        exact kk st t w1 cells slots H locs ls hdv (by omega) hst hex (by omega) (by omega) hW (lv_sub hl [1, 3] rfl)
      · have hcr := kKind_1 hkt hc2
        obtain ⟨j, ej, hj4⟩ : ∃ j, t.getD (kFirst t) 0 = 65 + j ∧ j < 4 := ⟨t.getD (kFirst t) 0 - 65, by omega, by omega⟩
        rw [show 12 - i = (12 - (i + 1)) + 1 by omega, dv, if_pos hc2, show t.getD (kFirst t) 0 - 65 = j by omega] at hdv
        obtain ⟨ar4, als, hal4, hl4, hj⟩ := hS1.alt hK (g_e0 hE hW)
        obtain ⟨mo4, hat4, -⟩ := id hal4
        obtain ⟨ar, xs, hal, ⟨hxl, hxs, ha3⟩, ⟨l2a, l2b⟩, -⟩ := hj j hj4
        obtain ⟨mo9, hat9, -⟩ := id hal
        refine lv_aload_n hx hb dX1_derive_39 rfl (lv_at hl 0 rfl) ?_
        refine g_get (ci := 0) (v := .ref (rf 4)) (C := RX1) (T := TX1) (N := 11) hx hb hts in_X1 hown hK hW hS1.1.1 rfl 2 (by decide) q356 (fun _ h9 => h9) rfl dX1_derive_40 ?_
        refine lv_aload_n hx hb dX1_derive_43 rfl (lv_at hl 1 rfl) ?_
        refine lv_iload hx hb dX1_derive_44 (lv_at hl 3 rfl) ?_
        obtain ⟨v, hr1, hb1⟩ := hst.rd hts hK hE hW
        refine g_calli (va_runV (As := [.int (nI (kFirst t))]) (rest := [.ref (rf 4)]) ⟨hx, hb, hml, hown, hts⟩ (mtJ16_charAt l D w1 H.size st (kFirst t) t hst hc2) (cwV 1 hts (lw_V q749 q750 q751 q63 q752) rfl rfl rfl (by decide +kernel) ⟨Nat.le_trans (Nat.le_of_ble_eq_true rfl) hRf, Nat.le_trans (Nat.le_of_ble_eq_true rfl) hRl⟩) (g_preVR hW hK hE hr1.2.2.2) rfl rfl hl.1 rfl (lv_room (Nat.le_of_ble_eq_true rfl)) dX1_derive_46 ⟨?_, ?_⟩) hW (fun r_ u_ H locs hp hW => ?_)
        · (try simp only [headSpec]); omega
        · (try simp only [headSpec]); omega
        obtain ⟨er, rfl⟩ := hp
        subst er
        refine lv_bipush (v := 65) hx hb dX1_derive_49 (by decide) ?_
        refine lv_isub hx hb dX1_derive_51 ?_
        refine g_topi (y := nI j) (by rw [ej]; exact (by decide : ∀ j, j < 4 → nI (65 + j) - 65 = nI j) j hj4) ?_
        refine g_callFq (va_runF (cC := D.1 11) (hK.1 11 _ rfl).2 (As := [.int (nI j)]) (rest := []) ⟨hx, hb, hml, hown, hts⟩ (mtJ2_get l D w1 H.size (rf 4) ar4 (cp 4) als hal4 j (by omega)) (va_cwF 1 hts (lw_app (lw_in _ [788, 791, 793, 37] (by decide +kernel) (by decide +kernel)) (lw_meth q795)) rfl rfl rfl (fw_26 hE) (by decide +kernel) ⟨Nat.le_trans (Nat.le_of_ble_eq_true rfl) hRf, Nat.le_trans (Nat.le_of_ble_eq_true rfl) hRl⟩) (g_preV hW hK hE hat4 rfl) rfl rfl hl.1 rfl (lv_room (Nat.le_of_ble_eq_true rfl)) dX1_derive_52 ⟨?_, ?_⟩) hW (fun r_ u_ H locs hp hW => ?_)
        · (try simp only [headSpec]); omega
        · (try simp only [headSpec]); omega
        obtain ⟨er, rfl⟩ := hp
        subst er
        refine va_castY (C := "java/util/ArrayList") hx hb hown (hts _ q1059) (nc_q242 hE) (g_Ob.rd (D := D) (w := w1) (ci := 11) (Or.inl ⟨_, hat9⟩) rfl hK hE hW) dX1_derive_57 ?_
        refine lv_astore (lv' := [(6, .ref (als.getD j 0)), (0, .ref x), (2, .ref st), (3, .int (nI lf)), (4, .int (nI (kFirst t))), (5, .int (nI i))]) hx hb dX1_derive_60 hl (by decide) rfl (fun ls hl => ?_)
        refine lv_aload hx hb dX1_derive_62 (lv_at hl 0 rfl) ?_
        refine g_callFi (va_runF (cC := D.1 11) (hK.1 11 _ rfl).2 (As := []) (rest := []) ⟨hx, hb, hml, hown, hts⟩ (mtJ2_isEmpty l D w1 H.size (als.getD j 0) ar (cp (5 + j)) xs hal) (va_cwF 0 hts (lw_app (lw_in _ [1071, 1074, 1076, 37] (by decide +kernel) (by decide +kernel)) (lw_meth q1078)) rfl rfl rfl (fw_28 hE) (by decide +kernel) ⟨Nat.le_trans (Nat.le_of_ble_eq_true rfl) hRf, Nat.le_trans (Nat.le_of_ble_eq_true rfl) hRl⟩) (g_preV hW hK hE hat9 rfl) rfl rfl hl.1 rfl (lv_room (Nat.le_of_ble_eq_true rfl)) dX1_derive_64 ⟨?_, ?_⟩) hW (fun r_ u_ H locs hp hW => ?_)
        · (try simp only [headSpec]); omega
        · (try simp only [headSpec]); omega
        obtain ⟨er, rfl⟩ := hp
        subst er
        by_cases hq9 : xs.length = 0
        · rw [if_pos hq9]
          refine lv_if_ne (tgt := 76) hx hb dX1_derive_69 (by decide) (fun _ => ?_) (fun hz => absurd (by first | exact hz | exact Classical.not_not.mp hz) (by decide))
          refine lv_iconst (v := 0) hx hb dX1_derive_76 (by decide) ?_
          rw [if_pos (by omega)] at hdv
          exact kt w1 _ _ H locs ls hdv hex (by omega) (by omega) hW (lv_sub hl [] rfl)
        · rw [if_neg hq9]
          refine lv_if_ne (tgt := 76) hx hb dX1_derive_69 (by decide) (fun hz => absurd rfl hz) (fun _ => ?_)
          refine lv_iconst (v := 1) hx hb dX1_derive_72 (by decide) ?_
          refine lv_goto (tgt := 77) hx hb dX1_derive_73 (by decide) ?_
          rw [if_neg (by omega)] at hdv
          have hpos : 0 < xs.length := by omega
          refine g_xcallv (vx_runS (As := [.int (1)]) (rest := []) ⟨hx, hb, hml, hown, hts⟩ (mtX1_requireElement l hl9 D w1 H.size 1) (va_cwS 1 hts (lw_S q1089 q1090 q34 q1091) rfl rfl rfl (by decide +kernel) ⟨Nat.le_trans (Nat.le_of_ble_eq_true rfl) hRf, Nat.le_trans (Nat.le_of_ble_eq_true rfl) hRl⟩) (g_preS hW hK hE) rfl rfl hl.1 rfl (lv_room (Nat.le_of_ble_eq_true rfl)) dX1_derive_77 ⟨?_, ?_⟩) hW (fun E ce q9 u_ H locs hp hW hxc1 hxc2 hxc3 => ?_) (fun u1 H locs hp hW => ?_)
          · (try simp only [headSpec]); omega
          · (try simp only [headSpec]); omega
          · exact absurd hp.2.1 (by decide)
          obtain ⟨-, rfl⟩ := hp
          refine lv_aload_n hx hb dX1_derive_80 rfl (lv_at hl 2 rfl) ?_
          refine lv_iload hx hb dX1_derive_81 (lv_at hl 4 rfl) ?_
          refine lv_aload hx hb dX1_derive_83 (lv_at hl 0 rfl) ?_
          refine lv_iload_n hx hb dX1_derive_85 rfl (lv_at hl 3 rfl) ?_
          refine lv_aload hx hb dX1_derive_86 (lv_at hl 0 rfl) ?_
          refine g_callFi (va_runF (cC := D.1 11) (hK.1 11 _ rfl).2 (As := []) (rest := [.int (nI lf), .ref (als.getD j 0), .int (nI (kFirst t)), .ref st]) ⟨hx, hb, hml, hown, hts⟩ (mtJ2_size l D w1 H.size (als.getD j 0) ar (cp (5 + j)) xs hal) (va_cwF 0 hts (lw_app (lw_in _ [438, 441, 443, 37] (by decide +kernel) (by decide +kernel)) (lw_meth q445)) rfl rfl rfl (fw_24 hE) (by decide +kernel) ⟨Nat.le_trans (Nat.le_of_ble_eq_true rfl) hRf, Nat.le_trans (Nat.le_of_ble_eq_true rfl) hRl⟩) (g_preV hW hK hE hat9 rfl) rfl rfl hl.1 rfl (lv_room (Nat.le_of_ble_eq_true rfl)) dX1_derive_88 ⟨?_, ?_⟩) hW (fun r_ u_ H locs hp hW => ?_)
          · (try simp only [headSpec]); omega
          · (try simp only [headSpec]); omega
          obtain ⟨er, rfl⟩ := hp
          subst er
          refine lv_irem hx hb dX1_derive_93 (nI_ne0 hpos (by omega)) ?_
          refine g_topi (y := nI (lf % xs.length)) (pk_rem hlf hpos (by omega)) ?_
          have hlm : lf % xs.length < xs.length := Nat.mod_lt _ hpos
          refine g_callFq (va_runF (cC := D.1 11) (hK.1 11 _ rfl).2 (As := [.int (nI (lf % xs.length))]) (rest := [.int (nI (kFirst t)), .ref st]) ⟨hx, hb, hml, hown, hts⟩ (mtJ2_get l D w1 H.size (als.getD j 0) ar (cp (5 + j)) xs hal (lf % xs.length) hlm) (va_cwF 1 hts (lw_app (lw_in _ [788, 791, 793, 37] (by decide +kernel) (by decide +kernel)) (lw_meth q795)) rfl rfl rfl (fw_26 hE) (by decide +kernel) ⟨Nat.le_trans (Nat.le_of_ble_eq_true rfl) hRf, Nat.le_trans (Nat.le_of_ble_eq_true rfl) hRl⟩) (g_preV hW hK hE hat9 rfl) rfl rfl hl.1 rfl (lv_room (Nat.le_of_ble_eq_true rfl)) dX1_derive_94 ⟨?_, ?_⟩) hW (fun r_ u_ H locs hp hW => ?_)
          · (try simp only [headSpec]); omega
          · (try simp only [headSpec]); omega
          obtain ⟨er, rfl⟩ := hp
          subst er
          have hys := hxs.2 (lf % xs.length) (by omega)
          refine va_castS hx hb hown (hts _ q1107) (hK.1 16 _ rfl).2 (g_Ob.rd (D := D) (ci := 16) hys.ob rfl hK hE hW) dX1_derive_99 ?_
          have hyA := hA j hj4 _ (List.mem_of_getElem? (g_getDT (i := lf % xs.length) (by omega)))
          obtain ⟨Y, eY⟩ : ∃ z__, z__ = (A9 j).getD (lf % xs.length) [] := ⟨_, rfl⟩
          rw [← eY] at hys hyA
          rw [← hxl, ← eY] at hdv
          have hrl := rpT_len (y := Y) hc2
          have hya2 := hyA.2
          refine g_callq (va_runS (As := [.ref st, .int (nI (kFirst t)), .ref (xs.getD (lf % xs.length) 0)]) (rest := []) ⟨hx, hb, hml, hown, hts⟩ (mtX1_replaced l D w1 H.size st (xs.getD (lf % xs.length) 0) (kFirst t) t Y hst hys hc2 (by omega)) (va_cwS 3 hts (lw_S q1108 q1109 q34 q1110) rfl rfl rfl (by decide +kernel) ⟨Nat.le_trans (Nat.le_of_ble_eq_true rfl) hRf, Nat.le_trans (Nat.le_of_ble_eq_true rfl) hRl⟩) (g_preS hW hK hE) rfl rfl hl.1 rfl (lv_room (Nat.le_of_ble_eq_true rfl)) dX1_derive_102 ⟨?_, ?_⟩) hW (fun r_ u2 H locs hp hW => ?_)
          · (try simp only [headSpec]); omega
          · (try simp only [headSpec]); omega
          obtain ⟨s9, er, hn9, hst9, hex9⟩ := hp
          subst er
          have hexA : g_ex (fun _ => False) w u2 := hex.tr hex9
          have hal2 := hal.ex hex9 (fun z => z.elim) (fun _ z => z.elim)
          have hat92 := hex9.at hat9 (fun z => z.elim)
          refine lv_astore_n (lv' := [(2, .ref s9), (6, .ref (als.getD j 0)), (0, .ref x), (3, .int (nI lf)), (4, .int (nI (kFirst t))), (5, .int (nI i))]) hx hb dX1_derive_105 rfl hl (by decide) rfl (fun ls hl => ?_)
          refine lv_iload_n hx hb dX1_derive_106 rfl (lv_at hl 3 rfl) ?_
          refine lv_aload hx hb dX1_derive_107 (lv_at hl 1 rfl) ?_
          refine g_callFi (va_runF (cC := D.1 11) (hK.1 11 _ rfl).2 (As := []) (rest := [.int (nI lf)]) ⟨hx, hb, hml, hown, hts⟩ (mtJ2_size l D u2 H.size (als.getD j 0) ar (cp (5 + j)) xs hal2) (va_cwF 0 hts (lw_app (lw_in _ [438, 441, 443, 37] (by decide +kernel) (by decide +kernel)) (lw_meth q445)) rfl rfl rfl (fw_24 hE) (by decide +kernel) ⟨Nat.le_trans (Nat.le_of_ble_eq_true rfl) hRf, Nat.le_trans (Nat.le_of_ble_eq_true rfl) hRl⟩) (g_preV hW hK hE hat92 rfl) rfl rfl hl.1 rfl (lv_room (Nat.le_of_ble_eq_true rfl)) dX1_derive_109 ⟨?_, ?_⟩) hW (fun r_ u_ H locs hp hW => ?_)
          · (try simp only [headSpec]); omega
          · (try simp only [headSpec]); omega
          obtain ⟨er, rfl⟩ := hp
          subst er
          refine lv_idiv hx hb dX1_derive_114 (nI_ne0 hpos (by omega)) ?_
          refine g_topi (y := nI (lf / xs.length)) (pk_div hlf hpos (by omega)) ?_
          refine lv_istore_n (lv' := [(3, .int (nI (lf / xs.length))), (2, .ref s9), (6, .ref (als.getD j 0)), (0, .ref x), (4, .int (nI (kFirst t))), (5, .int (nI i))]) hx hb dX1_derive_115 rfl hl (by decide) rfl (fun ls hl => ?_)
          refine lv_aload_n hx hb dX1_derive_116 rfl (lv_at hl 1 rfl) ?_
          refine g_calli (va_runS (As := [.ref s9]) (rest := []) ⟨hx, hb, hml, hown, hts⟩ (mtX1_firstSymbol l D u2 H.size s9 (rpT t (kFirst t) Y) hst9) (va_cwS 1 hts (lw_S q1128 q1129 q34 q1130) rfl rfl rfl (by decide +kernel) ⟨Nat.le_trans (Nat.le_of_ble_eq_true rfl) hRf, Nat.le_trans (Nat.le_of_ble_eq_true rfl) hRl⟩) (g_preS hW hK hE) rfl rfl hl.1 rfl (lv_room (Nat.le_of_ble_eq_true rfl)) dX1_derive_117 ⟨?_, ?_⟩) hW (fun r_ u_ H locs hp hW => ?_)
          · (try simp only [headSpec]); omega
          · (try simp only [headSpec]); omega
          obtain ⟨er, rfl⟩ := hp
          subst er
          refine lv_istore (lv' := [(4, .int (nI (kFirst (rpT t (kFirst t) Y)))), (3, .int (nI (lf / xs.length))), (2, .ref s9), (6, .ref (als.getD j 0)), (0, .ref x), (5, .int (nI i))]) hx hb dX1_derive_120 hl (by decide) rfl (fun ls hl => ?_)
          refine lv_iinc (v := nI (i + 1)) (lv' := [(5, .int (nI (i + 1))), (4, .int (nI (kFirst (rpT t (kFirst t) Y)))), (3, .int (nI (lf / xs.length))), (2, .ref s9), (6, .ref (als.getD j 0)), (0, .ref x)]) hx hb dX1_derive_122 hl (k := 5) rfl (nI_1 i) (by decide) rfl (fun ls hl => ?_)
          refine lv_goto (tgt := 23) hx hb dX1_derive_125 (by decide) ?_
          exact ih (i + 1) (lf / xs.length) s9 (rpT t (kFirst t) Y) u2 _ _ H locs ls (by omega) (by omega) hdv (Nat.lt_of_le_of_lt (Nat.div_le_self _ _) hlf) (by omega) (kHas_rp hkt hyA.1) hst9 hexA (by omega) (by omega) hW (lv_sub hl [5, 3, 2, 1, 0] rfl)
