/-! the model: count *
-/
set_option maxRecDepth 100000
def thN (n9 : Int32) : Int32 := if 0 ≤ n9 ∧ n9 ≤ 3 then 0 else 1
/-- how many short inputs -/
def ocN (n9 : Int32) : Nat := if 0 ≤ n9 ∧ n9 ≤ 3 then (octs 0 n9.toNatClampNeg).length else 0
theorem n3_n {n9 : Int32} (h : 0 ≤ n9 ∧ n9 ≤ 3) : ∃ N, n9 = nI N ∧ N ≤ 3 ∧ n9.toNatClampNeg = N := by
  obtain ⟨N, hN, rfl⟩ := nI_of (Int32.not_lt.mpr h.1)
  have q1 : N ≤ 3 := Nat.le_of_not_lt (fun z => Int32.not_le.mpr ((nI_ltI (a := 3) (by decide) hN).mpr z) h.2)
  exact ⟨N, rfl, q1, nI_clamp hN⟩
set_option maxHeartbeats 4000000 in
set_option maxRecDepth 100000 in
/-- Model.count: of one length -/
theorem lpX3_count1 {p : Program} {l : Launch} {e : Env} {R : Room} {s : State} {m : MethodId} {args : Array Value} {below : List Frame} {meth : Method} {c : Code} {Q : State → Prop} {D : va_G} {A : Nat → Prop} (hx : p.tables.exec = Jvm.exec) (hb : c.code = cX3_count) (hts : ∀ w ∈ lw_all, w.before args s = true) (hown : s.vm.findClass RX3 = some m.cls) (hK : va_K D gCl (gT D) s) (hE : g_Env D A s) (hml : c.maxLocals = 6) (hRf : 8 ≤ R.frames) (hRl : 214 ≤ R.locals) (y : Nat) (mf : Nat → Nat) (lab : Nat → Nat) (hL : mLab lab mf) (hly : lab y = 20) (cn rn : Int32) (tt : Int64) (km fi nx fm th : Int32) (P : List mI) (w : g_H) (hP : mPr D w mf P) (nM : ∀ k, k ∈ [0, 1, 2, 3] → ¬ (mf k = y ∨ mf k = mf 14 ∨ mf k = mf 15)) (N : Nat) (hN : N ≤ 3) (CF SF : Nat) (hRc : CF ≤ R.cells) (hRs : SF ≤ R.slots) (v9 cF : Nat) (hv9 : v9 < 3) (n : Nat) (hn : n ≤ N) (rest : List (List Nat))
    (kk : ∀ (cn9 : Nat) (en : Int32) (td : Int32) (st : Int32) (E : Nat → Bool) (w1 : g_H) (cells : Nat) (slots : Nat) (H : Heap) (locs : List Loc) (ls : Array Slot), cn9 + cCount P v9 (rest) = cF → cells + 4 * (rest).length ≤ CF → slots + 27 * (rest).length ≤ SF → g_ex (fun q => q = y ∨ q = mf 14 ∨ q = mf 15) w w1 → g_at w1 y (.inr (10, mO mf (nI P.length) (cn) (en) (td) (st) (rn) (tt) (km) (fi) (nx) (fm) (th))) → mRw D w1 mf E → g_W D A s.heap H locs w1 → lv_has ls 6 [(0, .ref y), (1, .ref (D.2 1003 v9)), (2, .int (nI N)), (3, .int (nI cn9)), (4, .int (nI n))] → W p l e R s m args below meth c H locs cells slots Q (F0 m 99 ls [])) :
    ∀ (k : Nat) (j : Nat) (cn9 : Nat) (en : Int32) (td : Int32) (st : Int32) (E : Nat → Bool) (w1 : g_H) (cells : Nat) (slots : Nat) (H : Heap) (locs : List Loc) (ls : Array Slot), 8 ^ n < j + k → j ≤ 8 ^ n → cn9 + cCount P v9 (octR n j ++ rest) = cF → cells + 4 * (octR n j ++ rest).length ≤ CF → slots + 27 * (octR n j ++ rest).length ≤ SF → g_ex (fun q => q = y ∨ q = mf 14 ∨ q = mf 15) w w1 → g_at w1 y (.inr (10, mO mf (nI P.length) (cn) (en) (td) (st) (rn) (tt) (km) (fi) (nx) (fm) (th))) → mRw D w1 mf E → g_W D A s.heap H locs w1 → lv_has ls 6 [(5, .int (nI j)), (0, .ref y), (1, .ref (D.2 1003 v9)), (2, .int (nI N)), (3, .int (nI cn9)), (4, .int (nI n))] → W p l e R s m args below meth c H locs cells slots Q (F0 m 53 ls []) := by
  intro k
  induction k with
  | zero => intro j cn9 en td st E w1 cells slots H locs ls hfuel hj hcn hcl hsl hex hy hR hW hl; exact absurd hfuel (by omega)
  | succ k ih =>
    intro j cn9 en td st E w1 cells slots H locs ls hfuel hj hcn hcl hsl hex hy hR hW hl
    have hp8 := p8_le (n := n) (by omega)
    refine lv_iload hx hb dX3_count_53 (lv_at hl 0 rfl) ?_
    refine lv_iload hx hb dX3_count_55 (lv_at hl 5 rfl) ?_
    refine g_calli (va_runS (As := [.int (nI n)]) (rest := [.int (nI j)]) ⟨hx, hb, hml, hown, hts⟩ (mtX3_inputMany l D w1 H.size n (by omega)) (va_cwS 1 hts (lw_S q2191 q2192 q47 q2193) rfl rfl rfl (by decide +kernel) ⟨Nat.le_trans (Nat.le_of_ble_eq_true rfl) hRf, Nat.le_trans (Nat.le_of_ble_eq_true rfl) hRl⟩) (g_preS hW hK hE) rfl rfl hl.1 rfl (lv_room (Nat.le_of_ble_eq_true rfl)) dX3_count_57 ⟨?_, ?_⟩) hW (fun r_ u_ H locs hp hW => ?_)
    · (try simp only [headSpec]); omega
    · (try simp only [headSpec]); omega
    obtain ⟨er, rfl⟩ := hp
    subst er
    refine g_icmp_ge (x := j) (y := 8 ^ n) (tgt := 99) hx hb (by omega) (by omega) dX3_count_60 (by decide) (fun hc => ?_) (fun hc => ?_)
    · rw [octR_end (by omega), List.nil_append] at hcn hcl hsl
      exact kk cn9 en td st E w1 cells slots H locs ls hcn hcl hsl hex hy hR hW (lv_sub hl [1, 2, 3, 4, 5] rfl)
    · rw [octR_cons hc, List.cons_append] at hcn hcl hsl
      unfold cCount at hcn
      rw [List.length_cons] at hcl hsl
      refine lv_aload_n hx hb dX3_count_63 rfl (lv_at hl 1 rfl) ?_
      refine lv_iload hx hb dX3_count_64 (lv_at hl 5 rfl) ?_
      refine lv_iload hx hb dX3_count_66 (lv_at hl 0 rfl) ?_
      refine g_callq (va_runS (As := [.int (nI n), .int (nI j)]) (rest := [.ref y]) ⟨hx, hb, hml, hown, hts⟩ (mtX3_inputAt l D w1 H.size n j (by omega) (by omega)) (va_cwS 2 hts (lw_S q2194 q2195 q47 q2196) rfl rfl rfl (by decide +kernel) ⟨Nat.le_trans (Nat.le_of_ble_eq_true rfl) hRf, Nat.le_trans (Nat.le_of_ble_eq_true rfl) hRl⟩) (g_preS hW hK hE) rfl rfl hl.1 rfl (lv_room (Nat.le_of_ble_eq_true rfl)) dX3_count_68 ⟨?_, ?_⟩) hW (fun r_ u1 H locs hp hW => ?_)
      · (try simp only [headSpec]); omega
      · (try simp only [headSpec]); omega
      obtain ⟨s9, er, fs, hs9, hx9⟩ := hp
      subst er
      have hexu := hex.tr (hx9.mono (fun _ _ z => z.elim))
      have hyu := hx9.at hy (fun z => z.elim)
      have hRu := hR.ex hx9 (fun z => z.elim) (fun z => z.elim)
      have hPu := hP.ex hexu nM
      refine g_callv (va_runV (As := [.ref s9]) (rest := []) ⟨hx, hb, hml, hown, hts⟩ (mtX3_runs l D u1 H.size y mf lab hL hly cn en td st rn tt km fi nx fm th P E hyu hPu hRu s9 (txt (oct n j)) hs9 (txt_kHas (oct_sDg (by omega)))) (cwV 1 hts (lw_V q2037 q2039 qs26 q47 q2040) rfl rfl rfl (by decide +kernel) ⟨Nat.le_trans (Nat.le_of_ble_eq_true rfl) hRf, Nat.le_trans (Nat.le_of_ble_eq_true rfl) hRl⟩) (g_preV hW hK hE hyu rfl) rfl rfl hl.1 rfl (lv_room (Nat.le_of_ble_eq_true rfl)) dX3_count_71 ⟨?_, ?_⟩) hW (fun u2 H locs hp hW => ?_)
      · (try simp only [headSpec]); omega
      · (try simp only [headSpec]); omega
      obtain ⟨hy2, hR2, hx2⟩ := hp
      rw [digs_txt2] at hy2 hR2
      have hexv := hexu.tr hx2
      have hv3 := mOut_lt (P := P) (xs := oct n j)
      refine lv_iload_n hx hb dX3_count_74 rfl (lv_at hl 4 rfl) ?_
      refine lv_aload_n hx hb dX3_count_75 rfl (lv_at hl 1 rfl) ?_
      refine g_get (ci := 10) (v := .int (nI (mOut P (oct n j)).1)) (C := RX3) (T := TX3) (N := 28) hx hb hts in_X3 hown hK hW hy2 rfl 11 (by decide) q1895 (fun _ h9 => h9) rfl dX3_count_76 ?_
      refine g_callq (va_runS (As := [.int (nI (mOut P (oct n j)).1)]) (rest := [.int (nI cn9)]) ⟨hx, hb, hml, hown, hts⟩ (mtX3_verdictOf l D u2 H.size (mOut P (oct n j)).1 hv3) (va_cwS 1 hts (lw_S q2153 q2154 q47 q2155) rfl rfl rfl (by decide +kernel) ⟨Nat.le_trans (Nat.le_of_ble_eq_true rfl) hRf, Nat.le_trans (Nat.le_of_ble_eq_true rfl) hRl⟩) (g_preS hW hK hE) rfl rfl hl.1 rfl (lv_room (Nat.le_of_ble_eq_true rfl)) dX3_count_79 ⟨?_, ?_⟩) hW (fun r_ u_ H locs hp hW => ?_)
      · (try simp only [headSpec]); omega
      · (try simp only [headSpec]); omega
      obtain ⟨er, rfl⟩ := hp
      subst er
      refine lv_aload_n hx hb dX3_count_82 rfl (lv_at hl 2 rfl) ?_
      refine lv_acmp_ne (rx := some (D.2 1003 (mOut P (oct n j)).1)) (ry := some (D.2 1003 v9)) (tgt := 90) hx hb dX3_count_83 (by decide) (fun hc => ?_) (fun hc => ?_)
      · rw [if_neg (fun z => hc (by rw [z]))] at hcn
        refine lv_iconst (v := 0) hx hb dX3_count_90 (by decide) ?_
        refine lv_iadd hx hb dX3_count_91 ?_
        refine g_topi (y := nI (cn9 + 0)) (by rw [Nat.add_zero]; exact Int32.add_zero _) ?_
        refine lv_istore_n (lv' := [(3, .int (nI (cn9 + 0))), (5, .int (nI j)), (0, .ref y), (1, .ref (D.2 1003 v9)), (2, .int (nI N)), (4, .int (nI n))]) hx hb dX3_count_92 rfl hl (by decide) rfl (fun ls hl => ?_)
        refine lv_iinc (v := nI (j + 1)) (lv' := [(5, .int (nI (j + 1))), (3, .int (nI (cn9 + 0))), (0, .ref y), (1, .ref (D.2 1003 v9)), (2, .int (nI N)), (4, .int (nI n))]) hx hb dX3_count_93 hl (k := 1) rfl (nI_1 j) (by decide) rfl (fun ls hl => ?_)
        refine lv_goto (tgt := 53) hx hb dX3_count_96 (by decide) ?_
        exact ih (j + 1) (cn9 + 0) _ _ _ _ u2 _ _ H locs ls (by omega) (by omega) (by omega) (by omega) (by omega) hexv hy2 hR2 hW (lv_sub hl [0, 2, 3, 4, 1, 5] rfl)
      · have hv1 : (mOut P (oct n j)).1 = v9 := g_vdI hE mOut_lt hv9 (Option.some.inj (by first | exact hc | exact Classical.not_not.mp hc))
        rw [if_pos hv1] at hcn
        refine lv_iconst (v := 1) hx hb dX3_count_86 (by decide) ?_
        refine lv_goto (tgt := 91) hx hb dX3_count_87 (by decide) ?_
        refine lv_iadd hx hb dX3_count_91 ?_
        refine g_topi (y := nI (cn9 + 1)) (nI_1 cn9) ?_
        refine lv_istore_n (lv' := [(3, .int (nI (cn9 + 1))), (5, .int (nI j)), (0, .ref y), (1, .ref (D.2 1003 v9)), (2, .int (nI N)), (4, .int (nI n))]) hx hb dX3_count_92 rfl hl (by decide) rfl (fun ls hl => ?_)
        refine lv_iinc (v := nI (j + 1)) (lv' := [(5, .int (nI (j + 1))), (3, .int (nI (cn9 + 1))), (0, .ref y), (1, .ref (D.2 1003 v9)), (2, .int (nI N)), (4, .int (nI n))]) hx hb dX3_count_93 hl (k := 1) rfl (nI_1 j) (by decide) rfl (fun ls hl => ?_)
        refine lv_goto (tgt := 53) hx hb dX3_count_96 (by decide) ?_
        exact ih (j + 1) (cn9 + 1) _ _ _ _ u2 _ _ H locs ls (by omega) (by omega) (by omega) (by omega) (by omega) hexv hy2 hR2 hW (lv_sub hl [0, 2, 3, 4, 1, 5] rfl)
set_option maxHeartbeats 4000000 in
set_option maxRecDepth 100000 in
/-- Model.count: its loop -/
theorem lpX3_count2 {p : Program} {l : Launch} {e : Env} {R : Room} {s : State} {m : MethodId} {args : Array Value} {below : List Frame} {meth : Method} {c : Code} {Q : State → Prop} {D : va_G} {A : Nat → Prop} (hx : p.tables.exec = Jvm.exec) (hb : c.code = cX3_count) (hts : ∀ w ∈ lw_all, w.before args s = true) (hown : s.vm.findClass RX3 = some m.cls) (hK : va_K D gCl (gT D) s) (hE : g_Env D A s) (hml : c.maxLocals = 6) (hRf : 8 ≤ R.frames) (hRl : 214 ≤ R.locals) (y : Nat) (mf : Nat → Nat) (lab : Nat → Nat) (hL : mLab lab mf) (hly : lab y = 20) (cn rn : Int32) (tt : Int64) (km fi nx fm : Int32) (P : List mI) (w : g_H) (hP : mPr D w mf P) (nM : ∀ k, k ∈ [0, 1, 2, 3] → ¬ (mf k = y ∨ mf k = mf 14 ∨ mf k = mf 15)) (N : Nat) (hN : N ≤ 3) (CF SF : Nat) (hRc : CF ≤ R.cells) (hRs : SF ≤ R.slots) (v9 cF : Nat) (hv9 : v9 < 3)
    (kk : ∀ (en td st : Int32) (E : Nat → Bool) (w1 : g_H) (cells slots : Nat) (H : Heap) (locs : List Loc) (ls : Array Slot), cells ≤ CF → slots ≤ SF → g_ex (fun q => q = y ∨ q = mf 14 ∨ q = mf 15) w w1 → g_at w1 y (.inr (10, mO mf (nI P.length) (cn) (en) (td) (st) (rn) (tt) (km) (fi) (nx) (fm) (0))) → mRw D w1 mf E → g_W D A s.heap H locs w1 → lv_has ls 6 [(3, .int (nI cF))] → W p l e R s m args below meth c H locs cells slots Q (F0 m 105 ls [])) :
    ∀ (k : Nat) (n : Nat) (cn9 : Nat) (en : Int32) (td : Int32) (st : Int32) (E : Nat → Bool) (w1 : g_H) (cells : Nat) (slots : Nat) (H : Heap) (locs : List Loc) (ls : Array Slot), N + 1 < n + k → n ≤ N + 1 → cn9 + cCount P v9 (octs n N) = cF → cells + 4 * (octs n N).length ≤ CF → slots + 27 * (octs n N).length ≤ SF → g_ex (fun q => q = y ∨ q = mf 14 ∨ q = mf 15) w w1 → g_at w1 y (.inr (10, mO mf (nI P.length) (cn) (en) (td) (st) (rn) (tt) (km) (fi) (nx) (fm) (0))) → mRw D w1 mf E → g_W D A s.heap H locs w1 → lv_has ls 6 [(4, .int (nI n)), (0, .ref y), (1, .ref (D.2 1003 v9)), (2, .int (nI N)), (3, .int (nI cn9))] → W p l e R s m args below meth c H locs cells slots Q (F0 m 37 ls []) := by
  intro k
  induction k with
  | zero => intro n cn9 en td st E w1 cells slots H locs ls hfuel hn hcn hcl hsl hex hy hR hW hl; exact absurd hfuel (by omega)
  | succ k ih =>
    intro n cn9 en td st E w1 cells slots H locs ls hfuel hn hcn hcl hsl hex hy hR hW hl
    refine lv_iload hx hb dX3_count_37 (lv_at hl 0 rfl) ?_
    refine lv_iload_n hx hb dX3_count_39 rfl (lv_at hl 3 rfl) ?_
    refine g_icmp_gt (x := n) (y := N) (tgt := 105) hx hb (by omega) (by omega) dX3_count_40 (by decide) (fun hc => ?_) (fun hc => ?_)
    · rw [octs_end (by omega)] at hcn hcl hsl
      have hcn2 : cn9 = cF := hcn
      subst hcn2
      exact kk en td st E w1 cells slots H locs ls (Nat.le_trans (Nat.le_add_right _ _) hcl) (Nat.le_trans (Nat.le_add_right _ _) hsl) hex hy hR hW (lv_sub hl [4] rfl)
    · rw [octs_cons (by omega)] at hcn hcl hsl
      refine lv_aload_n hx hb dX3_count_43 rfl (lv_at hl 1 rfl) ?_
      refine g_get (ci := 10) (v := .int (0)) (C := RX3) (T := TX3) (N := 28) hx hb hts in_X3 hown hK hW hy rfl 27 (by decide) q1911 (fun _ h9 => h9) rfl dX3_count_44 ?_
      refine lv_if_ne (tgt := 105) hx hb dX3_count_47 (by decide) (fun hz => absurd rfl hz) (fun _ => ?_)
      refine lv_iconst (v := 0) hx hb dX3_count_50 (by decide) ?_
      refine lv_istore (lv' := [(5, .int (0)), (4, .int (nI n)), (0, .ref y), (1, .ref (D.2 1003 v9)), (2, .int (nI N)), (3, .int (nI cn9))]) hx hb dX3_count_51 hl (by decide) rfl (fun ls hl => ?_)
      refine lpX3_count1 (D := D) hx hb hts hown hK hE hml (Nat.le_trans (Nat.le_of_ble_eq_true rfl) hRf) (Nat.le_trans (Nat.le_of_ble_eq_true rfl) hRl) y mf lab hL hly cn rn tt km fi nx fm 0 P w hP nM N hN CF SF hRc hRs v9 cF hv9 n (by omega) (octs (n + 1) N) (fun cn2 en2 td2 st2 E2 w2 cells slots H locs ls hcn2 hcl2 hsl2 hex2 hy2 hR2 hW hl => ?_) (8 ^ n + 1) 0 cn9 en td st E w1 _ _ H locs ls (by omega) (Nat.zero_le _) hcn hcl hsl hex hy hR hW (lv_sub hl [0, 2, 3, 4, 5, 1] rfl)
      refine lv_iinc (v := nI (n + 1)) (lv' := [(4, .int (nI (n + 1))), (0, .ref y), (1, .ref (D.2 1003 v9)), (2, .int (nI N)), (3, .int (nI cn2))]) hx hb dX3_count_99 hl (k := 4) rfl (nI_1 n) (by decide) rfl (fun ls hl => ?_)
      refine lv_goto (tgt := 37) hx hb dX3_count_102 (by decide) ?_
      exact ih (n + 1) cn2 en2 td2 st2 E2 w2 cells slots H locs ls (by omega) (by omega) hcn2 hcl2 hsl2 hex2 hy2 hR2 hW (lv_sub hl [0, 1, 2, 3, 4] rfl)
set_option maxHeartbeats 4000000 in
set_option maxRecDepth 100000 in
/-- Model.count -/
theorem mtX3_count (l : Launch) (D : va_G) (w : g_H) (sz : Nat) (y : Nat) (mf : Nat → Nat) (lab : Nat → Nat) (P : List mI) (C : List yC) (A9 : Nat → List (List Nat)) (cov : Nat → Bool) (K : List (List Nat)) (fq ac : Nat) (F : List yF) (rn tt cK : Nat) (en td st : Int32) (E : Nat → Bool) (th : Int32) (hZ : g_MZ D w lab y mf P C A9 cov K fq ac F rn tt cK en td st E th) (v9 : Nat) (n9 : Int32) (hv9 : v9 < 3) : Met l yX3_count (ws_ yX3_count cX3_count 6 (some .int)) ({ frames := 8, cells := 4 * ocN n9, slots := 27 * ocN n9, locals := 214 }) (g_Pc D [.ref y, .ref (D.2 1003 v9), .int (n9)] w sz) (g_Qi D w sz (fun r u => ((0 ≤ n9 ∧ n9 ≤ 3) → r = nI (cCount P v9 (octs 0 n9.toNatClampNeg))) ∧ (∃ en2 td2 st2 E2, g_MZ D u lab y mf P C A9 cov K fq ac F rn tt cK en2 td2 st2 E2 (thN n9)) ∧ zCh w lab u lab)) (4 * ocN n9) (27 * ocN n9) (g_A w sz) := by
  refine Met.ofW (cc := cX3_count) (maxL := 6) (ret := (some .int)) (by decide) rfl ?_
  intro p e s m args below meth c s₁ B hml hv
  obtain ⟨rfl, hI⟩ := hv
  have hx := B.exec
  have hb := B.bytes
  have hr := B.returns
  have hts := atoms_spec (ws := ws_ yX3_count cX3_count 6 (some .int)) B.pre
  have hts : ∀ w ∈ lw_all, w.before _ s = true := fun w h => hts w (List.mem_cons_of_mem _ h)
  have hown : s.vm.findClass RX3 = some m.cls := findClass_of_methodNamed B.named
  have hlocks := B.notSynchronized
  have hsz := hI.1
  subst hsz
  have hW := g_W.start hI
  have hK := g_K hI
  have hE := g_E hI
  have hl := lv_entry ([.ref y, .ref (D.2 1003 v9), .int (n9)]) (n := 6) (by exact Nat.le_of_ble_eq_true rfl)
  rw [lg_entry_eq]
  generalize (lg_sl ([.ref y, .ref (D.2 1003 v9), .int (n9)]) ++ List.replicate (6 - (lg_sl ([.ref y, .ref (D.2 1003 v9), .int (n9)])).length) Slot.unset).toArray = ls at hl ⊢
  have hl : lv_has ls 6 [(0, .ref y), (1, .ref (D.2 1003 v9)), (2, .int (n9))] := hl
  obtain ⟨hy, ⟨hly, hL⟩, hP, hR, hC0, hA0, hV0, hK0, hF0, hb9⟩ := id hZ
  have x_1 : g_ex (fun q => q = y) w w := g_ex.rf
  refine lv_aload_n hx hb dX3_count_0 rfl (lv_at hl 0 rfl) ?_
  refine lv_iload_n hx hb dX3_count_1 rfl (lv_at hl 2 rfl) ?_
  refine lv_i2l (v := (n9 : Int32).toInt64) hx hb dX3_count_2 rfl ?_
  refine lv_lconst (v := 0) hx hb dX3_count_3 rfl ?_
  refine lv_ldc2 hx hb hown (hts _ q1979) dX3_count_4 ?_
  refine g_calli (va_runS (As := [.long ((n9 : Int32).toInt64), .long (0), .long (3)]) (rest := [.ref y]) ⟨hx, hb, hml, hown, hts⟩ (mtX3_in l D w s.heap.size (n9 : Int32).toInt64 (0) (3)) (va_cwS 3 hts (lw_S q1980 q1981 q47 q1982) rfl rfl rfl (by decide +kernel) ⟨Nat.le_of_ble_eq_true rfl, Nat.le_of_ble_eq_true rfl⟩) (g_preS hW hK hE) rfl rfl hl.1 rfl (lv_room (Nat.le_of_ble_eq_true rfl)) dX3_count_7 ⟨Nat.le_of_ble_eq_true rfl, Nat.le_of_ble_eq_true rfl⟩) hW (fun r_ u_ H locs hp hW => ?_)
  obtain ⟨er, rfl⟩ := hp
  subst er
  by_cases hq9 : (0 : Int64) ≤ (n9 : Int32).toInt64 ∧ (n9 : Int32).toInt64 ≤ 3
  · rw [if_pos hq9]
    refine lv_if_eq (tgt := 17) hx hb dX3_count_10 (by decide) (fun hz => absurd hz (by decide)) (fun _ => ?_)
    have hin : (0 : Int32) ≤ n9 ∧ n9 ≤ 3 := (i2l_in rfl rfl).mp hq9
    clear hq9
    have eN : ocN n9 = (octs 0 n9.toNatClampNeg).length := if_pos hin
    have eT : thN n9 = 0 := if_pos hin
    obtain ⟨N, eN9, hN, eC⟩ := n3_n hin
    subst eN9
    rw [eC] at eN ⊢
    refine lv_iconst (v := 0) hx hb dX3_count_13 (by decide) ?_
    refine lv_goto (tgt := 18) hx hb dX3_count_14 (by decide) ?_
    refine g_putf (ci := 10) (v := .int (0)) (ty := .int) (C := RX3) (T := TX3) (N := 28) hx hb hts in_X3 tyX3 tyX3_ok nmX3 hown hK hW hy rfl 27 (by decide) q1911 (fun _ h9 => h9) rfl (by decide +kernel) rfl rfl (Nat.le_of_ble_eq_true rfl) dX3_count_18 (fun H locs hW => ?_)
    obtain ⟨w_2, ew_2⟩ : ∃ z__, z__ = g_put w y (.inr (10, mO mf (nI P.length) (nI C.length) (en) (td) (st) (nI rn) (lN tt) (nI K.length) (nI fq) (nI ac) (nI F.length) (0))) := ⟨_, rfl⟩
    have hW := g_W.ren hW ew_2 rfl
    have h_3 : g_at w_2 y (.inr (10, mO mf (nI P.length) (nI C.length) (en) (td) (st) (nI rn) (lN tt) (nI K.length) (nI fq) (nI ac) (nI F.length) (0))) := by rw [ew_2]; exact g_at.put_self hy.1
    have x_4 : g_ex (fun q => q = y) w w_2 := by rw [ew_2]; exact x_1.put (fun hz9 => rfl)
    have hZ1 := hZ.obj (rn2 := rn) (tt2 := tt) (fq2 := fq) (ac2 := ac) h_3 x_4 hb9.2.1 hb9.2.2.1 hb9.2.2.2.1 hb9.2.2.2.2
    have hz1 := hZ.zobj x_4
    refine lv_aload_n hx hb dX3_count_21 rfl (lv_at hl 0 rfl) ?_
    refine g_get (ci := 10) (v := .int (0)) (C := RX3) (T := TX3) (N := 28) hx hb hts in_X3 hown hK hW h_3 rfl 27 (by decide) q1911 (fun _ h9 => h9) rfl dX3_count_22 ?_
    refine lv_if_ne (tgt := 32) hx hb dX3_count_25 (by decide) (fun hz => absurd rfl hz) (fun _ => ?_)
    refine lv_iconst (v := 0) hx hb dX3_count_28 (by decide) ?_
    refine lv_goto (tgt := 33) hx hb dX3_count_29 (by decide) ?_
    refine lv_istore_n (lv' := [(3, .int (0)), (0, .ref y), (1, .ref (D.2 1003 v9)), (2, .int (nI N))]) hx hb dX3_count_33 rfl hl (by decide) rfl (fun ls hl => ?_)
    refine lv_iconst (v := 0) hx hb dX3_count_34 (by decide) ?_
    refine lv_istore (lv' := [(4, .int (0)), (3, .int (0)), (0, .ref y), (1, .ref (D.2 1003 v9)), (2, .int (nI N))]) hx hb dX3_count_35 hl (by decide) rfl (fun ls hl => ?_)
    refine lpX3_count2 (D := D) hx hb hts hown hK hE hml (Nat.le_of_ble_eq_true rfl) (Nat.le_of_ble_eq_true rfl) y mf lab hL hly (nI C.length) (nI rn) (lN tt) (nI K.length) (nI fq) (nI ac) (nI F.length) P w_2 hZ1.2.2.1 (mNo hL hly) N hN (4 * ocN (nI N)) (27 * ocN (nI N)) ?_ ?_ v9 (cCount P v9 (octs 0 N)) hv9 (fun en2 td2 st2 E2 w2 cells slots H locs ls hcl hsl hex2 hy2 hR2 hW hl => ?_) (N + 2) 0 0 en td st E w_2 _ _ _ _ ls (by omega) (by omega) (by omega) (by rw [eN]; omega) (by rw [eN]; omega) g_ex.rf h_3 hZ1.2.2.2.1 hW (lv_sub hl [0, 2, 3, 4, 1] rfl)
    · (try simp only [headSpec]); omega
    · (try simp only [headSpec]); omega
    refine lv_iload_n hx hb dX3_count_105 rfl (lv_at hl 0 rfl) ?_
    have hZ4 := hZ1.run hK hy2 hR2 hex2
    exact g_iret (v := nI (cCount P v9 (octs 0 N))) hx hb hr hlocks hW (⟨fun _ => rfl, ⟨_, _, _, _, by rw [eT]; exact hZ4⟩, hz1.tr (hZ1.zrun hex2)⟩) (by omega) (by omega) dX3_count_106
  · rw [if_neg hq9]
    refine lv_if_eq (tgt := 17) hx hb dX3_count_10 (by decide) (fun _ => ?_) (fun hz => absurd rfl hz)
    have hin : ¬ ((0 : Int32) ≤ n9 ∧ n9 ≤ 3) := fun z => hq9 ((i2l_in rfl rfl).mpr z)
    clear hq9
    have eT : thN n9 = 1 := if_neg hin
    refine lv_iconst (v := 1) hx hb dX3_count_17 (by decide) ?_
    refine g_putf (ci := 10) (v := .int (1)) (ty := .int) (C := RX3) (T := TX3) (N := 28) hx hb hts in_X3 tyX3 tyX3_ok nmX3 hown hK hW hy rfl 27 (by decide) q1911 (fun _ h9 => h9) rfl (by decide +kernel) rfl rfl (Nat.le_of_ble_eq_true rfl) dX3_count_18 (fun H locs hW => ?_)
    obtain ⟨w_5, ew_5⟩ : ∃ z__, z__ = g_put w y (.inr (10, mO mf (nI P.length) (nI C.length) (en) (td) (st) (nI rn) (lN tt) (nI K.length) (nI fq) (nI ac) (nI F.length) (1))) := ⟨_, rfl⟩
    have hW := g_W.ren hW ew_5 rfl
    have h_6 : g_at w_5 y (.inr (10, mO mf (nI P.length) (nI C.length) (en) (td) (st) (nI rn) (lN tt) (nI K.length) (nI fq) (nI ac) (nI F.length) (1))) := by rw [ew_5]; exact g_at.put_self hy.1
    have x_7 : g_ex (fun q => q = y) w w_5 := by rw [ew_5]; exact x_1.put (fun hz9 => rfl)
    have hZ1 := hZ.obj (rn2 := rn) (tt2 := tt) (fq2 := fq) (ac2 := ac) h_6 x_7 hb9.2.1 hb9.2.2.1 hb9.2.2.2.1 hb9.2.2.2.2
    have hz1 := hZ.zobj x_7
    refine lv_aload_n hx hb dX3_count_21 rfl (lv_at hl 0 rfl) ?_
    refine g_get (ci := 10) (v := .int (1)) (C := RX3) (T := TX3) (N := 28) hx hb hts in_X3 hown hK hW h_6 rfl 27 (by decide) q1911 (fun _ h9 => h9) rfl dX3_count_22 ?_
    refine lv_if_ne (tgt := 32) hx hb dX3_count_25 (by decide) (fun _ => ?_) (fun hz => absurd (by first | exact hz | exact Classical.not_not.mp hz) (by decide))
    refine lv_iconst (v := (-1)) hx hb dX3_count_32 (by decide) ?_
    refine lv_istore_n (lv' := [(3, .int ((-1))), (0, .ref y), (1, .ref (D.2 1003 v9)), (2, .int (n9))]) hx hb dX3_count_33 rfl hl (by decide) rfl (fun ls hl => ?_)
    refine lv_iconst (v := 0) hx hb dX3_count_34 (by decide) ?_
    refine lv_istore (lv' := [(4, .int (0)), (3, .int ((-1))), (0, .ref y), (1, .ref (D.2 1003 v9)), (2, .int (n9))]) hx hb dX3_count_35 hl (by decide) rfl (fun ls hl => ?_)
    refine lv_iload hx hb dX3_count_37 (lv_at hl 0 rfl) ?_
    refine lv_iload_n hx hb dX3_count_39 rfl (lv_at hl 4 rfl) ?_
    refine lv_icmp_gt (tgt := 105) hx hb dX3_count_40 (by decide) (fun hc => ?_) (fun hc => ?_)
    · refine lv_iload_n hx hb dX3_count_105 rfl (lv_at hl 1 rfl) ?_
      exact g_iret (v := (-1)) hx hb hr hlocks hW (⟨fun z => absurd z hin, ⟨_, _, _, _, by rw [eT]; exact hZ1⟩, hz1⟩) (by omega) (by omega) dX3_count_106
    · refine lv_aload_n hx hb dX3_count_43 rfl (lv_at hl 2 rfl) ?_
      refine g_get (ci := 10) (v := .int (1)) (C := RX3) (T := TX3) (N := 28) hx hb hts in_X3 hown hK hW h_6 rfl 27 (by decide) q1911 (fun _ h9 => h9) rfl dX3_count_44 ?_
      refine lv_if_ne (tgt := 105) hx hb dX3_count_47 (by decide) (fun _ => ?_) (fun hz => absurd (by first | exact hz | exact Classical.not_not.mp hz) (by decide))
      refine lv_iload_n hx hb dX3_count_105 rfl (lv_at hl 1 rfl) ?_
      exact g_iret (v := (-1)) hx hb hr hlocks hW (⟨fun z => absurd z hin, ⟨_, _, _, _, by rw [eT]; exact hZ1⟩, hz1⟩) (by omega) (by omega) dX3_count_106
