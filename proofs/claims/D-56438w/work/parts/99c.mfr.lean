/-! the model: failingReductions *
-/
set_option maxRecDepth 100000
theorem cFail_app {P : List mI} {c : Int32} : ∀ (a b : List (List Nat)), cFail P c (a ++ b) = cFail P c a + cFail P c b
  | [], b => by show cFail P c b = 0 + cFail P c b; omega
  | x :: a, b => by
    show (if mFails P x c = true then 1 else 0) + cFail P c (a ++ b) = (if mFails P x c = true then 1 else 0) + cFail P c a + cFail P c b
    rw [cFail_app a b]; omega
theorem cFail_fr {P : List mI} {c : Int32} {xs : List Nat} : ∀ (n i : Nat), xs.length ≤ i + n → cFail P c (frC xs i) = cFail P c (delC xs i) + cFail P c (repC xs i) := by
  intro n
  induction n with
  | zero =>
    intro i h
    rw [frC_end (by omega), delC_end (by omega), show repC xs i = [] by unfold repC; rw [rng_end (by omega)]; rfl]
    rfl
  | succ n ih =>
    intro i h
    by_cases hi : i < xs.length
    · rw [frC_cons hi, delC_cons hi, repC_cons hi, show ∀ (a : List Nat) b, cFail P c (a :: b) = (if mFails P a c = true then 1 else 0) + cFail P c b from fun _ _ => rfl, show ∀ (a : List Nat) b, cFail P c (a :: b) = (if mFails P a c = true then 1 else 0) + cFail P c b from fun _ _ => rfl, cFail_app, cFail_app, ih (i + 1) (by omega)]
      omega
    · rw [frC_end (by omega), delC_end (by omega), show repC xs i = [] by unfold repC; rw [rng_end (by omega)]; rfl]
      rfl
theorem cFail_red {P : List mI} {c : Int32} {xs : List Nat} : cFail P c (frC xs 0) = cFail P c (redL xs) := by rw [cFail_fr xs.length 0 (by omega), ← cFail_app]; rfl
theorem cFail_cons {P : List mI} {c : Int32} {y : List Nat} {ys : List (List Nat)} : cFail P c (y :: ys) = (if mFails P y c = true then 1 else 0) + cFail P c ys := rfl
theorem cFail_le {P : List mI} {c : Int32} : ∀ {ys : List (List Nat)}, cFail P c ys ≤ ys.length
  | [] => Nat.le_refl _
  | y :: ys => by rw [cFail_cons, List.length_cons]; have := cFail_le (P := P) (c := c) (ys := ys); split <;> omega
/-- the tries of failingReductions -/
noncomputable def frN (P : List mI) (t : List Nat) : Nat := if inB t = true ∧ (mOut P (digs t)).1 = 1 then sMs (digs t) else 0
set_option maxHeartbeats 4000000 in
set_option maxRecDepth 100000 in
/-- Model.failingReductions: its loop -/
theorem lpX3_fr {p : Program} {l : Launch} {e : Env} {R : Room} {s : State} {m : MethodId} {args : Array Value} {below : List Frame} {meth : Method} {c : Code} {Q : State → Prop} {D : va_G} {A : Nat → Prop} (hx : p.tables.exec = Jvm.exec) (hb : c.code = cX3_failingReductions) (hts : ∀ w ∈ lw_all, w.before args s = true) (hown : s.vm.findClass RX3 = some m.cls) (hK : va_K D gCl (gT D) s) (hE : g_Env D A s) (hml : c.maxLocals = 5) (hRf : 9 ≤ R.frames) (hRl : 238 ≤ R.locals) (y : Nat) (mf : Nat → Nat) (lab : Nat → Nat) (hL : mLab lab mf) (hly : lab y = 20) (cn rn : Int32) (tt : Int64) (km fi nx fm th : Int32) (P : List mI) (w : g_H) (hP : mPr D w mf P) (nM : ∀ k, k ∈ [0, 1, 2, 3] → ¬ (mf k = y ∨ mf k = mf 14 ∨ mf k = mf 15)) (sp : Nat) (xs : List Nat) (hxs : sDg xs) (hkp : ∀ w1, g_ex (fun q => q = y ∨ q = mf 14 ∨ q = mf 15) w w1 → g_Str D w1 sp (txt xs)) (c9 : Int32) (cF c0 s0 : Nat) (hcF : cF ≤ 64) (hRc : c0 + 4 * sMs xs ≤ R.cells) (hRs : s0 + 32 * sMs xs ≤ R.slots)
    (kk : ∀ (en td st : Int32) (E : Nat → Bool) (w2 : g_H) (cells slots : Nat) (H : Heap) (locs : List Loc) (ls : Array Slot), g_ex (fun q => q = y ∨ q = mf 14 ∨ q = mf 15) w w2 → g_at w2 y (.inr (10, mO mf (nI P.length) (cn) (en) (td) (st) (rn) (tt) (km) (fi) (nx) (fm) (th))) → mRw D w2 mf E → cells ≤ c0 + 4 * sMs xs → slots ≤ s0 + 32 * sMs xs → g_W D A s.heap H locs w2 → lv_has ls 5 [(3, .int (nI cF))] → W p l e R s m args below meth c H locs cells slots Q (F0 m 57 ls [])) :
    ∀ (k : Nat) (i : Nat) (cn9 : Nat) (en : Int32) (td : Int32) (st : Int32) (E : Nat → Bool) (w1 : g_H) (cells : Nat) (slots : Nat) (H : Heap) (locs : List Loc) (ls : Array Slot), sMs xs < i + k → i ≤ sMs xs → cn9 + cFail P c9 ((redL xs).drop i) = cF → g_ex (fun q => q = y ∨ q = mf 14 ∨ q = mf 15) w w1 → g_at w1 y (.inr (10, mO mf (nI P.length) (cn) (en) (td) (st) (rn) (tt) (km) (fi) (nx) (fm) (th))) → mRw D w1 mf E → cells ≤ c0 + 4 * i → slots ≤ s0 + 32 * i → g_W D A s.heap H locs w1 → lv_has ls 5 [(0, .ref y), (1, .ref sp), (2, .int (c9)), (3, .int (nI cn9)), (4, .int (nI i))] → W p l e R s m args below meth c H locs cells slots Q (F0 m 20 ls []) := by
  intro k
  induction k with
  | zero => intro i cn9 en td st E w1 cells slots H locs ls hfuel hi hcn hex hy hR hcl hsl hW hl; exact absurd hfuel (by omega)
  | succ k ih =>
    intro i cn9 en td st E w1 cells slots H locs ls hfuel hi hcn hex hy hR hcl hsl hW hl
    have hms := sMs_le hxs
    have hst := hkp w1 hex
    refine lv_iload hx hb dX3_failingReductions_20 (lv_at hl 4 rfl) ?_
    refine lv_aload_n hx hb dX3_failingReductions_22 rfl (lv_at hl 1 rfl) ?_
    refine g_calli (va_runS (As := [.ref sp]) (rest := [.int (nI i)]) ⟨hx, hb, hml, hown, hts⟩ (mtX3_reductionMany l D w1 H.size sp xs hst hxs) (va_cwS 1 hts (lw_S q2065 q2066 q47 q2067) rfl rfl rfl (by decide +kernel) ⟨Nat.le_trans (Nat.le_of_ble_eq_true rfl) hRf, Nat.le_trans (Nat.le_of_ble_eq_true rfl) hRl⟩) (g_preS hW hK hE) rfl rfl hl.1 rfl (lv_room (Nat.le_of_ble_eq_true rfl)) dX3_failingReductions_23 ⟨?_, ?_⟩) hW (fun r_ u_ H locs hp hW => ?_)
    · (try simp only [headSpec]); omega
    · (try simp only [headSpec]); omega
    obtain ⟨er, rfl⟩ := hp
    subst er
    refine g_icmp_ge (x := i) (y := sMs xs) (tgt := 57) hx hb (by omega) (by omega) dX3_failingReductions_26 (by decide) (fun hc => ?_) (fun hc => ?_)
    · have e0 : i = sMs xs := by omega
      have hnil : (redL xs).drop i = [] := List.drop_of_length_le (by rw [redL_len]; omega)
      rw [hnil] at hcn
      have hcn2 : cn9 + 0 = cF := hcn
      have e1 : cn9 = cF := by omega
      subst e1
      exact kk en td st E w1 _ _ H locs ls hex hy hR (by omega) (by omega) hW (lv_sub hl [3] rfl)
    · refine lv_iload_n hx hb dX3_failingReductions_29 rfl (lv_at hl 3 rfl) ?_
      refine lv_aload_n hx hb dX3_failingReductions_30 rfl (lv_at hl 0 rfl) ?_
      refine lv_aload_n hx hb dX3_failingReductions_31 rfl (lv_at hl 1 rfl) ?_
      refine lv_iload hx hb dX3_failingReductions_32 (lv_at hl 4 rfl) ?_
      obtain ⟨ys, hys⟩ : ∃ ys, (redL xs)[i]? = some ys := ⟨_, List.getElem?_eq_getElem (by rw [redL_len]; exact hc)⟩
      have hdr := drop_get hys
      rw [hdr, cFail_cons] at hcn
      have hyd := (sRed hxs (List.mem_of_getElem? hys)).2
      refine g_callq (va_runS (As := [.ref sp, .int (nI i)]) (rest := [.ref y, .int (nI cn9)]) ⟨hx, hb, hml, hown, hts⟩ (mtX3_reduction l D w1 H.size sp i xs ys hst hxs (by omega) hys) (va_cwS 2 hts (lw_S q2068 q2069 q47 q2070) rfl rfl rfl (by decide +kernel) ⟨Nat.le_trans (Nat.le_of_ble_eq_true rfl) hRf, Nat.le_trans (Nat.le_of_ble_eq_true rfl) hRl⟩) (g_preS hW hK hE) rfl rfl hl.1 rfl (lv_room (Nat.le_of_ble_eq_true rfl)) dX3_failingReductions_34 ⟨?_, ?_⟩) hW (fun r_ u1 H locs hp hW => ?_)
      · (try simp only [headSpec]); omega
      · (try simp only [headSpec]); omega
      obtain ⟨s9, er, fs, hs9, hx9⟩ := hp
      subst er
      refine lv_iload_n hx hb dX3_failingReductions_37 rfl (lv_at hl 2 rfl) ?_
      have hexu := hex.tr (hx9.mono (fun _ _ z => z.elim))
      have hyu := hx9.at hy (fun z => z.elim)
      have hRu := hR.ex hx9 (fun z => z.elim) (fun z => z.elim)
      have hPu := hP.ex hexu nM
      refine g_calli (va_runV (As := [.ref s9, .int (c9)]) (rest := [.int (nI cn9)]) ⟨hx, hb, hml, hown, hts⟩ (mtX3_failsWith l D u1 H.size y mf lab hL hly cn en td st rn tt km fi nx fm th P E hyu hPu hRu s9 (txt ys) hs9 (txt_kHas hyd) c9) (cwV 2 hts (lw_V q2077 q2079 qs30 q47 q2080) rfl rfl rfl (by decide +kernel) ⟨Nat.le_trans (Nat.le_of_ble_eq_true rfl) hRf, Nat.le_trans (Nat.le_of_ble_eq_true rfl) hRl⟩) (g_preV hW hK hE hyu rfl) rfl rfl hl.1 rfl (lv_room (Nat.le_of_ble_eq_true rfl)) dX3_failingReductions_38 ⟨?_, ?_⟩) hW (fun r_ u2 H locs hp hW => ?_)
      · (try simp only [headSpec]); omega
      · (try simp only [headSpec]); omega
      obtain ⟨er, hy2, hR2, hx2⟩ := hp
      rw [digs_txt2] at er hy2 hR2
      subst er
      have hexv := hexu.tr hx2
      by_cases hq9 : mFails P ys c9 = true
      · rw [if_pos hq9]
        rw [if_pos hq9] at hcn
        refine lv_if_eq (tgt := 48) hx hb dX3_failingReductions_41 (by decide) (fun hz => absurd hz (by decide)) (fun _ => ?_)
        refine lv_iconst (v := 1) hx hb dX3_failingReductions_44 (by decide) ?_
        refine lv_goto (tgt := 49) hx hb dX3_failingReductions_45 (by decide) ?_
        refine lv_iadd hx hb dX3_failingReductions_49 ?_
        refine g_topi (y := nI (cn9 + 1)) (nI_1 cn9) ?_
        refine lv_istore_n (lv' := [(3, .int (nI (cn9 + 1))), (0, .ref y), (1, .ref sp), (2, .int (c9)), (4, .int (nI i))]) hx hb dX3_failingReductions_50 rfl hl (by decide) rfl (fun ls hl => ?_)
        refine lv_iinc (v := nI (i + 1)) (lv' := [(4, .int (nI (i + 1))), (3, .int (nI (cn9 + 1))), (0, .ref y), (1, .ref sp), (2, .int (c9))]) hx hb dX3_failingReductions_51 hl (k := 4) rfl (nI_1 i) (by decide) rfl (fun ls hl => ?_)
        refine lv_goto (tgt := 20) hx hb dX3_failingReductions_54 (by decide) ?_
        exact ih (i + 1) (cn9 + 1) _ _ _ _ u2 _ _ H locs ls (by omega) (by omega) (by omega) hexv hy2 hR2 (by omega) (by omega) hW (lv_sub hl [2, 3, 4, 1, 0] rfl)
      · rw [if_neg hq9]
        rw [if_neg hq9] at hcn
        refine lv_if_eq (tgt := 48) hx hb dX3_failingReductions_41 (by decide) (fun _ => ?_) (fun hz => absurd rfl hz)
        refine lv_iconst (v := 0) hx hb dX3_failingReductions_48 (by decide) ?_
        refine lv_iadd hx hb dX3_failingReductions_49 ?_
        refine g_topi (y := nI (cn9 + 0)) (Int32.add_zero _) ?_
        refine lv_istore_n (lv' := [(3, .int (nI (cn9 + 0))), (0, .ref y), (1, .ref sp), (2, .int (c9)), (4, .int (nI i))]) hx hb dX3_failingReductions_50 rfl hl (by decide) rfl (fun ls hl => ?_)
        refine lv_iinc (v := nI (i + 1)) (lv' := [(4, .int (nI (i + 1))), (3, .int (nI (cn9 + 0))), (0, .ref y), (1, .ref sp), (2, .int (c9))]) hx hb dX3_failingReductions_51 hl (k := 4) rfl (nI_1 i) (by decide) rfl (fun ls hl => ?_)
        refine lv_goto (tgt := 20) hx hb dX3_failingReductions_54 (by decide) ?_
        exact ih (i + 1) (cn9 + 0) _ _ _ _ u2 _ _ H locs ls (by omega) (by omega) (by omega) hexv hy2 hR2 (by omega) (by omega) hW (lv_sub hl [2, 3, 4, 1, 0] rfl)
set_option maxHeartbeats 4000000 in
set_option maxRecDepth 100000 in
/-- Model.failingReductions -/
theorem mtX3_failingReductions (l : Launch) (D : va_G) (w : g_H) (sz : Nat) (y : Nat) (mf : Nat → Nat) (lab : Nat → Nat) (P : List mI) (C : List yC) (A9 : Nat → List (List Nat)) (cov : Nat → Bool) (K : List (List Nat)) (fq ac : Nat) (F : List yF) (rn tt cK : Nat) (en td st : Int32) (E : Nat → Bool) (th : Int32) (hZ : g_MZ D w lab y mf P C A9 cov K fq ac F rn tt cK en td st E th) (sp : Nat) (t : List Nat) (hst : g_Str D w sp t) : Met l yX3_failingReductions (ws_ yX3_failingReductions cX3_failingReductions 5 (some .int)) ({ frames := 9, cells := 4 * frN P t, slots := 32 * frN P t, locals := 238 }) (g_Pc D [.ref y, .ref sp] w sz) (g_Qi D w sz (fun r u => (inB t = true ∧ (mOut P (digs t)).1 = 1 → r = nI (cFail P (mCode P (digs t)) (frC (digs t) 0))) ∧ (∃ en2 td2 st2 E2, g_MZ D u lab y mf P C A9 cov K fq ac F rn tt cK en2 td2 st2 E2 (thF P t)) ∧ zCh w lab u lab)) (4 * frN P t) (32 * frN P t) (g_A w sz) := by
  refine Met.ofW (cc := cX3_failingReductions) (maxL := 5) (ret := (some .int)) (by decide) rfl ?_
  intro p e s m args below meth c s₁ B hml hv
  obtain ⟨rfl, hI⟩ := hv
  have hx := B.exec
  have hb := B.bytes
  have hr := B.returns
  have hts := atoms_spec (ws := ws_ yX3_failingReductions cX3_failingReductions 5 (some .int)) B.pre
  have hts : ∀ w ∈ lw_all, w.before _ s = true := fun w h => hts w (List.mem_cons_of_mem _ h)
  have hown : s.vm.findClass RX3 = some m.cls := findClass_of_methodNamed B.named
  have hlocks := B.notSynchronized
  have hsz := hI.1
  subst hsz
  have hW := g_W.start hI
  have hK := g_K hI
  have hE := g_E hI
  have hl := lv_entry ([.ref y, .ref sp]) (n := 5) (by exact Nat.le_of_ble_eq_true rfl)
  rw [lg_entry_eq]
  generalize (lg_sl ([.ref y, .ref sp]) ++ List.replicate (5 - (lg_sl ([.ref y, .ref sp])).length) Slot.unset).toArray = ls at hl ⊢
  have hl : lv_has ls 5 [(0, .ref y), (1, .ref sp)] := hl
  obtain ⟨hy, ⟨hly, hL⟩, hP, hR, hC0, hA0, hV0, hK0, hF0, hb9⟩ := id hZ
  refine lv_aload_n hx hb dX3_failingReductions_0 rfl (lv_at hl 0 rfl) ?_
  refine lv_aload_n hx hb dX3_failingReductions_1 rfl (lv_at hl 1 rfl) ?_
  refine g_calli (va_runV (As := [.ref sp]) (rest := []) ⟨hx, hb, hml, hown, hts⟩ (mtX3_isFailing l D w s.heap.size y mf lab P C A9 cov K fq ac F rn tt cK en td st E th hZ sp t hst) (cwV 1 hts (lw_V q2163 q2165 qs32 q47 q2166) rfl rfl rfl (by decide +kernel) ⟨Nat.le_of_ble_eq_true rfl, Nat.le_of_ble_eq_true rfl⟩) (g_preV hW hK hE hy rfl) rfl rfl hl.1 rfl (lv_room (Nat.le_of_ble_eq_true rfl)) dX3_failingReductions_2 ⟨?_, ?_⟩) hW (fun r_ u1 H locs hp hW => ?_)
  · (try simp only [headSpec]); omega
  · (try simp only [headSpec]); omega
  obtain ⟨er, hf9, hx9, hZP⟩ := hp
  subst er
  by_cases hq9 : inB t = true ∧ (mOut P (digs t)).1 = 1
  · rw [if_pos hq9]
    refine lv_if_ne (tgt := 10) hx hb dX3_failingReductions_5 (by decide) (fun _ => ?_) (fun hz => absurd (by first | exact hz | exact Classical.not_not.mp hz) (by decide))
    obtain ⟨E3, hZ3⟩ := hf9 hq9
    have hI := inB_iff.mp hq9.1
    have hxs := isIn_sDg hI
    have eT : (thF P t) = (0 : Int32) := by unfold thF; rw [if_pos hq9.1, if_pos hq9.2]
    have eN : frN P t = sMs (digs t) := if_pos hq9
    refine lv_aload_n hx hb dX3_failingReductions_10 rfl (lv_at hl 0 rfl) ?_
    refine g_get (ci := 10) (v := .int ((mCode P (digs t)))) (C := RX3) (T := TX3) (N := 28) hx hb hts in_X3 hown hK hW hZ3.1 rfl 12 (by decide) q1896 (fun _ h9 => h9) rfl dX3_failingReductions_11 ?_
    refine lv_istore_n (lv' := [(2, .int ((mCode P (digs t)))), (0, .ref y), (1, .ref sp)]) hx hb dX3_failingReductions_14 rfl hl (by decide) rfl (fun ls hl => ?_)
    refine lv_iconst (v := 0) hx hb dX3_failingReductions_15 (by decide) ?_
    refine lv_istore_n (lv' := [(3, .int (0)), (2, .int ((mCode P (digs t)))), (0, .ref y), (1, .ref sp)]) hx hb dX3_failingReductions_16 rfl hl (by decide) rfl (fun ls hl => ?_)
    refine lv_iconst (v := 0) hx hb dX3_failingReductions_17 (by decide) ?_
    refine lv_istore (lv' := [(4, .int (0)), (3, .int (0)), (2, .int ((mCode P (digs t)))), (0, .ref y), (1, .ref sp)]) hx hb dX3_failingReductions_18 hl (by decide) rfl (fun ls hl => ?_)
    obtain ⟨f14, g15, r14, rE14, r15⟩ := id hR
    have hkp : ∀ w1, g_ex (fun q => q = y ∨ q = mf 14 ∨ q = mf 15) u1 w1 → g_Str D w1 sp (txt (digs t)) := fun w1 q => by rw [txt_digs hI.2]; exact str_no hst hy r14 r15 (g_neA hK (i := 2) (j := 1) rfl rfl (fun z => by cases z)) (g_neA hK (i := 0) (j := 1) rfl rfl (fun z => by cases z)) (hx9.trM q (fun z _ hz => hz))
    have hcf : cFail P (mCode P (digs t)) (redL (digs t)) ≤ 64 := Nat.le_trans cFail_le (by rw [redL_len]; exact sMs_le hxs)
    refine lpX3_fr (D := D) hx hb hts hown hK hE hml (Nat.le_of_ble_eq_true rfl) (Nat.le_of_ble_eq_true rfl) y mf lab hL hly (nI C.length) (nI rn) (lN tt) (nI K.length) (nI fq) (nI ac) (nI F.length) 0 P u1 hZ3.2.2.1 (mNo hL hly) sp (digs t) hxs hkp (mCode P (digs t)) (cFail P (mCode P (digs t)) (redL (digs t))) 0 0 hcf ?_ ?_ (fun en4 td4 st4 E4 w2 cells slots H locs ls hex4 hy4 hR4 hcl hsl hW hl => ?_) (sMs (digs t) + 1) 0 0 _ _ _ E3 u1 _ _ _ _ ls (by omega) (Nat.zero_le _) (by rw [List.drop_zero]; omega) g_ex.rf hZ3.1 hZ3.2.2.2.1 (by omega) (by omega) hW (lv_sub hl [3, 4, 2, 1, 0] rfl)
    · (try simp only [headSpec]); omega
    · (try simp only [headSpec]); omega
    refine lv_iload_n hx hb dX3_failingReductions_57 rfl (lv_at hl 0 rfl) ?_
    have hZ4 := hZ3.run hK hy4 hR4 hex4
    exact g_iret (v := nI (cFail P (mCode P (digs t)) (redL (digs t)))) hx hb hr hlocks hW (⟨fun _ => by rw [cFail_red], ⟨_, _, _, _, by rw [eT]; exact hZ4⟩, hZP.2.tr (hZ3.zrun hex4)⟩) (by omega) (by omega) dX3_failingReductions_58
  · rw [if_neg hq9]
    refine lv_if_ne (tgt := 10) hx hb dX3_failingReductions_5 (by decide) (fun hz => absurd rfl hz) (fun _ => ?_)
    refine lv_iconst (v := (-1)) hx hb dX3_failingReductions_8 (by decide) ?_
    exact g_iret (v := (-1)) hx hb hr hlocks hW (⟨fun z => absurd z hq9, hZP⟩) (by omega) (by omega) dX3_failingReductions_9
