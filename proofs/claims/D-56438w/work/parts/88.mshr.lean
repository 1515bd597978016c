/-! the model: shrinks *
-/
set_option maxRecDepth 100000
noncomputable def mFind (P : List mI) (c : Int32) : List (List Nat) → Option (List Nat)
  | [] => none
  | y :: ys => if mFails P y c = true then some y else mFind P c ys
/-- how many are tried -/
noncomputable def tN (P : List mI) (c : Int32) : List (List Nat) → Nat
  | [] => 0
  | y :: ys => if mFails P y c = true then 1 else tN P c ys + 1
noncomputable def mShr (P : List mI) (c : Int32) : Nat → List Nat → List Nat × Nat
  | 0, xs => (xs, 0)
  | k + 1, xs => match mFind P c (redL xs) with
    | some y => ((mShr P c k y).1, tN P c (redL xs) + (mShr P c k y).2)
    | none => (xs, tN P c (redL xs))
theorem mFind_cons {P : List mI} {c : Int32} {y : List Nat} {ys : List (List Nat)} : mFind P c (y :: ys) = if mFails P y c = true then some y else mFind P c ys := rfl
theorem tN_cons {P : List mI} {c : Int32} {y : List Nat} {ys : List (List Nat)} : tN P c (y :: ys) = if mFails P y c = true then 1 else tN P c ys + 1 := rfl
theorem mFind_mem {P : List mI} {c : Int32} : ∀ {ys : List (List Nat)} {y : List Nat}, mFind P c ys = some y → y ∈ ys
  | [], _, h => by cases h
  | z :: ys, y, h => by
    unfold mFind at h
    split at h
    · cases h; exact List.mem_cons_self
    · exact List.mem_cons_of_mem _ (mFind_mem h)
theorem sFind_1 {P : List mI} {c : Int32} : ∀ (ys : List (List Nat)) (cap : Nat), (sFind P c ys cap).1 = mFind P c ys
  | [], _ => rfl
  | z :: ys, cap => by
    unfold sFind mFind
    split
    · rfl
    · exact sFind_1 ys _
theorem sShr_1 {P : List mI} {c : Int32} : ∀ (k : Nat) (xs : List Nat) (cap : Nat), (sShr P c k xs cap).1 = (mShr P c k xs).1
  | 0, _, _ => rfl
  | k + 1, xs, cap => by
    unfold sShr mShr
    rw [sFind_1]
    cases mFind P c (redL xs) with
    | none => rfl
    | some y => exact sShr_1 k y _
theorem tN_le {P : List mI} {c : Int32} : ∀ ys : List (List Nat), tN P c ys ≤ ys.length
  | [] => Nat.le_refl 0
  | y :: ys => by
    unfold tN
    have := tN_le (P := P) (c := c) ys
    split <;> simp only [List.length_cons] <;> omega
theorem drop_get {α : Type} {l : List α} {i : Nat} {y : α} (h : l[i]? = some y) : l.drop i = y :: l.drop (i + 1) := by
  obtain ⟨hi, e⟩ := List.getElem?_eq_some_iff.mp h
  rw [List.drop_eq_getElem_cons hi, e]
theorem sMs_le {xs : List Nat} (h : sDg xs) : sMs xs ≤ 64 := by
  have h1 := sum_tk_le h xs.length
  rw [List.take_length] at h1
  have := h.1
  unfold sMs
  omega
theorem mNo {lab : Nat → Nat} {mf : Nat → Nat} {y : Nat} (hL : mLab lab mf) (hly : lab y = 20) : ∀ k, k ∈ [0, 1, 2, 3] → ¬ (mf k = y ∨ mf k = mf 14 ∨ mf k = mf 15) := by
  intro k hk z
  have hk2 : k ∈ mKs := by simp at hk; rcases hk with rfl | rfl | rfl | rfl <;> decide
  have hk3 : k ≤ 3 := by simp at hk; omega
  have e9 := hL k hk2
  rcases z with z | z | z
  · rw [z, hly] at e9; omega
  · rw [z, hL 14 (by decide)] at e9; omega
  · rw [z, hL 15 (by decide)] at e9; omega
set_option maxHeartbeats 4000000 in
set_option maxRecDepth 100000 in
/-- Model.shrinks: the reductions of one input -/
theorem lpX3_shr1 {p : Program} {l : Launch} {e : Env} {R : Room} {s : State} {m : MethodId} {args : Array Value} {below : List Frame} {meth : Method} {c : Code} {Q : State → Prop} {D : va_G} {A : Nat → Prop} (hx : p.tables.exec = Jvm.exec) (hb : c.code = cX3_shrinks) (hts : ∀ w ∈ lw_all, w.before args s = true) (hown : s.vm.findClass RX3 = some m.cls) (hK : va_K D gCl (gT D) s) (hE : g_Env D A s) (hml : c.maxLocals = 7) (hRf : 9 ≤ R.frames) (hRl : 238 ≤ R.locals) (y : Nat) (mf : Nat → Nat) (lab : Nat → Nat) (hL : mLab lab mf) (hly : lab y = 20) (cn rn : Int32) (tt : Int64) (km fi nx fm th : Int32) (P : List mI) (w : g_H) (hP : mPr D w mf P) (nM : ∀ k, k ∈ [0, 1, 2, 3] → ¬ (mf k = y ∨ mf k = mf 14 ∨ mf k = mf 15)) (np : Nat) (xs : List Nat) (hxs : sDg xs) (hkp : ∀ w1, g_ex (fun q => q = y ∨ q = mf 14 ∨ q = mf 15) w w1 → g_Str D w1 np (txt xs)) (c9 : Int32) (c0 s0 : Nat) (hRc : c0 + 4 * tN P c9 (redL xs) ≤ R.cells) (hRs : s0 + 32 * tN P c9 (redL xs) ≤ R.slots)
    (kk : ∀ (ag np2 : Nat) (zs : List Nat) (en td st : Int32) (E : Nat → Bool) (w2 : g_H) (cells slots : Nat) (H : Heap) (locs : List Loc) (ls : Array Slot), ((ag = 1 ∧ mFind P c9 (redL xs) = some zs) ∨ (ag = 0 ∧ mFind P c9 (redL xs) = none ∧ zs = xs)) → g_Str D w2 np2 (txt zs) → g_ex (fun q => q = y ∨ q = mf 14 ∨ q = mf 15) w w2 → g_at w2 y (.inr (10, mO mf (nI P.length) (cn) (en) (td) (st) (rn) (tt) (km) (fi) (nx) (fm) (th))) → mRw D w2 mf E → cells ≤ c0 + 4 * tN P c9 (redL xs) → slots ≤ s0 + 32 * tN P c9 (redL xs) → g_W D A s.heap H locs w2 → lv_has ls 7 [(0, .ref y), (2, .int c9), (3, .ref np2), (4, .int (nI ag))] → W p l e R s m args below meth c H locs cells slots Q (F0 m 5 ls [])) :
    ∀ (k : Nat) (i : Nat) (en : Int32) (td : Int32) (st : Int32) (E : Nat → Bool) (w1 : g_H) (cells : Nat) (slots : Nat) (H : Heap) (locs : List Loc) (ls : Array Slot), sMs xs < i + k → i ≤ sMs xs → mFind P c9 ((redL xs).drop i) = mFind P c9 (redL xs) → tN P c9 ((redL xs).drop i) + i = tN P c9 (redL xs) → g_ex (fun q => q = y ∨ q = mf 14 ∨ q = mf 15) w w1 → g_at w1 y (.inr (10, mO mf (nI P.length) (cn) (en) (td) (st) (rn) (tt) (km) (fi) (nx) (fm) (th))) → mRw D w1 mf E → cells ≤ c0 + 4 * i → slots ≤ s0 + 32 * i → g_W D A s.heap H locs w1 → lv_has ls 7 [(0, .ref y), (2, .int (c9)), (3, .ref np), (4, .int (0)), (5, .int (nI i))] → W p l e R s m args below meth c H locs cells slots Q (F0 m 16 ls []) := by
  intro k
  induction k with
  | zero => intro i en td st E w1 cells slots H locs ls hfuel hi hfo htn hex hy hR hcl hsl hW hl; exact absurd hfuel (by omega)
  | succ k ih =>
    intro i en td st E w1 cells slots H locs ls hfuel hi hfo htn hex hy hR hcl hsl hW hl
    have hms := sMs_le hxs
    have hst := hkp w1 hex
    refine lv_iload hx hb dX3_shrinks_16 (lv_at hl 4 rfl) ?_
    refine lv_aload_n hx hb dX3_shrinks_18 rfl (lv_at hl 2 rfl) ?_
    refine g_calli (va_runS (As := [.ref np]) (rest := [.int (nI i)]) ⟨hx, hb, hml, hown, hts⟩ (mtX3_reductionMany l D w1 H.size np xs hst hxs) (va_cwS 1 hts (lw_S q2065 q2066 q47 q2067) rfl rfl rfl (by decide +kernel) ⟨Nat.le_trans (Nat.le_of_ble_eq_true rfl) hRf, Nat.le_trans (Nat.le_of_ble_eq_true rfl) hRl⟩) (g_preS hW hK hE) rfl rfl hl.1 rfl (lv_room (Nat.le_of_ble_eq_true rfl)) dX3_shrinks_19 ⟨?_, ?_⟩) hW (fun r_ u_ H locs hp hW => ?_)
    · (try simp only [headSpec]); omega
    · (try simp only [headSpec]); omega
    obtain ⟨er, rfl⟩ := hp
    subst er
    refine g_icmp_ge (x := i) (y := sMs xs) (tgt := 60) hx hb (by omega) (by omega) dX3_shrinks_22 (by decide) (fun hc => ?_) (fun hc => ?_)
    · have e0 : i = sMs xs := by omega
      have hnil : (redL xs).drop i = [] := List.drop_of_length_le (by rw [redL_len]; omega)
      rw [hnil] at hfo htn
      have htn2 : 0 + i = tN P c9 (redL xs) := htn
      refine lv_goto (tgt := 5) hx hb dX3_shrinks_60 (by decide) ?_
      exact kk 0 np xs en td st E w1 _ _ H locs ls (Or.inr ⟨rfl, hfo.symm, rfl⟩) hst hex hy hR (by omega) (by omega) hW (lv_sub hl [0, 1, 2, 3] rfl)
    · refine lv_iload hx hb dX3_shrinks_25 (lv_at hl 3 rfl) ?_
      refine lv_if_ne (tgt := 60) hx hb dX3_shrinks_27 (by decide) (fun hz => absurd rfl hz) (fun _ => ?_)
      obtain ⟨ys, hys⟩ : ∃ ys, (redL xs)[i]? = some ys := ⟨_, List.getElem?_eq_getElem (by rw [redL_len]; exact hc)⟩
      have hdr := drop_get hys
      rw [hdr, mFind_cons] at hfo
      rw [hdr, tN_cons] at htn
      have hyd := (sRed hxs (List.mem_of_getElem? hys)).2
      have htb : i + 1 ≤ tN P c9 (redL xs) := by split at htn <;> omega
      refine lv_aload_n hx hb dX3_shrinks_30 rfl (lv_at hl 2 rfl) ?_
      refine lv_iload hx hb dX3_shrinks_31 (lv_at hl 4 rfl) ?_
      refine g_callq (va_runS (As := [.ref np, .int (nI i)]) (rest := []) ⟨hx, hb, hml, hown, hts⟩ (mtX3_reduction l D w1 H.size np i xs ys hst hxs (by omega) hys) (va_cwS 2 hts (lw_S q2068 q2069 q47 q2070) rfl rfl rfl (by decide +kernel) ⟨Nat.le_trans (Nat.le_of_ble_eq_true rfl) hRf, Nat.le_trans (Nat.le_of_ble_eq_true rfl) hRl⟩) (g_preS hW hK hE) rfl rfl hl.1 rfl (lv_room (Nat.le_of_ble_eq_true rfl)) dX3_shrinks_33 ⟨?_, ?_⟩) hW (fun r_ u1 H locs hp hW => ?_)
      · (try simp only [headSpec]); omega
      · (try simp only [headSpec]); omega
      obtain ⟨s9, er, fs, hs9, hx9⟩ := hp
      subst er
      refine lv_astore (lv' := [(6, .ref s9), (0, .ref y), (2, .int (c9)), (3, .ref np), (4, .int (0)), (5, .int (nI i))]) hx hb dX3_shrinks_36 hl (by decide) rfl (fun ls hl => ?_)
      refine lv_aload_n hx hb dX3_shrinks_38 rfl (lv_at hl 1 rfl) ?_
      refine lv_aload hx hb dX3_shrinks_39 (lv_at hl 0 rfl) ?_
      refine lv_iload_n hx hb dX3_shrinks_41 rfl (lv_at hl 2 rfl) ?_
      have hexu := hex.tr (hx9.mono (fun _ _ z => z.elim))
      have hyu := hx9.at hy (fun z => z.elim)
      have hRu := hR.ex hx9 (fun z => z.elim) (fun z => z.elim)
      have hPu := hP.ex hexu nM
      refine g_calli (va_runV (As := [.ref s9, .int (c9)]) (rest := []) ⟨hx, hb, hml, hown, hts⟩ (mtX3_failsWith l D u1 H.size y mf lab hL hly cn en td st rn tt km fi nx fm th P E hyu hPu hRu s9 (txt ys) hs9 (txt_kHas hyd) c9) (cwV 2 hts (lw_V q2077 q2079 qs30 q47 q2080) rfl rfl rfl (by decide +kernel) ⟨Nat.le_trans (Nat.le_of_ble_eq_true rfl) hRf, Nat.le_trans (Nat.le_of_ble_eq_true rfl) hRl⟩) (g_preV hW hK hE hyu rfl) rfl rfl hl.1 rfl (lv_room (Nat.le_of_ble_eq_true rfl)) dX3_shrinks_42 ⟨?_, ?_⟩) hW (fun r_ u2 H locs hp hW => ?_)
      · (try simp only [headSpec]); omega
      · (try simp only [headSpec]); omega
      obtain ⟨er, hy2, hR2, hx2⟩ := hp
      rw [digs_txt2] at er hy2 hR2
      subst er
      have hexv := hexu.tr hx2
      obtain ⟨fE9, g9, ha14, -, ha15⟩ := id hRu
      have hsv : g_Str D u2 s9 (txt ys) := str_no hs9 hyu ha14 ha15 (g_neA hK (i := 2) (j := 1) rfl rfl (fun z => by cases z)) (g_neA hK (i := 0) (j := 1) rfl rfl (fun z => by cases z)) hx2
      by_cases hq9 : mFails P ys c9 = true
      · rw [if_pos hq9]
        rw [if_pos hq9] at hfo htn
        refine lv_if_eq (tgt := 54) hx hb dX3_shrinks_45 (by decide) (fun hz => absurd hz (by decide)) (fun _ => ?_)
        refine lv_aload hx hb dX3_shrinks_48 (lv_at hl 0 rfl) ?_
        refine lv_astore_n (lv' := [(3, .ref s9), (6, .ref s9), (0, .ref y), (2, .int (c9)), (4, .int (0)), (5, .int (nI i))]) hx hb dX3_shrinks_50 rfl hl (by decide) rfl (fun ls hl => ?_)
        refine lv_iconst (v := 1) hx hb dX3_shrinks_51 (by decide) ?_
        refine lv_istore (lv' := [(4, .int (1)), (3, .ref s9), (6, .ref s9), (0, .ref y), (2, .int (c9)), (5, .int (nI i))]) hx hb dX3_shrinks_52 hl (by decide) rfl (fun ls hl => ?_)
        refine lv_iinc (v := nI (i + 1)) (lv' := [(5, .int (nI (i + 1))), (4, .int (1)), (3, .ref s9), (6, .ref s9), (0, .ref y), (2, .int (c9))]) hx hb dX3_shrinks_54 hl (k := 5) rfl (nI_1 i) (by decide) rfl (fun ls hl => ?_)
        refine lv_goto (tgt := 16) hx hb dX3_shrinks_57 (by decide) ?_
        refine lv_iload hx hb dX3_shrinks_16 (lv_at hl 0 rfl) ?_
        refine lv_aload_n hx hb dX3_shrinks_18 rfl (lv_at hl 2 rfl) ?_
        refine g_calli (va_runS (As := [.ref s9]) (rest := [.int (nI (i + 1))]) ⟨hx, hb, hml, hown, hts⟩ (mtX3_reductionMany l D u2 H.size s9 ys hsv hyd) (va_cwS 1 hts (lw_S q2065 q2066 q47 q2067) rfl rfl rfl (by decide +kernel) ⟨Nat.le_trans (Nat.le_of_ble_eq_true rfl) hRf, Nat.le_trans (Nat.le_of_ble_eq_true rfl) hRl⟩) (g_preS hW hK hE) rfl rfl hl.1 rfl (lv_room (Nat.le_of_ble_eq_true rfl)) dX3_shrinks_19 ⟨?_, ?_⟩) hW (fun r_ u_ H locs hp hW => ?_)
        · (try simp only [headSpec]); omega
        · (try simp only [headSpec]); omega
        obtain ⟨er, rfl⟩ := hp
        subst er
        have hmy := sMs_le hyd
        refine g_icmp_ge (x := i + 1) (y := sMs ys) (tgt := 60) hx hb (by omega) (by omega) dX3_shrinks_22 (by decide) (fun hd => ?_) (fun hd => ?_)
        · refine lv_goto (tgt := 5) hx hb dX3_shrinks_60 (by decide) ?_
          exact kk 1 s9 ys _ _ _ _ u2 _ _ H locs ls (Or.inl ⟨rfl, hfo.symm⟩) hsv hexv hy2 hR2 (by omega) (by omega) hW (lv_sub hl [4, 5, 2, 1] rfl)
        · refine lv_iload hx hb dX3_shrinks_25 (lv_at hl 1 rfl) ?_
          refine lv_if_ne (tgt := 60) hx hb dX3_shrinks_27 (by decide) (fun _ => ?_) (fun hz => absurd (by first | exact hz | exact Classical.not_not.mp hz) (by decide))
          refine lv_goto (tgt := 5) hx hb dX3_shrinks_60 (by decide) ?_
          exact kk 1 s9 ys _ _ _ _ u2 _ _ H locs ls (Or.inl ⟨rfl, hfo.symm⟩) hsv hexv hy2 hR2 (by omega) (by omega) hW (lv_sub hl [4, 5, 2, 1] rfl)
      · rw [if_neg hq9]
        rw [if_neg hq9] at hfo htn
        refine lv_if_eq (tgt := 54) hx hb dX3_shrinks_45 (by decide) (fun _ => ?_) (fun hz => absurd rfl hz)
        refine lv_iinc (v := nI (i + 1)) (lv' := [(5, .int (nI (i + 1))), (6, .ref s9), (0, .ref y), (2, .int (c9)), (3, .ref np), (4, .int (0))]) hx hb dX3_shrinks_54 hl (k := 5) rfl (nI_1 i) (by decide) rfl (fun ls hl => ?_)
        refine lv_goto (tgt := 16) hx hb dX3_shrinks_57 (by decide) ?_
        exact ih (i + 1) _ _ _ _ u2 _ _ H locs ls (by omega) (by omega) hfo (by omega) hexv hy2 hR2 (by omega) (by omega) hW (lv_sub hl [2, 3, 4, 5, 0] rfl)
set_option maxHeartbeats 4000000 in
set_option maxRecDepth 100000 in
/-- Model.shrinks: its loop -/
theorem lpX3_shr2 {p : Program} {l : Launch} {e : Env} {R : Room} {s : State} {m : MethodId} {args : Array Value} {below : List Frame} {meth : Method} {c : Code} {Q : State → Prop} {D : va_G} {A : Nat → Prop} (hx : p.tables.exec = Jvm.exec) (hb : c.code = cX3_shrinks) (hts : ∀ w ∈ lw_all, w.before args s = true) (hown : s.vm.findClass RX3 = some m.cls) (hK : va_K D gCl (gT D) s) (hE : g_Env D A s) (hml : c.maxLocals = 7) (hRf : 9 ≤ R.frames) (hRl : 238 ≤ R.locals) (y : Nat) (mf : Nat → Nat) (lab : Nat → Nat) (hL : mLab lab mf) (hly : lab y = 20) (cn rn : Int32) (tt : Int64) (km fi nx fm th : Int32) (P : List mI) (w : g_H) (hP : mPr D w mf P) (nM : ∀ k, k ∈ [0, 1, 2, 3] → ¬ (mf k = y ∨ mf k = mf 14 ∨ mf k = mf 15)) (c9 : Int32) (zF : List Nat) (tF9 c0 s0 : Nat) (hRc : c0 + 4 * tF9 ≤ R.cells) (hRs : s0 + 32 * tF9 ≤ R.slots)
    (kk : ∀ (np2 : Nat) (en td st : Int32) (E : Nat → Bool) (w2 : g_H) (cells slots : Nat) (H : Heap) (locs : List Loc) (ls : Array Slot), g_Str D w2 np2 (txt zF) → g_ex (fun q => q = y ∨ q = mf 14 ∨ q = mf 15) w w2 → g_at w2 y (.inr (10, mO mf (nI P.length) (cn) (en) (td) (st) (rn) (tt) (km) (fi) (nx) (fm) (th))) → mRw D w2 mf E → cells ≤ c0 + 4 * tF9 → slots ≤ s0 + 32 * tF9 → g_W D A s.heap H locs w2 → lv_has ls 7 [(3, .ref np2)] → W p l e R s m args below meth c H locs cells slots Q (F0 m 63 ls [])) :
    ∀ (k : Nat) (t0 : Nat) (np : Nat) (xs : List Nat) (en : Int32) (td : Int32) (st : Int32) (E : Nat → Bool) (w1 : g_H) (cells : Nat) (slots : Nat) (H : Heap) (locs : List Loc) (ls : Array Slot), sMs xs < k → (mShr P c9 k xs).1 = zF → t0 + (mShr P c9 k xs).2 = tF9 → sDg xs → g_Str D w1 np (txt xs) → g_ex (fun q => q = y ∨ q = mf 14 ∨ q = mf 15) w w1 → g_at w1 y (.inr (10, mO mf (nI P.length) (cn) (en) (td) (st) (rn) (tt) (km) (fi) (nx) (fm) (th))) → mRw D w1 mf E → cells ≤ c0 + 4 * t0 → slots ≤ s0 + 32 * t0 → g_W D A s.heap H locs w1 → lv_has ls 7 [(0, .ref y), (2, .int (c9)), (3, .ref np), (4, .int (1))] → W p l e R s m args below meth c H locs cells slots Q (F0 m 5 ls []) := by
  intro k
  induction k with
  | zero => intro t0 np xs en td st E w1 cells slots H locs ls hfuel hZ1 hZ2 hxs hst hex hy hR hcl hsl hW hl; exact absurd hfuel (by omega)
  | succ k ih =>
    intro t0 np xs en td st E w1 cells slots H locs ls hfuel hZ1 hZ2 hxs hst hex hy hR hcl hsl hW hl
    have hPu := hP.ex hex nM
    obtain ⟨fE9, g9, ha14, -, ha15⟩ := id hR
    have hkp : ∀ w2, g_ex (fun q => q = y ∨ q = mf 14 ∨ q = mf 15) w1 w2 → g_Str D w2 np (txt xs) := fun _ q => str_no hst hy ha14 ha15 (g_neA hK (i := 2) (j := 1) rfl rfl (fun z => by cases z)) (g_neA hK (i := 0) (j := 1) rfl rfl (fun z => by cases z)) q
    unfold mShr at hZ1 hZ2
    have htn9 : t0 + tN P c9 (redL xs) ≤ tF9 := by split at hZ2 <;> simp only at hZ2 <;> omega
    refine lv_iload hx hb dX3_shrinks_5 (lv_at hl 3 rfl) ?_
    refine lv_if_eq (tgt := 63) hx hb dX3_shrinks_7 (by decide) (fun hz => absurd hz (by decide)) (fun _ => ?_)
    refine lv_iconst (v := 0) hx hb dX3_shrinks_10 (by decide) ?_
    refine lv_istore (lv' := [(4, .int (0)), (0, .ref y), (2, .int (c9)), (3, .ref np)]) hx hb dX3_shrinks_11 hl (by decide) rfl (fun ls hl => ?_)
    refine lv_iconst (v := 0) hx hb dX3_shrinks_13 (by decide) ?_
    refine lv_istore (lv' := [(5, .int (0)), (4, .int (0)), (0, .ref y), (2, .int (c9)), (3, .ref np)]) hx hb dX3_shrinks_14 hl (by decide) rfl (fun ls hl => ?_)
    refine lpX3_shr1 (D := D) hx hb hts hown hK hE hml (Nat.le_trans (Nat.le_of_ble_eq_true rfl) hRf) (Nat.le_trans (Nat.le_of_ble_eq_true rfl) hRl) y mf lab hL hly cn rn tt km fi nx fm th P w1 hPu nM np xs hxs hkp c9 (c0 + 4 * t0) (s0 + 32 * t0) (by omega) (by omega) (fun ag np2 zs en2 td2 st2 E2 w2 cells slots H locs ls hag hst2 hex2 hy2 hR2 hcl2 hsl2 hW hl => ?_) (sMs xs + 1) 0 en td st E w1 _ _ H locs ls (by omega) (Nat.zero_le _) rfl rfl g_ex.rf hy hR (by omega) (by omega) hW (lv_sub hl [2, 3, 4, 1, 0] rfl)
    have hex3 := hex.tr hex2
    rcases hag with ⟨rfl, hag⟩ | ⟨rfl, hag, rfl⟩
    · rw [hag] at hZ1 hZ2
      have hm9 := sRed hxs (mFind_mem hag)
      have hZ3 : t0 + (tN P c9 (redL xs) + (mShr P c9 k zs).2) = tF9 := hZ2
      exact ih (t0 + tN P c9 (redL xs)) np2 zs en2 td2 st2 E2 w2 cells slots H locs ls (by omega) hZ1 (by omega) hm9.2 hst2 hex3 hy2 hR2 (by omega) (by omega) hW hl
    · rw [hag] at hZ1 hZ2
      have hZ4 : zs = zF := hZ1
      subst hZ4
      have hZ3 : t0 + tN P c9 (redL zs) = tF9 := hZ2
      refine lv_iload hx hb dX3_shrinks_5 (lv_at hl 3 rfl) ?_
      refine lv_if_eq (tgt := 63) hx hb dX3_shrinks_7 (by decide) (fun _ => ?_) (fun hz => absurd rfl hz)
      exact kk np2 en2 td2 st2 E2 w2 _ _ H locs ls hst2 hex3 hy2 hR2 (by omega) (by omega) hW (lv_sub hl [2] rfl)
set_option maxHeartbeats 4000000 in
set_option maxRecDepth 100000 in
/-- Model.shrinks -/
theorem mtX3_shrinks (l : Launch) (D : va_G) (w : g_H) (sz : Nat) (y : Nat) (mf : Nat → Nat) (lab : Nat → Nat) (hL : mLab lab mf) (hly : lab y = 20) (cn rn : Int32) (tt : Int64) (km fi nx fm th : Int32) (P : List mI) (en td st : Int32) (E : Nat → Bool) (hy : g_at w y (.inr (10, mO mf (nI P.length) (cn) (en) (td) (st) (rn) (tt) (km) (fi) (nx) (fm) (th)))) (hP : mPr D w mf P) (hR : mRw D w mf E) (sp : Nat) (xs : List Nat) (hst : g_Str D w sp (txt xs)) (hxs : sDg xs) (c9 : Int32) : Met l yX3_shrinks (ws_ yX3_shrinks cX3_shrinks 7 (some (.object "java/lang/String"))) ({ frames := 9, cells := 4 * (mShr P c9 (sMs xs + 1) xs).2, slots := 32 * (mShr P c9 (sMs xs + 1) xs).2, locals := 238 }) (g_Pc D [.ref y, .ref sp, .int (c9)] w sz) (g_Qq D w sz (fun r u => (∃ s9, r = some s9 ∧ g_Str D u s9 (txt (mShr P c9 (sMs xs + 1) xs).1)) ∧ (∃ (en2 td2 st2 : Int32) (E2 : Nat → Bool), g_at u y (.inr (10, mO mf (nI P.length) (cn) (en2) (td2) (st2) (rn) (tt) (km) (fi) (nx) (fm) (th))) ∧ mRw D u mf E2) ∧ g_ex (fun q => q = y ∨ q = mf 14 ∨ q = mf 15) w u)) (4 * (mShr P c9 (sMs xs + 1) xs).2) (32 * (mShr P c9 (sMs xs + 1) xs).2) (g_A w sz) := by
  refine Met.ofW (cc := cX3_shrinks) (maxL := 7) (ret := (some (.object "java/lang/String"))) (by decide) rfl ?_
  intro p e s m args below meth c s₁ B hml hv
  obtain ⟨rfl, hI⟩ := hv
  have hx := B.exec
  have hb := B.bytes
  have hr := B.returns
  have hts := atoms_spec (ws := ws_ yX3_shrinks cX3_shrinks 7 (some (.object "java/lang/String"))) B.pre
  have hts : ∀ w ∈ lw_all, w.before _ s = true := fun w h => hts w (List.mem_cons_of_mem _ h)
  have hown : s.vm.findClass RX3 = some m.cls := findClass_of_methodNamed B.named
  have hlocks := B.notSynchronized
  have hsz := hI.1
  subst hsz
  have hW := g_W.start hI
  have hK := g_K hI
  have hE := g_E hI
  have hl := lv_entry ([.ref y, .ref sp, .int (c9)]) (n := 7) (by exact Nat.le_of_ble_eq_true rfl)
  rw [lg_entry_eq]
  generalize (lg_sl ([.ref y, .ref sp, .int (c9)]) ++ List.replicate (7 - (lg_sl ([.ref y, .ref sp, .int (c9)])).length) Slot.unset).toArray = ls at hl ⊢
  have hl : lv_has ls 7 [(0, .ref y), (1, .ref sp), (2, .int (c9))] := hl
  have nM : ∀ k, k ∈ [0, 1, 2, 3] → ¬ (mf k = y ∨ mf k = mf 14 ∨ mf k = mf 15) := mNo hL hly
  refine lv_aload_n hx hb dX3_shrinks_0 rfl (lv_at hl 1 rfl) ?_
  refine lv_astore_n (lv' := [(3, .ref sp), (0, .ref y), (1, .ref sp), (2, .int (c9))]) hx hb dX3_shrinks_1 rfl hl (by decide) rfl (fun ls hl => ?_)
  refine lv_iconst (v := 1) hx hb dX3_shrinks_2 (by decide) ?_
  refine lv_istore (lv' := [(4, .int (1)), (3, .ref sp), (0, .ref y), (1, .ref sp), (2, .int (c9))]) hx hb dX3_shrinks_3 hl (by decide) rfl (fun ls hl => ?_)
  refine lpX3_shr2 (D := D) hx hb hts hown hK hE hml (Nat.le_of_ble_eq_true rfl) (Nat.le_of_ble_eq_true rfl) y mf lab hL hly cn rn tt km fi nx fm th P w hP nM c9 (mShr P c9 (sMs xs + 1) xs).1 (mShr P c9 (sMs xs + 1) xs).2 0 0 ?_ ?_ (fun np2 en2 td2 st2 E2 w2 cells slots H locs ls hst2 hex2 hy2 hR2 hcl hsl hW hl => ?_) (sMs xs + 1) 0 sp xs en td st E w _ _ _ _ ls (Nat.lt_succ_self _) rfl (by omega) hxs hst g_ex.rf hy hR (by omega) (by omega) hW (lv_sub hl [2, 4, 1, 0] rfl)
  · (try simp only [headSpec]); omega
  · (try simp only [headSpec]); omega
  refine lv_aload_n hx hb dX3_shrinks_63 rfl (lv_at hl 0 rfl) ?_
  exact g_qret (v := some np2) hx hb hr (Or.inl ⟨_, rfl⟩) hlocks hW (⟨⟨np2, rfl, hst2⟩, ⟨en2, td2, st2, E2, hy2, hR2⟩, hex2⟩) (by omega) (by omega) dX3_shrinks_64
