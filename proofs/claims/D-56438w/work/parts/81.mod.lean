/-! the model: its object, its small methods *
-/
set_option maxRecDepth 100000
/-- the model's fields; mf k: the array of field k -/
def mO (mf : Nat → Nat) (cd cn en td st rn : Int32) (tt : Int64) (km fi nx fm th : Int32) : List Value := [.ref (mf 0), .ref (mf 1), .ref (mf 2), .ref (mf 3), .int cd, .ref (mf 5), .ref (mf 6), .ref (mf 7), .int cn, .ref (mf 9), .ref (mf 10), .int en, .int td, .int st, .ref (mf 14), .ref (mf 15), .int rn, .long tt, .ref (mf 18), .ref (mf 19), .int km, .int fi, .int nx, .ref (mf 23), .ref (mf 24), .ref (mf 25), .int fm, .int th]
def mKs : List Nat := [0, 1, 2, 3, 5, 6, 7, 9, 10, 14, 15, 18, 19, 23, 24, 25]
/-- the labels of the model's places -/
def mLab (lab : Nat → Nat) (mf : Nat → Nat) : Prop := ∀ k, k ∈ mKs → lab (mf k) = 21 + k
theorem g_lne {lab : Nat → Nat} {a b i j : Nat} (h : lab a = i) (k : lab b = j) (n : i ≠ j) : a ≠ b := fun z => n (by rw [← h, ← k, z])
/-- what a jump asks -/
def mJmp (i : mI) (g : Nat → Int32) : Bool := decide (i.1 = 6 ∨ (i.1 = 4 ∧ g i.2.1 < i.2.2.1) ∨ (i.1 = 5 ∧ g i.2.1 = i.2.2.1))
theorem m_bool {n : Nat} {f : Nat → Int32} {E : Nat → Bool} (h : ∀ e, e < n → f e = if E e = true then 1 else 0) {e : Nat} (he : e < n) : f e = 1 ∨ f e = 0 := by rw [h e he]; split <;> simp
theorem lcmp_lt {a b : Int64} : lg_cmp a b < 0 ↔ ¬ b ≤ a := by
  unfold lg_cmp
  split
  · rename_i h
    exact ⟨fun z => absurd z (by decide), fun z => absurd (Int64.le_of_lt h) z⟩
  · rename_i h
    split
    · rename_i h2
      exact ⟨fun z => absurd z (by decide), fun z => absurd (Int64.le_of_eq (by first | exact h2.symm | exact (eq_of_beq h2).symm)) z⟩
    · rename_i h2
      exact ⟨fun _ z => h2 (by first | exact Int64.le_antisymm (Int64.not_lt.mp h) z | exact beq_iff_eq.mpr (Int64.le_antisymm (Int64.not_lt.mp h) z)), fun _ => by decide⟩
theorem lcmp_gt {a b : Int64} : 0 < lg_cmp a b ↔ ¬ a ≤ b := by
  unfold lg_cmp
  split
  · rename_i h
    exact ⟨fun _ => Int64.not_le.mpr h, fun _ => by decide⟩
  · rename_i h
    split
    · rename_i h2
      exact ⟨fun z => absurd z (by decide), fun z => absurd (Int64.not_lt.mp h) z⟩
    · rename_i h2
      exact ⟨fun z => absurd z (by decide), fun z => absurd (Int64.not_lt.mp h) z⟩
set_option maxHeartbeats 4000000 in
set_option maxRecDepth 100000 in
/-- Model.in -/
theorem mtX3_in (l : Launch) (D : va_G) (w : g_H) (sz : Nat) (a lo hi : Int64) : Met l yX3_in (ws_ yX3_in cX3_in 6 (some .boolean)) ({ frames := 1, cells := 0, slots := 0, locals := 12 }) (g_Pc D [.long (a), .long (lo), .long (hi)] w sz) (g_Qi D w sz (fun r u => r = (if lo ≤ a ∧ a ≤ hi then 1 else 0) ∧ w = u)) (0) (0) (g_A w sz) := by
  refine Met.ofW (cc := cX3_in) (maxL := 6) (ret := (some .boolean)) (by decide) rfl ?_
  intro p e s m args below meth c s₁ B hml hv
  obtain ⟨rfl, hI⟩ := hv
  have hx := B.exec
  have hb := B.bytes
  have hr := B.returns
  have hts := atoms_spec (ws := ws_ yX3_in cX3_in 6 (some .boolean)) B.pre
  have hts : ∀ w ∈ lw_all, w.before _ s = true := fun w h => hts w (List.mem_cons_of_mem _ h)
  have hown : s.vm.findClass RX3 = some m.cls := findClass_of_methodNamed B.named
  have hlocks := B.notSynchronized
  have hsz := hI.1
  subst hsz
  have hW := g_W.start hI
  have hK := g_K hI
  have hE := g_E hI
  have hl := lv_entry ([.long (a), .long (lo), .long (hi)]) (n := 6) (by exact Nat.le_of_ble_eq_true rfl)
  rw [lg_entry_eq]
  generalize (lg_sl ([.long (a), .long (lo), .long (hi)]) ++ List.replicate (6 - (lg_sl ([.long (a), .long (lo), .long (hi)])).length) Slot.unset).toArray = ls at hl ⊢
  have hl : lv_has ls 6 [(0, .long (a)), (2, .long (lo)), (4, .long (hi))] := hl
  refine lv_lload_n hx hb dX3_in_0 rfl (lv_at hl 0 rfl) ?_
  refine lv_lload_n hx hb dX3_in_1 rfl (lv_at hl 1 rfl) ?_
  refine W.lcmp hx hb dX3_in_2 ?_
  refine lv_if_lt (tgt := 17) hx hb dX3_in_3 (by decide) (fun hc => ?_) (fun hc => ?_)
  · refine lv_iconst (v := 0) hx hb dX3_in_17 (by decide) ?_
    exact g_zret (v := 0) hx hb hr hlocks (by rfl) hW (⟨(if_neg (fun z => lcmp_lt.mp hc z.1)).symm, rfl⟩) (by omega) (by omega) dX3_in_18
  · refine lv_lload_n hx hb dX3_in_6 rfl (lv_at hl 0 rfl) ?_
    refine lv_lload hx hb dX3_in_7 (lv_at hl 2 rfl) ?_
    refine W.lcmp hx hb dX3_in_9 ?_
    refine lv_if_gt (tgt := 17) hx hb dX3_in_10 (by decide) (fun hd => ?_) (fun hd => ?_)
    · refine lv_iconst (v := 0) hx hb dX3_in_17 (by decide) ?_
      exact g_zret (v := 0) hx hb hr hlocks (by rfl) hW (⟨(if_neg (fun z => lcmp_gt.mp hd z.2)).symm, rfl⟩) (by omega) (by omega) dX3_in_18
    · refine lv_iconst (v := 1) hx hb dX3_in_13 (by decide) ?_
      refine lv_goto (tgt := 18) hx hb dX3_in_14 (by decide) ?_
      exact g_zret (v := 1) hx hb hr hlocks (by rfl) hW (⟨(if_pos ⟨Classical.not_not.mp (fun z => hc (lcmp_lt.mpr z)), Classical.not_not.mp (fun z => hd (lcmp_gt.mpr z))⟩).symm, rfl⟩) (by omega) (by omega) dX3_in_18
set_option maxHeartbeats 4000000 in
set_option maxRecDepth 100000 in
/-- Model.isDigit -/
theorem mtX3_isDigit (l : Launch) (D : va_G) (w : g_H) (sz : Nat) (c9 : Nat) (hc9 : c9 < 65536) : Met l yX3_isDigit (ws_ yX3_isDigit cX3_isDigit 1 (some .boolean)) ({ frames := 1, cells := 0, slots := 0, locals := 12 }) (g_Pc D [.int (nI c9)] w sz) (g_Qi D w sz (fun r u => r = (if kKind c9 = 0 then 1 else 0) ∧ w = u)) (0) (0) (g_A w sz) := by
  refine Met.ofW (cc := cX3_isDigit) (maxL := 1) (ret := (some .boolean)) (by decide) rfl ?_
  intro p e s m args below meth c s₁ B hml hv
  obtain ⟨rfl, hI⟩ := hv
  have hx := B.exec
  have hb := B.bytes
  have hr := B.returns
  have hts := atoms_spec (ws := ws_ yX3_isDigit cX3_isDigit 1 (some .boolean)) B.pre
  have hts : ∀ w ∈ lw_all, w.before _ s = true := fun w h => hts w (List.mem_cons_of_mem _ h)
  have hown : s.vm.findClass RX3 = some m.cls := findClass_of_methodNamed B.named
  have hlocks := B.notSynchronized
  have hsz := hI.1
  subst hsz
  have hW := g_W.start hI
  have hK := g_K hI
  have hE := g_E hI
  have hl := lv_entry ([.int (nI c9)]) (n := 1) (by exact Nat.le_of_ble_eq_true rfl)
  rw [lg_entry_eq]
  generalize (lg_sl ([.int (nI c9)]) ++ List.replicate (1 - (lg_sl ([.int (nI c9)])).length) Slot.unset).toArray = ls at hl ⊢
  have hl : lv_has ls 1 [(0, .int (nI c9))] := hl
  refine lv_iload_n hx hb dX3_isDigit_0 rfl (lv_at hl 0 rfl) ?_
  refine lv_bipush (v := 48) hx hb dX3_isDigit_1 (by decide) ?_
  refine lv_icmp_lt (tgt := 16) hx hb dX3_isDigit_3 (by decide) (fun hc => ?_) (fun hc => ?_)
  · have hlt : c9 < 48 := (nI_ltI (b := 48) (by omega) (by decide)).mp hc
    refine lv_iconst (v := 0) hx hb dX3_isDigit_16 (by decide) ?_
    exact g_zret (v := 0) hx hb hr hlocks (by rfl) hW (⟨by have hk : kKind c9 ≠ 0 := (by unfold kKind; split; omega; split <;> omega); rw [if_neg hk], rfl⟩) (by omega) (by omega) dX3_isDigit_17
  · have hge : 48 ≤ c9 := Nat.le_of_not_lt (fun z => hc ((nI_ltI (b := 48) (by omega) (by decide)).mpr z))
    refine lv_iload_n hx hb dX3_isDigit_6 rfl (lv_at hl 0 rfl) ?_
    refine lv_bipush (v := 55) hx hb dX3_isDigit_7 (by decide) ?_
    refine lv_icmp_gt (tgt := 16) hx hb dX3_isDigit_9 (by decide) (fun hd => ?_) (fun hd => ?_)
    · have hgt : 55 < c9 := (nI_ltI (a := 55) (by decide) (by omega)).mp hd
      refine lv_iconst (v := 0) hx hb dX3_isDigit_16 (by decide) ?_
      exact g_zret (v := 0) hx hb hr hlocks (by rfl) hW (⟨by have hk : kKind c9 ≠ 0 := (by unfold kKind; split; omega; split <;> omega); rw [if_neg hk], rfl⟩) (by omega) (by omega) dX3_isDigit_17
    · have hle : c9 ≤ 55 := Nat.le_of_not_lt (fun z => hd ((nI_ltI (a := 55) (by decide) (by omega)).mpr z))
      refine lv_iconst (v := 1) hx hb dX3_isDigit_12 (by decide) ?_
      refine lv_goto (tgt := 17) hx hb dX3_isDigit_13 (by decide) ?_
      exact g_zret (v := 1) hx hb hr hlocks (by rfl) hW (⟨by have hk : kKind c9 = 0 := (by unfold kKind; first | exact if_pos ⟨hge, hle⟩ | (rw [if_neg (by omega)]; exact if_pos ⟨hge, hle⟩)); rw [if_pos hk], rfl⟩) (by omega) (by omega) dX3_isDigit_17
set_option maxHeartbeats 4000000 in
set_option maxRecDepth 100000 in
/-- Model.isSymbol -/
theorem mtX3_isSymbol (l : Launch) (D : va_G) (w : g_H) (sz : Nat) (c9 : Nat) (hc9 : c9 < 65536) : Met l yX3_isSymbol (ws_ yX3_isSymbol cX3_isSymbol 1 (some .boolean)) ({ frames := 1, cells := 0, slots := 0, locals := 12 }) (g_Pc D [.int (nI c9)] w sz) (g_Qi D w sz (fun r u => r = (if kKind c9 = 1 then 1 else 0) ∧ w = u)) (0) (0) (g_A w sz) := by
  refine Met.ofW (cc := cX3_isSymbol) (maxL := 1) (ret := (some .boolean)) (by decide) rfl ?_
  intro p e s m args below meth c s₁ B hml hv
  obtain ⟨rfl, hI⟩ := hv
  have hx := B.exec
  have hb := B.bytes
  have hr := B.returns
  have hts := atoms_spec (ws := ws_ yX3_isSymbol cX3_isSymbol 1 (some .boolean)) B.pre
  have hts : ∀ w ∈ lw_all, w.before _ s = true := fun w h => hts w (List.mem_cons_of_mem _ h)
  have hown : s.vm.findClass RX3 = some m.cls := findClass_of_methodNamed B.named
  have hlocks := B.notSynchronized
  have hsz := hI.1
  subst hsz
  have hW := g_W.start hI
  have hK := g_K hI
  have hE := g_E hI
  have hl := lv_entry ([.int (nI c9)]) (n := 1) (by exact Nat.le_of_ble_eq_true rfl)
  rw [lg_entry_eq]
  generalize (lg_sl ([.int (nI c9)]) ++ List.replicate (1 - (lg_sl ([.int (nI c9)])).length) Slot.unset).toArray = ls at hl ⊢
  have hl : lv_has ls 1 [(0, .int (nI c9))] := hl
  refine lv_iload_n hx hb dX3_isSymbol_0 rfl (lv_at hl 0 rfl) ?_
  refine lv_bipush (v := 65) hx hb dX3_isSymbol_1 (by decide) ?_
  refine lv_icmp_lt (tgt := 16) hx hb dX3_isSymbol_3 (by decide) (fun hc => ?_) (fun hc => ?_)
  · have hlt : c9 < 65 := (nI_ltI (b := 65) (by omega) (by decide)).mp hc
    refine lv_iconst (v := 0) hx hb dX3_isSymbol_16 (by decide) ?_
    exact g_zret (v := 0) hx hb hr hlocks (by rfl) hW (⟨by have hk : kKind c9 ≠ 1 := (by unfold kKind; split; omega; split <;> omega); rw [if_neg hk], rfl⟩) (by omega) (by omega) dX3_isSymbol_17
  · have hge : 65 ≤ c9 := Nat.le_of_not_lt (fun z => hc ((nI_ltI (b := 65) (by omega) (by decide)).mpr z))
    refine lv_iload_n hx hb dX3_isSymbol_6 rfl (lv_at hl 0 rfl) ?_
    refine lv_bipush (v := 68) hx hb dX3_isSymbol_7 (by decide) ?_
    refine lv_icmp_gt (tgt := 16) hx hb dX3_isSymbol_9 (by decide) (fun hd => ?_) (fun hd => ?_)
    · have hgt : 68 < c9 := (nI_ltI (a := 68) (by decide) (by omega)).mp hd
      refine lv_iconst (v := 0) hx hb dX3_isSymbol_16 (by decide) ?_
      exact g_zret (v := 0) hx hb hr hlocks (by rfl) hW (⟨by have hk : kKind c9 ≠ 1 := (by unfold kKind; split; omega; split <;> omega); rw [if_neg hk], rfl⟩) (by omega) (by omega) dX3_isSymbol_17
    · have hle : c9 ≤ 68 := Nat.le_of_not_lt (fun z => hd ((nI_ltI (a := 68) (by decide) (by omega)).mpr z))
      refine lv_iconst (v := 1) hx hb dX3_isSymbol_12 (by decide) ?_
      refine lv_goto (tgt := 17) hx hb dX3_isSymbol_13 (by decide) ?_
      exact g_zret (v := 1) hx hb hr hlocks (by rfl) hW (⟨by have hk : kKind c9 = 1 := (by unfold kKind; first | exact if_pos ⟨hge, hle⟩ | (rw [if_neg (by omega)]; exact if_pos ⟨hge, hle⟩)); rw [if_pos hk], rfl⟩) (by omega) (by omega) dX3_isSymbol_17
set_option maxHeartbeats 4000000 in
set_option maxRecDepth 100000 in
/-- Model.edgeMany: its loop -/
theorem lpX3_edgeMany {p : Program} {l : Launch} {e : Env} {R : Room} {s : State} {m : MethodId} {args : Array Value} {below : List Frame} {meth : Method} {c : Code} {cells slots : Nat} {Q : State → Prop} {D : va_G} {A : Nat → Prop} (hx : p.tables.exec = Jvm.exec) (hb : c.code = cX3_edgeMany) (hts : ∀ w ∈ lw_all, w.before args s = true) (hown : s.vm.findClass RX3 = some m.cls) (hK : va_K D gCl (gT D) s) (hE : g_Env D A s) (hml : c.maxLocals = 4) (hRf : 1 ≤ R.frames) (hRl : 12 ≤ R.locals) (hRc : cells ≤ R.cells) (hRs : slots ≤ R.slots) (w : g_H) (y er n : Nat) (E : Nat → Bool) (f : Nat → Int32) (her : g_at w er (.inl (D.1 102, n, .inl f))) (hn : n < 1000) (hf : ∀ e, e < n → f e = if E e = true then 1 else 0)
    (kk : ∀ (H : Heap) (locs : List Loc) (ls : Array Slot), g_W D A s.heap H locs w → lv_has ls 4 [(2, .int (nI (fb_ct E n)))] → W p l e R s m args below meth c H locs cells slots Q (F0 m 30 ls [])) :
    ∀ (k : Nat) (i : Nat) (H : Heap) (locs : List Loc) (ls : Array Slot), n < i + k → i ≤ n → g_W D A s.heap H locs w → lv_has ls 4 [(2, .int (nI (fb_ct E i))), (3, .int (nI i)), (1, .ref er)] → W p l e R s m args below meth c H locs cells slots Q (F0 m 4 ls []) := by
  intro k
  induction k with
  | zero => intro i H locs ls hfuel hi hW hl; exact absurd hfuel (by omega)
  | succ k ih =>
    intro i H locs ls hfuel hi hW hl
    refine lv_iload_n hx hb dX3_edgeMany_4 rfl (lv_at hl 1 rfl) ?_
    refine lv_aload_n hx hb dX3_edgeMany_5 rfl (lv_at hl 2 rfl) ?_
    refine g_alen hx hb hK hW 2 her rfl dX3_edgeMany_6 ?_
    refine g_icmp_ge (x := i) (y := n) (tgt := 30) hx hb (by omega) (by omega) dX3_edgeMany_7 (by decide) (fun hc => ?_) (fun hc => ?_)
    · have e0 : i = n := by omega
      subst e0
      exact kk H locs ls hW (lv_sub hl [0] rfl)
    · refine lv_iload_n hx hb dX3_edgeMany_10 rfl (lv_at hl 0 rfl) ?_
      refine lv_aload_n hx hb dX3_edgeMany_11 rfl (lv_at hl 2 rfl) ?_
      refine lv_iload_n hx hb dX3_edgeMany_12 rfl (lv_at hl 1 rfl) ?_
      refine g_zald (n := n) (i := nI i) hx hb hK hW her (vp_in_nI hc (by omega)) dX3_edgeMany_13 ?_
      rw [nI_clamp (by omega), hf i hc]
      cases hq9 : E i
      · rw [if_neg (by decide)]
        refine lv_if_eq (tgt := 21) hx hb dX3_edgeMany_14 (by decide) (fun _ => ?_) (fun hz => absurd rfl hz)
        refine lv_iconst (v := 0) hx hb dX3_edgeMany_21 (by decide) ?_
        refine lv_iadd hx hb dX3_edgeMany_22 ?_
        refine g_topi (y := nI (fb_ct E (i + 1))) (by rw [fb_ct_succ, hq9]; exact Int32.add_zero _) ?_
        refine lv_istore_n (lv' := [(2, .int (nI (fb_ct E (i + 1)))), (3, .int (nI i)), (1, .ref er)]) hx hb dX3_edgeMany_23 rfl hl (by decide) rfl (fun ls hl => ?_)
        refine lv_iinc (v := nI (i + 1)) (lv' := [(3, .int (nI (i + 1))), (2, .int (nI (fb_ct E (i + 1)))), (1, .ref er)]) hx hb dX3_edgeMany_24 hl (k := 1) rfl (nI_1 i) (by decide) rfl (fun ls hl => ?_)
        refine lv_goto (tgt := 4) hx hb dX3_edgeMany_27 (by decide) ?_
        exact ih (i + 1) H locs ls (by omega) (by omega) hW (lv_sub hl [1, 0, 2] rfl)
      · rw [if_pos (by decide)]
        refine lv_if_eq (tgt := 21) hx hb dX3_edgeMany_14 (by decide) (fun hz => absurd hz (by decide)) (fun _ => ?_)
        refine lv_iconst (v := 1) hx hb dX3_edgeMany_17 (by decide) ?_
        refine lv_goto (tgt := 22) hx hb dX3_edgeMany_18 (by decide) ?_
        refine lv_iadd hx hb dX3_edgeMany_22 ?_
        refine g_topi (y := nI (fb_ct E (i + 1))) (by rw [fb_ct_succ, hq9]; exact nI_1 _) ?_
        refine lv_istore_n (lv' := [(2, .int (nI (fb_ct E (i + 1)))), (3, .int (nI i)), (1, .ref er)]) hx hb dX3_edgeMany_23 rfl hl (by decide) rfl (fun ls hl => ?_)
        refine lv_iinc (v := nI (i + 1)) (lv' := [(3, .int (nI (i + 1))), (2, .int (nI (fb_ct E (i + 1)))), (1, .ref er)]) hx hb dX3_edgeMany_24 hl (k := 1) rfl (nI_1 i) (by decide) rfl (fun ls hl => ?_)
        refine lv_goto (tgt := 4) hx hb dX3_edgeMany_27 (by decide) ?_
        exact ih (i + 1) H locs ls (by omega) (by omega) hW (lv_sub hl [1, 0, 2] rfl)
set_option maxHeartbeats 4000000 in
set_option maxRecDepth 100000 in
/-- Model.edgeMany -/
theorem mtX3_edgeMany (l : Launch) (D : va_G) (w : g_H) (sz : Nat) (y er n : Nat) (E : Nat → Bool) (f : Nat → Int32) (her : g_at w er (.inl (D.1 102, n, .inl f))) (hn : n < 1000) (hf : ∀ e, e < n → f e = if E e = true then 1 else 0) : Met l yX3_edgeMany (ws_ yX3_edgeMany cX3_edgeMany 4 (some .int)) ({ frames := 1, cells := 0, slots := 0, locals := 12 }) (g_Pc D [.ref y, .ref er] w sz) (g_Qi D w sz (fun r u => r = nI (fb_ct E n) ∧ w = u)) (0) (0) (g_A w sz) := by
  refine Met.ofW (cc := cX3_edgeMany) (maxL := 4) (ret := (some .int)) (by decide) rfl ?_
  intro p e s m args below meth c s₁ B hml hv
  obtain ⟨rfl, hI⟩ := hv
  have hx := B.exec
  have hb := B.bytes
  have hr := B.returns
  have hts := atoms_spec (ws := ws_ yX3_edgeMany cX3_edgeMany 4 (some .int)) B.pre
  have hts : ∀ w ∈ lw_all, w.before _ s = true := fun w h => hts w (List.mem_cons_of_mem _ h)
  have hown : s.vm.findClass RX3 = some m.cls := findClass_of_methodNamed B.named
  have hlocks := B.notSynchronized
  have hsz := hI.1
  subst hsz
  have hW := g_W.start hI
  have hK := g_K hI
  have hE := g_E hI
  have hl := lv_entry ([.ref y, .ref er]) (n := 4) (by exact Nat.le_of_ble_eq_true rfl)
  rw [lg_entry_eq]
  generalize (lg_sl ([.ref y, .ref er]) ++ List.replicate (4 - (lg_sl ([.ref y, .ref er])).length) Slot.unset).toArray = ls at hl ⊢
  have hl : lv_has ls 4 [(0, .ref y), (1, .ref er)] := hl
  refine lv_iconst (v := 0) hx hb dX3_edgeMany_0 (by decide) ?_
  refine lv_istore_n (lv' := [(2, .int (0)), (0, .ref y), (1, .ref er)]) hx hb dX3_edgeMany_1 rfl hl (by decide) rfl (fun ls hl => ?_)
  refine lv_iconst (v := 0) hx hb dX3_edgeMany_2 (by decide) ?_
  refine lv_istore_n (lv' := [(3, .int (0)), (2, .int (0)), (0, .ref y), (1, .ref er)]) hx hb dX3_edgeMany_3 rfl hl (by decide) rfl (fun ls hl => ?_)
  refine lpX3_edgeMany (D := D) hx hb hts hown hK hE hml (Nat.le_of_ble_eq_true rfl) (Nat.le_of_ble_eq_true rfl) ?_ ?_ w y er n E f her hn hf (fun H locs ls hW hl => ?_) (n + 1) 0 _ _ ls (by omega) (Nat.zero_le _) hW (lv_sub hl [1, 0, 3] rfl)
  · (try simp only [headSpec]); omega
  · (try simp only [headSpec]); omega
  refine lv_iload_n hx hb dX3_edgeMany_30 rfl (lv_at hl 0 rfl) ?_
  exact g_iret (v := nI (fb_ct E n)) hx hb hr hlocks hW (⟨rfl, rfl⟩) (by omega) (by omega) dX3_edgeMany_31
