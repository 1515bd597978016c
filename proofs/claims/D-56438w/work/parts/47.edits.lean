/-! the edits: isAt, fits, isDone. eFits, eAct: what an edit (k: 0 replace, 1 insert, 2 delete, 3 swap) does to digits -/
set_option maxRecDepth 100000
def eFits (k pl dg : Nat) (xs : List Nat) : Bool := if k = 0 then decide (pl < xs.length ∧ xs.getD pl 0 ≠ dg) else if k = 1 then decide (pl ≤ xs.length ∧ xs.length < 8) else if k = 2 then decide (pl < xs.length) else decide (pl + 1 < xs.length ∧ xs.getD pl 0 ≠ xs.getD (pl + 1) 0)
def eAct (k pl dg : Nat) (xs : List Nat) : List Nat := if k = 0 then xs.set pl dg else if k = 1 then xs.insertIdx pl dg else if k = 2 then xs.eraseIdx pl else (xs.set pl (xs.getD (pl + 1) 0)).set (pl + 1) (xs.getD pl 0)
def g_Ed (w : g_H) (a k pl dg : Nat) : Prop := pl < 8 ∧ dg < 8 ∧ ((k = 0 ∧ g_at w a (.inr (3, [.int (nI pl), .int (nI dg)]))) ∨ (k = 1 ∧ g_at w a (.inr (4, [.int (nI pl), .int (nI dg)]))) ∨ (k = 2 ∧ g_at w a (.inr (5, [.int (nI pl)]))) ∨ (k = 3 ∧ g_at w a (.inr (6, [.int (nI pl)]))))
theorem g_Ed.ex {M : Nat → Prop} {w w' : g_H} {a k pl dg : Nat} (h : g_Ed w a k pl dg) (q : g_ex M w w') (n : ¬ M a) : g_Ed w' a k pl dg := by
  obtain ⟨h1, h2, h | h | h | h⟩ := h
  · exact ⟨h1, h2, Or.inl ⟨h.1, q.at h.2 n⟩⟩
  · exact ⟨h1, h2, Or.inr (Or.inl ⟨h.1, q.at h.2 n⟩)⟩
  · exact ⟨h1, h2, Or.inr (Or.inr (Or.inl ⟨h.1, q.at h.2 n⟩))⟩
  · exact ⟨h1, h2, Or.inr (Or.inr (Or.inr ⟨h.1, q.at h.2 n⟩))⟩
theorem ed_m0 : ∀ p, p < 8 → ∀ n, n < 9 → ((nI p + 0 < nI n) ↔ p < n) := by decide +kernel
theorem ed_m1 : ∀ p, p < 8 → ∀ n, n < 9 → ((nI p + (-1) < nI n) ↔ p ≤ n) := by decide +kernel
theorem ed_p1 : ∀ p, p < 8 → ∀ n, n < 9 → ((nI p + 1 < nI n) ↔ p + 1 < n) := by decide +kernel
set_option maxHeartbeats 4000000 in
set_option maxRecDepth 100000 in
/-- Placed.isAt, of a ShrinkYard$Replacing -/
theorem mtX13_isAt_X7 (l : Launch) (D : va_G) (w : g_H) (sz : Nat) (a d da pl dg : Nat) (xs : List Nat) (ha : g_at w a (.inr (3, [.int (nI pl), .int (nI dg)]))) (hd : g_Dig D w d da xs) : Met l yX13_isAt (ws_ yX13_isAt cX13_isAt 3 (some .boolean)) ({ frames := 2, cells := 0, slots := 0, locals := 32 }) (g_Pc D [.ref a, .ref d, .int (0)] w sz) (g_Qi D w sz (fun r u => r = (if nI pl + 0 < nI xs.length then 1 else 0) ∧ w = u)) (0) (0) (g_A w sz) := by
  refine Met.ofW (cc := cX13_isAt) (maxL := 3) (ret := (some .boolean)) (by decide) rfl ?_
  intro p e s m args below meth c s₁ B hml hv
  obtain ⟨rfl, hI⟩ := hv
  have hx := B.exec
  have hb := B.bytes
  have hr := B.returns
  have hts := atoms_spec (ws := ws_ yX13_isAt cX13_isAt 3 (some .boolean)) B.pre
  have hts : ∀ w ∈ lw_all, w.before _ s = true := fun w h => hts w (List.mem_cons_of_mem _ h)
  have hown : s.vm.findClass RX13 = some m.cls := findClass_of_methodNamed B.named
  have hlocks := B.notSynchronized
  have hsz := hI.1
  subst hsz
  have hW := g_W.start hI
  have hK := g_K hI
  have hE := g_E hI
  have hl := lv_entry ([.ref a, .ref d, .int (0)]) (n := 3) (by exact Nat.le_of_ble_eq_true rfl)
  rw [lg_entry_eq]
  generalize (lg_sl ([.ref a, .ref d, .int (0)]) ++ List.replicate (3 - (lg_sl ([.ref a, .ref d, .int (0)])).length) Slot.unset).toArray = ls at hl ⊢
  have hl : lv_has ls 3 [(0, .ref a), (1, .ref d), (2, .int (0))] := hl
  refine lv_aload_n hx hb dX13_isAt_0 rfl (lv_at hl 0 rfl) ?_
  refine g_callFi (va_runF (cC := D.1 3) (hK.1 3 _ rfl).2 (As := []) (rest := []) ⟨hx, hb, hml, hown, hts⟩ (mtX7_place l D w s.heap.size a (nI pl) (nI dg) ha) (va_cwF 0 hts (lw_app (lw_in _ [1613, 1629, 1631, 59] (by decide +kernel) (by decide +kernel)) (lw_meth q1633)) rfl rfl rfl (fw_1 hE) (by decide +kernel) ⟨Nat.le_of_ble_eq_true rfl, Nat.le_of_ble_eq_true rfl⟩) (g_preV hW hK hE ha rfl) rfl rfl hl.1 rfl (lv_room (Nat.le_of_ble_eq_true rfl)) dX13_isAt_1 ⟨Nat.le_of_ble_eq_true rfl, Nat.le_of_ble_eq_true rfl⟩) hW (fun r_ u_ H locs hp hW => ?_)
  obtain ⟨er, rfl⟩ := hp
  subst er
  refine lv_iload_n hx hb dX13_isAt_6 rfl (lv_at hl 2 rfl) ?_
  refine lv_iadd hx hb dX13_isAt_7 ?_
  refine lv_aload_n hx hb dX13_isAt_8 rfl (lv_at hl 1 rfl) ?_
  refine g_getN (ci := 2) (v := .int (nI xs.length)) (C := RX11) (T := TX11) (N := 2) hx hb hts in_X11 hown hK hW hd.1 rfl 1 (by decide) (nf_q1169 hE) (fun _ h9 => h9) rfl dX13_isAt_9 ?_
  refine lv_icmp_ge (tgt := 19) hx hb dX13_isAt_12 (by decide) (fun hc => ?_) (fun hc => ?_)
  · refine lv_iconst (v := 0) hx hb dX13_isAt_19 (by decide) ?_
    exact g_zret (v := 0) hx hb hr hlocks (by rfl) hW (⟨by rw [if_neg (Int32.not_lt.mpr hc)], rfl⟩) (by omega) (by omega) dX13_isAt_20
  · refine lv_iconst (v := 1) hx hb dX13_isAt_15 (by decide) ?_
    refine lv_goto (tgt := 20) hx hb dX13_isAt_16 (by decide) ?_
    exact g_zret (v := 1) hx hb hr hlocks (by rfl) hW (⟨by rw [if_pos (Int32.not_le.mp hc)], rfl⟩) (by omega) (by omega) dX13_isAt_20
set_option maxHeartbeats 4000000 in
set_option maxRecDepth 100000 in
/-- ShrinkYard$Replacing.fits -/
theorem mtX7_fits (l : Launch) (D : va_G) (w : g_H) (sz : Nat) (a d da pl dg : Nat) (xs : List Nat) (ha : g_at w a (.inr (3, [.int (nI pl), .int (nI dg)]))) (hd : g_Dig D w d da xs) (h9 : ∀ x ∈ xs, x < 8) (hpl : pl < 8) (hdg : dg < 8) : Met l yX7_fits (ws_ yX7_fits cX7_fits 2 (some .boolean)) ({ frames := 3, cells := 0, slots := 0, locals := 54 }) (g_Pc D [.ref a, .ref d] w sz) (g_Qi D w sz (fun r u => r = (if eFits 0 pl dg xs = true then 1 else 0) ∧ w = u)) (0) (0) (g_A w sz) := by
  refine Met.ofW (cc := cX7_fits) (maxL := 2) (ret := (some .boolean)) (by decide) rfl ?_
  intro p e s m args below meth c s₁ B hml hv
  obtain ⟨rfl, hI⟩ := hv
  have hx := B.exec
  have hb := B.bytes
  have hr := B.returns
  have hts := atoms_spec (ws := ws_ yX7_fits cX7_fits 2 (some .boolean)) B.pre
  have hts : ∀ w ∈ lw_all, w.before _ s = true := fun w h => hts w (List.mem_cons_of_mem _ h)
  have hown : s.vm.findClass RX7 = some m.cls := findClass_of_methodNamed B.named
  have hlocks := B.notSynchronized
  have hsz := hI.1
  subst hsz
  have hW := g_W.start hI
  have hK := g_K hI
  have hE := g_E hI
  have hl := lv_entry ([.ref a, .ref d]) (n := 2) (by exact Nat.le_of_ble_eq_true rfl)
  rw [lg_entry_eq]
  generalize (lg_sl ([.ref a, .ref d]) ++ List.replicate (2 - (lg_sl ([.ref a, .ref d])).length) Slot.unset).toArray = ls at hl ⊢
  have hl : lv_has ls 2 [(0, .ref a), (1, .ref d)] := hl
  obtain ⟨hd1, ⟨f, hf, his⟩, h8⟩ := id hd
  have hcond := ed_m0 pl hpl xs.length (by omega)
  have hg : ∀ j, xs.getD j 0 < 8 := fun j => by rw [List.getD_eq_getElem?_getD]; cases q : xs[j]? with | none => exact (by decide : 0 < 8) | some c => exact h9 c (List.mem_of_getElem? q)
  refine lv_aload_n hx hb dX7_fits_0 rfl (lv_at hl 0 rfl) ?_
  refine lv_aload_n hx hb dX7_fits_1 rfl (lv_at hl 1 rfl) ?_
  refine lv_iconst (v := 0) hx hb dX7_fits_2 (by decide) ?_
  refine g_calli (g_runVD (C := "ShrinkYard$Replacing") (owner := "ShrinkYard$Placed") (x := yAt "ShrinkYard$Replacing") (n := 2) (As := [.ref d, .int (0)]) (rest := []) ⟨hx, hb, hml, hown, hts⟩ (mtX13_isAt_X7 l D w s.heap.size a d da pl dg xs ha hd) rfl rfl (Nat.le_of_ble_eq_true rfl) (Nat.le_of_ble_eq_true rfl) (pay_in hts (lw_meth q1611)) List.mem_cons_self (hts _ q2235) (hE.df (C := "ShrinkYard$Replacing") (i := 16) (List.mem_of_getElem? (i := 2) rfl)).1 (hE.df (C := "ShrinkYard$Replacing") (i := 16) (List.mem_of_getElem? (i := 2) rfl)).2.1 (hE.df (C := "ShrinkYard$Replacing") (i := 16) (List.mem_of_getElem? (i := 2) rfl)).2.2.2.2.2 (by decide) (hE.df (C := "ShrinkYard$Replacing") (i := 16) (List.mem_of_getElem? (i := 2) rfl)).2.2.1 (hts _ q1609) (g_len2 (by decide +kernel)) (g_preV hW hK hE ha rfl) rfl rfl hl.1 rfl (lv_room (Nat.le_of_ble_eq_true rfl)) dX7_fits_3 ⟨Nat.le_of_ble_eq_true rfl, Nat.le_of_ble_eq_true rfl⟩) hW (fun r_ u_ H locs hp hW => ?_)
  obtain ⟨er, rfl⟩ := hp
  subst er
  by_cases hq : pl < xs.length
  · rw [if_pos (hcond.mpr hq)]
    refine lv_if_eq (tgt := 29) hx hb dX7_fits_6 (by decide) (fun hb1 => ?_) (fun hb1 => ?_)
    · exact absurd hb1 (by decide)
    · refine lv_aload_n hx hb dX7_fits_9 rfl (lv_at hl 1 rfl) ?_
      refine g_getN (ci := 2) (v := .ref da) (C := RX11) (T := TX11) (N := 2) hx hb hts in_X11 hown hK hW hd1 rfl 0 (by decide) (nf_q1164 hE) (fun _ h9 => h9) rfl dX7_fits_10 ?_
      refine lv_aload_n hx hb dX7_fits_13 rfl (lv_at hl 0 rfl) ?_
      refine g_get (ci := 3) (v := .int (nI pl)) (C := RX7) (T := TX7) (N := 2) hx hb hts in_X7 hown hK hW ha rfl 0 (by decide) q686 (fun _ h9 => h9) rfl dX7_fits_14 ?_
      refine g_iald (i := pl) hx hb hK hW hf (by omega) (by decide) dX7_fits_17 ?_
      refine lv_aload_n hx hb dX7_fits_18 rfl (lv_at hl 0 rfl) ?_
      refine g_get (ci := 3) (v := .int (nI dg)) (C := RX7) (T := TX7) (N := 2) hx hb hts in_X7 hown hK hW ha rfl 1 (by decide) q687 (fun _ h9 => h9) rfl dX7_fits_19 ?_
      refine lv_icmp_eq (tgt := 29) hx hb dX7_fits_22 (by decide) (fun hc => ?_) (fun hc => ?_)
      · have e1 : xs.getD pl 0 = dg := nI_inj (Nat.lt_trans (hg _) (by decide)) (by omega) ((his pl hq).symm.trans hc)
        have e : ¬ eFits 0 pl dg xs = true := by simp only [eFits, e1]; simp
        refine lv_iconst (v := 0) hx hb dX7_fits_29 (by decide) ?_
        exact g_zret (v := 0) hx hb hr hlocks (by rfl) hW (⟨by rw [if_neg e], rfl⟩) (by omega) (by omega) dX7_fits_30
      · have e1 : xs.getD pl 0 ≠ dg := fun z => hc ((his pl hq).trans (by rw [z]))
        have e : eFits 0 pl dg xs = true := by simp only [eFits, if_pos]; exact decide_eq_true ⟨hq, e1⟩
        refine lv_iconst (v := 1) hx hb dX7_fits_25 (by decide) ?_
        refine lv_goto (tgt := 30) hx hb dX7_fits_26 (by decide) ?_
        exact g_zret (v := 1) hx hb hr hlocks (by rfl) hW (⟨by rw [if_pos e], rfl⟩) (by omega) (by omega) dX7_fits_30
  · rw [if_neg (fun z => hq (hcond.mp z))]
    have e : ¬ eFits 0 pl dg xs = true := fun z => hq (by simp only [eFits] at z; simp at z; omega)
    refine lv_if_eq (tgt := 29) hx hb dX7_fits_6 (by decide) (fun hb1 => ?_) (fun hb1 => ?_)
    · refine lv_iconst (v := 0) hx hb dX7_fits_29 (by decide) ?_
      exact g_zret (v := 0) hx hb hr hlocks (by rfl) hW (⟨by rw [if_neg e], rfl⟩) (by omega) (by omega) dX7_fits_30
    · exact absurd rfl hb1
set_option maxHeartbeats 4000000 in
set_option maxRecDepth 100000 in
/-- Edit.isDone, of a ShrinkYard$Replacing -/
theorem mtX6_isDone_X7 (l : Launch) (D : va_G) (w : g_H) (sz : Nat) (a d da pl dg : Nat) (xs : List Nat) (ha : g_at w a (.inr (3, [.int (nI pl), .int (nI dg)]))) (hd : g_Dig D w d da xs) (h9 : ∀ x ∈ xs, x < 8) (hpl : pl < 8) (hdg : dg < 8) : Met l yX6_isDone (ws_ yX6_isDone cX6_isDone 3 (some .boolean)) ({ frames := 4, cells := 0, slots := 0, locals := 75 }) (g_Pc D [.ref a, .ref d] w sz) (g_Qi D w sz (fun r u => r = (if eFits 0 pl dg xs = true then 1 else 0) ∧ g_Dig D u d da (if eFits 0 pl dg xs = true then eAct 0 pl dg xs else xs) ∧ g_ex (fun q => q = d ∨ q = da) w u)) (0) (0) (g_A w sz) := by
  refine Met.ofW (cc := cX6_isDone) (maxL := 3) (ret := (some .boolean)) (by decide) rfl ?_
  intro p e s m args below meth c s₁ B hml hv
  obtain ⟨rfl, hI⟩ := hv
  have hx := B.exec
  have hb := B.bytes
  have hr := B.returns
  have hts := atoms_spec (ws := ws_ yX6_isDone cX6_isDone 3 (some .boolean)) B.pre
  have hts : ∀ w ∈ lw_all, w.before _ s = true := fun w h => hts w (List.mem_cons_of_mem _ h)
  have hown : s.vm.findClass RX6 = some m.cls := findClass_of_methodNamed B.named
  have hlocks := B.notSynchronized
  have hsz := hI.1
  subst hsz
  have hW := g_W.start hI
  have hK := g_K hI
  have hE := g_E hI
  have hl := lv_entry ([.ref a, .ref d]) (n := 3) (by exact Nat.le_of_ble_eq_true rfl)
  rw [lg_entry_eq]
  generalize (lg_sl ([.ref a, .ref d]) ++ List.replicate (3 - (lg_sl ([.ref a, .ref d])).length) Slot.unset).toArray = ls at hl ⊢
  have hl : lv_has ls 3 [(0, .ref a), (1, .ref d)] := hl
  refine lv_aload_n hx hb dX6_isDone_0 rfl (lv_at hl 0 rfl) ?_
  refine lv_aload_n hx hb dX6_isDone_1 rfl (lv_at hl 1 rfl) ?_
  refine g_callFi (va_runF (cC := D.1 3) (hK.1 3 _ rfl).2 (As := [.ref d]) (rest := []) ⟨hx, hb, hml, hown, hts⟩ (mtX7_fits l D w s.heap.size a d da pl dg xs ha hd h9 hpl hdg) (va_cwF 1 hts (lw_app (lw_in _ [1599, 1648, 1650, 59] (by decide +kernel) (by decide +kernel)) (lw_meth q1652)) rfl rfl rfl (fw_5 hE) (by decide +kernel) ⟨Nat.le_of_ble_eq_true rfl, Nat.le_of_ble_eq_true rfl⟩) (g_preV hW hK hE ha rfl) rfl rfl hl.1 rfl (lv_room (Nat.le_of_ble_eq_true rfl)) dX6_isDone_2 ⟨Nat.le_of_ble_eq_true rfl, Nat.le_of_ble_eq_true rfl⟩) hW (fun r_ u_ H locs hp hW => ?_)
  obtain ⟨er, rfl⟩ := hp
  subst er
  by_cases hq : eFits 0 pl dg xs = true
  · simp only [if_pos hq]
    refine lv_istore_n (lv' := [(2, .int (1)), (0, .ref a), (1, .ref d)]) hx hb dX6_isDone_7 rfl hl (by decide) rfl (fun ls hl => ?_)
    refine lv_iload_n hx hb dX6_isDone_8 rfl (lv_at hl 0 rfl) ?_
    refine lv_if_eq (tgt := 19) hx hb dX6_isDone_9 (by decide) (fun hb1 => ?_) (fun hb1 => ?_)
    · exact absurd hb1 (by decide)
    · have hc := (of_decide_eq_true (show decide (pl < xs.length ∧ xs.getD pl 0 ≠ dg) = true from hq)).1
      refine lv_aload_n hx hb dX6_isDone_12 rfl (lv_at hl 1 rfl) ?_
      refine lv_aload_n hx hb dX6_isDone_13 rfl (lv_at hl 2 rfl) ?_
      refine g_callFv (va_runF (cC := D.1 3) (hK.1 3 _ rfl).2 (As := [.ref d]) (rest := []) ⟨hx, hb, hml, hown, hts⟩ (mtX7_act l D w H.size a d da pl dg xs ha hd hc) (va_cwF 1 hts (lw_app (lw_in _ [1662, 1680, 1682, 59] (by decide +kernel) (by decide +kernel)) (lw_meth q1684)) rfl rfl rfl (fw_9 hE) (by decide +kernel) ⟨Nat.le_of_ble_eq_true rfl, Nat.le_of_ble_eq_true rfl⟩) (g_preV hW hK hE ha rfl) rfl rfl hl.1 rfl (lv_room (Nat.le_of_ble_eq_true rfl)) dX6_isDone_14 ⟨Nat.le_of_ble_eq_true rfl, Nat.le_of_ble_eq_true rfl⟩) hW (fun u1 H locs hp hW => ?_)
      refine lv_iload_n hx hb dX6_isDone_19 rfl (lv_at hl 0 rfl) ?_
      exact g_zret (v := 1) hx hb hr hlocks (by rfl) hW (⟨rfl, hp.1, hp.2⟩) (by omega) (by omega) dX6_isDone_20
  · simp only [if_neg hq]
    refine lv_istore_n (lv' := [(2, .int (0)), (0, .ref a), (1, .ref d)]) hx hb dX6_isDone_7 rfl hl (by decide) rfl (fun ls hl => ?_)
    refine lv_iload_n hx hb dX6_isDone_8 rfl (lv_at hl 0 rfl) ?_
    refine lv_if_eq (tgt := 19) hx hb dX6_isDone_9 (by decide) (fun hb1 => ?_) (fun hb1 => ?_)
    · refine lv_iload_n hx hb dX6_isDone_19 rfl (lv_at hl 0 rfl) ?_
      exact g_zret (v := 0) hx hb hr hlocks (by rfl) hW (⟨rfl, hd, g_ex.rf⟩) (by omega) (by omega) dX6_isDone_20
    · exact absurd rfl hb1
set_option maxHeartbeats 4000000 in
set_option maxRecDepth 100000 in
/-- Placed.isAt, of a ShrinkYard$Inserting -/
theorem mtX13_isAt_X8 (l : Launch) (D : va_G) (w : g_H) (sz : Nat) (a d da pl dg : Nat) (xs : List Nat) (ha : g_at w a (.inr (4, [.int (nI pl), .int (nI dg)]))) (hd : g_Dig D w d da xs) : Met l yX13_isAt (ws_ yX13_isAt cX13_isAt 3 (some .boolean)) ({ frames := 2, cells := 0, slots := 0, locals := 32 }) (g_Pc D [.ref a, .ref d, .int ((-1))] w sz) (g_Qi D w sz (fun r u => r = (if nI pl + (-1) < nI xs.length then 1 else 0) ∧ w = u)) (0) (0) (g_A w sz) := by
  refine Met.ofW (cc := cX13_isAt) (maxL := 3) (ret := (some .boolean)) (by decide) rfl ?_
  intro p e s m args below meth c s₁ B hml hv
  obtain ⟨rfl, hI⟩ := hv
  have hx := B.exec
  have hb := B.bytes
  have hr := B.returns
  have hts := atoms_spec (ws := ws_ yX13_isAt cX13_isAt 3 (some .boolean)) B.pre
  have hts : ∀ w ∈ lw_all, w.before _ s = true := fun w h => hts w (List.mem_cons_of_mem _ h)
  have hown : s.vm.findClass RX13 = some m.cls := findClass_of_methodNamed B.named
  have hlocks := B.notSynchronized
  have hsz := hI.1
  subst hsz
  have hW := g_W.start hI
  have hK := g_K hI
  have hE := g_E hI
  have hl := lv_entry ([.ref a, .ref d, .int ((-1))]) (n := 3) (by exact Nat.le_of_ble_eq_true rfl)
  rw [lg_entry_eq]
  generalize (lg_sl ([.ref a, .ref d, .int ((-1))]) ++ List.replicate (3 - (lg_sl ([.ref a, .ref d, .int ((-1))])).length) Slot.unset).toArray = ls at hl ⊢
  have hl : lv_has ls 3 [(0, .ref a), (1, .ref d), (2, .int ((-1)))] := hl
  refine lv_aload_n hx hb dX13_isAt_0 rfl (lv_at hl 0 rfl) ?_
  refine g_callFi (va_runF (cC := D.1 4) (hK.1 4 _ rfl).2 (As := []) (rest := []) ⟨hx, hb, hml, hown, hts⟩ (mtX8_place l D w s.heap.size a (nI pl) (nI dg) ha) (va_cwF 0 hts (lw_app (lw_in _ [1613, 1623, 1625, 60] (by decide +kernel) (by decide +kernel)) (lw_meth q1627)) rfl rfl rfl (fw_2 hE) (by decide +kernel) ⟨Nat.le_of_ble_eq_true rfl, Nat.le_of_ble_eq_true rfl⟩) (g_preV hW hK hE ha rfl) rfl rfl hl.1 rfl (lv_room (Nat.le_of_ble_eq_true rfl)) dX13_isAt_1 ⟨Nat.le_of_ble_eq_true rfl, Nat.le_of_ble_eq_true rfl⟩) hW (fun r_ u_ H locs hp hW => ?_)
  obtain ⟨er, rfl⟩ := hp
  subst er
  refine lv_iload_n hx hb dX13_isAt_6 rfl (lv_at hl 2 rfl) ?_
  refine lv_iadd hx hb dX13_isAt_7 ?_
  refine lv_aload_n hx hb dX13_isAt_8 rfl (lv_at hl 1 rfl) ?_
  refine g_getN (ci := 2) (v := .int (nI xs.length)) (C := RX11) (T := TX11) (N := 2) hx hb hts in_X11 hown hK hW hd.1 rfl 1 (by decide) (nf_q1169 hE) (fun _ h9 => h9) rfl dX13_isAt_9 ?_
  refine lv_icmp_ge (tgt := 19) hx hb dX13_isAt_12 (by decide) (fun hc => ?_) (fun hc => ?_)
  · refine lv_iconst (v := 0) hx hb dX13_isAt_19 (by decide) ?_
    exact g_zret (v := 0) hx hb hr hlocks (by rfl) hW (⟨by rw [if_neg (Int32.not_lt.mpr hc)], rfl⟩) (by omega) (by omega) dX13_isAt_20
  · refine lv_iconst (v := 1) hx hb dX13_isAt_15 (by decide) ?_
    refine lv_goto (tgt := 20) hx hb dX13_isAt_16 (by decide) ?_
    exact g_zret (v := 1) hx hb hr hlocks (by rfl) hW (⟨by rw [if_pos (Int32.not_le.mp hc)], rfl⟩) (by omega) (by omega) dX13_isAt_20
set_option maxHeartbeats 4000000 in
set_option maxRecDepth 100000 in
/-- ShrinkYard$Inserting.fits -/
theorem mtX8_fits (l : Launch) (D : va_G) (w : g_H) (sz : Nat) (a d da pl dg : Nat) (xs : List Nat) (ha : g_at w a (.inr (4, [.int (nI pl), .int (nI dg)]))) (hd : g_Dig D w d da xs) (h9 : ∀ x ∈ xs, x < 8) (hpl : pl < 8) (hdg : dg < 8) : Met l yX8_fits (ws_ yX8_fits cX8_fits 2 (some .boolean)) ({ frames := 3, cells := 0, slots := 0, locals := 54 }) (g_Pc D [.ref a, .ref d] w sz) (g_Qi D w sz (fun r u => r = (if eFits 1 pl dg xs = true then 1 else 0) ∧ w = u)) (0) (0) (g_A w sz) := by
  refine Met.ofW (cc := cX8_fits) (maxL := 2) (ret := (some .boolean)) (by decide) rfl ?_
  intro p e s m args below meth c s₁ B hml hv
  obtain ⟨rfl, hI⟩ := hv
  have hx := B.exec
  have hb := B.bytes
  have hr := B.returns
  have hts := atoms_spec (ws := ws_ yX8_fits cX8_fits 2 (some .boolean)) B.pre
  have hts : ∀ w ∈ lw_all, w.before _ s = true := fun w h => hts w (List.mem_cons_of_mem _ h)
  have hown : s.vm.findClass RX8 = some m.cls := findClass_of_methodNamed B.named
  have hlocks := B.notSynchronized
  have hsz := hI.1
  subst hsz
  have hW := g_W.start hI
  have hK := g_K hI
  have hE := g_E hI
  have hl := lv_entry ([.ref a, .ref d]) (n := 2) (by exact Nat.le_of_ble_eq_true rfl)
  rw [lg_entry_eq]
  generalize (lg_sl ([.ref a, .ref d]) ++ List.replicate (2 - (lg_sl ([.ref a, .ref d])).length) Slot.unset).toArray = ls at hl ⊢
  have hl : lv_has ls 2 [(0, .ref a), (1, .ref d)] := hl
  obtain ⟨hd1, ⟨f, hf, his⟩, h8⟩ := id hd
  have hcond := ed_m1 pl hpl xs.length (by omega)
  have hg : ∀ j, xs.getD j 0 < 8 := fun j => by rw [List.getD_eq_getElem?_getD]; cases q : xs[j]? with | none => exact (by decide : 0 < 8) | some c => exact h9 c (List.mem_of_getElem? q)
  refine lv_aload_n hx hb dX8_fits_0 rfl (lv_at hl 0 rfl) ?_
  refine lv_aload_n hx hb dX8_fits_1 rfl (lv_at hl 1 rfl) ?_
  refine lv_iconst (v := (-1)) hx hb dX8_fits_2 (by decide) ?_
  refine g_calli (g_runVD (C := "ShrinkYard$Inserting") (owner := "ShrinkYard$Placed") (x := yAt "ShrinkYard$Inserting") (n := 2) (As := [.ref d, .int ((-1))]) (rest := []) ⟨hx, hb, hml, hown, hts⟩ (mtX13_isAt_X8 l D w s.heap.size a d da pl dg xs ha hd) rfl rfl (Nat.le_of_ble_eq_true rfl) (Nat.le_of_ble_eq_true rfl) (pay_in hts (lw_meth q1611)) List.mem_cons_self (hts _ q2235) (hE.df (C := "ShrinkYard$Inserting") (i := 18) (List.mem_of_getElem? (i := 1) rfl)).1 (hE.df (C := "ShrinkYard$Inserting") (i := 18) (List.mem_of_getElem? (i := 1) rfl)).2.1 (hE.df (C := "ShrinkYard$Inserting") (i := 18) (List.mem_of_getElem? (i := 1) rfl)).2.2.2.2.2 (by decide) (hE.df (C := "ShrinkYard$Inserting") (i := 18) (List.mem_of_getElem? (i := 1) rfl)).2.2.1 (hts _ q1609) (g_len2 (by decide +kernel)) (g_preV hW hK hE ha rfl) rfl rfl hl.1 rfl (lv_room (Nat.le_of_ble_eq_true rfl)) dX8_fits_3 ⟨Nat.le_of_ble_eq_true rfl, Nat.le_of_ble_eq_true rfl⟩) hW (fun r_ u_ H locs hp hW => ?_)
  obtain ⟨er, rfl⟩ := hp
  subst er
  by_cases hq : pl ≤ xs.length
  · rw [if_pos (hcond.mpr hq)]
    refine lv_if_eq (tgt := 22) hx hb dX8_fits_6 (by decide) (fun hb1 => ?_) (fun hb1 => ?_)
    · exact absurd hb1 (by decide)
    · refine lv_aload_n hx hb dX8_fits_9 rfl (lv_at hl 1 rfl) ?_
      refine g_getN (ci := 2) (v := .int (nI xs.length)) (C := RX11) (T := TX11) (N := 2) hx hb hts in_X11 hown hK hW hd1 rfl 1 (by decide) (nf_q1170 hE) (fun _ h9 => h9) rfl dX8_fits_10 ?_
      refine lv_bipush (v := 8) hx hb dX8_fits_13 (by decide) ?_
      refine g_icmp_ge (x := xs.length) (y := 8) (tgt := 22) hx hb (by omega) (by omega) dX8_fits_15 (by decide) (fun hc => ?_) (fun hc => ?_)
      · have e : ¬ eFits 1 pl dg xs = true := by simp only [eFits]; simp; omega
        refine lv_iconst (v := 0) hx hb dX8_fits_22 (by decide) ?_
        exact g_zret (v := 0) hx hb hr hlocks (by rfl) hW (⟨by rw [if_neg e], rfl⟩) (by omega) (by omega) dX8_fits_23
      · have e : eFits 1 pl dg xs = true := by simp only [eFits]; simp; omega
        refine lv_iconst (v := 1) hx hb dX8_fits_18 (by decide) ?_
        refine lv_goto (tgt := 23) hx hb dX8_fits_19 (by decide) ?_
        exact g_zret (v := 1) hx hb hr hlocks (by rfl) hW (⟨by rw [if_pos e], rfl⟩) (by omega) (by omega) dX8_fits_23
  · rw [if_neg (fun z => hq (hcond.mp z))]
    have e : ¬ eFits 1 pl dg xs = true := fun z => hq (by simp only [eFits] at z; simp at z; omega)
    refine lv_if_eq (tgt := 22) hx hb dX8_fits_6 (by decide) (fun hb1 => ?_) (fun hb1 => ?_)
    · refine lv_iconst (v := 0) hx hb dX8_fits_22 (by decide) ?_
      exact g_zret (v := 0) hx hb hr hlocks (by rfl) hW (⟨by rw [if_neg e], rfl⟩) (by omega) (by omega) dX8_fits_23
    · exact absurd rfl hb1
set_option maxHeartbeats 4000000 in
set_option maxRecDepth 100000 in
/-- Edit.isDone, of a ShrinkYard$Inserting -/
theorem mtX6_isDone_X8 (l : Launch) (D : va_G) (w : g_H) (sz : Nat) (a d da pl dg : Nat) (xs : List Nat) (ha : g_at w a (.inr (4, [.int (nI pl), .int (nI dg)]))) (hd : g_Dig D w d da xs) (h9 : ∀ x ∈ xs, x < 8) (hpl : pl < 8) (hdg : dg < 8) : Met l yX6_isDone (ws_ yX6_isDone cX6_isDone 3 (some .boolean)) ({ frames := 4, cells := 0, slots := 0, locals := 75 }) (g_Pc D [.ref a, .ref d] w sz) (g_Qi D w sz (fun r u => r = (if eFits 1 pl dg xs = true then 1 else 0) ∧ g_Dig D u d da (if eFits 1 pl dg xs = true then eAct 1 pl dg xs else xs) ∧ g_ex (fun q => q = d ∨ q = da) w u)) (0) (0) (g_A w sz) := by
  refine Met.ofW (cc := cX6_isDone) (maxL := 3) (ret := (some .boolean)) (by decide) rfl ?_
  intro p e s m args below meth c s₁ B hml hv
  obtain ⟨rfl, hI⟩ := hv
  have hx := B.exec
  have hb := B.bytes
  have hr := B.returns
  have hts := atoms_spec (ws := ws_ yX6_isDone cX6_isDone 3 (some .boolean)) B.pre
  have hts : ∀ w ∈ lw_all, w.before _ s = true := fun w h => hts w (List.mem_cons_of_mem _ h)
  have hown : s.vm.findClass RX6 = some m.cls := findClass_of_methodNamed B.named
  have hlocks := B.notSynchronized
  have hsz := hI.1
  subst hsz
  have hW := g_W.start hI
  have hK := g_K hI
  have hE := g_E hI
  have hl := lv_entry ([.ref a, .ref d]) (n := 3) (by exact Nat.le_of_ble_eq_true rfl)
  rw [lg_entry_eq]
  generalize (lg_sl ([.ref a, .ref d]) ++ List.replicate (3 - (lg_sl ([.ref a, .ref d])).length) Slot.unset).toArray = ls at hl ⊢
  have hl : lv_has ls 3 [(0, .ref a), (1, .ref d)] := hl
  refine lv_aload_n hx hb dX6_isDone_0 rfl (lv_at hl 0 rfl) ?_
  refine lv_aload_n hx hb dX6_isDone_1 rfl (lv_at hl 1 rfl) ?_
  refine g_callFi (va_runF (cC := D.1 4) (hK.1 4 _ rfl).2 (As := [.ref d]) (rest := []) ⟨hx, hb, hml, hown, hts⟩ (mtX8_fits l D w s.heap.size a d da pl dg xs ha hd h9 hpl hdg) (va_cwF 1 hts (lw_app (lw_in _ [1599, 1641, 1643, 60] (by decide +kernel) (by decide +kernel)) (lw_meth q1645)) rfl rfl rfl (fw_6 hE) (by decide +kernel) ⟨Nat.le_of_ble_eq_true rfl, Nat.le_of_ble_eq_true rfl⟩) (g_preV hW hK hE ha rfl) rfl rfl hl.1 rfl (lv_room (Nat.le_of_ble_eq_true rfl)) dX6_isDone_2 ⟨Nat.le_of_ble_eq_true rfl, Nat.le_of_ble_eq_true rfl⟩) hW (fun r_ u_ H locs hp hW => ?_)
  obtain ⟨er, rfl⟩ := hp
  subst er
  by_cases hq : eFits 1 pl dg xs = true
  · simp only [if_pos hq]
    refine lv_istore_n (lv' := [(2, .int (1)), (0, .ref a), (1, .ref d)]) hx hb dX6_isDone_7 rfl hl (by decide) rfl (fun ls hl => ?_)
    refine lv_iload_n hx hb dX6_isDone_8 rfl (lv_at hl 0 rfl) ?_
    refine lv_if_eq (tgt := 19) hx hb dX6_isDone_9 (by decide) (fun hb1 => ?_) (fun hb1 => ?_)
    · exact absurd hb1 (by decide)
    · have hc := of_decide_eq_true (show decide (pl ≤ xs.length ∧ xs.length < 8) = true from hq)
      refine lv_aload_n hx hb dX6_isDone_12 rfl (lv_at hl 1 rfl) ?_
      refine lv_aload_n hx hb dX6_isDone_13 rfl (lv_at hl 2 rfl) ?_
      refine g_callFv (va_runF (cC := D.1 4) (hK.1 4 _ rfl).2 (As := [.ref d]) (rest := []) ⟨hx, hb, hml, hown, hts⟩ (mtX8_act l D w H.size a d da pl dg xs ha hd hc.1 hc.2) (va_cwF 1 hts (lw_app (lw_in _ [1662, 1671, 1673, 60] (by decide +kernel) (by decide +kernel)) (lw_meth q1675)) rfl rfl rfl (fw_10 hE) (by decide +kernel) ⟨Nat.le_of_ble_eq_true rfl, Nat.le_of_ble_eq_true rfl⟩) (g_preV hW hK hE ha rfl) rfl rfl hl.1 rfl (lv_room (Nat.le_of_ble_eq_true rfl)) dX6_isDone_14 ⟨Nat.le_of_ble_eq_true rfl, Nat.le_of_ble_eq_true rfl⟩) hW (fun u1 H locs hp hW => ?_)
      refine lv_iload_n hx hb dX6_isDone_19 rfl (lv_at hl 0 rfl) ?_
      exact g_zret (v := 1) hx hb hr hlocks (by rfl) hW (⟨rfl, hp.1, hp.2⟩) (by omega) (by omega) dX6_isDone_20
  · simp only [if_neg hq]
    refine lv_istore_n (lv' := [(2, .int (0)), (0, .ref a), (1, .ref d)]) hx hb dX6_isDone_7 rfl hl (by decide) rfl (fun ls hl => ?_)
    refine lv_iload_n hx hb dX6_isDone_8 rfl (lv_at hl 0 rfl) ?_
    refine lv_if_eq (tgt := 19) hx hb dX6_isDone_9 (by decide) (fun hb1 => ?_) (fun hb1 => ?_)
    · refine lv_iload_n hx hb dX6_isDone_19 rfl (lv_at hl 0 rfl) ?_
      exact g_zret (v := 0) hx hb hr hlocks (by rfl) hW (⟨rfl, hd, g_ex.rf⟩) (by omega) (by omega) dX6_isDone_20
    · exact absurd rfl hb1
set_option maxHeartbeats 4000000 in
set_option maxRecDepth 100000 in
/-- Placed.isAt, of a ShrinkYard$Deleting -/
theorem mtX13_isAt_X9 (l : Launch) (D : va_G) (w : g_H) (sz : Nat) (a d da pl : Nat) (xs : List Nat) (ha : g_at w a (.inr (5, [.int (nI pl)]))) (hd : g_Dig D w d da xs) : Met l yX13_isAt (ws_ yX13_isAt cX13_isAt 3 (some .boolean)) ({ frames := 2, cells := 0, slots := 0, locals := 32 }) (g_Pc D [.ref a, .ref d, .int (0)] w sz) (g_Qi D w sz (fun r u => r = (if nI pl + 0 < nI xs.length then 1 else 0) ∧ w = u)) (0) (0) (g_A w sz) := by
  refine Met.ofW (cc := cX13_isAt) (maxL := 3) (ret := (some .boolean)) (by decide) rfl ?_
  intro p e s m args below meth c s₁ B hml hv
  obtain ⟨rfl, hI⟩ := hv
  have hx := B.exec
  have hb := B.bytes
  have hr := B.returns
  have hts := atoms_spec (ws := ws_ yX13_isAt cX13_isAt 3 (some .boolean)) B.pre
  have hts : ∀ w ∈ lw_all, w.before _ s = true := fun w h => hts w (List.mem_cons_of_mem _ h)
  have hown : s.vm.findClass RX13 = some m.cls := findClass_of_methodNamed B.named
  have hlocks := B.notSynchronized
  have hsz := hI.1
  subst hsz
  have hW := g_W.start hI
  have hK := g_K hI
  have hE := g_E hI
  have hl := lv_entry ([.ref a, .ref d, .int (0)]) (n := 3) (by exact Nat.le_of_ble_eq_true rfl)
  rw [lg_entry_eq]
  generalize (lg_sl ([.ref a, .ref d, .int (0)]) ++ List.replicate (3 - (lg_sl ([.ref a, .ref d, .int (0)])).length) Slot.unset).toArray = ls at hl ⊢
  have hl : lv_has ls 3 [(0, .ref a), (1, .ref d), (2, .int (0))] := hl
  refine lv_aload_n hx hb dX13_isAt_0 rfl (lv_at hl 0 rfl) ?_
  refine g_callFi (va_runF (cC := D.1 5) (hK.1 5 _ rfl).2 (As := []) (rest := []) ⟨hx, hb, hml, hown, hts⟩ (mtX9_place l D w s.heap.size a (nI pl) ha) (va_cwF 0 hts (lw_app (lw_in _ [1613, 1617, 1619, 61] (by decide +kernel) (by decide +kernel)) (lw_meth q1621)) rfl rfl rfl (fw_3 hE) (by decide +kernel) ⟨Nat.le_of_ble_eq_true rfl, Nat.le_of_ble_eq_true rfl⟩) (g_preV hW hK hE ha rfl) rfl rfl hl.1 rfl (lv_room (Nat.le_of_ble_eq_true rfl)) dX13_isAt_1 ⟨Nat.le_of_ble_eq_true rfl, Nat.le_of_ble_eq_true rfl⟩) hW (fun r_ u_ H locs hp hW => ?_)
  obtain ⟨er, rfl⟩ := hp
  subst er
  refine lv_iload_n hx hb dX13_isAt_6 rfl (lv_at hl 2 rfl) ?_
  refine lv_iadd hx hb dX13_isAt_7 ?_
  refine lv_aload_n hx hb dX13_isAt_8 rfl (lv_at hl 1 rfl) ?_
  refine g_getN (ci := 2) (v := .int (nI xs.length)) (C := RX11) (T := TX11) (N := 2) hx hb hts in_X11 hown hK hW hd.1 rfl 1 (by decide) (nf_q1169 hE) (fun _ h9 => h9) rfl dX13_isAt_9 ?_
  refine lv_icmp_ge (tgt := 19) hx hb dX13_isAt_12 (by decide) (fun hc => ?_) (fun hc => ?_)
  · refine lv_iconst (v := 0) hx hb dX13_isAt_19 (by decide) ?_
    exact g_zret (v := 0) hx hb hr hlocks (by rfl) hW (⟨by rw [if_neg (Int32.not_lt.mpr hc)], rfl⟩) (by omega) (by omega) dX13_isAt_20
  · refine lv_iconst (v := 1) hx hb dX13_isAt_15 (by decide) ?_
    refine lv_goto (tgt := 20) hx hb dX13_isAt_16 (by decide) ?_
    exact g_zret (v := 1) hx hb hr hlocks (by rfl) hW (⟨by rw [if_pos (Int32.not_le.mp hc)], rfl⟩) (by omega) (by omega) dX13_isAt_20
set_option maxHeartbeats 4000000 in
set_option maxRecDepth 100000 in
/-- ShrinkYard$Deleting.fits -/
theorem mtX9_fits (l : Launch) (D : va_G) (w : g_H) (sz : Nat) (a d da pl : Nat) (xs : List Nat) (ha : g_at w a (.inr (5, [.int (nI pl)]))) (hd : g_Dig D w d da xs) (h9 : ∀ x ∈ xs, x < 8) (hpl : pl < 8) : Met l yX9_fits (ws_ yX9_fits cX9_fits 2 (some .boolean)) ({ frames := 3, cells := 0, slots := 0, locals := 54 }) (g_Pc D [.ref a, .ref d] w sz) (g_Qi D w sz (fun r u => r = (if eFits 2 pl 0 xs = true then 1 else 0) ∧ w = u)) (0) (0) (g_A w sz) := by
  refine Met.ofW (cc := cX9_fits) (maxL := 2) (ret := (some .boolean)) (by decide) rfl ?_
  intro p e s m args below meth c s₁ B hml hv
  obtain ⟨rfl, hI⟩ := hv
  have hx := B.exec
  have hb := B.bytes
  have hr := B.returns
  have hts := atoms_spec (ws := ws_ yX9_fits cX9_fits 2 (some .boolean)) B.pre
  have hts : ∀ w ∈ lw_all, w.before _ s = true := fun w h => hts w (List.mem_cons_of_mem _ h)
  have hown : s.vm.findClass RX9 = some m.cls := findClass_of_methodNamed B.named
  have hlocks := B.notSynchronized
  have hsz := hI.1
  subst hsz
  have hW := g_W.start hI
  have hK := g_K hI
  have hE := g_E hI
  have hl := lv_entry ([.ref a, .ref d]) (n := 2) (by exact Nat.le_of_ble_eq_true rfl)
  rw [lg_entry_eq]
  generalize (lg_sl ([.ref a, .ref d]) ++ List.replicate (2 - (lg_sl ([.ref a, .ref d])).length) Slot.unset).toArray = ls at hl ⊢
  have hl : lv_has ls 2 [(0, .ref a), (1, .ref d)] := hl
  obtain ⟨hd1, ⟨f, hf, his⟩, h8⟩ := id hd
  have hcond := ed_m0 pl hpl xs.length (by omega)
  have hg : ∀ j, xs.getD j 0 < 8 := fun j => by rw [List.getD_eq_getElem?_getD]; cases q : xs[j]? with | none => exact (by decide : 0 < 8) | some c => exact h9 c (List.mem_of_getElem? q)
  refine lv_aload_n hx hb dX9_fits_0 rfl (lv_at hl 0 rfl) ?_
  refine lv_aload_n hx hb dX9_fits_1 rfl (lv_at hl 1 rfl) ?_
  refine lv_iconst (v := 0) hx hb dX9_fits_2 (by decide) ?_
  refine g_calli (g_runVD (C := "ShrinkYard$Deleting") (owner := "ShrinkYard$Placed") (x := yAt "ShrinkYard$Deleting") (n := 2) (As := [.ref d, .int (0)]) (rest := []) ⟨hx, hb, hml, hown, hts⟩ (mtX13_isAt_X9 l D w s.heap.size a d da pl xs ha hd) rfl rfl (Nat.le_of_ble_eq_true rfl) (Nat.le_of_ble_eq_true rfl) (pay_in hts (lw_meth q1611)) List.mem_cons_self (hts _ q2235) (hE.df (C := "ShrinkYard$Deleting") (i := 13) (List.mem_of_getElem? (i := 0) rfl)).1 (hE.df (C := "ShrinkYard$Deleting") (i := 13) (List.mem_of_getElem? (i := 0) rfl)).2.1 (hE.df (C := "ShrinkYard$Deleting") (i := 13) (List.mem_of_getElem? (i := 0) rfl)).2.2.2.2.2 (by decide) (hE.df (C := "ShrinkYard$Deleting") (i := 13) (List.mem_of_getElem? (i := 0) rfl)).2.2.1 (hts _ q1609) (g_len2 (by decide +kernel)) (g_preV hW hK hE ha rfl) rfl rfl hl.1 rfl (lv_room (Nat.le_of_ble_eq_true rfl)) dX9_fits_3 ⟨Nat.le_of_ble_eq_true rfl, Nat.le_of_ble_eq_true rfl⟩) hW (fun r_ u_ H locs hp hW => ?_)
  obtain ⟨er, rfl⟩ := hp
  subst er
  by_cases hq : pl < xs.length
  · rw [if_pos (hcond.mpr hq)]
    have e : eFits 2 pl 0 xs = true := by simp [eFits, hq]
    exact g_zret (v := 1) hx hb hr hlocks (by rfl) hW (⟨by rw [if_pos e], rfl⟩) (by omega) (by omega) dX9_fits_6
  · rw [if_neg (fun z => hq (hcond.mp z))]
    have e : ¬ eFits 2 pl 0 xs = true := fun z => hq (by simp only [eFits] at z; simp at z; omega)
    exact g_zret (v := 0) hx hb hr hlocks (by rfl) hW (⟨by rw [if_neg e], rfl⟩) (by omega) (by omega) dX9_fits_6
set_option maxHeartbeats 4000000 in
set_option maxRecDepth 100000 in
/-- Edit.isDone, of a ShrinkYard$Deleting -/
theorem mtX6_isDone_X9 (l : Launch) (D : va_G) (w : g_H) (sz : Nat) (a d da pl : Nat) (xs : List Nat) (ha : g_at w a (.inr (5, [.int (nI pl)]))) (hd : g_Dig D w d da xs) (h9 : ∀ x ∈ xs, x < 8) (hpl : pl < 8) : Met l yX6_isDone (ws_ yX6_isDone cX6_isDone 3 (some .boolean)) ({ frames := 4, cells := 0, slots := 0, locals := 75 }) (g_Pc D [.ref a, .ref d] w sz) (g_Qi D w sz (fun r u => r = (if eFits 2 pl 0 xs = true then 1 else 0) ∧ g_Dig D u d da (if eFits 2 pl 0 xs = true then eAct 2 pl 0 xs else xs) ∧ g_ex (fun q => q = d ∨ q = da) w u)) (0) (0) (g_A w sz) := by
  refine Met.ofW (cc := cX6_isDone) (maxL := 3) (ret := (some .boolean)) (by decide) rfl ?_
  intro p e s m args below meth c s₁ B hml hv
  obtain ⟨rfl, hI⟩ := hv
  have hx := B.exec
  have hb := B.bytes
  have hr := B.returns
  have hts := atoms_spec (ws := ws_ yX6_isDone cX6_isDone 3 (some .boolean)) B.pre
  have hts : ∀ w ∈ lw_all, w.before _ s = true := fun w h => hts w (List.mem_cons_of_mem _ h)
  have hown : s.vm.findClass RX6 = some m.cls := findClass_of_methodNamed B.named
  have hlocks := B.notSynchronized
  have hsz := hI.1
  subst hsz
  have hW := g_W.start hI
  have hK := g_K hI
  have hE := g_E hI
  have hl := lv_entry ([.ref a, .ref d]) (n := 3) (by exact Nat.le_of_ble_eq_true rfl)
  rw [lg_entry_eq]
  generalize (lg_sl ([.ref a, .ref d]) ++ List.replicate (3 - (lg_sl ([.ref a, .ref d])).length) Slot.unset).toArray = ls at hl ⊢
  have hl : lv_has ls 3 [(0, .ref a), (1, .ref d)] := hl
  refine lv_aload_n hx hb dX6_isDone_0 rfl (lv_at hl 0 rfl) ?_
  refine lv_aload_n hx hb dX6_isDone_1 rfl (lv_at hl 1 rfl) ?_
  refine g_callFi (va_runF (cC := D.1 5) (hK.1 5 _ rfl).2 (As := [.ref d]) (rest := []) ⟨hx, hb, hml, hown, hts⟩ (mtX9_fits l D w s.heap.size a d da pl xs ha hd h9 hpl) (va_cwF 1 hts (lw_app (lw_in _ [1599, 1602, 1604, 61] (by decide +kernel) (by decide +kernel)) (lw_meth q1606)) rfl rfl rfl (fw_7 hE) (by decide +kernel) ⟨Nat.le_of_ble_eq_true rfl, Nat.le_of_ble_eq_true rfl⟩) (g_preV hW hK hE ha rfl) rfl rfl hl.1 rfl (lv_room (Nat.le_of_ble_eq_true rfl)) dX6_isDone_2 ⟨Nat.le_of_ble_eq_true rfl, Nat.le_of_ble_eq_true rfl⟩) hW (fun r_ u_ H locs hp hW => ?_)
  obtain ⟨er, rfl⟩ := hp
  subst er
  by_cases hq : eFits 2 pl 0 xs = true
  · simp only [if_pos hq]
    refine lv_istore_n (lv' := [(2, .int (1)), (0, .ref a), (1, .ref d)]) hx hb dX6_isDone_7 rfl hl (by decide) rfl (fun ls hl => ?_)
    refine lv_iload_n hx hb dX6_isDone_8 rfl (lv_at hl 0 rfl) ?_
    refine lv_if_eq (tgt := 19) hx hb dX6_isDone_9 (by decide) (fun hb1 => ?_) (fun hb1 => ?_)
    · exact absurd hb1 (by decide)
    · have hc := of_decide_eq_true (show decide (pl < xs.length) = true from hq)
      refine lv_aload_n hx hb dX6_isDone_12 rfl (lv_at hl 1 rfl) ?_
      refine lv_aload_n hx hb dX6_isDone_13 rfl (lv_at hl 2 rfl) ?_
      refine g_callFv (va_runF (cC := D.1 5) (hK.1 5 _ rfl).2 (As := [.ref d]) (rest := []) ⟨hx, hb, hml, hown, hts⟩ (mtX9_act l D w H.size a d da pl xs ha hd hc) (va_cwF 1 hts (lw_app (lw_in _ [1662, 1665, 1667, 61] (by decide +kernel) (by decide +kernel)) (lw_meth q1669)) rfl rfl rfl (fw_11 hE) (by decide +kernel) ⟨Nat.le_of_ble_eq_true rfl, Nat.le_of_ble_eq_true rfl⟩) (g_preV hW hK hE ha rfl) rfl rfl hl.1 rfl (lv_room (Nat.le_of_ble_eq_true rfl)) dX6_isDone_14 ⟨Nat.le_of_ble_eq_true rfl, Nat.le_of_ble_eq_true rfl⟩) hW (fun u1 H locs hp hW => ?_)
      refine lv_iload_n hx hb dX6_isDone_19 rfl (lv_at hl 0 rfl) ?_
      exact g_zret (v := 1) hx hb hr hlocks (by rfl) hW (⟨rfl, hp.1, hp.2⟩) (by omega) (by omega) dX6_isDone_20
  · simp only [if_neg hq]
    refine lv_istore_n (lv' := [(2, .int (0)), (0, .ref a), (1, .ref d)]) hx hb dX6_isDone_7 rfl hl (by decide) rfl (fun ls hl => ?_)
    refine lv_iload_n hx hb dX6_isDone_8 rfl (lv_at hl 0 rfl) ?_
    refine lv_if_eq (tgt := 19) hx hb dX6_isDone_9 (by decide) (fun hb1 => ?_) (fun hb1 => ?_)
    · refine lv_iload_n hx hb dX6_isDone_19 rfl (lv_at hl 0 rfl) ?_
      exact g_zret (v := 0) hx hb hr hlocks (by rfl) hW (⟨rfl, hd, g_ex.rf⟩) (by omega) (by omega) dX6_isDone_20
    · exact absurd rfl hb1
set_option maxHeartbeats 4000000 in
set_option maxRecDepth 100000 in
/-- Placed.isAt, of a ShrinkYard$Swapping -/
theorem mtX13_isAt_X10 (l : Launch) (D : va_G) (w : g_H) (sz : Nat) (a d da pl : Nat) (xs : List Nat) (ha : g_at w a (.inr (6, [.int (nI pl)]))) (hd : g_Dig D w d da xs) : Met l yX13_isAt (ws_ yX13_isAt cX13_isAt 3 (some .boolean)) ({ frames := 2, cells := 0, slots := 0, locals := 32 }) (g_Pc D [.ref a, .ref d, .int (1)] w sz) (g_Qi D w sz (fun r u => r = (if nI pl + 1 < nI xs.length then 1 else 0) ∧ w = u)) (0) (0) (g_A w sz) := by
  refine Met.ofW (cc := cX13_isAt) (maxL := 3) (ret := (some .boolean)) (by decide) rfl ?_
  intro p e s m args below meth c s₁ B hml hv
  obtain ⟨rfl, hI⟩ := hv
  have hx := B.exec
  have hb := B.bytes
  have hr := B.returns
  have hts := atoms_spec (ws := ws_ yX13_isAt cX13_isAt 3 (some .boolean)) B.pre
  have hts : ∀ w ∈ lw_all, w.before _ s = true := fun w h => hts w (List.mem_cons_of_mem _ h)
  have hown : s.vm.findClass RX13 = some m.cls := findClass_of_methodNamed B.named
  have hlocks := B.notSynchronized
  have hsz := hI.1
  subst hsz
  have hW := g_W.start hI
  have hK := g_K hI
  have hE := g_E hI
  have hl := lv_entry ([.ref a, .ref d, .int (1)]) (n := 3) (by exact Nat.le_of_ble_eq_true rfl)
  rw [lg_entry_eq]
  generalize (lg_sl ([.ref a, .ref d, .int (1)]) ++ List.replicate (3 - (lg_sl ([.ref a, .ref d, .int (1)])).length) Slot.unset).toArray = ls at hl ⊢
  have hl : lv_has ls 3 [(0, .ref a), (1, .ref d), (2, .int (1))] := hl
  refine lv_aload_n hx hb dX13_isAt_0 rfl (lv_at hl 0 rfl) ?_
  refine g_callFi (va_runF (cC := D.1 6) (hK.1 6 _ rfl).2 (As := []) (rest := []) ⟨hx, hb, hml, hown, hts⟩ (mtX10_place l D w s.heap.size a (nI pl) ha) (va_cwF 0 hts (lw_app (lw_in _ [1613, 1635, 1637, 62] (by decide +kernel) (by decide +kernel)) (lw_meth q1639)) rfl rfl rfl (fw_0 hE) (by decide +kernel) ⟨Nat.le_of_ble_eq_true rfl, Nat.le_of_ble_eq_true rfl⟩) (g_preV hW hK hE ha rfl) rfl rfl hl.1 rfl (lv_room (Nat.le_of_ble_eq_true rfl)) dX13_isAt_1 ⟨Nat.le_of_ble_eq_true rfl, Nat.le_of_ble_eq_true rfl⟩) hW (fun r_ u_ H locs hp hW => ?_)
  obtain ⟨er, rfl⟩ := hp
  subst er
  refine lv_iload_n hx hb dX13_isAt_6 rfl (lv_at hl 2 rfl) ?_
  refine lv_iadd hx hb dX13_isAt_7 ?_
  refine lv_aload_n hx hb dX13_isAt_8 rfl (lv_at hl 1 rfl) ?_
  refine g_getN (ci := 2) (v := .int (nI xs.length)) (C := RX11) (T := TX11) (N := 2) hx hb hts in_X11 hown hK hW hd.1 rfl 1 (by decide) (nf_q1169 hE) (fun _ h9 => h9) rfl dX13_isAt_9 ?_
  refine lv_icmp_ge (tgt := 19) hx hb dX13_isAt_12 (by decide) (fun hc => ?_) (fun hc => ?_)
  · refine lv_iconst (v := 0) hx hb dX13_isAt_19 (by decide) ?_
    exact g_zret (v := 0) hx hb hr hlocks (by rfl) hW (⟨by rw [if_neg (Int32.not_lt.mpr hc)], rfl⟩) (by omega) (by omega) dX13_isAt_20
  · refine lv_iconst (v := 1) hx hb dX13_isAt_15 (by decide) ?_
    refine lv_goto (tgt := 20) hx hb dX13_isAt_16 (by decide) ?_
    exact g_zret (v := 1) hx hb hr hlocks (by rfl) hW (⟨by rw [if_pos (Int32.not_le.mp hc)], rfl⟩) (by omega) (by omega) dX13_isAt_20
set_option maxHeartbeats 4000000 in
set_option maxRecDepth 100000 in
/-- ShrinkYard$Swapping.fits -/
theorem mtX10_fits (l : Launch) (D : va_G) (w : g_H) (sz : Nat) (a d da pl : Nat) (xs : List Nat) (ha : g_at w a (.inr (6, [.int (nI pl)]))) (hd : g_Dig D w d da xs) (h9 : ∀ x ∈ xs, x < 8) (hpl : pl < 8) : Met l yX10_fits (ws_ yX10_fits cX10_fits 2 (some .boolean)) ({ frames := 3, cells := 0, slots := 0, locals := 54 }) (g_Pc D [.ref a, .ref d] w sz) (g_Qi D w sz (fun r u => r = (if eFits 3 pl 0 xs = true then 1 else 0) ∧ w = u)) (0) (0) (g_A w sz) := by
  refine Met.ofW (cc := cX10_fits) (maxL := 2) (ret := (some .boolean)) (by decide) rfl ?_
  intro p e s m args below meth c s₁ B hml hv
  obtain ⟨rfl, hI⟩ := hv
  have hx := B.exec
  have hb := B.bytes
  have hr := B.returns
  have hts := atoms_spec (ws := ws_ yX10_fits cX10_fits 2 (some .boolean)) B.pre
  have hts : ∀ w ∈ lw_all, w.before _ s = true := fun w h => hts w (List.mem_cons_of_mem _ h)
  have hown : s.vm.findClass RX10 = some m.cls := findClass_of_methodNamed B.named
  have hlocks := B.notSynchronized
  have hsz := hI.1
  subst hsz
  have hW := g_W.start hI
  have hK := g_K hI
  have hE := g_E hI
  have hl := lv_entry ([.ref a, .ref d]) (n := 2) (by exact Nat.le_of_ble_eq_true rfl)
  rw [lg_entry_eq]
  generalize (lg_sl ([.ref a, .ref d]) ++ List.replicate (2 - (lg_sl ([.ref a, .ref d])).length) Slot.unset).toArray = ls at hl ⊢
  have hl : lv_has ls 2 [(0, .ref a), (1, .ref d)] := hl
  obtain ⟨hd1, ⟨f, hf, his⟩, h8⟩ := id hd
  have hcond := ed_p1 pl hpl xs.length (by omega)
  have hg : ∀ j, xs.getD j 0 < 8 := fun j => by rw [List.getD_eq_getElem?_getD]; cases q : xs[j]? with | none => exact (by decide : 0 < 8) | some c => exact h9 c (List.mem_of_getElem? q)
  refine lv_aload_n hx hb dX10_fits_0 rfl (lv_at hl 0 rfl) ?_
  refine lv_aload_n hx hb dX10_fits_1 rfl (lv_at hl 1 rfl) ?_
  refine lv_iconst (v := 1) hx hb dX10_fits_2 (by decide) ?_
  refine g_calli (g_runVD (C := "ShrinkYard$Swapping") (owner := "ShrinkYard$Placed") (x := yAt "ShrinkYard$Swapping") (n := 2) (As := [.ref d, .int (1)]) (rest := []) ⟨hx, hb, hml, hown, hts⟩ (mtX13_isAt_X10 l D w s.heap.size a d da pl xs ha hd) rfl rfl (Nat.le_of_ble_eq_true rfl) (Nat.le_of_ble_eq_true rfl) (pay_in hts (lw_meth q1611)) List.mem_cons_self (hts _ q2235) (hE.df (C := "ShrinkYard$Swapping") (i := 13) (List.mem_of_getElem? (i := 3) rfl)).1 (hE.df (C := "ShrinkYard$Swapping") (i := 13) (List.mem_of_getElem? (i := 3) rfl)).2.1 (hE.df (C := "ShrinkYard$Swapping") (i := 13) (List.mem_of_getElem? (i := 3) rfl)).2.2.2.2.2 (by decide) (hE.df (C := "ShrinkYard$Swapping") (i := 13) (List.mem_of_getElem? (i := 3) rfl)).2.2.1 (hts _ q1609) (g_len2 (by decide +kernel)) (g_preV hW hK hE ha rfl) rfl rfl hl.1 rfl (lv_room (Nat.le_of_ble_eq_true rfl)) dX10_fits_3 ⟨Nat.le_of_ble_eq_true rfl, Nat.le_of_ble_eq_true rfl⟩) hW (fun r_ u_ H locs hp hW => ?_)
  obtain ⟨er, rfl⟩ := hp
  subst er
  by_cases hq : pl + 1 < xs.length
  · rw [if_pos (hcond.mpr hq)]
    refine lv_if_eq (tgt := 36) hx hb dX10_fits_6 (by decide) (fun hb1 => ?_) (fun hb1 => ?_)
    · exact absurd hb1 (by decide)
    · refine lv_aload_n hx hb dX10_fits_9 rfl (lv_at hl 1 rfl) ?_
      refine g_getN (ci := 2) (v := .ref da) (C := RX11) (T := TX11) (N := 2) hx hb hts in_X11 hown hK hW hd1 rfl 0 (by decide) (nf_q1165 hE) (fun _ h9 => h9) rfl dX10_fits_10 ?_
      refine lv_aload_n hx hb dX10_fits_13 rfl (lv_at hl 0 rfl) ?_
      refine g_get (ci := 6) (v := .int (nI pl)) (C := RX10) (T := TX10) (N := 1) hx hb hts in_X10 hown hK hW ha rfl 0 (by decide) q722 (fun _ h9 => h9) rfl dX10_fits_14 ?_
      refine g_iald (i := pl) hx hb hK hW hf (by omega) (by decide) dX10_fits_17 ?_
      refine lv_aload_n hx hb dX10_fits_18 rfl (lv_at hl 1 rfl) ?_
      refine g_getN (ci := 2) (v := .ref da) (C := RX11) (T := TX11) (N := 2) hx hb hts in_X11 hown hK hW hd1 rfl 0 (by decide) (nf_q1165 hE) (fun _ h9 => h9) rfl dX10_fits_19 ?_
      refine lv_aload_n hx hb dX10_fits_22 rfl (lv_at hl 0 rfl) ?_
      refine g_get (ci := 6) (v := .int (nI pl)) (C := RX10) (T := TX10) (N := 1) hx hb hts in_X10 hown hK hW ha rfl 0 (by decide) q722 (fun _ h9 => h9) rfl dX10_fits_23 ?_
      refine lv_iconst (v := 1) hx hb dX10_fits_26 (by decide) ?_
      refine lv_iadd hx hb dX10_fits_27 ?_
      refine g_topi (y := nI (pl + 1)) (nI_1 pl) ?_
      refine g_iald (i := pl + 1) hx hb hK hW hf (by omega) (by decide) dX10_fits_28 ?_
      refine lv_icmp_eq (tgt := 36) hx hb dX10_fits_29 (by decide) (fun hc => ?_) (fun hc => ?_)
      · have e1 : xs.getD pl 0 = xs.getD (pl + 1) 0 := nI_inj (Nat.lt_trans (hg _) (by decide)) (Nat.lt_trans (hg _) (by decide)) ((his pl (by omega)).symm.trans (hc.trans (his _ hq)))
        have e : ¬ eFits 3 pl 0 xs = true := by simp only [eFits, e1]; simp
        refine lv_iconst (v := 0) hx hb dX10_fits_36 (by decide) ?_
        exact g_zret (v := 0) hx hb hr hlocks (by rfl) hW (⟨by rw [if_neg e], rfl⟩) (by omega) (by omega) dX10_fits_37
      · have e1 : xs.getD pl 0 ≠ xs.getD (pl + 1) 0 := fun z => hc ((his pl (by omega)).trans ((congrArg nI z).trans (his _ hq).symm))
        have e : eFits 3 pl 0 xs = true := by show decide _ = true; exact decide_eq_true ⟨hq, e1⟩
        refine lv_iconst (v := 1) hx hb dX10_fits_32 (by decide) ?_
        refine lv_goto (tgt := 37) hx hb dX10_fits_33 (by decide) ?_
        exact g_zret (v := 1) hx hb hr hlocks (by rfl) hW (⟨by rw [if_pos e], rfl⟩) (by omega) (by omega) dX10_fits_37
  · rw [if_neg (fun z => hq (hcond.mp z))]
    have e : ¬ eFits 3 pl 0 xs = true := fun z => hq (by simp only [eFits] at z; simp at z; omega)
    refine lv_if_eq (tgt := 36) hx hb dX10_fits_6 (by decide) (fun hb1 => ?_) (fun hb1 => ?_)
    · refine lv_iconst (v := 0) hx hb dX10_fits_36 (by decide) ?_
      exact g_zret (v := 0) hx hb hr hlocks (by rfl) hW (⟨by rw [if_neg e], rfl⟩) (by omega) (by omega) dX10_fits_37
    · exact absurd rfl hb1
set_option maxHeartbeats 4000000 in
set_option maxRecDepth 100000 in
/-- Edit.isDone, of a ShrinkYard$Swapping -/
theorem mtX6_isDone_X10 (l : Launch) (D : va_G) (w : g_H) (sz : Nat) (a d da pl : Nat) (xs : List Nat) (ha : g_at w a (.inr (6, [.int (nI pl)]))) (hd : g_Dig D w d da xs) (h9 : ∀ x ∈ xs, x < 8) (hpl : pl < 8) : Met l yX6_isDone (ws_ yX6_isDone cX6_isDone 3 (some .boolean)) ({ frames := 4, cells := 0, slots := 0, locals := 75 }) (g_Pc D [.ref a, .ref d] w sz) (g_Qi D w sz (fun r u => r = (if eFits 3 pl 0 xs = true then 1 else 0) ∧ g_Dig D u d da (if eFits 3 pl 0 xs = true then eAct 3 pl 0 xs else xs) ∧ g_ex (fun q => q = d ∨ q = da) w u)) (0) (0) (g_A w sz) := by
  refine Met.ofW (cc := cX6_isDone) (maxL := 3) (ret := (some .boolean)) (by decide) rfl ?_
  intro p e s m args below meth c s₁ B hml hv
  obtain ⟨rfl, hI⟩ := hv
  have hx := B.exec
  have hb := B.bytes
  have hr := B.returns
  have hts := atoms_spec (ws := ws_ yX6_isDone cX6_isDone 3 (some .boolean)) B.pre
  have hts : ∀ w ∈ lw_all, w.before _ s = true := fun w h => hts w (List.mem_cons_of_mem _ h)
  have hown : s.vm.findClass RX6 = some m.cls := findClass_of_methodNamed B.named
  have hlocks := B.notSynchronized
  have hsz := hI.1
  subst hsz
  have hW := g_W.start hI
  have hK := g_K hI
  have hE := g_E hI
  have hl := lv_entry ([.ref a, .ref d]) (n := 3) (by exact Nat.le_of_ble_eq_true rfl)
  rw [lg_entry_eq]
  generalize (lg_sl ([.ref a, .ref d]) ++ List.replicate (3 - (lg_sl ([.ref a, .ref d])).length) Slot.unset).toArray = ls at hl ⊢
  have hl : lv_has ls 3 [(0, .ref a), (1, .ref d)] := hl
  refine lv_aload_n hx hb dX6_isDone_0 rfl (lv_at hl 0 rfl) ?_
  refine lv_aload_n hx hb dX6_isDone_1 rfl (lv_at hl 1 rfl) ?_
  refine g_callFi (va_runF (cC := D.1 6) (hK.1 6 _ rfl).2 (As := [.ref d]) (rest := []) ⟨hx, hb, hml, hown, hts⟩ (mtX10_fits l D w s.heap.size a d da pl xs ha hd h9 hpl) (va_cwF 1 hts (lw_app (lw_in _ [1599, 1655, 1657, 62] (by decide +kernel) (by decide +kernel)) (lw_meth q1659)) rfl rfl rfl (fw_4 hE) (by decide +kernel) ⟨Nat.le_of_ble_eq_true rfl, Nat.le_of_ble_eq_true rfl⟩) (g_preV hW hK hE ha rfl) rfl rfl hl.1 rfl (lv_room (Nat.le_of_ble_eq_true rfl)) dX6_isDone_2 ⟨Nat.le_of_ble_eq_true rfl, Nat.le_of_ble_eq_true rfl⟩) hW (fun r_ u_ H locs hp hW => ?_)
  obtain ⟨er, rfl⟩ := hp
  subst er
  by_cases hq : eFits 3 pl 0 xs = true
  · simp only [if_pos hq]
    refine lv_istore_n (lv' := [(2, .int (1)), (0, .ref a), (1, .ref d)]) hx hb dX6_isDone_7 rfl hl (by decide) rfl (fun ls hl => ?_)
    refine lv_iload_n hx hb dX6_isDone_8 rfl (lv_at hl 0 rfl) ?_
    refine lv_if_eq (tgt := 19) hx hb dX6_isDone_9 (by decide) (fun hb1 => ?_) (fun hb1 => ?_)
    · exact absurd hb1 (by decide)
    · have hc := (of_decide_eq_true (show decide (pl + 1 < xs.length ∧ xs.getD pl 0 ≠ xs.getD (pl + 1) 0) = true from hq)).1
      refine lv_aload_n hx hb dX6_isDone_12 rfl (lv_at hl 1 rfl) ?_
      refine lv_aload_n hx hb dX6_isDone_13 rfl (lv_at hl 2 rfl) ?_
      refine g_callFv (va_runF (cC := D.1 6) (hK.1 6 _ rfl).2 (As := [.ref d]) (rest := []) ⟨hx, hb, hml, hown, hts⟩ (mtX10_act l D w H.size a d da pl xs ha hd hc) (va_cwF 1 hts (lw_app (lw_in _ [1662, 1685, 1687, 62] (by decide +kernel) (by decide +kernel)) (lw_meth q1689)) rfl rfl rfl (fw_8 hE) (by decide +kernel) ⟨Nat.le_of_ble_eq_true rfl, Nat.le_of_ble_eq_true rfl⟩) (g_preV hW hK hE ha rfl) rfl rfl hl.1 rfl (lv_room (Nat.le_of_ble_eq_true rfl)) dX6_isDone_14 ⟨Nat.le_of_ble_eq_true rfl, Nat.le_of_ble_eq_true rfl⟩) hW (fun u1 H locs hp hW => ?_)
      refine lv_iload_n hx hb dX6_isDone_19 rfl (lv_at hl 0 rfl) ?_
      exact g_zret (v := 1) hx hb hr hlocks (by rfl) hW (⟨rfl, hp.1, hp.2⟩) (by omega) (by omega) dX6_isDone_20
  · simp only [if_neg hq]
    refine lv_istore_n (lv' := [(2, .int (0)), (0, .ref a), (1, .ref d)]) hx hb dX6_isDone_7 rfl hl (by decide) rfl (fun ls hl => ?_)
    refine lv_iload_n hx hb dX6_isDone_8 rfl (lv_at hl 0 rfl) ?_
    refine lv_if_eq (tgt := 19) hx hb dX6_isDone_9 (by decide) (fun hb1 => ?_) (fun hb1 => ?_)
    · refine lv_iload_n hx hb dX6_isDone_19 rfl (lv_at hl 0 rfl) ?_
      exact g_zret (v := 0) hx hb hr hlocks (by rfl) hW (⟨rfl, hd, g_ex.rf⟩) (by omega) (by omega) dX6_isDone_20
    · exact absurd rfl hb1
