/-! ShrinkYard: single inputs *
-/
set_option maxRecDepth 100000
def digs (t : List Nat) : List Nat := t.map (fun x => x - 48)
def isIn (t : List Nat) : Prop := t.length ≤ 8 ∧ kHas t 0 = true
theorem digs_ok {t : List Nat} (h : t.length ≤ 8) (k : kHas t 0 = true) : sDg (digs t) := ⟨by unfold digs; rw [List.length_map]; exact h, fun x hx => by
  obtain ⟨c, hc, rfl⟩ := List.mem_map.mp hx
  have := kHas0 k c hc
  omega⟩
theorem txt_digs {t : List Nat} (k : kHas t 0 = true) : txt (digs t) = t := by
  unfold txt digs
  rw [List.map_map]
  refine (List.map_congr_left (g := id) (fun c hc => ?_)).trans (List.map_id _)
  have := kHas0 k c hc
  show 48 + (c - 48) = c
  omega
/-- the yard's places alone have changed, its labels gone on -/
def yCh (w : g_H) (lab : Nat → Nat) (u : g_H) (l2 : Nat → Nat) : Prop := (∀ z, z ∈ w.1 → l2 z = lab z) ∧ g_ex (yM lab) w u
theorem yCh.tr {w u v : g_H} {lab l2 l3 : Nat → Nat} (h : yCh w lab u l2) (k : yCh u l2 v l3) : yCh w lab v l3 :=
  ⟨fun z hz => (k.1 z (h.2.1 z hz)).trans (h.1 z hz), h.2.trM k.2 (fun z hz hM => by unfold yM at *; rw [h.1 z hz] at hM; exact hM)⟩
theorem yCh.rf {w : g_H} {lab : Nat → Nat} : yCh w lab w lab := ⟨fun _ _ => rfl, g_ex.rf⟩
theorem yCh.nw {w u : g_H} {lab : Nat → Nat} (q : g_ex (fun _ => False) w u) (j : Nat) : yCh w lab u (lb lab w j) := ⟨lb_in, q.mono (fun _ _ z => z.elim)⟩
theorem yCh.of {w u : g_H} {lab : Nat → Nat} {M : Nat → Prop} (q : g_ex M w u) (h : ∀ z, z ∈ w.1 → M z → yM lab z) (j : Nat) : yCh w lab u (lb lab w j) := ⟨lb_in, q.mono h⟩
/-- the code of a run that fails -/
noncomputable def mCode (P : List mI) (xs : List Nat) : Int32 := (mOut P xs).2.1.getD 0
theorem mCode_get {P : List mI} {xs : List Nat} (h : (mOut P xs).1 = 1) (cd : Int32) : (mOut P xs).2.1.getD cd = mCode P xs := by
  unfold mCode
  rw [mOut_eq] at h ⊢
  obtain ⟨v, hv⟩ := m_code _ _ _ _ _ h
  rw [hv]
  rfl
theorem mOut_lt {P : List mI} {xs : List Nat} : (mOut P xs).1 < 3 := by rw [mOut_eq]; exact m_vd _ _ _ _ _
theorem eAct_ok {k pl dg : Nat} {xs : List Nat} (h : sDg xs) (hf : eFits k pl dg xs = true) (hd : dg < 8) : sDg (eAct k pl dg xs) := by
  obtain ⟨h1, h2⟩ := h
  have hg : ∀ j, j < xs.length → xs.getD j 0 < 8 := fun j hj => h2 _ (by rw [List.getD_eq_getElem?_getD, List.getElem?_eq_getElem hj]; exact List.getElem_mem _)
  unfold eFits at hf
  unfold eAct
  split
  · exact ⟨by rw [List.length_set]; exact h1, fun x hx => (List.mem_or_eq_of_mem_set hx).elim (h2 x) (fun e => by rw [e]; exact hd)⟩
  · split
    · rename_i q0 q1
      rw [if_neg q0, if_pos q1] at hf
      have hf := of_decide_eq_true hf
      exact ⟨by rw [List.length_insertIdx]; split <;> omega, fun x hx => by
        rcases (List.mem_insertIdx hf.1).mp hx with e | e
        · rw [e]; exact hd
        · exact h2 x e⟩
    · split
      · exact ⟨by rw [List.length_eraseIdx]; split <;> omega, fun x hx => h2 x (List.mem_of_mem_eraseIdx hx)⟩
      · rename_i q0 q1 q2
        rw [if_neg q0, if_neg q1, if_neg q2] at hf
        have hf := of_decide_eq_true hf
        refine ⟨by rw [List.length_set, List.length_set]; exact h1, fun x hx => ?_⟩
        rcases List.mem_or_eq_of_mem_set hx with e | e
        · rcases List.mem_or_eq_of_mem_set e with e | e
          · exact h2 x e
          · rw [e]; exact hg _ hf.1
        · rw [e]; exact hg _ (by omega)
theorem g_SZ.cx {D : va_G} {w : g_H} {lab : Nat → Nat} {x ac rn tt n st cap ra eb wb par : Nat} {rf : Nat → Nat} {P : List mI} {C : List yC} {A : Nat → List (List Nat)} {cov E : Nat → Bool} {K Q : List (List Nat)} {F : List (List Nat × List Nat × Int32)} {cp : Nat → Nat} {ps : List Nat} {vv : Value} {cd : Int32} (h : g_SZ D w lab x rf P C A cov K Q ac F rn tt cp) (hP : g_Pg D w (rf 2) par ps (cp 2) P) (hm : lab (rf 9) = 9 ∧ lab ra = 9 ∧ lab eb = 9 ∧ lab wb = 9) (m5 : lab (rf 2) = 2) (m6 : 0 < cp 2 → lab par = 2) (hMa : g_Ma D w (rf 9) ra eb wb x vv cd st E n cap) : g_CX D w x (rf 9) ra eb wb (rf 2) par (cp 2) ps P (fun q => q = rf 9 ∨ q = ra ∨ q = eb ∨ q = wb) := by
  obtain ⟨m1, m2, m3, m4⟩ := hm
  have hno : ∀ z, lab z ≠ 9 → ¬ (z = rf 9 ∨ z = ra ∨ z = eb ∨ z = wb) := fun z hz q => by
    rcases q with q | q | q | q <;> rw [q] at hz <;> exact hz (by assumption)
  refine ⟨⟨_, _, _, _, _, _, _, _, _, h.1.1⟩, hP, ⟨Or.inl rfl, Or.inr (Or.inl rfl), Or.inr (Or.inr (Or.inl rfl)), Or.inr (Or.inr (Or.inr rfl))⟩, hno x (by rw [h.1.2]; decide), hno _ (by rw [m5]; decide), fun h0 => hno par (by rw [m6 h0]; decide), fun j hj q => ?_⟩
  obtain ⟨⟨rd, e1⟩, ⟨f, e2⟩, e3, ⟨fw, e4, -⟩, -⟩ := hMa
  have hi := (hP.2.2.2 j hj).1
  rcases q with q | q | q | q
  · exact g_neO hi e1 (by decide) q
  · exact g_neOA hi e2 q
  · exact g_neO hi e3 (by decide) q
  · exact g_neOA hi e4 q
set_option maxHeartbeats 4000000 in
set_option maxRecDepth 100000 in
/-- ShrinkYard.verdict -/
theorem mtX1_verdict (l : Launch) (hl9 : l.stackTraces = false) (D : va_G) (w : g_H) (sz : Nat) (lab : Nat → Nat) (x ac rn tt : Nat) (rf : Nat → Nat) (P : List mI) (C : List yC) (A : Nat → List (List Nat)) (cov : Nat → Bool) (K Q : List (List Nat)) (F : List (List Nat × List Nat × Int32)) (cp : Nat → Nat) (hS : g_SZ D w lab x rf P C A cov K Q ac F rn tt cp) (st : Nat) (t : List Nat) (hst : g_Str D w st t) : vx_Met l yX1_verdict (ws_ yX1_verdict cX1_verdict 2 (some (.object "Verdict"))) ({ frames := 10, cells := 3 + (bsC (cp 9) (mOut P (digs t)).2.2.2 - (cp 9)), slots := 16 + 2 * (bsC (cp 9) (mOut P (digs t)).2.2.2 - (cp 9)), locals := 191 }) (g_Pc D [.ref x, .ref st] w sz) (g_Qq D w sz (fun r u => isIn t ∧ r = some (D.2 1003 (mOut P (digs t)).1) ∧ ∃ l2, g_SZ D u l2 x rf P C A cov K Q ac F rn tt (cpU cp 9 (bsC (cp 9) (mOut P (digs t)).2.2.2)) ∧ yCh w lab u l2)) (g_XC D w sz (fun E u => E = "java/lang/IllegalArgumentException" ∧ ¬ isIn t ∧ w = u)) (3 + (bsC (cp 9) (mOut P (digs t)).2.2.2 - (cp 9))) (16 + 2 * (bsC (cp 9) (mOut P (digs t)).2.2.2 - (cp 9))) (g_A w sz) := by
  refine vx_ofW (cc := cX1_verdict) (maxL := 2) (ret := (some (.object "Verdict"))) (by decide) rfl ?_
  intro p e s m args below meth c s₁ B hml hhand hv
  have hout : ∀ pc : Nat, ∀ x ∈ c.exceptionTable.toList, covers x pc = false := fun _ x hx => (hhand x hx).elim
  obtain ⟨rfl, hI⟩ := hv
  have hx := B.exec
  have hb := B.bytes
  have hr := B.returns
  have hts := atoms_spec (ws := ws_ yX1_verdict cX1_verdict 2 (some (.object "Verdict"))) B.pre
  have hts : ∀ w ∈ lw_all, w.before _ s = true := fun w h => hts w (List.mem_cons_of_mem _ h)
  have hown : s.vm.findClass RX1 = some m.cls := findClass_of_methodNamed B.named
  have hlocks := B.notSynchronized
  have hsz := hI.1
  subst hsz
  have hW := g_W.start hI
  have hK := g_K hI
  have hE := g_E hI
  have hl := lv_entry ([.ref x, .ref st]) (n := 2) (by exact Nat.le_of_ble_eq_true rfl)
  rw [lg_entry_eq]
  generalize (lg_sl ([.ref x, .ref st]) ++ List.replicate (2 - (lg_sl ([.ref x, .ref st])).length) Slot.unset).toArray = ls at hl ⊢
  have hl : lv_has ls 2 [(0, .ref x), (1, .ref st)] := hl
  refine lv_aload_n hx hb dX1_verdict_0 rfl (lv_at hl 0 rfl) ?_
  refine g_get (ci := 0) (v := .ref (rf 9)) (C := RX1) (T := TX1) (N := 11) hx hb hts in_X1 hown hK hW hS.1.1 rfl 3 (by decide) q357 (fun _ h9 => h9) rfl dX1_verdict_1 ?_
  refine lv_aload_n hx hb dX1_verdict_4 rfl (lv_at hl 1 rfl) ?_
  refine g_xcallq (vx_runS (As := [.ref st]) (rest := [.ref (rf 9)]) ⟨hx, hb, hml, hown, hts⟩ (mtX1_requireInput l hl9 D w s.heap.size st t hst) (va_cwS 1 hts (lw_S q1153 q1154 q34 q1155) rfl rfl rfl (by decide +kernel) ⟨Nat.le_of_ble_eq_true rfl, Nat.le_of_ble_eq_true rfl⟩) (g_preS hW hK hE) rfl rfl hl.1 rfl (lv_room (Nat.le_of_ble_eq_true rfl)) dX1_verdict_5 ⟨?_, ?_⟩) hW (fun E ce q9 u_ H locs hp hW hxc1 hxc2 hxc3 => g_xout (hout _) hlocks hW (⟨hp.1, hp.2.1, hp.2.2⟩) hxc1 hxc2 hxc3 ?_ ?_) (fun r_ u1 H locs hp hW => ?_)
  · (try simp only [headSpec]); omega
  · (try simp only [headSpec]); omega
  · (try simp only [headSpec]); omega
  · (try simp only [headSpec]); omega
  obtain ⟨⟨ht8, htk⟩, d, da, er, fd, fda, hd, hx1⟩ := hp
  subst er
  have hS1 := hS.new hx1 0
  have hdg : sDg (digs t) := digs_ok ht8 htk
  have hy1 : yCh w lab u1 (lb lab w 0) := yCh.nw hx1 0
  obtain ⟨ra, eb, wb, vv, cd, st9, E9, n9, par, ps, hMa, hPg, ⟨m1, m2, m3, m4⟩, -, hcl⟩ := hS1.mach hK
  obtain ⟨rd9, hm0⟩ := hMa.1
  refine g_callv (va_runV (As := [.ref d]) (rest := []) ⟨hx, hb, hml, hown, hts⟩ (mtX2_run l D u1 H.size (rf 9) ra eb wb x st9 n9 (cp 9) d da (rf 2) par (cp 2) vv cd E9 _ _ _ _ _ _ _ _ _ _ ps P (digs t) hMa hS1.1.1 hPg hd (fun z => by have h9 : lb lab w 0 ra = 9 := m2; rw [z, lb_out fda] at h9; exact absurd h9 (by decide))) (cwV 1 hts (lw_V q1187 q1188 q1189 q38 q1190) rfl rfl rfl (by decide +kernel) ⟨Nat.le_of_ble_eq_true rfl, Nat.le_of_ble_eq_true rfl⟩) (g_preV hW hK hE hm0 rfl) rfl rfl hl.1 rfl (lv_room (Nat.le_of_ble_eq_true rfl)) dX1_verdict_8 ⟨?_, ?_⟩) hW (fun u2 H locs hp hW => ?_)
  · (try simp only [headSpec]); omega
  · (try simp only [headSpec]); omega
  obtain ⟨wb2, hMa2, hwb2, hxr⟩ := hp
  have hS2 := hcl _ wb2 _ _ _ _ _ _ hMa2 hwb2 hxr
  have hy2 : yCh u1 (lb lab w 0) u2 (lb (lb lab w 0) u1 9) := yCh.of hxr (fun z _ hz => by rcases hz with z | z | z | z <;> rw [z] <;> unfold yM <;> omega) 9
  obtain ⟨rd2, hm2⟩ := hMa2.1
  refine lv_aload_n hx hb dX1_verdict_11 rfl (lv_at hl 0 rfl) ?_
  refine g_get (ci := 0) (v := .ref (rf 9)) (C := RX1) (T := TX1) (N := 11) hx hb hts in_X1 hown hK hW hS2.1.1 rfl 3 (by decide) q357 (fun _ h9 => h9) rfl dX1_verdict_12 ?_
  refine g_getN (ci := 1) (v := .ref (D.2 1003 (mOut P (digs t)).1)) (C := RX2) (T := TX2) (N := 7) hx hb hts in_X2 hown hK hW hm2 rfl 2 (by decide) (nf_q193 hE) (fun _ h9 => h9) rfl dX1_verdict_15 ?_
  exact vx_ret (g_qret (v := some (D.2 1003 (mOut P (digs t)).1)) hx hb hr (Or.inl ⟨_, rfl⟩) hlocks hW (⟨⟨ht8, htk⟩, rfl, _, hS2, hy1.tr hy2⟩) (by omega) (by omega) dX1_verdict_18)
set_option maxHeartbeats 4000000 in
set_option maxRecDepth 100000 in
/-- ShrinkYard.steps -/
theorem mtX1_steps (l : Launch) (hl9 : l.stackTraces = false) (D : va_G) (w : g_H) (sz : Nat) (lab : Nat → Nat) (x ac rn tt : Nat) (rf : Nat → Nat) (P : List mI) (C : List yC) (A : Nat → List (List Nat)) (cov : Nat → Bool) (K Q : List (List Nat)) (F : List (List Nat × List Nat × Int32)) (cp : Nat → Nat) (hS : g_SZ D w lab x rf P C A cov K Q ac F rn tt cp) (st : Nat) (t : List Nat) (hst : g_Str D w st t) : vx_Met l yX1_steps (ws_ yX1_steps cX1_steps 2 (some .int)) ({ frames := 10, cells := 3 + (bsC (cp 9) (mOut P (digs t)).2.2.2 - (cp 9)), slots := 16 + 2 * (bsC (cp 9) (mOut P (digs t)).2.2.2 - (cp 9)), locals := 191 }) (g_Pc D [.ref x, .ref st] w sz) (g_Qi D w sz (fun r u => isIn t ∧ r = nI (mOut P (digs t)).2.2.1 ∧ ∃ l2, g_SZ D u l2 x rf P C A cov K Q ac F rn tt (cpU cp 9 (bsC (cp 9) (mOut P (digs t)).2.2.2)) ∧ yCh w lab u l2)) (g_XC D w sz (fun E u => E = "java/lang/IllegalArgumentException" ∧ ¬ isIn t ∧ w = u)) (3 + (bsC (cp 9) (mOut P (digs t)).2.2.2 - (cp 9))) (16 + 2 * (bsC (cp 9) (mOut P (digs t)).2.2.2 - (cp 9))) (g_A w sz) := by
  refine vx_ofW (cc := cX1_steps) (maxL := 2) (ret := (some .int)) (by decide) rfl ?_
  intro p e s m args below meth c s₁ B hml hhand hv
  have hout : ∀ pc : Nat, ∀ x ∈ c.exceptionTable.toList, covers x pc = false := fun _ x hx => (hhand x hx).elim
  obtain ⟨rfl, hI⟩ := hv
  have hx := B.exec
  have hb := B.bytes
  have hr := B.returns
  have hts := atoms_spec (ws := ws_ yX1_steps cX1_steps 2 (some .int)) B.pre
  have hts : ∀ w ∈ lw_all, w.before _ s = true := fun w h => hts w (List.mem_cons_of_mem _ h)
  have hown : s.vm.findClass RX1 = some m.cls := findClass_of_methodNamed B.named
  have hlocks := B.notSynchronized
  have hsz := hI.1
  subst hsz
  have hW := g_W.start hI
  have hK := g_K hI
  have hE := g_E hI
  have hl := lv_entry ([.ref x, .ref st]) (n := 2) (by exact Nat.le_of_ble_eq_true rfl)
  rw [lg_entry_eq]
  generalize (lg_sl ([.ref x, .ref st]) ++ List.replicate (2 - (lg_sl ([.ref x, .ref st])).length) Slot.unset).toArray = ls at hl ⊢
  have hl : lv_has ls 2 [(0, .ref x), (1, .ref st)] := hl
  refine lv_aload_n hx hb dX1_steps_0 rfl (lv_at hl 0 rfl) ?_
  refine g_get (ci := 0) (v := .ref (rf 9)) (C := RX1) (T := TX1) (N := 11) hx hb hts in_X1 hown hK hW hS.1.1 rfl 3 (by decide) q357 (fun _ h9 => h9) rfl dX1_steps_1 ?_
  refine lv_aload_n hx hb dX1_steps_4 rfl (lv_at hl 1 rfl) ?_
  refine g_xcallq (vx_runS (As := [.ref st]) (rest := [.ref (rf 9)]) ⟨hx, hb, hml, hown, hts⟩ (mtX1_requireInput l hl9 D w s.heap.size st t hst) (va_cwS 1 hts (lw_S q1153 q1154 q34 q1155) rfl rfl rfl (by decide +kernel) ⟨Nat.le_of_ble_eq_true rfl, Nat.le_of_ble_eq_true rfl⟩) (g_preS hW hK hE) rfl rfl hl.1 rfl (lv_room (Nat.le_of_ble_eq_true rfl)) dX1_steps_5 ⟨?_, ?_⟩) hW (fun E ce q9 u_ H locs hp hW hxc1 hxc2 hxc3 => g_xout (hout _) hlocks hW (⟨hp.1, hp.2.1, hp.2.2⟩) hxc1 hxc2 hxc3 ?_ ?_) (fun r_ u1 H locs hp hW => ?_)
  · (try simp only [headSpec]); omega
  · (try simp only [headSpec]); omega
  · (try simp only [headSpec]); omega
  · (try simp only [headSpec]); omega
  obtain ⟨⟨ht8, htk⟩, d, da, er, fd, fda, hd, hx1⟩ := hp
  subst er
  have hS1 := hS.new hx1 0
  have hdg : sDg (digs t) := digs_ok ht8 htk
  have hy1 : yCh w lab u1 (lb lab w 0) := yCh.nw hx1 0
  obtain ⟨ra, eb, wb, vv, cd, st9, E9, n9, par, ps, hMa, hPg, ⟨m1, m2, m3, m4⟩, -, hcl⟩ := hS1.mach hK
  obtain ⟨rd9, hm0⟩ := hMa.1
  refine g_callv (va_runV (As := [.ref d]) (rest := []) ⟨hx, hb, hml, hown, hts⟩ (mtX2_run l D u1 H.size (rf 9) ra eb wb x st9 n9 (cp 9) d da (rf 2) par (cp 2) vv cd E9 _ _ _ _ _ _ _ _ _ _ ps P (digs t) hMa hS1.1.1 hPg hd (fun z => by have h9 : lb lab w 0 ra = 9 := m2; rw [z, lb_out fda] at h9; exact absurd h9 (by decide))) (cwV 1 hts (lw_V q1187 q1188 q1189 q38 q1190) rfl rfl rfl (by decide +kernel) ⟨Nat.le_of_ble_eq_true rfl, Nat.le_of_ble_eq_true rfl⟩) (g_preV hW hK hE hm0 rfl) rfl rfl hl.1 rfl (lv_room (Nat.le_of_ble_eq_true rfl)) dX1_steps_8 ⟨?_, ?_⟩) hW (fun u2 H locs hp hW => ?_)
  · (try simp only [headSpec]); omega
  · (try simp only [headSpec]); omega
  obtain ⟨wb2, hMa2, hwb2, hxr⟩ := hp
  have hS2 := hcl _ wb2 _ _ _ _ _ _ hMa2 hwb2 hxr
  have hy2 : yCh u1 (lb lab w 0) u2 (lb (lb lab w 0) u1 9) := yCh.of hxr (fun z _ hz => by rcases hz with z | z | z | z <;> rw [z] <;> unfold yM <;> omega) 9
  obtain ⟨rd2, hm2⟩ := hMa2.1
  refine lv_aload_n hx hb dX1_steps_11 rfl (lv_at hl 0 rfl) ?_
  refine g_get (ci := 0) (v := .ref (rf 9)) (C := RX1) (T := TX1) (N := 11) hx hb hts in_X1 hown hK hW hS2.1.1 rfl 3 (by decide) q357 (fun _ h9 => h9) rfl dX1_steps_12 ?_
  refine g_getN (ci := 1) (v := .int (nI (mOut P (digs t)).2.2.1)) (C := RX2) (T := TX2) (N := 7) hx hb hts in_X2 hown hK hW hm2 rfl 4 (by decide) (nf_q197 hE) (fun _ h9 => h9) rfl dX1_steps_15 ?_
  exact vx_ret (g_iret (v := nI (mOut P (digs t)).2.2.1) hx hb hr hlocks hW (⟨⟨ht8, htk⟩, rfl, _, hS2, hy1.tr hy2⟩) (by omega) (by omega) dX1_steps_18)
set_option maxHeartbeats 4000000 in
set_option maxRecDepth 100000 in
/-- ShrinkYard.edges -/
theorem mtX1_edges (l : Launch) (hl9 : l.stackTraces = false) (D : va_G) (w : g_H) (sz : Nat) (lab : Nat → Nat) (x ac rn tt : Nat) (rf : Nat → Nat) (P : List mI) (C : List yC) (A : Nat → List (List Nat)) (cov : Nat → Bool) (K Q : List (List Nat)) (F : List (List Nat × List Nat × Int32)) (cp : Nat → Nat) (hS : g_SZ D w lab x rf P C A cov K Q ac F rn tt cp) (st : Nat) (t : List Nat) (hst : g_Str D w st t) : vx_Met l yX1_edges (ws_ yX1_edges cX1_edges 2 (some .int)) ({ frames := 10, cells := 3 + (bsC (cp 9) (mOut P (digs t)).2.2.2 - (cp 9)), slots := 16 + 2 * (bsC (cp 9) (mOut P (digs t)).2.2.2 - (cp 9)), locals := 191 }) (g_Pc D [.ref x, .ref st] w sz) (g_Qi D w sz (fun r u => isIn t ∧ r = nI (fb_ct (bsE (fun _ => false) (mOut P (digs t)).2.2.2) 320) ∧ ∃ l2, g_SZ D u l2 x rf P C A cov K Q ac F rn tt (cpU cp 9 (bsC (cp 9) (mOut P (digs t)).2.2.2)) ∧ yCh w lab u l2)) (g_XC D w sz (fun E u => E = "java/lang/IllegalArgumentException" ∧ ¬ isIn t ∧ w = u)) (3 + (bsC (cp 9) (mOut P (digs t)).2.2.2 - (cp 9))) (16 + 2 * (bsC (cp 9) (mOut P (digs t)).2.2.2 - (cp 9))) (g_A w sz) := by
  refine vx_ofW (cc := cX1_edges) (maxL := 2) (ret := (some .int)) (by decide) rfl ?_
  intro p e s m args below meth c s₁ B hml hhand hv
  have hout : ∀ pc : Nat, ∀ x ∈ c.exceptionTable.toList, covers x pc = false := fun _ x hx => (hhand x hx).elim
  obtain ⟨rfl, hI⟩ := hv
  have hx := B.exec
  have hb := B.bytes
  have hr := B.returns
  have hts := atoms_spec (ws := ws_ yX1_edges cX1_edges 2 (some .int)) B.pre
  have hts : ∀ w ∈ lw_all, w.before _ s = true := fun w h => hts w (List.mem_cons_of_mem _ h)
  have hown : s.vm.findClass RX1 = some m.cls := findClass_of_methodNamed B.named
  have hlocks := B.notSynchronized
  have hsz := hI.1
  subst hsz
  have hW := g_W.start hI
  have hK := g_K hI
  have hE := g_E hI
  have hl := lv_entry ([.ref x, .ref st]) (n := 2) (by exact Nat.le_of_ble_eq_true rfl)
  rw [lg_entry_eq]
  generalize (lg_sl ([.ref x, .ref st]) ++ List.replicate (2 - (lg_sl ([.ref x, .ref st])).length) Slot.unset).toArray = ls at hl ⊢
  have hl : lv_has ls 2 [(0, .ref x), (1, .ref st)] := hl
  refine lv_aload_n hx hb dX1_edges_0 rfl (lv_at hl 0 rfl) ?_
  refine g_get (ci := 0) (v := .ref (rf 9)) (C := RX1) (T := TX1) (N := 11) hx hb hts in_X1 hown hK hW hS.1.1 rfl 3 (by decide) q357 (fun _ h9 => h9) rfl dX1_edges_1 ?_
  refine lv_aload_n hx hb dX1_edges_4 rfl (lv_at hl 1 rfl) ?_
  refine g_xcallq (vx_runS (As := [.ref st]) (rest := [.ref (rf 9)]) ⟨hx, hb, hml, hown, hts⟩ (mtX1_requireInput l hl9 D w s.heap.size st t hst) (va_cwS 1 hts (lw_S q1153 q1154 q34 q1155) rfl rfl rfl (by decide +kernel) ⟨Nat.le_of_ble_eq_true rfl, Nat.le_of_ble_eq_true rfl⟩) (g_preS hW hK hE) rfl rfl hl.1 rfl (lv_room (Nat.le_of_ble_eq_true rfl)) dX1_edges_5 ⟨?_, ?_⟩) hW (fun E ce q9 u_ H locs hp hW hxc1 hxc2 hxc3 => g_xout (hout _) hlocks hW (⟨hp.1, hp.2.1, hp.2.2⟩) hxc1 hxc2 hxc3 ?_ ?_) (fun r_ u1 H locs hp hW => ?_)
  · (try simp only [headSpec]); omega
  · (try simp only [headSpec]); omega
  · (try simp only [headSpec]); omega
  · (try simp only [headSpec]); omega
  obtain ⟨⟨ht8, htk⟩, d, da, er, fd, fda, hd, hx1⟩ := hp
  subst er
  have hS1 := hS.new hx1 0
  have hdg : sDg (digs t) := digs_ok ht8 htk
  have hy1 : yCh w lab u1 (lb lab w 0) := yCh.nw hx1 0
  obtain ⟨ra, eb, wb, vv, cd, st9, E9, n9, par, ps, hMa, hPg, ⟨m1, m2, m3, m4⟩, -, hcl⟩ := hS1.mach hK
  obtain ⟨rd9, hm0⟩ := hMa.1
  refine g_callv (va_runV (As := [.ref d]) (rest := []) ⟨hx, hb, hml, hown, hts⟩ (mtX2_run l D u1 H.size (rf 9) ra eb wb x st9 n9 (cp 9) d da (rf 2) par (cp 2) vv cd E9 _ _ _ _ _ _ _ _ _ _ ps P (digs t) hMa hS1.1.1 hPg hd (fun z => by have h9 : lb lab w 0 ra = 9 := m2; rw [z, lb_out fda] at h9; exact absurd h9 (by decide))) (cwV 1 hts (lw_V q1187 q1188 q1189 q38 q1190) rfl rfl rfl (by decide +kernel) ⟨Nat.le_of_ble_eq_true rfl, Nat.le_of_ble_eq_true rfl⟩) (g_preV hW hK hE hm0 rfl) rfl rfl hl.1 rfl (lv_room (Nat.le_of_ble_eq_true rfl)) dX1_edges_8 ⟨?_, ?_⟩) hW (fun u2 H locs hp hW => ?_)
  · (try simp only [headSpec]); omega
  · (try simp only [headSpec]); omega
  obtain ⟨wb2, hMa2, hwb2, hxr⟩ := hp
  have hS2 := hcl _ wb2 _ _ _ _ _ _ hMa2 hwb2 hxr
  have hy2 : yCh u1 (lb lab w 0) u2 (lb (lb lab w 0) u1 9) := yCh.of hxr (fun z _ hz => by rcases hz with z | z | z | z <;> rw [z] <;> unfold yM <;> omega) 9
  obtain ⟨rd2, hm2⟩ := hMa2.1
  refine lv_aload_n hx hb dX1_edges_11 rfl (lv_at hl 0 rfl) ?_
  refine g_get (ci := 0) (v := .ref (rf 9)) (C := RX1) (T := TX1) (N := 11) hx hb hts in_X1 hown hK hW hS2.1.1 rfl 3 (by decide) q357 (fun _ h9 => h9) rfl dX1_edges_12 ?_
  refine g_getN (ci := 1) (v := .ref eb) (C := RX2) (T := TX2) (N := 7) hx hb hts in_X2 hown hK hW hm2 rfl 1 (by decide) (nf_q191 hE) (fun _ h9 => h9) rfl dX1_edges_15 ?_
  refine g_calli (va_runV (As := []) (rest := []) ⟨hx, hb, hml, hown, hts⟩ (mtJ3_cardinality l D u2 H.size eb wb2 _ _ _ hMa2.2.2) (cwV 0 hts (lw_V q423 q424 q425 q39 q426) rfl rfl rfl (by decide +kernel) ⟨Nat.le_of_ble_eq_true rfl, Nat.le_of_ble_eq_true rfl⟩) (g_preV hW hK hE hMa2.2.2.1 rfl) rfl rfl hl.1 rfl (lv_room (Nat.le_of_ble_eq_true rfl)) dX1_edges_18 ⟨?_, ?_⟩) hW (fun r_ u_ H locs hp hW => ?_)
  · (try simp only [headSpec]); omega
  · (try simp only [headSpec]); omega
  obtain ⟨er, rfl⟩ := hp
  rw [ct_320 hMa2.2.2.2.2.2.2.1.2 hMa2.2.2.2.2.2.2.2] at er
  subst er
  exact vx_ret (g_iret (v := nI (fb_ct (bsE (fun _ => false) (mOut P (digs t)).2.2.2) 320)) hx hb hr hlocks hW (⟨⟨ht8, htk⟩, rfl, _, hS2, hy1.tr hy2⟩) (by omega) (by omega) dX1_edges_21)
set_option maxHeartbeats 4000000 in
set_option maxRecDepth 100000 in
/-- ShrinkYard.requireFailing -/
theorem mtX1_requireFailing (l : Launch) (hl9 : l.stackTraces = false) (D : va_G) (w : g_H) (sz : Nat) (lab : Nat → Nat) (x ac rn tt : Nat) (rf : Nat → Nat) (P : List mI) (C : List yC) (A : Nat → List (List Nat)) (cov : Nat → Bool) (K Q : List (List Nat)) (F : List (List Nat × List Nat × Int32)) (cp : Nat → Nat) (hS : g_SZ D w lab x rf P C A cov K Q ac F rn tt cp) (st : Nat) (t : List Nat) (hst : g_Str D w st t) : vx_Met l yX1_requireFailing (ws_ yX1_requireFailing cX1_requireFailing 3 (some (.object "ShrinkYard$Digits"))) ({ frames := 10, cells := 4 + (bsC (cp 9) (mOut P (digs t)).2.2.2 - (cp 9)), slots := 22 + 2 * (bsC (cp 9) (mOut P (digs t)).2.2.2 - (cp 9)), locals := 191 }) (g_Pc D [.ref x, .ref st] w sz) (g_Qq D w sz (fun r u => (isIn t ∧ (mOut P (digs t)).1 = 1) ∧ ∃ d da l2, r = some d ∧ d ∉ w.1 ∧ da ∉ w.1 ∧ (l2 d = 0 ∧ l2 da = 0) ∧ g_Dig D u d da (digs t) ∧ (∃ ra eb wb vv st E n, g_Ma D u (rf 9) ra eb wb x vv (mCode P (digs t)) st E n (bsC (cp 9) (mOut P (digs t)).2.2.2)) ∧ g_SZ D u l2 x rf P C A cov K Q ac F rn tt (cpU cp 9 (bsC (cp 9) (mOut P (digs t)).2.2.2)) ∧ yCh w lab u l2)) (g_XC D w sz (fun E u => (E = "java/lang/IllegalArgumentException" ∧ ¬ isIn t ∧ w = u) ∨ (E = "java/lang/IllegalStateException" ∧ isIn t ∧ (mOut P (digs t)).1 ≠ 1 ∧ ∃ l2, g_SZ D u l2 x rf P C A cov K Q ac F rn tt (cpU cp 9 (bsC (cp 9) (mOut P (digs t)).2.2.2)) ∧ yCh w lab u l2))) (4 + (bsC (cp 9) (mOut P (digs t)).2.2.2 - (cp 9))) (22 + 2 * (bsC (cp 9) (mOut P (digs t)).2.2.2 - (cp 9))) (g_A w sz) := by
  refine vx_ofW (cc := cX1_requireFailing) (maxL := 3) (ret := (some (.object "ShrinkYard$Digits"))) (by decide) rfl ?_
  intro p e s m args below meth c s₁ B hml hhand hv
  have hout : ∀ pc : Nat, ∀ x ∈ c.exceptionTable.toList, covers x pc = false := fun _ x hx => (hhand x hx).elim
  obtain ⟨rfl, hI⟩ := hv
  have hx := B.exec
  have hb := B.bytes
  have hr := B.returns
  have hts := atoms_spec (ws := ws_ yX1_requireFailing cX1_requireFailing 3 (some (.object "ShrinkYard$Digits"))) B.pre
  have hts : ∀ w ∈ lw_all, w.before _ s = true := fun w h => hts w (List.mem_cons_of_mem _ h)
  have hown : s.vm.findClass RX1 = some m.cls := findClass_of_methodNamed B.named
  have hlocks := B.notSynchronized
  have hsz := hI.1
  subst hsz
  have hW := g_W.start hI
  have hK := g_K hI
  have hE := g_E hI
  have hl := lv_entry ([.ref x, .ref st]) (n := 3) (by exact Nat.le_of_ble_eq_true rfl)
  rw [lg_entry_eq]
  generalize (lg_sl ([.ref x, .ref st]) ++ List.replicate (3 - (lg_sl ([.ref x, .ref st])).length) Slot.unset).toArray = ls at hl ⊢
  have hl : lv_has ls 3 [(0, .ref x), (1, .ref st)] := hl
  refine lv_aload_n hx hb dX1_requireFailing_0 rfl (lv_at hl 1 rfl) ?_
  refine g_xcallq (vx_runS (As := [.ref st]) (rest := []) ⟨hx, hb, hml, hown, hts⟩ (mtX1_requireInput l hl9 D w s.heap.size st t hst) (va_cwS 1 hts (lw_S q1153 q1154 q34 q1155) rfl rfl rfl (by decide +kernel) ⟨Nat.le_of_ble_eq_true rfl, Nat.le_of_ble_eq_true rfl⟩) (g_preS hW hK hE) rfl rfl hl.1 rfl (lv_room (Nat.le_of_ble_eq_true rfl)) dX1_requireFailing_1 ⟨?_, ?_⟩) hW (fun E ce q9 u_ H locs hp hW hxc1 hxc2 hxc3 => g_xout (hout _) hlocks hW (Or.inl ⟨hp.1, hp.2.1, hp.2.2⟩) hxc1 hxc2 hxc3 ?_ ?_) (fun r_ u1 H locs hp hW => ?_)
  · (try simp only [headSpec]); omega
  · (try simp only [headSpec]); omega
  · (try simp only [headSpec]); omega
  · (try simp only [headSpec]); omega
  obtain ⟨⟨ht8, htk⟩, d, da, er, fd, fda, hd, hx1⟩ := hp
  subst er
  have hS1 := hS.new hx1 0
  have hdg : sDg (digs t) := digs_ok ht8 htk
  have hy1 : yCh w lab u1 (lb lab w 0) := yCh.nw hx1 0
  refine lv_astore_n (lv' := [(2, .ref d), (0, .ref x), (1, .ref st)]) hx hb dX1_requireFailing_4 rfl hl (by decide) rfl (fun ls hl => ?_)
  refine lv_aload_n hx hb dX1_requireFailing_5 rfl (lv_at hl 1 rfl) ?_
  refine g_get (ci := 0) (v := .ref (rf 9)) (C := RX1) (T := TX1) (N := 11) hx hb hts in_X1 hown hK hW hS1.1.1 rfl 3 (by decide) q357 (fun _ h9 => h9) rfl dX1_requireFailing_6 ?_
  refine lv_aload_n hx hb dX1_requireFailing_9 rfl (lv_at hl 0 rfl) ?_
  obtain ⟨ra, eb, wb, vv, cd, st9, E9, n9, par, ps, hMa, hPg, ⟨m1, m2, m3, m4⟩, -, hcl⟩ := hS1.mach hK
  obtain ⟨rd9, hm0⟩ := hMa.1
  refine g_callv (va_runV (As := [.ref d]) (rest := []) ⟨hx, hb, hml, hown, hts⟩ (mtX2_run l D u1 H.size (rf 9) ra eb wb x st9 n9 (cp 9) d da (rf 2) par (cp 2) vv cd E9 _ _ _ _ _ _ _ _ _ _ ps P (digs t) hMa hS1.1.1 hPg hd (fun z => by have h9 : lb lab w 0 ra = 9 := m2; rw [z, lb_out fda] at h9; exact absurd h9 (by decide))) (cwV 1 hts (lw_V q1187 q1188 q1189 q38 q1190) rfl rfl rfl (by decide +kernel) ⟨Nat.le_of_ble_eq_true rfl, Nat.le_of_ble_eq_true rfl⟩) (g_preV hW hK hE hm0 rfl) rfl rfl hl.1 rfl (lv_room (Nat.le_of_ble_eq_true rfl)) dX1_requireFailing_10 ⟨?_, ?_⟩) hW (fun u2 H locs hp hW => ?_)
  · (try simp only [headSpec]); omega
  · (try simp only [headSpec]); omega
  obtain ⟨wb2, hMa2, hwb2, hxr⟩ := hp
  have hS2 := hcl _ wb2 _ _ _ _ _ _ hMa2 hwb2 hxr
  have hy2 : yCh u1 (lb lab w 0) u2 (lb (lb lab w 0) u1 9) := yCh.of hxr (fun z _ hz => by rcases hz with z | z | z | z <;> rw [z] <;> unfold yM <;> omega) 9
  obtain ⟨rd2, hm2⟩ := hMa2.1
  refine lv_aload_n hx hb dX1_requireFailing_13 rfl (lv_at hl 1 rfl) ?_
  refine g_get (ci := 0) (v := .ref (rf 9)) (C := RX1) (T := TX1) (N := 11) hx hb hts in_X1 hown hK hW hS2.1.1 rfl 3 (by decide) q357 (fun _ h9 => h9) rfl dX1_requireFailing_14 ?_
  refine g_getN (ci := 1) (v := .ref (D.2 1003 (mOut P (digs t)).1)) (C := RX2) (T := TX2) (N := 7) hx hb hts in_X2 hown hK hW hm2 rfl 2 (by decide) (nf_q193 hE) (fun _ h9 => h9) rfl dX1_requireFailing_17 ?_
  have hb9 : ∀ z, lb lab w 0 z = 9 → z ∈ w.1 := fun z h9 => Classical.byContradiction (fun h => by rw [lb_out h] at h9; exact absurd h9 (by decide))
  have hd2 : g_Dig D u2 d da (digs t) := hd.ex hxr (fun z => by rcases z with z | z | z | z <;> rw [z] at fd <;> first | exact fd (hb9 _ m1) | exact fd (hb9 _ m2) | exact fd (hb9 _ m3) | exact fd (hb9 _ m4)) (fun z => by rcases z with z | z | z | z <;> rw [z] at fda <;> first | exact fda (hb9 _ m1) | exact fda (hb9 _ m2) | exact fda (hb9 _ m3) | exact fda (hb9 _ m4))
  refine va_gets hx hb ((hE.2.2.2.2.2.2.2.1.1 1 (by decide)).1) hW.2.2.1 hown (hts _ q1280) (fun _ h9 => h9) dX1_requireFailing_20 ?_
  refine lv_acmp_ne (rx := some (D.2 1003 (mOut P (digs t)).1)) (ry := some (D.2 1003 1)) (tgt := 30) hx hb dX1_requireFailing_23 (by decide) (fun hc => ?_) (fun hc => ?_)
  · refine lv_iconst (v := 0) hx hb dX1_requireFailing_30 (by decide) ?_
    refine g_xcallv (vx_runS (As := [.int (0)]) (rest := []) ⟨hx, hb, hml, hown, hts⟩ (mtX1_requireState l hl9 D u2 H.size 0) (va_cwS 1 hts (lw_S q644 q645 q34 q646) rfl rfl rfl (by decide +kernel) ⟨Nat.le_of_ble_eq_true rfl, Nat.le_of_ble_eq_true rfl⟩) (g_preS hW hK hE) rfl rfl hl.1 rfl (lv_room (Nat.le_of_ble_eq_true rfl)) dX1_requireFailing_31 ⟨?_, ?_⟩) hW (fun E ce q9 u_ H locs hp hW hxc1 hxc2 hxc3 => g_xout (hout _) hlocks hW (Or.inr ⟨hp.1, ⟨ht8, htk⟩, fun z => hc (by rw [z]), by obtain ⟨-, -, rfl⟩ := hp; exact ⟨_, hS2, hy1.tr hy2⟩⟩) hxc1 hxc2 hxc3 ?_ ?_) (fun u_ H locs hp hW => ?_)
    · (try simp only [headSpec]); omega
    · (try simp only [headSpec]); omega
    · (try simp only [headSpec]); omega
    · (try simp only [headSpec]); omega
    exact absurd rfl hp.1
  · have hv1 : (mOut P (digs t)).1 = 1 := g_vdI hE mOut_lt (by decide) (Option.some.inj (by first | exact hc | exact Classical.not_not.mp hc))
    refine lv_iconst (v := 1) hx hb dX1_requireFailing_26 (by decide) ?_
    refine lv_goto (tgt := 31) hx hb dX1_requireFailing_27 (by decide) ?_
    refine g_xcallv (vx_runS (As := [.int (1)]) (rest := []) ⟨hx, hb, hml, hown, hts⟩ (mtX1_requireState l hl9 D u2 H.size 1) (va_cwS 1 hts (lw_S q644 q645 q34 q646) rfl rfl rfl (by decide +kernel) ⟨Nat.le_of_ble_eq_true rfl, Nat.le_of_ble_eq_true rfl⟩) (g_preS hW hK hE) rfl rfl hl.1 rfl (lv_room (Nat.le_of_ble_eq_true rfl)) dX1_requireFailing_31 ⟨?_, ?_⟩) hW (fun E ce q9 u_ H locs hp hW hxc1 hxc2 hxc3 => g_xout (hout _) hlocks hW (absurd hp.2.1 (by decide)) hxc1 hxc2 hxc3 ?_ ?_) (fun u_ H locs hp hW => ?_)
    · (try simp only [headSpec]); omega
    · (try simp only [headSpec]); omega
    · (try simp only [headSpec]); omega
    · (try simp only [headSpec]); omega
    obtain ⟨-, rfl⟩ := hp
    refine lv_aload_n hx hb dX1_requireFailing_34 rfl (lv_at hl 0 rfl) ?_
    exact vx_ret (g_qret (v := some d) hx hb hr (Or.inl ⟨_, rfl⟩) hlocks hW (⟨⟨⟨ht8, htk⟩, hv1⟩, d, da, _, rfl, fd, fda, ⟨(lb_in _ hd.1.1).trans (lb_out fd), by obtain ⟨f9, hf9, -⟩ := hd.2.1; exact (lb_in _ hf9.1).trans (lb_out fda)⟩, hd2, ⟨ra, eb, wb2, _, _, _, _, mCode_get hv1 cd ▸ hMa2⟩, hS2, hy1.tr hy2⟩) (by omega) (by omega) dX1_requireFailing_35)
set_option maxHeartbeats 4000000 in
set_option maxRecDepth 100000 in
/-- ShrinkYard.code -/
theorem mtX1_code (l : Launch) (hl9 : l.stackTraces = false) (D : va_G) (w : g_H) (sz : Nat) (lab : Nat → Nat) (x ac rn tt : Nat) (rf : Nat → Nat) (P : List mI) (C : List yC) (A : Nat → List (List Nat)) (cov : Nat → Bool) (K Q : List (List Nat)) (F : List (List Nat × List Nat × Int32)) (cp : Nat → Nat) (hS : g_SZ D w lab x rf P C A cov K Q ac F rn tt cp) (st : Nat) (t : List Nat) (hst : g_Str D w st t) : vx_Met l yX1_code (ws_ yX1_code cX1_code 3 (some .int)) ({ frames := 11, cells := 4 + (bsC (cp 9) (mOut P (digs t)).2.2.2 - (cp 9)), slots := 22 + 2 * (bsC (cp 9) (mOut P (digs t)).2.2.2 - (cp 9)), locals := 213 }) (g_Pc D [.ref x, .ref st] w sz) (g_Qi D w sz (fun r u => (isIn t ∧ (mOut P (digs t)).1 = 1) ∧ r = mCode P (digs t) ∧ ∃ l2, g_SZ D u l2 x rf P C A cov K Q ac F rn tt (cpU cp 9 (bsC (cp 9) (mOut P (digs t)).2.2.2)) ∧ yCh w lab u l2)) (g_XC D w sz (fun E u => (E = "java/lang/IllegalArgumentException" ∧ ¬ isIn t ∧ w = u) ∨ (E = "java/lang/IllegalStateException" ∧ isIn t ∧ (mOut P (digs t)).1 ≠ 1 ∧ ∃ l2, g_SZ D u l2 x rf P C A cov K Q ac F rn tt (cpU cp 9 (bsC (cp 9) (mOut P (digs t)).2.2.2)) ∧ yCh w lab u l2))) (4 + (bsC (cp 9) (mOut P (digs t)).2.2.2 - (cp 9))) (22 + 2 * (bsC (cp 9) (mOut P (digs t)).2.2.2 - (cp 9))) (g_A w sz) := by
  refine vx_ofW (cc := cX1_code) (maxL := 3) (ret := (some .int)) (by decide) rfl ?_
  intro p e s m args below meth c s₁ B hml hhand hv
  have hout : ∀ pc : Nat, ∀ x ∈ c.exceptionTable.toList, covers x pc = false := fun _ x hx => (hhand x hx).elim
  obtain ⟨rfl, hI⟩ := hv
  have hx := B.exec
  have hb := B.bytes
  have hr := B.returns
  have hts := atoms_spec (ws := ws_ yX1_code cX1_code 3 (some .int)) B.pre
  have hts : ∀ w ∈ lw_all, w.before _ s = true := fun w h => hts w (List.mem_cons_of_mem _ h)
  have hown : s.vm.findClass RX1 = some m.cls := findClass_of_methodNamed B.named
  have hlocks := B.notSynchronized
  have hsz := hI.1
  subst hsz
  have hW := g_W.start hI
  have hK := g_K hI
  have hE := g_E hI
  have hl := lv_entry ([.ref x, .ref st]) (n := 3) (by exact Nat.le_of_ble_eq_true rfl)
  rw [lg_entry_eq]
  generalize (lg_sl ([.ref x, .ref st]) ++ List.replicate (3 - (lg_sl ([.ref x, .ref st])).length) Slot.unset).toArray = ls at hl ⊢
  have hl : lv_has ls 3 [(0, .ref x), (1, .ref st)] := hl
  refine lv_aload_n hx hb dX1_code_0 rfl (lv_at hl 0 rfl) ?_
  refine lv_aload_n hx hb dX1_code_1 rfl (lv_at hl 1 rfl) ?_
  refine g_xcallq (vx_runV (As := [.ref st]) (rest := []) ⟨hx, hb, hml, hown, hts⟩ (mtX1_requireFailing l hl9 D w s.heap.size lab x ac rn tt rf P C A cov K Q F cp hS st t hst) (cwV 1 hts (lw_V q1768 q1770 qs24 q34 q1771) rfl rfl rfl (by decide +kernel) ⟨Nat.le_of_ble_eq_true rfl, Nat.le_of_ble_eq_true rfl⟩) (g_preV hW hK hE hS.1.1 rfl) rfl rfl hl.1 rfl (lv_room (Nat.le_of_ble_eq_true rfl)) dX1_code_2 ⟨?_, ?_⟩) hW (fun E ce q9 u_ H locs hp hW hxc1 hxc2 hxc3 => g_xout (hout _) hlocks hW (hp) hxc1 hxc2 hxc3 ?_ ?_) (fun r_ u1 H locs hp hW => ?_)
  · (try simp only [headSpec]); omega
  · (try simp only [headSpec]); omega
  · (try simp only [headSpec]); omega
  · (try simp only [headSpec]); omega
  obtain ⟨⟨hin, hv1⟩, d, da, l2, er, fd, fda, ⟨ld, lda⟩, hd, ⟨ra, eb, wb, vv, st9, E9, n9, hMa⟩, hS2, hy⟩ := hp
  subst er
  obtain ⟨rd2, hm2⟩ := hMa.1
  have hdg : sDg (digs t) := digs_ok hin.1 hin.2
  refine lv_astore_n (lv' := [(2, .ref d), (0, .ref x), (1, .ref st)]) hx hb dX1_code_5 rfl hl (by decide) rfl (fun ls hl => ?_)
  refine lv_aload_n hx hb dX1_code_6 rfl (lv_at hl 1 rfl) ?_
  refine g_get (ci := 0) (v := .ref (rf 9)) (C := RX1) (T := TX1) (N := 11) hx hb hts in_X1 hown hK hW hS2.1.1 rfl 3 (by decide) q357 (fun _ h9 => h9) rfl dX1_code_7 ?_
  refine g_getN (ci := 1) (v := .int (mCode P (digs t))) (C := RX2) (T := TX2) (N := 7) hx hb hts in_X2 hown hK hW hm2 rfl 3 (by decide) (nf_q195 hE) (fun _ h9 => h9) rfl dX1_code_10 ?_
  exact vx_ret (g_iret (v := mCode P (digs t)) hx hb hr hlocks hW (⟨⟨hin, hv1⟩, rfl, l2, hS2, hy⟩) (by omega) (by omega) dX1_code_13)
set_option maxHeartbeats 4000000 in
set_option maxRecDepth 100000 in
/-- ShrinkYard.changed -/
theorem mtX1_changed (l : Launch) (hl9 : l.stackTraces = false) (D : va_G) (w : g_H) (sz : Nat) (x k9 : Nat) (p9 d9 : Int32) (hk9 : k9 < 4) (st : Nat) (t : List Nat) (hst : g_Str D w st t) : vx_Met l yX1_changed (ws_ yX1_changed cX1_changed 7 (some (.object "java/lang/String"))) ({ frames := 10, cells := 10, slots := 70, locals := 213 }) (g_Pc D [.ref x, .ref (D.2 1004 k9), .int (p9), .int (d9), .ref st] w sz) (g_Qq D w sz (fun r u => ((kEd p9 d9 ∧ isIn t) ∧ eFits k9 p9.toNatClampNeg d9.toNatClampNeg (digs t) = true) ∧ ∃ s9, r = some s9 ∧ s9 ∉ w.1 ∧ g_Str D u s9 (txt (eAct k9 p9.toNatClampNeg d9.toNatClampNeg (digs t))) ∧ g_ex (fun _ => False) w u)) (g_XC D w sz (fun E u => g_ex (fun _ => False) w u ∧ ((E = "java/lang/IllegalArgumentException" ∧ ¬ (kEd p9 d9 ∧ isIn t)) ∨ (E = "java/lang/IllegalStateException" ∧ (kEd p9 d9 ∧ isIn t) ∧ ¬ eFits k9 p9.toNatClampNeg d9.toNatClampNeg (digs t) = true)))) (10) (70) (g_A w sz) := by
  refine vx_ofW (cc := cX1_changed) (maxL := 7) (ret := (some (.object "java/lang/String"))) (by decide) rfl ?_
  intro p e s m args below meth c s₁ B hml hhand hv
  have hout : ∀ pc : Nat, ∀ x ∈ c.exceptionTable.toList, covers x pc = false := fun _ x hx => (hhand x hx).elim
  obtain ⟨rfl, hI⟩ := hv
  have hx := B.exec
  have hb := B.bytes
  have hr := B.returns
  have hts := atoms_spec (ws := ws_ yX1_changed cX1_changed 7 (some (.object "java/lang/String"))) B.pre
  have hts : ∀ w ∈ lw_all, w.before _ s = true := fun w h => hts w (List.mem_cons_of_mem _ h)
  have hown : s.vm.findClass RX1 = some m.cls := findClass_of_methodNamed B.named
  have hlocks := B.notSynchronized
  have hsz := hI.1
  subst hsz
  have hW := g_W.start hI
  have hK := g_K hI
  have hE := g_E hI
  have hl := lv_entry ([.ref x, .ref (D.2 1004 k9), .int (p9), .int (d9), .ref st]) (n := 7) (by exact Nat.le_of_ble_eq_true rfl)
  rw [lg_entry_eq]
  generalize (lg_sl ([.ref x, .ref (D.2 1004 k9), .int (p9), .int (d9), .ref st]) ++ List.replicate (7 - (lg_sl ([.ref x, .ref (D.2 1004 k9), .int (p9), .int (d9), .ref st])).length) Slot.unset).toArray = ls at hl ⊢
  have hl : lv_has ls 7 [(0, .ref x), (1, .ref (D.2 1004 k9)), (2, .int (p9)), (3, .int (d9)), (4, .ref st)] := hl
  refine lv_aload_n hx hb dX1_changed_0 rfl (lv_at hl 1 rfl) ?_
  refine lv_iload_n hx hb dX1_changed_1 rfl (lv_at hl 2 rfl) ?_
  refine lv_iload_n hx hb dX1_changed_2 rfl (lv_at hl 3 rfl) ?_
  refine g_xcallq (vx_runS (As := [.ref (D.2 1004 k9), .int (p9), .int (d9)]) (rest := []) ⟨hx, hb, hml, hown, hts⟩ (mtX6_of l hl9 D w s.heap.size k9 p9 d9 hk9) (va_cwS 3 hts (lw_S q669 q670 q58 q671) rfl rfl rfl (by decide +kernel) ⟨Nat.le_of_ble_eq_true rfl, Nat.le_of_ble_eq_true rfl⟩) (g_preS hW hK hE) rfl rfl hl.1 rfl (lv_room (Nat.le_of_ble_eq_true rfl)) dX1_changed_3 ⟨?_, ?_⟩) hW (fun E ce q9 u_ H locs hp hW hxc1 hxc2 hxc3 => g_xout (hout _) hlocks hW (⟨by rw [← hp.2.2]; exact g_ex.rf, Or.inl ⟨hp.1, fun z => hp.2.1 z.1⟩⟩) hxc1 hxc2 hxc3 ?_ ?_) (fun r_ u1 H locs hp hW => ?_)
  · (try simp only [headSpec]); omega
  · (try simp only [headSpec]); omega
  · (try simp only [headSpec]); omega
  · (try simp only [headSpec]); omega
  obtain ⟨hke, e9, er, fe, hed, hx1⟩ := hp
  subst er
  have hst1 : g_Str D u1 st t := hst.ex hx1 (fun _ _ z => z.elim)
  refine lv_astore (lv' := [(5, .ref e9), (0, .ref x), (1, .ref (D.2 1004 k9)), (2, .int (p9)), (3, .int (d9)), (4, .ref st)]) hx hb dX1_changed_6 hl (by decide) rfl (fun ls hl => ?_)
  refine lv_aload hx hb dX1_changed_8 (lv_at hl 5 rfl) ?_
  refine g_xcallq (vx_runS (As := [.ref st]) (rest := []) ⟨hx, hb, hml, hown, hts⟩ (mtX1_requireInput l hl9 D u1 H.size st t hst1) (va_cwS 1 hts (lw_S q1153 q1154 q34 q1155) rfl rfl rfl (by decide +kernel) ⟨Nat.le_of_ble_eq_true rfl, Nat.le_of_ble_eq_true rfl⟩) (g_preS hW hK hE) rfl rfl hl.1 rfl (lv_room (Nat.le_of_ble_eq_true rfl)) dX1_changed_10 ⟨?_, ?_⟩) hW (fun E ce q9 u_ H locs hp hW hxc1 hxc2 hxc3 => g_xout (hout _) hlocks hW (⟨by rw [← hp.2.2]; exact hx1, Or.inl ⟨hp.1, fun z => hp.2.1 z.2⟩⟩) hxc1 hxc2 hxc3 ?_ ?_) (fun r_ u2 H locs hp hW => ?_)
  · (try simp only [headSpec]); omega
  · (try simp only [headSpec]); omega
  · (try simp only [headSpec]); omega
  · (try simp only [headSpec]); omega
  obtain ⟨⟨ht8, htk⟩, d, da, er, fd, fda, hd, hx2⟩ := hp
  subst er
  have hdg : sDg (digs t) := digs_ok ht8 htk
  have hin : isIn t := ⟨ht8, htk⟩
  have hed2 := hed.ex hx2 (fun z => z.elim)
  refine lv_astore (lv' := [(6, .ref d), (5, .ref e9), (0, .ref x), (1, .ref (D.2 1004 k9)), (2, .int (p9)), (3, .int (d9)), (4, .ref st)]) hx hb dX1_changed_13 hl (by decide) rfl (fun ls hl => ?_)
  refine lv_aload hx hb dX1_changed_15 (lv_at hl 1 rfl) ?_
  refine lv_aload hx hb dX1_changed_17 (lv_at hl 0 rfl) ?_
  generalize p9.toNatClampNeg = pl at *
  generalize d9.toNatClampNeg = dg at *
  obtain ⟨hpl, hdg9, q | q | q | q⟩ := hed2
  · obtain ⟨rfl, qa⟩ := q
    refine g_callFi (g_runFD (C := "ShrinkYard$Replacing") (xi := yDone) (n := 1) (hK.1 3 _ rfl).2 (As := [.ref d]) (rest := []) ⟨hx, hb, hml, hown, hts⟩ (mtX6_isDone_X7 l D u2 H.size e9 d da pl dg (digs t) qa hd hdg.2 hpl hdg9) rfl rfl (Nat.le_of_ble_eq_true rfl) (Nat.le_of_ble_eq_true rfl) (pay_in hts (lw_meth q1597)) List.mem_cons_self (hts _ q58) (hts _ q1590) (hE.df (C := "ShrinkYard$Replacing") (i := 16) (List.mem_of_getElem? (i := 2) rfl)).2.2.2.2.1 (hE.df (C := "ShrinkYard$Replacing") (i := 16) (List.mem_of_getElem? (i := 2) rfl)).2.2.2.1 (hts _ q1595) (g_len2 (by decide +kernel)) (g_preV hW hK hE qa rfl) rfl rfl hl.1 rfl (lv_room (Nat.le_of_ble_eq_true rfl)) dX1_changed_19 ⟨?_, ?_⟩) hW (fun r_ u3 H locs hp hW => ?_)
    · (try simp only [headSpec]); omega
    · (try simp only [headSpec]); omega
    obtain ⟨er, hd3, hx3⟩ := hp
    subst er
    have hfe : eFits 0 pl dg (digs t) = eFits 0 pl dg (digs t) := rfl
    have hfa : eAct 0 pl dg (digs t) = eAct 0 pl dg (digs t) := rfl
    by_cases hf : eFits 0 pl dg (digs t) = true
    · rw [if_pos hf] at hd3
      rw [if_pos (by first | exact hf | (rw [hfe]; exact hf))]
      have hx4 : g_ex (fun _ => False) w u3 := (hx1.tr hx2).trM hx3 (fun z hz hq => hq.elim (fun q => fd (q ▸ hx1.1 _ hz)) (fun q => fda (q ▸ hx1.1 _ hz)))
      refine g_xcallv (vx_runS (As := [.int (1)]) (rest := []) ⟨hx, hb, hml, hown, hts⟩ (mtX1_requireState l hl9 D u3 H.size 1) (va_cwS 1 hts (lw_S q644 q645 q34 q646) rfl rfl rfl (by decide +kernel) ⟨Nat.le_of_ble_eq_true rfl, Nat.le_of_ble_eq_true rfl⟩) (g_preS hW hK hE) rfl rfl hl.1 rfl (lv_room (Nat.le_of_ble_eq_true rfl)) dX1_changed_24 ⟨?_, ?_⟩) hW (fun E ce q9 u_ H locs hp hW hxc1 hxc2 hxc3 => g_xout (hout _) hlocks hW (absurd hp.2.1 (by decide)) hxc1 hxc2 hxc3 ?_ ?_) (fun u_ H locs hp hW => ?_)
      · (try simp only [headSpec]); omega
      · (try simp only [headSpec]); omega
      · (try simp only [headSpec]); omega
      · (try simp only [headSpec]); omega
      obtain ⟨-, rfl⟩ := hp
      refine lv_aload hx hb dX1_changed_27 (lv_at hl 0 rfl) ?_
      have hle8 := (eAct_ok hdg hf hdg9).1
      refine g_callq (va_runV (As := []) (rest := []) ⟨hx, hb, hml, hown, hts⟩ (mtX11_text l D u3 H.size d da (eAct 0 pl dg (digs t)) hd3 (fun x hx => Nat.le_of_lt_succ (Nat.lt_of_lt_of_le ((eAct_ok hdg hf hdg9).2 x hx) (by decide)))) (cwV 0 hts (lw_V q1268 q1269 q1270 q75 q1271) rfl rfl rfl (by decide +kernel) ⟨Nat.le_of_ble_eq_true rfl, Nat.le_of_ble_eq_true rfl⟩) (g_preV hW hK hE hd3.1 rfl) rfl rfl hl.1 rfl (lv_room (Nat.le_of_ble_eq_true rfl)) dX1_changed_29 ⟨?_, ?_⟩) hW (fun r_ u4 H locs hp hW => ?_)
      · (try simp only [headSpec]); omega
      · (try simp only [headSpec]); have := (eAct_ok hdg hf hdg9).1; omega
      obtain ⟨s9, er, fs, hs9, hx5⟩ := hp
      subst er
      exact vx_ret (g_qret (v := some s9) hx hb hr (Or.inl ⟨_, rfl⟩) hlocks hW (⟨⟨⟨hke, hin⟩, hf⟩, s9, rfl, fun z => fs (hx4.1 _ z), hs9, hx4.tr hx5⟩) (by omega) (by omega) dX1_changed_32)
    · rw [if_neg hf] at hd3
      rw [if_neg (by first | exact hf | (rw [hfe]; exact hf))]
      refine g_xcallv (vx_runS (As := [.int (0)]) (rest := []) ⟨hx, hb, hml, hown, hts⟩ (mtX1_requireState l hl9 D u3 H.size 0) (va_cwS 1 hts (lw_S q644 q645 q34 q646) rfl rfl rfl (by decide +kernel) ⟨Nat.le_of_ble_eq_true rfl, Nat.le_of_ble_eq_true rfl⟩) (g_preS hW hK hE) rfl rfl hl.1 rfl (lv_room (Nat.le_of_ble_eq_true rfl)) dX1_changed_24 ⟨?_, ?_⟩) hW (fun E ce q9 u_ H locs hp hW hxc1 hxc2 hxc3 => g_xout (hout _) hlocks hW (⟨by rw [← hp.2.2]; exact (hx1.tr hx2).trM hx3 (fun z hz hq => hq.elim (fun q => fd (q ▸ hx1.1 _ hz)) (fun q => fda (q ▸ hx1.1 _ hz))), Or.inr ⟨hp.1, ⟨hke, hin⟩, hf⟩⟩) hxc1 hxc2 hxc3 ?_ ?_) (fun u_ H locs hp hW => ?_)
      · (try simp only [headSpec]); omega
      · (try simp only [headSpec]); omega
      · (try simp only [headSpec]); omega
      · (try simp only [headSpec]); omega
      exact absurd rfl hp.1
  · obtain ⟨rfl, qa⟩ := q
    refine g_callFi (g_runFD (C := "ShrinkYard$Inserting") (xi := yDone) (n := 1) (hK.1 4 _ rfl).2 (As := [.ref d]) (rest := []) ⟨hx, hb, hml, hown, hts⟩ (mtX6_isDone_X8 l D u2 H.size e9 d da pl dg (digs t) qa hd hdg.2 hpl hdg9) rfl rfl (Nat.le_of_ble_eq_true rfl) (Nat.le_of_ble_eq_true rfl) (pay_in hts (lw_meth q1597)) List.mem_cons_self (hts _ q58) (hts _ q1590) (hE.df (C := "ShrinkYard$Inserting") (i := 18) (List.mem_of_getElem? (i := 1) rfl)).2.2.2.2.1 (hE.df (C := "ShrinkYard$Inserting") (i := 18) (List.mem_of_getElem? (i := 1) rfl)).2.2.2.1 (hts _ q1595) (g_len2 (by decide +kernel)) (g_preV hW hK hE qa rfl) rfl rfl hl.1 rfl (lv_room (Nat.le_of_ble_eq_true rfl)) dX1_changed_19 ⟨?_, ?_⟩) hW (fun r_ u3 H locs hp hW => ?_)
    · (try simp only [headSpec]); omega
    · (try simp only [headSpec]); omega
    obtain ⟨er, hd3, hx3⟩ := hp
    subst er
    have hfe : eFits 1 pl dg (digs t) = eFits 1 pl dg (digs t) := rfl
    have hfa : eAct 1 pl dg (digs t) = eAct 1 pl dg (digs t) := rfl
    by_cases hf : eFits 1 pl dg (digs t) = true
    · rw [if_pos hf] at hd3
      rw [if_pos (by first | exact hf | (rw [hfe]; exact hf))]
      have hx4 : g_ex (fun _ => False) w u3 := (hx1.tr hx2).trM hx3 (fun z hz hq => hq.elim (fun q => fd (q ▸ hx1.1 _ hz)) (fun q => fda (q ▸ hx1.1 _ hz)))
      refine g_xcallv (vx_runS (As := [.int (1)]) (rest := []) ⟨hx, hb, hml, hown, hts⟩ (mtX1_requireState l hl9 D u3 H.size 1) (va_cwS 1 hts (lw_S q644 q645 q34 q646) rfl rfl rfl (by decide +kernel) ⟨Nat.le_of_ble_eq_true rfl, Nat.le_of_ble_eq_true rfl⟩) (g_preS hW hK hE) rfl rfl hl.1 rfl (lv_room (Nat.le_of_ble_eq_true rfl)) dX1_changed_24 ⟨?_, ?_⟩) hW (fun E ce q9 u_ H locs hp hW hxc1 hxc2 hxc3 => g_xout (hout _) hlocks hW (absurd hp.2.1 (by decide)) hxc1 hxc2 hxc3 ?_ ?_) (fun u_ H locs hp hW => ?_)
      · (try simp only [headSpec]); omega
      · (try simp only [headSpec]); omega
      · (try simp only [headSpec]); omega
      · (try simp only [headSpec]); omega
      obtain ⟨-, rfl⟩ := hp
      refine lv_aload hx hb dX1_changed_27 (lv_at hl 0 rfl) ?_
      have hle8 := (eAct_ok hdg hf hdg9).1
      refine g_callq (va_runV (As := []) (rest := []) ⟨hx, hb, hml, hown, hts⟩ (mtX11_text l D u3 H.size d da (eAct 1 pl dg (digs t)) hd3 (fun x hx => Nat.le_of_lt_succ (Nat.lt_of_lt_of_le ((eAct_ok hdg hf hdg9).2 x hx) (by decide)))) (cwV 0 hts (lw_V q1268 q1269 q1270 q75 q1271) rfl rfl rfl (by decide +kernel) ⟨Nat.le_of_ble_eq_true rfl, Nat.le_of_ble_eq_true rfl⟩) (g_preV hW hK hE hd3.1 rfl) rfl rfl hl.1 rfl (lv_room (Nat.le_of_ble_eq_true rfl)) dX1_changed_29 ⟨?_, ?_⟩) hW (fun r_ u4 H locs hp hW => ?_)
      · (try simp only [headSpec]); omega
      · (try simp only [headSpec]); have := (eAct_ok hdg hf hdg9).1; omega
      obtain ⟨s9, er, fs, hs9, hx5⟩ := hp
      subst er
      exact vx_ret (g_qret (v := some s9) hx hb hr (Or.inl ⟨_, rfl⟩) hlocks hW (⟨⟨⟨hke, hin⟩, hf⟩, s9, rfl, fun z => fs (hx4.1 _ z), hs9, hx4.tr hx5⟩) (by omega) (by omega) dX1_changed_32)
    · rw [if_neg hf] at hd3
      rw [if_neg (by first | exact hf | (rw [hfe]; exact hf))]
      refine g_xcallv (vx_runS (As := [.int (0)]) (rest := []) ⟨hx, hb, hml, hown, hts⟩ (mtX1_requireState l hl9 D u3 H.size 0) (va_cwS 1 hts (lw_S q644 q645 q34 q646) rfl rfl rfl (by decide +kernel) ⟨Nat.le_of_ble_eq_true rfl, Nat.le_of_ble_eq_true rfl⟩) (g_preS hW hK hE) rfl rfl hl.1 rfl (lv_room (Nat.le_of_ble_eq_true rfl)) dX1_changed_24 ⟨?_, ?_⟩) hW (fun E ce q9 u_ H locs hp hW hxc1 hxc2 hxc3 => g_xout (hout _) hlocks hW (⟨by rw [← hp.2.2]; exact (hx1.tr hx2).trM hx3 (fun z hz hq => hq.elim (fun q => fd (q ▸ hx1.1 _ hz)) (fun q => fda (q ▸ hx1.1 _ hz))), Or.inr ⟨hp.1, ⟨hke, hin⟩, hf⟩⟩) hxc1 hxc2 hxc3 ?_ ?_) (fun u_ H locs hp hW => ?_)
      · (try simp only [headSpec]); omega
      · (try simp only [headSpec]); omega
      · (try simp only [headSpec]); omega
      · (try simp only [headSpec]); omega
      exact absurd rfl hp.1
  · obtain ⟨rfl, qa⟩ := q
    refine g_callFi (g_runFD (C := "ShrinkYard$Deleting") (xi := yDone) (n := 1) (hK.1 5 _ rfl).2 (As := [.ref d]) (rest := []) ⟨hx, hb, hml, hown, hts⟩ (mtX6_isDone_X9 l D u2 H.size e9 d da pl (digs t) qa hd hdg.2 hpl) rfl rfl (Nat.le_of_ble_eq_true rfl) (Nat.le_of_ble_eq_true rfl) (pay_in hts (lw_meth q1597)) List.mem_cons_self (hts _ q58) (hts _ q1590) (hE.df (C := "ShrinkYard$Deleting") (i := 13) (List.mem_of_getElem? (i := 0) rfl)).2.2.2.2.1 (hE.df (C := "ShrinkYard$Deleting") (i := 13) (List.mem_of_getElem? (i := 0) rfl)).2.2.2.1 (hts _ q1595) (g_len2 (by decide +kernel)) (g_preV hW hK hE qa rfl) rfl rfl hl.1 rfl (lv_room (Nat.le_of_ble_eq_true rfl)) dX1_changed_19 ⟨?_, ?_⟩) hW (fun r_ u3 H locs hp hW => ?_)
    · (try simp only [headSpec]); omega
    · (try simp only [headSpec]); omega
    obtain ⟨er, hd3, hx3⟩ := hp
    subst er
    have hfe : eFits 2 pl 0 (digs t) = eFits 2 pl dg (digs t) := rfl
    have hfa : eAct 2 pl 0 (digs t) = eAct 2 pl dg (digs t) := rfl
    rw [hfe, hfa] at hd3
    by_cases hf : eFits 2 pl dg (digs t) = true
    · rw [if_pos hf] at hd3
      rw [if_pos (by first | exact hf | (rw [hfe]; exact hf))]
      have hx4 : g_ex (fun _ => False) w u3 := (hx1.tr hx2).trM hx3 (fun z hz hq => hq.elim (fun q => fd (q ▸ hx1.1 _ hz)) (fun q => fda (q ▸ hx1.1 _ hz)))
      refine g_xcallv (vx_runS (As := [.int (1)]) (rest := []) ⟨hx, hb, hml, hown, hts⟩ (mtX1_requireState l hl9 D u3 H.size 1) (va_cwS 1 hts (lw_S q644 q645 q34 q646) rfl rfl rfl (by decide +kernel) ⟨Nat.le_of_ble_eq_true rfl, Nat.le_of_ble_eq_true rfl⟩) (g_preS hW hK hE) rfl rfl hl.1 rfl (lv_room (Nat.le_of_ble_eq_true rfl)) dX1_changed_24 ⟨?_, ?_⟩) hW (fun E ce q9 u_ H locs hp hW hxc1 hxc2 hxc3 => g_xout (hout _) hlocks hW (absurd hp.2.1 (by decide)) hxc1 hxc2 hxc3 ?_ ?_) (fun u_ H locs hp hW => ?_)
      · (try simp only [headSpec]); omega
      · (try simp only [headSpec]); omega
      · (try simp only [headSpec]); omega
      · (try simp only [headSpec]); omega
      obtain ⟨-, rfl⟩ := hp
      refine lv_aload hx hb dX1_changed_27 (lv_at hl 0 rfl) ?_
      have hle8 := (eAct_ok hdg hf hdg9).1
      refine g_callq (va_runV (As := []) (rest := []) ⟨hx, hb, hml, hown, hts⟩ (mtX11_text l D u3 H.size d da (eAct 2 pl dg (digs t)) hd3 (fun x hx => Nat.le_of_lt_succ (Nat.lt_of_lt_of_le ((eAct_ok hdg hf hdg9).2 x hx) (by decide)))) (cwV 0 hts (lw_V q1268 q1269 q1270 q75 q1271) rfl rfl rfl (by decide +kernel) ⟨Nat.le_of_ble_eq_true rfl, Nat.le_of_ble_eq_true rfl⟩) (g_preV hW hK hE hd3.1 rfl) rfl rfl hl.1 rfl (lv_room (Nat.le_of_ble_eq_true rfl)) dX1_changed_29 ⟨?_, ?_⟩) hW (fun r_ u4 H locs hp hW => ?_)
      · (try simp only [headSpec]); omega
      · (try simp only [headSpec]); have := (eAct_ok hdg hf hdg9).1; omega
      obtain ⟨s9, er, fs, hs9, hx5⟩ := hp
      subst er
      exact vx_ret (g_qret (v := some s9) hx hb hr (Or.inl ⟨_, rfl⟩) hlocks hW (⟨⟨⟨hke, hin⟩, hf⟩, s9, rfl, fun z => fs (hx4.1 _ z), hs9, hx4.tr hx5⟩) (by omega) (by omega) dX1_changed_32)
    · rw [if_neg hf] at hd3
      rw [if_neg (by first | exact hf | (rw [hfe]; exact hf))]
      refine g_xcallv (vx_runS (As := [.int (0)]) (rest := []) ⟨hx, hb, hml, hown, hts⟩ (mtX1_requireState l hl9 D u3 H.size 0) (va_cwS 1 hts (lw_S q644 q645 q34 q646) rfl rfl rfl (by decide +kernel) ⟨Nat.le_of_ble_eq_true rfl, Nat.le_of_ble_eq_true rfl⟩) (g_preS hW hK hE) rfl rfl hl.1 rfl (lv_room (Nat.le_of_ble_eq_true rfl)) dX1_changed_24 ⟨?_, ?_⟩) hW (fun E ce q9 u_ H locs hp hW hxc1 hxc2 hxc3 => g_xout (hout _) hlocks hW (⟨by rw [← hp.2.2]; exact (hx1.tr hx2).trM hx3 (fun z hz hq => hq.elim (fun q => fd (q ▸ hx1.1 _ hz)) (fun q => fda (q ▸ hx1.1 _ hz))), Or.inr ⟨hp.1, ⟨hke, hin⟩, hf⟩⟩) hxc1 hxc2 hxc3 ?_ ?_) (fun u_ H locs hp hW => ?_)
      · (try simp only [headSpec]); omega
      · (try simp only [headSpec]); omega
      · (try simp only [headSpec]); omega
      · (try simp only [headSpec]); omega
      exact absurd rfl hp.1
  · obtain ⟨rfl, qa⟩ := q
    refine g_callFi (g_runFD (C := "ShrinkYard$Swapping") (xi := yDone) (n := 1) (hK.1 6 _ rfl).2 (As := [.ref d]) (rest := []) ⟨hx, hb, hml, hown, hts⟩ (mtX6_isDone_X10 l D u2 H.size e9 d da pl (digs t) qa hd hdg.2 hpl) rfl rfl (Nat.le_of_ble_eq_true rfl) (Nat.le_of_ble_eq_true rfl) (pay_in hts (lw_meth q1597)) List.mem_cons_self (hts _ q58) (hts _ q1590) (hE.df (C := "ShrinkYard$Swapping") (i := 13) (List.mem_of_getElem? (i := 3) rfl)).2.2.2.2.1 (hE.df (C := "ShrinkYard$Swapping") (i := 13) (List.mem_of_getElem? (i := 3) rfl)).2.2.2.1 (hts _ q1595) (g_len2 (by decide +kernel)) (g_preV hW hK hE qa rfl) rfl rfl hl.1 rfl (lv_room (Nat.le_of_ble_eq_true rfl)) dX1_changed_19 ⟨?_, ?_⟩) hW (fun r_ u3 H locs hp hW => ?_)
    · (try simp only [headSpec]); omega
    · (try simp only [headSpec]); omega
    obtain ⟨er, hd3, hx3⟩ := hp
    subst er
    have hfe : eFits 3 pl 0 (digs t) = eFits 3 pl dg (digs t) := rfl
    have hfa : eAct 3 pl 0 (digs t) = eAct 3 pl dg (digs t) := rfl
    rw [hfe, hfa] at hd3
    by_cases hf : eFits 3 pl dg (digs t) = true
    · rw [if_pos hf] at hd3
      rw [if_pos (by first | exact hf | (rw [hfe]; exact hf))]
      have hx4 : g_ex (fun _ => False) w u3 := (hx1.tr hx2).trM hx3 (fun z hz hq => hq.elim (fun q => fd (q ▸ hx1.1 _ hz)) (fun q => fda (q ▸ hx1.1 _ hz)))
      refine g_xcallv (vx_runS (As := [.int (1)]) (rest := []) ⟨hx, hb, hml, hown, hts⟩ (mtX1_requireState l hl9 D u3 H.size 1) (va_cwS 1 hts (lw_S q644 q645 q34 q646) rfl rfl rfl (by decide +kernel) ⟨Nat.le_of_ble_eq_true rfl, Nat.le_of_ble_eq_true rfl⟩) (g_preS hW hK hE) rfl rfl hl.1 rfl (lv_room (Nat.le_of_ble_eq_true rfl)) dX1_changed_24 ⟨?_, ?_⟩) hW (fun E ce q9 u_ H locs hp hW hxc1 hxc2 hxc3 => g_xout (hout _) hlocks hW (absurd hp.2.1 (by decide)) hxc1 hxc2 hxc3 ?_ ?_) (fun u_ H locs hp hW => ?_)
      · (try simp only [headSpec]); omega
      · (try simp only [headSpec]); omega
      · (try simp only [headSpec]); omega
      · (try simp only [headSpec]); omega
      obtain ⟨-, rfl⟩ := hp
      refine lv_aload hx hb dX1_changed_27 (lv_at hl 0 rfl) ?_
      have hle8 := (eAct_ok hdg hf hdg9).1
      refine g_callq (va_runV (As := []) (rest := []) ⟨hx, hb, hml, hown, hts⟩ (mtX11_text l D u3 H.size d da (eAct 3 pl dg (digs t)) hd3 (fun x hx => Nat.le_of_lt_succ (Nat.lt_of_lt_of_le ((eAct_ok hdg hf hdg9).2 x hx) (by decide)))) (cwV 0 hts (lw_V q1268 q1269 q1270 q75 q1271) rfl rfl rfl (by decide +kernel) ⟨Nat.le_of_ble_eq_true rfl, Nat.le_of_ble_eq_true rfl⟩) (g_preV hW hK hE hd3.1 rfl) rfl rfl hl.1 rfl (lv_room (Nat.le_of_ble_eq_true rfl)) dX1_changed_29 ⟨?_, ?_⟩) hW (fun r_ u4 H locs hp hW => ?_)
      · (try simp only [headSpec]); omega
      · (try simp only [headSpec]); have := (eAct_ok hdg hf hdg9).1; omega
      obtain ⟨s9, er, fs, hs9, hx5⟩ := hp
      subst er
      exact vx_ret (g_qret (v := some s9) hx hb hr (Or.inl ⟨_, rfl⟩) hlocks hW (⟨⟨⟨hke, hin⟩, hf⟩, s9, rfl, fun z => fs (hx4.1 _ z), hs9, hx4.tr hx5⟩) (by omega) (by omega) dX1_changed_32)
    · rw [if_neg hf] at hd3
      rw [if_neg (by first | exact hf | (rw [hfe]; exact hf))]
      refine g_xcallv (vx_runS (As := [.int (0)]) (rest := []) ⟨hx, hb, hml, hown, hts⟩ (mtX1_requireState l hl9 D u3 H.size 0) (va_cwS 1 hts (lw_S q644 q645 q34 q646) rfl rfl rfl (by decide +kernel) ⟨Nat.le_of_ble_eq_true rfl, Nat.le_of_ble_eq_true rfl⟩) (g_preS hW hK hE) rfl rfl hl.1 rfl (lv_room (Nat.le_of_ble_eq_true rfl)) dX1_changed_24 ⟨?_, ?_⟩) hW (fun E ce q9 u_ H locs hp hW hxc1 hxc2 hxc3 => g_xout (hout _) hlocks hW (⟨by rw [← hp.2.2]; exact (hx1.tr hx2).trM hx3 (fun z hz hq => hq.elim (fun q => fd (q ▸ hx1.1 _ hz)) (fun q => fda (q ▸ hx1.1 _ hz))), Or.inr ⟨hp.1, ⟨hke, hin⟩, hf⟩⟩) hxc1 hxc2 hxc3 ?_ ?_) (fun u_ H locs hp hW => ?_)
      · (try simp only [headSpec]); omega
      · (try simp only [headSpec]); omega
      · (try simp only [headSpec]); omega
      · (try simp only [headSpec]); omega
      exact absurd rfl hp.1
set_option maxHeartbeats 4000000 in
set_option maxRecDepth 100000 in
/-- ShrinkYard.shrunk -/
theorem mtX1_shrunk (l : Launch) (hl9 : l.stackTraces = false) (D : va_G) (w : g_H) (sz : Nat) (lab : Nat → Nat) (x ac rn tt : Nat) (rf : Nat → Nat) (P : List mI) (C : List yC) (A : Nat → List (List Nat)) (cov : Nat → Bool) (K Q : List (List Nat)) (F : List (List Nat × List Nat × Int32)) (cp : Nat → Nat) (hS : g_SZ D w lab x rf P C A cov K Q ac F rn tt cp) (st : Nat) (t : List Nat) (hst : g_Str D w st t) : vx_Met l yX1_shrunk (ws_ yX1_shrunk cX1_shrunk 3 (some (.object "java/lang/String"))) ({ frames := 11, cells := 12 + ((sShr P (mCode P (digs t)) (sMs (digs t) + 1) (digs t) (bsC (cp 9) (mOut P (digs t)).2.2.2)).2 - cp 9), slots := 74 + 2 * ((sShr P (mCode P (digs t)) (sMs (digs t) + 1) (digs t) (bsC (cp 9) (mOut P (digs t)).2.2.2)).2 - cp 9), locals := 262 }) (g_Pc D [.ref x, .ref st] w sz) (g_Qq D w sz (fun r u => (isIn t ∧ (mOut P (digs t)).1 = 1) ∧ ∃ s9 l2, r = some s9 ∧ s9 ∉ w.1 ∧ g_Str D u s9 (txt (sShr P (mCode P (digs t)) (sMs (digs t) + 1) (digs t) (bsC (cp 9) (mOut P (digs t)).2.2.2)).1) ∧ g_SZ D u l2 x rf P C A cov K Q ac F rn tt (cpU (cpU cp 9 (bsC (cp 9) (mOut P (digs t)).2.2.2)) 9 (sShr P (mCode P (digs t)) (sMs (digs t) + 1) (digs t) (bsC (cp 9) (mOut P (digs t)).2.2.2)).2) ∧ yCh w lab u l2)) (g_XC D w sz (fun E u => (E = "java/lang/IllegalArgumentException" ∧ ¬ isIn t ∧ w = u) ∨ (E = "java/lang/IllegalStateException" ∧ isIn t ∧ (mOut P (digs t)).1 ≠ 1 ∧ ∃ l2, g_SZ D u l2 x rf P C A cov K Q ac F rn tt (cpU cp 9 (bsC (cp 9) (mOut P (digs t)).2.2.2)) ∧ yCh w lab u l2))) (12 + ((sShr P (mCode P (digs t)) (sMs (digs t) + 1) (digs t) (bsC (cp 9) (mOut P (digs t)).2.2.2)).2 - cp 9)) (74 + 2 * ((sShr P (mCode P (digs t)) (sMs (digs t) + 1) (digs t) (bsC (cp 9) (mOut P (digs t)).2.2.2)).2 - cp 9)) (g_A w sz) := by
  refine vx_ofW (cc := cX1_shrunk) (maxL := 3) (ret := (some (.object "java/lang/String"))) (by decide) rfl ?_
  intro p e s m args below meth c s₁ B hml hhand hv
  have hout : ∀ pc : Nat, ∀ x ∈ c.exceptionTable.toList, covers x pc = false := fun _ x hx => (hhand x hx).elim
  obtain ⟨rfl, hI⟩ := hv
  have hx := B.exec
  have hb := B.bytes
  have hr := B.returns
  have hts := atoms_spec (ws := ws_ yX1_shrunk cX1_shrunk 3 (some (.object "java/lang/String"))) B.pre
  have hts : ∀ w ∈ lw_all, w.before _ s = true := fun w h => hts w (List.mem_cons_of_mem _ h)
  have hown : s.vm.findClass RX1 = some m.cls := findClass_of_methodNamed B.named
  have hlocks := B.notSynchronized
  have hsz := hI.1
  subst hsz
  have hW := g_W.start hI
  have hK := g_K hI
  have hE := g_E hI
  have hl := lv_entry ([.ref x, .ref st]) (n := 3) (by exact Nat.le_of_ble_eq_true rfl)
  rw [lg_entry_eq]
  generalize (lg_sl ([.ref x, .ref st]) ++ List.replicate (3 - (lg_sl ([.ref x, .ref st])).length) Slot.unset).toArray = ls at hl ⊢
  have hl : lv_has ls 3 [(0, .ref x), (1, .ref st)] := hl
  have hge := bsC_ge (mOut P (digs t)).2.2.2 (cp 9)
  have hge2 := sShr_ge P (mCode P (digs t)) (sMs (digs t) + 1) (digs t) (bsC (cp 9) (mOut P (digs t)).2.2.2)
  refine lv_aload_n hx hb dX1_shrunk_0 rfl (lv_at hl 0 rfl) ?_
  refine lv_aload_n hx hb dX1_shrunk_1 rfl (lv_at hl 1 rfl) ?_
  refine g_xcallq (vx_runV (As := [.ref st]) (rest := []) ⟨hx, hb, hml, hown, hts⟩ (mtX1_requireFailing l hl9 D w s.heap.size lab x ac rn tt rf P C A cov K Q F cp hS st t hst) (cwV 1 hts (lw_V q1768 q1770 qs24 q34 q1771) rfl rfl rfl (by decide +kernel) ⟨Nat.le_of_ble_eq_true rfl, Nat.le_of_ble_eq_true rfl⟩) (g_preV hW hK hE hS.1.1 rfl) rfl rfl hl.1 rfl (lv_room (Nat.le_of_ble_eq_true rfl)) dX1_shrunk_2 ⟨?_, ?_⟩) hW (fun E ce q9 u_ H locs hp hW hxc1 hxc2 hxc3 => g_xout (hout _) hlocks hW (hp) hxc1 hxc2 hxc3 ?_ ?_) (fun r_ u1 H locs hp hW => ?_)
  · (try simp only [headSpec]); omega
  · (try simp only [headSpec]); omega
  · (try simp only [headSpec]); omega
  · (try simp only [headSpec]); omega
  obtain ⟨⟨hin, hv1⟩, d, da, l2, er, fd, fda, ⟨ld, lda⟩, hd, ⟨ra, eb, wb, vv, st9, E9, n9, hMa⟩, hS2, hy⟩ := hp
  subst er
  obtain ⟨rd2, hm2⟩ := hMa.1
  have hdg : sDg (digs t) := digs_ok hin.1 hin.2
  refine lv_astore_n (lv' := [(2, .ref d), (0, .ref x), (1, .ref st)]) hx hb dX1_shrunk_5 rfl hl (by decide) rfl (fun ls hl => ?_)
  refine lv_aload_n hx hb dX1_shrunk_6 rfl (lv_at hl 1 rfl) ?_
  refine lv_aload_n hx hb dX1_shrunk_7 rfl (lv_at hl 0 rfl) ?_
  refine lv_aload_n hx hb dX1_shrunk_8 rfl (lv_at hl 1 rfl) ?_
  refine g_get (ci := 0) (v := .ref (rf 9)) (C := RX1) (T := TX1) (N := 11) hx hb hts in_X1 hown hK hW hS2.1.1 rfl 3 (by decide) q357 (fun _ h9 => h9) rfl dX1_shrunk_9 ?_
  refine g_getN (ci := 1) (v := .int (mCode P (digs t))) (C := RX2) (T := TX2) (N := 7) hx hb hts in_X2 hown hK hW hm2 rfl 3 (by decide) (nf_q195 hE) (fun _ h9 => h9) rfl dX1_shrunk_12 ?_
  obtain ⟨ra2, eb2, wb2, vv2, cd2, st2, E2, n2, par, ps, hMb, hPg, ⟨m1, m2, m3, m4⟩, ⟨m5, m6⟩, hcl⟩ := hS2.mach hK
  rw [cpU_self] at hMb
  have hcx := hS2.cx hPg ⟨m1, m2, m3, m4⟩ m5 m6 hMb
  refine g_callq (va_runV (As := [.ref d, .int (mCode P (digs t))]) (rest := []) ⟨hx, hb, hml, hown, hts⟩ (mtX1_shrink l D u1 H.size x (rf 9) ra2 eb2 wb2 (rf 2) par _ d da st2 n2 _ vv2 cd2 E2 ps P (digs t) (mCode P (digs t)) hcx hMb hd hdg) (cwV 2 hts (lw_V q1528 q1530 qs21 q34 q1531) rfl rfl rfl (by decide +kernel) ⟨Nat.le_of_ble_eq_true rfl, Nat.le_of_ble_eq_true rfl⟩) (g_preV hW hK hE hS2.1.1 rfl) rfl rfl hl.1 rfl (lv_room (Nat.le_of_ble_eq_true rfl)) dX1_shrunk_15 ⟨?_, ?_⟩) hW (fun r_ u2 H locs hp hW => ?_)
  · (try simp only [headSpec]); omega
  · (try simp only [headSpec]); omega
  obtain ⟨s9, er, fs, hs9, ⟨wb3, vv3, cd3, st3, E3, n3, hMa3, hwb3⟩, hxr⟩ := hp
  subst er
  have hS3 := hcl _ wb3 _ _ _ _ _ _ hMa3 hwb3 hxr
  have hy3 : yCh u1 l2 u2 (lb l2 u1 9) := yCh.of hxr (fun z _ hz => by rcases hz with z | z | z | z <;> rw [z] <;> unfold yM <;> omega) 9
  exact vx_ret (g_qret (v := some s9) hx hb hr (Or.inl ⟨_, rfl⟩) hlocks hW (⟨⟨hin, hv1⟩, s9, _, rfl, fun z => fs (hy.2.1 _ z), hs9, hS3, hy.tr hy3⟩) (by omega) (by omega) dX1_shrunk_18)
