/-! ShrinkYard.goOn *
-/
set_option maxRecDepth 100000
theorem g_consN {α : Type} {xs : List α} (h : 0 < xs.length) : ∃ a b, xs = a :: b := by
  cases xs with
  | nil => exact absurd h (Nat.lt_irrefl 0)
  | cons a b => exact ⟨a, b, rfl⟩
theorem digs_txt (q : List Nat) : (txt q).map (fun x => x - 48) = q := by
  unfold txt
  rw [List.map_map]
  refine (List.map_congr_left (g := id) (fun c _ => ?_)).trans (List.map_id _)
  show 48 + c - 48 = c
  omega
theorem gPq_1 {C : List yC} {ac : Nat} {Q : List (List Nat)} (h : ac = C.length) : gPq C ac Q = Q.tail ∧ gPa C ac = 0 := ⟨if_pos h, if_pos h⟩
theorem gPq_0 {C : List yC} {ac : Nat} {Q : List (List Nat)} (h : ac ≠ C.length) : gPq C ac Q = Q ∧ gPa C ac = ac := ⟨if_neg h, if_neg h⟩
set_option maxHeartbeats 4000000 in
set_option maxRecDepth 100000 in
/-- ShrinkYard.goOn: the end of a round -/
theorem lpX1_goPop {p : Program} {l : Launch} {e : Env} {R : Room} {s : State} {m : MethodId} {args : Array Value} {below : List Frame} {meth : Method} {c : Code} {cells slots : Nat} {Q : State → Prop} {D : va_G} {A : Nat → Prop} (hx : p.tables.exec = Jvm.exec) (hb : c.code = cX1_goOn) (hts : ∀ w ∈ lw_all, w.before args s = true) (hown : s.vm.findClass RX1 = some m.cls) (hK : va_K D gCl (gT D) s) (hE : g_Env D A s) (hml : c.maxLocals = 5) (hRf : 3 ≤ R.frames) (hRl : 56 ≤ R.locals) (hRc : cells ≤ R.cells) (hRs : slots ≤ R.slots) (lab : Nat → Nat) (w : g_H) (x d da : Nat) (fd : d ∉ w.1) (fda : da ∉ w.1) (rf : Nat → Nat) (P : List mI) (C : List yC) (A9 : Nat → List (List Nat)) (n9 sp rn tt ac : Nat) (cov : Nat → Bool) (K Q9 : List (List Nat)) (F : List yF) (cp : Nat → Nat) (w1 : g_H) (l1 : Nat → Nat) (hQ : 0 < Q9.length) (hS : g_SZ D w1 l1 x rf P C A9 cov K Q9 ac F rn tt cp) (hy : yCh w lab w1 l1)
    (kk : ∀ (w2 : g_H) (l2 : Nat → Nat) (H : Heap) (locs : List Loc) (ls : Array Slot), g_SZ D w2 l2 x rf P C A9 cov K (gPq C ac Q9) (gPa C ac) F rn tt cp → yCh w lab w2 l2 → (∀ z, z ∈ w1.1 → l2 z = l1 z) → g_ex (yM l1) w1 w2 → g_W D A s.heap H locs w2 → lv_has ls 5 [(0, .ref x), (1, .int (nI n9)), (2, .ref d), (3, .int (nI sp))] → W p l e R s m args below meth c H locs cells slots Q (F0 m 21 ls [])) :
    ∀ (k : Nat)  (H : Heap) (locs : List Loc) (ls : Array Slot), 0 < k → g_W D A s.heap H locs w1 → lv_has ls 5 [(0, .ref x), (1, .int (nI n9)), (2, .ref d), (3, .int (nI sp))] → W p l e R s m args below meth c H locs cells slots Q (F0 m 111 ls []) := by
  intro k
  induction k with
  | zero => intro  H locs ls hfuel hW hl; exact absurd hfuel (by omega)
  | succ k ih =>
    intro  H locs ls hfuel hW hl
    have hac := hS.2.2.2.2.2.2.2.2.2.2.2.2.2
    obtain ⟨car, cs, hal, ⟨hcl9, hc8, hcs⟩, -, -⟩ := hS.chgs hK (g_e0 hE hW)
    obtain ⟨mo9, hat9, -⟩ := id hal
    refine lv_aload_n hx hb dX1_goOn_111 rfl (lv_at hl 0 rfl) ?_
    refine g_get (ci := 0) (v := .int (nI ac)) (C := RX1) (T := TX1) (N := 11) hx hb hts in_X1 hown hK hW hS.1.1 rfl 10 (by decide) q364 (fun _ h9 => h9) rfl dX1_goOn_112 ?_
    refine lv_aload_n hx hb dX1_goOn_115 rfl (lv_at hl 0 rfl) ?_
    refine g_get (ci := 0) (v := .ref (rf 3)) (C := RX1) (T := TX1) (N := 11) hx hb hts in_X1 hown hK hW hS.1.1 rfl 1 (by decide) q355 (fun _ h9 => h9) rfl dX1_goOn_116 ?_
    refine g_callFi (va_runF (cC := D.1 11) (hK.1 11 _ rfl).2 (As := []) (rest := [.int (nI ac)]) ⟨hx, hb, hml, hown, hts⟩ (mtJ2_size l D w1 H.size (rf 3) car (cp 3) cs hal) (va_cwF 0 hts (lw_app (lw_in _ [438, 441, 443, 37] (by decide +kernel) (by decide +kernel)) (lw_meth q445)) rfl rfl rfl (fw_24 hE) (by decide +kernel) ⟨Nat.le_trans (Nat.le_of_ble_eq_true rfl) hRf, Nat.le_trans (Nat.le_of_ble_eq_true rfl) hRl⟩) (g_preV hW hK hE hat9 rfl) rfl rfl hl.1 rfl (lv_room (Nat.le_of_ble_eq_true rfl)) dX1_goOn_119 ⟨hRc, hRs⟩) hW (fun r_ u_ H locs hp hW => ?_)
    obtain ⟨er, rfl⟩ := hp
    subst er
    refine lv_icmp_ne (tgt := 21) hx hb dX1_goOn_124 (by decide) (fun hc => ?_) (fun hc => ?_)
    · have hn : ac ≠ C.length := fun z => hc (by rw [z, ← hcl9])
      obtain ⟨e1, e2⟩ := gPq_0 (Q := Q9) hn
      exact kk w1 l1 H locs ls (by rw [e1, e2]; exact hS) hy (fun _ _ => rfl) g_ex.rf hW (lv_sub hl [0, 1, 2, 3] rfl)
    · have hn : ac = C.length := by rw [← hcl9]; exact nI_inj (by omega) (by omega) (by first | exact hc | exact Classical.not_not.mp hc)
      obtain ⟨e1, e2⟩ := gPq_1 (Q := Q9) hn
      obtain ⟨ns, qs, hll, hqs, ⟨c1, c2⟩, hcl2⟩ := hS.que
      obtain ⟨q1, Q1, rfl⟩ := g_consN hQ
      have hql : qs.length = Q1.length + 1 := by rw [hqs.1, List.length_map]; rfl
      obtain ⟨q0, qt, rfl⟩ := g_consN (xs := qs) (by omega)
      obtain ⟨n0, nt, rfl⟩ := g_consN (xs := ns) (by rw [← hll.2.1.1]; exact Nat.succ_pos _)
      obtain ⟨⟨mo5, hat5⟩, -⟩ := id hll
      refine lv_aload_n hx hb dX1_goOn_127 rfl (lv_at hl 0 rfl) ?_
      refine g_get (ci := 0) (v := .ref (rf 12)) (C := RX1) (T := TX1) (N := 11) hx hb hts in_X1 hown hK hW hS.1.1 rfl 6 (by decide) q360 (fun _ h9 => h9) rfl dX1_goOn_128 ?_
      refine g_callq (va_runV (As := []) (rest := []) ⟨hx, hb, hml, hown, hts⟩ (mtJ5_removeFirst l D w1 H.size (rf 12) n0 q0 nt qt hll) (cwV 0 hts (lw_V q1697 q1698 q1699 q41 q1700) rfl rfl rfl (by decide +kernel) ⟨Nat.le_trans (Nat.le_of_ble_eq_true rfl) hRf, Nat.le_trans (Nat.le_of_ble_eq_true rfl) hRl⟩) (g_preV hW hK hE hat5 rfl) rfl rfl hl.1 rfl (lv_room (Nat.le_of_ble_eq_true rfl)) dX1_goOn_131 ⟨hRc, hRs⟩) hW (fun r_ u1 H locs hp hW => ?_)
      obtain ⟨er, hll2, hex⟩ := hp
      subst er
      have hstr : g_Str D w1 q0 (txt q1) := hqs.2 0 (Nat.zero_lt_succ _)
      have hstr2 := hll.mut.str hstr hex
      have hS2 := hcl2 u1 nt qt Q1 hll2 (fun n hn => Or.inl (List.mem_cons_of_mem _ hn)) hex ⟨by simpa using hql, fun j hj => hqs.2 (j + 1) (Nat.succ_lt_succ hj)⟩
      refine va_castS hx hb hown (hts _ q1107) (hK.1 16 _ rfl).2 (g_Ob.rd (D := D) (w := u1) (ci := 16) hstr2.ob rfl hK hE hW) dX1_goOn_134 ?_
      have x_1 : g_ex (fun q => q = x) u1 u1 := g_ex.rf
      refine lv_astore (lv' := [(4, .ref q0), (0, .ref x), (1, .int (nI n9)), (2, .ref d), (3, .int (nI sp))]) hx hb dX1_goOn_137 hl (by decide) rfl (fun ls hl => ?_)
      refine lv_aload_n hx hb dX1_goOn_139 rfl (lv_at hl 1 rfl) ?_
      refine lv_iconst (v := 0) hx hb dX1_goOn_140 (by decide) ?_
      refine g_putf (ci := 0) (v := .int (0)) (ty := .int) (C := RX1) (T := TX1) (N := 11) hx hb hts in_X1 tyX1 tyX1_ok nmX1 hown hK hW hS2.1.1 rfl 10 (by decide) q364 (fun _ h9 => h9) rfl (by decide +kernel) rfl rfl (Nat.le_of_ble_eq_true rfl) dX1_goOn_141 (fun H locs hW => ?_)
      obtain ⟨w_2, ew_2⟩ : ∃ z__, z__ = g_put u1 x (.inr (0, [.ref (rf 2), .ref (rf 3), .ref (rf 4), .ref (rf 9), .ref (rf 10), .ref (rf 11), .ref (rf 12), .ref (rf 13), .int (nI rn), .long (lN tt), .int (0)])) := ⟨_, rfl⟩
      have hW := g_W.ren hW ew_2 rfl
      have h_3 : g_at w_2 x (.inr (0, [.ref (rf 2), .ref (rf 3), .ref (rf 4), .ref (rf 9), .ref (rf 10), .ref (rf 11), .ref (rf 12), .ref (rf 13), .int (nI rn), .long (lN tt), .int (0)])) := by rw [ew_2]; exact g_at.put_self hS2.1.1.1
      have x_4 : g_ex (fun q => q = x) u1 w_2 := by rw [ew_2]; exact x_1.put (fun hz9 => rfl)
      have hS3 := hS2.obj (rn2 := rn) (tt2 := tt) (ac2 := 0) h_3 x_4 hS2.2.2.2.2.2.2.2.2.2.2.2.1 hS2.2.2.2.2.2.2.2.2.2.2.2.2.1 (Nat.zero_le _)
      have hxM : g_ex (yM l1) w1 u1 := hex.mono (fun z _ hz => by unfold yM; rcases hz with hz | hz; rw [hz]; omega; rw [c2 z hz]; omega)
      have hl2 : lb l1 w1 12 x = 1 := (lb_in _ hS.1.1.1).trans hS.1.2
      have hxN : g_ex (yM l1) w1 w_2 := hxM.trM x_4 (fun z hz hq => by unfold yM; rw [hq, hS.1.2]; omega)
      have hy3 : yCh w lab w_2 (lb l1 w1 12) := ⟨fun z hz => (lb_in z (hy.2.1 z hz)).trans (hy.1 z hz), hy.2.trM hxN (fun z hz hM => by unfold yM at *; rw [← hy.1 z hz]; exact hM)⟩
      refine lv_goto (tgt := 21) hx hb dX1_goOn_144 (by decide) ?_
      exact kk w_2 _ H locs ls (by rw [e1, e2]; exact hS3) hy3 lb_in hxN hW (lv_sub hl [1, 2, 3, 4] rfl)
set_option maxHeartbeats 4000000 in
set_option maxRecDepth 100000 in
/-- ShrinkYard.goOn: a change -/
theorem lpX1_goEd {p : Program} {l : Launch} {e : Env} {R : Room} {s : State} {m : MethodId} {args : Array Value} {below : List Frame} {meth : Method} {c : Code} {cells slots : Nat} {Q : State → Prop} {D : va_G} {A : Nat → Prop} (hx : p.tables.exec = Jvm.exec) (hb : c.code = cX1_goOn) (hts : ∀ w ∈ lw_all, w.before args s = true) (hown : s.vm.findClass RX1 = some m.cls) (hK : va_K D gCl (gT D) s) (hE : g_Env D A s) (hml : c.maxLocals = 5) (hRf : 6 ≤ R.frames) (hRl : 119 ≤ R.locals) (hRc : cells ≤ R.cells) (hRs : slots ≤ R.slots) (lab : Nat → Nat) (w : g_H) (x d da : Nat) (fd : d ∉ w.1) (fda : da ∉ w.1) (rf : Nat → Nat) (P : List mI) (C : List yC) (A9 : Nat → List (List Nat)) (n9 sp rn tt ac : Nat) (cov : Nat → Bool) (K Q9 : List (List Nat)) (F : List yF) (cp : Nat → Nat) (w1 : g_H) (l1 : Nat → Nat) (ds q1 : List Nat) (hac9 : ac < C.length) (hQ : Q9.headD [] = q1) (hQ1 : 0 < Q9.length) (hq8 : sDg q1) (hS : g_SZ D w1 l1 x rf P C A9 cov K Q9 ac F rn tt cp) (hy : yCh w lab w1 l1) (hd : g_Dig D w1 d da ds) (hld : l1 d = 0 ∧ l1 da = 0)
    (kk : ∀ (w2 : g_H) (H : Heap) (locs : List Loc) (ls : Array Slot), g_SZ D w2 l1 x rf P C A9 cov K Q9 ac F rn tt cp → yCh w lab w2 l1 → g_Dig D w2 d da (if eFits (C.getD ac (0, 0, 0)).1 (C.getD ac (0, 0, 0)).2.1 (C.getD ac (0, 0, 0)).2.2 q1 = true then gEd C ac q1 else q1) → (∀ z, z ∈ w1.1 → z ∈ w2.1) → (eFits (C.getD ac (0, 0, 0)).1 (C.getD ac (0, 0, 0)).2.1 (C.getD ac (0, 0, 0)).2.2 q1 = true → sDg (gEd C ac q1)) → g_W D A s.heap H locs w2 → lv_has ls 5 [(0, .ref x), (1, .int (nI n9)), (2, .ref d), (3, .int (nI sp))] → W p l e R s m args below meth c H locs cells slots Q (F0 m 88 ls [.int (if eFits (C.getD ac (0, 0, 0)).1 (C.getD ac (0, 0, 0)).2.1 (C.getD ac (0, 0, 0)).2.2 q1 = true then 1 else 0)])) :
    ∀ (k : Nat)  (H : Heap) (locs : List Loc) (ls : Array Slot), 0 < k → g_W D A s.heap H locs w1 → lv_has ls 5 [(0, .ref x), (1, .int (nI n9)), (2, .ref d), (3, .int (nI sp))] → W p l e R s m args below meth c H locs cells slots Q (F0 m 52 ls []) := by
  intro k
  induction k with
  | zero => intro  H locs ls hfuel hW hl; exact absurd hfuel (by omega)
  | succ k ih =>
    intro  H locs ls hfuel hW hl
    obtain ⟨car, cs, hal, ⟨hcl9, hc8, hcs⟩, -, -⟩ := hS.chgs hK (g_e0 hE hW)
    obtain ⟨mo9, hat9, -⟩ := id hal
    obtain ⟨ns, qs, hll, hqs, ⟨c1, c2⟩, -⟩ := hS.que
    obtain ⟨q2, Q1, rfl⟩ := g_consN hQ1
    have e12 : q2 = q1 := hQ
    subst e12
    have hql : qs.length = Q1.length + 1 := by rw [hqs.1, List.length_map]; rfl
    obtain ⟨q0, qt, rfl⟩ := g_consN (xs := qs) (by omega)
    obtain ⟨n0, nt, rfl⟩ := g_consN (xs := ns) (by rw [← hll.2.1.1]; exact Nat.succ_pos _)
    obtain ⟨⟨mo5, hat5⟩, -⟩ := id hll
    refine lv_aload_n hx hb dX1_goOn_52 rfl (lv_at hl 2 rfl) ?_
    refine lv_aload_n hx hb dX1_goOn_53 rfl (lv_at hl 0 rfl) ?_
    refine g_get (ci := 0) (v := .ref (rf 12)) (C := RX1) (T := TX1) (N := 11) hx hb hts in_X1 hown hK hW hS.1.1 rfl 6 (by decide) q360 (fun _ h9 => h9) rfl dX1_goOn_54 ?_
    refine g_callq (va_runV (As := []) (rest := [.ref d]) ⟨hx, hb, hml, hown, hts⟩ (mtJ5_getFirst l D w1 H.size (rf 12) n0 q0 nt qt hll) (cwV 0 hts (lw_V q1582 q1583 q1584 q41 q1585) rfl rfl rfl (by decide +kernel) ⟨Nat.le_trans (Nat.le_of_ble_eq_true rfl) hRf, Nat.le_trans (Nat.le_of_ble_eq_true rfl) hRl⟩) (g_preV hW hK hE hat5 rfl) rfl rfl hl.1 rfl (lv_room (Nat.le_of_ble_eq_true rfl)) dX1_goOn_57 ⟨hRc, hRs⟩) hW (fun r_ u_ H locs hp hW => ?_)
    obtain ⟨er, rfl⟩ := hp
    subst er
    have hstr : g_Str D w1 q0 (txt q2) := hqs.2 0 (Nat.zero_lt_succ _)
    refine va_castS hx hb hown (hts _ q1107) (hK.1 16 _ rfl).2 (g_Ob.rd (D := D) (w := w1) (ci := 16) hstr.ob rfl hK hE hW) dX1_goOn_60 ?_
    obtain ⟨fa, hfa, -⟩ := id hd.2.1
    refine g_callv (va_runV (As := [.ref q0]) (rest := []) ⟨hx, hb, hml, hown, hts⟩ (mtX11_read l D w1 H.size d da _ q0 fa (txt q2) hd.1 hfa hstr (by unfold txt; rw [List.length_map]; exact hq8.1) (fun c hc => by obtain ⟨y, -, rfl⟩ := List.mem_map.mp hc; omega)) (cwV 1 hts (lw_V q1177 q1178 q1179 q75 q1180) rfl rfl rfl (by decide +kernel) ⟨Nat.le_trans (Nat.le_of_ble_eq_true rfl) hRf, Nat.le_trans (Nat.le_of_ble_eq_true rfl) hRl⟩) (g_preV hW hK hE hd.1 rfl) rfl rfl hl.1 rfl (lv_room (Nat.le_of_ble_eq_true rfl)) dX1_goOn_63 ⟨hRc, hRs⟩) hW (fun u1 H locs hp hW => ?_)
    obtain ⟨hd2, hx2⟩ := hp
    rw [digs_txt] at hd2
    have hS2 := hS.keep hx2 ((g_mut.obj hd.1).or (g_mut.arr hfa (g_neA hK (i := 0) (j := 1) rfl rfl (fun z => by cases z)))) (fun _ _ => rfl) (fun z _ hz => Or.inl (by rcases hz with hz | hz <;> rw [hz]; exact hld.1; exact hld.2))
    have hy2 : yCh w lab _ l1 := ⟨hy.1, hy.2.trM hx2 (fun z hz hq => by rcases hq with hq | hq; exact absurd (hq ▸ hz) fd; exact absurd (hq ▸ hz) fda)⟩
    obtain ⟨fa2, hfa2, -⟩ := id hd2.2.1
    obtain ⟨car, cs, hal, ⟨hcl9, hc8, hcs⟩, -, -⟩ := hS2.chgs hK (g_e0 hE hW)
    obtain ⟨mo9, hat9, -⟩ := id hal
    refine lv_aload_n hx hb dX1_goOn_66 rfl (lv_at hl 0 rfl) ?_
    refine g_get (ci := 0) (v := .ref (rf 3)) (C := RX1) (T := TX1) (N := 11) hx hb hts in_X1 hown hK hW hS2.1.1 rfl 1 (by decide) q355 (fun _ h9 => h9) rfl dX1_goOn_67 ?_
    refine lv_aload_n hx hb dX1_goOn_70 rfl (lv_at hl 0 rfl) ?_
    refine g_get (ci := 0) (v := .int (nI ac)) (C := RX1) (T := TX1) (N := 11) hx hb hts in_X1 hown hK hW hS2.1.1 rfl 10 (by decide) q364 (fun _ h9 => h9) rfl dX1_goOn_71 ?_
    refine g_callFq (va_runF (cC := D.1 11) (hK.1 11 _ rfl).2 (As := [.int (nI ac)]) (rest := []) ⟨hx, hb, hml, hown, hts⟩ (mtJ2_get l D u1 H.size (rf 3) car (cp 3) cs hal ac (by omega)) (va_cwF 1 hts (lw_app (lw_in _ [788, 791, 793, 37] (by decide +kernel) (by decide +kernel)) (lw_meth q795)) rfl rfl rfl (fw_26 hE) (by decide +kernel) ⟨Nat.le_trans (Nat.le_of_ble_eq_true rfl) hRf, Nat.le_trans (Nat.le_of_ble_eq_true rfl) hRl⟩) (g_preV hW hK hE hat9 rfl) rfl rfl hl.1 rfl (lv_room (Nat.le_of_ble_eq_true rfl)) dX1_goOn_74 ⟨hRc, hRs⟩) hW (fun r_ u_ H locs hp hW => ?_)
    obtain ⟨er, rfl⟩ := hp
    subst er
    have hed := hcs ac hac9
    unfold gEd at kk
    obtain ⟨e9, ee9⟩ : ∃ z__, z__ = C.getD ac (0, 0, 0) := ⟨_, rfl⟩
    rw [← ee9] at hed kk
    obtain ⟨kd, pl, dg⟩ := e9
    obtain ⟨hpl, hdg9, q | q | q | q⟩ := hed
    · obtain ⟨ek, qa⟩ := q
      have ek : kd = 0 := ek
      subst ek
      refine va_castY (C := "ShrinkYard$Replacing") hx hb hown (hts _ q1588) (nc_q1647 hE) (g_Ob.rd (D := D) (w := u1) (ci := 3) (Or.inl ⟨_, qa⟩) rfl hK hE hW) dX1_goOn_79 ?_
      refine lv_aload_n hx hb dX1_goOn_82 rfl (lv_at hl 2 rfl) ?_
      refine g_callFi (g_runFD (C := "ShrinkYard$Replacing") (xi := yDone) (n := 1) (hK.1 3 _ rfl).2 (As := [.ref d]) (rest := []) ⟨hx, hb, hml, hown, hts⟩ (mtX6_isDone_X7 l D u1 H.size (cs.getD ac 0) d da pl dg q2 qa hd2 hq8.2 hpl hdg9) rfl rfl (Nat.le_trans (Nat.le_of_ble_eq_true rfl) hRf) (Nat.le_trans (Nat.le_of_ble_eq_true rfl) hRl) (pay_in hts (lw_meth q1597)) List.mem_cons_self (hts _ q58) (hts _ q1590) (hE.df (C := "ShrinkYard$Replacing") (i := 16) (List.mem_of_getElem? (i := 2) rfl)).2.2.2.2.1 (hE.df (C := "ShrinkYard$Replacing") (i := 16) (List.mem_of_getElem? (i := 2) rfl)).2.2.2.1 (hts _ q1595) (g_len2 (by decide +kernel)) (g_preV hW hK hE qa rfl) rfl rfl hl.1 rfl (lv_room (Nat.le_of_ble_eq_true rfl)) dX1_goOn_83 ⟨hRc, hRs⟩) hW (fun r_ u3 H locs hp hW => ?_)
      obtain ⟨er, hd3, hx3⟩ := hp
      subst er
      have hS3 := hS2.keep hx3 ((g_mut.obj hd2.1).or (g_mut.arr hfa2 (g_neA hK (i := 0) (j := 1) rfl rfl (fun z => by cases z)))) (fun _ _ => rfl) (fun z _ hz => Or.inl (by rcases hz with hz | hz <;> rw [hz]; exact hld.1; exact hld.2))
      have hy3 : yCh w lab _ l1 := ⟨hy2.1, hy2.2.trM hx3 (fun z hz hq => by rcases hq with hq | hq; exact absurd (hq ▸ hz) fd; exact absurd (hq ▸ hz) fda)⟩
      exact kk u3 H locs ls hS3 hy3 hd3 (fun z hz => hx3.1 z (hx2.1 z hz)) (fun hf => eAct_ok hq8 hf hdg9) hW (lv_sub hl [0, 1, 2, 3] rfl)
    · obtain ⟨ek, qa⟩ := q
      have ek : kd = 1 := ek
      subst ek
      refine va_castY (C := "ShrinkYard$Inserting") hx hb hown (hts _ q1588) (nc_q1640 hE) (g_Ob.rd (D := D) (w := u1) (ci := 4) (Or.inl ⟨_, qa⟩) rfl hK hE hW) dX1_goOn_79 ?_
      refine lv_aload_n hx hb dX1_goOn_82 rfl (lv_at hl 2 rfl) ?_
      refine g_callFi (g_runFD (C := "ShrinkYard$Inserting") (xi := yDone) (n := 1) (hK.1 4 _ rfl).2 (As := [.ref d]) (rest := []) ⟨hx, hb, hml, hown, hts⟩ (mtX6_isDone_X8 l D u1 H.size (cs.getD ac 0) d da pl dg q2 qa hd2 hq8.2 hpl hdg9) rfl rfl (Nat.le_trans (Nat.le_of_ble_eq_true rfl) hRf) (Nat.le_trans (Nat.le_of_ble_eq_true rfl) hRl) (pay_in hts (lw_meth q1597)) List.mem_cons_self (hts _ q58) (hts _ q1590) (hE.df (C := "ShrinkYard$Inserting") (i := 18) (List.mem_of_getElem? (i := 1) rfl)).2.2.2.2.1 (hE.df (C := "ShrinkYard$Inserting") (i := 18) (List.mem_of_getElem? (i := 1) rfl)).2.2.2.1 (hts _ q1595) (g_len2 (by decide +kernel)) (g_preV hW hK hE qa rfl) rfl rfl hl.1 rfl (lv_room (Nat.le_of_ble_eq_true rfl)) dX1_goOn_83 ⟨hRc, hRs⟩) hW (fun r_ u3 H locs hp hW => ?_)
      obtain ⟨er, hd3, hx3⟩ := hp
      subst er
      have hS3 := hS2.keep hx3 ((g_mut.obj hd2.1).or (g_mut.arr hfa2 (g_neA hK (i := 0) (j := 1) rfl rfl (fun z => by cases z)))) (fun _ _ => rfl) (fun z _ hz => Or.inl (by rcases hz with hz | hz <;> rw [hz]; exact hld.1; exact hld.2))
      have hy3 : yCh w lab _ l1 := ⟨hy2.1, hy2.2.trM hx3 (fun z hz hq => by rcases hq with hq | hq; exact absurd (hq ▸ hz) fd; exact absurd (hq ▸ hz) fda)⟩
      exact kk u3 H locs ls hS3 hy3 hd3 (fun z hz => hx3.1 z (hx2.1 z hz)) (fun hf => eAct_ok hq8 hf hdg9) hW (lv_sub hl [0, 1, 2, 3] rfl)
    · obtain ⟨ek, qa⟩ := q
      have ek : kd = 2 := ek
      subst ek
      refine va_castY (C := "ShrinkYard$Deleting") hx hb hown (hts _ q1588) (nc_q1593 hE) (g_Ob.rd (D := D) (w := u1) (ci := 5) (Or.inl ⟨_, qa⟩) rfl hK hE hW) dX1_goOn_79 ?_
      refine lv_aload_n hx hb dX1_goOn_82 rfl (lv_at hl 2 rfl) ?_
      refine g_callFi (g_runFD (C := "ShrinkYard$Deleting") (xi := yDone) (n := 1) (hK.1 5 _ rfl).2 (As := [.ref d]) (rest := []) ⟨hx, hb, hml, hown, hts⟩ (mtX6_isDone_X9 l D u1 H.size (cs.getD ac 0) d da pl q2 qa hd2 hq8.2 hpl) rfl rfl (Nat.le_trans (Nat.le_of_ble_eq_true rfl) hRf) (Nat.le_trans (Nat.le_of_ble_eq_true rfl) hRl) (pay_in hts (lw_meth q1597)) List.mem_cons_self (hts _ q58) (hts _ q1590) (hE.df (C := "ShrinkYard$Deleting") (i := 13) (List.mem_of_getElem? (i := 0) rfl)).2.2.2.2.1 (hE.df (C := "ShrinkYard$Deleting") (i := 13) (List.mem_of_getElem? (i := 0) rfl)).2.2.2.1 (hts _ q1595) (g_len2 (by decide +kernel)) (g_preV hW hK hE qa rfl) rfl rfl hl.1 rfl (lv_room (Nat.le_of_ble_eq_true rfl)) dX1_goOn_83 ⟨hRc, hRs⟩) hW (fun r_ u3 H locs hp hW => ?_)
      obtain ⟨er, hd3, hx3⟩ := hp
      subst er
      have hS3 := hS2.keep hx3 ((g_mut.obj hd2.1).or (g_mut.arr hfa2 (g_neA hK (i := 0) (j := 1) rfl rfl (fun z => by cases z)))) (fun _ _ => rfl) (fun z _ hz => Or.inl (by rcases hz with hz | hz <;> rw [hz]; exact hld.1; exact hld.2))
      have hy3 : yCh w lab _ l1 := ⟨hy2.1, hy2.2.trM hx3 (fun z hz hq => by rcases hq with hq | hq; exact absurd (hq ▸ hz) fd; exact absurd (hq ▸ hz) fda)⟩
      exact kk u3 H locs ls hS3 hy3 hd3 (fun z hz => hx3.1 z (hx2.1 z hz)) (fun hf => eAct_ok hq8 hf hdg9) hW (lv_sub hl [0, 1, 2, 3] rfl)
    · obtain ⟨ek, qa⟩ := q
      have ek : kd = 3 := ek
      subst ek
      refine va_castY (C := "ShrinkYard$Swapping") hx hb hown (hts _ q1588) (nc_q1654 hE) (g_Ob.rd (D := D) (w := u1) (ci := 6) (Or.inl ⟨_, qa⟩) rfl hK hE hW) dX1_goOn_79 ?_
      refine lv_aload_n hx hb dX1_goOn_82 rfl (lv_at hl 2 rfl) ?_
      refine g_callFi (g_runFD (C := "ShrinkYard$Swapping") (xi := yDone) (n := 1) (hK.1 6 _ rfl).2 (As := [.ref d]) (rest := []) ⟨hx, hb, hml, hown, hts⟩ (mtX6_isDone_X10 l D u1 H.size (cs.getD ac 0) d da pl q2 qa hd2 hq8.2 hpl) rfl rfl (Nat.le_trans (Nat.le_of_ble_eq_true rfl) hRf) (Nat.le_trans (Nat.le_of_ble_eq_true rfl) hRl) (pay_in hts (lw_meth q1597)) List.mem_cons_self (hts _ q58) (hts _ q1590) (hE.df (C := "ShrinkYard$Swapping") (i := 13) (List.mem_of_getElem? (i := 3) rfl)).2.2.2.2.1 (hE.df (C := "ShrinkYard$Swapping") (i := 13) (List.mem_of_getElem? (i := 3) rfl)).2.2.2.1 (hts _ q1595) (g_len2 (by decide +kernel)) (g_preV hW hK hE qa rfl) rfl rfl hl.1 rfl (lv_room (Nat.le_of_ble_eq_true rfl)) dX1_goOn_83 ⟨hRc, hRs⟩) hW (fun r_ u3 H locs hp hW => ?_)
      obtain ⟨er, hd3, hx3⟩ := hp
      subst er
      have hS3 := hS2.keep hx3 ((g_mut.obj hd2.1).or (g_mut.arr hfa2 (g_neA hK (i := 0) (j := 1) rfl rfl (fun z => by cases z)))) (fun _ _ => rfl) (fun z _ hz => Or.inl (by rcases hz with hz | hz <;> rw [hz]; exact hld.1; exact hld.2))
      have hy3 : yCh w lab _ l1 := ⟨hy2.1, hy2.2.trM hx3 (fun z hz hq => by rcases hq with hq | hq; exact absurd (hq ▸ hz) fd; exact absurd (hq ▸ hz) fda)⟩
      exact kk u3 H locs ls hS3 hy3 hd3 (fun z hz => hx3.1 z (hx2.1 z hz)) (fun hf => eAct_ok hq8 hf hdg9) hW (lv_sub hl [0, 1, 2, 3] rfl)
