/-! ShrinkYard: goOn, the constructor *
-/
set_option maxRecDepth 100000
noncomputable def gGo (P : List mI) (C : List yC) (b : Nat) (cov : Nat → Bool) (K Q : List (List Nat)) (ac : Nat) (F : List yF) (rn tt : Nat) (cp : Nat → Nat) : yR := gLoop P C b (gMe cov Q ac + 1) cov K Q ac F rn tt cp 0 0 0
set_option maxHeartbeats 4000000 in
set_option maxRecDepth 100000 in
/-- ShrinkYard.goOn -/
theorem mtX1_goOn (l : Launch) (hl9 : l.stackTraces = false) (D : va_G) (w : g_H) (sz : Nat) (lab : Nat → Nat) (x ac rn tt : Nat) (rf : Nat → Nat) (P : List mI) (C : List yC) (A : Nat → List (List Nat)) (cov : Nat → Bool) (K Q : List (List Nat)) (F : List (List Nat × List Nat × Int32)) (cp : Nat → Nat) (hS : g_SZ D w lab x rf P C A cov K Q ac F rn tt cp) (hYI : yI P cov K Q F rn tt) (hrn : rn + 200 < 99000) (n9 : Int32) : vx_Met l yX1_goOn (ws_ yX1_goOn cX1_goOn 5 (some .int)) ({ frames := 13, cells := 3 + (gGo P C n9.toNatClampNeg cov K Q ac F rn tt cp).2.2.2.2.2.2.2.2.2.1, slots := 18 + (gGo P C n9.toNatClampNeg cov K Q ac F rn tt cp).2.2.2.2.2.2.2.2.2.2, locals := 327 }) (g_Pc D [.ref x, .int (n9)] w sz) (g_Qi D w sz (fun r u => (1 ≤ n9 ∧ n9 ≤ 200) ∧ r = nI (gGo P C n9.toNatClampNeg cov K Q ac F rn tt cp).2.2.2.2.2.2.2.2.1 ∧ ∃ l2, g_SZ D u l2 x rf P C A (gGo P C n9.toNatClampNeg cov K Q ac F rn tt cp).1 (gGo P C n9.toNatClampNeg cov K Q ac F rn tt cp).2.1 (gGo P C n9.toNatClampNeg cov K Q ac F rn tt cp).2.2.1 (gGo P C n9.toNatClampNeg cov K Q ac F rn tt cp).2.2.2.1 (gGo P C n9.toNatClampNeg cov K Q ac F rn tt cp).2.2.2.2.1 (gGo P C n9.toNatClampNeg cov K Q ac F rn tt cp).2.2.2.2.2.1 (gGo P C n9.toNatClampNeg cov K Q ac F rn tt cp).2.2.2.2.2.2.1 (gGo P C n9.toNatClampNeg cov K Q ac F rn tt cp).2.2.2.2.2.2.2.1 ∧ yCh w lab u l2)) (g_XC D w sz (fun E u => E = "java/lang/IllegalArgumentException" ∧ ¬ (1 ≤ n9 ∧ n9 ≤ 200) ∧ w = u)) (3 + (gGo P C n9.toNatClampNeg cov K Q ac F rn tt cp).2.2.2.2.2.2.2.2.2.1) (18 + (gGo P C n9.toNatClampNeg cov K Q ac F rn tt cp).2.2.2.2.2.2.2.2.2.2) (g_A w sz) := by
  refine vx_ofW (cc := cX1_goOn) (maxL := 5) (ret := (some .int)) (by decide) rfl ?_
  intro p e s m args below meth c s₁ B hml hhand hv
  have hout : ∀ pc : Nat, ∀ x ∈ c.exceptionTable.toList, covers x pc = false := fun _ x hx => (hhand x hx).elim
  obtain ⟨rfl, hI⟩ := hv
  have hx := B.exec
  have hb := B.bytes
  have hr := B.returns
  have hts := atoms_spec (ws := ws_ yX1_goOn cX1_goOn 5 (some .int)) B.pre
  have hts : ∀ w ∈ lw_all, w.before _ s = true := fun w h => hts w (List.mem_cons_of_mem _ h)
  have hown : s.vm.findClass RX1 = some m.cls := findClass_of_methodNamed B.named
  have hlocks := B.notSynchronized
  have hsz := hI.1
  subst hsz
  have hW := g_W.start hI
  have hK := g_K hI
  have hE := g_E hI
  have hl := lv_entry ([.ref x, .int (n9)]) (n := 5) (by exact Nat.le_of_ble_eq_true rfl)
  rw [lg_entry_eq]
  generalize (lg_sl ([.ref x, .int (n9)]) ++ List.replicate (5 - (lg_sl ([.ref x, .int (n9)])).length) Slot.unset).toArray = ls at hl ⊢
  have hl : lv_has ls 5 [(0, .ref x), (1, .int (n9))] := hl
  refine lv_iload_n hx hb dX1_goOn_0 rfl (lv_at hl 1 rfl) ?_
  refine lv_iconst (v := 1) hx hb dX1_goOn_1 (by decide) ?_
  refine lv_sipush (v := 200) hx hb dX1_goOn_2 (by decide) ?_
  refine g_calli (va_runS (As := [.int (n9), .int (1), .int (200)]) (rest := []) ⟨hx, hb, hml, hown, hts⟩ (mtX1_isIn l D w s.heap.size n9 1 200) (va_cwS 3 hts (lw_S q562 q563 q34 q564) rfl rfl rfl (by decide +kernel) ⟨Nat.le_of_ble_eq_true rfl, Nat.le_of_ble_eq_true rfl⟩) (g_preS hW hK hE) rfl rfl hl.1 rfl (lv_room (Nat.le_of_ble_eq_true rfl)) dX1_goOn_5 ⟨?_, ?_⟩) hW (fun r_ u_ H locs hp hW => ?_)
  · (try simp only [headSpec]); omega
  · (try simp only [headSpec]); omega
  obtain ⟨er, rfl⟩ := hp
  subst er
  by_cases hq9 : (1 : Int32) ≤ n9 ∧ n9 ≤ 200
  · rw [if_pos hq9]
    refine g_xcallv (vx_runS (As := [.int (1)]) (rest := []) ⟨hx, hb, hml, hown, hts⟩ (mtX1_requireArgument l hl9 D w H.size 1) (va_cwS 1 hts (lw_S q573 q574 q34 q575) rfl rfl rfl (by decide +kernel) ⟨Nat.le_of_ble_eq_true rfl, Nat.le_of_ble_eq_true rfl⟩) (g_preS hW hK hE) rfl rfl hl.1 rfl (lv_room (Nat.le_of_ble_eq_true rfl)) dX1_goOn_8 ⟨?_, ?_⟩) hW (fun E ce q9 u_ H locs hp hW hxc1 hxc2 hxc3 => g_xout (hout _) hlocks hW (absurd hp.2.1 (by decide)) hxc1 hxc2 hxc3 ?_ ?_) (fun u_ H locs hp hW => ?_)
    · (try simp only [headSpec]); omega
    · (try simp only [headSpec]); omega
    · (try simp only [headSpec]); omega
    · (try simp only [headSpec]); omega
    obtain ⟨-, rfl⟩ := hp
    have hn0 : ¬ n9 < 0 := Int32.not_lt.mpr (Int32.le_trans (by decide) hq9.1)
    obtain ⟨n, hn, rfl⟩ := nI_of hn0
    have hn200 : n ≤ 200 := (nI_leI (b := 200) hn (by decide)).mp hq9.2
    rw [nI_clamp hn]
    have x_1 : g_ex (fun _ => False) w w := g_ex.rf
    refine g_newo (ci := 2) (C := RX11) (T := TX11) (N := 2) hx hb hts in_X11 tyX11 tyX11_ok hown q1156 q1157 q75 hK hW rfl [.null, .int (0)] (by decide +kernel) ?_ ?_ dX1_goOn_11 (fun o_2 H hq hW => ?_)
    · show _ ≤ 3 + (gGo P C n cov K Q ac F rn tt cp).2.2.2.2.2.2.2.2.2.1; omega
    · show _ ≤ 18 + (gGo P C n cov K Q ac F rn tt cp).2.2.2.2.2.2.2.2.2.2; omega
    have ho_2 := hq
    obtain ⟨w_3, ew_3⟩ : ∃ z__, z__ = g_push w o_2 (.inr (2, [.null, .int (0)])) := ⟨_, rfl⟩
    have hW := g_W.ren hW ew_3 rfl
    have h_4 : g_at w_3 o_2 (.inr (2, [.null, .int (0)])) := by rw [ew_3]; exact g_at.push_self
    have x_5 : g_ex (fun _ => False) w w_3 := by rw [ew_3]; exact x_1.push hq
    refine lv_dup hx hb dX1_goOn_14 rfl ?_
    refine g_callv (va_runIN (As := []) (rest := [.ref o_2]) ⟨hx, hb, hml, hown, hts⟩ (mtX11_init l D w_3 H.size o_2 h_4) ⟨(va_cnB 0 hts (lw_meth q1160) rfl rfl rfl (nm_q1158 hE) (hts _ q75) (by decide +kernel) ⟨Nat.le_of_ble_eq_true rfl, Nat.le_of_ble_eq_true rfl⟩), rfl, hts _ q1159⟩ (g_preS hW hK hE) rfl rfl hl.1 rfl (lv_room (Nat.le_of_ble_eq_true rfl)) dX1_goOn_15 ⟨?_, ?_⟩) hW (fun u1 H locs hp hW => ?_)
    · (try simp only [headSpec]); omega
    · (try simp only [headSpec]); omega
    obtain ⟨da, hda, hdg0, hex⟩ := hp
    have hx0 : g_ex (fun _ => False) w u1 := x_5.trM hex (fun z hz1 hz2 => ho_2 (by rw [← hz2]; exact hz1))
    have fda : da ∉ w.1 := fun z => hda (x_5.1 _ z)
    have hS1 := hS.new hx0 0
    refine lv_astore_n (lv' := [(2, .ref o_2), (0, .ref x), (1, .int (nI n))]) hx hb dX1_goOn_18 rfl hl (by decide) rfl (fun ls hl => ?_)
    refine lv_iconst (v := 0) hx hb dX1_goOn_19 (by decide) ?_
    refine lv_istore_n (lv' := [(3, .int (0)), (2, .ref o_2), (0, .ref x), (1, .int (nI n))]) hx hb dX1_goOn_20 rfl hl (by decide) rfl (fun ls hl => ?_)
    refine lpX1_goOn (D := D) hx hb hts hown hK hE hml (Nat.le_of_ble_eq_true rfl) (Nat.le_of_ble_eq_true rfl) lab w x o_2 da ho_2 fda rf P C A n 3 18 hn200 (gGo P C n cov K Q ac F rn tt cp) ?_ ?_ (fun w2 l2 cells slots H locs ls hS2 hy2 hcl hsl hW hl => ?_) (gMe cov Q ac + 1) 0 ac rn tt cov K Q F cp [] u1 (lb lab w 0) _ _ 0 0 _ _ ls (Nat.lt_succ_self _) rfl hYI hS1 (yCh.nw hx0 0) hdg0 ⟨lb_out ho_2, lb_out fda⟩ (by (try simp only [headSpec]); omega) (by (try simp only [headSpec]); omega) (by omega) (Nat.zero_le _) hW (lv_sub hl [2, 3, 1, 0] rfl)
    · (try simp only [headSpec]); exact Nat.le_refl _
    · (try simp only [headSpec]); exact Nat.le_refl _
    refine lv_iload_n hx hb dX1_goOn_147 rfl (lv_at hl 0 rfl) ?_
    exact vx_ret (g_iret (v := nI (gGo P C n cov K Q ac F rn tt cp).2.2.2.2.2.2.2.2.1) hx hb hr hlocks hW (⟨hq9, rfl, l2, hS2, hy2⟩) (by omega) (by omega) dX1_goOn_148)
  · rw [if_neg hq9]
    refine g_xcallv (vx_runS (As := [.int (0)]) (rest := []) ⟨hx, hb, hml, hown, hts⟩ (mtX1_requireArgument l hl9 D w H.size 0) (va_cwS 1 hts (lw_S q573 q574 q34 q575) rfl rfl rfl (by decide +kernel) ⟨Nat.le_of_ble_eq_true rfl, Nat.le_of_ble_eq_true rfl⟩) (g_preS hW hK hE) rfl rfl hl.1 rfl (lv_room (Nat.le_of_ble_eq_true rfl)) dX1_goOn_8 ⟨?_, ?_⟩) hW (fun E ce q9 u_ H locs hp hW hxc1 hxc2 hxc3 => g_xout (hout _) hlocks hW (⟨hp.1, hq9, hp.2.2⟩) hxc1 hxc2 hxc3 ?_ ?_) (fun u_ H locs hp hW => ?_)
    · (try simp only [headSpec]); omega
    · (try simp only [headSpec]); omega
    · (try simp only [headSpec]); omega
    · (try simp only [headSpec]); omega
    exact absurd rfl hp.1
