/-! the law: its beginning *
-/
set_option maxRecDepth 100000
def z00 : yW := yW.of [] [] (fun _ => []) (fun _ => false) [] 0 0 [] 0 0 cp00 16
theorem v_00 : yV z00 := ⟨⟨(fun _ _ _ h => by cases h), fun _ => Nat.zero_le _⟩, (fun _ e => (by cases e)), (fun _ e => (by cases e)), by decide, yI.nil, ⟨Nat.le_refl _, Nat.zero_le _, Nat.zero_le _, Nat.zero_le _⟩, (fun _ h => absurd h (Nat.not_lt_zero _)), Or.inl rfl, fI.nil, fun _ => ⟨rfl, rfl⟩⟩
set_option maxHeartbeats 4000000 in
set_option maxRecDepth 100000 in
/-- the law: its three objects -/
theorem lw_start {p : Program} {l : Launch} {e : Env} {R : Room} {s : State} {m : MethodId} {args : Array Value} {below : List Frame} {meth : Method} {c : Code} {Q : State → Prop} {D : va_G} {A : Nat → Prop} (hx : p.tables.exec = Jvm.exec) (hb : c.code = cL_law) (hts : ∀ w ∈ lw_all, w.before args s = true) (hown : s.vm.findClass RX0 = some m.cls) (hK : va_K D gCl (gT D) s) (hE : g_Env D A s) (hml : c.maxLocals = 8) (hRf : 13 ≤ R.frames) (hRl : 325 ≤ R.locals) (b : Nat) (hRc : 37 ≤ R.cells) (hRs : 830 ≤ R.slots)
    (kk : ∀ (x y o : Nat) (w2 : g_H) (l2 : Nat → Nat) (th2 : Int32) (cells slots : Nat) (H : Heap) (locs : List Loc) (ls : Array Slot), lR D w2 l2 x y o z00 th2 → cells ≤ 37 → slots ≤ 830 → g_W D A s.heap H locs w2 → lv_has ls 8 [(0, .ref b), (1, .ref x), (2, .ref y), (3, .ref o), (4, .int (nI 0))] → W p l e R s m args below meth c H locs cells slots Q (F0 m 27 ls [])) :
    ∀ (k : Nat) (w0 : g_H) (cells : Nat) (slots : Nat) (H : Heap) (locs : List Loc) (ls : Array Slot), 0 < k → cells ≤ 0 → slots ≤ 0 → g_W D A s.heap H locs w0 → lv_has ls 8 [(0, .ref b)] → W p l e R s m args below meth c H locs cells slots Q (F0 m 0 ls []) := by
  intro k
  induction k with
  | zero => intro w0 cells slots H locs ls hfuel hcl hsl hW hl; exact absurd hfuel (by omega)
  | succ k ih =>
    intro w0 cells slots H locs ls hfuel hcl hsl hW hl
    have x_1 : g_ex (fun _ => False) w0 w0 := g_ex.rf
    refine g_newo (ci := 0) (C := RX1) (T := TX1) (N := 11) hx hb hts in_X1 tyX1 tyX1_ok hown q119 q120 q34 hK hW rfl [.null, .null, .null, .null, .null, .null, .null, .null, .int (0), .long (0), .int (0)] (by decide +kernel) ?_ ?_ dL_law_0 (fun o_2 H hq hW => ?_)
    · (try simp only [headSpec]); omega
    · (try simp only [headSpec]); omega
    have ho_2 := hq
    obtain ⟨vo_2, evo_2⟩ : ∃ z__, z__ = g_push w0 o_2 (.inr (0, [.null, .null, .null, .null, .null, .null, .null, .null, .int (0), .long (0), .int (0)])) := ⟨_, rfl⟩
    have hW := g_W.ren hW evo_2 rfl
    have hOo_2 : g_at vo_2 o_2 (.inr (0, [.null, .null, .null, .null, .null, .null, .null, .null, .int (0), .long (0), .int (0)])) := by rw [evo_2]; exact g_at.push_self
    have hEo_2 : g_ex (fun _ => False) w0 vo_2 := by rw [evo_2]; exact g_ex.rf.push hq
    refine lv_dup hx hb dL_law_3 rfl ?_
    refine g_callv (va_runI (As := []) (rest := [.ref o_2]) ⟨hx, hb, hml, hown, hts⟩ (mtX1_init l D vo_2 H.size o_2 (fun _ => 1) rfl (fun _ _ => by decide) hOo_2) (cwI 0 hts (lw_meth q123) rfl rfl rfl (hts _ q34) (hts _ q121) (hts _ q122) rfl (by decide +kernel) ⟨Nat.le_trans (Nat.le_of_ble_eq_true rfl) hRf, Nat.le_trans (Nat.le_of_ble_eq_true rfl) hRl⟩) (g_preS hW hK hE) rfl rfl hl.1 rfl (lv_room (Nat.le_of_ble_eq_true rfl)) dL_law_4 ⟨?_, ?_⟩) hW (fun u1 H locs hp hW => ?_)
    · (try simp only [headSpec]); omega
    · (try simp only [headSpec]); omega
    obtain ⟨l2, rf, hS, -, -⟩ := hp
    refine lv_astore_n (lv' := [(1, .ref o_2), (0, .ref b)]) hx hb dL_law_7 rfl hl (by decide) rfl (fun ls hl => ?_)
    have x_3 : g_ex (fun _ => False) u1 u1 := g_ex.rf
    refine g_newo (ci := 10) (C := RX3) (T := TX3) (N := 28) hx hb hts in_X3 tyX3 tyX3_ok hown q1876 q1877 q47 hK hW rfl [.null, .null, .null, .null, .int (0), .null, .null, .null, .int (0), .null, .null, .int (0), .int (0), .int (0), .null, .null, .int (0), .long (0), .null, .null, .int (0), .int (0), .int (0), .null, .null, .null, .int (0), .int (0)] (by decide +kernel) ?_ ?_ dL_law_8 (fun o_4 H hq hW => ?_)
    · (try simp only [headSpec]); omega
    · (try simp only [headSpec]); omega
    have ho_4 := hq
    obtain ⟨vo_4, evo_4⟩ : ∃ z__, z__ = g_push u1 o_4 (.inr (10, [.null, .null, .null, .null, .int (0), .null, .null, .null, .int (0), .null, .null, .int (0), .int (0), .int (0), .null, .null, .int (0), .long (0), .null, .null, .int (0), .int (0), .int (0), .null, .null, .null, .int (0), .int (0)])) := ⟨_, rfl⟩
    have hW := g_W.ren hW evo_4 rfl
    have hOo_4 : g_at vo_4 o_4 (.inr (10, [.null, .null, .null, .null, .int (0), .null, .null, .null, .int (0), .null, .null, .int (0), .int (0), .int (0), .null, .null, .int (0), .long (0), .null, .null, .int (0), .int (0), .int (0), .null, .null, .null, .int (0), .int (0)])) := by rw [evo_4]; exact g_at.push_self
    have hEo_4 : g_ex (fun _ => False) u1 vo_4 := by rw [evo_4]; exact g_ex.rf.push hq
    refine lv_dup hx hb dL_law_11 rfl ?_
    refine g_callv (va_runI (As := []) (rest := [.ref o_4]) ⟨hx, hb, hml, hown, hts⟩ (mtX3_init l D vo_4 H.size o_4 (lb l2 u1 20) (lb_out ho_4) hOo_4) (cwI 0 hts (lw_meth q1880) rfl rfl rfl (hts _ q47) (hts _ q1878) (hts _ q1879) rfl (by decide +kernel) ⟨Nat.le_trans (Nat.le_of_ble_eq_true rfl) hRf, Nat.le_trans (Nat.le_of_ble_eq_true rfl) hRl⟩) (g_preS hW hK hE) rfl rfl hl.1 rfl (lv_room (Nat.le_of_ble_eq_true rfl)) dL_law_12 ⟨?_, ?_⟩) hW (fun u2 H locs hp hW => ?_)
    · (try simp only [headSpec]); omega
    · (try simp only [headSpec]); omega
    obtain ⟨l3, mf, hZ, hsm, hey⟩ := hp
    have hex2 : g_ex (fun _ => False) u1 u2 := hEo_4.trM hey (fun z hz hq => absurd (hq ▸ hz) ho_4)
    have hS2 : g_SZ D u2 l3 o_2 rf [] [] (fun _ => []) (fun _ => false) [] [] 0 [] 0 0 cp00 := hS.keep hex2 g_mut.non (fun z hz => (hsm z (hEo_4.1 z hz)).trans (lb_in z hz)) (fun _ _ z => z.elim)
    have hS3 := hS2.rl hK
    have hZ3 := hZ.rl hK
    obtain ⟨l8, el8⟩ : ∃ z__, z__ = lrl D u2 l3 := ⟨_, rfl⟩
    have hm8 : g_mut D u2 (lM l8) := by rw [el8]; exact rl_mut
    rw [← el8] at hS3 hZ3
    refine lv_astore_n (lv' := [(2, .ref o_4), (1, .ref o_2), (0, .ref b)]) hx hb dL_law_15 rfl hl (by decide) rfl (fun ls hl => ?_)
    have x_5 : g_ex (fun _ => False) u2 u2 := g_ex.rf
    refine g_newo (ci := 9) (C := RX4) (T := TX4) (N := 5) hx hb hts in_X4 tyX4 tyX4_ok hown q460 q461 q48 hK hW rfl [.long (0), .double (0), .null, .null, .null] (by decide +kernel) ?_ ?_ dL_law_16 (fun o_6 H hq hW => ?_)
    · (try simp only [headSpec]); omega
    · (try simp only [headSpec]); omega
    have ho_6 := hq
    obtain ⟨vo_6, evo_6⟩ : ∃ z__, z__ = g_push u2 o_6 (.inr (9, [.long (0), .double (0), .null, .null, .null])) := ⟨_, rfl⟩
    have hW := g_W.ren hW evo_6 rfl
    have hOo_6 : g_at vo_6 o_6 (.inr (9, [.long (0), .double (0), .null, .null, .null])) := by rw [evo_6]; exact g_at.push_self
    have hEo_6 : g_ex (fun _ => False) u2 vo_6 := by rw [evo_6]; exact g_ex.rf.push hq
    refine lv_dup hx hb dL_law_19 rfl ?_
    refine g_callv (va_runIN (As := []) (rest := [.ref o_6]) ⟨hx, hb, hml, hown, hts⟩ (mtX4_init l D vo_6 H.size o_6) ⟨(va_cnB 0 hts (lw_meth q464) rfl rfl rfl (nm_q462 hE) (hts _ q48) (by decide +kernel) ⟨Nat.le_trans (Nat.le_of_ble_eq_true rfl) hRf, Nat.le_trans (Nat.le_of_ble_eq_true rfl) hRl⟩), rfl, hts _ q463⟩ (g_preS hW hK hE) rfl rfl hl.1 rfl (lv_room (Nat.le_of_ble_eq_true rfl)) dL_law_20 ⟨?_, ?_⟩) hW (fun u3 H locs hp hW => ?_)
    · (try simp only [headSpec]); omega
    · (try simp only [headSpec]); omega
    subst hp
    have hS4 := hS3.new hEo_6 50
    have hZ4 := l_cls hZ3 hm8 (yCh.nw hEo_6 50)
    have ho4 : g_at vo_6 o_6 (oOut 0 0 none none none) := hOo_6
    have hlo4 : lb l8 u2 50 o_6 = 50 := lb_out ho_6
    have hR : lR D vo_6 (lrl D vo_6 (lb l8 u2 50)) o_2 o_4 o_6 z00 0 := ⟨⟨rf, hS4.rl hK⟩, ⟨mf, _, _, _, _, hZ4.rl hK⟩, ⟨_, _, _, _, _, ho4⟩, l_rl ho4 hlo4, rl_mut⟩
    refine lv_astore_n (lv' := [(3, .ref o_6), (2, .ref o_4), (1, .ref o_2), (0, .ref b)]) hx hb dL_law_23 rfl hl (by decide) rfl (fun ls hl => ?_)
    refine lv_iconst (v := 0) hx hb dL_law_24 (by decide) ?_
    refine lv_istore (lv' := [(4, .int (0)), (3, .ref o_6), (2, .ref o_4), (1, .ref o_2), (0, .ref b)]) hx hb dL_law_25 hl (by decide) rfl (fun ls hl => ?_)
    exact kk o_2 o_4 o_6 _ _ _ _ _ H _ ls hR (by (try simp only [headSpec]); omega) (by (try simp only [headSpec]); omega) hW (lv_sub hl [4, 3, 2, 1, 0] rfl)
