/-! ShrinkYard.failingReductions *
-/
set_option maxRecDepth 100000
def frC (xs : List Nat) (i : Nat) : List (List Nat) := ((List.range xs.length).drop i).flatMap (fun p => xs.eraseIdx p :: repD xs p 0)
theorem frC_cons {xs : List Nat} {i : Nat} (h : i < xs.length) : frC xs i = xs.eraseIdx i :: (repD xs i 0 ++ frC xs (i + 1)) := by unfold frC; rw [rng_drop h]; rfl
theorem frC_end {xs : List Nat} {i : Nat} (h : xs.length ≤ i) : frC xs i = [] := by unfold frC; rw [rng_end h]; rfl
noncomputable def cFail (P : List mI) (c : Int32) : List (List Nat) → Nat
  | [] => 0
  | y :: ys => (if mFails P y c = true then 1 else 0) + cFail P c ys
set_option maxHeartbeats 4000000 in
set_option maxRecDepth 100000 in
/-- failingReductions: the replacements at a place -/
theorem lpX1_fr1 {p : Program} {l : Launch} {e : Env} {R : Room} {s : State} {m : MethodId} {args : Array Value} {below : List Frame} {meth : Method} {c : Code} {Q : State → Prop} {D : va_G} {A : Nat → Prop} (hx : p.tables.exec = Jvm.exec) (hb : c.code = cX1_failingReductions) (hts : ∀ w ∈ lw_all, w.before args s = true) (hown : s.vm.findClass RX1 = some m.cls) (hK : va_K D gCl (gT D) s) (hE : g_Env D A s) (hml : c.maxLocals = 8) (hRf : 8 ≤ R.frames) (hRl : 213 ≤ R.locals) (w : g_H) (lab : Nat → Nat) (x ac rn tt d da t9 ta : Nat) (rf : Nat → Nat) (P : List mI) (C : List yC) (A9 : Nat → List (List Nat)) (cov : Nat → Bool) (K Q9 : List (List Nat)) (F : List (List Nat × List Nat × Int32)) (cp : Nat → Nat) (xs : List Nat) (c9 : Int32) (fd : d ∉ w.1) (fda : da ∉ w.1) (ft : t9 ∉ w.1) (fta : ta ∉ w.1) (ntd : g_nq t9 d) (nta : g_nq ta da) (hxs : ∀ y ∈ xs, y < 8) (CF SF capF cF : Nat) (hRc : CF ≤ R.cells) (hRs : SF ≤ R.slots) (i : Nat) (hi : i < xs.length) (rest : List (List Nat))
    (kk : ∀ (cap : Nat) (cn : Nat) (zs : List Nat) (w1 : g_H) (l1 : Nat → Nat) (cells : Nat) (slots : Nat) (H : Heap) (locs : List Loc) (ls : Array Slot), rFold P (rest) cap = capF → cn + cFail P c9 (rest) = cF → cells + (capF - cap) ≤ CF → slots + 2 * (capF - cap) ≤ SF → g_SZ D w1 l1 x rf P C A9 cov K Q9 ac F rn tt (cpU cp 9 cap) → yCh w lab w1 l1 → g_Dig D w1 d da xs → (l1 d = 0 ∧ l1 da = 0) → g_Dig D w1 t9 ta zs → (l1 t9 = 0 ∧ l1 ta = 0) → g_W D A s.heap H locs w1 → lv_has ls 8 [(5, .int (nI cn)), (6, .int (nI i)), (0, .ref x), (2, .ref d), (3, .int (c9)), (4, .ref t9)] → W p l e R s m args below meth c H locs cells slots Q (F0 m 134 ls [])) :
    ∀ (k : Nat) (j : Nat) (cap : Nat) (cn : Nat) (zs : List Nat) (w1 : g_H) (l1 : Nat → Nat) (cells : Nat) (slots : Nat) (H : Heap) (locs : List Loc) (ls : Array Slot), xs.getD i 0 < j + k → j ≤ xs.getD i 0 → rFold P (repD xs i j ++ rest) cap = capF → cn + cFail P c9 (repD xs i j ++ rest) = cF → cells + (capF - cap) ≤ CF → slots + 2 * (capF - cap) ≤ SF → g_SZ D w1 l1 x rf P C A9 cov K Q9 ac F rn tt (cpU cp 9 cap) → yCh w lab w1 l1 → g_Dig D w1 d da xs → (l1 d = 0 ∧ l1 da = 0) → g_Dig D w1 t9 ta zs → (l1 t9 = 0 ∧ l1 ta = 0) → g_W D A s.heap H locs w1 → lv_has ls 8 [(5, .int (nI cn)), (7, .int (nI j)), (6, .int (nI i)), (0, .ref x), (2, .ref d), (3, .int (c9)), (4, .ref t9)] → W p l e R s m args below meth c H locs cells slots Q (F0 m 77 ls []) := by
  intro k
  induction k with
  | zero => intro j cap cn zs w1 l1 cells slots H locs ls hfuel hj hs1 hs2 hcl hsl hS1 hy hd hld ht hlt hW hl; exact absurd hfuel (by omega)
  | succ k ih =>
    intro j cap cn zs w1 l1 cells slots H locs ls hfuel hj hs1 hs2 hcl hsl hS1 hy hd hld ht hlt hW hl
    obtain ⟨hd1, ⟨gd, hdg, hdi⟩, hd8⟩ := id hd
    obtain ⟨ht1, ⟨g9, htg, -⟩, ht8⟩ := id ht
    have hx8 : xs.getD i 0 < 8 := hxs _ (g_mem hi)
    refine lv_iload hx hb dX1_failingReductions_77 (lv_at hl 1 rfl) ?_
    refine lv_aload_n hx hb dX1_failingReductions_79 rfl (lv_at hl 4 rfl) ?_
    refine g_getN (ci := 2) (v := .ref da) (C := RX11) (T := TX11) (N := 2) hx hb hts in_X11 hown hK hW hd1 rfl 0 (by decide) (nf_q1166 hE) (fun _ h9 => h9) rfl dX1_failingReductions_80 ?_
    refine lv_iload hx hb dX1_failingReductions_83 (lv_at hl 2 rfl) ?_
    refine g_iald (i := i) hx hb hK hW hdg (by omega) (by decide) dX1_failingReductions_85 ?_
    refine g_topi (y := nI (xs.getD i 0)) (hdi i hi) ?_
    refine g_icmp_ge (tgt := 134) hx hb (by omega) (by omega) dX1_failingReductions_86 (by decide) (fun hc => ?_) (fun hc => ?_)
    · rw [repD_end hc, List.nil_append] at hs1 hs2
      exact kk cap cn zs w1 l1 cells slots H locs ls hs1 hs2 hcl hsl hS1 hy hd hld ht hlt hW (lv_sub hl [0, 2, 3, 4, 5, 6] rfl)
    · rw [repD_cons hc, List.cons_append] at hs1 hs2
      unfold rFold at hs1
      unfold cFail at hs2
      have hq1 := bsC_ge (mOut P (xs.set i j)).2.2.2 cap
      have hq2 := rFold_ge P (repD xs i (j + 1) ++ rest) (bsC cap (mOut P (xs.set i j)).2.2.2)
      rw [hs1] at hq2
      refine lv_aload hx hb dX1_failingReductions_89 (lv_at hl 6 rfl) ?_
      refine lv_aload_n hx hb dX1_failingReductions_91 rfl (lv_at hl 4 rfl) ?_
      refine g_callv (va_runV (As := [.ref d]) (rest := []) ⟨hx, hb, hml, hown, hts⟩ (mtX11_copy l D w1 H.size t9 d ta da zs.length g9 xs ht1 htg hd ntd nta) (cwV 1 hts (lw_V q1532 q1533 q1534 q75 q1535) rfl rfl rfl (by decide +kernel) ⟨Nat.le_trans (Nat.le_of_ble_eq_true rfl) hRf, Nat.le_trans (Nat.le_of_ble_eq_true rfl) hRl⟩) (g_preV hW hK hE ht1 rfl) rfl rfl hl.1 rfl (lv_room (Nat.le_of_ble_eq_true rfl)) dX1_failingReductions_92 ⟨?_, ?_⟩) hW (fun u3 H locs hp hW => ?_)
      · (try simp only [headSpec]); omega
      · (try simp only [headSpec]); omega
      obtain ⟨ht3, hex3⟩ := hp
      obtain ⟨ht31, ⟨g3, ht3g, ht3i⟩, -⟩ := id ht3
      refine lv_aload hx hb dX1_failingReductions_95 (lv_at hl 6 rfl) ?_
      refine g_getN (ci := 2) (v := .ref ta) (C := RX11) (T := TX11) (N := 2) hx hb hts in_X11 hown hK hW ht31 rfl 0 (by decide) (nf_q1166 hE) (fun _ h9 => h9) rfl dX1_failingReductions_97 ?_
      refine lv_iload hx hb dX1_failingReductions_100 (lv_at hl 2 rfl) ?_
      refine lv_iload hx hb dX1_failingReductions_102 (lv_at hl 1 rfl) ?_
      refine g_iast (i := i) hx hb hK hW ht3g (by omega) (by decide) dX1_failingReductions_104 (fun H locs hW => ?_)
      obtain ⟨f_1, ef_1⟩ : ∃ z__, z__ = upd (g3) (i) (nI j) := ⟨_, rfl⟩
      rw [← ef_1] at hW
      obtain ⟨w_2, ew_2⟩ : ∃ z__, z__ = g_put u3 ta (.inl (D.1 100, 8, .inl (f_1))) := ⟨_, rfl⟩
      have hW := g_W.ren hW ew_2 rfl
      have h_3 : g_at w_2 t9 (.inr (2, [.ref ta, .int (nI xs.length)])) := by rw [ew_2]; exact ht31.put (g_neOA ht31 ht3g)
      have h_4 : g_at w_2 ta (.inl (D.1 100, 8, .inl (f_1))) := by rw [ew_2]; exact g_at.put_self ht3g.1
      have hex4 : g_ex (fun q => q = t9 ∨ q = ta) w1 w_2 := by rw [ew_2]; exact hex3.put (fun _ => Or.inr rfl)
      have ht4 : g_Dig D w_2 t9 ta (xs.set i j) := ⟨by rw [List.length_set]; exact h_3, ⟨f_1, h_4, fun z hz => by
        rw [List.length_set] at hz
        rw [ef_1, List.getD_eq_getElem?_getD, List.getElem?_set]
        by_cases q : z = i
        · subst q; rw [pk_us, if_pos rfl, if_pos hz]; rfl
        · rw [pk_un q, if_neg (Ne.symm q), ht3i z hz, List.getD_eq_getElem?_getD]⟩, by rw [List.length_set]; exact hd8⟩
      have hda1 : da ∈ w1.1 := by obtain ⟨f9, hf9, -⟩ := hd.2.1; exact hf9.1
      have hta1 : ta ∈ w1.1 := by obtain ⟨f9, hf9, -⟩ := ht.2.1; exact hf9.1
      have hS4 := hS1.keep (lab' := lb l1 w1 0) hex4 (ht.mut hK) lb_in (fun z _ hq => Or.inl (by rcases hq with q | q <;> rw [q] <;> first | exact hlt.1 | exact hlt.2))
      have hy4 : yCh w lab w_2 (lb l1 w1 0) := hy.next hex4 (fun z hz hq => (hq.elim (fun q => ft (q ▸ hz)) (fun q => fta (q ▸ hz))).elim) 0
      have hd4 : g_Dig D w_2 d da xs := hd.ex hex4 (fun z => z.elim (fun z => ntd z.symm) (fun z => by obtain ⟨f9, hf9, -⟩ := ht.2.1; exact g_neOA hd.1 hf9 z)) (fun z => z.elim (fun z => by obtain ⟨f9, hf9, -⟩ := hd.2.1; exact g_neAO hf9 ht.1 z) (fun z => nta z.symm))
      have k1 : lb l1 w1 0 d = 0 := (lb_in _ hd.1.1).trans hld.1
      have k2 : lb l1 w1 0 da = 0 := (lb_in _ hda1).trans hld.2
      have k3 : lb l1 w1 0 t9 = 0 := (lb_in _ ht.1.1).trans hlt.1
      have k4 : lb l1 w1 0 ta = 0 := (lb_in _ hta1).trans hlt.2
      obtain ⟨ra, eb, wb, vv, cd, st9, E9, n9, par, ps, hMa, hPg, ⟨m1, m2, m3, m4⟩, -, hcl9⟩ := hS4.mach hK
      rw [cpU_self] at hMa
      obtain ⟨rd9, hm0⟩ := hMa.1
      refine lv_iload hx hb dX1_failingReductions_105 (lv_at hl 0 rfl) ?_
      refine lv_aload_n hx hb dX1_failingReductions_107 rfl (lv_at hl 3 rfl) ?_
      refine g_get (ci := 0) (v := .ref (rf 9)) (C := RX1) (T := TX1) (N := 11) hx hb hts in_X1 hown hK hW hS4.1.1 rfl 3 (by decide) q357 (fun _ h9 => h9) rfl dX1_failingReductions_108 ?_
      refine lv_aload hx hb dX1_failingReductions_111 (lv_at hl 6 rfl) ?_
      refine lv_iload_n hx hb dX1_failingReductions_113 rfl (lv_at hl 5 rfl) ?_
      refine g_calli (va_runV (As := [.ref t9, .int (c9)]) (rest := [.int (nI cn)]) ⟨hx, hb, hml, hown, hts⟩ (mtX2_isFailing l D w_2 H.size (rf 9) ra eb wb x st9 n9 cap t9 ta (rf 2) par _ vv cd E9 _ _ _ _ _ _ _ _ _ _ ps P (xs.set i j) hMa hS4.1.1 hPg ht4 (fun z => by rw [z, k4] at m2; exact absurd m2 (by decide)) c9) (cwV 2 hts (lw_V q1544 q1545 q1546 q38 q1547) rfl rfl rfl (by decide +kernel) ⟨Nat.le_trans (Nat.le_of_ble_eq_true rfl) hRf, Nat.le_trans (Nat.le_of_ble_eq_true rfl) hRl⟩) (g_preV hW hK hE hm0 rfl) rfl rfl hl.1 rfl (lv_room (Nat.le_of_ble_eq_true rfl)) dX1_failingReductions_114 ⟨?_, ?_⟩) hW (fun r_ u2 H locs hp hW => ?_)
      · (try simp only [headSpec]); omega
      · (try simp only [headSpec]); omega
      obtain ⟨er, wb2, hMa2, hwb2, hxr⟩ := hp
      subst er
      have hS2 := hcl9 _ wb2 _ _ _ _ _ _ hMa2 hwb2 hxr
      rw [cpU_cpU] at hS2
      have h9 : ∀ z, z ∈ w.1 → lb l1 w1 0 z = 9 → yM lab z := fun z hz e => by rw [hy4.1 z hz] at e; unfold yM; omega
      have hy2 : yCh w lab u2 (lb (lb l1 w1 0) w_2 9) := hy4.next hxr (fun z hz hq => by rcases hq with q | q | q | q <;> subst q <;> exact h9 _ hz (by assumption)) 9
      have hd2 := hd4.ex hxr (fun z => by rcases z with z | z | z | z <;> rw [z] at k1 <;> omega) (fun z => by rcases z with z | z | z | z <;> rw [z] at k2 <;> omega)
      have ht2 := ht4.ex hxr (fun z => by rcases z with z | z | z | z <;> rw [z] at k3 <;> omega) (fun z => by rcases z with z | z | z | z <;> rw [z] at k4 <;> omega)
      have hdw : ∀ z, z ∈ w1.1 → z ∈ w_2.1 := hex4.1
      have hld2 : lb (lb l1 w1 0) w_2 9 d = 0 ∧ lb (lb l1 w1 0) w_2 9 da = 0 := ⟨(lb_in _ (hdw _ hd.1.1)).trans k1, (lb_in _ (hdw _ hda1)).trans k2⟩
      have hlt2 : lb (lb l1 w1 0) w_2 9 t9 = 0 ∧ lb (lb l1 w1 0) w_2 9 ta = 0 := ⟨(lb_in _ (hdw _ ht.1.1)).trans k3, (lb_in _ (hdw _ hta1)).trans k4⟩
      by_cases hfl : mFails P (xs.set i j) c9 = true
      · rw [if_pos hfl]
        rw [if_pos hfl] at hs2
        refine lv_if_eq (tgt := 124) hx hb dX1_failingReductions_117 (by decide) (fun hz => absurd hz (by decide)) (fun _ => ?_)
        refine lv_iconst (v := 1) hx hb dX1_failingReductions_120 (by decide) ?_
        refine lv_goto (tgt := 125) hx hb dX1_failingReductions_121 (by decide) ?_
        refine lv_iadd hx hb dX1_failingReductions_125 ?_
        refine g_topi (y := nI (cn + 1)) (nI_1 cn) ?_
        refine lv_istore (lv' := [(5, .int (nI (cn + 1))), (7, .int (nI j)), (6, .int (nI i)), (0, .ref x), (2, .ref d), (3, .int (c9)), (4, .ref t9)]) hx hb dX1_failingReductions_126 hl (by decide) rfl (fun ls hl => ?_)
        refine lv_iinc (v := nI (j + 1)) (lv' := [(7, .int (nI (j + 1))), (5, .int (nI (cn + 1))), (6, .int (nI i)), (0, .ref x), (2, .ref d), (3, .int (c9)), (4, .ref t9)]) hx hb dX1_failingReductions_128 hl (k := 1) rfl (nI_1 j) (by decide) rfl (fun ls hl => ?_)
        refine lv_goto (tgt := 77) hx hb dX1_failingReductions_131 (by decide) ?_
        exact ih (j + 1) _ (cn + 1) _ u2 _ _ _ H locs ls (by omega) (by omega) hs1 (by omega) (by omega) (by omega) hS2 hy2 hd2 hld2 ht2 hlt2 hW (lv_sub hl [1, 0, 2, 3, 4, 5, 6] rfl)
      · rw [if_neg hfl]
        rw [if_neg hfl] at hs2
        refine lv_if_eq (tgt := 124) hx hb dX1_failingReductions_117 (by decide) (fun _ => ?_) (fun hz => absurd rfl hz)
        refine lv_iconst (v := 0) hx hb dX1_failingReductions_124 (by decide) ?_
        refine lv_iadd hx hb dX1_failingReductions_125 ?_
        refine g_topi (y := nI (cn + 0)) (by rw [Nat.add_zero]; exact Int32.add_zero _) ?_
        refine lv_istore (lv' := [(5, .int (nI (cn + 0))), (7, .int (nI j)), (6, .int (nI i)), (0, .ref x), (2, .ref d), (3, .int (c9)), (4, .ref t9)]) hx hb dX1_failingReductions_126 hl (by decide) rfl (fun ls hl => ?_)
        refine lv_iinc (v := nI (j + 1)) (lv' := [(7, .int (nI (j + 1))), (5, .int (nI (cn + 0))), (6, .int (nI i)), (0, .ref x), (2, .ref d), (3, .int (c9)), (4, .ref t9)]) hx hb dX1_failingReductions_128 hl (k := 1) rfl (nI_1 j) (by decide) rfl (fun ls hl => ?_)
        refine lv_goto (tgt := 77) hx hb dX1_failingReductions_131 (by decide) ?_
        exact ih (j + 1) _ (cn + 0) _ u2 _ _ _ H locs ls (by omega) (by omega) hs1 (by omega) (by omega) (by omega) hS2 hy2 hd2 hld2 ht2 hlt2 hW (lv_sub hl [1, 0, 2, 3, 4, 5, 6] rfl)
set_option maxHeartbeats 4000000 in
set_option maxRecDepth 100000 in
/-- failingReductions: its loop -/
theorem lpX1_fr2 {p : Program} {l : Launch} {e : Env} {R : Room} {s : State} {m : MethodId} {args : Array Value} {below : List Frame} {meth : Method} {c : Code} {Q : State → Prop} {D : va_G} {A : Nat → Prop} (hx : p.tables.exec = Jvm.exec) (hb : c.code = cX1_failingReductions) (hts : ∀ w ∈ lw_all, w.before args s = true) (hown : s.vm.findClass RX1 = some m.cls) (hK : va_K D gCl (gT D) s) (hE : g_Env D A s) (hml : c.maxLocals = 8) (hRf : 8 ≤ R.frames) (hRl : 213 ≤ R.locals) (w : g_H) (lab : Nat → Nat) (x ac rn tt d da t9 ta : Nat) (rf : Nat → Nat) (P : List mI) (C : List yC) (A9 : Nat → List (List Nat)) (cov : Nat → Bool) (K Q9 : List (List Nat)) (F : List (List Nat × List Nat × Int32)) (cp : Nat → Nat) (xs : List Nat) (c9 : Int32) (fd : d ∉ w.1) (fda : da ∉ w.1) (ft : t9 ∉ w.1) (fta : ta ∉ w.1) (ntd : g_nq t9 d) (nta : g_nq ta da) (hxs : ∀ y ∈ xs, y < 8) (CF SF capF cF : Nat) (hRc : CF ≤ R.cells) (hRs : SF ≤ R.slots)
    (kk : ∀ (w1 : g_H) (l1 : Nat → Nat) (cells slots : Nat) (H : Heap) (locs : List Loc) (ls : Array Slot), cells ≤ CF → slots ≤ SF → g_SZ D w1 l1 x rf P C A9 cov K Q9 ac F rn tt (cpU cp 9 capF) → yCh w lab w1 l1 → g_W D A s.heap H locs w1 → lv_has ls 8 [(5, .int (nI cF))] → W p l e R s m args below meth c H locs cells slots Q (F0 m 140 ls [])) :
    ∀ (k : Nat) (i : Nat) (cap : Nat) (cn : Nat) (zs : List Nat) (w1 : g_H) (l1 : Nat → Nat) (cells : Nat) (slots : Nat) (H : Heap) (locs : List Loc) (ls : Array Slot), xs.length < i + k → i ≤ xs.length → rFold P (frC xs i) cap = capF → cn + cFail P c9 (frC xs i) = cF → cells + (capF - cap) ≤ CF → slots + 2 * (capF - cap) ≤ SF → g_SZ D w1 l1 x rf P C A9 cov K Q9 ac F rn tt (cpU cp 9 cap) → yCh w lab w1 l1 → g_Dig D w1 d da xs → (l1 d = 0 ∧ l1 da = 0) → g_Dig D w1 t9 ta zs → (l1 t9 = 0 ∧ l1 ta = 0) → g_W D A s.heap H locs w1 → lv_has ls 8 [(5, .int (nI cn)), (6, .int (nI i)), (0, .ref x), (2, .ref d), (3, .int (c9)), (4, .ref t9)] → W p l e R s m args below meth c H locs cells slots Q (F0 m 29 ls []) := by
  intro k
  induction k with
  | zero => intro i cap cn zs w1 l1 cells slots H locs ls hfuel hi hs1 hs2 hcl hsl hS1 hy hd hld ht hlt hW hl; exact absurd hfuel (by omega)
  | succ k ih =>
    intro i cap cn zs w1 l1 cells slots H locs ls hfuel hi hs1 hs2 hcl hsl hS1 hy hd hld ht hlt hW hl
    obtain ⟨hd1, -, hd8⟩ := id hd
    obtain ⟨ht1, ⟨g9, htg, -⟩, ht8⟩ := id ht
    refine lv_iload hx hb dX1_failingReductions_29 (lv_at hl 1 rfl) ?_
    refine lv_aload_n hx hb dX1_failingReductions_31 rfl (lv_at hl 3 rfl) ?_
    refine g_getN (ci := 2) (v := .int (nI xs.length)) (C := RX11) (T := TX11) (N := 2) hx hb hts in_X11 hown hK hW hd1 rfl 1 (by decide) (nf_q1171 hE) (fun _ h9 => h9) rfl dX1_failingReductions_32 ?_
    refine g_icmp_ge (tgt := 140) hx hb (by omega) (by omega) dX1_failingReductions_35 (by decide) (fun hc => ?_) (fun hc => ?_)
    · rw [frC_end hc] at hs1 hs2
      have hs1 : cap = capF := hs1
      have hs2 : cn = cF := hs2
      rw [hs1] at hS1
      rw [hs2] at hl
      exact kk w1 l1 cells slots H locs ls (by omega) (by omega) hS1 hy hW (lv_sub hl [0] rfl)
    · rw [frC_cons hc] at hs1 hs2
      unfold rFold at hs1
      unfold cFail at hs2
      have hq1 := bsC_ge (mOut P (xs.eraseIdx i)).2.2.2 cap
      have hq2 := rFold_ge P (repD xs i 0 ++ frC xs (i + 1)) (bsC cap (mOut P (xs.eraseIdx i)).2.2.2)
      rw [hs1] at hq2
      refine lv_aload hx hb dX1_failingReductions_38 (lv_at hl 5 rfl) ?_
      refine lv_aload_n hx hb dX1_failingReductions_40 rfl (lv_at hl 3 rfl) ?_
      refine g_callv (va_runV (As := [.ref d]) (rest := []) ⟨hx, hb, hml, hown, hts⟩ (mtX11_copy l D w1 H.size t9 d ta da zs.length g9 xs ht1 htg hd ntd nta) (cwV 1 hts (lw_V q1532 q1533 q1534 q75 q1535) rfl rfl rfl (by decide +kernel) ⟨Nat.le_trans (Nat.le_of_ble_eq_true rfl) hRf, Nat.le_trans (Nat.le_of_ble_eq_true rfl) hRl⟩) (g_preV hW hK hE ht1 rfl) rfl rfl hl.1 rfl (lv_room (Nat.le_of_ble_eq_true rfl)) dX1_failingReductions_41 ⟨?_, ?_⟩) hW (fun u3 H locs hp hW => ?_)
      · (try simp only [headSpec]); omega
      · (try simp only [headSpec]); omega
      obtain ⟨ht3, hex3⟩ := hp
      refine lv_aload hx hb dX1_failingReductions_44 (lv_at hl 5 rfl) ?_
      refine lv_iload hx hb dX1_failingReductions_46 (lv_at hl 1 rfl) ?_
      refine g_callv (va_runV (As := [.int (nI i)]) (rest := []) ⟨hx, hb, hml, hown, hts⟩ (mtX11_delete l D u3 H.size t9 ta i xs ht3 hc) (cwV 1 hts (lw_V q1540 q1541 q1542 q75 q1543) rfl rfl rfl (by decide +kernel) ⟨Nat.le_trans (Nat.le_of_ble_eq_true rfl) hRf, Nat.le_trans (Nat.le_of_ble_eq_true rfl) hRl⟩) (g_preV hW hK hE ht3.1 rfl) rfl rfl hl.1 rfl (lv_room (Nat.le_of_ble_eq_true rfl)) dX1_failingReductions_48 ⟨?_, ?_⟩) hW (fun u4 H locs hp hW => ?_)
      · (try simp only [headSpec]); omega
      · (try simp only [headSpec]); omega
      obtain ⟨ht4, hex4⟩ := hp
      have hex34 : g_ex (fun q => q = t9 ∨ q = ta) w1 u4 := hex3.tr hex4
      have hda1 : da ∈ w1.1 := by obtain ⟨f9, hf9, -⟩ := hd.2.1; exact hf9.1
      have hta1 : ta ∈ w1.1 := by obtain ⟨f9, hf9, -⟩ := ht.2.1; exact hf9.1
      have hS4 := hS1.keep (lab' := lb l1 w1 0) hex34 (ht.mut hK) lb_in (fun z _ hq => Or.inl (by rcases hq with q | q <;> rw [q] <;> first | exact hlt.1 | exact hlt.2))
      have hy4 : yCh w lab u4 (lb l1 w1 0) := hy.next hex34 (fun z hz hq => (hq.elim (fun q => ft (q ▸ hz)) (fun q => fta (q ▸ hz))).elim) 0
      have hd4 : g_Dig D u4 d da xs := hd.ex hex34 (fun z => z.elim (fun z => ntd z.symm) (fun z => by obtain ⟨f9, hf9, -⟩ := ht.2.1; exact g_neOA hd.1 hf9 z)) (fun z => z.elim (fun z => by obtain ⟨f9, hf9, -⟩ := hd.2.1; exact g_neAO hf9 ht.1 z) (fun z => nta z.symm))
      have k1 : lb l1 w1 0 d = 0 := (lb_in _ hd.1.1).trans hld.1
      have k2 : lb l1 w1 0 da = 0 := (lb_in _ hda1).trans hld.2
      have k3 : lb l1 w1 0 t9 = 0 := (lb_in _ ht.1.1).trans hlt.1
      have k4 : lb l1 w1 0 ta = 0 := (lb_in _ hta1).trans hlt.2
      obtain ⟨ra, eb, wb, vv, cd, st9, E9, n9, par, ps, hMa, hPg, ⟨m1, m2, m3, m4⟩, -, hcl9⟩ := hS4.mach hK
      rw [cpU_self] at hMa
      obtain ⟨rd9, hm0⟩ := hMa.1
      refine lv_iload hx hb dX1_failingReductions_51 (lv_at hl 0 rfl) ?_
      refine lv_aload_n hx hb dX1_failingReductions_53 rfl (lv_at hl 2 rfl) ?_
      refine g_get (ci := 0) (v := .ref (rf 9)) (C := RX1) (T := TX1) (N := 11) hx hb hts in_X1 hown hK hW hS4.1.1 rfl 3 (by decide) q357 (fun _ h9 => h9) rfl dX1_failingReductions_54 ?_
      refine lv_aload hx hb dX1_failingReductions_57 (lv_at hl 5 rfl) ?_
      refine lv_iload_n hx hb dX1_failingReductions_59 rfl (lv_at hl 4 rfl) ?_
      refine g_calli (va_runV (As := [.ref t9, .int (c9)]) (rest := [.int (nI cn)]) ⟨hx, hb, hml, hown, hts⟩ (mtX2_isFailing l D u4 H.size (rf 9) ra eb wb x st9 n9 cap t9 ta (rf 2) par _ vv cd E9 _ _ _ _ _ _ _ _ _ _ ps P (xs.eraseIdx i) hMa hS4.1.1 hPg ht4 (fun z => by rw [z, k4] at m2; exact absurd m2 (by decide)) c9) (cwV 2 hts (lw_V q1544 q1545 q1546 q38 q1547) rfl rfl rfl (by decide +kernel) ⟨Nat.le_trans (Nat.le_of_ble_eq_true rfl) hRf, Nat.le_trans (Nat.le_of_ble_eq_true rfl) hRl⟩) (g_preV hW hK hE hm0 rfl) rfl rfl hl.1 rfl (lv_room (Nat.le_of_ble_eq_true rfl)) dX1_failingReductions_60 ⟨?_, ?_⟩) hW (fun r_ u2 H locs hp hW => ?_)
      · (try simp only [headSpec]); omega
      · (try simp only [headSpec]); omega
      obtain ⟨er, wb2, hMa2, hwb2, hxr⟩ := hp
      subst er
      have hS2 := hcl9 _ wb2 _ _ _ _ _ _ hMa2 hwb2 hxr
      rw [cpU_cpU] at hS2
      have h9 : ∀ z, z ∈ w.1 → lb l1 w1 0 z = 9 → yM lab z := fun z hz e => by rw [hy4.1 z hz] at e; unfold yM; omega
      have hy2 : yCh w lab u2 (lb (lb l1 w1 0) u4 9) := hy4.next hxr (fun z hz hq => by rcases hq with q | q | q | q <;> subst q <;> exact h9 _ hz (by assumption)) 9
      have hd2 := hd4.ex hxr (fun z => by rcases z with z | z | z | z <;> rw [z] at k1 <;> omega) (fun z => by rcases z with z | z | z | z <;> rw [z] at k2 <;> omega)
      have ht2 := ht4.ex hxr (fun z => by rcases z with z | z | z | z <;> rw [z] at k3 <;> omega) (fun z => by rcases z with z | z | z | z <;> rw [z] at k4 <;> omega)
      have hdw : ∀ z, z ∈ w1.1 → z ∈ u4.1 := hex34.1
      have hld2 : lb (lb l1 w1 0) u4 9 d = 0 ∧ lb (lb l1 w1 0) u4 9 da = 0 := ⟨(lb_in _ (hdw _ hd.1.1)).trans k1, (lb_in _ (hdw _ hda1)).trans k2⟩
      have hlt2 : lb (lb l1 w1 0) u4 9 t9 = 0 ∧ lb (lb l1 w1 0) u4 9 ta = 0 := ⟨(lb_in _ (hdw _ ht.1.1)).trans k3, (lb_in _ (hdw _ hta1)).trans k4⟩
      by_cases hfl : mFails P (xs.eraseIdx i) c9 = true
      · rw [if_pos hfl]
        rw [if_pos hfl] at hs2
        refine lv_if_eq (tgt := 70) hx hb dX1_failingReductions_63 (by decide) (fun hz => absurd hz (by decide)) (fun _ => ?_)
        refine lv_iconst (v := 1) hx hb dX1_failingReductions_66 (by decide) ?_
        refine lv_goto (tgt := 71) hx hb dX1_failingReductions_67 (by decide) ?_
        refine lv_iadd hx hb dX1_failingReductions_71 ?_
        refine g_topi (y := nI (cn + 1)) (nI_1 cn) ?_
        refine lv_istore (lv' := [(5, .int (nI (cn + 1))), (6, .int (nI i)), (0, .ref x), (2, .ref d), (3, .int (c9)), (4, .ref t9)]) hx hb dX1_failingReductions_72 hl (by decide) rfl (fun ls hl => ?_)
        refine lv_iconst (v := 0) hx hb dX1_failingReductions_74 (by decide) ?_
        refine lv_istore (lv' := [(7, .int (0)), (5, .int (nI (cn + 1))), (6, .int (nI i)), (0, .ref x), (2, .ref d), (3, .int (c9)), (4, .ref t9)]) hx hb dX1_failingReductions_75 hl (by decide) rfl (fun ls hl => ?_)
        refine lpX1_fr1 (D := D) hx hb hts hown hK hE hml hRf hRl w lab x ac rn tt d da t9 ta rf P C A9 cov K Q9 F cp xs c9 fd fda ft fta ntd nta hxs CF SF capF cF hRc hRs i hc (frC xs (i + 1)) (fun cap cn zs w1 l1 cells slots H locs ls hs1 hs2 hcl hsl hS1 hy hd hld ht hlt hW hl => ?_) (xs.getD i 0 + 1) 0 _ (cn + 1) _ u2 _ _ _ H locs ls (by omega) (by omega) hs1 (by omega) (by omega) (by omega) hS2 hy2 hd2 hld2 ht2 hlt2 hW (lv_sub hl [1, 0, 2, 3, 4, 5, 6] rfl)
        refine lv_iinc (v := nI (i + 1)) (lv' := [(6, .int (nI (i + 1))), (5, .int (nI cn)), (0, .ref x), (2, .ref d), (3, .int (c9)), (4, .ref t9)]) hx hb dX1_failingReductions_134 hl (k := 1) rfl (nI_1 i) (by decide) rfl (fun ls hl => ?_)
        refine lv_goto (tgt := 29) hx hb dX1_failingReductions_137 (by decide) ?_
        exact ih (i + 1) cap cn zs w1 l1 _ _ H locs ls (by omega) (by omega) hs1 hs2 hcl hsl hS1 hy hd hld ht hlt hW (lv_sub hl [1, 0, 2, 3, 4, 5] rfl)
      · rw [if_neg hfl]
        rw [if_neg hfl] at hs2
        refine lv_if_eq (tgt := 70) hx hb dX1_failingReductions_63 (by decide) (fun _ => ?_) (fun hz => absurd rfl hz)
        refine lv_iconst (v := 0) hx hb dX1_failingReductions_70 (by decide) ?_
        refine lv_iadd hx hb dX1_failingReductions_71 ?_
        refine g_topi (y := nI (cn + 0)) (by rw [Nat.add_zero]; exact Int32.add_zero _) ?_
        refine lv_istore (lv' := [(5, .int (nI (cn + 0))), (6, .int (nI i)), (0, .ref x), (2, .ref d), (3, .int (c9)), (4, .ref t9)]) hx hb dX1_failingReductions_72 hl (by decide) rfl (fun ls hl => ?_)
        refine lv_iconst (v := 0) hx hb dX1_failingReductions_74 (by decide) ?_
        refine lv_istore (lv' := [(7, .int (0)), (5, .int (nI (cn + 0))), (6, .int (nI i)), (0, .ref x), (2, .ref d), (3, .int (c9)), (4, .ref t9)]) hx hb dX1_failingReductions_75 hl (by decide) rfl (fun ls hl => ?_)
        refine lpX1_fr1 (D := D) hx hb hts hown hK hE hml hRf hRl w lab x ac rn tt d da t9 ta rf P C A9 cov K Q9 F cp xs c9 fd fda ft fta ntd nta hxs CF SF capF cF hRc hRs i hc (frC xs (i + 1)) (fun cap cn zs w1 l1 cells slots H locs ls hs1 hs2 hcl hsl hS1 hy hd hld ht hlt hW hl => ?_) (xs.getD i 0 + 1) 0 _ (cn + 0) _ u2 _ _ _ H locs ls (by omega) (by omega) hs1 (by omega) (by omega) (by omega) hS2 hy2 hd2 hld2 ht2 hlt2 hW (lv_sub hl [1, 0, 2, 3, 4, 5, 6] rfl)
        refine lv_iinc (v := nI (i + 1)) (lv' := [(6, .int (nI (i + 1))), (5, .int (nI cn)), (0, .ref x), (2, .ref d), (3, .int (c9)), (4, .ref t9)]) hx hb dX1_failingReductions_134 hl (k := 1) rfl (nI_1 i) (by decide) rfl (fun ls hl => ?_)
        refine lv_goto (tgt := 29) hx hb dX1_failingReductions_137 (by decide) ?_
        exact ih (i + 1) cap cn zs w1 l1 _ _ H locs ls (by omega) (by omega) hs1 hs2 hcl hsl hS1 hy hd hld ht hlt hW (lv_sub hl [1, 0, 2, 3, 4, 5] rfl)
set_option maxHeartbeats 4000000 in
set_option maxRecDepth 100000 in
/-- ShrinkYard.failingReductions -/
theorem mtX1_failingReductions (l : Launch) (hl9 : l.stackTraces = false) (D : va_G) (w : g_H) (sz : Nat) (lab : Nat → Nat) (x ac rn tt : Nat) (rf : Nat → Nat) (P : List mI) (C : List yC) (A9 : Nat → List (List Nat)) (cov : Nat → Bool) (K Q9 : List (List Nat)) (F : List (List Nat × List Nat × Int32)) (cp : Nat → Nat) (hS : g_SZ D w lab x rf P C A9 cov K Q9 ac F rn tt cp) (st : Nat) (t : List Nat) (hst : g_Str D w st t) : vx_Met l yX1_failingReductions (ws_ yX1_failingReductions cX1_failingReductions 8 (some .int)) ({ frames := 11, cells := 6 + ((rFold P (frC (digs t) 0) (bsC (cp 9) (mOut P (digs t)).2.2.2)) - cp 9), slots := 32 + 2 * ((rFold P (frC (digs t) 0) (bsC (cp 9) (mOut P (digs t)).2.2.2)) - cp 9), locals := 213 }) (g_Pc D [.ref x, .ref st] w sz) (g_Qi D w sz (fun r u => (isIn t ∧ (mOut P (digs t)).1 = 1) ∧ r = nI (cFail P (mCode P (digs t)) (frC (digs t) 0)) ∧ ∃ l2, g_SZ D u l2 x rf P C A9 cov K Q9 ac F rn tt (cpU cp 9 (rFold P (frC (digs t) 0) (bsC (cp 9) (mOut P (digs t)).2.2.2))) ∧ yCh w lab u l2)) (g_XC D w sz (fun E u => (E = "java/lang/IllegalArgumentException" ∧ ¬ isIn t ∧ w = u) ∨ (E = "java/lang/IllegalStateException" ∧ isIn t ∧ (mOut P (digs t)).1 ≠ 1 ∧ ∃ l2, g_SZ D u l2 x rf P C A9 cov K Q9 ac F rn tt (cpU cp 9 (bsC (cp 9) (mOut P (digs t)).2.2.2)) ∧ yCh w lab u l2))) (6 + ((rFold P (frC (digs t) 0) (bsC (cp 9) (mOut P (digs t)).2.2.2)) - cp 9)) (32 + 2 * ((rFold P (frC (digs t) 0) (bsC (cp 9) (mOut P (digs t)).2.2.2)) - cp 9)) (g_A w sz) := by
  refine vx_ofW (cc := cX1_failingReductions) (maxL := 8) (ret := (some .int)) (by decide) rfl ?_
  intro p e s m args below meth c s₁ B hml hhand hv
  have hout : ∀ pc : Nat, ∀ x ∈ c.exceptionTable.toList, covers x pc = false := fun _ x hx => (hhand x hx).elim
  obtain ⟨rfl, hI⟩ := hv
  have hx := B.exec
  have hb := B.bytes
  have hr := B.returns
  have hts := atoms_spec (ws := ws_ yX1_failingReductions cX1_failingReductions 8 (some .int)) B.pre
  have hts : ∀ w ∈ lw_all, w.before _ s = true := fun w h => hts w (List.mem_cons_of_mem _ h)
  have hown : s.vm.findClass RX1 = some m.cls := findClass_of_methodNamed B.named
  have hlocks := B.notSynchronized
  have hsz := hI.1
  subst hsz
  have hW := g_W.start hI
  have hK := g_K hI
  have hE := g_E hI
  have hl := lv_entry ([.ref x, .ref st]) (n := 8) (by exact Nat.le_of_ble_eq_true rfl)
  rw [lg_entry_eq]
  generalize (lg_sl ([.ref x, .ref st]) ++ List.replicate (8 - (lg_sl ([.ref x, .ref st])).length) Slot.unset).toArray = ls at hl ⊢
  have hl : lv_has ls 8 [(0, .ref x), (1, .ref st)] := hl
  have hge1 := bsC_ge (mOut P (digs t)).2.2.2 (cp 9)
  have hge2 := rFold_ge P (frC (digs t) 0) (bsC (cp 9) (mOut P (digs t)).2.2.2)
  refine lv_aload_n hx hb dX1_failingReductions_0 rfl (lv_at hl 0 rfl) ?_
  refine lv_aload_n hx hb dX1_failingReductions_1 rfl (lv_at hl 1 rfl) ?_
  refine g_xcallq (vx_runV (As := [.ref st]) (rest := []) ⟨hx, hb, hml, hown, hts⟩ (mtX1_requireFailing l hl9 D w s.heap.size lab x ac rn tt rf P C A9 cov K Q9 F cp hS st t hst) (cwV 1 hts (lw_V q1768 q1770 qs24 q34 q1771) rfl rfl rfl (by decide +kernel) ⟨Nat.le_of_ble_eq_true rfl, Nat.le_of_ble_eq_true rfl⟩) (g_preV hW hK hE hS.1.1 rfl) rfl rfl hl.1 rfl (lv_room (Nat.le_of_ble_eq_true rfl)) dX1_failingReductions_2 ⟨?_, ?_⟩) hW (fun E ce q9 u_ H locs hp hW hxc1 hxc2 hxc3 => g_xout (hout _) hlocks hW (hp) hxc1 hxc2 hxc3 ?_ ?_) (fun r_ u1 H locs hp hW => ?_)
  · (try simp only [headSpec]); omega
  · (try simp only [headSpec]); omega
  · (try simp only [headSpec]); omega
  · (try simp only [headSpec]); omega
  obtain ⟨⟨hin, hv1⟩, d, da, l2, er, fd, fda, ⟨ld, lda⟩, hd, ⟨ra, eb, wb, vv, st9, E9, n9, hMa⟩, hS2, hy⟩ := hp
  subst er
  obtain ⟨rd2, hm2⟩ := hMa.1
  have hdg : sDg (digs t) := digs_ok hin.1 hin.2
  refine lv_astore_n (lv' := [(2, .ref d), (0, .ref x), (1, .ref st)]) hx hb dX1_failingReductions_5 rfl hl (by decide) rfl (fun ls hl => ?_)
  refine lv_aload_n hx hb dX1_failingReductions_6 rfl (lv_at hl 1 rfl) ?_
  refine g_get (ci := 0) (v := .ref (rf 9)) (C := RX1) (T := TX1) (N := 11) hx hb hts in_X1 hown hK hW hS2.1.1 rfl 3 (by decide) q357 (fun _ h9 => h9) rfl dX1_failingReductions_7 ?_
  refine g_getN (ci := 1) (v := .int (mCode P (digs t))) (C := RX2) (T := TX2) (N := 7) hx hb hts in_X2 hown hK hW hm2 rfl 3 (by decide) (nf_q195 hE) (fun _ h9 => h9) rfl dX1_failingReductions_10 ?_
  refine lv_istore_n (lv' := [(3, .int (mCode P (digs t))), (2, .ref d), (0, .ref x), (1, .ref st)]) hx hb dX1_failingReductions_13 rfl hl (by decide) rfl (fun ls hl => ?_)
  have x_1 : g_ex (fun _ => False) u1 u1 := g_ex.rf
  refine g_newo (ci := 2) (C := RX11) (T := TX11) (N := 2) hx hb hts in_X11 tyX11 tyX11_ok hown q1156 q1157 q75 hK hW rfl [.null, .int (0)] (by decide +kernel) ?_ ?_ dX1_failingReductions_14 (fun o_2 H hq hW => ?_)
  · show _ ≤ 6 + ((rFold P (frC (digs t) 0) (bsC (cp 9) (mOut P (digs t)).2.2.2)) - cp 9); omega
  · show _ ≤ 32 + 2 * ((rFold P (frC (digs t) 0) (bsC (cp 9) (mOut P (digs t)).2.2.2)) - cp 9); omega
  have ho_2 := hq
  obtain ⟨w_3, ew_3⟩ : ∃ z__, z__ = g_push u1 o_2 (.inr (2, [.null, .int (0)])) := ⟨_, rfl⟩
  have hW := g_W.ren hW ew_3 rfl
  have h_4 : g_at w_3 o_2 (.inr (2, [.null, .int (0)])) := by rw [ew_3]; exact g_at.push_self
  have x_5 : g_ex (fun _ => False) u1 w_3 := by rw [ew_3]; exact x_1.push hq
  refine lv_dup hx hb dX1_failingReductions_17 rfl ?_
  refine g_callv (va_runIN (As := []) (rest := [.ref o_2]) ⟨hx, hb, hml, hown, hts⟩ (mtX11_init l D w_3 H.size o_2 h_4) ⟨(va_cnB 0 hts (lw_meth q1160) rfl rfl rfl (nm_q1158 hE) (hts _ q75) (by decide +kernel) ⟨Nat.le_of_ble_eq_true rfl, Nat.le_of_ble_eq_true rfl⟩), rfl, hts _ q1159⟩ (g_preS hW hK hE) rfl rfl hl.1 rfl (lv_room (Nat.le_of_ble_eq_true rfl)) dX1_failingReductions_18 ⟨?_, ?_⟩) hW (fun u2 H locs hp hW => ?_)
  · (try simp only [headSpec]); omega
  · (try simp only [headSpec]); omega
  obtain ⟨ta, fta0, ht, hex1⟩ := hp
  have hxb : g_ex (fun _ => False) u1 u2 := x_5.trM hex1 (fun z hz1 hz2 => ho_2 (hz2 ▸ hz1))
  have fta1 : ta ∉ u1.1 := fun z => fta0 (x_5.1 _ z)
  have hda1 : da ∈ u1.1 := by obtain ⟨f9, hf9, -⟩ := hd.2.1; exact hf9.1
  have hS3 := hS2.new hxb 0
  have hy3 : yCh w lab u2 (lb l2 u1 0) := hy.next hxb (fun _ _ z => z.elim) 0
  have hd2 := hd.ex hxb (fun z => z.elim) (fun z => z.elim)
  have hld2 : lb l2 u1 0 d = 0 ∧ lb l2 u1 0 da = 0 := ⟨(lb_in _ hd.1.1).trans ld, (lb_in _ hda1).trans lda⟩
  have hlt2 : lb l2 u1 0 o_2 = 0 ∧ lb l2 u1 0 ta = 0 := ⟨lb_out ho_2, lb_out fta1⟩
  refine lv_astore (lv' := [(4, .ref o_2), (3, .int (mCode P (digs t))), (2, .ref d), (0, .ref x), (1, .ref st)]) hx hb dX1_failingReductions_21 hl (by decide) rfl (fun ls hl => ?_)
  refine lv_iconst (v := 0) hx hb dX1_failingReductions_23 (by decide) ?_
  refine lv_istore (lv' := [(5, .int (0)), (4, .ref o_2), (3, .int (mCode P (digs t))), (2, .ref d), (0, .ref x), (1, .ref st)]) hx hb dX1_failingReductions_24 hl (by decide) rfl (fun ls hl => ?_)
  refine lv_iconst (v := 0) hx hb dX1_failingReductions_26 (by decide) ?_
  refine lv_istore (lv' := [(6, .int (0)), (5, .int (0)), (4, .ref o_2), (3, .int (mCode P (digs t))), (2, .ref d), (0, .ref x), (1, .ref st)]) hx hb dX1_failingReductions_27 hl (by decide) rfl (fun ls hl => ?_)
  refine lpX1_fr2 (D := D) hx hb hts hown hK hE hml (Nat.le_of_ble_eq_true rfl) (Nat.le_of_ble_eq_true rfl) w lab x ac rn tt d da o_2 ta rf P C A9 cov K Q9 F cp (digs t) (mCode P (digs t)) fd fda (fun z => ho_2 (hy.2.1 _ z)) (fun z => fta1 (hy.2.1 _ z)) (fun z => ho_2 (z ▸ hd.1.1)) (fun z => fta1 (z ▸ hda1)) hdg.2 (6 + ((rFold P (frC (digs t) 0) (bsC (cp 9) (mOut P (digs t)).2.2.2)) - cp 9)) (32 + 2 * ((rFold P (frC (digs t) 0) (bsC (cp 9) (mOut P (digs t)).2.2.2)) - cp 9)) _ _ ?_ ?_ (fun w1 l1 cells slots H locs ls hcl hsl hS4 hy4 hW hl => ?_) ((digs t).length + 1) 0 (bsC (cp 9) (mOut P (digs t)).2.2.2) 0 [] u2 _ _ _ H locs ls (by omega) (by omega) rfl (Nat.zero_add _) ?_ ?_ hS3 hy3 hd2 hld2 ht hlt2 hW (lv_sub hl [1, 0, 5, 4, 3, 2] rfl)
  · (try simp only [headSpec]); omega
  · (try simp only [headSpec]); omega
  · refine lv_iload hx hb dX1_failingReductions_140 (lv_at hl 0 rfl) ?_
    exact vx_ret (g_iret (v := nI (cFail P (mCode P (digs t)) (frC (digs t) 0))) hx hb hr hlocks hW (⟨⟨hin, hv1⟩, rfl, l1, hS4, hy4⟩) (by omega) (by omega) dX1_failingReductions_142)
  · (try simp only [headSpec]); omega
  · (try simp only [headSpec]); omega
