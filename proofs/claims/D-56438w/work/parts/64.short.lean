/-! ShrinkYard: all short inputs *
-/
set_option maxRecDepth 100000
theorem cpU_cpU {cp : Nat → Nat} {k a b : Nat} : cpU (cpU cp k a) k b = cpU cp k b := by
  funext j
  unfold cpU
  split <;> rfl
theorem cpU_id {cp : Nat → Nat} {k : Nat} : cpU cp k (cp k) = cp := by
  funext j
  unfold cpU
  split
  · rename_i h; rw [h]
  · rfl
theorem yCh.next {w w1 u : g_H} {lab l1 : Nat → Nat} {M : Nat → Prop} (hy : yCh w lab w1 l1) (q : g_ex M w1 u) (hM : ∀ z, z ∈ w.1 → M z → yM lab z) (j : Nat) : yCh w lab u (lb l1 w1 j) := ⟨fun z hz => (lb_in z (hy.2.1 z hz)).trans (hy.1 z hz), hy.2.trM q hM⟩
theorem g_Dig.mut {D : va_G} {w : g_H} {s : State} (hK : va_K D gCl (gT D) s) {a da : Nat} {xs : List Nat} (h : g_Dig D w a da xs) : g_mut D w (fun q => q = a ∨ q = da) := by
  obtain ⟨h1, ⟨f, h2, -⟩, -⟩ := h
  exact (g_mut.obj h1).or (g_mut.arr h2 (g_neA hK (i := 0) (j := 1) rfl rfl (fun z => by cases z)))
def octR (n j : Nat) : List (List Nat) := ((List.range (8 ^ n)).drop j).map (oct n)
def octs (n N : Nat) : List (List Nat) := ((List.range (N + 1)).drop n).flatMap (fun m => octR m 0)
theorem octR_cons {n j : Nat} (h : j < 8 ^ n) : octR n j = oct n j :: octR n (j + 1) := by unfold octR; rw [rng_drop h]; rfl
theorem octR_end {n j : Nat} (h : 8 ^ n ≤ j) : octR n j = [] := by unfold octR; rw [rng_end h]; rfl
theorem octs_cons {n N : Nat} (h : n ≤ N) : octs n N = octR n 0 ++ octs (n + 1) N := by unfold octs; rw [rng_drop (by omega)]; rfl
theorem octs_end {n N : Nat} (h : N < n) : octs n N = [] := by unfold octs; rw [rng_end (by omega)]; rfl
/-- the edges' capacity behind runs of some inputs -/
noncomputable def rFold (P : List mI) : List (List Nat) → Nat → Nat
  | [], cap => cap
  | y :: ys, cap => rFold P ys (bsC cap (mOut P y).2.2.2)
theorem rFold_ge (P : List mI) : ∀ (ys : List (List Nat)) (cap : Nat), cap ≤ rFold P ys cap
  | [], _ => Nat.le_refl _
  | y :: ys, cap => Nat.le_trans (bsC_ge _ _) (rFold_ge P ys _)
noncomputable def cCount (P : List mI) (v : Nat) : List (List Nat) → Nat
  | [] => 0
  | y :: ys => (if (mOut P y).1 = v then 1 else 0) + cCount P v ys
/-- the edges of some runs -/
noncomputable def rE (P : List mI) : List (List Nat) → (Nat → Bool) → Nat → Bool
  | [], E => E
  | y :: ys, E => rE P ys (fun e => E e || bsE (fun _ => false) (mOut P y).2.2.2 e)
noncomputable def rF2 (P : List mI) : List (List Nat) → Nat → Nat
  | [], c => c
  | y :: ys, c => rF2 P ys (g_bn (bsN 0 (mOut P y).2.2.2) c)
theorem rF2_ge (P : List mI) : ∀ (ys : List (List Nat)) (c : Nat), c ≤ rF2 P ys c
  | [], _ => Nat.le_refl _
  | y :: ys, c => Nat.le_trans (g_bn_ge _ _) (rF2_ge P ys _)
set_option maxHeartbeats 4000000 in
set_option maxRecDepth 100000 in
/-- ShrinkYard.count: of one length -/
theorem lpX1_count1 {p : Program} {l : Launch} {e : Env} {R : Room} {s : State} {m : MethodId} {args : Array Value} {below : List Frame} {meth : Method} {c : Code} {Q : State → Prop} {D : va_G} {A : Nat → Prop} (hx : p.tables.exec = Jvm.exec) (hb : c.code = cX1_count) (hts : ∀ w ∈ lw_all, w.before args s = true) (hown : s.vm.findClass RX1 = some m.cls) (hK : va_K D gCl (gT D) s) (hE : g_Env D A s) (hml : c.maxLocals = 6) (hRf : 7 ≤ R.frames) (hRl : 191 ≤ R.locals) (w : g_H) (lab : Nat → Nat) (x ac rn tt d da N : Nat) (rf : Nat → Nat) (P : List mI) (C : List yC) (A9 : Nat → List (List Nat)) (cov : Nat → Bool) (K Q9 : List (List Nat)) (F : List (List Nat × List Nat × Int32)) (cp : Nat → Nat) (fd : d ∉ w.1) (fda : da ∉ w.1) (hN : N ≤ 3) (CF SF capF : Nat) (hRc : CF ≤ R.cells) (hRs : SF ≤ R.slots) (v9 cF : Nat) (hv9 : v9 < 3) (n : Nat) (hn : n ≤ N) (rest : List (List Nat))
    (kk : ∀ (cap : Nat) (cn : Nat) (w1 : g_H) (l1 : Nat → Nat) (cells : Nat) (slots : Nat) (H : Heap) (locs : List Loc) (ls : Array Slot), rFold P (rest) cap = capF → cn + cCount P v9 (rest) = cF → cells + (capF - cap) ≤ CF → slots + 2 * (capF - cap) ≤ SF → g_SZ D w1 l1 x rf P C A9 cov K Q9 ac F rn tt (cpU cp 9 cap) → yCh w lab w1 l1 → g_Dig D w1 d da (oct n (8 ^ n)) → (l1 d = 0 ∧ l1 da = 0) → g_W D A s.heap H locs w1 → lv_has ls 6 [(4, .int (nI cn)), (5, .int (nI n)), (0, .ref x), (1, .ref (D.2 1003 v9)), (2, .int (nI N)), (3, .ref d)] → W p l e R s m args below meth c H locs cells slots Q (F0 m 66 ls [])) :
    ∀ (k : Nat) (j : Nat) (cap : Nat) (cn : Nat) (w1 : g_H) (l1 : Nat → Nat) (cells : Nat) (slots : Nat) (H : Heap) (locs : List Loc) (ls : Array Slot), 8 ^ n < j + k → j < 8 ^ n → rFold P (octR n j ++ rest) cap = capF → cn + cCount P v9 (octR n j ++ rest) = cF → cells + (capF - cap) ≤ CF → slots + 2 * (capF - cap) ≤ SF → g_SZ D w1 l1 x rf P C A9 cov K Q9 ac F rn tt (cpU cp 9 cap) → yCh w lab w1 l1 → g_Dig D w1 d da (oct n j) → (l1 d = 0 ∧ l1 da = 0) → g_W D A s.heap H locs w1 → lv_has ls 6 [(4, .int (nI cn)), (5, .int (nI n)), (0, .ref x), (1, .ref (D.2 1003 v9)), (2, .int (nI N)), (3, .ref d)] → W p l e R s m args below meth c H locs cells slots Q (F0 m 30 ls []) := by
  intro k
  induction k with
  | zero => intro j cap cn w1 l1 cells slots H locs ls hfuel hj hs1 hs2 hcl hsl hS1 hy hd hld hW hl; exact absurd hfuel (by omega)
  | succ k ih =>
    intro j cap cn w1 l1 cells slots H locs ls hfuel hj hs1 hs2 hcl hsl hS1 hy hd hld hW hl
    rw [octR_cons hj, List.cons_append] at hs1 hs2
    unfold rFold at hs1
    unfold cCount at hs2
    have hq1 := bsC_ge (mOut P (oct n j)).2.2.2 cap
    have hq2 := rFold_ge P (octR n (j + 1) ++ rest) (bsC cap (mOut P (oct n j)).2.2.2)
    rw [hs1] at hq2
    refine lv_aload_n hx hb dX1_count_30 rfl (lv_at hl 2 rfl) ?_
    refine g_get (ci := 0) (v := .ref (rf 9)) (C := RX1) (T := TX1) (N := 11) hx hb hts in_X1 hown hK hW hS1.1.1 rfl 3 (by decide) q357 (fun _ h9 => h9) rfl dX1_count_31 ?_
    refine lv_aload_n hx hb dX1_count_34 rfl (lv_at hl 5 rfl) ?_
    obtain ⟨ra, eb, wb, vv, cd, st9, E9, n9, par, ps, hMa, hPg, ⟨m1, m2, m3, m4⟩, -, hcl⟩ := hS1.mach hK
    rw [cpU_self] at hMa
    obtain ⟨rd9, hm0⟩ := hMa.1
    refine g_callv (va_runV (As := [.ref d]) (rest := []) ⟨hx, hb, hml, hown, hts⟩ (mtX2_run l D w1 H.size (rf 9) ra eb wb x st9 n9 cap d da (rf 2) par _ vv cd E9 _ _ _ _ _ _ _ _ _ _ ps P (oct n j) hMa hS1.1.1 hPg hd (fun z => by rw [z, hld.2] at m2; exact absurd m2 (by decide))) (cwV 1 hts (lw_V q1187 q1188 q1189 q38 q1190) rfl rfl rfl (by decide +kernel) ⟨Nat.le_trans (Nat.le_of_ble_eq_true rfl) hRf, Nat.le_trans (Nat.le_of_ble_eq_true rfl) hRl⟩) (g_preV hW hK hE hm0 rfl) rfl rfl hl.1 rfl (lv_room (Nat.le_of_ble_eq_true rfl)) dX1_count_35 ⟨?_, ?_⟩) hW (fun u2 H locs hp hW => ?_)
    · (try simp only [headSpec]); omega
    · (try simp only [headSpec]); omega
    obtain ⟨wb2, hMa2, hwb2, hxr⟩ := hp
    have hS2 := hcl _ wb2 _ _ _ _ _ _ hMa2 hwb2 hxr
    rw [cpU_cpU] at hS2
    have h9 : ∀ z, z ∈ w.1 → l1 z = 9 → yM lab z := fun z hz e => by rw [hy.1 z hz] at e; unfold yM; omega
    have hy2 : yCh w lab u2 (lb l1 w1 9) := hy.next hxr (fun z hz hq => by rcases hq with q | q | q | q <;> subst q <;> exact h9 _ hz (by assumption)) 9
    obtain ⟨rd2, hm2⟩ := hMa2.1
    obtain ⟨ld, lda⟩ := id hld
    have hd2 := hd.ex hxr (fun z => by rcases z with z | z | z | z <;> rw [z] at ld <;> omega) (fun z => by rcases z with z | z | z | z <;> rw [z] at lda <;> omega)
    have hda1 : da ∈ w1.1 := by obtain ⟨f9, hf9, -⟩ := hd.2.1; exact hf9.1
    have hld2 : lb l1 w1 9 d = 0 ∧ lb l1 w1 9 da = 0 := ⟨(lb_in _ hd.1.1).trans ld, (lb_in _ hda1).trans lda⟩
    refine lv_iload hx hb dX1_count_38 (lv_at hl 0 rfl) ?_
    refine lv_aload_n hx hb dX1_count_40 rfl (lv_at hl 2 rfl) ?_
    refine g_get (ci := 0) (v := .ref (rf 9)) (C := RX1) (T := TX1) (N := 11) hx hb hts in_X1 hown hK hW hS2.1.1 rfl 3 (by decide) q357 (fun _ h9 => h9) rfl dX1_count_41 ?_
    refine g_getN (ci := 1) (v := .ref (D.2 1003 (mOut P (oct n j)).1)) (C := RX2) (T := TX2) (N := 7) hx hb hts in_X2 hown hK hW hm2 rfl 2 (by decide) (nf_q193 hE) (fun _ h9 => h9) rfl dX1_count_44 ?_
    refine lv_aload_n hx hb dX1_count_47 rfl (lv_at hl 3 rfl) ?_
    refine lv_acmp_ne (rx := some (D.2 1003 (mOut P (oct n j)).1)) (ry := some (D.2 1003 v9)) (tgt := 55) hx hb dX1_count_48 (by decide) (fun hc => ?_) (fun hc => ?_)
    · rw [if_neg (fun z => hc (by rw [z]))] at hs2
      refine lv_iconst (v := 0) hx hb dX1_count_55 (by decide) ?_
      refine lv_iadd hx hb dX1_count_56 ?_
      refine g_topi (y := nI (cn + 0)) (by rw [Nat.add_zero]; exact Int32.add_zero _) ?_
      refine lv_istore (lv' := [(4, .int (nI (cn + 0))), (5, .int (nI n)), (0, .ref x), (1, .ref (D.2 1003 v9)), (2, .int (nI N)), (3, .ref d)]) hx hb dX1_count_57 hl (by decide) rfl (fun ls hl => ?_)
      refine lv_aload_n hx hb dX1_count_59 rfl (lv_at hl 5 rfl) ?_
      obtain ⟨hd21, ⟨g2, hd2g, hd2i⟩, hd28⟩ := id hd2
      rw [oct_len] at hd21
      refine g_calli (va_runV (As := []) (rest := []) ⟨hx, hb, hml, hown, hts⟩ (mtX11_isNext l D u2 H.size d da n g2 hd21 hd2g (by omega)) (cwV 0 hts (lw_V q1821 q1822 q1823 q75 q1824) rfl rfl rfl (by decide +kernel) ⟨Nat.le_trans (Nat.le_of_ble_eq_true rfl) hRf, Nat.le_trans (Nat.le_of_ble_eq_true rfl) hRl⟩) (g_preV hW hK hE hd21 rfl) rfl rfl hl.1 rfl (lv_room (Nat.le_of_ble_eq_true rfl)) dX1_count_60 ⟨?_, ?_⟩) hW (fun r_ u3 H locs hp hW => ?_)
      · (try simp only [headSpec]); omega
      · (try simp only [headSpec]); omega
      obtain ⟨i9, f9, hi1, hi2, hi3, hi4, hi5, hi6, er, hd31, hd3g, hx3⟩ := hp
      subst er
      obtain ⟨on1, on2⟩ := oct_next (by omega) hj hd2i hi1 hi2 hi3 hi4 hi5 hi6
      have hd3 : g_Dig D u3 d da (oct n (j + 1)) := ⟨by rw [oct_len]; exact hd31, ⟨f9, hd3g, on1⟩, by rw [oct_len]; omega⟩
      have hda2 : da ∈ u2.1 := by obtain ⟨f9, hf9, -⟩ := hd2.2.1; exact hf9.1
      have hS3 := hS2.keep (lab' := lb (lb l1 w1 9) u2 0) hx3 (hd2.mut hK) lb_in (fun z _ hq => Or.inl (by rcases hq with q | q <;> rw [q] <;> first | exact hld2.1 | exact hld2.2))
      have hy3 : yCh w lab u3 (lb (lb l1 w1 9) u2 0) := hy2.next hx3 (fun z hz hq => (hq.elim (fun q => fd (q ▸ hz)) (fun q => fda (q ▸ hz))).elim) 0
      have hld3 : lb (lb l1 w1 9) u2 0 d = 0 ∧ lb (lb l1 w1 9) u2 0 da = 0 := ⟨(lb_in _ hd2.1.1).trans hld2.1, (lb_in _ hda2).trans hld2.2⟩
      by_cases hi0 : i9 = 0
      · rw [if_pos hi0]
        refine lv_if_ne (tgt := 30) hx hb dX1_count_63 (by decide) (fun hz => absurd rfl hz) (fun _ => ?_)
        have hje : j + 1 = 8 ^ n := on2.mp hi0
        rw [hje] at hs1 hs2 hd3
        rw [octR_end (Nat.le_refl _), List.nil_append] at hs1 hs2
        exact kk _ (cn + 0) u3 _ _ _ H locs ls hs1 (by omega) (by omega) (by omega) hS3 hy3 hd3 hld3 hW (lv_sub hl [0, 1, 2, 3, 4, 5] rfl)
      · rw [if_neg hi0]
        refine lv_if_ne (tgt := 30) hx hb dX1_count_63 (by decide) (fun _ => ?_) (fun hz => absurd (by first | exact hz | exact Classical.not_not.mp hz) (by decide))
        have hjn : j + 1 < 8 ^ n := by have := fun z => hi0 (on2.mpr z); omega
        exact ih (j + 1) _ (cn + 0) u3 _ _ _ H locs ls (by omega) hjn hs1 (by omega) (by omega) (by omega) hS3 hy3 hd3 hld3 hW hl
    · have hv1 : (mOut P (oct n j)).1 = v9 := g_vdI hE mOut_lt hv9 (Option.some.inj (by first | exact hc | exact Classical.not_not.mp hc))
      rw [if_pos hv1] at hs2
      refine lv_iconst (v := 1) hx hb dX1_count_51 (by decide) ?_
      refine lv_goto (tgt := 56) hx hb dX1_count_52 (by decide) ?_
      refine lv_iadd hx hb dX1_count_56 ?_
      refine g_topi (y := nI (cn + 1)) (nI_1 cn) ?_
      refine lv_istore (lv' := [(4, .int (nI (cn + 1))), (5, .int (nI n)), (0, .ref x), (1, .ref (D.2 1003 v9)), (2, .int (nI N)), (3, .ref d)]) hx hb dX1_count_57 hl (by decide) rfl (fun ls hl => ?_)
      refine lv_aload_n hx hb dX1_count_59 rfl (lv_at hl 5 rfl) ?_
      obtain ⟨hd21, ⟨g2, hd2g, hd2i⟩, hd28⟩ := id hd2
      rw [oct_len] at hd21
      refine g_calli (va_runV (As := []) (rest := []) ⟨hx, hb, hml, hown, hts⟩ (mtX11_isNext l D u2 H.size d da n g2 hd21 hd2g (by omega)) (cwV 0 hts (lw_V q1821 q1822 q1823 q75 q1824) rfl rfl rfl (by decide +kernel) ⟨Nat.le_trans (Nat.le_of_ble_eq_true rfl) hRf, Nat.le_trans (Nat.le_of_ble_eq_true rfl) hRl⟩) (g_preV hW hK hE hd21 rfl) rfl rfl hl.1 rfl (lv_room (Nat.le_of_ble_eq_true rfl)) dX1_count_60 ⟨?_, ?_⟩) hW (fun r_ u3 H locs hp hW => ?_)
      · (try simp only [headSpec]); omega
      · (try simp only [headSpec]); omega
      obtain ⟨i9, f9, hi1, hi2, hi3, hi4, hi5, hi6, er, hd31, hd3g, hx3⟩ := hp
      subst er
      obtain ⟨on1, on2⟩ := oct_next (by omega) hj hd2i hi1 hi2 hi3 hi4 hi5 hi6
      have hd3 : g_Dig D u3 d da (oct n (j + 1)) := ⟨by rw [oct_len]; exact hd31, ⟨f9, hd3g, on1⟩, by rw [oct_len]; omega⟩
      have hda2 : da ∈ u2.1 := by obtain ⟨f9, hf9, -⟩ := hd2.2.1; exact hf9.1
      have hS3 := hS2.keep (lab' := lb (lb l1 w1 9) u2 0) hx3 (hd2.mut hK) lb_in (fun z _ hq => Or.inl (by rcases hq with q | q <;> rw [q] <;> first | exact hld2.1 | exact hld2.2))
      have hy3 : yCh w lab u3 (lb (lb l1 w1 9) u2 0) := hy2.next hx3 (fun z hz hq => (hq.elim (fun q => fd (q ▸ hz)) (fun q => fda (q ▸ hz))).elim) 0
      have hld3 : lb (lb l1 w1 9) u2 0 d = 0 ∧ lb (lb l1 w1 9) u2 0 da = 0 := ⟨(lb_in _ hd2.1.1).trans hld2.1, (lb_in _ hda2).trans hld2.2⟩
      by_cases hi0 : i9 = 0
      · rw [if_pos hi0]
        refine lv_if_ne (tgt := 30) hx hb dX1_count_63 (by decide) (fun hz => absurd rfl hz) (fun _ => ?_)
        have hje : j + 1 = 8 ^ n := on2.mp hi0
        rw [hje] at hs1 hs2 hd3
        rw [octR_end (Nat.le_refl _), List.nil_append] at hs1 hs2
        exact kk _ (cn + 1) u3 _ _ _ H locs ls hs1 (by omega) (by omega) (by omega) hS3 hy3 hd3 hld3 hW (lv_sub hl [0, 1, 2, 3, 4, 5] rfl)
      · rw [if_neg hi0]
        refine lv_if_ne (tgt := 30) hx hb dX1_count_63 (by decide) (fun _ => ?_) (fun hz => absurd (by first | exact hz | exact Classical.not_not.mp hz) (by decide))
        have hjn : j + 1 < 8 ^ n := by have := fun z => hi0 (on2.mpr z); omega
        exact ih (j + 1) _ (cn + 1) u3 _ _ _ H locs ls (by omega) hjn hs1 (by omega) (by omega) (by omega) hS3 hy3 hd3 hld3 hW hl
set_option maxHeartbeats 4000000 in
set_option maxRecDepth 100000 in
/-- ShrinkYard.count: its loop -/
theorem lpX1_count2 {p : Program} {l : Launch} {e : Env} {R : Room} {s : State} {m : MethodId} {args : Array Value} {below : List Frame} {meth : Method} {c : Code} {Q : State → Prop} {D : va_G} {A : Nat → Prop} (hx : p.tables.exec = Jvm.exec) (hb : c.code = cX1_count) (hts : ∀ w ∈ lw_all, w.before args s = true) (hown : s.vm.findClass RX1 = some m.cls) (hK : va_K D gCl (gT D) s) (hE : g_Env D A s) (hml : c.maxLocals = 6) (hRf : 7 ≤ R.frames) (hRl : 191 ≤ R.locals) (w : g_H) (lab : Nat → Nat) (x ac rn tt d da N : Nat) (rf : Nat → Nat) (P : List mI) (C : List yC) (A9 : Nat → List (List Nat)) (cov : Nat → Bool) (K Q9 : List (List Nat)) (F : List (List Nat × List Nat × Int32)) (cp : Nat → Nat) (fd : d ∉ w.1) (fda : da ∉ w.1) (hN : N ≤ 3) (CF SF capF : Nat) (hRc : CF ≤ R.cells) (hRs : SF ≤ R.slots) (v9 cF : Nat) (hv9 : v9 < 3)
    (kk : ∀ (w1 : g_H) (l1 : Nat → Nat) (cells slots : Nat) (H : Heap) (locs : List Loc) (ls : Array Slot), cells ≤ CF → slots ≤ SF → g_SZ D w1 l1 x rf P C A9 cov K Q9 ac F rn tt (cpU cp 9 capF) → yCh w lab w1 l1 → g_W D A s.heap H locs w1 → lv_has ls 6 [(4, .int (nI cF))] → W p l e R s m args below meth c H locs cells slots Q (F0 m 72 ls [])) :
    ∀ (k : Nat) (n : Nat) (cap : Nat) (cn : Nat) (zs : List Nat) (w1 : g_H) (l1 : Nat → Nat) (cells : Nat) (slots : Nat) (H : Heap) (locs : List Loc) (ls : Array Slot), N + 1 < n + k → n ≤ N + 1 → rFold P (octs n N) cap = capF → cn + cCount P v9 (octs n N) = cF → cells + (capF - cap) ≤ CF → slots + 2 * (capF - cap) ≤ SF → g_SZ D w1 l1 x rf P C A9 cov K Q9 ac F rn tt (cpU cp 9 cap) → yCh w lab w1 l1 → g_Dig D w1 d da zs → (l1 d = 0 ∧ l1 da = 0) → g_W D A s.heap H locs w1 → lv_has ls 6 [(5, .int (nI n)), (4, .int (nI cn)), (0, .ref x), (1, .ref (D.2 1003 v9)), (2, .int (nI N)), (3, .ref d)] → W p l e R s m args below meth c H locs cells slots Q (F0 m 18 ls []) := by
  intro k
  induction k with
  | zero => intro n cap cn zs w1 l1 cells slots H locs ls hfuel hn hs1 hs2 hcl hsl hS1 hy hd hld hW hl; exact absurd hfuel (by omega)
  | succ k ih =>
    intro n cap cn zs w1 l1 cells slots H locs ls hfuel hn hs1 hs2 hcl hsl hS1 hy hd hld hW hl
    refine lv_iload hx hb dX1_count_18 (lv_at hl 0 rfl) ?_
    refine lv_iload_n hx hb dX1_count_20 rfl (lv_at hl 4 rfl) ?_
    refine g_icmp_gt (x := n) (y := N) (tgt := 72) hx hb (by omega) (by omega) dX1_count_21 (by decide) (fun hc => ?_) (fun hc => ?_)
    · rw [octs_end (by omega)] at hs1 hs2
      have hs1 : cap = capF := hs1
      have hs2 : cn = cF := hs2
      rw [hs1] at hS1
      rw [hs2] at hl
      exact kk w1 l1 cells slots H locs ls (by omega) (by omega) hS1 hy hW (lv_sub hl [1] rfl)
    · rw [octs_cons (by omega)] at hs1 hs2
      refine lv_aload_n hx hb dX1_count_24 rfl (lv_at hl 5 rfl) ?_
      refine lv_iload hx hb dX1_count_25 (lv_at hl 0 rfl) ?_
      refine g_callv (va_runV (As := [.int (nI n)]) (rest := []) ⟨hx, hb, hml, hown, hts⟩ (mtX11_clear l D w1 H.size d da n zs hd (by omega)) (cwV 1 hts (lw_V q1817 q1818 q1819 q75 q1820) rfl rfl rfl (by decide +kernel) ⟨Nat.le_trans (Nat.le_of_ble_eq_true rfl) hRf, Nat.le_trans (Nat.le_of_ble_eq_true rfl) hRl⟩) (g_preV hW hK hE hd.1 rfl) rfl rfl hl.1 rfl (lv_room (Nat.le_of_ble_eq_true rfl)) dX1_count_27 ⟨?_, ?_⟩) hW (fun u1 H locs hp hW => ?_)
      · (try simp only [headSpec]); omega
      · (try simp only [headSpec]); omega
      obtain ⟨hd3, hx3⟩ := hp
      rw [← oct_0 n (by omega)] at hd3
      have hda2 : da ∈ w1.1 := by obtain ⟨f9, hf9, -⟩ := hd.2.1; exact hf9.1
      have hS3 := hS1.keep (lab' := lb l1 w1 0) hx3 (hd.mut hK) lb_in (fun z _ hq => Or.inl (by rcases hq with q | q <;> rw [q] <;> first | exact hld.1 | exact hld.2))
      have hy3 : yCh w lab u1 (lb l1 w1 0) := hy.next hx3 (fun z hz hq => (hq.elim (fun q => fd (q ▸ hz)) (fun q => fda (q ▸ hz))).elim) 0
      have hld3 : lb l1 w1 0 d = 0 ∧ lb l1 w1 0 da = 0 := ⟨(lb_in _ hd.1.1).trans hld.1, (lb_in _ hda2).trans hld.2⟩
      refine lpX1_count1 (D := D) hx hb hts hown hK hE hml hRf hRl w lab x ac rn tt d da N rf P C A9 cov K Q9 F cp fd fda hN CF SF capF hRc hRs v9 cF hv9 n (by omega) (octs (n + 1) N) (fun cap cn w1 l1 cells slots H locs ls hs1 hs2 hcl hsl hS1 hy hd hld hW hl => ?_) (8 ^ n + 1) 0 cap cn u1 _ cells slots H locs ls (by omega) (Nat.pow_pos (by decide)) hs1 hs2 hcl hsl hS3 hy3 hd3 hld3 hW (lv_sub hl [1, 0, 2, 3, 4, 5] rfl)
      refine lv_iinc (v := nI (n + 1)) (lv' := [(5, .int (nI (n + 1))), (4, .int (nI cn)), (0, .ref x), (1, .ref (D.2 1003 v9)), (2, .int (nI N)), (3, .ref d)]) hx hb dX1_count_66 hl (k := 1) rfl (nI_1 n) (by decide) rfl (fun ls hl => ?_)
      refine lv_goto (tgt := 18) hx hb dX1_count_69 (by decide) ?_
      exact ih (n + 1) cap cn _ w1 l1 _ _ H locs ls (by omega) (by omega) hs1 hs2 hcl hsl hS1 hy hd hld hW (lv_sub hl [0, 1, 2, 3, 4, 5] rfl)
set_option maxHeartbeats 4000000 in
set_option maxRecDepth 100000 in
/-- ShrinkYard.count -/
theorem mtX1_count (l : Launch) (hl9 : l.stackTraces = false) (D : va_G) (w : g_H) (sz : Nat) (lab : Nat → Nat) (x ac rn tt : Nat) (rf : Nat → Nat) (P : List mI) (C : List yC) (A9 : Nat → List (List Nat)) (cov : Nat → Bool) (K Q9 : List (List Nat)) (F : List (List Nat × List Nat × Int32)) (cp : Nat → Nat) (hS : g_SZ D w lab x rf P C A9 cov K Q9 ac F rn tt cp) (v9 : Nat) (n9 : Int32) (hv9 : v9 < 3) : vx_Met l yX1_count (ws_ yX1_count cX1_count 6 (some .int)) ({ frames := 10, cells := 3 + ((rFold P (octs 0 n9.toNatClampNeg) (cp 9)) - cp 9), slots := 20 + 2 * ((rFold P (octs 0 n9.toNatClampNeg) (cp 9)) - cp 9), locals := 191 }) (g_Pc D [.ref x, .ref (D.2 1003 v9), .int (n9)] w sz) (g_Qi D w sz (fun r u => (0 ≤ n9 ∧ n9 ≤ 3) ∧ r = nI (cCount P v9 (octs 0 n9.toNatClampNeg)) ∧ ∃ l2, g_SZ D u l2 x rf P C A9 cov K Q9 ac F rn tt (cpU cp 9 (rFold P (octs 0 n9.toNatClampNeg) (cp 9))) ∧ yCh w lab u l2)) (g_XC D w sz (fun E u => (E = "java/lang/IllegalArgumentException" ∧ ¬ (0 ≤ n9 ∧ n9 ≤ 3) ∧ w = u))) (3 + ((rFold P (octs 0 n9.toNatClampNeg) (cp 9)) - cp 9)) (20 + 2 * ((rFold P (octs 0 n9.toNatClampNeg) (cp 9)) - cp 9)) (g_A w sz) := by
  refine vx_ofW (cc := cX1_count) (maxL := 6) (ret := (some .int)) (by decide) rfl ?_
  intro p e s m args below meth c s₁ B hml hhand hv
  have hout : ∀ pc : Nat, ∀ x ∈ c.exceptionTable.toList, covers x pc = false := fun _ x hx => (hhand x hx).elim
  obtain ⟨rfl, hI⟩ := hv
  have hx := B.exec
  have hb := B.bytes
  have hr := B.returns
  have hts := atoms_spec (ws := ws_ yX1_count cX1_count 6 (some .int)) B.pre
  have hts : ∀ w ∈ lw_all, w.before _ s = true := fun w h => hts w (List.mem_cons_of_mem _ h)
  have hown : s.vm.findClass RX1 = some m.cls := findClass_of_methodNamed B.named
  have hlocks := B.notSynchronized
  have hsz := hI.1
  subst hsz
  have hW := g_W.start hI
  have hK := g_K hI
  have hE := g_E hI
  have hl := lv_entry ([.ref x, .ref (D.2 1003 v9), .int (n9)]) (n := 6) (by exact Nat.le_of_ble_eq_true rfl)
  rw [lg_entry_eq]
  generalize (lg_sl ([.ref x, .ref (D.2 1003 v9), .int (n9)]) ++ List.replicate (6 - (lg_sl ([.ref x, .ref (D.2 1003 v9), .int (n9)])).length) Slot.unset).toArray = ls at hl ⊢
  have hl : lv_has ls 6 [(0, .ref x), (1, .ref (D.2 1003 v9)), (2, .int (n9))] := hl
  have hge := rFold_ge P (octs 0 n9.toNatClampNeg) (cp 9)
  refine lv_iload_n hx hb dX1_count_0 rfl (lv_at hl 2 rfl) ?_
  refine g_xcallv (vx_runS (As := [.int (n9)]) (rest := []) ⟨hx, hb, hml, hown, hts⟩ (mtX1_requireShort l hl9 D w s.heap.size n9) (va_cwS 1 hts (lw_S q1814 q1815 q34 q1816) rfl rfl rfl (by decide +kernel) ⟨Nat.le_of_ble_eq_true rfl, Nat.le_of_ble_eq_true rfl⟩) (g_preS hW hK hE) rfl rfl hl.1 rfl (lv_room (Nat.le_of_ble_eq_true rfl)) dX1_count_1 ⟨?_, ?_⟩) hW (fun E ce q9 u_ H locs hp hW hxc1 hxc2 hxc3 => g_xout (hout _) hlocks hW (⟨hp.1, hp.2.1, hp.2.2⟩) hxc1 hxc2 hxc3 ?_ ?_) (fun u_ H locs hp hW => ?_)
  · (try simp only [headSpec]); omega
  · (try simp only [headSpec]); omega
  · (try simp only [headSpec]); omega
  · (try simp only [headSpec]); omega
  obtain ⟨hsh, rfl⟩ := hp
  obtain ⟨N, hN31, rfl⟩ := nI_of (Int32.not_lt.mpr hsh.1)
  have eN : (nI N).toNatClampNeg = N := nI_clamp hN31
  rw [eN] at hge ⊢
  have hN : N ≤ 3 := Nat.le_of_not_lt (fun z => Int32.not_le.mpr ((nI_ltI (a := 3) (by decide) hN31).mpr z) hsh.2)
  have x_1 : g_ex (fun _ => False) w w := g_ex.rf
  refine g_newo (ci := 2) (C := RX11) (T := TX11) (N := 2) hx hb hts in_X11 tyX11 tyX11_ok hown q1156 q1157 q75 hK hW rfl [.null, .int (0)] (by decide +kernel) ?_ ?_ dX1_count_4 (fun o_2 H hq hW => ?_)
  · show _ ≤ 3 + ((rFold P (octs 0 N) (cp 9)) - cp 9); omega
  · show _ ≤ 20 + 2 * ((rFold P (octs 0 N) (cp 9)) - cp 9); omega
  have ho_2 := hq
  obtain ⟨w_3, ew_3⟩ : ∃ z__, z__ = g_push w o_2 (.inr (2, [.null, .int (0)])) := ⟨_, rfl⟩
  have hW := g_W.ren hW ew_3 rfl
  have h_4 : g_at w_3 x (.inr (0, [.ref (rf 2), .ref (rf 3), .ref (rf 4), .ref (rf 9), .ref (rf 10), .ref (rf 11), .ref (rf 12), .ref (rf 13), .int (nI rn), .long (lN tt), .int (nI ac)])) := by rw [ew_3]; exact hS.1.1.push hq
  have h_5 : g_at w_3 o_2 (.inr (2, [.null, .int (0)])) := by rw [ew_3]; exact g_at.push_self
  have x_6 : g_ex (fun _ => False) w w_3 := by rw [ew_3]; exact x_1.push hq
  refine lv_dup hx hb dX1_count_7 rfl ?_
  refine g_callv (va_runIN (As := []) (rest := [.ref o_2]) ⟨hx, hb, hml, hown, hts⟩ (mtX11_init l D w_3 H.size o_2 h_5) ⟨(va_cnB 0 hts (lw_meth q1160) rfl rfl rfl (nm_q1158 hE) (hts _ q75) (by decide +kernel) ⟨Nat.le_of_ble_eq_true rfl, Nat.le_of_ble_eq_true rfl⟩), rfl, hts _ q1159⟩ (g_preS hW hK hE) rfl rfl hl.1 rfl (lv_room (Nat.le_of_ble_eq_true rfl)) dX1_count_8 ⟨?_, ?_⟩) hW (fun u1 H locs hp hW => ?_)
  · (try simp only [headSpec]); omega
  · (try simp only [headSpec]); omega
  obtain ⟨da, fda0, hd, hex1⟩ := hp
  have hxa : g_ex (fun _ => False) w u1 := x_6.trM hex1 (fun z hz1 hz2 => ho_2 (hz2 ▸ hz1))
  have fd : o_2 ∉ w.1 := ho_2
  have fda : da ∉ w.1 := fun z => fda0 (x_6.1 _ z)
  have hS1 := hS.new hxa 0
  have hy : yCh w lab u1 (lb lab w 0) := yCh.nw hxa 0
  have hld : lb lab w 0 o_2 = 0 ∧ lb lab w 0 da = 0 := ⟨lb_out fd, lb_out fda⟩
  rw [show cp = cpU cp 9 (cp 9) from cpU_id.symm] at hS1
  refine lv_astore_n (lv' := [(3, .ref o_2), (0, .ref x), (1, .ref (D.2 1003 v9)), (2, .int (nI N))]) hx hb dX1_count_11 rfl hl (by decide) rfl (fun ls hl => ?_)
  refine lv_iconst (v := 0) hx hb dX1_count_12 (by decide) ?_
  refine lv_istore (lv' := [(4, .int (0)), (3, .ref o_2), (0, .ref x), (1, .ref (D.2 1003 v9)), (2, .int (nI N))]) hx hb dX1_count_13 hl (by decide) rfl (fun ls hl => ?_)
  refine lv_iconst (v := 0) hx hb dX1_count_15 (by decide) ?_
  refine lv_istore (lv' := [(5, .int (0)), (4, .int (0)), (3, .ref o_2), (0, .ref x), (1, .ref (D.2 1003 v9)), (2, .int (nI N))]) hx hb dX1_count_16 hl (by decide) rfl (fun ls hl => ?_)
  refine lpX1_count2 (D := D) hx hb hts hown hK hE hml (Nat.le_of_ble_eq_true rfl) (Nat.le_of_ble_eq_true rfl) w lab x ac rn tt o_2 da N rf P C A9 cov K Q9 F cp fd fda hN (3 + ((rFold P (octs 0 N) (cp 9)) - cp 9)) (20 + 2 * ((rFold P (octs 0 N) (cp 9)) - cp 9)) _ ?_ ?_ v9 _ hv9 (fun w1 l1 cells slots H locs ls hcl hsl hS2 hy2 hW hl => ?_) (N + 2) 0 (cp 9) 0 [] u1 _ _ _ H locs ls (by omega) (by omega) rfl (Nat.zero_add _) ?_ ?_ hS1 hy hd hld hW (lv_sub hl [0, 1, 3, 4, 5, 2] rfl)
  · (try simp only [headSpec]); omega
  · (try simp only [headSpec]); omega
  · refine lv_iload hx hb dX1_count_72 (lv_at hl 0 rfl) ?_
    exact vx_ret (g_iret (v := nI (cCount P v9 (octs 0 N))) hx hb hr hlocks hW (⟨hsh, rfl, l1, hS2, hy2⟩) (by omega) (by omega) dX1_count_74)
  · (try simp only [headSpec]); omega
  · (try simp only [headSpec]); omega
set_option maxHeartbeats 4000000 in
set_option maxRecDepth 100000 in
/-- ShrinkYard.smallest: of one length -/
theorem lpX1_smallest1 {p : Program} {l : Launch} {e : Env} {R : Room} {s : State} {m : MethodId} {args : Array Value} {below : List Frame} {meth : Method} {c : Code} {Q : State → Prop} {D : va_G} {A : Nat → Prop} (hx : p.tables.exec = Jvm.exec) (hb : c.code = cX1_smallest) (hts : ∀ w ∈ lw_all, w.before args s = true) (hown : s.vm.findClass RX1 = some m.cls) (hK : va_K D gCl (gT D) s) (hE : g_Env D A s) (hml : c.maxLocals = 5) (hRf : 8 ≤ R.frames) (hRl : 213 ≤ R.locals) (w : g_H) (lab : Nat → Nat) (x ac rn tt d da N : Nat) (rf : Nat → Nat) (P : List mI) (C : List yC) (A9 : Nat → List (List Nat)) (cov : Nat → Bool) (K Q9 : List (List Nat)) (F : List (List Nat × List Nat × Int32)) (cp : Nat → Nat) (fd : d ∉ w.1) (fda : da ∉ w.1) (hN : N ≤ 3) (CF SF capF : Nat) (hRc : CF ≤ R.cells) (hRs : SF ≤ R.slots) (c9 : Int32) (rF : Option (List Nat)) (n : Nat) (hn : n ≤ N) (rest : List (List Nat)) (kf : ∀ (zs : List Nat) (w1 : g_H) (l1 : Nat → Nat) (cells slots : Nat) (H : Heap) (locs : List Loc) (ls : Array Slot), rF = some zs → sDg zs → cells ≤ CF → slots ≤ SF → g_SZ D w1 l1 x rf P C A9 cov K Q9 ac F rn tt (cpU cp 9 capF) → yCh w lab w1 l1 → g_Dig D w1 d da zs → (l1 d = 0 ∧ l1 da = 0) → g_W D A s.heap H locs w1 → lv_has ls 5 [(3, .ref d)] → W p l e R s m args below meth c H locs cells slots Q (F0 m 39 ls []))
    (kk : ∀ (cap : Nat) (w1 : g_H) (l1 : Nat → Nat) (cells : Nat) (slots : Nat) (H : Heap) (locs : List Loc) (ls : Array Slot), (sFind P c9 (rest) cap).1 = rF → (sFind P c9 (rest) cap).2 = capF → cells + (capF - cap) ≤ CF → slots + 2 * (capF - cap) ≤ SF → g_SZ D w1 l1 x rf P C A9 cov K Q9 ac F rn tt (cpU cp 9 cap) → yCh w lab w1 l1 → g_Dig D w1 d da (oct n (8 ^ n)) → (l1 d = 0 ∧ l1 da = 0) → g_W D A s.heap H locs w1 → lv_has ls 5 [(4, .int (nI n)), (0, .ref x), (1, .int (c9)), (2, .int (nI N)), (3, .ref d)] → W p l e R s m args below meth c H locs cells slots Q (F0 m 51 ls [])) :
    ∀ (k : Nat) (j : Nat) (cap : Nat) (w1 : g_H) (l1 : Nat → Nat) (cells : Nat) (slots : Nat) (H : Heap) (locs : List Loc) (ls : Array Slot), 8 ^ n < j + k → j < 8 ^ n → (sFind P c9 (octR n j ++ rest) cap).1 = rF → (sFind P c9 (octR n j ++ rest) cap).2 = capF → cells + (capF - cap) ≤ CF → slots + 2 * (capF - cap) ≤ SF → g_SZ D w1 l1 x rf P C A9 cov K Q9 ac F rn tt (cpU cp 9 cap) → yCh w lab w1 l1 → g_Dig D w1 d da (oct n j) → (l1 d = 0 ∧ l1 da = 0) → g_W D A s.heap H locs w1 → lv_has ls 5 [(4, .int (nI n)), (0, .ref x), (1, .int (c9)), (2, .int (nI N)), (3, .ref d)] → W p l e R s m args below meth c H locs cells slots Q (F0 m 27 ls []) := by
  intro k
  induction k with
  | zero => intro j cap w1 l1 cells slots H locs ls hfuel hj hs1 hs2 hcl hsl hS1 hy hd hld hW hl; exact absurd hfuel (by omega)
  | succ k ih =>
    intro j cap w1 l1 cells slots H locs ls hfuel hj hs1 hs2 hcl hsl hS1 hy hd hld hW hl
    rw [octR_cons hj, List.cons_append] at hs1 hs2
    unfold sFind at hs1 hs2
    have hq1 := mC_ge P cap (oct n j)
    have hq2 := sFind_ge P c9 (octR n (j + 1) ++ rest) (mC P cap (oct n j))
    have hq3 : mC P cap (oct n j) ≤ capF := by rw [← hs2]; split; exact Nat.le_refl _; exact hq2
    have hq4 : bsC cap (mOut P (oct n j)).2.2.2 = mC P cap (oct n j) := rfl
    refine lv_aload_n hx hb dX1_smallest_27 rfl (lv_at hl 1 rfl) ?_
    refine g_get (ci := 0) (v := .ref (rf 9)) (C := RX1) (T := TX1) (N := 11) hx hb hts in_X1 hown hK hW hS1.1.1 rfl 3 (by decide) q357 (fun _ h9 => h9) rfl dX1_smallest_28 ?_
    refine lv_aload_n hx hb dX1_smallest_31 rfl (lv_at hl 4 rfl) ?_
    refine lv_iload_n hx hb dX1_smallest_32 rfl (lv_at hl 2 rfl) ?_
    obtain ⟨ra, eb, wb, vv, cd, st9, E9, n9, par, ps, hMa, hPg, ⟨m1, m2, m3, m4⟩, -, hcl⟩ := hS1.mach hK
    rw [cpU_self] at hMa
    obtain ⟨rd9, hm0⟩ := hMa.1
    refine g_calli (va_runV (As := [.ref d, .int (c9)]) (rest := []) ⟨hx, hb, hml, hown, hts⟩ (mtX2_isFailing l D w1 H.size (rf 9) ra eb wb x st9 n9 cap d da (rf 2) par _ vv cd E9 _ _ _ _ _ _ _ _ _ _ ps P (oct n j) hMa hS1.1.1 hPg hd (fun z => by rw [z, hld.2] at m2; exact absurd m2 (by decide)) c9) (cwV 2 hts (lw_V q1544 q1545 q1546 q38 q1547) rfl rfl rfl (by decide +kernel) ⟨Nat.le_trans (Nat.le_of_ble_eq_true rfl) hRf, Nat.le_trans (Nat.le_of_ble_eq_true rfl) hRl⟩) (g_preV hW hK hE hm0 rfl) rfl rfl hl.1 rfl (lv_room (Nat.le_of_ble_eq_true rfl)) dX1_smallest_33 ⟨?_, ?_⟩) hW (fun r_ u2 H locs hp hW => ?_)
    · (try simp only [headSpec]); omega
    · (try simp only [headSpec]); omega
    obtain ⟨er, wb2, hMa2, hwb2, hxr⟩ := hp
    have hS2 := hcl _ wb2 _ _ _ _ _ _ hMa2 hwb2 hxr
    rw [cpU_cpU] at hS2
    have h9 : ∀ z, z ∈ w.1 → l1 z = 9 → yM lab z := fun z hz e => by rw [hy.1 z hz] at e; unfold yM; omega
    have hy2 : yCh w lab u2 (lb l1 w1 9) := hy.next hxr (fun z hz hq => by rcases hq with q | q | q | q <;> subst q <;> exact h9 _ hz (by assumption)) 9
    obtain ⟨rd2, hm2⟩ := hMa2.1
    obtain ⟨ld, lda⟩ := id hld
    have hd2 := hd.ex hxr (fun z => by rcases z with z | z | z | z <;> rw [z] at ld <;> omega) (fun z => by rcases z with z | z | z | z <;> rw [z] at lda <;> omega)
    have hda1 : da ∈ w1.1 := by obtain ⟨f9, hf9, -⟩ := hd.2.1; exact hf9.1
    have hld2 : lb l1 w1 9 d = 0 ∧ lb l1 w1 9 da = 0 := ⟨(lb_in _ hd.1.1).trans ld, (lb_in _ hda1).trans lda⟩
    subst er
    by_cases hfl : mFails P (oct n j) c9 = true
    · rw [if_pos hfl]
      rw [if_pos hfl] at hs1 hs2
      refine lv_if_eq (tgt := 44) hx hb dX1_smallest_36 (by decide) (fun hz => absurd hz (by decide)) (fun _ => ?_)
      exact kf (oct n j) u2 _ _ _ H locs ls hs1.symm (oct_sDg (by omega)) (by omega) (by omega) (by rw [← hs2]; exact hS2) hy2 hd2 hld2 hW (lv_sub hl [4] rfl)
    · rw [if_neg hfl]
      rw [if_neg hfl] at hs1 hs2
      refine lv_if_eq (tgt := 44) hx hb dX1_smallest_36 (by decide) (fun _ => ?_) (fun hz => absurd rfl hz)
      refine lv_aload_n hx hb dX1_smallest_44 rfl (lv_at hl 4 rfl) ?_
      obtain ⟨hd21, ⟨g2, hd2g, hd2i⟩, hd28⟩ := id hd2
      rw [oct_len] at hd21
      refine g_calli (va_runV (As := []) (rest := []) ⟨hx, hb, hml, hown, hts⟩ (mtX11_isNext l D u2 H.size d da n g2 hd21 hd2g (by omega)) (cwV 0 hts (lw_V q1821 q1822 q1823 q75 q1824) rfl rfl rfl (by decide +kernel) ⟨Nat.le_trans (Nat.le_of_ble_eq_true rfl) hRf, Nat.le_trans (Nat.le_of_ble_eq_true rfl) hRl⟩) (g_preV hW hK hE hd21 rfl) rfl rfl hl.1 rfl (lv_room (Nat.le_of_ble_eq_true rfl)) dX1_smallest_45 ⟨?_, ?_⟩) hW (fun r_ u3 H locs hp hW => ?_)
      · (try simp only [headSpec]); omega
      · (try simp only [headSpec]); omega
      obtain ⟨i9, f9, hi1, hi2, hi3, hi4, hi5, hi6, er, hd31, hd3g, hx3⟩ := hp
      subst er
      obtain ⟨on1, on2⟩ := oct_next (by omega) hj hd2i hi1 hi2 hi3 hi4 hi5 hi6
      have hd3 : g_Dig D u3 d da (oct n (j + 1)) := ⟨by rw [oct_len]; exact hd31, ⟨f9, hd3g, on1⟩, by rw [oct_len]; omega⟩
      have hda2 : da ∈ u2.1 := by obtain ⟨f9, hf9, -⟩ := hd2.2.1; exact hf9.1
      have hS3 := hS2.keep (lab' := lb (lb l1 w1 9) u2 0) hx3 (hd2.mut hK) lb_in (fun z _ hq => Or.inl (by rcases hq with q | q <;> rw [q] <;> first | exact hld2.1 | exact hld2.2))
      have hy3 : yCh w lab u3 (lb (lb l1 w1 9) u2 0) := hy2.next hx3 (fun z hz hq => (hq.elim (fun q => fd (q ▸ hz)) (fun q => fda (q ▸ hz))).elim) 0
      have hld3 : lb (lb l1 w1 9) u2 0 d = 0 ∧ lb (lb l1 w1 9) u2 0 da = 0 := ⟨(lb_in _ hd2.1.1).trans hld2.1, (lb_in _ hda2).trans hld2.2⟩
      by_cases hi0 : i9 = 0
      · rw [if_pos hi0]
        refine lv_if_ne (tgt := 27) hx hb dX1_smallest_48 (by decide) (fun hz => absurd rfl hz) (fun _ => ?_)
        have hje : j + 1 = 8 ^ n := on2.mp hi0
        rw [hje] at hs1 hs2 hd3
        rw [octR_end (Nat.le_refl _), List.nil_append] at hs1 hs2
        exact kk _ u3 _ _ _ H locs ls hs1 hs2 (by omega) (by omega) hS3 hy3 hd3 hld3 hW (lv_sub hl [0, 1, 2, 3, 4] rfl)
      · rw [if_neg hi0]
        refine lv_if_ne (tgt := 27) hx hb dX1_smallest_48 (by decide) (fun _ => ?_) (fun hz => absurd (by first | exact hz | exact Classical.not_not.mp hz) (by decide))
        have hjn : j + 1 < 8 ^ n := by have := fun z => hi0 (on2.mpr z); omega
        exact ih (j + 1) _ u3 _ _ _ H locs ls (by omega) hjn hs1 hs2 (by omega) (by omega) hS3 hy3 hd3 hld3 hW hl
set_option maxHeartbeats 4000000 in
set_option maxRecDepth 100000 in
/-- ShrinkYard.smallest: its loop -/
theorem lpX1_smallest2 {p : Program} {l : Launch} {e : Env} {R : Room} {s : State} {m : MethodId} {args : Array Value} {below : List Frame} {meth : Method} {c : Code} {Q : State → Prop} {D : va_G} {A : Nat → Prop} (hx : p.tables.exec = Jvm.exec) (hb : c.code = cX1_smallest) (hts : ∀ w ∈ lw_all, w.before args s = true) (hown : s.vm.findClass RX1 = some m.cls) (hK : va_K D gCl (gT D) s) (hE : g_Env D A s) (hml : c.maxLocals = 5) (hRf : 8 ≤ R.frames) (hRl : 213 ≤ R.locals) (w : g_H) (lab : Nat → Nat) (x ac rn tt d da N : Nat) (rf : Nat → Nat) (P : List mI) (C : List yC) (A9 : Nat → List (List Nat)) (cov : Nat → Bool) (K Q9 : List (List Nat)) (F : List (List Nat × List Nat × Int32)) (cp : Nat → Nat) (fd : d ∉ w.1) (fda : da ∉ w.1) (hN : N ≤ 3) (CF SF capF : Nat) (hRc : CF ≤ R.cells) (hRs : SF ≤ R.slots) (c9 : Int32) (rF : Option (List Nat)) (kf : ∀ (zs : List Nat) (w1 : g_H) (l1 : Nat → Nat) (cells slots : Nat) (H : Heap) (locs : List Loc) (ls : Array Slot), rF = some zs → sDg zs → cells ≤ CF → slots ≤ SF → g_SZ D w1 l1 x rf P C A9 cov K Q9 ac F rn tt (cpU cp 9 capF) → yCh w lab w1 l1 → g_Dig D w1 d da zs → (l1 d = 0 ∧ l1 da = 0) → g_W D A s.heap H locs w1 → lv_has ls 5 [(3, .ref d)] → W p l e R s m args below meth c H locs cells slots Q (F0 m 39 ls []))
    (kk : ∀ (w1 : g_H) (l1 : Nat → Nat) (cells slots : Nat) (H : Heap) (locs : List Loc) (ls : Array Slot), rF = none → cells ≤ CF → slots ≤ SF → g_SZ D w1 l1 x rf P C A9 cov K Q9 ac F rn tt (cpU cp 9 capF) → yCh w lab w1 l1 → g_W D A s.heap H locs w1 → lv_has ls 5 [(3, .ref d)] → W p l e R s m args below meth c H locs cells slots Q (F0 m 57 ls [])) :
    ∀ (k : Nat) (n : Nat) (cap : Nat) (zs : List Nat) (w1 : g_H) (l1 : Nat → Nat) (cells : Nat) (slots : Nat) (H : Heap) (locs : List Loc) (ls : Array Slot), N + 1 < n + k → n ≤ N + 1 → (sFind P c9 (octs n N) cap).1 = rF → (sFind P c9 (octs n N) cap).2 = capF → cells + (capF - cap) ≤ CF → slots + 2 * (capF - cap) ≤ SF → g_SZ D w1 l1 x rf P C A9 cov K Q9 ac F rn tt (cpU cp 9 cap) → yCh w lab w1 l1 → g_Dig D w1 d da zs → (l1 d = 0 ∧ l1 da = 0) → g_W D A s.heap H locs w1 → lv_has ls 5 [(4, .int (nI n)), (0, .ref x), (1, .int (c9)), (2, .int (nI N)), (3, .ref d)] → W p l e R s m args below meth c H locs cells slots Q (F0 m 15 ls []) := by
  intro k
  induction k with
  | zero => intro n cap zs w1 l1 cells slots H locs ls hfuel hn hs1 hs2 hcl hsl hS1 hy hd hld hW hl; exact absurd hfuel (by omega)
  | succ k ih =>
    intro n cap zs w1 l1 cells slots H locs ls hfuel hn hs1 hs2 hcl hsl hS1 hy hd hld hW hl
    refine lv_iload hx hb dX1_smallest_15 (lv_at hl 0 rfl) ?_
    refine lv_iload_n hx hb dX1_smallest_17 rfl (lv_at hl 3 rfl) ?_
    refine g_icmp_gt (x := n) (y := N) (tgt := 57) hx hb (by omega) (by omega) dX1_smallest_18 (by decide) (fun hc => ?_) (fun hc => ?_)
    · rw [octs_end (by omega)] at hs1 hs2
      have hs1 : none = rF := hs1
      have hs2 : cap = capF := hs2
      rw [hs2] at hS1
      exact kk w1 l1 cells slots H locs ls hs1.symm (by omega) (by omega) hS1 hy hW (lv_sub hl [4] rfl)
    · rw [octs_cons (by omega)] at hs1 hs2
      refine lv_aload_n hx hb dX1_smallest_21 rfl (lv_at hl 4 rfl) ?_
      refine lv_iload hx hb dX1_smallest_22 (lv_at hl 0 rfl) ?_
      refine g_callv (va_runV (As := [.int (nI n)]) (rest := []) ⟨hx, hb, hml, hown, hts⟩ (mtX11_clear l D w1 H.size d da n zs hd (by omega)) (cwV 1 hts (lw_V q1817 q1818 q1819 q75 q1820) rfl rfl rfl (by decide +kernel) ⟨Nat.le_trans (Nat.le_of_ble_eq_true rfl) hRf, Nat.le_trans (Nat.le_of_ble_eq_true rfl) hRl⟩) (g_preV hW hK hE hd.1 rfl) rfl rfl hl.1 rfl (lv_room (Nat.le_of_ble_eq_true rfl)) dX1_smallest_24 ⟨?_, ?_⟩) hW (fun u1 H locs hp hW => ?_)
      · (try simp only [headSpec]); omega
      · (try simp only [headSpec]); omega
      obtain ⟨hd3, hx3⟩ := hp
      rw [← oct_0 n (by omega)] at hd3
      have hda2 : da ∈ w1.1 := by obtain ⟨f9, hf9, -⟩ := hd.2.1; exact hf9.1
      have hS3 := hS1.keep (lab' := lb l1 w1 0) hx3 (hd.mut hK) lb_in (fun z _ hq => Or.inl (by rcases hq with q | q <;> rw [q] <;> first | exact hld.1 | exact hld.2))
      have hy3 : yCh w lab u1 (lb l1 w1 0) := hy.next hx3 (fun z hz hq => (hq.elim (fun q => fd (q ▸ hz)) (fun q => fda (q ▸ hz))).elim) 0
      have hld3 : lb l1 w1 0 d = 0 ∧ lb l1 w1 0 da = 0 := ⟨(lb_in _ hd.1.1).trans hld.1, (lb_in _ hda2).trans hld.2⟩
      refine lpX1_smallest1 (D := D) hx hb hts hown hK hE hml hRf hRl w lab x ac rn tt d da N rf P C A9 cov K Q9 F cp fd fda hN CF SF capF hRc hRs c9 rF n (by omega) (octs (n + 1) N) kf (fun cap w1 l1 cells slots H locs ls hs1 hs2 hcl hsl hS1 hy hd hld hW hl => ?_) (8 ^ n + 1) 0 cap u1 _ cells slots H locs ls (by omega) (Nat.pow_pos (by decide)) hs1 hs2 hcl hsl hS3 hy3 hd3 hld3 hW (lv_sub hl [0, 1, 2, 3, 4] rfl)
      refine lv_iinc (v := nI (n + 1)) (lv' := [(4, .int (nI (n + 1))), (0, .ref x), (1, .int (c9)), (2, .int (nI N)), (3, .ref d)]) hx hb dX1_smallest_51 hl (k := 0) rfl (nI_1 n) (by decide) rfl (fun ls hl => ?_)
      refine lv_goto (tgt := 15) hx hb dX1_smallest_54 (by decide) ?_
      exact ih (n + 1) cap _ w1 l1 _ _ H locs ls (by omega) (by omega) hs1 hs2 hcl hsl hS1 hy hd hld hW (lv_sub hl [0, 1, 2, 3, 4] rfl)
set_option maxHeartbeats 4000000 in
set_option maxRecDepth 100000 in
/-- ShrinkYard.smallest -/
theorem mtX1_smallest (l : Launch) (hl9 : l.stackTraces = false) (D : va_G) (w : g_H) (sz : Nat) (lab : Nat → Nat) (x ac rn tt : Nat) (rf : Nat → Nat) (P : List mI) (C : List yC) (A9 : Nat → List (List Nat)) (cov : Nat → Bool) (K Q9 : List (List Nat)) (F : List (List Nat × List Nat × Int32)) (cp : Nat → Nat) (hS : g_SZ D w lab x rf P C A9 cov K Q9 ac F rn tt cp) (c9 n9 : Int32) : vx_Met l yX1_smallest (ws_ yX1_smallest cX1_smallest 5 (some (.object "java/lang/String"))) ({ frames := 10, cells := 8 + ((sFind P c9 (octs 0 n9.toNatClampNeg) (cp 9)).2 - cp 9), slots := 56 + 2 * ((sFind P c9 (octs 0 n9.toNatClampNeg) (cp 9)).2 - cp 9), locals := 213 }) (g_Pc D [.ref x, .int (c9), .int (n9)] w sz) (g_Qq D w sz (fun r u => (0 ≤ n9 ∧ n9 ≤ 3) ∧ ∃ zs s9 l2, (sFind P c9 (octs 0 n9.toNatClampNeg) (cp 9)).1 = some zs ∧ r = some s9 ∧ s9 ∉ w.1 ∧ g_Str D u s9 (txt zs) ∧ g_SZ D u l2 x rf P C A9 cov K Q9 ac F rn tt (cpU cp 9 (sFind P c9 (octs 0 n9.toNatClampNeg) (cp 9)).2) ∧ yCh w lab u l2)) (g_XC D w sz (fun E u => (E = "java/lang/IllegalArgumentException" ∧ ¬ (0 ≤ n9 ∧ n9 ≤ 3) ∧ w = u) ∨ (E = "java/util/NoSuchElementException" ∧ (0 ≤ n9 ∧ n9 ≤ 3) ∧ (sFind P c9 (octs 0 n9.toNatClampNeg) (cp 9)).1 = none ∧ ∃ l2, g_SZ D u l2 x rf P C A9 cov K Q9 ac F rn tt (cpU cp 9 (sFind P c9 (octs 0 n9.toNatClampNeg) (cp 9)).2) ∧ yCh w lab u l2))) (8 + ((sFind P c9 (octs 0 n9.toNatClampNeg) (cp 9)).2 - cp 9)) (56 + 2 * ((sFind P c9 (octs 0 n9.toNatClampNeg) (cp 9)).2 - cp 9)) (g_A w sz) := by
  refine vx_ofW (cc := cX1_smallest) (maxL := 5) (ret := (some (.object "java/lang/String"))) (by decide) rfl ?_
  intro p e s m args below meth c s₁ B hml hhand hv
  have hout : ∀ pc : Nat, ∀ x ∈ c.exceptionTable.toList, covers x pc = false := fun _ x hx => (hhand x hx).elim
  obtain ⟨rfl, hI⟩ := hv
  have hx := B.exec
  have hb := B.bytes
  have hr := B.returns
  have hts := atoms_spec (ws := ws_ yX1_smallest cX1_smallest 5 (some (.object "java/lang/String"))) B.pre
  have hts : ∀ w ∈ lw_all, w.before _ s = true := fun w h => hts w (List.mem_cons_of_mem _ h)
  have hown : s.vm.findClass RX1 = some m.cls := findClass_of_methodNamed B.named
  have hlocks := B.notSynchronized
  have hsz := hI.1
  subst hsz
  have hW := g_W.start hI
  have hK := g_K hI
  have hE := g_E hI
  have hl := lv_entry ([.ref x, .int (c9), .int (n9)]) (n := 5) (by exact Nat.le_of_ble_eq_true rfl)
  rw [lg_entry_eq]
  generalize (lg_sl ([.ref x, .int (c9), .int (n9)]) ++ List.replicate (5 - (lg_sl ([.ref x, .int (c9), .int (n9)])).length) Slot.unset).toArray = ls at hl ⊢
  have hl : lv_has ls 5 [(0, .ref x), (1, .int (c9)), (2, .int (n9))] := hl
  have hge := rFold_ge P (octs 0 n9.toNatClampNeg) (cp 9)
  refine lv_iload_n hx hb dX1_smallest_0 rfl (lv_at hl 2 rfl) ?_
  refine g_xcallv (vx_runS (As := [.int (n9)]) (rest := []) ⟨hx, hb, hml, hown, hts⟩ (mtX1_requireShort l hl9 D w s.heap.size n9) (va_cwS 1 hts (lw_S q1814 q1815 q34 q1816) rfl rfl rfl (by decide +kernel) ⟨Nat.le_of_ble_eq_true rfl, Nat.le_of_ble_eq_true rfl⟩) (g_preS hW hK hE) rfl rfl hl.1 rfl (lv_room (Nat.le_of_ble_eq_true rfl)) dX1_smallest_1 ⟨?_, ?_⟩) hW (fun E ce q9 u_ H locs hp hW hxc1 hxc2 hxc3 => g_xout (hout _) hlocks hW (Or.inl ⟨hp.1, hp.2.1, hp.2.2⟩) hxc1 hxc2 hxc3 ?_ ?_) (fun u_ H locs hp hW => ?_)
  · (try simp only [headSpec]); omega
  · (try simp only [headSpec]); omega
  · (try simp only [headSpec]); omega
  · (try simp only [headSpec]); omega
  obtain ⟨hsh, rfl⟩ := hp
  obtain ⟨N, hN31, rfl⟩ := nI_of (Int32.not_lt.mpr hsh.1)
  have eN : (nI N).toNatClampNeg = N := nI_clamp hN31
  rw [eN] at hge ⊢
  have hN : N ≤ 3 := Nat.le_of_not_lt (fun z => Int32.not_le.mpr ((nI_ltI (a := 3) (by decide) hN31).mpr z) hsh.2)
  have x_1 : g_ex (fun _ => False) w w := g_ex.rf
  refine g_newo (ci := 2) (C := RX11) (T := TX11) (N := 2) hx hb hts in_X11 tyX11 tyX11_ok hown q1156 q1157 q75 hK hW rfl [.null, .int (0)] (by decide +kernel) ?_ ?_ dX1_smallest_4 (fun o_2 H hq hW => ?_)
  · show _ ≤ 8 + ((sFind P c9 (octs 0 N) (cp 9)).2 - cp 9); omega
  · show _ ≤ 56 + 2 * ((sFind P c9 (octs 0 N) (cp 9)).2 - cp 9); omega
  have ho_2 := hq
  obtain ⟨w_3, ew_3⟩ : ∃ z__, z__ = g_push w o_2 (.inr (2, [.null, .int (0)])) := ⟨_, rfl⟩
  have hW := g_W.ren hW ew_3 rfl
  have h_4 : g_at w_3 x (.inr (0, [.ref (rf 2), .ref (rf 3), .ref (rf 4), .ref (rf 9), .ref (rf 10), .ref (rf 11), .ref (rf 12), .ref (rf 13), .int (nI rn), .long (lN tt), .int (nI ac)])) := by rw [ew_3]; exact hS.1.1.push hq
  have h_5 : g_at w_3 o_2 (.inr (2, [.null, .int (0)])) := by rw [ew_3]; exact g_at.push_self
  have x_6 : g_ex (fun _ => False) w w_3 := by rw [ew_3]; exact x_1.push hq
  refine lv_dup hx hb dX1_smallest_7 rfl ?_
  refine g_callv (va_runIN (As := []) (rest := [.ref o_2]) ⟨hx, hb, hml, hown, hts⟩ (mtX11_init l D w_3 H.size o_2 h_5) ⟨(va_cnB 0 hts (lw_meth q1160) rfl rfl rfl (nm_q1158 hE) (hts _ q75) (by decide +kernel) ⟨Nat.le_of_ble_eq_true rfl, Nat.le_of_ble_eq_true rfl⟩), rfl, hts _ q1159⟩ (g_preS hW hK hE) rfl rfl hl.1 rfl (lv_room (Nat.le_of_ble_eq_true rfl)) dX1_smallest_8 ⟨?_, ?_⟩) hW (fun u1 H locs hp hW => ?_)
  · (try simp only [headSpec]); omega
  · (try simp only [headSpec]); omega
  obtain ⟨da, fda0, hd, hex1⟩ := hp
  have hxa : g_ex (fun _ => False) w u1 := x_6.trM hex1 (fun z hz1 hz2 => ho_2 (hz2 ▸ hz1))
  have fd : o_2 ∉ w.1 := ho_2
  have fda : da ∉ w.1 := fun z => fda0 (x_6.1 _ z)
  have hS1 := hS.new hxa 0
  have hy : yCh w lab u1 (lb lab w 0) := yCh.nw hxa 0
  have hld : lb lab w 0 o_2 = 0 ∧ lb lab w 0 da = 0 := ⟨lb_out fd, lb_out fda⟩
  rw [show cp = cpU cp 9 (cp 9) from cpU_id.symm] at hS1
  have hge2 := sFind_ge P c9 (octs 0 N) (cp 9)
  refine lv_astore_n (lv' := [(3, .ref o_2), (0, .ref x), (1, .int (c9)), (2, .int (nI N))]) hx hb dX1_smallest_11 rfl hl (by decide) rfl (fun ls hl => ?_)
  refine lv_iconst (v := 0) hx hb dX1_smallest_12 (by decide) ?_
  refine lv_istore (lv' := [(4, .int (0)), (3, .ref o_2), (0, .ref x), (1, .int (c9)), (2, .int (nI N))]) hx hb dX1_smallest_13 hl (by decide) rfl (fun ls hl => ?_)
  refine lpX1_smallest2 (D := D) hx hb hts hown hK hE hml (Nat.le_of_ble_eq_true rfl) (Nat.le_of_ble_eq_true rfl) w lab x ac rn tt o_2 da N rf P C A9 cov K Q9 F cp fd fda hN (3 + ((sFind P c9 (octs 0 N) (cp 9)).2 - cp 9)) (16 + 2 * ((sFind P c9 (octs 0 N) (cp 9)).2 - cp 9)) _ ?_ ?_ c9 _ (fun zs w1 l1 cells slots H locs ls hrf hzs hcl hsl hS2 hy2 hd2 hld2 hW hl => ?_) (fun w1 l1 cells slots H locs ls hrf hcl hsl hS2 hy2 hW hl => ?_) (N + 2) 0 (cp 9) [] u1 _ _ _ H locs ls (by omega) (by omega) rfl rfl ?_ ?_ hS1 hy hd hld hW (lv_sub hl [0, 2, 3, 4, 1] rfl)
  · (try simp only [headSpec]); omega
  · (try simp only [headSpec]); omega
  · refine lv_aload_n hx hb dX1_smallest_39 rfl (lv_at hl 0 rfl) ?_
    have hle8 := hzs.1
    refine g_callq (va_runV (As := []) (rest := []) ⟨hx, hb, hml, hown, hts⟩ (mtX11_text l D w1 H.size o_2 da zs hd2 (fun x hx => Nat.le_of_lt_succ (Nat.lt_of_lt_of_le (hzs.2 x hx) (by decide)))) (cwV 0 hts (lw_V q1268 q1269 q1270 q75 q1271) rfl rfl rfl (by decide +kernel) ⟨Nat.le_of_ble_eq_true rfl, Nat.le_of_ble_eq_true rfl⟩) (g_preV hW hK hE hd2.1 rfl) rfl rfl hl.1 rfl (lv_room (Nat.le_of_ble_eq_true rfl)) dX1_smallest_40 ⟨?_, ?_⟩) hW (fun r_ u4 H locs hp hW => ?_)
    · (try simp only [headSpec]); omega
    · (try simp only [headSpec]); omega
    obtain ⟨s9, er, fs, hs9, hx5⟩ := hp
    subst er
    exact vx_ret (g_qret (v := some s9) hx hb hr (Or.inl ⟨_, rfl⟩) hlocks hW (⟨hsh, zs, s9, _, hrf, rfl, fun z => fs (hy2.2.1 _ z), hs9, hS2.new hx5 0, hy2.tr (yCh.nw hx5 0)⟩) (by omega) (by omega) dX1_smallest_43)
  · refine vx_throw0 (names := ["java/lang/RuntimeException", "java/lang/Exception"]) (A := g_A w s.heap.size) hx hb hl9 hown (by decide +kernel) (by decide +kernel) (hts _ q1092) (hts _ q73) (g_hat5 hts hE) (by decide +kernel) hE.un hE.su hW.2.2.1 (hl.1.trans hml.symm) dX1_smallest_57 dX1_smallest_60 dX1_smallest_61 dX1_smallest_64 (hout _) (Nat.le_of_ble_eq_true rfl) (Nat.le_of_ble_eq_true rfl) ?_ ?_ hlocks (g_xmade hW (Or.inr ⟨rfl, hsh, hrf, l1, hS2, hy2⟩)) hW.2.2.1.2.2 ?_ ?_
    · (try simp only [headSpec]); omega
    · (try simp only [headSpec]); omega
    · (try simp only [headSpec]); omega
    · (try simp only [headSpec]); omega
  · (try simp only [headSpec]); omega
  · (try simp only [headSpec]); omega
set_option maxHeartbeats 4000000 in
set_option maxRecDepth 100000 in
/-- ShrinkYard.reachable: of one length -/
theorem lpX1_reachable1 {p : Program} {l : Launch} {e : Env} {R : Room} {s : State} {m : MethodId} {args : Array Value} {below : List Frame} {meth : Method} {c : Code} {Q : State → Prop} {D : va_G} {A : Nat → Prop} (hx : p.tables.exec = Jvm.exec) (hb : c.code = cX1_reachable) (hts : ∀ w ∈ lw_all, w.before args s = true) (hown : s.vm.findClass RX1 = some m.cls) (hK : va_K D gCl (gT D) s) (hE : g_Env D A s) (hml : c.maxLocals = 5) (hRf : 7 ≤ R.frames) (hRl : 191 ≤ R.locals) (w : g_H) (lab : Nat → Nat) (x ac rn tt d da N : Nat) (rf : Nat → Nat) (P : List mI) (C : List yC) (A9 : Nat → List (List Nat)) (cov : Nat → Bool) (K Q9 : List (List Nat)) (F : List (List Nat × List Nat × Int32)) (cp : Nat → Nat) (fd : d ∉ w.1) (fda : da ∉ w.1) (hN : N ≤ 3) (CF SF capF : Nat) (hRc : CF ≤ R.cells) (hRs : SF ≤ R.slots) (EF : Nat → Bool) (cF2 b : Nat) (fb9 : b ∉ w.1) (n : Nat) (hn : n ≤ N) (rest : List (List Nat)) 
    (kk : ∀ (cap : Nat) (cap2 : Nat) (n2 : Nat) (wa : Nat) (E2 : Nat → Bool) (w1 : g_H) (l1 : Nat → Nat) (cells : Nat) (slots : Nat) (H : Heap) (locs : List Loc) (ls : Array Slot), rFold P (rest) cap = capF → rE P (rest) E2 = EF → rF2 P (rest) cap2 = cF2 → cells + (capF - cap) + (cF2 - cap2) ≤ CF → slots + 2 * (capF - cap) + 2 * (cF2 - cap2) ≤ SF → g_SZ D w1 l1 x rf P C A9 cov K Q9 ac F rn tt (cpU cp 9 cap) → yCh w lab w1 l1 → g_Dig D w1 d da (oct n (8 ^ n)) → (l1 d = 0 ∧ l1 da = 0) → g_BS D w1 b wa E2 n2 cap2 → (l1 b = 0 ∧ l1 wa = 0) → wa ∉ w.1 → g_nq da wa → g_W D A s.heap H locs w1 → lv_has ls 5 [(4, .int (nI n)), (0, .ref x), (1, .int (nI N)), (2, .ref d), (3, .ref b)] → W p l e R s m args below meth c H locs cells slots Q (F0 m 61 ls [])) :
    ∀ (k : Nat) (j : Nat) (cap : Nat) (cap2 : Nat) (n2 : Nat) (wa : Nat) (E2 : Nat → Bool) (w1 : g_H) (l1 : Nat → Nat) (cells : Nat) (slots : Nat) (H : Heap) (locs : List Loc) (ls : Array Slot), 8 ^ n < j + k → j < 8 ^ n → rFold P (octR n j ++ rest) cap = capF → rE P (octR n j ++ rest) E2 = EF → rF2 P (octR n j ++ rest) cap2 = cF2 → cells + (capF - cap) + (cF2 - cap2) ≤ CF → slots + 2 * (capF - cap) + 2 * (cF2 - cap2) ≤ SF → g_SZ D w1 l1 x rf P C A9 cov K Q9 ac F rn tt (cpU cp 9 cap) → yCh w lab w1 l1 → g_Dig D w1 d da (oct n j) → (l1 d = 0 ∧ l1 da = 0) → g_BS D w1 b wa E2 n2 cap2 → (l1 b = 0 ∧ l1 wa = 0) → wa ∉ w.1 → g_nq da wa → g_W D A s.heap H locs w1 → lv_has ls 5 [(4, .int (nI n)), (0, .ref x), (1, .int (nI N)), (2, .ref d), (3, .ref b)] → W p l e R s m args below meth c H locs cells slots Q (F0 m 35 ls []) := by
  intro k
  induction k with
  | zero => intro j cap cap2 n2 wa E2 w1 l1 cells slots H locs ls hfuel hj hs1 hs2 hs3 hcl hsl hS1 hy hd hld hbs hlb fwa ndb hW hl; exact absurd hfuel (by omega)
  | succ k ih =>
    intro j cap cap2 n2 wa E2 w1 l1 cells slots H locs ls hfuel hj hs1 hs2 hs3 hcl hsl hS1 hy hd hld hbs hlb fwa ndb hW hl
    rw [octR_cons hj, List.cons_append] at hs1 hs2 hs3
    unfold rFold at hs1
    unfold rE at hs2
    unfold rF2 at hs3
    have hq1 := bsC_ge (mOut P (oct n j)).2.2.2 cap
    have hq2 := rFold_ge P (octR n (j + 1) ++ rest) (bsC cap (mOut P (oct n j)).2.2.2)
    rw [hs1] at hq2
    have hq3 := g_bn_ge (bsN 0 (mOut P (oct n j)).2.2.2) cap2
    have hq4 := rF2_ge P (octR n (j + 1) ++ rest) (g_bn (bsN 0 (mOut P (oct n j)).2.2.2) cap2)
    rw [hs3] at hq4
    have hq5 := g_bc_le (bsN 0 (mOut P (oct n j)).2.2.2) cap2
    have hq6 := g_bs_le (bsN 0 (mOut P (oct n j)).2.2.2) cap2 hbs.2.2.2.1
    refine lv_aload_n hx hb dX1_reachable_35 rfl (lv_at hl 1 rfl) ?_
    refine g_get (ci := 0) (v := .ref (rf 9)) (C := RX1) (T := TX1) (N := 11) hx hb hts in_X1 hown hK hW hS1.1.1 rfl 3 (by decide) q357 (fun _ h9 => h9) rfl dX1_reachable_36 ?_
    refine lv_aload_n hx hb dX1_reachable_39 rfl (lv_at hl 3 rfl) ?_
    obtain ⟨ra, eb, wb, vv, cd, st9, E9, n9, par, ps, hMa, hPg, ⟨m1, m2, m3, m4⟩, -, hcl⟩ := hS1.mach hK
    rw [cpU_self] at hMa
    obtain ⟨rd9, hm0⟩ := hMa.1
    refine g_callv (va_runV (As := [.ref d]) (rest := []) ⟨hx, hb, hml, hown, hts⟩ (mtX2_run l D w1 H.size (rf 9) ra eb wb x st9 n9 cap d da (rf 2) par _ vv cd E9 _ _ _ _ _ _ _ _ _ _ ps P (oct n j) hMa hS1.1.1 hPg hd (fun z => by rw [z, hld.2] at m2; exact absurd m2 (by decide))) (cwV 1 hts (lw_V q1187 q1188 q1189 q38 q1190) rfl rfl rfl (by decide +kernel) ⟨Nat.le_trans (Nat.le_of_ble_eq_true rfl) hRf, Nat.le_trans (Nat.le_of_ble_eq_true rfl) hRl⟩) (g_preV hW hK hE hm0 rfl) rfl rfl hl.1 rfl (lv_room (Nat.le_of_ble_eq_true rfl)) dX1_reachable_40 ⟨?_, ?_⟩) hW (fun u2 H locs hp hW => ?_)
    · (try simp only [headSpec]); omega
    · (try simp only [headSpec]); omega
    obtain ⟨wb2, hMa2, hwb2, hxr⟩ := hp
    have hS2 := hcl _ wb2 _ _ _ _ _ _ hMa2 hwb2 hxr
    rw [cpU_cpU] at hS2
    have h9 : ∀ z, z ∈ w.1 → l1 z = 9 → yM lab z := fun z hz e => by rw [hy.1 z hz] at e; unfold yM; omega
    have hy2 : yCh w lab u2 (lb l1 w1 9) := hy.next hxr (fun z hz hq => by rcases hq with q | q | q | q <;> subst q <;> exact h9 _ hz (by assumption)) 9
    obtain ⟨rd2, hm2⟩ := hMa2.1
    obtain ⟨ld, lda⟩ := id hld
    have hd2 := hd.ex hxr (fun z => by rcases z with z | z | z | z <;> rw [z] at ld <;> omega) (fun z => by rcases z with z | z | z | z <;> rw [z] at lda <;> omega)
    have hda1 : da ∈ w1.1 := by obtain ⟨f9, hf9, -⟩ := hd.2.1; exact hf9.1
    have hld2 : lb l1 w1 9 d = 0 ∧ lb l1 w1 9 da = 0 := ⟨(lb_in _ hd.1.1).trans ld, (lb_in _ hda1).trans lda⟩
    obtain ⟨lbb, lbw⟩ := id hlb
    have hbs2 := hbs.ex hxr (fun z => by rcases z with z | z | z | z <;> rw [z] at lbb <;> omega) (fun z => by rcases z with z | z | z | z <;> rw [z] at lbw <;> omega)
    have hwa1 : wa ∈ w1.1 := by obtain ⟨f9, hf9, -⟩ := hbs.2.1; exact hf9.1
    have hlb2 : lb l1 w1 9 b = 0 ∧ lb l1 w1 9 wa = 0 := ⟨(lb_in _ hbs.1.1).trans lbb, (lb_in _ hwa1).trans lbw⟩
    have l2eb : lb l1 w1 9 eb = 9 := (lb_in _ hMa.2.2.1.1).trans m3
    have l2wb : lb l1 w1 9 wb2 = 9 := lb_or hwb2 m4
    refine lv_aload_n hx hb dX1_reachable_43 rfl (lv_at hl 4 rfl) ?_
    refine lv_aload_n hx hb dX1_reachable_44 rfl (lv_at hl 1 rfl) ?_
    refine g_get (ci := 0) (v := .ref (rf 9)) (C := RX1) (T := TX1) (N := 11) hx hb hts in_X1 hown hK hW hS2.1.1 rfl 3 (by decide) q357 (fun _ h9 => h9) rfl dX1_reachable_45 ?_
    refine g_getN (ci := 1) (v := .ref eb) (C := RX2) (T := TX2) (N := 7) hx hb hts in_X2 hown hK hW hm2 rfl 1 (by decide) (nf_q191 hE) (fun _ h9 => h9) rfl dX1_reachable_48 ?_
    refine g_callv (va_runV (As := [.ref eb]) (rest := []) ⟨hx, hb, hml, hown, hts⟩ (mtJ3_or l D u2 H.size b wa n2 cap2 E2 hbs2 eb wb2 _ _ _ hMa2.2.2 (fun z => by rw [← z, hlb2.1] at l2eb; exact absurd l2eb (by decide)) (fun z => by rw [← z, hlb2.2] at l2wb; exact absurd l2wb (by decide))) (cwV 1 hts (lw_V q1261 q1262 q1263 q39 q1264) rfl rfl rfl (by decide +kernel) ⟨Nat.le_trans (Nat.le_of_ble_eq_true rfl) hRf, Nat.le_trans (Nat.le_of_ble_eq_true rfl) hRl⟩) (g_preV hW hK hE hbs2.1 rfl) rfl rfl hl.1 rfl (lv_room (Nat.le_of_ble_eq_true rfl)) dX1_reachable_51 ⟨?_, ?_⟩) hW (fun u4 H locs hp hW => ?_)
    · (try simp only [headSpec]); omega
    · (try simp only [headSpec]); omega
    obtain ⟨wb4, hbs4, hwb4, hx4⟩ := hp
    have hS4 := hS2.keep (lab' := lb (lb l1 w1 9) u2 0) hx4 (hbs2.mut hK) lb_in (fun z _ hq => Or.inl (by rcases hq with q | q <;> rw [q] <;> first | exact hlb2.1 | exact hlb2.2))
    have hy4 : yCh w lab u4 (lb (lb l1 w1 9) u2 0) := hy2.next hx4 (fun z hz hq => (hq.elim (fun q => fb9 (q ▸ hz)) (fun q => fwa (q ▸ hz))).elim) 0
    have hda2 : da ∈ u2.1 := by obtain ⟨f9, hf9, -⟩ := hd2.2.1; exact hf9.1
    have hwa2 : wa ∈ u2.1 := by obtain ⟨f9, hf9, -⟩ := hbs2.2.1; exact hf9.1
    have hd4 : g_Dig D u4 d da (oct n j) := hd2.ex hx4 (fun z => z.elim (fun z => g_neO hd2.1 hbs2.1 (by decide) z) (fun z => by obtain ⟨f9, hf9, -⟩ := hbs2.2.1; exact g_neOA hd2.1 hf9 z)) (fun z => z.elim (fun z => by obtain ⟨f9, hf9, -⟩ := hd2.2.1; exact g_neAO hf9 hbs2.1 z) ndb)
    have hld4 : lb (lb l1 w1 9) u2 0 d = 0 ∧ lb (lb l1 w1 9) u2 0 da = 0 := ⟨(lb_in _ hd2.1.1).trans hld2.1, (lb_in _ hda2).trans hld2.2⟩
    have hlb4 : lb (lb l1 w1 9) u2 0 b = 0 ∧ lb (lb l1 w1 9) u2 0 wb4 = 0 := ⟨(lb_in _ hbs2.1.1).trans hlb2.1, lb_or hwb4 hlb2.2⟩
    have fwa4 : wb4 ∉ w.1 := hwb4.elim (fun e => e ▸ fwa) (fun e z => e (hy2.2.1 _ z))
    have ndb4 : g_nq da wb4 := fun z => hwb4.elim (fun e => ndb (z.trans e)) (fun e => e (z ▸ hda2))
    clear hS2 hy2 hd2 hld2
    have hS2 := hS4
    have hy2 := hy4
    have hd2 := hd4
    have hld2 := hld4
    refine lv_aload_n hx hb dX1_reachable_54 rfl (lv_at hl 3 rfl) ?_
    obtain ⟨hd21, ⟨g2, hd2g, hd2i⟩, hd28⟩ := id hd2
    rw [oct_len] at hd21
    refine g_calli (va_runV (As := []) (rest := []) ⟨hx, hb, hml, hown, hts⟩ (mtX11_isNext l D u4 H.size d da n g2 hd21 hd2g (by omega)) (cwV 0 hts (lw_V q1821 q1822 q1823 q75 q1824) rfl rfl rfl (by decide +kernel) ⟨Nat.le_trans (Nat.le_of_ble_eq_true rfl) hRf, Nat.le_trans (Nat.le_of_ble_eq_true rfl) hRl⟩) (g_preV hW hK hE hd21 rfl) rfl rfl hl.1 rfl (lv_room (Nat.le_of_ble_eq_true rfl)) dX1_reachable_55 ⟨?_, ?_⟩) hW (fun r_ u3 H locs hp hW => ?_)
    · (try simp only [headSpec]); omega
    · (try simp only [headSpec]); omega
    obtain ⟨i9, f9, hi1, hi2, hi3, hi4, hi5, hi6, er, hd31, hd3g, hx3⟩ := hp
    subst er
    obtain ⟨on1, on2⟩ := oct_next (by omega) hj hd2i hi1 hi2 hi3 hi4 hi5 hi6
    have hd3 : g_Dig D u3 d da (oct n (j + 1)) := ⟨by rw [oct_len]; exact hd31, ⟨f9, hd3g, on1⟩, by rw [oct_len]; omega⟩
    clear hda2
    have hda2 : da ∈ u4.1 := by obtain ⟨f9, hf9, -⟩ := hd2.2.1; exact hf9.1
    have hS3 := hS2.keep (lab' := lb (lb (lb l1 w1 9) u2 0) u4 0) hx3 (hd2.mut hK) lb_in (fun z _ hq => Or.inl (by rcases hq with q | q <;> rw [q] <;> first | exact hld2.1 | exact hld2.2))
    have hy3 : yCh w lab u3 (lb (lb (lb l1 w1 9) u2 0) u4 0) := hy2.next hx3 (fun z hz hq => (hq.elim (fun q => fd (q ▸ hz)) (fun q => fda (q ▸ hz))).elim) 0
    have hld3 : lb (lb (lb l1 w1 9) u2 0) u4 0 d = 0 ∧ lb (lb (lb l1 w1 9) u2 0) u4 0 da = 0 := ⟨(lb_in _ hd2.1.1).trans hld2.1, (lb_in _ hda2).trans hld2.2⟩
    have hbs3 := hbs4.ex hx3 (fun z => z.elim (fun z => g_neO hd2.1 hbs4.1 (by decide) z.symm) (fun z => by obtain ⟨f9, hf9, -⟩ := hd2.2.1; exact g_neAO hf9 hbs4.1 z.symm)) (fun z => z.elim (fun z => by obtain ⟨f9, hf9, -⟩ := hbs4.2.1; exact g_neOA hd2.1 hf9 z.symm) (fun z => ndb4 z.symm))
    have hwa4 : wb4 ∈ u4.1 := by obtain ⟨f9, hf9, -⟩ := hbs4.2.1; exact hf9.1
    have hlb3 : lb (lb (lb l1 w1 9) u2 0) u4 0 b = 0 ∧ lb (lb (lb l1 w1 9) u2 0) u4 0 wb4 = 0 := ⟨(lb_in _ hbs4.1.1).trans hlb4.1, (lb_in _ hwa4).trans hlb4.2⟩
    by_cases hi0 : i9 = 0
    · rw [if_pos hi0]
      refine lv_if_ne (tgt := 35) hx hb dX1_reachable_58 (by decide) (fun hz => absurd rfl hz) (fun _ => ?_)
      have hje : j + 1 = 8 ^ n := on2.mp hi0
      rw [hje] at hs1 hs2 hs3 hd3
      rw [octR_end (Nat.le_refl _), List.nil_append] at hs1 hs2 hs3
      exact kk _ _ _ wb4 _ u3 _ _ _ H locs ls hs1 hs2 hs3 (by omega) (by omega) hS3 hy3 hd3 hld3 hbs3 hlb3 fwa4 ndb4 hW (lv_sub hl [0, 1, 2, 3, 4] rfl)
    · rw [if_neg hi0]
      refine lv_if_ne (tgt := 35) hx hb dX1_reachable_58 (by decide) (fun _ => ?_) (fun hz => absurd (by first | exact hz | exact Classical.not_not.mp hz) (by decide))
      have hjn : j + 1 < 8 ^ n := by have := fun z => hi0 (on2.mpr z); omega
      exact ih (j + 1) _ _ _ wb4 _ u3 _ _ _ H locs ls (by omega) hjn hs1 hs2 hs3 (by omega) (by omega) hS3 hy3 hd3 hld3 hbs3 hlb3 fwa4 ndb4 hW hl
set_option maxHeartbeats 4000000 in
set_option maxRecDepth 100000 in
/-- ShrinkYard.reachable: its loop -/
theorem lpX1_reachable2 {p : Program} {l : Launch} {e : Env} {R : Room} {s : State} {m : MethodId} {args : Array Value} {below : List Frame} {meth : Method} {c : Code} {Q : State → Prop} {D : va_G} {A : Nat → Prop} (hx : p.tables.exec = Jvm.exec) (hb : c.code = cX1_reachable) (hts : ∀ w ∈ lw_all, w.before args s = true) (hown : s.vm.findClass RX1 = some m.cls) (hK : va_K D gCl (gT D) s) (hE : g_Env D A s) (hml : c.maxLocals = 5) (hRf : 7 ≤ R.frames) (hRl : 191 ≤ R.locals) (w : g_H) (lab : Nat → Nat) (x ac rn tt d da N : Nat) (rf : Nat → Nat) (P : List mI) (C : List yC) (A9 : Nat → List (List Nat)) (cov : Nat → Bool) (K Q9 : List (List Nat)) (F : List (List Nat × List Nat × Int32)) (cp : Nat → Nat) (fd : d ∉ w.1) (fda : da ∉ w.1) (hN : N ≤ 3) (CF SF capF : Nat) (hRc : CF ≤ R.cells) (hRs : SF ≤ R.slots) (EF : Nat → Bool) (cF2 b : Nat) (fb9 : b ∉ w.1)
    (kk : ∀ (w1 : g_H) (l1 : Nat → Nat) (cells slots : Nat) (n2 wa : Nat) (H : Heap) (locs : List Loc) (ls : Array Slot), cells ≤ CF → slots ≤ SF → g_SZ D w1 l1 x rf P C A9 cov K Q9 ac F rn tt (cpU cp 9 capF) → yCh w lab w1 l1 → g_BS D w1 b wa EF n2 cF2 → g_W D A s.heap H locs w1 → lv_has ls 5 [(3, .ref b)] → W p l e R s m args below meth c H locs cells slots Q (F0 m 67 ls [])) :
    ∀ (k : Nat) (n : Nat) (cap : Nat) (cap2 : Nat) (n2 : Nat) (wa : Nat) (E2 : Nat → Bool) (zs : List Nat) (w1 : g_H) (l1 : Nat → Nat) (cells : Nat) (slots : Nat) (H : Heap) (locs : List Loc) (ls : Array Slot), N + 1 < n + k → n ≤ N + 1 → rFold P (octs n N) cap = capF → rE P (octs n N) E2 = EF → rF2 P (octs n N) cap2 = cF2 → cells + (capF - cap) + (cF2 - cap2) ≤ CF → slots + 2 * (capF - cap) + 2 * (cF2 - cap2) ≤ SF → g_SZ D w1 l1 x rf P C A9 cov K Q9 ac F rn tt (cpU cp 9 cap) → yCh w lab w1 l1 → g_Dig D w1 d da zs → (l1 d = 0 ∧ l1 da = 0) → g_BS D w1 b wa E2 n2 cap2 → (l1 b = 0 ∧ l1 wa = 0) → wa ∉ w.1 → g_nq da wa → g_W D A s.heap H locs w1 → lv_has ls 5 [(4, .int (nI n)), (0, .ref x), (1, .int (nI N)), (2, .ref d), (3, .ref b)] → W p l e R s m args below meth c H locs cells slots Q (F0 m 23 ls []) := by
  intro k
  induction k with
  | zero => intro n cap cap2 n2 wa E2 zs w1 l1 cells slots H locs ls hfuel hn hs1 hs2 hs3 hcl hsl hS1 hy hd hld hbs hlb fwa ndb hW hl; exact absurd hfuel (by omega)
  | succ k ih =>
    intro n cap cap2 n2 wa E2 zs w1 l1 cells slots H locs ls hfuel hn hs1 hs2 hs3 hcl hsl hS1 hy hd hld hbs hlb fwa ndb hW hl
    refine lv_iload hx hb dX1_reachable_23 (lv_at hl 0 rfl) ?_
    refine lv_iload_n hx hb dX1_reachable_25 rfl (lv_at hl 2 rfl) ?_
    refine g_icmp_gt (x := n) (y := N) (tgt := 67) hx hb (by omega) (by omega) dX1_reachable_26 (by decide) (fun hc => ?_) (fun hc => ?_)
    · rw [octs_end (by omega)] at hs1 hs2 hs3
      have hs1 : cap = capF := hs1
      have hs2 : E2 = EF := hs2
      have hs3 : cap2 = cF2 := hs3
      rw [hs1] at hS1
      rw [hs2, hs3] at hbs
      exact kk w1 l1 cells slots n2 wa H locs ls (by omega) (by omega) hS1 hy hbs hW (lv_sub hl [4] rfl)
    · rw [octs_cons (by omega)] at hs1 hs2 hs3
      refine lv_aload_n hx hb dX1_reachable_29 rfl (lv_at hl 3 rfl) ?_
      refine lv_iload hx hb dX1_reachable_30 (lv_at hl 0 rfl) ?_
      refine g_callv (va_runV (As := [.int (nI n)]) (rest := []) ⟨hx, hb, hml, hown, hts⟩ (mtX11_clear l D w1 H.size d da n zs hd (by omega)) (cwV 1 hts (lw_V q1817 q1818 q1819 q75 q1820) rfl rfl rfl (by decide +kernel) ⟨Nat.le_trans (Nat.le_of_ble_eq_true rfl) hRf, Nat.le_trans (Nat.le_of_ble_eq_true rfl) hRl⟩) (g_preV hW hK hE hd.1 rfl) rfl rfl hl.1 rfl (lv_room (Nat.le_of_ble_eq_true rfl)) dX1_reachable_32 ⟨?_, ?_⟩) hW (fun u1 H locs hp hW => ?_)
      · (try simp only [headSpec]); omega
      · (try simp only [headSpec]); omega
      obtain ⟨hd3, hx3⟩ := hp
      rw [← oct_0 n (by omega)] at hd3
      have hda2 : da ∈ w1.1 := by obtain ⟨f9, hf9, -⟩ := hd.2.1; exact hf9.1
      have hS3 := hS1.keep (lab' := lb l1 w1 0) hx3 (hd.mut hK) lb_in (fun z _ hq => Or.inl (by rcases hq with q | q <;> rw [q] <;> first | exact hld.1 | exact hld.2))
      have hy3 : yCh w lab u1 (lb l1 w1 0) := hy.next hx3 (fun z hz hq => (hq.elim (fun q => fd (q ▸ hz)) (fun q => fda (q ▸ hz))).elim) 0
      have hld3 : lb l1 w1 0 d = 0 ∧ lb l1 w1 0 da = 0 := ⟨(lb_in _ hd.1.1).trans hld.1, (lb_in _ hda2).trans hld.2⟩
      have hbs3 := hbs.ex hx3 (fun z => z.elim (fun z => g_neO hd.1 hbs.1 (by decide) z.symm) (fun z => by obtain ⟨f9, hf9, -⟩ := hd.2.1; exact g_neAO hf9 hbs.1 z.symm)) (fun z => z.elim (fun z => by obtain ⟨f9, hf9, -⟩ := hbs.2.1; exact g_neOA hd.1 hf9 z.symm) (fun z => ndb z.symm))
      have hwa4 : wa ∈ w1.1 := by obtain ⟨f9, hf9, -⟩ := hbs.2.1; exact hf9.1
      have hlb3 : lb l1 w1 0 b = 0 ∧ lb l1 w1 0 wa = 0 := ⟨(lb_in _ hbs.1.1).trans hlb.1, (lb_in _ hwa4).trans hlb.2⟩
      refine lpX1_reachable1 (D := D) hx hb hts hown hK hE hml hRf hRl w lab x ac rn tt d da N rf P C A9 cov K Q9 F cp fd fda hN CF SF capF hRc hRs EF cF2 b fb9 n (by omega) (octs (n + 1) N) (fun cap cap2 n2 wa E2 w1 l1 cells slots H locs ls hs1 hs2 hs3 hcl hsl hS1 hy hd hld hbs hlb fwa ndb hW hl => ?_) (8 ^ n + 1) 0 cap cap2 n2 wa E2 u1 _ cells slots H locs ls (by omega) (Nat.pow_pos (by decide)) hs1 hs2 hs3 hcl hsl hS3 hy3 hd3 hld3 hbs3 hlb3 fwa ndb hW (lv_sub hl [0, 1, 2, 3, 4] rfl)
      refine lv_iinc (v := nI (n + 1)) (lv' := [(4, .int (nI (n + 1))), (0, .ref x), (1, .int (nI N)), (2, .ref d), (3, .ref b)]) hx hb dX1_reachable_61 hl (k := 0) rfl (nI_1 n) (by decide) rfl (fun ls hl => ?_)
      refine lv_goto (tgt := 23) hx hb dX1_reachable_64 (by decide) ?_
      exact ih (n + 1) cap cap2 n2 wa E2 _ w1 l1 _ _ H locs ls (by omega) (by omega) hs1 hs2 hs3 hcl hsl hS1 hy hd hld hbs hlb fwa ndb hW (lv_sub hl [0, 1, 2, 3, 4] rfl)
set_option maxHeartbeats 4000000 in
set_option maxRecDepth 100000 in
/-- ShrinkYard.reachable -/
theorem mtX1_reachable (l : Launch) (hl9 : l.stackTraces = false) (D : va_G) (w : g_H) (sz : Nat) (lab : Nat → Nat) (x ac rn tt : Nat) (rf : Nat → Nat) (P : List mI) (C : List yC) (A9 : Nat → List (List Nat)) (cov : Nat → Bool) (K Q9 : List (List Nat)) (F : List (List Nat × List Nat × Int32)) (cp : Nat → Nat) (hS : g_SZ D w lab x rf P C A9 cov K Q9 ac F rn tt cp) (n9 : Int32) : vx_Met l yX1_reachable (ws_ yX1_reachable cX1_reachable 5 (some .int)) ({ frames := 10, cells := 5 + ((rFold P (octs 0 n9.toNatClampNeg) (cp 9)) - cp 9) + ((rF2 P (octs 0 n9.toNatClampNeg) 1) - 1), slots := 20 + 2 * ((rFold P (octs 0 n9.toNatClampNeg) (cp 9)) - cp 9) + 2 * ((rF2 P (octs 0 n9.toNatClampNeg) 1) - 1), locals := 191 }) (g_Pc D [.ref x, .int (n9)] w sz) (g_Qi D w sz (fun r u => (0 ≤ n9 ∧ n9 ≤ 3) ∧ r = nI (fb_ct (rE P (octs 0 n9.toNatClampNeg) (fun _ => false)) 320) ∧ ∃ l2, g_SZ D u l2 x rf P C A9 cov K Q9 ac F rn tt (cpU cp 9 (rFold P (octs 0 n9.toNatClampNeg) (cp 9))) ∧ yCh w lab u l2)) (g_XC D w sz (fun E u => (E = "java/lang/IllegalArgumentException" ∧ ¬ (0 ≤ n9 ∧ n9 ≤ 3) ∧ w = u))) (5 + ((rFold P (octs 0 n9.toNatClampNeg) (cp 9)) - cp 9) + ((rF2 P (octs 0 n9.toNatClampNeg) 1) - 1)) (20 + 2 * ((rFold P (octs 0 n9.toNatClampNeg) (cp 9)) - cp 9) + 2 * ((rF2 P (octs 0 n9.toNatClampNeg) 1) - 1)) (g_A w sz) := by
  refine vx_ofW (cc := cX1_reachable) (maxL := 5) (ret := (some .int)) (by decide) rfl ?_
  intro p e s m args below meth c s₁ B hml hhand hv
  have hout : ∀ pc : Nat, ∀ x ∈ c.exceptionTable.toList, covers x pc = false := fun _ x hx => (hhand x hx).elim
  obtain ⟨rfl, hI⟩ := hv
  have hx := B.exec
  have hb := B.bytes
  have hr := B.returns
  have hts := atoms_spec (ws := ws_ yX1_reachable cX1_reachable 5 (some .int)) B.pre
  have hts : ∀ w ∈ lw_all, w.before _ s = true := fun w h => hts w (List.mem_cons_of_mem _ h)
  have hown : s.vm.findClass RX1 = some m.cls := findClass_of_methodNamed B.named
  have hlocks := B.notSynchronized
  have hsz := hI.1
  subst hsz
  have hW := g_W.start hI
  have hK := g_K hI
  have hE := g_E hI
  have hl := lv_entry ([.ref x, .int (n9)]) (n := 5) (by exact Nat.le_of_ble_eq_true rfl)
  rw [lg_entry_eq]
  generalize (lg_sl ([.ref x, .int (n9)]) ++ List.replicate (5 - (lg_sl ([.ref x, .int (n9)])).length) Slot.unset).toArray = ls at hl ⊢
  have hl : lv_has ls 5 [(0, .ref x), (1, .int (n9))] := hl
  have hge := rFold_ge P (octs 0 n9.toNatClampNeg) (cp 9)
  refine lv_iload_n hx hb dX1_reachable_0 rfl (lv_at hl 1 rfl) ?_
  refine g_xcallv (vx_runS (As := [.int (n9)]) (rest := []) ⟨hx, hb, hml, hown, hts⟩ (mtX1_requireShort l hl9 D w s.heap.size n9) (va_cwS 1 hts (lw_S q1814 q1815 q34 q1816) rfl rfl rfl (by decide +kernel) ⟨Nat.le_of_ble_eq_true rfl, Nat.le_of_ble_eq_true rfl⟩) (g_preS hW hK hE) rfl rfl hl.1 rfl (lv_room (Nat.le_of_ble_eq_true rfl)) dX1_reachable_1 ⟨?_, ?_⟩) hW (fun E ce q9 u_ H locs hp hW hxc1 hxc2 hxc3 => g_xout (hout _) hlocks hW (⟨hp.1, hp.2.1, hp.2.2⟩) hxc1 hxc2 hxc3 ?_ ?_) (fun u_ H locs hp hW => ?_)
  · (try simp only [headSpec]); omega
  · (try simp only [headSpec]); omega
  · (try simp only [headSpec]); omega
  · (try simp only [headSpec]); omega
  obtain ⟨hsh, rfl⟩ := hp
  obtain ⟨N, hN31, rfl⟩ := nI_of (Int32.not_lt.mpr hsh.1)
  have eN : (nI N).toNatClampNeg = N := nI_clamp hN31
  rw [eN] at hge ⊢
  have hN : N ≤ 3 := Nat.le_of_not_lt (fun z => Int32.not_le.mpr ((nI_ltI (a := 3) (by decide) hN31).mpr z) hsh.2)
  have x_1 : g_ex (fun _ => False) w w := g_ex.rf
  refine g_newo (ci := 2) (C := RX11) (T := TX11) (N := 2) hx hb hts in_X11 tyX11 tyX11_ok hown q1156 q1157 q75 hK hW rfl [.null, .int (0)] (by decide +kernel) ?_ ?_ dX1_reachable_4 (fun o_2 H hq hW => ?_)
  · show _ ≤ 5 + ((rFold P (octs 0 N) (cp 9)) - cp 9) + ((rF2 P (octs 0 N) 1) - 1); omega
  · show _ ≤ 20 + 2 * ((rFold P (octs 0 N) (cp 9)) - cp 9) + 2 * ((rF2 P (octs 0 N) 1) - 1); omega
  have ho_2 := hq
  obtain ⟨w_3, ew_3⟩ : ∃ z__, z__ = g_push w o_2 (.inr (2, [.null, .int (0)])) := ⟨_, rfl⟩
  have hW := g_W.ren hW ew_3 rfl
  have h_4 : g_at w_3 x (.inr (0, [.ref (rf 2), .ref (rf 3), .ref (rf 4), .ref (rf 9), .ref (rf 10), .ref (rf 11), .ref (rf 12), .ref (rf 13), .int (nI rn), .long (lN tt), .int (nI ac)])) := by rw [ew_3]; exact hS.1.1.push hq
  have h_5 : g_at w_3 o_2 (.inr (2, [.null, .int (0)])) := by rw [ew_3]; exact g_at.push_self
  have x_6 : g_ex (fun _ => False) w w_3 := by rw [ew_3]; exact x_1.push hq
  refine lv_dup hx hb dX1_reachable_7 rfl ?_
  refine g_callv (va_runIN (As := []) (rest := [.ref o_2]) ⟨hx, hb, hml, hown, hts⟩ (mtX11_init l D w_3 H.size o_2 h_5) ⟨(va_cnB 0 hts (lw_meth q1160) rfl rfl rfl (nm_q1158 hE) (hts _ q75) (by decide +kernel) ⟨Nat.le_of_ble_eq_true rfl, Nat.le_of_ble_eq_true rfl⟩), rfl, hts _ q1159⟩ (g_preS hW hK hE) rfl rfl hl.1 rfl (lv_room (Nat.le_of_ble_eq_true rfl)) dX1_reachable_8 ⟨?_, ?_⟩) hW (fun u1 H locs hp hW => ?_)
  · (try simp only [headSpec]); omega
  · (try simp only [headSpec]); omega
  obtain ⟨da, fda0, hd, hex1⟩ := hp
  have hxa : g_ex (fun _ => False) w u1 := x_6.trM hex1 (fun z hz1 hz2 => ho_2 (hz2 ▸ hz1))
  have fd : o_2 ∉ w.1 := ho_2
  have fda : da ∉ w.1 := fun z => fda0 (x_6.1 _ z)
  have hS1 := hS.new hxa 0
  have hy : yCh w lab u1 (lb lab w 0) := yCh.nw hxa 0
  have hld : lb lab w 0 o_2 = 0 ∧ lb lab w 0 da = 0 := ⟨lb_out fd, lb_out fda⟩
  rw [show cp = cpU cp 9 (cp 9) from cpU_id.symm] at hS1
  have hge2 := rF2_ge P (octs 0 N) 1
  refine lv_astore_n (lv' := [(2, .ref o_2), (0, .ref x), (1, .int (nI N))]) hx hb dX1_reachable_11 rfl hl (by decide) rfl (fun ls hl => ?_)
  have x_7 : g_ex (fun _ => False) u1 u1 := g_ex.rf
  refine g_newo (ci := 14) (C := RJ3) (T := TJ3) (N := 3) hx hb hts in_J3 tyJ3 tyJ3_ok hown q215 q165 q39 hK hW rfl [.null, .int (0), .int (0)] (by decide +kernel) ?_ ?_ dX1_reachable_12 (fun o_8 H hq hW => ?_)
  · show _ ≤ 5 + ((rFold P (octs 0 N) (cp 9)) - cp 9) + ((rF2 P (octs 0 N) 1) - 1); omega
  · show _ ≤ 20 + 2 * ((rFold P (octs 0 N) (cp 9)) - cp 9) + 2 * ((rF2 P (octs 0 N) 1) - 1); omega
  have ho_8 := hq
  obtain ⟨w_9, ew_9⟩ : ∃ z__, z__ = g_push u1 o_8 (.inr (14, [.null, .int (0), .int (0)])) := ⟨_, rfl⟩
  have hW := g_W.ren hW ew_9 rfl
  have h_10 : g_at w_9 o_8 (.inr (14, [.null, .int (0), .int (0)])) := by rw [ew_9]; exact g_at.push_self
  have x_11 : g_ex (fun _ => False) u1 w_9 := by rw [ew_9]; exact x_7.push hq
  refine lv_dup hx hb dX1_reachable_15 rfl ?_
  refine g_callv (va_runI (As := []) (rest := [.ref o_8]) ⟨hx, hb, hml, hown, hts⟩ (mtJ3_init l D w_9 H.size o_8 h_10) (cwI 0 hts (lw_meth q168) rfl rfl rfl (hts _ q39) (hts _ q216) (hts _ q167) rfl (by decide +kernel) ⟨Nat.le_of_ble_eq_true rfl, Nat.le_of_ble_eq_true rfl⟩) (g_preS hW hK hE) rfl rfl hl.1 rfl (lv_room (Nat.le_of_ble_eq_true rfl)) dX1_reachable_16 ⟨?_, ?_⟩) hW (fun u2 H locs hp hW => ?_)
  · (try simp only [headSpec]); omega
  · (try simp only [headSpec]); omega
  obtain ⟨wa, fwa0, hbs, hex2⟩ := hp
  have hxb : g_ex (fun _ => False) u1 u2 := x_11.trM hex2 (fun z hz1 hz2 => ho_8 (hz2 ▸ hz1))
  have hda1 : da ∈ u1.1 := by obtain ⟨f9, hf9, -⟩ := hd.2.1; exact hf9.1
  have hS2 := hS1.new hxb 0
  have hy2 : yCh w lab u2 (lb (lb lab w 0) u1 0) := hy.next hxb (fun _ _ z => z.elim) 0
  have fb9 : o_8 ∉ w.1 := fun z => ho_8 (hxa.1 _ z)
  have fwb : wa ∉ u1.1 := fun z => fwa0 (x_11.1 _ z)
  have fwa : wa ∉ w.1 := fun z => fwb (hxa.1 _ z)
  have hd2 := hd.ex hxb (fun z => z.elim) (fun z => z.elim)
  have hld2 : lb (lb lab w 0) u1 0 o_2 = 0 ∧ lb (lb lab w 0) u1 0 da = 0 := ⟨(lb_in _ hd.1.1).trans hld.1, (lb_in _ hda1).trans hld.2⟩
  have hlb : lb (lb lab w 0) u1 0 o_8 = 0 ∧ lb (lb lab w 0) u1 0 wa = 0 := ⟨lb_out ho_8, lb_out fwb⟩
  have ndb : g_nq da wa := fun z => fwb (z ▸ hda1)
  refine lv_astore_n (lv' := [(3, .ref o_8), (2, .ref o_2), (0, .ref x), (1, .int (nI N))]) hx hb dX1_reachable_19 rfl hl (by decide) rfl (fun ls hl => ?_)
  refine lv_iconst (v := 0) hx hb dX1_reachable_20 (by decide) ?_
  refine lv_istore (lv' := [(4, .int (0)), (3, .ref o_8), (2, .ref o_2), (0, .ref x), (1, .int (nI N))]) hx hb dX1_reachable_21 hl (by decide) rfl (fun ls hl => ?_)
  refine lpX1_reachable2 (D := D) hx hb hts hown hK hE hml (Nat.le_of_ble_eq_true rfl) (Nat.le_of_ble_eq_true rfl) w lab x ac rn tt o_2 da N rf P C A9 cov K Q9 F cp fd fda hN (5 + ((rFold P (octs 0 N) (cp 9)) - cp 9) + ((rF2 P (octs 0 N) 1) - 1)) (20 + 2 * ((rFold P (octs 0 N) (cp 9)) - cp 9) + 2 * ((rF2 P (octs 0 N) 1) - 1)) _ ?_ ?_ _ _ o_8 fb9 (fun w1 l1 cells slots n2 wa H locs ls hcl hsl hS2 hy2 hbs hW hl => ?_) (N + 2) 0 (cp 9) 1 0 wa (fun _ => false) [] u2 _ _ _ H locs ls (by omega) (by omega) rfl rfl rfl ?_ ?_ hS2 hy2 hd2 hld2 hbs hlb fwa ndb hW (lv_sub hl [0, 3, 4, 2, 1] rfl)
  · (try simp only [headSpec]); omega
  · (try simp only [headSpec]); omega
  · refine lv_aload_n hx hb dX1_reachable_67 rfl (lv_at hl 0 rfl) ?_
    refine g_calli (va_runV (As := []) (rest := []) ⟨hx, hb, hml, hown, hts⟩ (mtJ3_cardinality l D w1 H.size o_8 wa n2 _ _ hbs) (cwV 0 hts (lw_V q423 q424 q425 q39 q426) rfl rfl rfl (by decide +kernel) ⟨Nat.le_of_ble_eq_true rfl, Nat.le_of_ble_eq_true rfl⟩) (g_preV hW hK hE hbs.1 rfl) rfl rfl hl.1 rfl (lv_room (Nat.le_of_ble_eq_true rfl)) dX1_reachable_68 ⟨?_, ?_⟩) hW (fun r_ u_ H locs hp hW => ?_)
    · (try simp only [headSpec]); omega
    · (try simp only [headSpec]); omega
    obtain ⟨er, rfl⟩ := hp
    rw [ct_320 hbs.2.2.2.2.1.2 hbs.2.2.2.2.2] at er
    subst er
    exact vx_ret (g_iret (v := nI (fb_ct (rE P (octs 0 N) (fun _ => false)) 320)) hx hb hr hlocks hW (⟨hsh, rfl, l1, hS2, hy2⟩) (by omega) (by omega) dX1_reachable_71)
  · (try simp only [headSpec]); omega
  · (try simp only [headSpec]); omega
