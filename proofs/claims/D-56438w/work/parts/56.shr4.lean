/-! ShrinkYard.shrink *
-/
set_option maxRecDepth 100000
def sMs (xs : List Nat) : Nat := xs.length + xs.sum
theorem sMs_del : ∀ (xs : List Nat) (i : Nat), i < xs.length → sMs (xs.eraseIdx i) < sMs xs
  | [], _, h => absurd h (by simp)
  | x :: xs, 0, _ => by unfold sMs; simp only [List.eraseIdx_cons_zero, List.length_cons, List.sum_cons]; omega
  | x :: xs, i + 1, h => by
    have := sMs_del xs i (by simpa using h)
    unfold sMs at this ⊢
    simp only [List.eraseIdx_cons_succ, List.length_cons, List.sum_cons]
    omega
theorem sMs_set : ∀ (xs : List Nat) (i e : Nat), e < xs.getD i 0 → sMs (xs.set i e) < sMs xs
  | [], i, e, h => absurd h (by simp)
  | x :: xs, 0, e, h => by
    have h : e < x := h
    unfold sMs; simp only [List.set_cons_zero, List.length_cons, List.sum_cons]; omega
  | x :: xs, i + 1, e, h => by
    have := sMs_set xs i e h
    unfold sMs at this ⊢
    simp only [List.set_cons_succ, List.length_cons, List.sum_cons]
    omega
def sDg (xs : List Nat) : Prop := xs.length ≤ 8 ∧ ∀ y ∈ xs, y < 8
theorem sRed {xs y : List Nat} (h : sDg xs) (hy : y ∈ redL xs) : sMs y < sMs xs ∧ sDg y := by
  unfold redL delC repC repD at hy
  rcases List.mem_append.mp hy with q | q
  · obtain ⟨i, hi, rfl⟩ := List.mem_map.mp q
    have hi2 : i < xs.length := List.mem_range.mp (List.mem_of_mem_drop hi)
    refine ⟨sMs_del xs i hi2, by rw [List.length_eraseIdx_of_lt hi2]; have := h.1; omega, fun z hz => h.2 z (List.mem_of_mem_eraseIdx hz)⟩
  · obtain ⟨i, hi, q2⟩ := List.mem_flatMap.mp q
    obtain ⟨e, he, rfl⟩ := List.mem_map.mp q2
    have he2 : e < xs.getD i 0 := List.mem_range.mp (List.mem_of_mem_drop he)
    have hi2 : i < xs.length := List.mem_range.mp (List.mem_of_mem_drop hi)
    have hx8 : xs.getD i 0 < 8 := h.2 _ (g_mem hi2)
    refine ⟨sMs_set xs i e he2, by rw [List.length_set]; exact h.1, fun z hz => ?_⟩
    rcases List.mem_or_eq_of_mem_set hz with q3 | q3
    · exact h.2 z q3
    · omega
theorem sFind_mem {P : List mI} {c : Int32} : ∀ {ys : List (List Nat)} {cap : Nat} {y : List Nat}, (sFind P c ys cap).1 = some y → y ∈ ys
  | [], _, _, h => by cases h
  | z :: ys, cap, y, h => by
    unfold sFind at h
    split at h
    · cases h; exact List.mem_cons_self
    · exact List.mem_cons_of_mem _ (sFind_mem h)
/-- shrinking: the input at the end, the edges' capacity -/
noncomputable def sShr (P : List mI) (c : Int32) : Nat → List Nat → Nat → List Nat × Nat
  | 0, xs, cap => (xs, cap)
  | k + 1, xs, cap => match (sFind P c (redL xs) cap).1 with
    | some y => sShr P c k y (sFind P c (redL xs) cap).2
    | none => (xs, (sFind P c (redL xs) cap).2)
theorem sShr_ge (P : List mI) (c : Int32) : ∀ (k : Nat) (xs : List Nat) (cap : Nat), cap ≤ (sShr P c k xs cap).2
  | 0, _, _ => Nat.le_refl _
  | k + 1, xs, cap => by
    unfold sShr
    split
    · exact Nat.le_trans (sFind_ge P c _ cap) (sShr_ge P c k _ _)
    · exact sFind_ge P c _ cap
theorem sShr_dg {P : List mI} {c : Int32} : ∀ (k : Nat) (xs : List Nat) (cap : Nat), sDg xs → sDg (sShr P c k xs cap).1
  | 0, _, _, h => h
  | k + 1, xs, cap, h => by
    unfold sShr
    split
    · rename_i y hy
      exact sShr_dg k y _ (sRed h (sFind_mem hy)).2
    · exact h
theorem g_CX.re {D : va_G} {w w1 : g_H} {x m9 ra eb wb0 wb2 pg par pcap t9 ta : Nat} {ps : List Nat} {P : List mI} (h : g_CX D w x m9 ra eb wb0 pg par pcap ps P (fun q => q = m9 ∨ q = ra ∨ q = eb ∨ q = wb0)) (k : g_ex (fun q => q = m9 ∨ q = ra ∨ q = eb ∨ q = wb0) w w1) (hwb : wb2 = wb0 ∨ wb2 ∉ w.1) (h1 : t9 ∉ w.1) (h2 : ta ∉ w.1) : g_CX D w1 x m9 ra eb wb2 pg par pcap ps P (fun q => q = m9 ∨ q = ra ∨ q = eb ∨ q = wb2 ∨ q = t9 ∨ q = ta) := by
  have hat := h.at k
  obtain ⟨⟨x1, x2, x4, x5, x6, x7, x8, x9, x10, hx⟩, hP, -, n1, n2, n3, n4⟩ := h
  have key : ∀ q, q ∈ w.1 → ¬ (q = m9 ∨ q = ra ∨ q = eb ∨ q = wb0) → ¬ (q = m9 ∨ q = ra ∨ q = eb ∨ q = wb2 ∨ q = t9 ∨ q = ta) := by
    intro q hq hn z
    rcases z with z | z | z | z | z | z
    · exact hn (Or.inl z)
    · exact hn (Or.inr (Or.inl z))
    · exact hn (Or.inr (Or.inr (Or.inl z)))
    · rcases hwb with r | r
      · exact hn (Or.inr (Or.inr (Or.inr (z.trans r))))
      · exact r (z ▸ hq)
    · exact h1 (z ▸ hq)
    · exact h2 (z ▸ hq)
  obtain ⟨mo, hpg, -, -, hpar⟩ := hP.1
  refine ⟨hat.1, hat.2, ⟨Or.inl rfl, Or.inr (Or.inl rfl), Or.inr (Or.inr (Or.inl rfl)), Or.inr (Or.inr (Or.inr (Or.inl rfl)))⟩, key _ hx.1 n1, key _ hpg.1 n2, fun h0 => ?_, fun j hj => key _ (hP.2.2.2 j hj).1.1 (n4 j hj)⟩
  rcases hpar with ⟨h9, -⟩ | ⟨-, f, hf, -⟩
  · omega
  · exact key _ hf.1 (n3 h0)
set_option maxHeartbeats 4000000 in
set_option maxRecDepth 100000 in
/-- ShrinkYard.shrink: its loop -/
theorem lpX1_shrink {p : Program} {l : Launch} {e : Env} {R : Room} {s : State} {m : MethodId} {args : Array Value} {below : List Frame} {meth : Method} {c : Code} {Q : State → Prop} {D : va_G} {A : Nat → Prop} (hx : p.tables.exec = Jvm.exec) (hb : c.code = cX1_shrink) (hts : ∀ w ∈ lw_all, w.before args s = true) (hown : s.vm.findClass RX1 = some m.cls) (hK : va_K D gCl (gT D) s) (hE : g_Env D A s) (hml : c.maxLocals = 5) (hRf : 9 ≤ R.frames) (hRl : 238 ≤ R.locals) (w : g_H) (x m9 ra eb wb0 pg par pcap n9 na t9 ta d : Nat) (ps : List Nat) (P : List mI) (c9 : Int32) (hcx : g_CX D w x m9 ra eb wb0 pg par pcap ps P (fun q => q = m9 ∨ q = ra ∨ q = eb ∨ q = wb0)) (hraw : ra ∈ w.1) (f1 : n9 ∉ w.1) (f2 : na ∉ w.1) (f3 : t9 ∉ w.1) (f4 : ta ∉ w.1) (nnt : g_nq t9 n9) (nnta : g_nq ta na) (CF SF capF : Nat) (yF : List Nat) (hRc : CF ≤ R.cells) (hRs : SF ≤ R.slots)
    (kk : ∀ (wb : Nat) (vv : Value) (cd : Int32) (st : Nat) (E : Nat → Bool) (n : Nat) (zs : List Nat) (w1 : g_H) (cells : Nat) (slots : Nat) (H : Heap) (locs : List Loc) (ls : Array Slot), cells ≤ CF → slots ≤ SF → g_ex (fun q => q = m9 ∨ q = ra ∨ q = eb ∨ q = wb0) w w1 → g_Ma D w1 m9 ra eb wb x vv cd st E n capF → (wb = wb0 ∨ wb ∉ w.1) → g_Dig D w1 n9 na yF → g_W D A s.heap H locs w1 → lv_has ls 5 [(3, .ref n9)] → W p l e R s m args below meth c H locs cells slots Q (F0 m 42 ls [])) :
    ∀ (k : Nat) (xs : List Nat) (cap : Nat) (wb : Nat) (vv : Value) (cd : Int32) (st : Nat) (E : Nat → Bool) (n : Nat) (zs : List Nat) (w1 : g_H) (cells : Nat) (slots : Nat) (H : Heap) (locs : List Loc) (ls : Array Slot), sMs xs < k → sDg xs → (sShr P c9 k xs cap).1 = yF → (sShr P c9 k xs cap).2 = capF → cells + (capF - cap) ≤ CF → slots + 2 * (capF - cap) ≤ SF → g_ex (fun q => q = m9 ∨ q = ra ∨ q = eb ∨ q = wb0) w w1 → g_Ma D w1 m9 ra eb wb x vv cd st E n cap → (wb = wb0 ∨ wb ∉ w.1) → g_Dig D w1 n9 na xs → g_Dig D w1 t9 ta zs → g_W D A s.heap H locs w1 → lv_has ls 5 [(4, .ref t9), (3, .ref n9), (0, .ref x), (1, .ref d), (2, .int (c9))] → W p l e R s m args below meth c H locs cells slots Q (F0 m 22 ls []) := by
  intro k
  induction k with
  | zero => intro xs cap wb vv cd st E n zs w1 cells slots H locs ls hfuel hxs hs1 hs2 hcl hsl hex hMa hwb hn ht hW hl; exact absurd hfuel (by omega)
  | succ k ih =>
    intro xs cap wb vv cd st E n zs w1 cells slots H locs ls hfuel hxs hs1 hs2 hcl hsl hex hMa hwb hn ht hW hl
    refine lv_aload_n hx hb dX1_shrink_22 rfl (lv_at hl 2 rfl) ?_
    refine lv_aload_n hx hb dX1_shrink_23 rfl (lv_at hl 1 rfl) ?_
    refine lv_iload_n hx hb dX1_shrink_24 rfl (lv_at hl 4 rfl) ?_
    refine lv_aload hx hb dX1_shrink_25 (lv_at hl 0 rfl) ?_
    have hcx1 := hcx.re hex hwb f3 f4
    obtain ⟨⟨x1, x2, x4, x5, x6, x7, x8, x9, x10, hx0⟩, -⟩ := hcx.at hex
    unfold sShr at hs1 hs2
    have hg1 := sFind_ge P c9 (redL xs) cap
    have hg2 : (sFind P c9 (redL xs) cap).2 ≤ capF := by rw [← hs2]; split; exact sShr_ge _ _ _ _ _; exact Nat.le_refl _
    have nra : g_nq ra ta := fun z => f4 (z ▸ hraw)
    have nrd : g_nq ra na := fun z => f2 (z ▸ hraw)
    refine g_calli (va_runV (As := [.ref n9, .int (c9), .ref t9]) (rest := []) ⟨hx, hb, hml, hown, hts⟩ (mtX1_isReduced l D w1 H.size x m9 ra eb wb pg par pcap n9 na t9 ta st n cap vv cd E ps P xs zs c9 hcx1 hMa hn ht nrd nra nnt nnta hxs.2) (cwV 3 hts (lw_V q1536 q1538 qs22 q34 q1539) rfl rfl rfl (by decide +kernel) ⟨Nat.le_trans (Nat.le_of_ble_eq_true rfl) hRf, Nat.le_trans (Nat.le_of_ble_eq_true rfl) hRl⟩) (g_preV hW hK hE hx0 rfl) rfl rfl hl.1 rfl (lv_room (Nat.le_of_ble_eq_true rfl)) dX1_shrink_27 ⟨?_, ?_⟩) hW (fun r_ u1 H locs hp hW => ?_)
    · omega
    · omega
    obtain ⟨er, wb2, vv2, cd2, st2, E2, n2, ys, hMa2, hwb2, ht2, hys, hex2⟩ := hp
    subst er
    have hex3 : g_ex (fun q => q = m9 ∨ q = ra ∨ q = eb ∨ q = wb0) w u1 := hex.trM hex2 (fun z hz q => by
      rcases q with q | q | q | q | q | q
      · exact Or.inl q
      · exact Or.inr (Or.inl q)
      · exact Or.inr (Or.inr (Or.inl q))
      · exact hwb.elim (fun r => Or.inr (Or.inr (Or.inr (q.trans r)))) (fun r => absurd (q ▸ hz) r)
      · exact absurd (q ▸ hz) f3
      · exact absurd (q ▸ hz) f4)
    have hwb3 := g_wbn hex hwb hwb2
    have hsep := hMa.sep hK hn nrd
    have hn2 : g_Dig D u1 n9 na xs := hn.ex hex2 (fun q => by
      rcases q with q | q | q | q | q | q
      · exact hsep.1 (Or.inl q)
      · exact hsep.1 (Or.inr (Or.inl q))
      · exact hsep.1 (Or.inr (Or.inr (Or.inl q)))
      · exact hsep.1 (Or.inr (Or.inr (Or.inr q)))
      · exact nnt q.symm
      · exact (by obtain ⟨f9, hf9, -⟩ := ht.2.1; exact g_neOA hn.1 hf9 : n9 ≠ ta) q) (fun q => by
      rcases q with q | q | q | q | q | q
      · exact hsep.2 (Or.inl q)
      · exact hsep.2 (Or.inr (Or.inl q))
      · exact hsep.2 (Or.inr (Or.inr (Or.inl q)))
      · exact hsep.2 (Or.inr (Or.inr (Or.inr q)))
      · exact (by obtain ⟨f9, hf9, -⟩ := hn.2.1; exact g_neAO hf9 ht.1 : na ≠ t9) q
      · exact nnta q.symm)
    rcases hsf : (sFind P c9 (redL xs) cap).1 with _ | y
    · rw [hsf] at hs1 hs2
      have hs1 : xs = yF := hs1
      have hs2 : (sFind P c9 (redL xs) cap).2 = capF := hs2
      refine lv_if_eq (tgt := 42) hx hb dX1_shrink_30 (by decide) (fun _ => ?_) (fun hz => absurd rfl hz)
      exact kk wb2 vv2 cd2 st2 E2 n2 ys u1 _ _ H locs ls (by omega) (by omega) hex3 (by rw [← hs2]; exact hMa2) hwb3 (by rw [← hs1]; exact hn2) hW (lv_sub hl [1] rfl)
    · rw [hsf] at hs1 hs2
      have hs1 : (sShr P c9 k y (sFind P c9 (redL xs) cap).2).1 = yF := hs1
      have hs2 : (sShr P c9 k y (sFind P c9 (redL xs) cap).2).2 = capF := hs2
      refine lv_if_eq (tgt := 42) hx hb dX1_shrink_30 (by decide) (fun hz => absurd hz (by simp)) (fun _ => ?_)
      have ey : ys = y := hys y hsf
      subst ey
      obtain ⟨hr1, hr2⟩ := sRed hxs (sFind_mem hsf)
      obtain ⟨hn3, ⟨gn, hgn, -⟩, -⟩ := id hn2
      refine lv_aload_n hx hb dX1_shrink_33 rfl (lv_at hl 1 rfl) ?_
      refine lv_aload hx hb dX1_shrink_34 (lv_at hl 0 rfl) ?_
      refine g_callv (va_runV (As := [.ref t9]) (rest := []) ⟨hx, hb, hml, hown, hts⟩ (mtX11_copy l D u1 H.size n9 t9 na ta xs.length gn ys hn3 hgn ht2 (fun z => nnt z.symm) (fun z => nnta z.symm)) (cwV 1 hts (lw_V q1532 q1533 q1534 q75 q1535) rfl rfl rfl (by decide +kernel) ⟨Nat.le_trans (Nat.le_of_ble_eq_true rfl) hRf, Nat.le_trans (Nat.le_of_ble_eq_true rfl) hRl⟩) (g_preV hW hK hE hn3 rfl) rfl rfl hl.1 rfl (lv_room (Nat.le_of_ble_eq_true rfl)) dX1_shrink_36 ⟨?_, ?_⟩) hW (fun u2 H locs hp hW => ?_)
      · omega
      · omega
      obtain ⟨hn4, hex4⟩ := hp
      have nra2 := hMa2.sep hK hn2 nrd
      have hq4 : ∀ q, (q = m9 ∨ q = ra ∨ q = eb ∨ q = wb2) → ¬ (q = n9 ∨ q = na) := fun q h1 h2 => h2.elim (fun z => nra2.1 (z ▸ h1)) (fun z => nra2.2 (z ▸ h1))
      have hMa4 := hMa2.ex hex4 (hq4 _ (Or.inl rfl)) (hq4 _ (Or.inr (Or.inl rfl))) (hq4 _ (Or.inr (Or.inr (Or.inl rfl)))) (hq4 _ (Or.inr (Or.inr (Or.inr rfl))))
      have ht4 := ht2.ex hex4 (fun z => z.elim (fun z => nnt z) (fun z => g_neOA ht2.1 hgn z)) (fun z => z.elim (fun z => by obtain ⟨f9, hf9, -⟩ := ht2.2.1; exact g_neAO hf9 hn3 z) (fun z => nnta z))
      have hex5 : g_ex (fun q => q = m9 ∨ q = ra ∨ q = eb ∨ q = wb0) w u2 := hex3.trM hex4 (fun z hz q => q.elim (fun q => absurd (q ▸ hz) f1) (fun q => absurd (q ▸ hz) f2))
      refine lv_goto (tgt := 22) hx hb dX1_shrink_39 (by decide) ?_
      exact ih ys _ wb2 vv2 cd2 st2 E2 n2 ys u2 _ _ H locs ls (by omega) hr2 hs1 hs2 (by omega) (by omega) hex5 hMa4 hwb3 hn4 ht4 hW hl
set_option maxHeartbeats 4000000 in
set_option maxRecDepth 100000 in
/-- ShrinkYard.shrink -/
theorem mtX1_shrink (l : Launch) (D : va_G) (w : g_H) (sz : Nat) (x m9 ra eb wb pg par pcap d da st n cap : Nat) (vv : Value) (cd : Int32) (E : Nat → Bool) (ps : List Nat) (P : List mI) (xs : List Nat) (c9 : Int32) (hcx : g_CX D w x m9 ra eb wb pg par pcap ps P (fun q => q = m9 ∨ q = ra ∨ q = eb ∨ q = wb)) (hMa : g_Ma D w m9 ra eb wb x vv cd st E n cap) (hd : g_Dig D w d da xs) (hxs : sDg xs) : Met l yX1_shrink (ws_ yX1_shrink cX1_shrink 5 (some (.object "java/lang/String"))) ({ frames := 9, cells := 8 + ((sShr P c9 (sMs xs + 1) xs cap).2 - cap), slots := 52 + 2 * ((sShr P c9 (sMs xs + 1) xs cap).2 - cap), locals := 238 }) (g_Pc D [.ref x, .ref d, .int (c9)] w sz) (g_Qq D w sz (fun r u => ∃ s9, r = some s9 ∧ s9 ∉ w.1 ∧ g_Str D u s9 ((sShr P c9 (sMs xs + 1) xs cap).1.map (fun x => 48 + x)) ∧ (∃ wb2 vv cd st E n, g_Ma D u m9 ra eb wb2 x vv cd st E n (sShr P c9 (sMs xs + 1) xs cap).2 ∧ (wb2 = wb ∨ wb2 ∉ w.1)) ∧ g_ex (fun q => q = m9 ∨ q = ra ∨ q = eb ∨ q = wb) w u)) (8 + ((sShr P c9 (sMs xs + 1) xs cap).2 - cap)) (52 + 2 * ((sShr P c9 (sMs xs + 1) xs cap).2 - cap)) (g_A w sz) := by
  refine Met.ofW (cc := cX1_shrink) (maxL := 5) (ret := (some (.object "java/lang/String"))) (by decide) rfl ?_
  intro p e s m args below meth c s₁ B hml hv
  obtain ⟨rfl, hI⟩ := hv
  have hx := B.exec
  have hb := B.bytes
  have hr := B.returns
  have hts := atoms_spec (ws := ws_ yX1_shrink cX1_shrink 5 (some (.object "java/lang/String"))) B.pre
  have hts : ∀ w ∈ lw_all, w.before _ s = true := fun w h => hts w (List.mem_cons_of_mem _ h)
  have hown : s.vm.findClass RX1 = some m.cls := findClass_of_methodNamed B.named
  have hlocks := B.notSynchronized
  have hsz := hI.1
  subst hsz
  have hW := g_W.start hI
  have hK := g_K hI
  have hE := g_E hI
  have hl := lv_entry ([.ref x, .ref d, .int (c9)]) (n := 5) (by exact Nat.le_of_ble_eq_true rfl)
  rw [lg_entry_eq]
  generalize (lg_sl ([.ref x, .ref d, .int (c9)]) ++ List.replicate (5 - (lg_sl ([.ref x, .ref d, .int (c9)])).length) Slot.unset).toArray = ls at hl ⊢
  have hl : lv_has ls 5 [(0, .ref x), (1, .ref d), (2, .int (c9))] := hl
  have hraw : ra ∈ w.1 := by obtain ⟨-, ⟨f9, hf9⟩, -⟩ := hMa; exact hf9.1
  have hgs := sShr_dg (P := P) (c := c9) (sMs xs + 1) xs cap hxs
  have hgs8 := hgs.1
  have x_1 : g_ex (fun _ => False) w w := g_ex.rf
  refine g_newo (ci := 2) (C := RX11) (T := TX11) (N := 2) hx hb hts in_X11 tyX11 tyX11_ok hown q1156 q1157 q75 hK hW rfl [.null, .int (0)] (by decide +kernel) ?_ ?_ dX1_shrink_0 (fun o_2 H hq hW => ?_)
  · show _ ≤ 8 + ((sShr P c9 (sMs xs + 1) xs cap).2 - cap); omega
  · show _ ≤ 52 + 2 * ((sShr P c9 (sMs xs + 1) xs cap).2 - cap); omega
  have ho_2 := hq
  obtain ⟨w_3, ew_3⟩ : ∃ z__, z__ = g_push w o_2 (.inr (2, [.null, .int (0)])) := ⟨_, rfl⟩
  have hW := g_W.ren hW ew_3 rfl
  have h_4 : g_at w_3 o_2 (.inr (2, [.null, .int (0)])) := by rw [ew_3]; exact g_at.push_self
  have x_5 : g_ex (fun _ => False) w w_3 := by rw [ew_3]; exact x_1.push hq
  refine lv_dup hx hb dX1_shrink_3 rfl ?_
  refine g_callv (va_runIN (As := []) (rest := [.ref o_2]) ⟨hx, hb, hml, hown, hts⟩ (mtX11_init l D w_3 H.size o_2 h_4) ⟨(va_cnB 0 hts (lw_meth q1160) rfl rfl rfl (nm_q1158 hE) (hts _ q75) (by decide +kernel) ⟨Nat.le_of_ble_eq_true rfl, Nat.le_of_ble_eq_true rfl⟩), rfl, hts _ q1159⟩ (g_preS hW hK hE) rfl rfl hl.1 rfl (lv_room (Nat.le_of_ble_eq_true rfl)) dX1_shrink_4 ⟨?_, ?_⟩) hW (fun u1 H locs hp hW => ?_)
  · (try simp only [headSpec]); omega
  · (try simp only [headSpec]); omega
  obtain ⟨a1, ha1, hd1, hx1⟩ := hp
  have hh1 : g_ex (fun _ => False) w u1 := x_5.trM hx1 (fun z hz1 hz2 => ho_2 (by rw [← hz2]; exact hz1))
  refine lv_astore_n (lv' := [(3, .ref o_2), (0, .ref x), (1, .ref d), (2, .int (c9))]) hx hb dX1_shrink_7 rfl hl (by decide) rfl (fun ls hl => ?_)
  refine g_newo (ci := 2) (C := RX11) (T := TX11) (N := 2) hx hb hts in_X11 tyX11 tyX11_ok hown q1156 q1157 q75 hK hW rfl [.null, .int (0)] (by decide +kernel) ?_ ?_ dX1_shrink_8 (fun o_6 H hq hW => ?_)
  · show _ ≤ 8 + ((sShr P c9 (sMs xs + 1) xs cap).2 - cap); omega
  · show _ ≤ 52 + 2 * ((sShr P c9 (sMs xs + 1) xs cap).2 - cap); omega
  have ho_6 := hq
  obtain ⟨w_7, ew_7⟩ : ∃ z__, z__ = g_push u1 o_6 (.inr (2, [.null, .int (0)])) := ⟨_, rfl⟩
  have hW := g_W.ren hW ew_7 rfl
  have h_8 : g_at w_7 o_6 (.inr (2, [.null, .int (0)])) := by rw [ew_7]; exact g_at.push_self
  have x_9 : g_ex (fun _ => False) w w_7 := by rw [ew_7]; exact hh1.push hq
  refine lv_dup hx hb dX1_shrink_11 rfl ?_
  refine g_callv (va_runIN (As := []) (rest := [.ref o_6]) ⟨hx, hb, hml, hown, hts⟩ (mtX11_init l D w_7 H.size o_6 h_8) ⟨(va_cnB 0 hts (lw_meth q1160) rfl rfl rfl (nm_q1158 hE) (hts _ q75) (by decide +kernel) ⟨Nat.le_of_ble_eq_true rfl, Nat.le_of_ble_eq_true rfl⟩), rfl, hts _ q1159⟩ (g_preS hW hK hE) rfl rfl hl.1 rfl (lv_room (Nat.le_of_ble_eq_true rfl)) dX1_shrink_12 ⟨?_, ?_⟩) hW (fun u2 H locs hp hW => ?_)
  · (try simp only [headSpec]); omega
  · (try simp only [headSpec]); omega
  obtain ⟨a2, ha2, hd2, hx2⟩ := hp
  have hh2 : g_ex (fun _ => False) w u2 := x_9.trM hx2 (fun z hz1 hz2 => ho_6 (by rw [← hz2]; exact hh1.1 _ hz1))
  have hxp : g_ex (fun _ => False) u1 w_7 := by rw [ew_7]; exact g_ex.rf.push ho_6
  have hn1 : g_Dig D u2 o_2 a1 [] := (hd1.ex hxp (fun z => z) (fun z => z)).ex hx2 (fun z => ho_6 (by rw [← z]; exact hd1.1.1)) (fun z => ho_6 (by rw [← z]; obtain ⟨f9, hf9, -⟩ := hd1.2.1; exact hf9.1))
  have f1 : o_2 ∉ w.1 := ho_2
  have f2 : a1 ∉ w.1 := fun z => ha1 (x_5.1 _ z)
  have f3 : o_6 ∉ w.1 := fun z => ho_6 (hh1.1 _ z)
  have f4 : a2 ∉ w.1 := fun z => ha2 (x_9.1 _ z)
  have nnt : g_nq o_6 o_2 := fun z => ho_6 (by rw [z]; exact hd1.1.1)
  have nnta : g_nq a2 a1 := fun z => ha2 (by rw [z]; obtain ⟨f9, hf9, -⟩ := hd1.2.1; exact hxp.1 _ hf9.1)
  have hdd : g_Dig D u2 d da xs := hd.ex hh2 (fun z => z) (fun z => z)
  refine lv_astore (lv' := [(4, .ref o_6), (3, .ref o_2), (0, .ref x), (1, .ref d), (2, .int (c9))]) hx hb dX1_shrink_15 hl (by decide) rfl (fun ls hl => ?_)
  refine lv_aload_n hx hb dX1_shrink_17 rfl (lv_at hl 1 rfl) ?_
  refine lv_aload_n hx hb dX1_shrink_18 rfl (lv_at hl 3 rfl) ?_
  obtain ⟨hn2, ⟨gn, hgn, -⟩, -⟩ := id hn1
  refine g_callv (va_runV (As := [.ref d]) (rest := []) ⟨hx, hb, hml, hown, hts⟩ (mtX11_copy l D u2 H.size o_2 d a1 da ([] : List Nat).length gn xs hn2 hgn hdd (fun z => f1 (by rw [z]; exact hd.1.1)) (fun z => f2 (by rw [z]; obtain ⟨f9, hf9, -⟩ := hd.2.1; exact hf9.1))) (cwV 1 hts (lw_V q1532 q1533 q1534 q75 q1535) rfl rfl rfl (by decide +kernel) ⟨Nat.le_of_ble_eq_true rfl, Nat.le_of_ble_eq_true rfl⟩) (g_preV hW hK hE hn2 rfl) rfl rfl hl.1 rfl (lv_room (Nat.le_of_ble_eq_true rfl)) dX1_shrink_19 ⟨?_, ?_⟩) hW (fun u3 H locs hp hW => ?_)
  · (try simp only [headSpec]); omega
  · (try simp only [headSpec]); omega
  obtain ⟨hn3, hex3⟩ := hp
  have hh3 : g_ex (fun _ => False) w u3 := hh2.trM hex3 (fun z hz1 hz2 => hz2.elim (fun q => f1 (q ▸ hz1)) (fun q => f2 (q ▸ hz1)))
  have ht3 : g_Dig D u3 o_6 a2 [] := hd2.ex hex3 (fun z => z.elim (fun z => nnt z) (fun z => g_neOA hd2.1 hgn z)) (fun z => z.elim (fun z => by obtain ⟨f9, hf9, -⟩ := hd2.2.1; exact g_neAO hf9 hn2 z) (fun z => nnta z))
  have hMa3 := hMa.ex hh3 (fun z => z) (fun z => z) (fun z => z) (fun z => z)
  refine lpX1_shrink (D := D) hx hb hts hown hK hE hml (Nat.le_of_ble_eq_true rfl) (Nat.le_of_ble_eq_true rfl) w x m9 ra eb wb pg par pcap o_2 a1 o_6 a2 d ps P c9 hcx hraw f1 f2 f3 f4 nnt nnta (4 + ((sShr P c9 (sMs xs + 1) xs cap).2 - cap)) (20 + 2 * ((sShr P c9 (sMs xs + 1) xs cap).2 - cap)) (sShr P c9 (sMs xs + 1) xs cap).2 (sShr P c9 (sMs xs + 1) xs cap).1 ?_ ?_ (fun wb2 vv2 cd2 st2 E2 n2 zs w1 cells slots H locs ls hcl hsl hex hMa hwb hn hW hl => ?_) (sMs xs + 1) xs cap wb vv cd st E n [] u3 _ _ _ _ ls (by omega) hxs rfl rfl (by omega) (by omega) (hh3.mono (fun _ _ z => z.elim)) hMa3 (Or.inl rfl) hn3 ht3 hW (lv_sub hl [0, 1, 2, 3, 4] rfl)
  · (try simp only [headSpec]); omega
  · (try simp only [headSpec]); omega
  refine lv_aload_n hx hb dX1_shrink_42 rfl (lv_at hl 0 rfl) ?_
  refine g_callq (va_runV (As := []) (rest := []) ⟨hx, hb, hml, hown, hts⟩ (mtX11_text l D w1 H.size o_2 a1 (sShr P c9 (sMs xs + 1) xs cap).1 hn (fun x hx => Nat.le_of_lt_succ (Nat.lt_of_lt_of_le (hgs.2 x hx) (by decide)))) (cwV 0 hts (lw_V q1268 q1269 q1270 q75 q1271) rfl rfl rfl (by decide +kernel) ⟨Nat.le_of_ble_eq_true rfl, Nat.le_of_ble_eq_true rfl⟩) (g_preV hW hK hE hn.1 rfl) rfl rfl hl.1 rfl (lv_room (Nat.le_of_ble_eq_true rfl)) dX1_shrink_43 ⟨?_, ?_⟩) hW (fun r_ u4 H locs hp hW => ?_)
  · (try simp only [headSpec]); omega
  · (try simp only [headSpec]); omega
  obtain ⟨s9, er, hs9, hstr, hex4⟩ := hp
  subst er
  exact g_qret (v := some s9) hx hb hr (Or.inl ⟨_, rfl⟩) hlocks hW (⟨s9, rfl, (fun z => hs9 (hex.1 _ z)), hstr, ⟨wb2, vv2, cd2, st2, E2, n2, hMa.ex hex4 (fun z => z) (fun z => z) (fun z => z) (fun z => z), hwb⟩, hex.tr (hex4.mono (fun _ _ z => z.elim))⟩) (by omega) (by omega) dX1_shrink_46
