/-! java.util.LinkedList. g_LL D w a ns xs: at a stands a LinkedList with the nodes ns (places) that hold xs -/
set_option maxRecDepth 100000
def g_nds (w : g_H) (ns xs : List Nat) : Prop := xs.length = ns.length ∧ (∀ i, i < ns.length → ∃ pv : Value, g_at w (ns.getD i 0) (.inr (13, [.ref (xs.getD i 0), va_rf (ns[i + 1]?), pv]))) ∧ ∀ i j, i < j → j < ns.length → ns.getD i 0 ≠ ns.getD j 0
def g_LL (D : va_G) (w : g_H) (a : Nat) (ns xs : List Nat) : Prop := (∃ mo : Int32, g_at w a (.inr (12, [.int mo, .int (nI ns.length), va_rf (ns[0]?), va_rf (ns[ns.length - 1]?)]))) ∧ g_nds w ns xs ∧ ns.length < 100000
theorem g_getD {ns : List Nat} {i : Nat} (h : i < ns.length) : ns[i]? = some (ns.getD i 0) := by rw [List.getD_eq_getElem?_getD, List.getElem?_eq_getElem h]; rfl
theorem g_mem {ns : List Nat} {i : Nat} (h : i < ns.length) : ns.getD i 0 ∈ ns := List.mem_of_getElem? (g_getD h)
theorem g_of_mem {ns : List Nat} {n : Nat} (h : n ∈ ns) : ∃ i, i < ns.length ∧ ns.getD i 0 = n := by
  obtain ⟨i, hi, e⟩ := List.mem_iff_getElem.mp h
  exact ⟨i, hi, by rw [List.getD_eq_getElem?_getD, List.getElem?_eq_getElem hi]; exact e⟩
theorem g_nds.ex {M : Nat → Prop} {w w' : g_H} {ns xs : List Nat} (h : g_nds w ns xs) (k : g_ex M w w') (n : ∀ y ∈ ns, ¬ M y) : g_nds w' ns xs := by
  obtain ⟨h1, h2, h3⟩ := h
  exact ⟨h1, fun i hi => let ⟨pv, h⟩ := h2 i hi; ⟨pv, k.at h (n _ (g_mem hi))⟩, h3⟩
theorem g_LL.ex {D : va_G} {M : Nat → Prop} {w w' : g_H} {a : Nat} {ns xs : List Nat} (h : g_LL D w a ns xs) (k : g_ex M w w') (n1 : ¬ M a) (n2 : ∀ y ∈ ns, ¬ M y) : g_LL D w' a ns xs := by
  obtain ⟨⟨mo, h1⟩, h2, h3⟩ := h
  exact ⟨⟨mo, k.at h1 n1⟩, h2.ex k n2, h3⟩
/-- a node more, at the end -/
theorem g_nds.snoc {w w' : g_H} {ns xs : List Nat} {k y : Nat} {pk : Value} (h : g_nds w ns xs) (hk : g_at w' k (.inr (13, [.ref y, .null, pk]))) (hn : ∀ n ∈ ns, n ≠ k) (h1 : ∀ i, i + 1 < ns.length → ∀ e, g_at w (ns.getD i 0) e → g_at w' (ns.getD i 0) e) (h2 : ∀ i, i + 1 = ns.length → ∃ pv : Value, g_at w' (ns.getD i 0) (.inr (13, [.ref (xs.getD i 0), .ref k, pv]))) : g_nds w' (ns ++ [k]) (xs ++ [y]) := by
  obtain ⟨e1, e2, e3⟩ := h
  have g1 : ∀ i, i < ns.length → (ns ++ [k]).getD i 0 = ns.getD i 0 := fun i hi => by rw [List.getD_eq_getElem?_getD, List.getElem?_append_left hi, List.getD_eq_getElem?_getD]
  have g2 : (ns ++ [k]).getD ns.length 0 = k := by rw [List.getD_eq_getElem?_getD, List.getElem?_append_right (Nat.le_refl _), Nat.sub_self]; rfl
  have g3 : ∀ i, i < ns.length → (xs ++ [y]).getD i 0 = xs.getD i 0 := fun i hi => by rw [List.getD_eq_getElem?_getD, List.getElem?_append_left (by omega), List.getD_eq_getElem?_getD]
  have g4 : (xs ++ [y]).getD ns.length 0 = y := by rw [List.getD_eq_getElem?_getD, List.getElem?_append_right (by omega), show ns.length - xs.length = 0 by omega]; rfl
  refine ⟨by simp [e1], fun i hi => ?_, fun i j hij hj => ?_⟩
  · rw [List.length_append, List.length_singleton] at hi
    rcases Nat.lt_trichotomy (i + 1) ns.length with q | q | q
    · obtain ⟨pv, hp⟩ := e2 i (by omega)
      refine ⟨pv, ?_⟩
      rw [g1 i (by omega), g3 i (by omega), List.getElem?_append_left q]
      exact h1 i q _ hp
    · obtain ⟨pv, hp⟩ := h2 i q
      refine ⟨pv, ?_⟩
      rw [g1 i (by omega), g3 i (by omega), List.getElem?_append_right (by omega), show i + 1 - ns.length = 0 by omega]
      exact hp
    · have e : i = ns.length := by omega
      subst e
      refine ⟨pk, ?_⟩
      rw [g2, g4, List.getElem?_eq_none (by simp)]
      exact hk
  · rw [List.length_append, List.length_singleton] at hj
    by_cases q : j < ns.length
    · rw [g1 i (by omega), g1 j q]; exact e3 i j hij q
    · have e : j = ns.length := by omega
      subst e
      rw [g1 i hij, g2]
      exact hn _ (g_mem hij)
/-- the first node less -/
theorem g_nds.tail {w w' : g_H} {n x : Nat} {ns xs : List Nat} (h : g_nds w (n :: ns) (x :: xs)) (h1 : ∀ i, 0 < i → i < ns.length → ∀ e, g_at w (ns.getD i 0) e → g_at w' (ns.getD i 0) e) (h2 : 0 < ns.length → ∃ pv : Value, g_at w' (ns.getD 0 0) (.inr (13, [.ref (xs.getD 0 0), va_rf (ns[1]?), pv]))) : g_nds w' ns xs := by
  obtain ⟨e1, e2, e3⟩ := h
  refine ⟨by simpa using e1, fun i hi => ?_, fun i j hij hj => e3 (i + 1) (j + 1) (by omega) (by simp; omega)⟩
  rcases Nat.eq_zero_or_pos i with q | q
  · subst q; exact h2 hi
  · obtain ⟨pv, hp⟩ := e2 (i + 1) (by simp; omega)
    exact ⟨pv, h1 i q hi _ hp⟩
theorem g_last1 {ns : List Nat} {k : Nat} : (ns ++ [k])[(ns ++ [k]).length - 1]? = some k := by
  rw [List.length_append, List.length_singleton, Nat.add_sub_cancel, List.getElem?_append_right (Nat.le_refl _), Nat.sub_self]
  rfl
set_option maxHeartbeats 4000000 in
set_option maxRecDepth 100000 in
/-- AbstractSequentialList.<init> -/
theorem mtJ4_init (l : Launch) (D : va_G) (w : g_H) (sz : Nat) (a : Nat) (ha : g_at w a (.inr (12, [.int 0, .int 0, .null, .null]))) : Met l yJ4_init (ws_ yJ4_init cJ4_init 1 none) ({ frames := 3, cells := 0, slots := 0, locals := 52 }) (g_Pc D [.ref a] w sz) (g_Qv D w sz (fun u => g_at u a (.inr (12, [.int 0, .int 0, .null, .null])) ∧ g_ex (fun q => q = a) w u)) (0) (0) (g_A w sz) := by
  refine Met.ofW (cc := cJ4_init) (maxL := 1) (ret := none) (by decide) rfl ?_
  intro p e s m args below meth c s₁ B hml hv
  obtain ⟨rfl, hI⟩ := hv
  have hx := B.exec
  have hb := B.bytes
  have hr := B.returns
  have hts := atoms_spec (ws := ws_ yJ4_init cJ4_init 1 none) B.pre
  have hts : ∀ w ∈ lw_all, w.before _ s = true := fun w h => hts w (List.mem_cons_of_mem _ h)
  have hown : s.vm.findClass RJ4 = some m.cls := findClass_of_methodNamed B.named
  have hlocks := B.notSynchronized
  have hin : meth.name = "<init>" := (name_of_methodNamed B.named B.method).1
  have hsz := hI.1
  subst hsz
  have hW := g_W.start hI
  have hK := g_K hI
  have hE := g_E hI
  have hl := lv_entry ([.ref a]) (n := 1) (by exact Nat.le_of_ble_eq_true rfl)
  rw [lg_entry_eq]
  generalize (lg_sl ([.ref a]) ++ List.replicate (1 - (lg_sl ([.ref a])).length) Slot.unset).toArray = ls at hl ⊢
  have hl : lv_has ls 1 [(0, .ref a)] := hl
  refine lv_aload_n hx hb dJ4_init_0 rfl (lv_at hl 0 rfl) ?_
  refine g_callv (va_runI (As := []) (rest := []) ⟨hx, hb, hml, hown, hts⟩ (mtJ1_init_L l D w s.heap.size a ha) (cwI 0 hts (lw_meth q132) rfl rfl rfl (hts _ q36) (hts _ q225) (hts _ q131) rfl (by decide +kernel) ⟨Nat.le_of_ble_eq_true rfl, Nat.le_of_ble_eq_true rfl⟩) (g_preS hW hK hE) rfl rfl hl.1 rfl (lv_room (Nat.le_of_ble_eq_true rfl)) dJ4_init_1 ⟨Nat.le_of_ble_eq_true rfl, Nat.le_of_ble_eq_true rfl⟩) hW (fun u_ H locs hp hW => ?_)
  exact g_vret hx hb hr hlocks hW (hp) (by omega) (by omega) dJ4_init_4
set_option maxHeartbeats 4000000 in
set_option maxRecDepth 100000 in
/-- new LinkedList() -/
theorem mtJ5_init (l : Launch) (D : va_G) (w : g_H) (sz : Nat) (a : Nat) (ha : g_at w a (.inr (12, [.int 0, .int 0, .null, .null]))) : Met l yJ5_init (ws_ yJ5_init cJ5_init 1 none) ({ frames := 4, cells := 0, slots := 0, locals := 72 }) (g_Pc D [.ref a] w sz) (g_Qv D w sz (fun u => g_LL D u a [] [] ∧ g_ex (fun q => q = a) w u)) (0) (0) (g_A w sz) := by
  refine Met.ofW (cc := cJ5_init) (maxL := 1) (ret := none) (by decide) rfl ?_
  intro p e s m args below meth c s₁ B hml hv
  obtain ⟨rfl, hI⟩ := hv
  have hx := B.exec
  have hb := B.bytes
  have hr := B.returns
  have hts := atoms_spec (ws := ws_ yJ5_init cJ5_init 1 none) B.pre
  have hts : ∀ w ∈ lw_all, w.before _ s = true := fun w h => hts w (List.mem_cons_of_mem _ h)
  have hown : s.vm.findClass RJ5 = some m.cls := findClass_of_methodNamed B.named
  have hlocks := B.notSynchronized
  have hin : meth.name = "<init>" := (name_of_methodNamed B.named B.method).1
  have hsz := hI.1
  subst hsz
  have hW := g_W.start hI
  have hK := g_K hI
  have hE := g_E hI
  have hl := lv_entry ([.ref a]) (n := 1) (by exact Nat.le_of_ble_eq_true rfl)
  rw [lg_entry_eq]
  generalize (lg_sl ([.ref a]) ++ List.replicate (1 - (lg_sl ([.ref a])).length) Slot.unset).toArray = ls at hl ⊢
  have hl : lv_has ls 1 [(0, .ref a)] := hl
  refine lv_aload_n hx hb dJ5_init_0 rfl (lv_at hl 0 rfl) ?_
  refine g_callv (va_runI (As := []) (rest := []) ⟨hx, hb, hml, hown, hts⟩ (mtJ4_init l D w s.heap.size a ha) (cwI 0 hts (lw_meth q224) rfl rfl rfl (hts _ q40) (hts _ q222) (hts _ q223) rfl (by decide +kernel) ⟨Nat.le_of_ble_eq_true rfl, Nat.le_of_ble_eq_true rfl⟩) (g_preS hW hK hE) rfl rfl hl.1 rfl (lv_room (Nat.le_of_ble_eq_true rfl)) dJ5_init_1 ⟨Nat.le_of_ble_eq_true rfl, Nat.le_of_ble_eq_true rfl⟩) hW (fun u1 H locs hp hW => ?_)
  obtain ⟨ha1, hex1⟩ := hp
  refine lv_aload_n hx hb dJ5_init_4 rfl (lv_at hl 0 rfl) ?_
  refine lv_iconst (v := 0) hx hb dJ5_init_5 (by decide) ?_
  refine g_putf (ci := 12) (v := .int (0)) (ty := .int) (C := RJ5) (T := TJ5) (N := 4) hx hb hts in_J5 tyJ5 tyJ5_ok nmJ5 hown hK hW ha1 rfl 1 (by decide) q226 (fun _ h9 => h9) rfl (by decide +kernel) rfl rfl (Nat.le_of_ble_eq_true rfl) dJ5_init_6 (fun H locs hW => ?_)
  obtain ⟨w_1, ew_1⟩ : ∃ z__, z__ = g_put u1 a (.inr (12, [.int (0), .int (0), .null, .null])) := ⟨_, rfl⟩
  have hW := g_W.ren hW ew_1 rfl
  have h_2 : g_at w_1 a (.inr (12, [.int (0), .int (0), .null, .null])) := by rw [ew_1]; exact g_at.put_self ha1.1
  have x_3 : g_ex (fun q => q = a) w w_1 := by rw [ew_1]; exact hex1.put (fun hz9 => rfl)
  exact g_vret hx hb hr hlocks hW (⟨⟨⟨0, h_2⟩, ⟨rfl, fun i hi => absurd hi (by simp), fun i j _ hj => absurd hj (by simp)⟩, by decide⟩, x_3⟩) (by omega) (by omega) dJ5_init_9
set_option maxHeartbeats 4000000 in
set_option maxRecDepth 100000 in
/-- new LinkedList.Node -/
theorem mtJ9_init_0 (l : Launch) (D : va_G) (w : g_H) (sz : Nat) (a y : Nat) (ha : g_at w a (.inr (13, [.null, .null, .null]))) : Met l yJ9_init (ws_ yJ9_init cJ9_init 4 none) ({ frames := 1, cells := 0, slots := 0, locals := 12 }) (g_Pc D [.ref a, .null, .ref y, .null] w sz) (g_Qv D w sz (fun u => g_at u a (.inr (13, [.ref y, .null, .null])) ∧ g_ex (fun q => q = a) w u)) (0) (0) (g_A w sz) := by
  refine Met.ofW (cc := cJ9_init) (maxL := 4) (ret := none) (by decide) rfl ?_
  intro p e s m args below meth c s₁ B hml hv
  obtain ⟨rfl, hI⟩ := hv
  have hx := B.exec
  have hb := B.bytes
  have hr := B.returns
  have hts := atoms_spec (ws := ws_ yJ9_init cJ9_init 4 none) B.pre
  have hts : ∀ w ∈ lw_all, w.before _ s = true := fun w h => hts w (List.mem_cons_of_mem _ h)
  have hown : s.vm.findClass RJ9 = some m.cls := findClass_of_methodNamed B.named
  have hlocks := B.notSynchronized
  have hin : meth.name = "<init>" := (name_of_methodNamed B.named B.method).1
  have hsz := hI.1
  subst hsz
  have hW := g_W.start hI
  have hK := g_K hI
  have hE := g_E hI
  have hl := lv_entry ([.ref a, .null, .ref y, .null]) (n := 4) (by exact Nat.le_of_ble_eq_true rfl)
  rw [lg_entry_eq]
  generalize (lg_sl ([.ref a, .null, .ref y, .null]) ++ List.replicate (4 - (lg_sl ([.ref a, .null, .ref y, .null])).length) Slot.unset).toArray = ls at hl ⊢
  have hl : lv_has ls 4 [(0, .ref a), (1, .null), (2, .ref y), (3, .null)] := hl
  have x_1 : g_ex (fun q => q = a) w w := g_ex.rf
  refine lv_aload_n hx hb dJ9_init_0 rfl (lv_at hl 0 rfl) ?_
  refine W.objInit hx hb hown (hts _ q337) (hts _ q104) (hts _ q105) rfl (by rw [hml]; exact hl.1) rfl dJ9_init_1 (Nat.le_of_ble_eq_true rfl) (Nat.le_of_ble_eq_true rfl) ?_
  refine W.eq (g2 := F0 m 4 ls []) rfl ?_
  refine lv_aload_n hx hb dJ9_init_4 rfl (lv_at hl 0 rfl) ?_
  refine lv_aload_n hx hb dJ9_init_5 rfl (lv_at hl 2 rfl) ?_
  refine g_putf (ci := 13) (v := .ref y) (ty := (.object "java/lang/Object")) (C := RJ9) (T := TJ9) (N := 3) hx hb hts in_J9 tyJ9 tyJ9_ok nmJ9 hown hK hW ha rfl 0 (by decide) q338 (fun _ h9 => h9) rfl (by decide +kernel) rfl rfl (Nat.le_of_ble_eq_true rfl) dJ9_init_6 (fun H locs hW => ?_)
  obtain ⟨w_2, ew_2⟩ : ∃ z__, z__ = g_put w a (.inr (13, [.ref y, .null, .null])) := ⟨_, rfl⟩
  have hW := g_W.ren hW ew_2 rfl
  have h_3 : g_at w_2 a (.inr (13, [.ref y, .null, .null])) := by rw [ew_2]; exact g_at.put_self ha.1
  have x_4 : g_ex (fun q => q = a) w w_2 := by rw [ew_2]; exact x_1.put (fun hz9 => rfl)
  refine lv_aload_n hx hb dJ9_init_9 rfl (lv_at hl 0 rfl) ?_
  refine lv_aload_nN hx hb dJ9_init_10 rfl (lv_at hl 3 rfl) ?_
  refine g_putf (ci := 13) (v := .null) (ty := (.object "java/util/LinkedList$Node")) (C := RJ9) (T := TJ9) (N := 3) hx hb hts in_J9 tyJ9 tyJ9_ok nmJ9 hown hK hW h_3 rfl 1 (by decide) q341 (fun _ h9 => h9) rfl (by decide +kernel) rfl rfl (Nat.le_of_ble_eq_true rfl) dJ9_init_11 (fun H locs hW => ?_)
  obtain ⟨w_5, ew_5⟩ : ∃ z__, z__ = g_put w_2 a (.inr (13, [.ref y, .null, .null])) := ⟨_, rfl⟩
  have hW := g_W.ren hW ew_5 rfl
  have h_6 : g_at w_5 a (.inr (13, [.ref y, .null, .null])) := by rw [ew_5]; exact g_at.put_self h_3.1
  have x_7 : g_ex (fun q => q = a) w w_5 := by rw [ew_5]; exact x_4.put (fun hz9 => rfl)
  refine lv_aload_n hx hb dJ9_init_14 rfl (lv_at hl 0 rfl) ?_
  refine lv_aload_nN hx hb dJ9_init_15 rfl (lv_at hl 1 rfl) ?_
  refine g_putf (ci := 13) (v := .null) (ty := (.object "java/util/LinkedList$Node")) (C := RJ9) (T := TJ9) (N := 3) hx hb hts in_J9 tyJ9 tyJ9_ok nmJ9 hown hK hW h_6 rfl 2 (by decide) q344 (fun _ h9 => h9) rfl (by decide +kernel) rfl rfl (Nat.le_of_ble_eq_true rfl) dJ9_init_16 (fun H locs hW => ?_)
  obtain ⟨w_8, ew_8⟩ : ∃ z__, z__ = g_put w_5 a (.inr (13, [.ref y, .null, .null])) := ⟨_, rfl⟩
  have hW := g_W.ren hW ew_8 rfl
  have h_9 : g_at w_8 a (.inr (13, [.ref y, .null, .null])) := by rw [ew_8]; exact g_at.put_self h_6.1
  have x_10 : g_ex (fun q => q = a) w w_8 := by rw [ew_8]; exact x_7.put (fun hz9 => rfl)
  exact g_vret hx hb hr hlocks hW (⟨h_9, x_10⟩) (by omega) (by omega) dJ9_init_19
set_option maxHeartbeats 4000000 in
set_option maxRecDepth 100000 in
/-- new LinkedList.Node -/
theorem mtJ9_init_1 (l : Launch) (D : va_G) (w : g_H) (sz : Nat) (a y z : Nat) (ha : g_at w a (.inr (13, [.null, .null, .null]))) : Met l yJ9_init (ws_ yJ9_init cJ9_init 4 none) ({ frames := 1, cells := 0, slots := 0, locals := 12 }) (g_Pc D [.ref a, .ref z, .ref y, .null] w sz) (g_Qv D w sz (fun u => g_at u a (.inr (13, [.ref y, .null, .ref z])) ∧ g_ex (fun q => q = a) w u)) (0) (0) (g_A w sz) := by
  refine Met.ofW (cc := cJ9_init) (maxL := 4) (ret := none) (by decide) rfl ?_
  intro p e s m args below meth c s₁ B hml hv
  obtain ⟨rfl, hI⟩ := hv
  have hx := B.exec
  have hb := B.bytes
  have hr := B.returns
  have hts := atoms_spec (ws := ws_ yJ9_init cJ9_init 4 none) B.pre
  have hts : ∀ w ∈ lw_all, w.before _ s = true := fun w h => hts w (List.mem_cons_of_mem _ h)
  have hown : s.vm.findClass RJ9 = some m.cls := findClass_of_methodNamed B.named
  have hlocks := B.notSynchronized
  have hin : meth.name = "<init>" := (name_of_methodNamed B.named B.method).1
  have hsz := hI.1
  subst hsz
  have hW := g_W.start hI
  have hK := g_K hI
  have hE := g_E hI
  have hl := lv_entry ([.ref a, .ref z, .ref y, .null]) (n := 4) (by exact Nat.le_of_ble_eq_true rfl)
  rw [lg_entry_eq]
  generalize (lg_sl ([.ref a, .ref z, .ref y, .null]) ++ List.replicate (4 - (lg_sl ([.ref a, .ref z, .ref y, .null])).length) Slot.unset).toArray = ls at hl ⊢
  have hl : lv_has ls 4 [(0, .ref a), (1, .ref z), (2, .ref y), (3, .null)] := hl
  have x_1 : g_ex (fun q => q = a) w w := g_ex.rf
  refine lv_aload_n hx hb dJ9_init_0 rfl (lv_at hl 0 rfl) ?_
  refine W.objInit hx hb hown (hts _ q337) (hts _ q104) (hts _ q105) rfl (by rw [hml]; exact hl.1) rfl dJ9_init_1 (Nat.le_of_ble_eq_true rfl) (Nat.le_of_ble_eq_true rfl) ?_
  refine W.eq (g2 := F0 m 4 ls []) rfl ?_
  refine lv_aload_n hx hb dJ9_init_4 rfl (lv_at hl 0 rfl) ?_
  refine lv_aload_n hx hb dJ9_init_5 rfl (lv_at hl 2 rfl) ?_
  refine g_putf (ci := 13) (v := .ref y) (ty := (.object "java/lang/Object")) (C := RJ9) (T := TJ9) (N := 3) hx hb hts in_J9 tyJ9 tyJ9_ok nmJ9 hown hK hW ha rfl 0 (by decide) q338 (fun _ h9 => h9) rfl (by decide +kernel) rfl rfl (Nat.le_of_ble_eq_true rfl) dJ9_init_6 (fun H locs hW => ?_)
  obtain ⟨w_2, ew_2⟩ : ∃ z__, z__ = g_put w a (.inr (13, [.ref y, .null, .null])) := ⟨_, rfl⟩
  have hW := g_W.ren hW ew_2 rfl
  have h_3 : g_at w_2 a (.inr (13, [.ref y, .null, .null])) := by rw [ew_2]; exact g_at.put_self ha.1
  have x_4 : g_ex (fun q => q = a) w w_2 := by rw [ew_2]; exact x_1.put (fun hz9 => rfl)
  refine lv_aload_n hx hb dJ9_init_9 rfl (lv_at hl 0 rfl) ?_
  refine lv_aload_nN hx hb dJ9_init_10 rfl (lv_at hl 3 rfl) ?_
  refine g_putf (ci := 13) (v := .null) (ty := (.object "java/util/LinkedList$Node")) (C := RJ9) (T := TJ9) (N := 3) hx hb hts in_J9 tyJ9 tyJ9_ok nmJ9 hown hK hW h_3 rfl 1 (by decide) q341 (fun _ h9 => h9) rfl (by decide +kernel) rfl rfl (Nat.le_of_ble_eq_true rfl) dJ9_init_11 (fun H locs hW => ?_)
  obtain ⟨w_5, ew_5⟩ : ∃ z__, z__ = g_put w_2 a (.inr (13, [.ref y, .null, .null])) := ⟨_, rfl⟩
  have hW := g_W.ren hW ew_5 rfl
  have h_6 : g_at w_5 a (.inr (13, [.ref y, .null, .null])) := by rw [ew_5]; exact g_at.put_self h_3.1
  have x_7 : g_ex (fun q => q = a) w w_5 := by rw [ew_5]; exact x_4.put (fun hz9 => rfl)
  refine lv_aload_n hx hb dJ9_init_14 rfl (lv_at hl 0 rfl) ?_
  refine lv_aload_n hx hb dJ9_init_15 rfl (lv_at hl 1 rfl) ?_
  refine g_putf (ci := 13) (v := .ref z) (ty := (.object "java/util/LinkedList$Node")) (C := RJ9) (T := TJ9) (N := 3) hx hb hts in_J9 tyJ9 tyJ9_ok nmJ9 hown hK hW h_6 rfl 2 (by decide) q344 (fun _ h9 => h9) rfl (by decide +kernel) rfl rfl (Nat.le_of_ble_eq_true rfl) dJ9_init_16 (fun H locs hW => ?_)
  obtain ⟨w_8, ew_8⟩ : ∃ z__, z__ = g_put w_5 a (.inr (13, [.ref y, .null, .ref z])) := ⟨_, rfl⟩
  have hW := g_W.ren hW ew_8 rfl
  have h_9 : g_at w_8 a (.inr (13, [.ref y, .null, .ref z])) := by rw [ew_8]; exact g_at.put_self h_6.1
  have x_10 : g_ex (fun q => q = a) w w_8 := by rw [ew_8]; exact x_7.put (fun hz9 => rfl)
  exact g_vret hx hb hr hlocks hW (⟨h_9, x_10⟩) (by omega) (by omega) dJ9_init_19
set_option maxHeartbeats 4000000 in
set_option maxRecDepth 100000 in
/-- LinkedList.size -/
theorem mtJ5_size (l : Launch) (D : va_G) (w : g_H) (sz : Nat) (a : Nat) (ns xs : List Nat) (hll : g_LL D w a ns xs) : Met l yJ5_size (ws_ yJ5_size cJ5_size 1 (some .int)) ({ frames := 1, cells := 0, slots := 0, locals := 12 }) (g_Pc D [.ref a] w sz) (g_Qi D w sz (fun r u => r = nI ns.length ∧ w = u)) (0) (0) (g_A w sz) := by
  refine Met.ofW (cc := cJ5_size) (maxL := 1) (ret := (some .int)) (by decide) rfl ?_
  intro p e s m args below meth c s₁ B hml hv
  obtain ⟨rfl, hI⟩ := hv
  have hx := B.exec
  have hb := B.bytes
  have hr := B.returns
  have hts := atoms_spec (ws := ws_ yJ5_size cJ5_size 1 (some .int)) B.pre
  have hts : ∀ w ∈ lw_all, w.before _ s = true := fun w h => hts w (List.mem_cons_of_mem _ h)
  have hown : s.vm.findClass RJ5 = some m.cls := findClass_of_methodNamed B.named
  have hlocks := B.notSynchronized
  have hsz := hI.1
  subst hsz
  have hW := g_W.start hI
  have hK := g_K hI
  have hE := g_E hI
  have hl := lv_entry ([.ref a]) (n := 1) (by exact Nat.le_of_ble_eq_true rfl)
  rw [lg_entry_eq]
  generalize (lg_sl ([.ref a]) ++ List.replicate (1 - (lg_sl ([.ref a])).length) Slot.unset).toArray = ls at hl ⊢
  have hl : lv_has ls 1 [(0, .ref a)] := hl
  obtain ⟨⟨mo, ha⟩, hns, hlen⟩ := hll
  refine lv_aload_n hx hb dJ5_size_0 rfl (lv_at hl 0 rfl) ?_
  refine g_get (ci := 12) (v := .int (nI ns.length)) (C := RJ5) (T := TJ5) (N := 4) hx hb hts in_J5 hown hK hW ha rfl 1 (by decide) q226 (fun _ h9 => h9) rfl dJ5_size_1 ?_
  exact g_iret (v := nI ns.length) hx hb hr hlocks hW (⟨rfl, rfl⟩) (by omega) (by omega) dJ5_size_4
set_option maxHeartbeats 4000000 in
set_option maxRecDepth 100000 in
/-- AbstractCollection.isEmpty, of a LinkedList -/
theorem mtJ0_isEmpty (l : Launch) (D : va_G) (w : g_H) (sz : Nat) (a : Nat) (ns xs : List Nat) (hll : g_LL D w a ns xs) : Met l yJ0_isEmpty (ws_ yJ0_isEmpty cJ0_isEmpty 1 (some .boolean)) ({ frames := 2, cells := 0, slots := 0, locals := 32 }) (g_Pc D [.ref a] w sz) (g_Qi D w sz (fun r u => r = (if ns.length = 0 then 1 else 0) ∧ w = u)) (0) (0) (g_A w sz) := by
  refine Met.ofW (cc := cJ0_isEmpty) (maxL := 1) (ret := (some .boolean)) (by decide) rfl ?_
  intro p e s m args below meth c s₁ B hml hv
  obtain ⟨rfl, hI⟩ := hv
  have hx := B.exec
  have hb := B.bytes
  have hr := B.returns
  have hts := atoms_spec (ws := ws_ yJ0_isEmpty cJ0_isEmpty 1 (some .boolean)) B.pre
  have hts : ∀ w ∈ lw_all, w.before _ s = true := fun w h => hts w (List.mem_cons_of_mem _ h)
  have hown : s.vm.findClass RJ0 = some m.cls := findClass_of_methodNamed B.named
  have hlocks := B.notSynchronized
  have hsz := hI.1
  subst hsz
  have hW := g_W.start hI
  have hK := g_K hI
  have hE := g_E hI
  have hl := lv_entry ([.ref a]) (n := 1) (by exact Nat.le_of_ble_eq_true rfl)
  rw [lg_entry_eq]
  generalize (lg_sl ([.ref a]) ++ List.replicate (1 - (lg_sl ([.ref a])).length) Slot.unset).toArray = ls at hl ⊢
  have hl : lv_has ls 1 [(0, .ref a)] := hl
  have hll9 := hll
  obtain ⟨⟨mo, ha⟩, hns, hlen⟩ := hll
  refine lv_aload_n hx hb dJ0_isEmpty_0 rfl (lv_at hl 0 rfl) ?_
  refine g_calli (va_runU (As := []) (rest := []) ⟨hx, hb, hml, hown, hts⟩ (mtJ5_size l D w s.heap.size a ns xs hll9) (va_cwA (owner := "java/util/AbstractCollection") (x := ⟨"java/util/AbstractCollection", "size", "()I"⟩) 0 hts (lw_app (lw_in _ [1084, 1086, 1088, 448, 41] (by decide +kernel) (by decide +kernel)) (lw_meth q450)) rfl rfl rfl hE.sz (by decide +kernel) ⟨Nat.le_of_ble_eq_true rfl, Nat.le_of_ble_eq_true rfl⟩) (g_preV hW hK hE ha rfl) rfl rfl hl.1 rfl (lv_room (Nat.le_of_ble_eq_true rfl)) dJ0_isEmpty_1 ⟨Nat.le_of_ble_eq_true rfl, Nat.le_of_ble_eq_true rfl⟩) hW (fun r_ u_ H locs hp hW => ?_)
  obtain ⟨er, rfl⟩ := hp
  subst er
  refine lv_if_ne (tgt := 11) hx hb dJ0_isEmpty_4 (by decide) (fun hc => ?_) (fun hc => ?_)
  · refine lv_iconst (v := 0) hx hb dJ0_isEmpty_11 (by decide) ?_
    exact g_zret (v := 0) hx hb hr hlocks (by rfl) hW (⟨by rw [if_neg (fun z => hc (by rw [z]; rfl))], rfl⟩) (by omega) (by omega) dJ0_isEmpty_12
  · have hz : ns.length = 0 := by
        by_cases q : ns.length = 0
        · exact q
        · exact absurd hc (nI_ne (b := 0) (by omega) (by omega) q)
    refine lv_iconst (v := 1) hx hb dJ0_isEmpty_7 (by decide) ?_
    refine lv_goto (tgt := 12) hx hb dJ0_isEmpty_8 (by decide) ?_
    exact g_zret (v := 1) hx hb hr hlocks (by rfl) hW (⟨by rw [if_pos hz], rfl⟩) (by omega) (by omega) dJ0_isEmpty_12
set_option maxHeartbeats 4000000 in
set_option maxRecDepth 100000 in
/-- LinkedList.linkLast -/
theorem mtJ5_linkLast (l : Launch) (D : va_G) (w : g_H) (sz : Nat) (a : Nat) (ns xs : List Nat) (hll : g_LL D w a ns xs) (y : Nat) (hl9 : ns.length < 99999) : Met l yJ5_linkLast (ws_ yJ5_linkLast cJ5_linkLast 4 none) ({ frames := 2, cells := 1, slots := 3, locals := 35 }) (g_Pc D [.ref a, .ref y] w sz) (g_Qv D w sz (fun u => ∃ k, k ∉ w.1 ∧ g_LL D u a (ns ++ [k]) (xs ++ [y]) ∧ g_ex (fun q => q = a ∨ q ∈ ns) w u)) (1) (3) (g_A w sz) := by
  refine Met.ofW (cc := cJ5_linkLast) (maxL := 4) (ret := none) (by decide) rfl ?_
  intro p e s m args below meth c s₁ B hml hv
  obtain ⟨rfl, hI⟩ := hv
  have hx := B.exec
  have hb := B.bytes
  have hr := B.returns
  have hts := atoms_spec (ws := ws_ yJ5_linkLast cJ5_linkLast 4 none) B.pre
  have hts : ∀ w ∈ lw_all, w.before _ s = true := fun w h => hts w (List.mem_cons_of_mem _ h)
  have hown : s.vm.findClass RJ5 = some m.cls := findClass_of_methodNamed B.named
  have hlocks := B.notSynchronized
  have hsz := hI.1
  subst hsz
  have hW := g_W.start hI
  have hK := g_K hI
  have hE := g_E hI
  have hl := lv_entry ([.ref a, .ref y]) (n := 4) (by exact Nat.le_of_ble_eq_true rfl)
  rw [lg_entry_eq]
  generalize (lg_sl ([.ref a, .ref y]) ++ List.replicate (4 - (lg_sl ([.ref a, .ref y])).length) Slot.unset).toArray = ls at hl ⊢
  have hl : lv_has ls 4 [(0, .ref a), (1, .ref y)] := hl
  obtain ⟨⟨mo, ha⟩, hns, hlen⟩ := hll
  have ham : a ∈ w.1 := ha.1
  by_cases hz : ns.length = 0
  · have hn0 : ns = [] := List.eq_nil_of_length_eq_zero hz
    subst hn0
    have hx0 : xs = [] := List.eq_nil_of_length_eq_zero hns.1
    subst hx0
    have x_1 : g_ex (fun q => q = a ∨ q ∈ ([] : List Nat)) w w := g_ex.rf
    refine lv_aload_n hx hb dJ5_linkLast_0 rfl (lv_at hl 0 rfl) ?_
    refine g_get (ci := 12) (v := .null) (C := RJ5) (T := TJ5) (N := 4) hx hb hts in_J5 hown hK hW ha rfl 3 (by decide) q229 (fun _ h9 => h9) rfl dJ5_linkLast_1 ?_
    refine lv_astore_nN (lv' := [(2, .null), (0, .ref a), (1, .ref y)]) hx hb dJ5_linkLast_4 rfl hl (by decide) rfl (fun ls hl => ?_)
    refine g_newo (ci := 13) (C := RJ9) (T := TJ9) (N := 3) hx hb hts in_J9 tyJ9 tyJ9_ok hown q332 q333 q46 hK hW rfl [.null, .null, .null] (by decide +kernel) ?_ ?_ dJ5_linkLast_5 (fun o_2 H hq hW => ?_)
    · show _ ≤ 1; omega
    · show _ ≤ 3; omega
    have ho_2 := hq
    obtain ⟨w_3, ew_3⟩ : ∃ z__, z__ = g_push w o_2 (.inr (13, [.null, .null, .null])) := ⟨_, rfl⟩
    have hW := g_W.ren hW ew_3 rfl
    have h_4 : g_at w_3 a (.inr (12, [.int (mo), .int (nI ([] : List Nat).length), .null, .null])) := by rw [ew_3]; exact ha.push hq
    have h_5 : g_at w_3 o_2 (.inr (13, [.null, .null, .null])) := by rw [ew_3]; exact g_at.push_self
    have x_6 : g_ex (fun q => q = a ∨ q ∈ ([] : List Nat)) w w_3 := by rw [ew_3]; exact x_1.push hq
    refine lv_dup hx hb dJ5_linkLast_8 rfl ?_
    refine lv_aload_nN hx hb dJ5_linkLast_9 rfl (lv_at hl 0 rfl) ?_
    refine lv_aload_n hx hb dJ5_linkLast_10 rfl (lv_at hl 2 rfl) ?_
    refine lv_null hx hb dJ5_linkLast_11 ?_
    refine g_callv (va_runI (As := [.null, .ref y, .null]) (rest := [.ref o_2]) ⟨hx, hb, hml, hown, hts⟩ (mtJ9_init_0 l D w_3 H.size o_2 y h_5) (cwI 3 hts (lw_meth q336) rfl rfl rfl (hts _ q46) (hts _ q334) (hts _ q335) rfl (by decide +kernel) ⟨Nat.le_of_ble_eq_true rfl, Nat.le_of_ble_eq_true rfl⟩) (g_preS hW hK hE) rfl rfl hl.1 rfl (lv_room (Nat.le_of_ble_eq_true rfl)) dJ5_linkLast_12 ⟨?_, ?_⟩) hW (fun u1 H locs hp hW => ?_)
    · (try simp only [headSpec]); omega
    · (try simp only [headSpec]); omega
    obtain ⟨hq1, hex1⟩ := hp
    have ha1 := hex1.at h_4 (g_new ho_2 ham)
    have hx1 : g_ex (fun q => q = a ∨ q ∈ ([] : List Nat)) w u1 := x_6.trM hex1 (fun z hz1 hz2 => absurd (hz2 ▸ hz1) ho_2)
    refine lv_astore_n (lv' := [(3, .ref o_2), (2, .null), (0, .ref a), (1, .ref y)]) hx hb dJ5_linkLast_15 rfl hl (by decide) rfl (fun ls hl => ?_)
    refine lv_aload_n hx hb dJ5_linkLast_16 rfl (lv_at hl 2 rfl) ?_
    refine lv_aload_n hx hb dJ5_linkLast_17 rfl (lv_at hl 0 rfl) ?_
    refine g_putf (ci := 12) (v := .ref o_2) (ty := (.object "java/util/LinkedList$Node")) (C := RJ5) (T := TJ5) (N := 4) hx hb hts in_J5 tyJ5 tyJ5_ok nmJ5 hown hK hW ha1 rfl 3 (by decide) q229 (fun _ h9 => h9) rfl (by decide +kernel) rfl rfl (Nat.le_of_ble_eq_true rfl) dJ5_linkLast_18 (fun H locs hW => ?_)
    obtain ⟨w_7, ew_7⟩ : ∃ z__, z__ = g_put u1 a (.inr (12, [.int (mo), .int (nI ([] : List Nat).length), .null, .ref o_2])) := ⟨_, rfl⟩
    have hW := g_W.ren hW ew_7 rfl
    have h_8 : g_at w_7 a (.inr (12, [.int (mo), .int (nI ([] : List Nat).length), .null, .ref o_2])) := by rw [ew_7]; exact g_at.put_self ha1.1
    have h_9 : g_at w_7 o_2 (.inr (13, [.ref y, .null, .null])) := by rw [ew_7]; exact hq1.put (g_neO hq1 ha1 (by decide))
    have x_10 : g_ex (fun q => q = a ∨ q ∈ ([] : List Nat)) w w_7 := by rw [ew_7]; exact hx1.put (fun hz9 => (Or.inl rfl))
    refine lv_aload_nN hx hb dJ5_linkLast_21 rfl (lv_at hl 1 rfl) ?_
    refine lv_ifnonnullN hx hb dJ5_linkLast_22 ?_
    refine lv_aload_n hx hb dJ5_linkLast_25 rfl (lv_at hl 2 rfl) ?_
    refine lv_aload_n hx hb dJ5_linkLast_26 rfl (lv_at hl 0 rfl) ?_
    refine g_putf (ci := 12) (v := .ref o_2) (ty := (.object "java/util/LinkedList$Node")) (C := RJ5) (T := TJ5) (N := 4) hx hb hts in_J5 tyJ5 tyJ5_ok nmJ5 hown hK hW h_8 rfl 2 (by decide) q228 (fun _ h9 => h9) rfl (by decide +kernel) rfl rfl (Nat.le_of_ble_eq_true rfl) dJ5_linkLast_27 (fun H locs hW => ?_)
    obtain ⟨w_11, ew_11⟩ : ∃ z__, z__ = g_put w_7 a (.inr (12, [.int (mo), .int (nI ([] : List Nat).length), .ref o_2, .ref o_2])) := ⟨_, rfl⟩
    have hW := g_W.ren hW ew_11 rfl
    have h_12 : g_at w_11 a (.inr (12, [.int (mo), .int (nI ([] : List Nat).length), .ref o_2, .ref o_2])) := by rw [ew_11]; exact g_at.put_self h_8.1
    have h_13 : g_at w_11 o_2 (.inr (13, [.ref y, .null, .null])) := by rw [ew_11]; exact h_9.put (g_neO h_9 h_8 (by decide))
    have x_14 : g_ex (fun q => q = a ∨ q ∈ ([] : List Nat)) w w_11 := by rw [ew_11]; exact x_10.put (fun hz9 => (Or.inl rfl))
    refine lv_goto (tgt := 38) hx hb dJ5_linkLast_30 (by decide) ?_
    refine lv_aload_n hx hb dJ5_linkLast_38 rfl (lv_at hl 2 rfl) ?_
    refine lv_dup hx hb dJ5_linkLast_39 rfl ?_
    refine g_get (ci := 12) (v := .int (nI ([] : List Nat).length)) (C := RJ5) (T := TJ5) (N := 4) hx hb hts in_J5 hown hK hW h_12 rfl 1 (by decide) q226 (fun _ h9 => h9) rfl dJ5_linkLast_40 ?_
    refine lv_iconst (v := 1) hx hb dJ5_linkLast_43 (by decide) ?_
    refine lv_iadd hx hb dJ5_linkLast_44 ?_
    refine g_topi (y := nI (([] : List Nat) ++ [o_2]).length) (by rfl) ?_
    refine g_putf (ci := 12) (v := .int (nI (([] : List Nat) ++ [o_2]).length)) (ty := .int) (C := RJ5) (T := TJ5) (N := 4) hx hb hts in_J5 tyJ5 tyJ5_ok nmJ5 hown hK hW h_12 rfl 1 (by decide) q226 (fun _ h9 => h9) rfl (by decide +kernel) rfl rfl (Nat.le_of_ble_eq_true rfl) dJ5_linkLast_45 (fun H locs hW => ?_)
    obtain ⟨w_15, ew_15⟩ : ∃ z__, z__ = g_put w_11 a (.inr (12, [.int (mo), .int (nI (([] : List Nat) ++ [o_2]).length), .ref o_2, .ref o_2])) := ⟨_, rfl⟩
    have hW := g_W.ren hW ew_15 rfl
    have h_16 : g_at w_15 a (.inr (12, [.int (mo), .int (nI (([] : List Nat) ++ [o_2]).length), .ref o_2, .ref o_2])) := by rw [ew_15]; exact g_at.put_self h_12.1
    have h_17 : g_at w_15 o_2 (.inr (13, [.ref y, .null, .null])) := by rw [ew_15]; exact h_13.put (g_neO h_13 h_12 (by decide))
    have x_18 : g_ex (fun q => q = a ∨ q ∈ ([] : List Nat)) w w_15 := by rw [ew_15]; exact x_14.put (fun hz9 => (Or.inl rfl))
    refine lv_aload_n hx hb dJ5_linkLast_48 rfl (lv_at hl 2 rfl) ?_
    refine lv_dup hx hb dJ5_linkLast_49 rfl ?_
    refine g_get (ci := 12) (v := .int (mo)) (C := RJ5) (T := TJ5) (N := 4) hx hb hts in_J5 hown hK hW h_16 rfl 0 (by decide) q149 (fun x9 h9 => u_same (hts _ q145) x9 h9) rfl dJ5_linkLast_50 ?_
    refine lv_iconst (v := 1) hx hb dJ5_linkLast_53 (by decide) ?_
    refine lv_iadd hx hb dJ5_linkLast_54 ?_
    refine g_putf (ci := 12) (v := .int ((mo) + (1))) (ty := .int) (C := RJ5) (T := TJ5) (N := 4) hx hb hts in_J5 tyJ5 tyJ5_ok nmJ5 hown hK hW h_16 rfl 0 (by decide) q149 (fun x9 h9 => u_same (hts _ q145) x9 h9) rfl (by decide +kernel) rfl rfl (Nat.le_of_ble_eq_true rfl) dJ5_linkLast_55 (fun H locs hW => ?_)
    obtain ⟨w_19, ew_19⟩ : ∃ z__, z__ = g_put w_15 a (.inr (12, [.int ((mo) + (1)), .int (nI (([] : List Nat) ++ [o_2]).length), .ref o_2, .ref o_2])) := ⟨_, rfl⟩
    have hW := g_W.ren hW ew_19 rfl
    have h_20 : g_at w_19 a (.inr (12, [.int ((mo) + (1)), .int (nI (([] : List Nat) ++ [o_2]).length), .ref o_2, .ref o_2])) := by rw [ew_19]; exact g_at.put_self h_16.1
    have h_21 : g_at w_19 o_2 (.inr (13, [.ref y, .null, .null])) := by rw [ew_19]; exact h_17.put (g_neO h_17 h_16 (by decide))
    have x_22 : g_ex (fun q => q = a ∨ q ∈ ([] : List Nat)) w w_19 := by rw [ew_19]; exact x_18.put (fun hz9 => (Or.inl rfl))
    refine g_vret hx hb hr hlocks hW (⟨o_2, ho_2, ⟨⟨_, h_20⟩, ⟨rfl, fun i hi => ?_, fun i j hij hj => absurd hj (by simp; omega)⟩, by simp⟩, x_22⟩) (by omega) (by omega) dJ5_linkLast_58
    have e0 : i = 0 := by simp at hi; exact hi
    subst e0
    exact ⟨.null, h_21⟩
  · obtain ⟨z, hzd⟩ : ∃ z, z = ns.getD (ns.length - 1) 0 := ⟨_, rfl⟩
    have hzl : ns[ns.length - 1]? = some z := by rw [hzd]; exact g_getD (by omega)
    have hz0 : ns[0]? = some (ns.getD 0 0) := g_getD (by omega)
    have hzm : z ∈ ns := by rw [hzd]; exact g_mem (by omega)
    obtain ⟨pv, hzn⟩ := hns.2.1 (ns.length - 1) (by omega)
    rw [← hzd, List.getElem?_eq_none (by omega)] at hzn
    rw [hzl, hz0] at ha
    have x_23 : g_ex (fun q => q = a ∨ q ∈ ns) w w := g_ex.rf
    refine lv_aload_n hx hb dJ5_linkLast_0 rfl (lv_at hl 0 rfl) ?_
    refine g_get (ci := 12) (v := .ref z) (C := RJ5) (T := TJ5) (N := 4) hx hb hts in_J5 hown hK hW ha rfl 3 (by decide) q229 (fun _ h9 => h9) rfl dJ5_linkLast_1 ?_
    refine lv_astore_n (lv' := [(2, .ref z), (0, .ref a), (1, .ref y)]) hx hb dJ5_linkLast_4 rfl hl (by decide) rfl (fun ls hl => ?_)
    refine g_newo (ci := 13) (C := RJ9) (T := TJ9) (N := 3) hx hb hts in_J9 tyJ9 tyJ9_ok hown q332 q333 q46 hK hW rfl [.null, .null, .null] (by decide +kernel) ?_ ?_ dJ5_linkLast_5 (fun o_24 H hq hW => ?_)
    · show _ ≤ 1; omega
    · show _ ≤ 3; omega
    have ho_24 := hq
    obtain ⟨w_25, ew_25⟩ : ∃ z__, z__ = g_push w o_24 (.inr (13, [.null, .null, .null])) := ⟨_, rfl⟩
    have yw_25 : g_ex (fun q => q = a ∨ q = z) w w_25 := by rw [ew_25]; exact (g_ex.rf : g_ex (fun q => q = a ∨ q = z) w w).push hq
    have hW := g_W.ren hW ew_25 rfl
    have h_26 : g_at w_25 a (.inr (12, [.int (mo), .int (nI ns.length), .ref (ns.getD 0 0), .ref z])) := by rw [ew_25]; exact ha.push hq
    have h_27 : g_at w_25 z (.inr (13, [.ref (xs.getD (ns.length - 1) 0), .null, pv])) := by rw [ew_25]; exact hzn.push hq
    have h_28 : g_at w_25 o_24 (.inr (13, [.null, .null, .null])) := by rw [ew_25]; exact g_at.push_self
    have x_29 : g_ex (fun q => q = a ∨ q ∈ ns) w w_25 := by rw [ew_25]; exact x_23.push hq
    refine lv_dup hx hb dJ5_linkLast_8 rfl ?_
    refine lv_aload_n hx hb dJ5_linkLast_9 rfl (lv_at hl 0 rfl) ?_
    refine lv_aload_n hx hb dJ5_linkLast_10 rfl (lv_at hl 2 rfl) ?_
    refine lv_null hx hb dJ5_linkLast_11 ?_
    refine g_callv (va_runI (As := [.ref z, .ref y, .null]) (rest := [.ref o_24]) ⟨hx, hb, hml, hown, hts⟩ (mtJ9_init_1 l D w_25 H.size o_24 y z h_28) (cwI 3 hts (lw_meth q336) rfl rfl rfl (hts _ q46) (hts _ q334) (hts _ q335) rfl (by decide +kernel) ⟨Nat.le_of_ble_eq_true rfl, Nat.le_of_ble_eq_true rfl⟩) (g_preS hW hK hE) rfl rfl hl.1 rfl (lv_room (Nat.le_of_ble_eq_true rfl)) dJ5_linkLast_12 ⟨?_, ?_⟩) hW (fun u1 H locs hp hW => ?_)
    · (try simp only [headSpec]); omega
    · (try simp only [headSpec]); omega
    obtain ⟨hq1, hex1⟩ := hp
    have ha1 := hex1.at h_26 (g_new ho_24 ham)
    have hz1 := hex1.at h_27 (g_new ho_24 hzn.1)
    have hx1 : g_ex (fun q => q = a ∨ q ∈ ns) w u1 := x_29.trM hex1 (fun z hz1 hz2 => absurd (hz2 ▸ hz1) ho_24)
    have yu1 : g_ex (fun q => q = a ∨ q = z) w u1 := yw_25.trM hex1 (fun z hz1 hz2 => absurd (hz2 ▸ hz1) ho_24)
    have hqz : o_24 ≠ z := fun e => ho_24 (e ▸ hzn.1)
    refine lv_astore_n (lv' := [(3, .ref o_24), (2, .ref z), (0, .ref a), (1, .ref y)]) hx hb dJ5_linkLast_15 rfl hl (by decide) rfl (fun ls hl => ?_)
    refine lv_aload_n hx hb dJ5_linkLast_16 rfl (lv_at hl 2 rfl) ?_
    refine lv_aload_n hx hb dJ5_linkLast_17 rfl (lv_at hl 0 rfl) ?_
    refine g_putf (ci := 12) (v := .ref o_24) (ty := (.object "java/util/LinkedList$Node")) (C := RJ5) (T := TJ5) (N := 4) hx hb hts in_J5 tyJ5 tyJ5_ok nmJ5 hown hK hW ha1 rfl 3 (by decide) q229 (fun _ h9 => h9) rfl (by decide +kernel) rfl rfl (Nat.le_of_ble_eq_true rfl) dJ5_linkLast_18 (fun H locs hW => ?_)
    obtain ⟨w_30, ew_30⟩ : ∃ z__, z__ = g_put u1 a (.inr (12, [.int (mo), .int (nI ns.length), .ref (ns.getD 0 0), .ref o_24])) := ⟨_, rfl⟩
    have yw_30 : g_ex (fun q => q = a ∨ q = z) w w_30 := by rw [ew_30]; exact yu1.put (fun hz9 => Or.inl rfl)
    have hW := g_W.ren hW ew_30 rfl
    have h_31 : g_at w_30 a (.inr (12, [.int (mo), .int (nI ns.length), .ref (ns.getD 0 0), .ref o_24])) := by rw [ew_30]; exact g_at.put_self ha1.1
    have h_32 : g_at w_30 z (.inr (13, [.ref (xs.getD (ns.length - 1) 0), .null, pv])) := by rw [ew_30]; exact hz1.put (g_neO hz1 ha1 (by decide))
    have h_33 : g_at w_30 o_24 (.inr (13, [.ref y, .null, .ref z])) := by rw [ew_30]; exact hq1.put (g_neO hq1 ha1 (by decide))
    have x_34 : g_ex (fun q => q = a ∨ q ∈ ns) w w_30 := by rw [ew_30]; exact hx1.put (fun hz9 => (Or.inl rfl))
    refine lv_aload_n hx hb dJ5_linkLast_21 rfl (lv_at hl 1 rfl) ?_
    refine lv_ifnonnull (tgt := 33) hx hb dJ5_linkLast_22 (by decide) ?_
    refine lv_aload_n hx hb dJ5_linkLast_33 rfl (lv_at hl 1 rfl) ?_
    refine lv_aload_n hx hb dJ5_linkLast_34 rfl (lv_at hl 0 rfl) ?_
    refine g_putf (ci := 13) (v := .ref o_24) (ty := (.object "java/util/LinkedList$Node")) (C := RJ9) (T := TJ9) (N := 3) hx hb hts in_J9 tyJ9 tyJ9_ok nmJ9 hown hK hW h_32 rfl 1 (by decide) q343 (fun _ h9 => h9) rfl (by decide +kernel) rfl rfl (Nat.le_of_ble_eq_true rfl) dJ5_linkLast_35 (fun H locs hW => ?_)
    obtain ⟨w_35, ew_35⟩ : ∃ z__, z__ = g_put w_30 z (.inr (13, [.ref (xs.getD (ns.length - 1) 0), .ref o_24, pv])) := ⟨_, rfl⟩
    have yw_35 : g_ex (fun q => q = a ∨ q = z) w w_35 := by rw [ew_35]; exact yw_30.put (fun hz9 => Or.inr rfl)
    have hW := g_W.ren hW ew_35 rfl
    have h_36 : g_at w_35 a (.inr (12, [.int (mo), .int (nI ns.length), .ref (ns.getD 0 0), .ref o_24])) := by rw [ew_35]; exact h_31.put (g_neO h_31 h_32 (by decide))
    have h_37 : g_at w_35 z (.inr (13, [.ref (xs.getD (ns.length - 1) 0), .ref o_24, pv])) := by rw [ew_35]; exact g_at.put_self h_32.1
    have h_38 : g_at w_35 o_24 (.inr (13, [.ref y, .null, .ref z])) := by rw [ew_35]; exact h_33.put hqz
    have x_39 : g_ex (fun q => q = a ∨ q ∈ ns) w w_35 := by rw [ew_35]; exact x_34.put (fun hz9 => (Or.inr hzm))
    refine lv_aload_n hx hb dJ5_linkLast_38 rfl (lv_at hl 2 rfl) ?_
    refine lv_dup hx hb dJ5_linkLast_39 rfl ?_
    refine g_get (ci := 12) (v := .int (nI ns.length)) (C := RJ5) (T := TJ5) (N := 4) hx hb hts in_J5 hown hK hW h_36 rfl 1 (by decide) q226 (fun _ h9 => h9) rfl dJ5_linkLast_40 ?_
    refine lv_iconst (v := 1) hx hb dJ5_linkLast_43 (by decide) ?_
    refine lv_iadd hx hb dJ5_linkLast_44 ?_
    refine g_topi (y := nI (ns ++ [o_24]).length) (by rw [List.length_append]; exact nI_1 _) ?_
    refine g_putf (ci := 12) (v := .int (nI (ns ++ [o_24]).length)) (ty := .int) (C := RJ5) (T := TJ5) (N := 4) hx hb hts in_J5 tyJ5 tyJ5_ok nmJ5 hown hK hW h_36 rfl 1 (by decide) q226 (fun _ h9 => h9) rfl (by decide +kernel) rfl rfl (Nat.le_of_ble_eq_true rfl) dJ5_linkLast_45 (fun H locs hW => ?_)
    obtain ⟨w_40, ew_40⟩ : ∃ z__, z__ = g_put w_35 a (.inr (12, [.int (mo), .int (nI (ns ++ [o_24]).length), .ref (ns.getD 0 0), .ref o_24])) := ⟨_, rfl⟩
    have yw_40 : g_ex (fun q => q = a ∨ q = z) w w_40 := by rw [ew_40]; exact yw_35.put (fun hz9 => Or.inl rfl)
    have hW := g_W.ren hW ew_40 rfl
    have h_41 : g_at w_40 a (.inr (12, [.int (mo), .int (nI (ns ++ [o_24]).length), .ref (ns.getD 0 0), .ref o_24])) := by rw [ew_40]; exact g_at.put_self h_36.1
    have h_42 : g_at w_40 z (.inr (13, [.ref (xs.getD (ns.length - 1) 0), .ref o_24, pv])) := by rw [ew_40]; exact h_37.put (g_neO h_37 h_36 (by decide))
    have h_43 : g_at w_40 o_24 (.inr (13, [.ref y, .null, .ref z])) := by rw [ew_40]; exact h_38.put (g_neO h_38 h_36 (by decide))
    have x_44 : g_ex (fun q => q = a ∨ q ∈ ns) w w_40 := by rw [ew_40]; exact x_39.put (fun hz9 => (Or.inl rfl))
    refine lv_aload_n hx hb dJ5_linkLast_48 rfl (lv_at hl 2 rfl) ?_
    refine lv_dup hx hb dJ5_linkLast_49 rfl ?_
    refine g_get (ci := 12) (v := .int (mo)) (C := RJ5) (T := TJ5) (N := 4) hx hb hts in_J5 hown hK hW h_41 rfl 0 (by decide) q149 (fun x9 h9 => u_same (hts _ q145) x9 h9) rfl dJ5_linkLast_50 ?_
    refine lv_iconst (v := 1) hx hb dJ5_linkLast_53 (by decide) ?_
    refine lv_iadd hx hb dJ5_linkLast_54 ?_
    refine g_putf (ci := 12) (v := .int ((mo) + (1))) (ty := .int) (C := RJ5) (T := TJ5) (N := 4) hx hb hts in_J5 tyJ5 tyJ5_ok nmJ5 hown hK hW h_41 rfl 0 (by decide) q149 (fun x9 h9 => u_same (hts _ q145) x9 h9) rfl (by decide +kernel) rfl rfl (Nat.le_of_ble_eq_true rfl) dJ5_linkLast_55 (fun H locs hW => ?_)
    obtain ⟨w_45, ew_45⟩ : ∃ z__, z__ = g_put w_40 a (.inr (12, [.int ((mo) + (1)), .int (nI (ns ++ [o_24]).length), .ref (ns.getD 0 0), .ref o_24])) := ⟨_, rfl⟩
    have yw_45 : g_ex (fun q => q = a ∨ q = z) w w_45 := by rw [ew_45]; exact yw_40.put (fun hz9 => Or.inl rfl)
    have hW := g_W.ren hW ew_45 rfl
    have h_46 : g_at w_45 a (.inr (12, [.int ((mo) + (1)), .int (nI (ns ++ [o_24]).length), .ref (ns.getD 0 0), .ref o_24])) := by rw [ew_45]; exact g_at.put_self h_41.1
    have h_47 : g_at w_45 z (.inr (13, [.ref (xs.getD (ns.length - 1) 0), .ref o_24, pv])) := by rw [ew_45]; exact h_42.put (g_neO h_42 h_41 (by decide))
    have h_48 : g_at w_45 o_24 (.inr (13, [.ref y, .null, .ref z])) := by rw [ew_45]; exact h_43.put (g_neO h_43 h_41 (by decide))
    have x_49 : g_ex (fun q => q = a ∨ q ∈ ns) w w_45 := by rw [ew_45]; exact x_44.put (fun hz9 => (Or.inl rfl))
    have hstx : g_ex (fun q => q = a ∨ q = z) w w_45 := yw_45
    have hst : ∀ n ∈ ns, n ≠ z → ∀ e, g_at w n e → g_at w_45 n e := fun n hn hnz e he => hstx.at he (fun h => h.elim (fun h => by obtain ⟨i, hi, e9⟩ := g_of_mem hn; obtain ⟨pv9, hp9⟩ := hns.2.1 i hi; rw [e9] at hp9; exact g_neO hp9 ha (by decide) h) hnz)
    skip
    refine g_vret hx hb hr hlocks hW (⟨o_24, ho_24, ⟨⟨_, by rw [g_last1, List.getElem?_append_left (by omega), hz0]; exact h_46⟩, hns.snoc h_48 (fun n hn e => ?_) (fun i hi e he => ?_) (fun i hi => ?_), by simp; omega⟩, x_49⟩) (by omega) (by omega) dJ5_linkLast_58
    · obtain ⟨i, hi, e9⟩ := g_of_mem hn
      obtain ⟨pv9, hp9⟩ := hns.2.1 i hi
      exact ho_24 (by rw [← e, ← e9]; exact hp9.1)
    · exact hst _ (g_mem (by omega)) (by rw [hzd]; exact hns.2.2 _ _ (by omega) (by omega)) e he
    · have e0 : i = ns.length - 1 := by omega
      subst e0
      rw [← hzd]
      exact ⟨pv, h_47⟩
set_option maxHeartbeats 4000000 in
set_option maxRecDepth 100000 in
/-- LinkedList.addLast -/
theorem mtJ5_addLast (l : Launch) (D : va_G) (w : g_H) (sz : Nat) (a : Nat) (ns xs : List Nat) (hll : g_LL D w a ns xs) (y : Nat) (hl9 : ns.length < 99999) : Met l yJ5_addLast (ws_ yJ5_addLast cJ5_addLast 2 none) ({ frames := 3, cells := 1, slots := 3, locals := 58 }) (g_Pc D [.ref a, .ref y] w sz) (g_Qv D w sz (fun u => ∃ k, k ∉ w.1 ∧ g_LL D u a (ns ++ [k]) (xs ++ [y]) ∧ g_ex (fun q => q = a ∨ q ∈ ns) w u)) (1) (3) (g_A w sz) := by
  refine Met.ofW (cc := cJ5_addLast) (maxL := 2) (ret := none) (by decide) rfl ?_
  intro p e s m args below meth c s₁ B hml hv
  obtain ⟨rfl, hI⟩ := hv
  have hx := B.exec
  have hb := B.bytes
  have hr := B.returns
  have hts := atoms_spec (ws := ws_ yJ5_addLast cJ5_addLast 2 none) B.pre
  have hts : ∀ w ∈ lw_all, w.before _ s = true := fun w h => hts w (List.mem_cons_of_mem _ h)
  have hown : s.vm.findClass RJ5 = some m.cls := findClass_of_methodNamed B.named
  have hlocks := B.notSynchronized
  have hsz := hI.1
  subst hsz
  have hW := g_W.start hI
  have hK := g_K hI
  have hE := g_E hI
  have hl := lv_entry ([.ref a, .ref y]) (n := 2) (by exact Nat.le_of_ble_eq_true rfl)
  rw [lg_entry_eq]
  generalize (lg_sl ([.ref a, .ref y]) ++ List.replicate (2 - (lg_sl ([.ref a, .ref y])).length) Slot.unset).toArray = ls at hl ⊢
  have hl : lv_has ls 2 [(0, .ref a), (1, .ref y)] := hl
  refine lv_aload_n hx hb dJ5_addLast_0 rfl (lv_at hl 0 rfl) ?_
  refine lv_aload_n hx hb dJ5_addLast_1 rfl (lv_at hl 1 rfl) ?_
  obtain ⟨mo, ha⟩ := hll.1
  refine g_callv (va_runV (As := [.ref y]) (rest := []) ⟨hx, hb, hml, hown, hts⟩ (mtJ5_linkLast l D w s.heap.size a ns xs hll y hl9) (cwV 1 hts (lw_V q328 q329 q330 q41 q331) rfl rfl rfl (by decide +kernel) ⟨Nat.le_of_ble_eq_true rfl, Nat.le_of_ble_eq_true rfl⟩) (g_preV hW hK hE ha rfl) rfl rfl hl.1 rfl (lv_room (Nat.le_of_ble_eq_true rfl)) dJ5_addLast_2 ⟨?_, ?_⟩) hW (fun u_ H locs hp hW => ?_)
  · (try simp only [headSpec]); omega
  · (try simp only [headSpec]); omega
  exact g_vret hx hb hr hlocks hW (hp) (by omega) (by omega) dJ5_addLast_5
set_option maxHeartbeats 4000000 in
set_option maxRecDepth 100000 in
/-- LinkedList.getFirst -/
theorem mtJ5_getFirst (l : Launch) (D : va_G) (w : g_H) (sz : Nat) (a n x : Nat) (ns xs : List Nat) (hll : g_LL D w a (n :: ns) (x :: xs)) : Met l yJ5_getFirst (ws_ yJ5_getFirst cJ5_getFirst 2 (some (.object "java/lang/Object"))) ({ frames := 1, cells := 0, slots := 0, locals := 12 }) (g_Pc D [.ref a] w sz) (g_Qq D w sz (fun r u => r = some x ∧ w = u)) (0) (0) (g_A w sz) := by
  refine Met.ofW (cc := cJ5_getFirst) (maxL := 2) (ret := (some (.object "java/lang/Object"))) (by decide) rfl ?_
  intro p e s m args below meth c s₁ B hml hv
  obtain ⟨rfl, hI⟩ := hv
  have hx := B.exec
  have hb := B.bytes
  have hr := B.returns
  have hts := atoms_spec (ws := ws_ yJ5_getFirst cJ5_getFirst 2 (some (.object "java/lang/Object"))) B.pre
  have hts : ∀ w ∈ lw_all, w.before _ s = true := fun w h => hts w (List.mem_cons_of_mem _ h)
  have hown : s.vm.findClass RJ5 = some m.cls := findClass_of_methodNamed B.named
  have hlocks := B.notSynchronized
  have hsz := hI.1
  subst hsz
  have hW := g_W.start hI
  have hK := g_K hI
  have hE := g_E hI
  have hl := lv_entry ([.ref a]) (n := 2) (by exact Nat.le_of_ble_eq_true rfl)
  rw [lg_entry_eq]
  generalize (lg_sl ([.ref a]) ++ List.replicate (2 - (lg_sl ([.ref a])).length) Slot.unset).toArray = ls at hl ⊢
  have hl : lv_has ls 2 [(0, .ref a)] := hl
  obtain ⟨⟨mo, ha⟩, hns, hlen⟩ := hll
  obtain ⟨pv, hn⟩ := hns.2.1 0 (by simp)
  refine lv_aload_n hx hb dJ5_getFirst_0 rfl (lv_at hl 0 rfl) ?_
  refine g_get (ci := 12) (v := .ref n) (C := RJ5) (T := TJ5) (N := 4) hx hb hts in_J5 hown hK hW ha rfl 2 (by decide) q228 (fun _ h9 => h9) rfl dJ5_getFirst_1 ?_
  refine lv_astore_n (lv' := [(1, .ref n), (0, .ref a)]) hx hb dJ5_getFirst_4 rfl hl (by decide) rfl (fun ls hl => ?_)
  refine lv_aload_n hx hb dJ5_getFirst_5 rfl (lv_at hl 0 rfl) ?_
  refine lv_ifnonnull (tgt := 17) hx hb dJ5_getFirst_6 (by decide) ?_
  refine lv_aload_n hx hb dJ5_getFirst_17 rfl (lv_at hl 0 rfl) ?_
  refine g_get (ci := 13) (v := .ref x) (C := RJ9) (T := TJ9) (N := 3) hx hb hts in_J9 hown hK hW hn rfl 0 (by decide) q340 (fun _ h9 => h9) rfl dJ5_getFirst_18 ?_
  exact g_qret (v := some x) hx hb hr (Or.inl ⟨_, rfl⟩) hlocks hW (⟨rfl, rfl⟩) (by omega) (by omega) dJ5_getFirst_21
set_option maxHeartbeats 4000000 in
set_option maxRecDepth 100000 in
/-- LinkedList.unlinkFirst -/
theorem mtJ5_unlinkFirst (l : Launch) (D : va_G) (w : g_H) (sz : Nat) (a n x : Nat) (ns xs : List Nat) (hll : g_LL D w a (n :: ns) (x :: xs)) : Met l yJ5_unlinkFirst (ws_ yJ5_unlinkFirst cJ5_unlinkFirst 4 (some (.object "java/lang/Object"))) ({ frames := 1, cells := 0, slots := 0, locals := 12 }) (g_Pc D [.ref a, .ref n] w sz) (g_Qq D w sz (fun r u => r = some x ∧ g_LL D u a ns xs ∧ g_ex (fun q => q = a ∨ q ∈ n :: ns) w u)) (0) (0) (g_A w sz) := by
  refine Met.ofW (cc := cJ5_unlinkFirst) (maxL := 4) (ret := (some (.object "java/lang/Object"))) (by decide) rfl ?_
  intro p e s m args below meth c s₁ B hml hv
  obtain ⟨rfl, hI⟩ := hv
  have hx := B.exec
  have hb := B.bytes
  have hr := B.returns
  have hts := atoms_spec (ws := ws_ yJ5_unlinkFirst cJ5_unlinkFirst 4 (some (.object "java/lang/Object"))) B.pre
  have hts : ∀ w ∈ lw_all, w.before _ s = true := fun w h => hts w (List.mem_cons_of_mem _ h)
  have hown : s.vm.findClass RJ5 = some m.cls := findClass_of_methodNamed B.named
  have hlocks := B.notSynchronized
  have hsz := hI.1
  subst hsz
  have hW := g_W.start hI
  have hK := g_K hI
  have hE := g_E hI
  have hl := lv_entry ([.ref a, .ref n]) (n := 4) (by exact Nat.le_of_ble_eq_true rfl)
  rw [lg_entry_eq]
  generalize (lg_sl ([.ref a, .ref n]) ++ List.replicate (4 - (lg_sl ([.ref a, .ref n])).length) Slot.unset).toArray = ls at hl ⊢
  have hl : lv_has ls 4 [(0, .ref a), (1, .ref n)] := hl
  obtain ⟨⟨mo, ha⟩, hns, hlen⟩ := hll
  obtain ⟨pv, hn⟩ := hns.2.1 0 (by simp)
  by_cases hz : ns.length = 0
  · have e0 : ns = [] := List.eq_nil_of_length_eq_zero hz
    subst e0
    have e1 : xs = [] := by have := hns.1; simp at this; exact this
    subst e1
    have x_1 : g_ex (fun q => q = a ∨ q ∈ n :: ([] : List Nat)) w w := g_ex.rf
    refine lv_aload_n hx hb dJ5_unlinkFirst_0 rfl (lv_at hl 1 rfl) ?_
    refine g_get (ci := 13) (v := .ref x) (C := RJ9) (T := TJ9) (N := 3) hx hb hts in_J9 hown hK hW hn rfl 0 (by decide) q340 (fun _ h9 => h9) rfl dJ5_unlinkFirst_1 ?_
    refine lv_astore_n (lv' := [(2, .ref x), (0, .ref a), (1, .ref n)]) hx hb dJ5_unlinkFirst_4 rfl hl (by decide) rfl (fun ls hl => ?_)
    refine lv_aload_n hx hb dJ5_unlinkFirst_5 rfl (lv_at hl 2 rfl) ?_
    refine g_get (ci := 13) (v := .null) (C := RJ9) (T := TJ9) (N := 3) hx hb hts in_J9 hown hK hW hn rfl 1 (by decide) q343 (fun _ h9 => h9) rfl dJ5_unlinkFirst_6 ?_
    refine lv_astore_nN (lv' := [(3, .null), (2, .ref x), (0, .ref a), (1, .ref n)]) hx hb dJ5_unlinkFirst_9 rfl hl (by decide) rfl (fun ls hl => ?_)
    refine lv_aload_n hx hb dJ5_unlinkFirst_10 rfl (lv_at hl 3 rfl) ?_
    refine lv_null hx hb dJ5_unlinkFirst_11 ?_
    refine g_putf (ci := 13) (v := .null) (ty := (.object "java/lang/Object")) (C := RJ9) (T := TJ9) (N := 3) hx hb hts in_J9 tyJ9 tyJ9_ok nmJ9 hown hK hW hn rfl 0 (by decide) q340 (fun _ h9 => h9) rfl (by decide +kernel) rfl rfl (Nat.le_of_ble_eq_true rfl) dJ5_unlinkFirst_12 (fun H locs hW => ?_)
    obtain ⟨w_2, ew_2⟩ : ∃ z__, z__ = g_put w n (.inr (13, [.null, .null, pv])) := ⟨_, rfl⟩
    have hW := g_W.ren hW ew_2 rfl
    have h_3 : g_at w_2 a (.inr (12, [.int (mo), .int (nI (n :: ([] : List Nat)).length), .ref n, .ref n])) := by rw [ew_2]; exact ha.put (g_neO ha hn (by decide))
    have h_4 : g_at w_2 n (.inr (13, [.null, .null, pv])) := by rw [ew_2]; exact g_at.put_self hn.1
    have x_5 : g_ex (fun q => q = a ∨ q ∈ n :: ([] : List Nat)) w w_2 := by rw [ew_2]; exact x_1.put (fun hz9 => (Or.inr List.mem_cons_self))
    refine lv_aload_n hx hb dJ5_unlinkFirst_15 rfl (lv_at hl 3 rfl) ?_
    refine lv_null hx hb dJ5_unlinkFirst_16 ?_
    refine g_putf (ci := 13) (v := .null) (ty := (.object "java/util/LinkedList$Node")) (C := RJ9) (T := TJ9) (N := 3) hx hb hts in_J9 tyJ9 tyJ9_ok nmJ9 hown hK hW h_4 rfl 1 (by decide) q343 (fun _ h9 => h9) rfl (by decide +kernel) rfl rfl (Nat.le_of_ble_eq_true rfl) dJ5_unlinkFirst_17 (fun H locs hW => ?_)
    obtain ⟨w_6, ew_6⟩ : ∃ z__, z__ = g_put w_2 n (.inr (13, [.null, .null, pv])) := ⟨_, rfl⟩
    have hW := g_W.ren hW ew_6 rfl
    have h_7 : g_at w_6 a (.inr (12, [.int (mo), .int (nI (n :: ([] : List Nat)).length), .ref n, .ref n])) := by rw [ew_6]; exact h_3.put (g_neO h_3 h_4 (by decide))
    have h_8 : g_at w_6 n (.inr (13, [.null, .null, pv])) := by rw [ew_6]; exact g_at.put_self h_4.1
    have x_9 : g_ex (fun q => q = a ∨ q ∈ n :: ([] : List Nat)) w w_6 := by rw [ew_6]; exact x_5.put (fun hz9 => (Or.inr List.mem_cons_self))
    refine lv_aload_n hx hb dJ5_unlinkFirst_20 rfl (lv_at hl 2 rfl) ?_
    refine lv_aload_nN hx hb dJ5_unlinkFirst_21 rfl (lv_at hl 0 rfl) ?_
    refine g_putf (ci := 12) (v := .null) (ty := (.object "java/util/LinkedList$Node")) (C := RJ5) (T := TJ5) (N := 4) hx hb hts in_J5 tyJ5 tyJ5_ok nmJ5 hown hK hW h_7 rfl 2 (by decide) q228 (fun _ h9 => h9) rfl (by decide +kernel) rfl rfl (Nat.le_of_ble_eq_true rfl) dJ5_unlinkFirst_22 (fun H locs hW => ?_)
    obtain ⟨w_10, ew_10⟩ : ∃ z__, z__ = g_put w_6 a (.inr (12, [.int (mo), .int (nI (n :: ([] : List Nat)).length), .null, .ref n])) := ⟨_, rfl⟩
    have hW := g_W.ren hW ew_10 rfl
    have h_11 : g_at w_10 a (.inr (12, [.int (mo), .int (nI (n :: ([] : List Nat)).length), .null, .ref n])) := by rw [ew_10]; exact g_at.put_self h_7.1
    have h_12 : g_at w_10 n (.inr (13, [.null, .null, pv])) := by rw [ew_10]; exact h_8.put (g_neO h_8 h_7 (by decide))
    have x_13 : g_ex (fun q => q = a ∨ q ∈ n :: ([] : List Nat)) w w_10 := by rw [ew_10]; exact x_9.put (fun hz9 => (Or.inl rfl))
    refine lv_aload_nN hx hb dJ5_unlinkFirst_25 rfl (lv_at hl 0 rfl) ?_
    refine lv_ifnonnullN hx hb dJ5_unlinkFirst_26 ?_
    refine lv_aload_n hx hb dJ5_unlinkFirst_29 rfl (lv_at hl 2 rfl) ?_
    refine lv_null hx hb dJ5_unlinkFirst_30 ?_
    refine g_putf (ci := 12) (v := .null) (ty := (.object "java/util/LinkedList$Node")) (C := RJ5) (T := TJ5) (N := 4) hx hb hts in_J5 tyJ5 tyJ5_ok nmJ5 hown hK hW h_11 rfl 3 (by decide) q229 (fun _ h9 => h9) rfl (by decide +kernel) rfl rfl (Nat.le_of_ble_eq_true rfl) dJ5_unlinkFirst_31 (fun H locs hW => ?_)
    obtain ⟨w_14, ew_14⟩ : ∃ z__, z__ = g_put w_10 a (.inr (12, [.int (mo), .int (nI (n :: ([] : List Nat)).length), .null, .null])) := ⟨_, rfl⟩
    have hW := g_W.ren hW ew_14 rfl
    have h_15 : g_at w_14 a (.inr (12, [.int (mo), .int (nI (n :: ([] : List Nat)).length), .null, .null])) := by rw [ew_14]; exact g_at.put_self h_11.1
    have h_16 : g_at w_14 n (.inr (13, [.null, .null, pv])) := by rw [ew_14]; exact h_12.put (g_neO h_12 h_11 (by decide))
    have x_17 : g_ex (fun q => q = a ∨ q ∈ n :: ([] : List Nat)) w w_14 := by rw [ew_14]; exact x_13.put (fun hz9 => (Or.inl rfl))
    refine lv_goto (tgt := 42) hx hb dJ5_unlinkFirst_34 (by decide) ?_
    refine lv_aload_n hx hb dJ5_unlinkFirst_42 rfl (lv_at hl 2 rfl) ?_
    refine lv_dup hx hb dJ5_unlinkFirst_43 rfl ?_
    refine g_get (ci := 12) (v := .int (nI (n :: ([] : List Nat)).length)) (C := RJ5) (T := TJ5) (N := 4) hx hb hts in_J5 hown hK hW h_15 rfl 1 (by decide) q226 (fun _ h9 => h9) rfl dJ5_unlinkFirst_44 ?_
    refine lv_iconst (v := 1) hx hb dJ5_unlinkFirst_47 (by decide) ?_
    refine lv_isub hx hb dJ5_unlinkFirst_48 ?_
    refine g_topi (y := nI ([] : List Nat).length) (by show nI 1 - 1 = nI 0; decide) ?_
    refine g_putf (ci := 12) (v := .int (nI ([] : List Nat).length)) (ty := .int) (C := RJ5) (T := TJ5) (N := 4) hx hb hts in_J5 tyJ5 tyJ5_ok nmJ5 hown hK hW h_15 rfl 1 (by decide) q226 (fun _ h9 => h9) rfl (by decide +kernel) rfl rfl (Nat.le_of_ble_eq_true rfl) dJ5_unlinkFirst_49 (fun H locs hW => ?_)
    obtain ⟨w_18, ew_18⟩ : ∃ z__, z__ = g_put w_14 a (.inr (12, [.int (mo), .int (nI ([] : List Nat).length), .null, .null])) := ⟨_, rfl⟩
    have hW := g_W.ren hW ew_18 rfl
    have h_19 : g_at w_18 a (.inr (12, [.int (mo), .int (nI ([] : List Nat).length), .null, .null])) := by rw [ew_18]; exact g_at.put_self h_15.1
    have h_20 : g_at w_18 n (.inr (13, [.null, .null, pv])) := by rw [ew_18]; exact h_16.put (g_neO h_16 h_15 (by decide))
    have x_21 : g_ex (fun q => q = a ∨ q ∈ n :: ([] : List Nat)) w w_18 := by rw [ew_18]; exact x_17.put (fun hz9 => (Or.inl rfl))
    refine lv_aload_n hx hb dJ5_unlinkFirst_52 rfl (lv_at hl 2 rfl) ?_
    refine lv_dup hx hb dJ5_unlinkFirst_53 rfl ?_
    refine g_get (ci := 12) (v := .int (mo)) (C := RJ5) (T := TJ5) (N := 4) hx hb hts in_J5 hown hK hW h_19 rfl 0 (by decide) q149 (fun x9 h9 => u_same (hts _ q145) x9 h9) rfl dJ5_unlinkFirst_54 ?_
    refine lv_iconst (v := 1) hx hb dJ5_unlinkFirst_57 (by decide) ?_
    refine lv_iadd hx hb dJ5_unlinkFirst_58 ?_
    refine g_putf (ci := 12) (v := .int ((mo) + (1))) (ty := .int) (C := RJ5) (T := TJ5) (N := 4) hx hb hts in_J5 tyJ5 tyJ5_ok nmJ5 hown hK hW h_19 rfl 0 (by decide) q149 (fun x9 h9 => u_same (hts _ q145) x9 h9) rfl (by decide +kernel) rfl rfl (Nat.le_of_ble_eq_true rfl) dJ5_unlinkFirst_59 (fun H locs hW => ?_)
    obtain ⟨w_22, ew_22⟩ : ∃ z__, z__ = g_put w_18 a (.inr (12, [.int ((mo) + (1)), .int (nI ([] : List Nat).length), .null, .null])) := ⟨_, rfl⟩
    have hW := g_W.ren hW ew_22 rfl
    have h_23 : g_at w_22 a (.inr (12, [.int ((mo) + (1)), .int (nI ([] : List Nat).length), .null, .null])) := by rw [ew_22]; exact g_at.put_self h_19.1
    have h_24 : g_at w_22 n (.inr (13, [.null, .null, pv])) := by rw [ew_22]; exact h_20.put (g_neO h_20 h_19 (by decide))
    have x_25 : g_ex (fun q => q = a ∨ q ∈ n :: ([] : List Nat)) w w_22 := by rw [ew_22]; exact x_21.put (fun hz9 => (Or.inl rfl))
    refine lv_aload_n hx hb dJ5_unlinkFirst_62 rfl (lv_at hl 1 rfl) ?_
    exact g_qret (v := some x) hx hb hr (Or.inl ⟨_, rfl⟩) hlocks hW (⟨rfl, ⟨⟨_, h_23⟩, ⟨rfl, fun i hi => absurd hi (by simp), fun i j _ hj => absurd hj (by simp)⟩, by decide⟩, x_25⟩) (by omega) (by omega) dJ5_unlinkFirst_63
  · obtain ⟨n2, ns2, e0⟩ : ∃ n2 ns2, ns = n2 :: ns2 := by cases ns with | nil => exact absurd rfl hz | cons a b => exact ⟨a, b, rfl⟩
    subst e0
    have hzl : (n :: n2 :: ns2)[(n :: n2 :: ns2).length - 1]? = (n2 :: ns2)[(n2 :: ns2).length - 1]? := rfl
    obtain ⟨pv2, hn2⟩ := hns.2.1 1 (by simp)
    have hmm : n2 ∈ n2 :: ns2 := List.mem_cons_self
    have hnn : n ≠ n2 := hns.2.2 0 1 (by decide) (by simp)
    have x_26 : g_ex (fun q => q = a ∨ q ∈ n :: n2 :: ns2) w w := g_ex.rf
    refine lv_aload_n hx hb dJ5_unlinkFirst_0 rfl (lv_at hl 1 rfl) ?_
    refine g_get (ci := 13) (v := .ref x) (C := RJ9) (T := TJ9) (N := 3) hx hb hts in_J9 hown hK hW hn rfl 0 (by decide) q340 (fun _ h9 => h9) rfl dJ5_unlinkFirst_1 ?_
    refine lv_astore_n (lv' := [(2, .ref x), (0, .ref a), (1, .ref n)]) hx hb dJ5_unlinkFirst_4 rfl hl (by decide) rfl (fun ls hl => ?_)
    refine lv_aload_n hx hb dJ5_unlinkFirst_5 rfl (lv_at hl 2 rfl) ?_
    refine g_get (ci := 13) (v := .ref n2) (C := RJ9) (T := TJ9) (N := 3) hx hb hts in_J9 hown hK hW hn rfl 1 (by decide) q343 (fun _ h9 => h9) rfl dJ5_unlinkFirst_6 ?_
    refine lv_astore_n (lv' := [(3, .ref n2), (2, .ref x), (0, .ref a), (1, .ref n)]) hx hb dJ5_unlinkFirst_9 rfl hl (by decide) rfl (fun ls hl => ?_)
    refine lv_aload_n hx hb dJ5_unlinkFirst_10 rfl (lv_at hl 3 rfl) ?_
    refine lv_null hx hb dJ5_unlinkFirst_11 ?_
    refine g_putf (ci := 13) (v := .null) (ty := (.object "java/lang/Object")) (C := RJ9) (T := TJ9) (N := 3) hx hb hts in_J9 tyJ9 tyJ9_ok nmJ9 hown hK hW hn rfl 0 (by decide) q340 (fun _ h9 => h9) rfl (by decide +kernel) rfl rfl (Nat.le_of_ble_eq_true rfl) dJ5_unlinkFirst_12 (fun H locs hW => ?_)
    obtain ⟨w_27, ew_27⟩ : ∃ z__, z__ = g_put w n (.inr (13, [.null, .ref n2, pv])) := ⟨_, rfl⟩
    have yw_27 : g_ex (fun q => q = a ∨ q = n ∨ q = n2) w w_27 := by rw [ew_27]; exact (g_ex.rf : g_ex (fun q => q = a ∨ q = n ∨ q = n2) w w).put (fun hz9 => Or.inr (Or.inl rfl))
    have hW := g_W.ren hW ew_27 rfl
    have h_28 : g_at w_27 a (.inr (12, [.int (mo), .int (nI (n :: n2 :: ns2).length), .ref n, (va_rf ((n :: n2 :: ns2)[(n :: n2 :: ns2).length - 1]?))])) := by rw [ew_27]; exact ha.put (g_neO ha hn (by decide))
    have h_29 : g_at w_27 n (.inr (13, [.null, .ref n2, pv])) := by rw [ew_27]; exact g_at.put_self hn.1
    have h_30 : g_at w_27 n2 (.inr (13, [.ref ((x :: xs).getD 1 0), (va_rf ((n :: n2 :: ns2)[1 + 1]?)), pv2])) := by rw [ew_27]; exact hn2.put hnn.symm
    have x_31 : g_ex (fun q => q = a ∨ q ∈ n :: n2 :: ns2) w w_27 := by rw [ew_27]; exact x_26.put (fun hz9 => (Or.inr List.mem_cons_self))
    refine lv_aload_n hx hb dJ5_unlinkFirst_15 rfl (lv_at hl 3 rfl) ?_
    refine lv_null hx hb dJ5_unlinkFirst_16 ?_
    refine g_putf (ci := 13) (v := .null) (ty := (.object "java/util/LinkedList$Node")) (C := RJ9) (T := TJ9) (N := 3) hx hb hts in_J9 tyJ9 tyJ9_ok nmJ9 hown hK hW h_29 rfl 1 (by decide) q343 (fun _ h9 => h9) rfl (by decide +kernel) rfl rfl (Nat.le_of_ble_eq_true rfl) dJ5_unlinkFirst_17 (fun H locs hW => ?_)
    obtain ⟨w_32, ew_32⟩ : ∃ z__, z__ = g_put w_27 n (.inr (13, [.null, .null, pv])) := ⟨_, rfl⟩
    have yw_32 : g_ex (fun q => q = a ∨ q = n ∨ q = n2) w w_32 := by rw [ew_32]; exact yw_27.put (fun hz9 => Or.inr (Or.inl rfl))
    have hW := g_W.ren hW ew_32 rfl
    have h_33 : g_at w_32 a (.inr (12, [.int (mo), .int (nI (n :: n2 :: ns2).length), .ref n, (va_rf ((n :: n2 :: ns2)[(n :: n2 :: ns2).length - 1]?))])) := by rw [ew_32]; exact h_28.put (g_neO h_28 h_29 (by decide))
    have h_34 : g_at w_32 n (.inr (13, [.null, .null, pv])) := by rw [ew_32]; exact g_at.put_self h_29.1
    have h_35 : g_at w_32 n2 (.inr (13, [.ref ((x :: xs).getD 1 0), (va_rf ((n :: n2 :: ns2)[1 + 1]?)), pv2])) := by rw [ew_32]; exact h_30.put hnn.symm
    have x_36 : g_ex (fun q => q = a ∨ q ∈ n :: n2 :: ns2) w w_32 := by rw [ew_32]; exact x_31.put (fun hz9 => (Or.inr List.mem_cons_self))
    refine lv_aload_n hx hb dJ5_unlinkFirst_20 rfl (lv_at hl 2 rfl) ?_
    refine lv_aload_n hx hb dJ5_unlinkFirst_21 rfl (lv_at hl 0 rfl) ?_
    refine g_putf (ci := 12) (v := .ref n2) (ty := (.object "java/util/LinkedList$Node")) (C := RJ5) (T := TJ5) (N := 4) hx hb hts in_J5 tyJ5 tyJ5_ok nmJ5 hown hK hW h_33 rfl 2 (by decide) q228 (fun _ h9 => h9) rfl (by decide +kernel) rfl rfl (Nat.le_of_ble_eq_true rfl) dJ5_unlinkFirst_22 (fun H locs hW => ?_)
    obtain ⟨w_37, ew_37⟩ : ∃ z__, z__ = g_put w_32 a (.inr (12, [.int (mo), .int (nI (n :: n2 :: ns2).length), .ref n2, (va_rf ((n :: n2 :: ns2)[(n :: n2 :: ns2).length - 1]?))])) := ⟨_, rfl⟩
    have yw_37 : g_ex (fun q => q = a ∨ q = n ∨ q = n2) w w_37 := by rw [ew_37]; exact yw_32.put (fun hz9 => Or.inl rfl)
    have hW := g_W.ren hW ew_37 rfl
    have h_38 : g_at w_37 a (.inr (12, [.int (mo), .int (nI (n :: n2 :: ns2).length), .ref n2, (va_rf ((n :: n2 :: ns2)[(n :: n2 :: ns2).length - 1]?))])) := by rw [ew_37]; exact g_at.put_self h_33.1
    have h_39 : g_at w_37 n (.inr (13, [.null, .null, pv])) := by rw [ew_37]; exact h_34.put (g_neO h_34 h_33 (by decide))
    have h_40 : g_at w_37 n2 (.inr (13, [.ref ((x :: xs).getD 1 0), (va_rf ((n :: n2 :: ns2)[1 + 1]?)), pv2])) := by rw [ew_37]; exact h_35.put (g_neO h_35 h_33 (by decide))
    have x_41 : g_ex (fun q => q = a ∨ q ∈ n :: n2 :: ns2) w w_37 := by rw [ew_37]; exact x_36.put (fun hz9 => (Or.inl rfl))
    refine lv_aload_n hx hb dJ5_unlinkFirst_25 rfl (lv_at hl 0 rfl) ?_
    refine lv_ifnonnull (tgt := 37) hx hb dJ5_unlinkFirst_26 (by decide) ?_
    refine lv_aload_n hx hb dJ5_unlinkFirst_37 rfl (lv_at hl 0 rfl) ?_
    refine lv_null hx hb dJ5_unlinkFirst_38 ?_
    refine g_putf (ci := 13) (v := .null) (ty := (.object "java/util/LinkedList$Node")) (C := RJ9) (T := TJ9) (N := 3) hx hb hts in_J9 tyJ9 tyJ9_ok nmJ9 hown hK hW h_40 rfl 2 (by decide) q345 (fun _ h9 => h9) rfl (by decide +kernel) rfl rfl (Nat.le_of_ble_eq_true rfl) dJ5_unlinkFirst_39 (fun H locs hW => ?_)
    obtain ⟨w_42, ew_42⟩ : ∃ z__, z__ = g_put w_37 n2 (.inr (13, [.ref ((x :: xs).getD 1 0), (va_rf ((n :: n2 :: ns2)[1 + 1]?)), .null])) := ⟨_, rfl⟩
    have yw_42 : g_ex (fun q => q = a ∨ q = n ∨ q = n2) w w_42 := by rw [ew_42]; exact yw_37.put (fun hz9 => Or.inr (Or.inr rfl))
    have hW := g_W.ren hW ew_42 rfl
    have h_43 : g_at w_42 a (.inr (12, [.int (mo), .int (nI (n :: n2 :: ns2).length), .ref n2, (va_rf ((n :: n2 :: ns2)[(n :: n2 :: ns2).length - 1]?))])) := by rw [ew_42]; exact h_38.put (g_neO h_38 h_40 (by decide))
    have h_44 : g_at w_42 n (.inr (13, [.null, .null, pv])) := by rw [ew_42]; exact h_39.put hnn
    have h_45 : g_at w_42 n2 (.inr (13, [.ref ((x :: xs).getD 1 0), (va_rf ((n :: n2 :: ns2)[1 + 1]?)), .null])) := by rw [ew_42]; exact g_at.put_self h_40.1
    have x_46 : g_ex (fun q => q = a ∨ q ∈ n :: n2 :: ns2) w w_42 := by rw [ew_42]; exact x_41.put (fun hz9 => (Or.inr (List.mem_cons_of_mem _ hmm)))
    refine lv_aload_n hx hb dJ5_unlinkFirst_42 rfl (lv_at hl 2 rfl) ?_
    refine lv_dup hx hb dJ5_unlinkFirst_43 rfl ?_
    refine g_get (ci := 12) (v := .int (nI (n :: n2 :: ns2).length)) (C := RJ5) (T := TJ5) (N := 4) hx hb hts in_J5 hown hK hW h_43 rfl 1 (by decide) q226 (fun _ h9 => h9) rfl dJ5_unlinkFirst_44 ?_
    refine lv_iconst (v := 1) hx hb dJ5_unlinkFirst_47 (by decide) ?_
    refine lv_isub hx hb dJ5_unlinkFirst_48 ?_
    refine g_topi (y := nI (n2 :: ns2).length) (by have e9 : (n :: n2 :: ns2).length = (n2 :: ns2).length + 1 := rfl; rw [e9]; exact nI_m1 (by omega)) ?_
    refine g_putf (ci := 12) (v := .int (nI (n2 :: ns2).length)) (ty := .int) (C := RJ5) (T := TJ5) (N := 4) hx hb hts in_J5 tyJ5 tyJ5_ok nmJ5 hown hK hW h_43 rfl 1 (by decide) q226 (fun _ h9 => h9) rfl (by decide +kernel) rfl rfl (Nat.le_of_ble_eq_true rfl) dJ5_unlinkFirst_49 (fun H locs hW => ?_)
    obtain ⟨w_47, ew_47⟩ : ∃ z__, z__ = g_put w_42 a (.inr (12, [.int (mo), .int (nI (n2 :: ns2).length), .ref n2, (va_rf ((n :: n2 :: ns2)[(n :: n2 :: ns2).length - 1]?))])) := ⟨_, rfl⟩
    have yw_47 : g_ex (fun q => q = a ∨ q = n ∨ q = n2) w w_47 := by rw [ew_47]; exact yw_42.put (fun hz9 => Or.inl rfl)
    have hW := g_W.ren hW ew_47 rfl
    have h_48 : g_at w_47 a (.inr (12, [.int (mo), .int (nI (n2 :: ns2).length), .ref n2, (va_rf ((n :: n2 :: ns2)[(n :: n2 :: ns2).length - 1]?))])) := by rw [ew_47]; exact g_at.put_self h_43.1
    have h_49 : g_at w_47 n (.inr (13, [.null, .null, pv])) := by rw [ew_47]; exact h_44.put (g_neO h_44 h_43 (by decide))
    have h_50 : g_at w_47 n2 (.inr (13, [.ref ((x :: xs).getD 1 0), (va_rf ((n :: n2 :: ns2)[1 + 1]?)), .null])) := by rw [ew_47]; exact h_45.put (g_neO h_45 h_43 (by decide))
    have x_51 : g_ex (fun q => q = a ∨ q ∈ n :: n2 :: ns2) w w_47 := by rw [ew_47]; exact x_46.put (fun hz9 => (Or.inl rfl))
    refine lv_aload_n hx hb dJ5_unlinkFirst_52 rfl (lv_at hl 2 rfl) ?_
    refine lv_dup hx hb dJ5_unlinkFirst_53 rfl ?_
    refine g_get (ci := 12) (v := .int (mo)) (C := RJ5) (T := TJ5) (N := 4) hx hb hts in_J5 hown hK hW h_48 rfl 0 (by decide) q149 (fun x9 h9 => u_same (hts _ q145) x9 h9) rfl dJ5_unlinkFirst_54 ?_
    refine lv_iconst (v := 1) hx hb dJ5_unlinkFirst_57 (by decide) ?_
    refine lv_iadd hx hb dJ5_unlinkFirst_58 ?_
    refine g_putf (ci := 12) (v := .int ((mo) + (1))) (ty := .int) (C := RJ5) (T := TJ5) (N := 4) hx hb hts in_J5 tyJ5 tyJ5_ok nmJ5 hown hK hW h_48 rfl 0 (by decide) q149 (fun x9 h9 => u_same (hts _ q145) x9 h9) rfl (by decide +kernel) rfl rfl (Nat.le_of_ble_eq_true rfl) dJ5_unlinkFirst_59 (fun H locs hW => ?_)
    obtain ⟨w_52, ew_52⟩ : ∃ z__, z__ = g_put w_47 a (.inr (12, [.int ((mo) + (1)), .int (nI (n2 :: ns2).length), .ref n2, (va_rf ((n :: n2 :: ns2)[(n :: n2 :: ns2).length - 1]?))])) := ⟨_, rfl⟩
    have yw_52 : g_ex (fun q => q = a ∨ q = n ∨ q = n2) w w_52 := by rw [ew_52]; exact yw_47.put (fun hz9 => Or.inl rfl)
    have hW := g_W.ren hW ew_52 rfl
    have h_53 : g_at w_52 a (.inr (12, [.int ((mo) + (1)), .int (nI (n2 :: ns2).length), .ref n2, (va_rf ((n :: n2 :: ns2)[(n :: n2 :: ns2).length - 1]?))])) := by rw [ew_52]; exact g_at.put_self h_48.1
    have h_54 : g_at w_52 n (.inr (13, [.null, .null, pv])) := by rw [ew_52]; exact h_49.put (g_neO h_49 h_48 (by decide))
    have h_55 : g_at w_52 n2 (.inr (13, [.ref ((x :: xs).getD 1 0), (va_rf ((n :: n2 :: ns2)[1 + 1]?)), .null])) := by rw [ew_52]; exact h_50.put (g_neO h_50 h_48 (by decide))
    have x_56 : g_ex (fun q => q = a ∨ q ∈ n :: n2 :: ns2) w w_52 := by rw [ew_52]; exact x_51.put (fun hz9 => (Or.inl rfl))
    refine lv_aload_n hx hb dJ5_unlinkFirst_62 rfl (lv_at hl 1 rfl) ?_
    have hex9 : g_ex (fun q => q = a ∨ q = n ∨ q = n2) w w_52 := yw_52
    refine g_qret (v := some x) hx hb hr (Or.inl ⟨_, rfl⟩) hlocks hW (⟨rfl, ⟨⟨_, h_53⟩, hns.tail (fun i h0 hi e he => hex9.at he ?_) (fun _ => ⟨_, h_55⟩), by simp at hlen ⊢; omega⟩, x_56⟩) (by omega) (by omega) dJ5_unlinkFirst_63
    have k1 := hns.2.2 0 (i + 1) (by omega) (by simp at hi ⊢; omega)
    have k2 := hns.2.2 1 (i + 1) (by omega) (by simp at hi ⊢; omega)
    obtain ⟨pv9, hp9⟩ := hns.2.1 (i + 1) (by simp at hi ⊢; omega)
    exact fun z => z.elim (fun z => g_neO hp9 ha (by decide) z) (fun z => z.elim (fun z => k1 z.symm) (fun z => k2 z.symm))
set_option maxHeartbeats 4000000 in
set_option maxRecDepth 100000 in
/-- LinkedList.removeFirst -/
theorem mtJ5_removeFirst (l : Launch) (D : va_G) (w : g_H) (sz : Nat) (a n x : Nat) (ns xs : List Nat) (hll : g_LL D w a (n :: ns) (x :: xs)) : Met l yJ5_removeFirst (ws_ yJ5_removeFirst cJ5_removeFirst 2 (some (.object "java/lang/Object"))) ({ frames := 2, cells := 0, slots := 0, locals := 35 }) (g_Pc D [.ref a] w sz) (g_Qq D w sz (fun r u => r = some x ∧ g_LL D u a ns xs ∧ g_ex (fun q => q = a ∨ q ∈ n :: ns) w u)) (0) (0) (g_A w sz) := by
  refine Met.ofW (cc := cJ5_removeFirst) (maxL := 2) (ret := (some (.object "java/lang/Object"))) (by decide) rfl ?_
  intro p e s m args below meth c s₁ B hml hv
  obtain ⟨rfl, hI⟩ := hv
  have hx := B.exec
  have hb := B.bytes
  have hr := B.returns
  have hts := atoms_spec (ws := ws_ yJ5_removeFirst cJ5_removeFirst 2 (some (.object "java/lang/Object"))) B.pre
  have hts : ∀ w ∈ lw_all, w.before _ s = true := fun w h => hts w (List.mem_cons_of_mem _ h)
  have hown : s.vm.findClass RJ5 = some m.cls := findClass_of_methodNamed B.named
  have hlocks := B.notSynchronized
  have hsz := hI.1
  subst hsz
  have hW := g_W.start hI
  have hK := g_K hI
  have hE := g_E hI
  have hl := lv_entry ([.ref a]) (n := 2) (by exact Nat.le_of_ble_eq_true rfl)
  rw [lg_entry_eq]
  generalize (lg_sl ([.ref a]) ++ List.replicate (2 - (lg_sl ([.ref a])).length) Slot.unset).toArray = ls at hl ⊢
  have hl : lv_has ls 2 [(0, .ref a)] := hl
  obtain ⟨mo, ha⟩ := hll.1
  refine lv_aload_n hx hb dJ5_removeFirst_0 rfl (lv_at hl 0 rfl) ?_
  refine g_get (ci := 12) (v := .ref n) (C := RJ5) (T := TJ5) (N := 4) hx hb hts in_J5 hown hK hW ha rfl 2 (by decide) q228 (fun _ h9 => h9) rfl dJ5_removeFirst_1 ?_
  refine lv_astore_n (lv' := [(1, .ref n), (0, .ref a)]) hx hb dJ5_removeFirst_4 rfl hl (by decide) rfl (fun ls hl => ?_)
  refine lv_aload_n hx hb dJ5_removeFirst_5 rfl (lv_at hl 0 rfl) ?_
  refine lv_ifnonnull (tgt := 17) hx hb dJ5_removeFirst_6 (by decide) ?_
  refine lv_aload_n hx hb dJ5_removeFirst_17 rfl (lv_at hl 1 rfl) ?_
  refine lv_aload_n hx hb dJ5_removeFirst_18 rfl (lv_at hl 0 rfl) ?_
  refine g_callq (va_runV (As := [.ref n]) (rest := []) ⟨hx, hb, hml, hown, hts⟩ (mtJ5_unlinkFirst l D w s.heap.size a n x ns xs hll) (cwV 1 hts (lw_V q1701 q1703 qs23 q41 q1704) rfl rfl rfl (by decide +kernel) ⟨Nat.le_of_ble_eq_true rfl, Nat.le_of_ble_eq_true rfl⟩) (g_preV hW hK hE ha rfl) rfl rfl hl.1 rfl (lv_room (Nat.le_of_ble_eq_true rfl)) dJ5_removeFirst_19 ⟨Nat.le_of_ble_eq_true rfl, Nat.le_of_ble_eq_true rfl⟩) hW (fun r_ u_ H locs hp hW => ?_)
  obtain ⟨er, h1, h2⟩ := hp
  subst er
  exact g_qret (v := some x) hx hb hr (Or.inl ⟨_, rfl⟩) hlocks hW (⟨rfl, h1, h2⟩) (by omega) (by omega) dJ5_removeFirst_22
set_option maxHeartbeats 4000000 in
set_option maxRecDepth 100000 in
/-- LinkedList.clear: its loop -/
theorem lpJ5_clear {p : Program} {l : Launch} {e : Env} {R : Room} {s : State} {m : MethodId} {args : Array Value} {below : List Frame} {meth : Method} {c : Code} {cells slots : Nat} {Q : State → Prop} {D : va_G} {A : Nat → Prop} {H0 : Heap} (hx : p.tables.exec = Jvm.exec) (hb : c.code = cJ5_clear) (hts : ∀ w ∈ lw_all, w.before args s = true) (hown : s.vm.findClass RJ5 = some m.cls) (hK : va_K D gCl (gT D) s) (w : g_H) (a : Nat) (mo : Int32) (ns xs : List Nat) (hns : g_nds w ns xs) (hlen : ns.length < 100000)
    (kk : ∀ (w1 : g_H) (H : Heap) (locs : List Loc) (ls : Array Slot), g_ex (fun q => q = a ∨ q ∈ ns) w w1 → g_at w1 a (.inr (12, [.int mo, .int (nI ns.length), va_rf (ns[0]?), va_rf (ns[ns.length - 1]?)])) → g_W D A H0 H locs w1 → lv_has ls 3 [(0, .ref a)] → W p l e R s m args below meth c H locs cells slots Q (F0 m 34 ls [])) :
    ∀ (k : Nat) (i : Nat) (w1 : g_H) (H : Heap) (locs : List Loc) (ls : Array Slot), ns.length < i + k → i ≤ ns.length → g_ex (fun q => q = a ∨ q ∈ ns) w w1 → g_at w1 a (.inr (12, [.int mo, .int (nI ns.length), va_rf (ns[0]?), va_rf (ns[ns.length - 1]?)])) → (∀ j, i ≤ j → j < ns.length → g_at w1 (ns.getD j 0) (w.2 (ns.getD j 0))) → g_W D A H0 H locs w1 → lv_has ls 3 [(1, (va_rf (ns[i]?))), (0, .ref a)] → W p l e R s m args below meth c H locs cells slots Q (F0 m 5 ls []) := by
  intro k
  induction k with
  | zero => intro i w1 H locs ls hfuel hi hex h1 h2 hW hl; exact absurd hfuel (by omega)
  | succ k ih =>
    intro i w1 H locs ls hfuel hi hex h1 h2 hW hl
    by_cases hc : i < ns.length
    · obtain ⟨n, hnd⟩ : ∃ n, n = ns.getD i 0 := ⟨_, rfl⟩
      have hni : ns[i]? = some n := by rw [hnd]; exact g_getD hc
      have hnm : n ∈ ns := by rw [hnd]; exact g_mem hc
      obtain ⟨pv, hp⟩ := hns.2.1 i hc
      have hn1 : g_at w1 n (.inr (13, [.ref (xs.getD i 0), va_rf (ns[i + 1]?), pv])) := by rw [hnd, ← hp.2]; exact h2 i (Nat.le_refl _) hc
      rw [hni] at hl
      refine lv_aload_n hx hb dJ5_clear_5 rfl (lv_at hl 0 rfl) ?_
      refine lv_ifnull hx hb dJ5_clear_6 ?_
      refine lv_aload_n hx hb dJ5_clear_9 rfl (lv_at hl 0 rfl) ?_
      refine g_get (ci := 13) (v := (va_rf (ns[i + 1]?))) (C := RJ9) (T := TJ9) (N := 3) hx hb hts in_J9 hown hK hW hn1 rfl 1 (by decide) q343 (fun _ h9 => h9) rfl dJ5_clear_10 ?_
      by_cases hc2 : i + 1 < ns.length
      · obtain ⟨n2, hn2⟩ : ∃ n2, ns[i + 1]? = some n2 := ⟨_, g_getD hc2⟩
        simp only [hn2]
        refine lv_astore_n (lv' := [(2, .ref n2), (1, .ref n), (0, .ref a)]) hx hb dJ5_clear_13 rfl hl (by decide) rfl (fun ls hl => ?_)
        refine lv_aload_n hx hb dJ5_clear_14 rfl (lv_at hl 1 rfl) ?_
        refine lv_null hx hb dJ5_clear_15 ?_
        refine g_putf (ci := 13) (v := .null) (ty := (.object "java/lang/Object")) (C := RJ9) (T := TJ9) (N := 3) hx hb hts in_J9 tyJ9 tyJ9_ok nmJ9 hown hK hW hn1 rfl 0 (by decide) q340 (fun _ h9 => h9) rfl (by decide +kernel) rfl rfl (Nat.le_of_ble_eq_true rfl) dJ5_clear_16 (fun H locs hW => ?_)
        obtain ⟨w_1, ew_1⟩ : ∃ z__, z__ = g_put w1 n (.inr (13, [.null, (va_rf (ns[i + 1]?)), pv])) := ⟨_, rfl⟩
        have hW := g_W.ren hW ew_1 rfl
        have h_2 : g_at w_1 n (.inr (13, [.null, (va_rf (ns[i + 1]?)), pv])) := by rw [ew_1]; exact g_at.put_self hn1.1
        have h_3 : g_at w_1 a (.inr (12, [.int (mo), .int (nI ns.length), (va_rf (ns[0]?)), (va_rf (ns[ns.length - 1]?))])) := by rw [ew_1]; exact h1.put (g_neO h1 hn1 (by decide))
        have x_4 : g_ex (fun q => q = a ∨ q ∈ ns) w w_1 := by rw [ew_1]; exact hex.put (fun hz9 => (Or.inr hnm))
        refine lv_aload_n hx hb dJ5_clear_19 rfl (lv_at hl 1 rfl) ?_
        refine lv_null hx hb dJ5_clear_20 ?_
        refine g_putf (ci := 13) (v := .null) (ty := (.object "java/util/LinkedList$Node")) (C := RJ9) (T := TJ9) (N := 3) hx hb hts in_J9 tyJ9 tyJ9_ok nmJ9 hown hK hW h_2 rfl 1 (by decide) q343 (fun _ h9 => h9) rfl (by decide +kernel) rfl rfl (Nat.le_of_ble_eq_true rfl) dJ5_clear_21 (fun H locs hW => ?_)
        obtain ⟨w_5, ew_5⟩ : ∃ z__, z__ = g_put w_1 n (.inr (13, [.null, .null, pv])) := ⟨_, rfl⟩
        have hW := g_W.ren hW ew_5 rfl
        have h_6 : g_at w_5 n (.inr (13, [.null, .null, pv])) := by rw [ew_5]; exact g_at.put_self h_2.1
        have h_7 : g_at w_5 a (.inr (12, [.int (mo), .int (nI ns.length), (va_rf (ns[0]?)), (va_rf (ns[ns.length - 1]?))])) := by rw [ew_5]; exact h_3.put (g_neO h_3 h_2 (by decide))
        have x_8 : g_ex (fun q => q = a ∨ q ∈ ns) w w_5 := by rw [ew_5]; exact x_4.put (fun hz9 => (Or.inr hnm))
        refine lv_aload_n hx hb dJ5_clear_24 rfl (lv_at hl 1 rfl) ?_
        refine lv_null hx hb dJ5_clear_25 ?_
        refine g_putf (ci := 13) (v := .null) (ty := (.object "java/util/LinkedList$Node")) (C := RJ9) (T := TJ9) (N := 3) hx hb hts in_J9 tyJ9 tyJ9_ok nmJ9 hown hK hW h_6 rfl 2 (by decide) q345 (fun _ h9 => h9) rfl (by decide +kernel) rfl rfl (Nat.le_of_ble_eq_true rfl) dJ5_clear_26 (fun H locs hW => ?_)
        obtain ⟨w_9, ew_9⟩ : ∃ z__, z__ = g_put w_5 n (.inr (13, [.null, .null, .null])) := ⟨_, rfl⟩
        have hW := g_W.ren hW ew_9 rfl
        have h_10 : g_at w_9 n (.inr (13, [.null, .null, .null])) := by rw [ew_9]; exact g_at.put_self h_6.1
        have h_11 : g_at w_9 a (.inr (12, [.int (mo), .int (nI ns.length), (va_rf (ns[0]?)), (va_rf (ns[ns.length - 1]?))])) := by rw [ew_9]; exact h_7.put (g_neO h_7 h_6 (by decide))
        have x_12 : g_ex (fun q => q = a ∨ q ∈ ns) w w_9 := by rw [ew_9]; exact x_8.put (fun hz9 => (Or.inr hnm))
        refine lv_aload_n hx hb dJ5_clear_29 rfl (lv_at hl 0 rfl) ?_
        refine lv_astore_n (lv' := [(1, .ref n2), (2, .ref n2), (0, .ref a)]) hx hb dJ5_clear_30 rfl hl (by decide) rfl (fun ls hl => ?_)
        refine lv_goto (tgt := 5) hx hb dJ5_clear_31 (by decide) ?_
        refine ih (i + 1) w_9 H locs ls (by omega) (by omega) x_12 h_11 (fun j hj1 hj2 => ?_) hW (by rw [hn2]; exact lv_sub hl [0, 2] rfl)
        have k9 := h2 j (by omega) hj2
        have n9 : ns.getD j 0 ≠ n := by rw [hnd]; exact (hns.2.2 i j (by omega) hj2).symm
        rw [ew_9, ew_5, ew_1]
        exact ((k9.put n9).put n9).put n9
      · have hn2 : ns[i + 1]? = none := List.getElem?_eq_none (by omega)
        simp only [hn2]
        refine lv_astore_nN (lv' := [(2, .null), (1, .ref n), (0, .ref a)]) hx hb dJ5_clear_13 rfl hl (by decide) rfl (fun ls hl => ?_)
        refine lv_aload_n hx hb dJ5_clear_14 rfl (lv_at hl 1 rfl) ?_
        refine lv_null hx hb dJ5_clear_15 ?_
        refine g_putf (ci := 13) (v := .null) (ty := (.object "java/lang/Object")) (C := RJ9) (T := TJ9) (N := 3) hx hb hts in_J9 tyJ9 tyJ9_ok nmJ9 hown hK hW hn1 rfl 0 (by decide) q340 (fun _ h9 => h9) rfl (by decide +kernel) rfl rfl (Nat.le_of_ble_eq_true rfl) dJ5_clear_16 (fun H locs hW => ?_)
        obtain ⟨w_13, ew_13⟩ : ∃ z__, z__ = g_put w1 n (.inr (13, [.null, (va_rf (ns[i + 1]?)), pv])) := ⟨_, rfl⟩
        have hW := g_W.ren hW ew_13 rfl
        have h_14 : g_at w_13 n (.inr (13, [.null, (va_rf (ns[i + 1]?)), pv])) := by rw [ew_13]; exact g_at.put_self hn1.1
        have h_15 : g_at w_13 a (.inr (12, [.int (mo), .int (nI ns.length), (va_rf (ns[0]?)), (va_rf (ns[ns.length - 1]?))])) := by rw [ew_13]; exact h1.put (g_neO h1 hn1 (by decide))
        have x_16 : g_ex (fun q => q = a ∨ q ∈ ns) w w_13 := by rw [ew_13]; exact hex.put (fun hz9 => (Or.inr hnm))
        refine lv_aload_n hx hb dJ5_clear_19 rfl (lv_at hl 1 rfl) ?_
        refine lv_null hx hb dJ5_clear_20 ?_
        refine g_putf (ci := 13) (v := .null) (ty := (.object "java/util/LinkedList$Node")) (C := RJ9) (T := TJ9) (N := 3) hx hb hts in_J9 tyJ9 tyJ9_ok nmJ9 hown hK hW h_14 rfl 1 (by decide) q343 (fun _ h9 => h9) rfl (by decide +kernel) rfl rfl (Nat.le_of_ble_eq_true rfl) dJ5_clear_21 (fun H locs hW => ?_)
        obtain ⟨w_17, ew_17⟩ : ∃ z__, z__ = g_put w_13 n (.inr (13, [.null, .null, pv])) := ⟨_, rfl⟩
        have hW := g_W.ren hW ew_17 rfl
        have h_18 : g_at w_17 n (.inr (13, [.null, .null, pv])) := by rw [ew_17]; exact g_at.put_self h_14.1
        have h_19 : g_at w_17 a (.inr (12, [.int (mo), .int (nI ns.length), (va_rf (ns[0]?)), (va_rf (ns[ns.length - 1]?))])) := by rw [ew_17]; exact h_15.put (g_neO h_15 h_14 (by decide))
        have x_20 : g_ex (fun q => q = a ∨ q ∈ ns) w w_17 := by rw [ew_17]; exact x_16.put (fun hz9 => (Or.inr hnm))
        refine lv_aload_n hx hb dJ5_clear_24 rfl (lv_at hl 1 rfl) ?_
        refine lv_null hx hb dJ5_clear_25 ?_
        refine g_putf (ci := 13) (v := .null) (ty := (.object "java/util/LinkedList$Node")) (C := RJ9) (T := TJ9) (N := 3) hx hb hts in_J9 tyJ9 tyJ9_ok nmJ9 hown hK hW h_18 rfl 2 (by decide) q345 (fun _ h9 => h9) rfl (by decide +kernel) rfl rfl (Nat.le_of_ble_eq_true rfl) dJ5_clear_26 (fun H locs hW => ?_)
        obtain ⟨w_21, ew_21⟩ : ∃ z__, z__ = g_put w_17 n (.inr (13, [.null, .null, .null])) := ⟨_, rfl⟩
        have hW := g_W.ren hW ew_21 rfl
        have h_22 : g_at w_21 n (.inr (13, [.null, .null, .null])) := by rw [ew_21]; exact g_at.put_self h_18.1
        have h_23 : g_at w_21 a (.inr (12, [.int (mo), .int (nI ns.length), (va_rf (ns[0]?)), (va_rf (ns[ns.length - 1]?))])) := by rw [ew_21]; exact h_19.put (g_neO h_19 h_18 (by decide))
        have x_24 : g_ex (fun q => q = a ∨ q ∈ ns) w w_21 := by rw [ew_21]; exact x_20.put (fun hz9 => (Or.inr hnm))
        refine lv_aload_nN hx hb dJ5_clear_29 rfl (lv_at hl 0 rfl) ?_
        refine lv_astore_nN (lv' := [(1, .null), (2, .null), (0, .ref a)]) hx hb dJ5_clear_30 rfl hl (by decide) rfl (fun ls hl => ?_)
        refine lv_goto (tgt := 5) hx hb dJ5_clear_31 (by decide) ?_
        refine ih (i + 1) w_21 H locs ls (by omega) (by omega) x_24 h_23 (fun j hj1 hj2 => ?_) hW (by rw [hn2]; exact lv_sub hl [0, 2] rfl)
        have k9 := h2 j (by omega) hj2
        have n9 : ns.getD j 0 ≠ n := by rw [hnd]; exact (hns.2.2 i j (by omega) hj2).symm
        rw [ew_21, ew_17, ew_13]
        exact ((k9.put n9).put n9).put n9
    · have e0 : ns[i]? = none := List.getElem?_eq_none (by omega)
      rw [e0] at hl
      refine lv_aload_nN hx hb dJ5_clear_5 rfl (lv_at hl 0 rfl) ?_
      refine lv_ifnullN (tgt := 34) hx hb dJ5_clear_6 (by decide) ?_
      exact kk w1 H locs ls hex h1 hW (lv_sub hl [1] rfl)
set_option maxHeartbeats 4000000 in
set_option maxRecDepth 100000 in
/-- LinkedList.clear -/
theorem mtJ5_clear (l : Launch) (D : va_G) (w : g_H) (sz : Nat) (a : Nat) (ns xs : List Nat) (hll : g_LL D w a ns xs) : Met l yJ5_clear (ws_ yJ5_clear cJ5_clear 3 none) ({ frames := 1, cells := 0, slots := 0, locals := 12 }) (g_Pc D [.ref a] w sz) (g_Qv D w sz (fun u => g_LL D u a [] [] ∧ g_ex (fun q => q = a ∨ q ∈ ns) w u)) (0) (0) (g_A w sz) := by
  refine Met.ofW (cc := cJ5_clear) (maxL := 3) (ret := none) (by decide) rfl ?_
  intro p e s m args below meth c s₁ B hml hv
  obtain ⟨rfl, hI⟩ := hv
  have hx := B.exec
  have hb := B.bytes
  have hr := B.returns
  have hts := atoms_spec (ws := ws_ yJ5_clear cJ5_clear 3 none) B.pre
  have hts : ∀ w ∈ lw_all, w.before _ s = true := fun w h => hts w (List.mem_cons_of_mem _ h)
  have hown : s.vm.findClass RJ5 = some m.cls := findClass_of_methodNamed B.named
  have hlocks := B.notSynchronized
  have hsz := hI.1
  subst hsz
  have hW := g_W.start hI
  have hK := g_K hI
  have hE := g_E hI
  have hl := lv_entry ([.ref a]) (n := 3) (by exact Nat.le_of_ble_eq_true rfl)
  rw [lg_entry_eq]
  generalize (lg_sl ([.ref a]) ++ List.replicate (3 - (lg_sl ([.ref a])).length) Slot.unset).toArray = ls at hl ⊢
  have hl : lv_has ls 3 [(0, .ref a)] := hl
  obtain ⟨⟨mo, ha⟩, hns, hlen⟩ := hll
  skip
  refine lv_aload_n hx hb dJ5_clear_0 rfl (lv_at hl 0 rfl) ?_
  refine g_get (ci := 12) (v := (va_rf (ns[0]?))) (C := RJ5) (T := TJ5) (N := 4) hx hb hts in_J5 hown hK hW ha rfl 2 (by decide) q228 (fun _ h9 => h9) rfl dJ5_clear_1 ?_
  by_cases hz : 0 < ns.length
  · obtain ⟨n0, h0⟩ : ∃ n0, ns[0]? = some n0 := ⟨_, g_getD hz⟩
    simp only [h0]
    refine lv_astore_n (lv' := [(1, .ref n0), (0, .ref a)]) hx hb dJ5_clear_4 rfl hl (by decide) rfl (fun ls hl => ?_)
    refine lpJ5_clear (D := D) hx hb hts hown hK w a mo ns xs hns hlen (fun w1 H locs ls hex h1 hW hl => ?_) (ns.length + 1) 0 w _ _ ls (by omega) (by omega) g_ex.rf ha (fun j _ hj => ⟨(hns.2.1 j hj).choose_spec.1, rfl⟩) hW (by rw [h0]; exact hl)
    refine lv_aload_n hx hb dJ5_clear_34 rfl (lv_at hl 0 rfl) ?_
    refine lv_aload_n hx hb dJ5_clear_35 rfl (lv_at hl 0 rfl) ?_
    refine lv_null hx hb dJ5_clear_36 ?_
    refine lv_dup_x1 hx hb dJ5_clear_37 rfl rfl ?_
    refine g_putf (ci := 12) (v := .null) (ty := (.object "java/util/LinkedList$Node")) (C := RJ5) (T := TJ5) (N := 4) hx hb hts in_J5 tyJ5 tyJ5_ok nmJ5 hown hK hW h1 rfl 3 (by decide) q229 (fun _ h9 => h9) rfl (by decide +kernel) rfl rfl (Nat.le_of_ble_eq_true rfl) dJ5_clear_38 (fun H locs hW => ?_)
    obtain ⟨w_1, ew_1⟩ : ∃ z__, z__ = g_put w1 a (.inr (12, [.int (mo), .int (nI ns.length), (va_rf (ns[0]?)), .null])) := ⟨_, rfl⟩
    have hW := g_W.ren hW ew_1 rfl
    have h_2 : g_at w_1 a (.inr (12, [.int (mo), .int (nI ns.length), (va_rf (ns[0]?)), .null])) := by rw [ew_1]; exact g_at.put_self h1.1
    have x_3 : g_ex (fun q => q = a ∨ q ∈ ns) w w_1 := by rw [ew_1]; exact hex.put (fun hz9 => (Or.inl rfl))
    refine g_putf (ci := 12) (v := .null) (ty := (.object "java/util/LinkedList$Node")) (C := RJ5) (T := TJ5) (N := 4) hx hb hts in_J5 tyJ5 tyJ5_ok nmJ5 hown hK hW h_2 rfl 2 (by decide) q228 (fun _ h9 => h9) rfl (by decide +kernel) rfl rfl (Nat.le_of_ble_eq_true rfl) dJ5_clear_41 (fun H locs hW => ?_)
    obtain ⟨w_4, ew_4⟩ : ∃ z__, z__ = g_put w_1 a (.inr (12, [.int (mo), .int (nI ns.length), .null, .null])) := ⟨_, rfl⟩
    have hW := g_W.ren hW ew_4 rfl
    have h_5 : g_at w_4 a (.inr (12, [.int (mo), .int (nI ns.length), .null, .null])) := by rw [ew_4]; exact g_at.put_self h_2.1
    have x_6 : g_ex (fun q => q = a ∨ q ∈ ns) w w_4 := by rw [ew_4]; exact x_3.put (fun hz9 => (Or.inl rfl))
    refine lv_aload_n hx hb dJ5_clear_44 rfl (lv_at hl 0 rfl) ?_
    refine lv_iconst (v := 0) hx hb dJ5_clear_45 (by decide) ?_
    refine g_putf (ci := 12) (v := .int (0)) (ty := .int) (C := RJ5) (T := TJ5) (N := 4) hx hb hts in_J5 tyJ5 tyJ5_ok nmJ5 hown hK hW h_5 rfl 1 (by decide) q226 (fun _ h9 => h9) rfl (by decide +kernel) rfl rfl (Nat.le_of_ble_eq_true rfl) dJ5_clear_46 (fun H locs hW => ?_)
    obtain ⟨w_7, ew_7⟩ : ∃ z__, z__ = g_put w_4 a (.inr (12, [.int (mo), .int (0), .null, .null])) := ⟨_, rfl⟩
    have hW := g_W.ren hW ew_7 rfl
    have h_8 : g_at w_7 a (.inr (12, [.int (mo), .int (0), .null, .null])) := by rw [ew_7]; exact g_at.put_self h_5.1
    have x_9 : g_ex (fun q => q = a ∨ q ∈ ns) w w_7 := by rw [ew_7]; exact x_6.put (fun hz9 => (Or.inl rfl))
    refine lv_aload_n hx hb dJ5_clear_49 rfl (lv_at hl 0 rfl) ?_
    refine lv_dup hx hb dJ5_clear_50 rfl ?_
    refine g_get (ci := 12) (v := .int (mo)) (C := RJ5) (T := TJ5) (N := 4) hx hb hts in_J5 hown hK hW h_8 rfl 0 (by decide) q149 (fun x9 h9 => u_same (hts _ q145) x9 h9) rfl dJ5_clear_51 ?_
    refine lv_iconst (v := 1) hx hb dJ5_clear_54 (by decide) ?_
    refine lv_iadd hx hb dJ5_clear_55 ?_
    refine g_putf (ci := 12) (v := .int ((mo) + (1))) (ty := .int) (C := RJ5) (T := TJ5) (N := 4) hx hb hts in_J5 tyJ5 tyJ5_ok nmJ5 hown hK hW h_8 rfl 0 (by decide) q149 (fun x9 h9 => u_same (hts _ q145) x9 h9) rfl (by decide +kernel) rfl rfl (Nat.le_of_ble_eq_true rfl) dJ5_clear_56 (fun H locs hW => ?_)
    obtain ⟨w_10, ew_10⟩ : ∃ z__, z__ = g_put w_7 a (.inr (12, [.int ((mo) + (1)), .int (0), .null, .null])) := ⟨_, rfl⟩
    have hW := g_W.ren hW ew_10 rfl
    have h_11 : g_at w_10 a (.inr (12, [.int ((mo) + (1)), .int (0), .null, .null])) := by rw [ew_10]; exact g_at.put_self h_8.1
    have x_12 : g_ex (fun q => q = a ∨ q ∈ ns) w w_10 := by rw [ew_10]; exact x_9.put (fun hz9 => (Or.inl rfl))
    exact g_vret hx hb hr hlocks hW (⟨⟨⟨_, h_11⟩, ⟨rfl, fun i hi => absurd hi (by simp), fun i j _ hj => absurd hj (by simp)⟩, by decide⟩, x_12⟩) (by omega) (by omega) dJ5_clear_59
  · have h0 : ns[0]? = none := List.getElem?_eq_none (by omega)
    simp only [h0]
    refine lv_astore_nN (lv' := [(1, .null), (0, .ref a)]) hx hb dJ5_clear_4 rfl hl (by decide) rfl (fun ls hl => ?_)
    refine lpJ5_clear (D := D) hx hb hts hown hK w a mo ns xs hns hlen (fun w1 H locs ls hex h1 hW hl => ?_) (ns.length + 1) 0 w _ _ ls (by omega) (by omega) g_ex.rf ha (fun j _ hj => ⟨(hns.2.1 j hj).choose_spec.1, rfl⟩) hW (by rw [h0]; exact hl)
    refine lv_aload_n hx hb dJ5_clear_34 rfl (lv_at hl 0 rfl) ?_
    refine lv_aload_n hx hb dJ5_clear_35 rfl (lv_at hl 0 rfl) ?_
    refine lv_null hx hb dJ5_clear_36 ?_
    refine lv_dup_x1 hx hb dJ5_clear_37 rfl rfl ?_
    refine g_putf (ci := 12) (v := .null) (ty := (.object "java/util/LinkedList$Node")) (C := RJ5) (T := TJ5) (N := 4) hx hb hts in_J5 tyJ5 tyJ5_ok nmJ5 hown hK hW h1 rfl 3 (by decide) q229 (fun _ h9 => h9) rfl (by decide +kernel) rfl rfl (Nat.le_of_ble_eq_true rfl) dJ5_clear_38 (fun H locs hW => ?_)
    obtain ⟨w_13, ew_13⟩ : ∃ z__, z__ = g_put w1 a (.inr (12, [.int (mo), .int (nI ns.length), (va_rf (ns[0]?)), .null])) := ⟨_, rfl⟩
    have hW := g_W.ren hW ew_13 rfl
    have h_14 : g_at w_13 a (.inr (12, [.int (mo), .int (nI ns.length), (va_rf (ns[0]?)), .null])) := by rw [ew_13]; exact g_at.put_self h1.1
    have x_15 : g_ex (fun q => q = a ∨ q ∈ ns) w w_13 := by rw [ew_13]; exact hex.put (fun hz9 => (Or.inl rfl))
    refine g_putf (ci := 12) (v := .null) (ty := (.object "java/util/LinkedList$Node")) (C := RJ5) (T := TJ5) (N := 4) hx hb hts in_J5 tyJ5 tyJ5_ok nmJ5 hown hK hW h_14 rfl 2 (by decide) q228 (fun _ h9 => h9) rfl (by decide +kernel) rfl rfl (Nat.le_of_ble_eq_true rfl) dJ5_clear_41 (fun H locs hW => ?_)
    obtain ⟨w_16, ew_16⟩ : ∃ z__, z__ = g_put w_13 a (.inr (12, [.int (mo), .int (nI ns.length), .null, .null])) := ⟨_, rfl⟩
    have hW := g_W.ren hW ew_16 rfl
    have h_17 : g_at w_16 a (.inr (12, [.int (mo), .int (nI ns.length), .null, .null])) := by rw [ew_16]; exact g_at.put_self h_14.1
    have x_18 : g_ex (fun q => q = a ∨ q ∈ ns) w w_16 := by rw [ew_16]; exact x_15.put (fun hz9 => (Or.inl rfl))
    refine lv_aload_n hx hb dJ5_clear_44 rfl (lv_at hl 0 rfl) ?_
    refine lv_iconst (v := 0) hx hb dJ5_clear_45 (by decide) ?_
    refine g_putf (ci := 12) (v := .int (0)) (ty := .int) (C := RJ5) (T := TJ5) (N := 4) hx hb hts in_J5 tyJ5 tyJ5_ok nmJ5 hown hK hW h_17 rfl 1 (by decide) q226 (fun _ h9 => h9) rfl (by decide +kernel) rfl rfl (Nat.le_of_ble_eq_true rfl) dJ5_clear_46 (fun H locs hW => ?_)
    obtain ⟨w_19, ew_19⟩ : ∃ z__, z__ = g_put w_16 a (.inr (12, [.int (mo), .int (0), .null, .null])) := ⟨_, rfl⟩
    have hW := g_W.ren hW ew_19 rfl
    have h_20 : g_at w_19 a (.inr (12, [.int (mo), .int (0), .null, .null])) := by rw [ew_19]; exact g_at.put_self h_17.1
    have x_21 : g_ex (fun q => q = a ∨ q ∈ ns) w w_19 := by rw [ew_19]; exact x_18.put (fun hz9 => (Or.inl rfl))
    refine lv_aload_n hx hb dJ5_clear_49 rfl (lv_at hl 0 rfl) ?_
    refine lv_dup hx hb dJ5_clear_50 rfl ?_
    refine g_get (ci := 12) (v := .int (mo)) (C := RJ5) (T := TJ5) (N := 4) hx hb hts in_J5 hown hK hW h_20 rfl 0 (by decide) q149 (fun x9 h9 => u_same (hts _ q145) x9 h9) rfl dJ5_clear_51 ?_
    refine lv_iconst (v := 1) hx hb dJ5_clear_54 (by decide) ?_
    refine lv_iadd hx hb dJ5_clear_55 ?_
    refine g_putf (ci := 12) (v := .int ((mo) + (1))) (ty := .int) (C := RJ5) (T := TJ5) (N := 4) hx hb hts in_J5 tyJ5 tyJ5_ok nmJ5 hown hK hW h_20 rfl 0 (by decide) q149 (fun x9 h9 => u_same (hts _ q145) x9 h9) rfl (by decide +kernel) rfl rfl (Nat.le_of_ble_eq_true rfl) dJ5_clear_56 (fun H locs hW => ?_)
    obtain ⟨w_22, ew_22⟩ : ∃ z__, z__ = g_put w_19 a (.inr (12, [.int ((mo) + (1)), .int (0), .null, .null])) := ⟨_, rfl⟩
    have hW := g_W.ren hW ew_22 rfl
    have h_23 : g_at w_22 a (.inr (12, [.int ((mo) + (1)), .int (0), .null, .null])) := by rw [ew_22]; exact g_at.put_self h_20.1
    have x_24 : g_ex (fun q => q = a ∨ q ∈ ns) w w_22 := by rw [ew_22]; exact x_21.put (fun hz9 => (Or.inl rfl))
    exact g_vret hx hb hr hlocks hW (⟨⟨⟨_, h_23⟩, ⟨rfl, fun i hi => absurd hi (by simp), fun i j _ hj => absurd hj (by simp)⟩, by decide⟩, x_24⟩) (by omega) (by omega) dJ5_clear_59
