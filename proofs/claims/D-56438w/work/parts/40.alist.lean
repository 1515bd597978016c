/-! java.util.ArrayList. g_AL D w a ar xs cap: at a stands an ArrayList with the elements xs; its array (cap places) at ar, or the shared empty one (cap = 0) -/
set_option maxRecDepth 100000
theorem g_Env.ca {D : va_G} {A : Nat → Prop} {U : State} (h : g_Env D A U) {C E : String} (hq : (C, E) ∈ gNC) : va_Nw (.castable C E) U := h.2.2.2.2.2.2.2.2.2.2.2.2.1 (C, E) hq
/-- y is an object of class number ci: of the world, or a String constant -/
def g_Ob (D : va_G) (w : g_H) (ci y : Nat) : Prop := (∃ fs, g_at w y (.inr (ci, fs))) ∨ (ci = 16 ∧ ∃ i, i < 15 ∧ y = D.2 1000 i)
theorem g_Ob.ex {D : va_G} {M : Nat → Prop} {w w' : g_H} {ci y : Nat} (h : g_Ob D w ci y) (k : g_ex M w w') (n : ¬ M y) : g_Ob D w' ci y := by
  rcases h with ⟨fs, h⟩ | h
  · exact Or.inl ⟨fs, k.at h n⟩
  · exact Or.inr h
theorem g_Ob.put {D : va_G} {w : g_H} {ci y a : Nat} {e e' : va_E} (h : g_Ob D w ci y) (k : g_at w a e') (n : ∀ fs, (.inr (ci, fs) : va_E) ≠ e') : g_Ob D (g_put w a e) ci y := by
  rcases h with ⟨fs, h⟩ | h
  · exact Or.inl ⟨fs, h.put (g_ne h k (n fs))⟩
  · exact Or.inr h
theorem g_Ob.push {D : va_G} {w : g_H} {ci y a : Nat} {e : va_E} (h : g_Ob D w ci y) (n : a ∉ w.1) : g_Ob D (g_push w a e) ci y := by
  rcases h with ⟨fs, h⟩ | h
  · exact Or.inl ⟨fs, h.push n⟩
  · exact Or.inr h
theorem g_Str.ob {D : va_G} {w : g_H} {y : Nat} {t : List Nat} (h : g_Str D w y t) : g_Ob D w 16 y := by
  obtain ⟨-, ⟨v, hh, z, f, h1, -, -⟩ | ⟨i, h1, h2, -⟩⟩ := h
  · exact Or.inl ⟨_, h1⟩
  · exact Or.inr ⟨rfl, i, h1, h2⟩
def g_isq (f : Nat → Option Nat) (xs : List Nat) : Prop := ∀ j, j < xs.length → f j = some (xs.getD j 0)
def g_AL (D : va_G) (w : g_H) (a ar : Nat) (xs : List Nat) (cap : Nat) : Prop := ∃ mo : Int32, g_at w a (.inr (11, [.int mo, .ref ar, .int (nI xs.length)])) ∧ xs.length ≤ cap ∧ cap < 1000 ∧ ((cap = 0 ∧ ar = D.2 1005 0) ∨ (0 < cap ∧ ∃ f : Nat → Option Nat, g_at w ar (.inl (D.1 104, cap, .inr (.inr (.inr (.inr f))))) ∧ g_isq f xs))
theorem g_AL.ex {D : va_G} {M : Nat → Prop} {w w' : g_H} {a ar cap : Nat} {xs : List Nat} (h : g_AL D w a ar xs cap) (k : g_ex M w w') (n1 : ¬ M a) (n2 : 0 < cap → ¬ M ar) : g_AL D w' a ar xs cap := by
  obtain ⟨mo, h1, h2, h3, h4⟩ := h
  refine ⟨mo, k.at h1 n1, h2, h3, ?_⟩
  rcases h4 with h4 | ⟨h4, f, h5, h6⟩
  · exact Or.inl h4
  · exact Or.inr ⟨h4, f, k.at h5 (n2 h4), h6⟩
/-- the capacity behind an add, its cells and slots -/
def g_gr (cap : Nat) : Nat := if cap = 0 then 10 else cap + max 1 (cap / 2)
def g_an (n cap : Nat) : Nat := if n = cap then g_gr cap else cap
def g_ac (n cap : Nat) : Nat := if n = cap then 1 else 0
def g_as (n cap : Nat) : Nat := if n = cap then g_gr cap else 0
theorem g_isq_snoc {f g : Nat → Option Nat} {xs : List Nat} {y : Nat} (h : g_isq f xs) (h1 : ∀ j, j < xs.length → g j = f j) (h2 : g xs.length = some y) : g_isq g (xs ++ [y]) := by
  intro j hj
  rw [List.length_append, List.length_singleton] at hj
  rw [List.getD_eq_getElem?_getD]
  by_cases q : j < xs.length
  · rw [List.getElem?_append_left q, h1 j q, h j q, List.getD_eq_getElem?_getD]
  · have e : j = xs.length := by omega
    subst e
    rw [List.getElem?_append_right (Nat.le_refl _), Nat.sub_self, h2]
    rfl
section GA
variable {p : Program} {l : Launch} {e : Env} {R : Room} {s : State} {m : MethodId} {args : Array Value} {below : List Frame} {meth : Method} {c : Code} {H : Heap} {locs : List Loc} {cells slots : Nat} {Q : State → Prop}
variable {cc : ByteArray} {pc : Nat} {ls : Array Slot} {rest : List Value} {D : va_G} {A : Nat → Prop} {a : Nat} {w : g_H} {H0 : Heap}
theorem g_Ob.rd {ci y N : Nat} {C : String} {T : u_T} (h : g_Ob D w ci y) (hc : gCl[ci]? = some (C, T, N)) (hK : va_K D gCl (gT D) s) (hE : g_Env D A s) (hW : g_W D A s.heap H locs w) : ∃ cell : Cell, H[y]? = some cell ∧ cell.vm.isStatics = false ∧ s.vm.findClass C = some cell.cls := by
  rcases h with ⟨fs, h⟩ | ⟨rfl, i, h1, rfl⟩
  · obtain ⟨q0, h0⟩ := hW.get h
    exact va_recv hK hW.1 hc h0
  · obtain ⟨k1, -⟩ := hE.2.2.2.2.2.1.1 i h1
    obtain ⟨cell, c1, c2, c3, -⟩ := k1.kept hW.2.2.1.2.1
    cases hc
    exact ⟨cell, c1, c2, c3⟩
/-- aaload of a reference that is known -/
theorem g_aldX (hx : p.tables.exec = Jvm.exec) (hb : c.code = cc) (hK : va_K D gCl (gT D) s) (hW : g_W D A H0 H locs w) {n i y : Nat} {f : Nat → Option Nat} (he : g_at w a (.inl (D.1 104, n, .inr (.inr (.inr (.inr f)))))) (hi : i < n) (hn : n < 2 ^ 31) (hy : f i = some y) (hdg : decode cc pc = .ok (.aaload, 1))
    (kk : W p l e R s m args below meth c H locs cells slots Q (F0 m (pc + 1) ls (.ref y :: rest))) : W p l e R s m args below meth c H locs cells slots Q (F0 m pc ls (.int (nI i) :: .ref a :: rest)) :=
  g_aldO hx hb hK hW he (vp_in_nI hi hn) hdg (by rw [nI_clamp (by omega), hy]; exact kk)
theorem g_astN (hx : p.tables.exec = Jvm.exec) (hb : c.code = cc) (hK : va_K D gCl (gT D) s) (hW : g_W D A H0 H locs w) {n i : Nat} {f : Nat → Option Nat} (he : g_at w a (.inl (D.1 104, n, .inr (.inr (.inr (.inr f)))))) (hi : i < n) (hn : n < 2 ^ 31) (hdg : decode cc pc = .ok (.aastore, 1))
    (kk : ∀ (H1 : Heap) (locs1 : List Loc), g_W D A H0 H1 locs1 (g_put w a (.inl (D.1 104, n, .inr (.inr (.inr (.inr (va_up f i none))))))) → W p l e R s m args below meth c H1 locs1 cells slots Q (F0 m (pc + 1) ls rest)) : W p l e R s m args below meth c H locs cells slots Q (F0 m pc ls (.null :: .int (nI i) :: .ref a :: rest)) :=
  g_astON hx hb hK hW he (vp_in_nI hi hn) hdg (by rw [nI_clamp (by omega)]; exact kk)
/-- aastore of an object into an array of Object -/
theorem g_astOb (hx : p.tables.exec = Jvm.exec) (hb : c.code = cc) (hK : va_K D gCl (gT D) s) (hE : g_Env D A s) (hW : g_W D A s.heap H locs w) {n i y ci N : Nat} {C : String} {T : u_T} {f : Nat → Option Nat} (he : g_at w a (.inl (D.1 104, n, .inr (.inr (.inr (.inr f)))))) (hy : g_Ob D w ci y) (hc : gCl[ci]? = some (C, T, N)) (hca : (C, "java/lang/Object") ∈ gNC) (hi : i < n) (hn : n < 2 ^ 31) (hdg : decode cc pc = .ok (.aastore, 1))
    (kk : ∀ (H1 : Heap) (locs1 : List Loc), g_W D A s.heap H1 locs1 (g_put w a (.inl (D.1 104, n, .inr (.inr (.inr (.inr (va_up f i (some y)))))))) → W p l e R s m args below meth c H1 locs1 cells slots Q (F0 m (pc + 1) ls rest)) : W p l e R s m args below meth c H locs cells slots Q (F0 m pc ls (.ref y :: .int (nI i) :: .ref a :: rest)) := by
  obtain ⟨q0, h0⟩ := hW.get he
  refine vb_astq hx hb hK hW.1 hW.2.1 hW.2.2.1 q0 4 h0 rfl (hy.rd hc hK hE hW) (vb_asgC (hE.ca hca)) (vp_in_nI hi hn) hdg (fun H1 locs1 h1 h2 h3 => kk H1 locs1 ?_)
  rw [nI_clamp (by omega), g_set hW.2.1 he h0] at h1 h2
  exact ⟨h1, h2, h3, hW.2.2.2⟩
/-- System.arraycopy of references, the whole of an array into the head of another -/
theorem g_copyq (hx : p.tables.exec = Jvm.exec) (hb : c.code = cc) (hml : c.maxLocals = ls.size) {own : String} {index : Nat} (hts : ∀ w ∈ lw_all, w.before args s = true) (hown : s.vm.findClass own = some m.cls) (hlink : Cond.methodLink own index arraycopyName ∈ lw_all) (hK : va_K D gCl (gT D) s) (hE : g_Env D A s) (hW : g_W D A s.heap H locs w) {a0 n0 n1 ci N : Nat} {C : String} {T : u_T} {f g : Nat → Option Nat} {xs : List Nat} (h0 : g_at w a0 (.inl (D.1 104, n0, .inr (.inr (.inr (.inr f)))))) (h1 : g_at w a (.inl (D.1 104, n1, .inr (.inr (.inr (.inr g)))))) (hn : xs.length = n0) (hn' : n0 ≤ n1) (hs' : n1 < 2 ^ 31) (hf : g_isq f xs) (hob : ∀ y ∈ xs, g_Ob D w ci y) (hc : gCl[ci]? = some (C, T, N)) (hca : (C, "java/lang/Object") ∈ gNC) (hframes : 1 ≤ R.frames) (hlocals : (rest.map fun v => v.category).sum + (nativeFrameWords "java/lang/System" "arraycopy" 5 + 11) ≤ R.locals) (hdg : decode cc pc = .ok (.invokestatic index, 3))
    (kk : ∀ (H1 : Heap) (locs1 : List Loc), g_W D A s.heap H1 locs1 (g_put w a (.inl (D.1 104, n1, .inr (.inr (.inr (.inr (va_cpy f g 0 0 n0))))))) → W p l e R s m args below meth c H1 locs1 cells slots Q (F0 m (pc + 3) ls rest)) : W p l e R s m args below meth c H locs cells slots Q (F0 m pc ls (.int (nI n0) :: .int 0 :: .ref a :: .int 0 :: .ref a0 :: rest)) := by
  obtain ⟨q0, k0⟩ := hW.get h0
  obtain ⟨q1, k1⟩ := hW.get h1
  have e2 : (0 : Int32).toNatClampNeg = 0 := rfl
  have e3 : (nI n0).toNatClampNeg = n0 := nI_clamp (by omega)
  refine va_copyq hx hb hml hown (hts _ hlink) (hts _ q319) (hts _ q318) (hts _ q45) hK hW.1 hW.2.1 hW.2.2.1 q0 q1 4 4 k0 k1 rfl rfl (by decide) (by decide) (nI_pos (by omega)) (by rw [e2, e3]; omega) (by rw [e2, e3]; omega) (fun i hi y hy => ?_) (vb_asgC (hE.ca hca)) hframes hlocals hdg (fun H1 locs1 z1 z2 z3 => kk H1 locs1 ?_)
  · rw [e3] at hi
    rw [e2, Nat.zero_add, hf i (by omega)] at hy
    cases hy
    refine (hob _ ?_).rd hc hK hE hW
    rw [List.getD_eq_getElem?_getD, List.getElem?_eq_getElem (by omega)]
    exact List.getElem_mem _
  · rw [e2, e3, g_set hW.2.1 h1 k1] at z1 z2
    exact ⟨z1, z2, z3, hW.2.2.2⟩
end GA
theorem g_half : ∀ c, c < 1000 → nI c >>> ((1 : Int32) &&& 31) = nI (c / 2) := by decide +kernel
theorem nI_gt0 {k : Nat} (h : k < 2 ^ 31) : (0 < nI k) ↔ 0 < k := by
  have := nI_ltI (a := 0) (b := k) (by omega) h
  exact this
theorem nI_ne {a b : Nat} (ha : a < 2 ^ 31) (hb : b < 2 ^ 31) (h : a ≠ b) : nI a ≠ nI b := by
  intro z
  rcases Nat.lt_or_gt_of_ne h with q | q
  · have := nI_lt q hb; rw [z] at this; exact Int32.lt_irrefl this
  · have := nI_lt q ha; rw [z] at this; exact Int32.lt_irrefl this
/-- an array of references, as a receiver -/
theorem g_arr {D : va_G} {A : Nat → Prop} {s : State} {H0 H : Heap} {locs : List Loc} {w : g_H} {v n : Nat} {f : Nat → Option Nat} (hK : va_K D gCl (gT D) s) (hW : g_W D A H0 H locs w) (hv : g_at w v (.inl (D.1 104, n, .inr (.inr (.inr (.inr f)))))) : ∃ cell : Cell, H[v]? = some cell ∧ cell.vm.isStatics = false ∧ s.vm.findClass "[Ljava/lang/Object;" = some cell.cls := by
  obtain ⟨q, hq⟩ := hW.get hv
  exact ⟨_, hW.1 q _ hq, rfl, va_nmO (hK.2 4 _ rfl).2 (by decide)⟩
set_option maxHeartbeats 4000000 in
set_option maxRecDepth 100000 in
/-- AbstractCollection.<init> -/
theorem mtJ0_init (l : Launch) (D : va_G) (w : g_H) (sz : Nat) (a : Nat) : Met l yJ0_init (ws_ yJ0_init cJ0_init 1 none) ({ frames := 1, cells := 0, slots := 0, locals := 12 }) (g_Pc D [.ref a] w sz) (g_Qv D w sz (fun u => w = u)) (0) (0) (g_A w sz) := by
  refine Met.ofW (cc := cJ0_init) (maxL := 1) (ret := none) (by decide) rfl ?_
  intro p e s m args below meth c s₁ B hml hv
  obtain ⟨rfl, hI⟩ := hv
  have hx := B.exec
  have hb := B.bytes
  have hr := B.returns
  have hts := atoms_spec (ws := ws_ yJ0_init cJ0_init 1 none) B.pre
  have hts : ∀ w ∈ lw_all, w.before _ s = true := fun w h => hts w (List.mem_cons_of_mem _ h)
  have hown : s.vm.findClass RJ0 = some m.cls := findClass_of_methodNamed B.named
  have hlocks := B.notSynchronized
  have hin : meth.name = "<init>" := (name_of_methodNamed B.named B.method).1
  have hsz := hI.1
  subst hsz
  have hW := g_W.start hI
  have hK := g_K hI
  have hE := g_E hI
  have hl := lv_entry ([.ref a]) (n := 1) (by exact Nat.le_of_ble_eq_true rfl)
  rw [lg_entry_eq]
  generalize (lg_sl ([.ref a]) ++ List.replicate (1 - (lg_sl ([.ref a])).length) Slot.unset).toArray = ls at hl ⊢
  have hl : lv_has ls 1 [(0, .ref a)] := hl
  refine lv_aload_n hx hb dJ0_init_0 rfl (lv_at hl 0 rfl) ?_
  refine W.objInit hx hb hown (hts _ q136) (hts _ q104) (hts _ q105) rfl (by rw [hml]; exact hl.1) rfl dJ0_init_1 (Nat.le_of_ble_eq_true rfl) (Nat.le_of_ble_eq_true rfl) ?_
  refine W.eq (g2 := F0 m 4 ls []) rfl ?_
  exact g_vret hx hb hr hlocks hW (rfl) (by omega) (by omega) dJ0_init_4
set_option maxHeartbeats 4000000 in
set_option maxRecDepth 100000 in
/-- AbstractList.<init> -/
theorem mtJ1_init (l : Launch) (D : va_G) (w : g_H) (sz : Nat) (a : Nat) (ha : g_at w a (.inr (11, [.int (0), .null, .int (0)]))) : Met l yJ1_init (ws_ yJ1_init cJ1_init 1 none) ({ frames := 2, cells := 0, slots := 0, locals := 32 }) (g_Pc D [.ref a] w sz) (g_Qv D w sz (fun u => g_at u a (.inr (11, [.int (0), .null, .int (0)])) ∧ g_ex (fun q => q = a) w u)) (0) (0) (g_A w sz) := by
  refine Met.ofW (cc := cJ1_init) (maxL := 1) (ret := none) (by decide) rfl ?_
  intro p e s m args below meth c s₁ B hml hv
  obtain ⟨rfl, hI⟩ := hv
  have hx := B.exec
  have hb := B.bytes
  have hr := B.returns
  have hts := atoms_spec (ws := ws_ yJ1_init cJ1_init 1 none) B.pre
  have hts : ∀ w ∈ lw_all, w.before _ s = true := fun w h => hts w (List.mem_cons_of_mem _ h)
  have hown : s.vm.findClass RJ1 = some m.cls := findClass_of_methodNamed B.named
  have hlocks := B.notSynchronized
  have hin : meth.name = "<init>" := (name_of_methodNamed B.named B.method).1
  have hsz := hI.1
  subst hsz
  have hW := g_W.start hI
  have hK := g_K hI
  have hE := g_E hI
  have hl := lv_entry ([.ref a]) (n := 1) (by exact Nat.le_of_ble_eq_true rfl)
  rw [lg_entry_eq]
  generalize (lg_sl ([.ref a]) ++ List.replicate (1 - (lg_sl ([.ref a])).length) Slot.unset).toArray = ls at hl ⊢
  have hl : lv_has ls 1 [(0, .ref a)] := hl
  refine lv_aload_n hx hb dJ1_init_0 rfl (lv_at hl 0 rfl) ?_
  refine g_callv (va_runI (As := []) (rest := []) ⟨hx, hb, hml, hown, hts⟩ (mtJ0_init l D w s.heap.size a) (cwI 0 hts (lw_meth q135) rfl rfl rfl (hts _ q35) (hts _ q133) (hts _ q134) rfl (by decide +kernel) ⟨Nat.le_of_ble_eq_true rfl, Nat.le_of_ble_eq_true rfl⟩) (g_preS hW hK hE) rfl rfl hl.1 rfl (lv_room (Nat.le_of_ble_eq_true rfl)) dJ1_init_1 ⟨Nat.le_of_ble_eq_true rfl, Nat.le_of_ble_eq_true rfl⟩) hW (fun u_ H locs hp hW => ?_)
  subst hp
  have x_1 : g_ex (fun q => q = a) w w := g_ex.rf
  refine lv_aload_n hx hb dJ1_init_4 rfl (lv_at hl 0 rfl) ?_
  refine lv_iconst (v := 0) hx hb dJ1_init_5 (by decide) ?_
  refine g_putf (ci := 11) (v := .int (0)) (ty := .int) (C := RJ2) (T := TJ2) (N := 3) hx hb hts in_J2 tyJ2 tyJ2_ok nmJ2 hown hK hW ha rfl 0 (by decide) q143 (fun _ h9 => h9) rfl (by decide +kernel) rfl rfl (Nat.le_of_ble_eq_true rfl) dJ1_init_6 (fun H locs hW => ?_)
  obtain ⟨w_2, ew_2⟩ : ∃ z__, z__ = g_put w a (.inr (11, [.int (0), .null, .int (0)])) := ⟨_, rfl⟩
  have hW := g_W.ren hW ew_2 rfl
  have h_3 : g_at w_2 a (.inr (11, [.int (0), .null, .int (0)])) := by rw [ew_2]; exact g_at.put_self ha.1
  have x_4 : g_ex (fun q => q = a) w w_2 := by rw [ew_2]; exact x_1.put (fun hz9 => rfl)
  exact g_vret hx hb hr hlocks hW (⟨h_3, x_4⟩) (by omega) (by omega) dJ1_init_9
set_option maxHeartbeats 4000000 in
set_option maxRecDepth 100000 in
/-- AbstractList.<init> -/
theorem mtJ1_init_L (l : Launch) (D : va_G) (w : g_H) (sz : Nat) (a : Nat) (ha : g_at w a (.inr (12, [.int (0), .int (0), .null, .null]))) : Met l yJ1_init (ws_ yJ1_init cJ1_init 1 none) ({ frames := 2, cells := 0, slots := 0, locals := 32 }) (g_Pc D [.ref a] w sz) (g_Qv D w sz (fun u => g_at u a (.inr (12, [.int (0), .int (0), .null, .null])) ∧ g_ex (fun q => q = a) w u)) (0) (0) (g_A w sz) := by
  refine Met.ofW (cc := cJ1_init) (maxL := 1) (ret := none) (by decide) rfl ?_
  intro p e s m args below meth c s₁ B hml hv
  obtain ⟨rfl, hI⟩ := hv
  have hx := B.exec
  have hb := B.bytes
  have hr := B.returns
  have hts := atoms_spec (ws := ws_ yJ1_init cJ1_init 1 none) B.pre
  have hts : ∀ w ∈ lw_all, w.before _ s = true := fun w h => hts w (List.mem_cons_of_mem _ h)
  have hown : s.vm.findClass RJ1 = some m.cls := findClass_of_methodNamed B.named
  have hlocks := B.notSynchronized
  have hin : meth.name = "<init>" := (name_of_methodNamed B.named B.method).1
  have hsz := hI.1
  subst hsz
  have hW := g_W.start hI
  have hK := g_K hI
  have hE := g_E hI
  have hl := lv_entry ([.ref a]) (n := 1) (by exact Nat.le_of_ble_eq_true rfl)
  rw [lg_entry_eq]
  generalize (lg_sl ([.ref a]) ++ List.replicate (1 - (lg_sl ([.ref a])).length) Slot.unset).toArray = ls at hl ⊢
  have hl : lv_has ls 1 [(0, .ref a)] := hl
  refine lv_aload_n hx hb dJ1_init_0 rfl (lv_at hl 0 rfl) ?_
  refine g_callv (va_runI (As := []) (rest := []) ⟨hx, hb, hml, hown, hts⟩ (mtJ0_init l D w s.heap.size a) (cwI 0 hts (lw_meth q135) rfl rfl rfl (hts _ q35) (hts _ q133) (hts _ q134) rfl (by decide +kernel) ⟨Nat.le_of_ble_eq_true rfl, Nat.le_of_ble_eq_true rfl⟩) (g_preS hW hK hE) rfl rfl hl.1 rfl (lv_room (Nat.le_of_ble_eq_true rfl)) dJ1_init_1 ⟨Nat.le_of_ble_eq_true rfl, Nat.le_of_ble_eq_true rfl⟩) hW (fun u_ H locs hp hW => ?_)
  subst hp
  have x_1 : g_ex (fun q => q = a) w w := g_ex.rf
  refine lv_aload_n hx hb dJ1_init_4 rfl (lv_at hl 0 rfl) ?_
  refine lv_iconst (v := 0) hx hb dJ1_init_5 (by decide) ?_
  refine g_putf (ci := 12) (v := .int (0)) (ty := .int) (C := RJ5) (T := TJ5) (N := 4) hx hb hts in_J5 tyJ5 tyJ5_ok nmJ5 hown hK hW ha rfl 0 (by decide) q143 (fun _ h9 => h9) rfl (by decide +kernel) rfl rfl (Nat.le_of_ble_eq_true rfl) dJ1_init_6 (fun H locs hW => ?_)
  obtain ⟨w_2, ew_2⟩ : ∃ z__, z__ = g_put w a (.inr (12, [.int (0), .int (0), .null, .null])) := ⟨_, rfl⟩
  have hW := g_W.ren hW ew_2 rfl
  have h_3 : g_at w_2 a (.inr (12, [.int (0), .int (0), .null, .null])) := by rw [ew_2]; exact g_at.put_self ha.1
  have x_4 : g_ex (fun q => q = a) w w_2 := by rw [ew_2]; exact x_1.put (fun hz9 => rfl)
  exact g_vret hx hb hr hlocks hW (⟨h_3, x_4⟩) (by omega) (by omega) dJ1_init_9
set_option maxHeartbeats 4000000 in
set_option maxRecDepth 100000 in
/-- new ArrayList() -/
theorem mtJ2_init (l : Launch) (D : va_G) (w : g_H) (sz : Nat) (a : Nat) (ha : g_at w a (.inr (11, [.int 0, .null, .int 0]))) : Met l yJ2_init (ws_ yJ2_init cJ2_init 1 none) ({ frames := 3, cells := 0, slots := 0, locals := 52 }) (g_Pc D [.ref a] w sz) (g_Qv D w sz (fun u => g_AL D u a (D.2 1005 0) [] 0 ∧ g_ex (fun q => q = a) w u)) (0) (0) (g_A w sz) := by
  refine Met.ofW (cc := cJ2_init) (maxL := 1) (ret := none) (by decide) rfl ?_
  intro p e s m args below meth c s₁ B hml hv
  obtain ⟨rfl, hI⟩ := hv
  have hx := B.exec
  have hb := B.bytes
  have hr := B.returns
  have hts := atoms_spec (ws := ws_ yJ2_init cJ2_init 1 none) B.pre
  have hts : ∀ w ∈ lw_all, w.before _ s = true := fun w h => hts w (List.mem_cons_of_mem _ h)
  have hown : s.vm.findClass RJ2 = some m.cls := findClass_of_methodNamed B.named
  have hlocks := B.notSynchronized
  have hin : meth.name = "<init>" := (name_of_methodNamed B.named B.method).1
  have hsz := hI.1
  subst hsz
  have hW := g_W.start hI
  have hK := g_K hI
  have hE := g_E hI
  have hl := lv_entry ([.ref a]) (n := 1) (by exact Nat.le_of_ble_eq_true rfl)
  rw [lg_entry_eq]
  generalize (lg_sl ([.ref a]) ++ List.replicate (1 - (lg_sl ([.ref a])).length) Slot.unset).toArray = ls at hl ⊢
  have hl : lv_has ls 1 [(0, .ref a)] := hl
  refine lv_aload_n hx hb dJ2_init_0 rfl (lv_at hl 0 rfl) ?_
  refine g_callv (va_runI (As := []) (rest := []) ⟨hx, hb, hml, hown, hts⟩ (mtJ1_init l D w s.heap.size a ha) (cwI 0 hts (lw_meth q132) rfl rfl rfl (hts _ q36) (hts _ q130) (hts _ q131) rfl (by decide +kernel) ⟨Nat.le_of_ble_eq_true rfl, Nat.le_of_ble_eq_true rfl⟩) (g_preS hW hK hE) rfl rfl hl.1 rfl (lv_room (Nat.le_of_ble_eq_true rfl)) dJ2_init_1 ⟨Nat.le_of_ble_eq_true rfl, Nat.le_of_ble_eq_true rfl⟩) hW (fun u1 H locs hp hW => ?_)
  obtain ⟨ha1, hex1⟩ := hp
  refine lv_aload_n hx hb dJ2_init_4 rfl (lv_at hl 0 rfl) ?_
  refine va_gets hx hb (hE.2.2.1) hW.2.2.1 hown (hts _ q137) (fun _ h9 => h9) dJ2_init_5 ?_
  refine g_putf (ci := 11) (v := .ref (D.2 1005 0)) (ty := (.array (.object "java/lang/Object"))) (C := RJ2) (T := TJ2) (N := 3) hx hb hts in_J2 tyJ2 tyJ2_ok nmJ2 hown hK hW ha1 rfl 1 (by decide) q139 (fun _ h9 => h9) rfl (by decide +kernel) rfl rfl (Nat.le_of_ble_eq_true rfl) dJ2_init_8 (fun H locs hW => ?_)
  obtain ⟨w_1, ew_1⟩ : ∃ z__, z__ = g_put u1 a (.inr (11, [.int (0), .ref (D.2 1005 0), .int (0)])) := ⟨_, rfl⟩
  have hW := g_W.ren hW ew_1 rfl
  have h_2 : g_at w_1 a (.inr (11, [.int (0), .ref (D.2 1005 0), .int (0)])) := by rw [ew_1]; exact g_at.put_self ha1.1
  have x_3 : g_ex (fun q => q = a) w w_1 := by rw [ew_1]; exact hex1.put (fun hz9 => rfl)
  exact g_vret hx hb hr hlocks hW (⟨⟨0, h_2, Nat.le_refl _, by decide, Or.inl ⟨rfl, rfl⟩⟩, x_3⟩) (by omega) (by omega) dJ2_init_11
set_option maxHeartbeats 4000000 in
set_option maxRecDepth 100000 in
/-- ArrayList.size -/
theorem mtJ2_size (l : Launch) (D : va_G) (w : g_H) (sz : Nat) (a ar cap : Nat) (xs : List Nat) (hal : g_AL D w a ar xs cap) : Met l yJ2_size (ws_ yJ2_size cJ2_size 1 (some .int)) ({ frames := 1, cells := 0, slots := 0, locals := 12 }) (g_Pc D [.ref a] w sz) (g_Qi D w sz (fun r u => r = nI xs.length ∧ w = u)) (0) (0) (g_A w sz) := by
  refine Met.ofW (cc := cJ2_size) (maxL := 1) (ret := (some .int)) (by decide) rfl ?_
  intro p e s m args below meth c s₁ B hml hv
  obtain ⟨rfl, hI⟩ := hv
  have hx := B.exec
  have hb := B.bytes
  have hr := B.returns
  have hts := atoms_spec (ws := ws_ yJ2_size cJ2_size 1 (some .int)) B.pre
  have hts : ∀ w ∈ lw_all, w.before _ s = true := fun w h => hts w (List.mem_cons_of_mem _ h)
  have hown : s.vm.findClass RJ2 = some m.cls := findClass_of_methodNamed B.named
  have hlocks := B.notSynchronized
  have hsz := hI.1
  subst hsz
  have hW := g_W.start hI
  have hK := g_K hI
  have hE := g_E hI
  have hl := lv_entry ([.ref a]) (n := 1) (by exact Nat.le_of_ble_eq_true rfl)
  rw [lg_entry_eq]
  generalize (lg_sl ([.ref a]) ++ List.replicate (1 - (lg_sl ([.ref a])).length) Slot.unset).toArray = ls at hl ⊢
  have hl : lv_has ls 1 [(0, .ref a)] := hl
  obtain ⟨mo, ha, hlen, hcap, hcs⟩ := hal
  refine lv_aload_n hx hb dJ2_size_0 rfl (lv_at hl 0 rfl) ?_
  refine g_get (ci := 11) (v := .int (nI xs.length)) (C := RJ2) (T := TJ2) (N := 3) hx hb hts in_J2 hown hK hW ha rfl 2 (by decide) q142 (fun _ h9 => h9) rfl dJ2_size_1 ?_
  exact g_iret (v := nI xs.length) hx hb hr hlocks hW (⟨rfl, rfl⟩) (by omega) (by omega) dJ2_size_4
set_option maxHeartbeats 4000000 in
set_option maxRecDepth 100000 in
/-- ArrayList.isEmpty -/
theorem mtJ2_isEmpty (l : Launch) (D : va_G) (w : g_H) (sz : Nat) (a ar cap : Nat) (xs : List Nat) (hal : g_AL D w a ar xs cap) : Met l yJ2_isEmpty (ws_ yJ2_isEmpty cJ2_isEmpty 1 (some .boolean)) ({ frames := 1, cells := 0, slots := 0, locals := 12 }) (g_Pc D [.ref a] w sz) (g_Qi D w sz (fun r u => r = (if xs.length = 0 then 1 else 0) ∧ w = u)) (0) (0) (g_A w sz) := by
  refine Met.ofW (cc := cJ2_isEmpty) (maxL := 1) (ret := (some .boolean)) (by decide) rfl ?_
  intro p e s m args below meth c s₁ B hml hv
  obtain ⟨rfl, hI⟩ := hv
  have hx := B.exec
  have hb := B.bytes
  have hr := B.returns
  have hts := atoms_spec (ws := ws_ yJ2_isEmpty cJ2_isEmpty 1 (some .boolean)) B.pre
  have hts : ∀ w ∈ lw_all, w.before _ s = true := fun w h => hts w (List.mem_cons_of_mem _ h)
  have hown : s.vm.findClass RJ2 = some m.cls := findClass_of_methodNamed B.named
  have hlocks := B.notSynchronized
  have hsz := hI.1
  subst hsz
  have hW := g_W.start hI
  have hK := g_K hI
  have hE := g_E hI
  have hl := lv_entry ([.ref a]) (n := 1) (by exact Nat.le_of_ble_eq_true rfl)
  rw [lg_entry_eq]
  generalize (lg_sl ([.ref a]) ++ List.replicate (1 - (lg_sl ([.ref a])).length) Slot.unset).toArray = ls at hl ⊢
  have hl : lv_has ls 1 [(0, .ref a)] := hl
  obtain ⟨mo, ha, hlen, hcap, hcs⟩ := hal
  refine lv_aload_n hx hb dJ2_isEmpty_0 rfl (lv_at hl 0 rfl) ?_
  refine g_get (ci := 11) (v := .int (nI xs.length)) (C := RJ2) (T := TJ2) (N := 3) hx hb hts in_J2 hown hK hW ha rfl 2 (by decide) q142 (fun _ h9 => h9) rfl dJ2_isEmpty_1 ?_
  refine lv_if_ne (tgt := 11) hx hb dJ2_isEmpty_4 (by decide) (fun hc => ?_) (fun hc => ?_)
  · refine lv_iconst (v := 0) hx hb dJ2_isEmpty_11 (by decide) ?_
    exact g_zret (v := 0) hx hb hr hlocks (by rfl) hW (⟨by rw [if_neg (fun z => hc (by rw [z]; rfl))], rfl⟩) (by omega) (by omega) dJ2_isEmpty_12
  · have hz : xs.length = 0 := by
        by_cases q : xs.length = 0
        · exact q
        · exact absurd hc (nI_ne (b := 0) (by omega) (by omega) q)
    refine lv_iconst (v := 1) hx hb dJ2_isEmpty_7 (by decide) ?_
    refine lv_goto (tgt := 12) hx hb dJ2_isEmpty_8 (by decide) ?_
    exact g_zret (v := 1) hx hb hr hlocks (by rfl) hW (⟨by rw [if_pos hz], rfl⟩) (by omega) (by omega) dJ2_isEmpty_12
set_option maxHeartbeats 4000000 in
set_option maxRecDepth 100000 in
/-- ArrayList.elementData -/
theorem mtJ2_elementData (l : Launch) (D : va_G) (w : g_H) (sz : Nat) (a ar cap : Nat) (xs : List Nat) (hal : g_AL D w a ar xs cap) (i : Nat) (hi : i < xs.length) : Met l yJ2_elementData (ws_ yJ2_elementData cJ2_elementData 2 (some (.object "java/lang/Object"))) ({ frames := 1, cells := 0, slots := 0, locals := 12 }) (g_Pc D [.ref a, .int (nI i)] w sz) (g_Qq D w sz (fun r u => r = some (xs.getD i 0) ∧ w = u)) (0) (0) (g_A w sz) := by
  refine Met.ofW (cc := cJ2_elementData) (maxL := 2) (ret := (some (.object "java/lang/Object"))) (by decide) rfl ?_
  intro p e s m args below meth c s₁ B hml hv
  obtain ⟨rfl, hI⟩ := hv
  have hx := B.exec
  have hb := B.bytes
  have hr := B.returns
  have hts := atoms_spec (ws := ws_ yJ2_elementData cJ2_elementData 2 (some (.object "java/lang/Object"))) B.pre
  have hts : ∀ w ∈ lw_all, w.before _ s = true := fun w h => hts w (List.mem_cons_of_mem _ h)
  have hown : s.vm.findClass RJ2 = some m.cls := findClass_of_methodNamed B.named
  have hlocks := B.notSynchronized
  have hsz := hI.1
  subst hsz
  have hW := g_W.start hI
  have hK := g_K hI
  have hE := g_E hI
  have hl := lv_entry ([.ref a, .int (nI i)]) (n := 2) (by exact Nat.le_of_ble_eq_true rfl)
  rw [lg_entry_eq]
  generalize (lg_sl ([.ref a, .int (nI i)]) ++ List.replicate (2 - (lg_sl ([.ref a, .int (nI i)])).length) Slot.unset).toArray = ls at hl ⊢
  have hl : lv_has ls 2 [(0, .ref a), (1, .int (nI i))] := hl
  obtain ⟨mo, ha, hlen, hcap, hcs⟩ := hal
  rcases hcs with ⟨hc0, har⟩ | ⟨hc0, f, hf, his⟩
  · exact absurd hi (by omega)
  ·
    refine lv_aload_n hx hb dJ2_elementData_0 rfl (lv_at hl 0 rfl) ?_
    refine g_get (ci := 11) (v := .ref ar) (C := RJ2) (T := TJ2) (N := 3) hx hb hts in_J2 hown hK hW ha rfl 1 (by decide) q139 (fun _ h9 => h9) rfl dJ2_elementData_1 ?_
    refine lv_iload_n hx hb dJ2_elementData_4 rfl (lv_at hl 1 rfl) ?_
    refine g_aldX (i := i) (y := xs.getD i 0) hx hb hK hW hf (by omega) (by omega) (his i hi) dJ2_elementData_5 ?_
    exact g_qret (v := some (xs.getD i 0)) hx hb hr (Or.inl ⟨_, rfl⟩) hlocks hW (⟨rfl, rfl⟩) (by omega) (by omega) dJ2_elementData_6
set_option maxHeartbeats 4000000 in
set_option maxRecDepth 100000 in
/-- Objects.checkIndex -/
theorem mtJ20_checkIndex (l : Launch) (D : va_G) (w : g_H) (sz : Nat) (i n : Nat) (hi : i < n) (hn : n < 2 ^ 31) : Met l yJ20_checkIndex (ws_ yJ20_checkIndex cJ20_checkIndex 2 (some .int)) ({ frames := 2, cells := 0, slots := 0, locals := 34 }) (g_Pc D [.int (nI i), .int (nI n)] w sz) (g_Qi D w sz (fun r u => r = nI i ∧ w = u)) (0) (0) (g_A w sz) := by
  refine Met.ofW (cc := cJ20_checkIndex) (maxL := 2) (ret := (some .int)) (by decide) rfl ?_
  intro p e s m args below meth c s₁ B hml hv
  obtain ⟨rfl, hI⟩ := hv
  have hx := B.exec
  have hb := B.bytes
  have hr := B.returns
  have hts := atoms_spec (ws := ws_ yJ20_checkIndex cJ20_checkIndex 2 (some .int)) B.pre
  have hts : ∀ w ∈ lw_all, w.before _ s = true := fun w h => hts w (List.mem_cons_of_mem _ h)
  have hown : s.vm.findClass RJ20 = some m.cls := findClass_of_methodNamed B.named
  have hlocks := B.notSynchronized
  have hsz := hI.1
  subst hsz
  have hW := g_W.start hI
  have hK := g_K hI
  have hE := g_E hI
  have hl := lv_entry ([.int (nI i), .int (nI n)]) (n := 2) (by exact Nat.le_of_ble_eq_true rfl)
  rw [lg_entry_eq]
  generalize (lg_sl ([.int (nI i), .int (nI n)]) ++ List.replicate (2 - (lg_sl ([.int (nI i), .int (nI n)])).length) Slot.unset).toArray = ls at hl ⊢
  have hl : lv_has ls 2 [(0, .int (nI i)), (1, .int (nI n))] := hl
  refine lv_iload_n hx hb dJ20_checkIndex_0 rfl (lv_at hl 0 rfl) ?_
  refine lv_iload_n hx hb dJ20_checkIndex_1 rfl (lv_at hl 1 rfl) ?_
  refine lv_null hx hb dJ20_checkIndex_2 ?_
  refine g_calli (va_runS (As := [.int (nI i), .int (nI n), .null]) (rest := []) ⟨hx, hb, hml, hown, hts⟩ (mtJ18_checkIndex l D w s.heap.size i n none hi hn) (va_cwS 3 hts (lw_S q799 q766 q65 q767) rfl rfl rfl (by decide +kernel) ⟨Nat.le_of_ble_eq_true rfl, Nat.le_of_ble_eq_true rfl⟩) (g_preS hW hK hE) rfl rfl hl.1 rfl (lv_room (Nat.le_of_ble_eq_true rfl)) dJ20_checkIndex_3 ⟨Nat.le_of_ble_eq_true rfl, Nat.le_of_ble_eq_true rfl⟩) hW (fun r_ u_ H locs hp hW => ?_)
  obtain ⟨er, rfl⟩ := hp
  subst er
  exact g_iret (v := nI i) hx hb hr hlocks hW (⟨rfl, rfl⟩) (by omega) (by omega) dJ20_checkIndex_6
set_option maxHeartbeats 4000000 in
set_option maxRecDepth 100000 in
/-- ArrayList.get -/
theorem mtJ2_get (l : Launch) (D : va_G) (w : g_H) (sz : Nat) (a ar cap : Nat) (xs : List Nat) (hal : g_AL D w a ar xs cap) (i : Nat) (hi : i < xs.length) : Met l yJ2_get (ws_ yJ2_get cJ2_get 2 (some (.object "java/lang/Object"))) ({ frames := 3, cells := 0, slots := 0, locals := 55 }) (g_Pc D [.ref a, .int (nI i)] w sz) (g_Qq D w sz (fun r u => r = some (xs.getD i 0) ∧ w = u)) (0) (0) (g_A w sz) := by
  refine Met.ofW (cc := cJ2_get) (maxL := 2) (ret := (some (.object "java/lang/Object"))) (by decide) rfl ?_
  intro p e s m args below meth c s₁ B hml hv
  obtain ⟨rfl, hI⟩ := hv
  have hx := B.exec
  have hb := B.bytes
  have hr := B.returns
  have hts := atoms_spec (ws := ws_ yJ2_get cJ2_get 2 (some (.object "java/lang/Object"))) B.pre
  have hts : ∀ w ∈ lw_all, w.before _ s = true := fun w h => hts w (List.mem_cons_of_mem _ h)
  have hown : s.vm.findClass RJ2 = some m.cls := findClass_of_methodNamed B.named
  have hlocks := B.notSynchronized
  have hsz := hI.1
  subst hsz
  have hW := g_W.start hI
  have hK := g_K hI
  have hE := g_E hI
  have hl := lv_entry ([.ref a, .int (nI i)]) (n := 2) (by exact Nat.le_of_ble_eq_true rfl)
  rw [lg_entry_eq]
  generalize (lg_sl ([.ref a, .int (nI i)]) ++ List.replicate (2 - (lg_sl ([.ref a, .int (nI i)])).length) Slot.unset).toArray = ls at hl ⊢
  have hl : lv_has ls 2 [(0, .ref a), (1, .int (nI i))] := hl
  have hal9 := hal
  obtain ⟨mo, ha, hlen, hcap, hcs⟩ := hal
  refine lv_iload_n hx hb dJ2_get_0 rfl (lv_at hl 1 rfl) ?_
  refine lv_aload_n hx hb dJ2_get_1 rfl (lv_at hl 0 rfl) ?_
  refine g_get (ci := 11) (v := .int (nI xs.length)) (C := RJ2) (T := TJ2) (N := 3) hx hb hts in_J2 hown hK hW ha rfl 2 (by decide) q142 (fun _ h9 => h9) rfl dJ2_get_2 ?_
  refine g_calli (va_runS (As := [.int (nI i), .int (nI xs.length)]) (rest := []) ⟨hx, hb, hml, hown, hts⟩ (mtJ20_checkIndex l D w s.heap.size i xs.length hi (by omega)) (va_cwS 2 hts (lw_S q796 q797 q67 q798) rfl rfl rfl (by decide +kernel) ⟨Nat.le_of_ble_eq_true rfl, Nat.le_of_ble_eq_true rfl⟩) (g_preS hW hK hE) rfl rfl hl.1 rfl (lv_room (Nat.le_of_ble_eq_true rfl)) dJ2_get_5 ⟨Nat.le_of_ble_eq_true rfl, Nat.le_of_ble_eq_true rfl⟩) hW (fun r_ u_ H locs hp hW => ?_)
  obtain ⟨er, rfl⟩ := hp
  subst er
  refine lv_pop hx hb dJ2_get_8 rfl ?_
  refine lv_aload_n hx hb dJ2_get_9 rfl (lv_at hl 0 rfl) ?_
  refine lv_iload_n hx hb dJ2_get_10 rfl (lv_at hl 1 rfl) ?_
  refine g_callq (va_runV (As := [.int (nI i)]) (rest := []) ⟨hx, hb, hml, hown, hts⟩ (mtJ2_elementData l D w H.size a ar cap xs hal9 i hi) (cwV 1 hts (lw_V q800 q801 q802 q37 q803) rfl rfl rfl (by decide +kernel) ⟨Nat.le_of_ble_eq_true rfl, Nat.le_of_ble_eq_true rfl⟩) (g_preV hW hK hE ha rfl) rfl rfl hl.1 rfl (lv_room (Nat.le_of_ble_eq_true rfl)) dJ2_get_11 ⟨Nat.le_of_ble_eq_true rfl, Nat.le_of_ble_eq_true rfl⟩) hW (fun r_ u_ H locs hp hW => ?_)
  obtain ⟨er, rfl⟩ := hp
  subst er
  exact g_qret (v := some (xs.getD i 0)) hx hb hr (Or.inl ⟨_, rfl⟩) hlocks hW (⟨rfl, rfl⟩) (by omega) (by omega) dJ2_get_14
set_option maxHeartbeats 4000000 in
set_option maxRecDepth 100000 in
/-- Arrays.copyOf of references, to more, by the class of its array -/
theorem mtJ8_copyOf_2 (l : Launch) (D : va_G) (w : g_H) (sz : Nat) (v n0 q ci N : Nat) (C : String) (T : u_T) (f : Nat → Option Nat) (xs : List Nat) (hv : g_at w v (.inl (D.1 104, n0, .inr (.inr (.inr (.inr f)))))) (hf : g_isq f xs) (hxs : xs.length = n0) (hob : ∀ y ∈ xs, g_Ob D w ci y) (hc : gCl[ci]? = some (C, T, N)) (hca : (C, "java/lang/Object") ∈ gNC) (hq : n0 < q) (hq2 : q ≤ 262144) : Met l yJ8_copyOf_2 (ws_ yJ8_copyOf_2 cJ8_copyOf_2 4 (some (.array (.object "java/lang/Object")))) ({ frames := 2, cells := 1, slots := q, locals := 80 }) (g_Pc D [.ref v, .int (nI q), .ref (D.2 1005 1)] w sz) (g_Qq D w sz (fun r u => ∃ x, r = some x ∧ x ∉ w.1 ∧ (∃ g : Nat → Option Nat, g_at u x (.inl (D.1 104, q, .inr (.inr (.inr (.inr g))))) ∧ ∀ j, j < n0 → g j = f j) ∧ g_ex (fun _ => False) w u)) (1) (q) (g_A w sz) := by
  refine Met.ofW (cc := cJ8_copyOf_2) (maxL := 4) (ret := (some (.array (.object "java/lang/Object")))) (by decide) rfl ?_
  intro p e s m args below meth c s₁ B hml hv
  obtain ⟨rfl, hI⟩ := hv
  have hx := B.exec
  have hb := B.bytes
  have hr := B.returns
  have hts := atoms_spec (ws := ws_ yJ8_copyOf_2 cJ8_copyOf_2 4 (some (.array (.object "java/lang/Object")))) B.pre
  have hts : ∀ w ∈ lw_all, w.before _ s = true := fun w h => hts w (List.mem_cons_of_mem _ h)
  have hown : s.vm.findClass RJ8 = some m.cls := findClass_of_methodNamed B.named
  have hlocks := B.notSynchronized
  have hsz := hI.1
  subst hsz
  have hW := g_W.start hI
  have hK := g_K hI
  have hE := g_E hI
  have hl := lv_entry ([.ref v, .int (nI q), .ref (D.2 1005 1)]) (n := 4) (by exact Nat.le_of_ble_eq_true rfl)
  rw [lg_entry_eq]
  generalize (lg_sl ([.ref v, .int (nI q), .ref (D.2 1005 1)]) ++ List.replicate (4 - (lg_sl ([.ref v, .int (nI q), .ref (D.2 1005 1)])).length) Slot.unset).toArray = ls at hl ⊢
  have hl : lv_has ls 4 [(0, .ref v), (1, .int (nI q)), (2, .ref (D.2 1005 1))] := hl
  have x_1 : g_ex (fun _ => False) w w := g_ex.rf
  refine lv_aload_n hx hb dJ8_copyOf_2_0 rfl (lv_at hl 2 rfl) ?_
  refine va_ldcM hx hb hown (hts _ q311) hE.mi dJ8_copyOf_2_1 ?_
  refine lv_acmp_ne (rx := some (D.2 1005 1)) (ry := some (D.2 1005 1)) (tgt := 13) hx hb dJ8_copyOf_2_3 (by decide) (fun hd => absurd rfl hd) (fun _ => ?_)
  refine lv_iload_n hx hb dJ8_copyOf_2_6 rfl (lv_at hl 1 rfl) ?_
  refine g_newq (k := 4) (cB := D.1 104) hx hb hts hown q313 hE.ao hK hW rfl (q) (nI_pos (by omega)) (nI_clamp (by omega)) (by omega) ?_ ?_ dJ8_copyOf_2_7 (fun q_2 H hq hW => ?_)
  · (try simp only [headSpec]); omega
  · (try simp only [headSpec]); omega
  have hq_2 := hq
  obtain ⟨w_3, ew_3⟩ : ∃ z__, z__ = g_push w q_2 (.inl (D.1 104, q, .inr (.inr (.inr (.inr ((fun _ => none))))))) := ⟨_, rfl⟩
  have hW := g_W.ren hW ew_3 rfl
  have h_4 : g_at w_3 v (.inl (D.1 104, n0, .inr (.inr (.inr (.inr (f)))))) := by rw [ew_3]; exact hv.push hq
  have h_5 : g_at w_3 q_2 (.inl (D.1 104, q, .inr (.inr (.inr (.inr ((fun _ => none))))))) := by rw [ew_3]; exact g_at.push_self
  have x_6 : g_ex (fun _ => False) w w_3 := by rw [ew_3]; exact x_1.push hq
  refine lv_goto (tgt := 24) hx hb dJ8_copyOf_2_10 (by decide) ?_
  refine lv_astore_n (lv' := [(3, .ref q_2), (0, .ref v), (1, .int (nI q)), (2, .ref (D.2 1005 1))]) hx hb dJ8_copyOf_2_24 rfl hl (by decide) rfl (fun ls hl => ?_)
  refine lv_aload_n hx hb dJ8_copyOf_2_25 rfl (lv_at hl 1 rfl) ?_
  refine lv_iconst (v := 0) hx hb dJ8_copyOf_2_26 (by decide) ?_
  refine lv_aload_n hx hb dJ8_copyOf_2_27 rfl (lv_at hl 0 rfl) ?_
  refine lv_iconst (v := 0) hx hb dJ8_copyOf_2_28 (by decide) ?_
  refine lv_aload_n hx hb dJ8_copyOf_2_29 rfl (lv_at hl 1 rfl) ?_
  refine g_alen hx hb hK hW 4 h_4 rfl dJ8_copyOf_2_30 ?_
  refine lv_iload_n hx hb dJ8_copyOf_2_31 rfl (lv_at hl 2 rfl) ?_
  refine g_calli (va_runS (As := [.int (nI n0), .int (nI q)]) (rest := [.int (0), .ref q_2, .int (0), .ref v]) ⟨hx, hb, hml, hown, hts⟩ (mtJ7_min l D w_3 H.size n0 q (by omega) (by omega)) (va_cwS 2 hts (lw_S q314 q315 q43 q316) rfl rfl rfl (by decide +kernel) ⟨Nat.le_of_ble_eq_true rfl, Nat.le_of_ble_eq_true rfl⟩) (g_preS hW hK hE) rfl rfl hl.1 rfl (lv_room (Nat.le_of_ble_eq_true rfl)) dJ8_copyOf_2_32 ⟨?_, ?_⟩) hW (fun r_ u_ H locs hp hW => ?_)
  · (try simp only [headSpec]); omega
  · (try simp only [headSpec]); omega
  obtain ⟨er, rfl⟩ := hp
  subst er
  refine g_topi (y := nI n0) (by rw [show min n0 q = n0 by omega]) ?_
  have hob2 : ∀ y ∈ xs, g_Ob D w_3 ci y := fun y hy => by rw [ew_3]; exact (hob y hy).push hq
  refine g_copyq hx hb (hml.trans hl.1.symm) hts hown q317 hK hE hW h_4 h_5 hxs (by omega) (by omega) hf hob2 hc hca (Nat.le_of_ble_eq_true rfl) (Nat.le_of_ble_eq_true rfl) dJ8_copyOf_2_35 (fun H locs hW => ?_)
  obtain ⟨f_7, ef_7⟩ : ∃ z__, z__ = va_cpy f (fun _ => none) 0 0 n0 := ⟨_, rfl⟩
  rw [← ef_7] at hW
  obtain ⟨w_8, ew_8⟩ : ∃ z__, z__ = g_put w_3 q_2 (.inl (D.1 104, q, .inr (.inr (.inr (.inr (f_7)))))) := ⟨_, rfl⟩
  have hW := g_W.ren hW ew_8 rfl
  have hx9 : g_at w_8 q_2 (.inl (D.1 104, q, .inr (.inr (.inr (.inr (f_7)))))) := by rw [ew_8]; exact g_at.put_self h_5.1
  have hex9 : g_ex (fun _ => False) w w_8 := by rw [ew_8]; exact x_6.put (fun z => absurd z hq_2)
  refine lv_aload_n hx hb dJ8_copyOf_2_38 rfl (lv_at hl 0 rfl) ?_
  refine g_qret (v := some q_2) hx hb hr (Or.inr ⟨_, rfl⟩) hlocks hW (⟨q_2, rfl, hq_2, ⟨f_7, hx9, fun j hj => ?_⟩, hex9⟩) (by omega) (by omega) dJ8_copyOf_2_39
  rw [ef_7]; unfold va_cpy; rw [if_pos ⟨Nat.zero_le _, by omega⟩]; simp
set_option maxHeartbeats 4000000 in
set_option maxRecDepth 100000 in
/-- Arrays.copyOf of references, to more -/
theorem mtJ8_copyOf (l : Launch) (D : va_G) (w : g_H) (sz : Nat) (v n0 q ci N : Nat) (C : String) (T : u_T) (f : Nat → Option Nat) (xs : List Nat) (hv : g_at w v (.inl (D.1 104, n0, .inr (.inr (.inr (.inr f)))))) (hf : g_isq f xs) (hxs : xs.length = n0) (hob : ∀ y ∈ xs, g_Ob D w ci y) (hc : gCl[ci]? = some (C, T, N)) (hca : (C, "java/lang/Object") ∈ gNC) (hq : n0 < q) (hq2 : q ≤ 262144) : Met l yJ8_copyOf (ws_ yJ8_copyOf cJ8_copyOf 2 (some (.array (.object "java/lang/Object")))) ({ frames := 3, cells := 1, slots := q, locals := 103 }) (g_Pc D [.ref v, .int (nI q)] w sz) (g_Qq D w sz (fun r u => ∃ x, r = some x ∧ x ∉ w.1 ∧ (∃ g : Nat → Option Nat, g_at u x (.inl (D.1 104, q, .inr (.inr (.inr (.inr g))))) ∧ ∀ j, j < n0 → g j = f j) ∧ g_ex (fun _ => False) w u)) (1) (q) (g_A w sz) := by
  refine Met.ofW (cc := cJ8_copyOf) (maxL := 2) (ret := (some (.array (.object "java/lang/Object")))) (by decide) rfl ?_
  intro p e s m args below meth c s₁ B hml hv
  obtain ⟨rfl, hI⟩ := hv
  have hx := B.exec
  have hb := B.bytes
  have hr := B.returns
  have hts := atoms_spec (ws := ws_ yJ8_copyOf cJ8_copyOf 2 (some (.array (.object "java/lang/Object")))) B.pre
  have hts : ∀ w ∈ lw_all, w.before _ s = true := fun w h => hts w (List.mem_cons_of_mem _ h)
  have hown : s.vm.findClass RJ8 = some m.cls := findClass_of_methodNamed B.named
  have hlocks := B.notSynchronized
  have hsz := hI.1
  subst hsz
  have hW := g_W.start hI
  have hK := g_K hI
  have hE := g_E hI
  have hl := lv_entry ([.ref v, .int (nI q)]) (n := 2) (by exact Nat.le_of_ble_eq_true rfl)
  rw [lg_entry_eq]
  generalize (lg_sl ([.ref v, .int (nI q)]) ++ List.replicate (2 - (lg_sl ([.ref v, .int (nI q)])).length) Slot.unset).toArray = ls at hl ⊢
  have hl : lv_has ls 2 [(0, .ref v), (1, .int (nI q))] := hl
  refine lv_aload_n hx hb dJ8_copyOf_0 rfl (lv_at hl 0 rfl) ?_
  refine lv_iload_n hx hb dJ8_copyOf_1 rfl (lv_at hl 1 rfl) ?_
  refine lv_aload_n hx hb dJ8_copyOf_2 rfl (lv_at hl 0 rfl) ?_
  obtain ⟨qk, hqk⟩ := hW.get hv
  refine va_getC hx hb (hml.trans hl.1.symm) hown (hts _ q273) hE.dc.use (hts _ q2270) (hts _ q274) (hts _ q307) hE.mi (g_arr hK hW hv) (Nat.le_of_ble_eq_true rfl) (Nat.le_of_ble_eq_true rfl) dJ8_copyOf_3 ?_
  refine g_callq (va_runS (As := [.ref v, .int (nI q), .ref (D.2 1005 1)]) (rest := []) ⟨hx, hb, hml, hown, hts⟩ (mtJ8_copyOf_2 l D w s.heap.size v n0 q ci N C T f xs hv hf hxs hob hc hca hq hq2) (va_cwS 3 hts (lw_S q308 q309 q44 q310) rfl rfl rfl (by decide +kernel) ⟨Nat.le_of_ble_eq_true rfl, Nat.le_of_ble_eq_true rfl⟩) (g_preS hW hK hE) rfl rfl hl.1 rfl (lv_room (Nat.le_of_ble_eq_true rfl)) dJ8_copyOf_6 ⟨?_, ?_⟩) hW (fun r_ u_ H locs hp hW => ?_)
  · (try simp only [headSpec]); omega
  · (try simp only [headSpec]); omega
  obtain ⟨x, er, h1, h2, h3⟩ := hp
  subst er
  exact g_qret (v := some x) hx hb hr (Or.inr ⟨_, rfl⟩) hlocks hW (⟨x, rfl, h1, h2, h3⟩) (by omega) (by omega) dJ8_copyOf_9
set_option maxHeartbeats 4000000 in
set_option maxRecDepth 100000 in
/-- ArrayList.grow(int) -/
theorem mtJ2_grow_2 (l : Launch) (D : va_G) (w : g_H) (sz : Nat) (a ar cap : Nat) (xs : List Nat) (hal : g_AL D w a ar xs cap) (ci N : Nat) (C : String) (T : u_T) (hob : ∀ y ∈ xs, g_Ob D w ci y) (hcl : gCl[ci]? = some (C, T, N)) (hca : (C, "java/lang/Object") ∈ gNC) (hfull : xs.length = cap) (h6 : cap < 600) : Met l yJ2_grow_2 (ws_ yJ2_grow_2 cJ2_grow_2 4 (some (.array (.object "java/lang/Object")))) ({ frames := 8, cells := 1, slots := g_gr cap, locals := 200 }) (g_Pc D [.ref a, .int (nI (cap + 1))] w sz) (g_Qq D w sz (fun r u => ∃ x, r = some x ∧ x ∉ w.1 ∧ (∃ mo : Int32, g_at u a (.inr (11, [.int mo, .ref x, .int (nI xs.length)]))) ∧ (∃ g : Nat → Option Nat, g_at u x (.inl (D.1 104, g_gr cap, .inr (.inr (.inr (.inr g))))) ∧ g_isq g xs) ∧ g_ex (fun q => q = a) w u)) (1) (g_gr cap) (g_A w sz) := by
  refine Met.ofW (cc := cJ2_grow_2) (maxL := 4) (ret := (some (.array (.object "java/lang/Object")))) (by decide) rfl ?_
  intro p e s m args below meth c s₁ B hml hv
  obtain ⟨rfl, hI⟩ := hv
  have hx := B.exec
  have hb := B.bytes
  have hr := B.returns
  have hts := atoms_spec (ws := ws_ yJ2_grow_2 cJ2_grow_2 4 (some (.array (.object "java/lang/Object")))) B.pre
  have hts : ∀ w ∈ lw_all, w.before _ s = true := fun w h => hts w (List.mem_cons_of_mem _ h)
  have hown : s.vm.findClass RJ2 = some m.cls := findClass_of_methodNamed B.named
  have hlocks := B.notSynchronized
  have hsz := hI.1
  subst hsz
  have hW := g_W.start hI
  have hK := g_K hI
  have hE := g_E hI
  have hl := lv_entry ([.ref a, .int (nI (cap + 1))]) (n := 4) (by exact Nat.le_of_ble_eq_true rfl)
  rw [lg_entry_eq]
  generalize (lg_sl ([.ref a, .int (nI (cap + 1))]) ++ List.replicate (4 - (lg_sl ([.ref a, .int (nI (cap + 1))])).length) Slot.unset).toArray = ls at hl ⊢
  have hl : lv_has ls 4 [(0, .ref a), (1, .int (nI (cap + 1)))] := hl
  obtain ⟨mo, ha, hlen, hcap, hcs⟩ := hal
  have x_1 : g_ex (fun q => q = a) w w := g_ex.rf
  rcases hcs with ⟨hc0, har⟩ | ⟨hc0, f, hf, his⟩
  · have hxs : xs = [] := List.eq_nil_of_length_eq_zero (by omega)
    subst hc0; subst har; subst hxs
    have e10 : g_gr 0 = 10 := rfl
    refine lv_aload_n hx hb dJ2_grow_2_0 rfl (lv_at hl 0 rfl) ?_
    refine g_get (ci := 11) (v := .ref (D.2 1005 0)) (C := RJ2) (T := TJ2) (N := 3) hx hb hts in_J2 hown hK hW ha rfl 1 (by decide) q139 (fun _ h9 => h9) rfl dJ2_grow_2_1 ?_
    refine g_lenR hx hb ((hE.2.2.2.1.kept hW.2.2.1.2.1).narrow (fun _ z => z.elim)) dJ2_grow_2_4 ?_
    refine lv_istore_n (lv' := [(2, .int (nI 0)), (0, .ref a), (1, .int (nI (0 + 1)))]) hx hb dJ2_grow_2_5 rfl hl (by decide) rfl (fun ls hl => ?_)
    refine lv_iload_n hx hb dJ2_grow_2_6 rfl (lv_at hl 0 rfl) ?_
    refine lv_if_gt (tgt := 20) hx hb dJ2_grow_2_7 (by decide) (fun hd => ?_) (fun hd => ?_)
    · exact absurd hd (by decide)
    · refine lv_aload_n hx hb dJ2_grow_2_10 rfl (lv_at hl 1 rfl) ?_
      refine g_get (ci := 11) (v := .ref (D.2 1005 0)) (C := RJ2) (T := TJ2) (N := 3) hx hb hts in_J2 hown hK hW ha rfl 1 (by decide) q139 (fun _ h9 => h9) rfl dJ2_grow_2_11 ?_
      refine va_gets hx hb (hE.2.2.1) hW.2.2.1 hown (hts _ q137) (fun _ h9 => h9) dJ2_grow_2_14 ?_
      refine lv_acmp_eq (rx := some (D.2 1005 0)) (ry := some (D.2 1005 0)) (tgt := 45) hx hb dJ2_grow_2_17 (by decide) (fun _ => ?_) (fun hd => absurd rfl hd)
      refine lv_aload_n hx hb dJ2_grow_2_45 rfl (lv_at hl 1 rfl) ?_
      refine lv_bipush (v := 10) hx hb dJ2_grow_2_46 (by decide) ?_
      refine lv_iload_n hx hb dJ2_grow_2_48 rfl (lv_at hl 2 rfl) ?_
      refine g_calli (va_runS (As := [.int (10), .int (nI (0 + 1))]) (rest := [.ref a]) ⟨hx, hb, hml, hown, hts⟩ (mtJ7_max l D w s.heap.size 10 (0 + 1) (by decide) (by decide)) (va_cwS 2 hts (lw_S q320 q264 q43 q265) rfl rfl rfl (by decide +kernel) ⟨Nat.le_of_ble_eq_true rfl, Nat.le_of_ble_eq_true rfl⟩) (g_preS hW hK hE) rfl rfl hl.1 rfl (lv_room (Nat.le_of_ble_eq_true rfl)) dJ2_grow_2_49 ⟨?_, ?_⟩) hW (fun r_ u_ H locs hp hW => ?_)
      · (try simp only [headSpec]); (try simp only [e10]); omega
      · (try simp only [headSpec]); (try simp only [e10]); omega
      obtain ⟨er, rfl⟩ := hp
      subst er
      rw [show nI (max 10 (0 + 1)) = nI 10 from rfl]
      refine g_newq (k := 4) (cB := D.1 104) hx hb hts hown q321 hE.ao hK hW rfl (10) (by decide) (by decide) (by decide) ?_ ?_ dJ2_grow_2_52 (fun q_2 H hq hW => ?_)
      · (try simp only [headSpec]); (try simp only [e10]); omega
      · (try simp only [headSpec]); (try simp only [e10]); omega
      have hq_2 := hq
      obtain ⟨w_3, ew_3⟩ : ∃ z__, z__ = g_push w q_2 (.inl (D.1 104, 10, .inr (.inr (.inr (.inr ((fun _ => none))))))) := ⟨_, rfl⟩
      have hW := g_W.ren hW ew_3 rfl
      have h_4 : g_at w_3 a (.inr (11, [.int (mo), .ref (D.2 1005 0), .int (nI ([] : List Nat).length)])) := by rw [ew_3]; exact ha.push hq
      have h_5 : g_at w_3 q_2 (.inl (D.1 104, 10, .inr (.inr (.inr (.inr ((fun _ => none))))))) := by rw [ew_3]; exact g_at.push_self
      have x_6 : g_ex (fun q => q = a) w w_3 := by rw [ew_3]; exact x_1.push hq
      refine lv_dup_x1 hx hb dJ2_grow_2_55 rfl rfl ?_
      refine g_putf (ci := 11) (v := .ref q_2) (ty := (.array (.object "java/lang/Object"))) (C := RJ2) (T := TJ2) (N := 3) hx hb hts in_J2 tyJ2 tyJ2_ok nmJ2 hown hK hW h_4 rfl 1 (by decide) q139 (fun _ h9 => h9) rfl (by decide +kernel) rfl rfl (Nat.le_of_ble_eq_true rfl) dJ2_grow_2_56 (fun H locs hW => ?_)
      obtain ⟨w_7, ew_7⟩ : ∃ z__, z__ = g_put w_3 a (.inr (11, [.int (mo), .ref q_2, .int (nI ([] : List Nat).length)])) := ⟨_, rfl⟩
      have hW := g_W.ren hW ew_7 rfl
      have h_8 : g_at w_7 a (.inr (11, [.int (mo), .ref q_2, .int (nI ([] : List Nat).length)])) := by rw [ew_7]; exact g_at.put_self h_4.1
      have h_9 : g_at w_7 q_2 (.inl (D.1 104, 10, .inr (.inr (.inr (.inr ((fun _ => none))))))) := by rw [ew_7]; exact h_5.put (g_neAO h_5 h_4)
      have x_10 : g_ex (fun q => q = a) w w_7 := by rw [ew_7]; exact x_6.put (fun hz9 => rfl)
      refine g_qret (v := some q_2) hx hb hr (Or.inr ⟨_, rfl⟩) hlocks hW (⟨q_2, rfl, hq_2, ⟨mo, h_8⟩, ⟨fun _ => none, h_9, fun j hj => absurd hj (by simp)⟩, x_10⟩) (by omega) (by rw [e10]; omega) dJ2_grow_2_59
  · have e10 : g_gr cap = cap + max 1 (cap / 2) := if_neg (by omega)
    refine lv_aload_n hx hb dJ2_grow_2_0 rfl (lv_at hl 0 rfl) ?_
    refine g_get (ci := 11) (v := .ref ar) (C := RJ2) (T := TJ2) (N := 3) hx hb hts in_J2 hown hK hW ha rfl 1 (by decide) q139 (fun _ h9 => h9) rfl dJ2_grow_2_1 ?_
    refine g_alen hx hb hK hW 4 hf rfl dJ2_grow_2_4 ?_
    refine lv_istore_n (lv' := [(2, .int (nI cap)), (0, .ref a), (1, .int (nI (cap + 1)))]) hx hb dJ2_grow_2_5 rfl hl (by decide) rfl (fun ls hl => ?_)
    refine lv_iload_n hx hb dJ2_grow_2_6 rfl (lv_at hl 0 rfl) ?_
    refine lv_if_gt (tgt := 20) hx hb dJ2_grow_2_7 (by decide) (fun hd => ?_) (fun hd => ?_)
    · refine lv_iload_n hx hb dJ2_grow_2_20 rfl (lv_at hl 0 rfl) ?_
      refine lv_iload_n hx hb dJ2_grow_2_21 rfl (lv_at hl 2 rfl) ?_
      refine lv_iload_n hx hb dJ2_grow_2_22 rfl (lv_at hl 0 rfl) ?_
      refine lv_isub hx hb dJ2_grow_2_23 ?_
      refine lv_iload_n hx hb dJ2_grow_2_24 rfl (lv_at hl 0 rfl) ?_
      refine lv_iconst (v := 1) hx hb dJ2_grow_2_25 (by decide) ?_
      refine lv_ishr hx hb dJ2_grow_2_26 ?_
      refine g_topi (y := nI (cap / 2)) (g_half cap (by omega)) ?_
      rw [show ((nI (cap + 1)) - (nI cap) : Int32) = nI 1 from (pk_sub (a := cap + 1) (b := cap) (by omega)).trans (by rw [show cap + 1 - cap = 1 by omega])]
      refine g_calli (va_runS (As := [.int (nI cap), .int (nI 1), .int (nI (cap / 2))]) (rest := []) ⟨hx, hb, hml, hown, hts⟩ (mtJ6_newLength l D w s.heap.size cap 1 (cap / 2) (by omega) (by omega)) (va_cwS 3 hts (lw_S q260 q261 q42 q262) rfl rfl rfl (by decide +kernel) ⟨Nat.le_of_ble_eq_true rfl, Nat.le_of_ble_eq_true rfl⟩) (g_preS hW hK hE) rfl rfl hl.1 rfl (lv_room (Nat.le_of_ble_eq_true rfl)) dJ2_grow_2_27 ⟨?_, ?_⟩) hW (fun r_ u_ H locs hp hW => ?_)
      · (try simp only [headSpec]); (try simp only [e10]); omega
      · (try simp only [headSpec]); (try simp only [e10]); omega
      obtain ⟨er, rfl⟩ := hp
      subst er
      refine lv_istore_n (lv' := [(3, .int (nI (cap + max 1 (cap / 2)))), (2, .int (nI cap)), (0, .ref a), (1, .int (nI (cap + 1)))]) hx hb dJ2_grow_2_30 rfl hl (by decide) rfl (fun ls hl => ?_)
      refine lv_aload_n hx hb dJ2_grow_2_31 rfl (lv_at hl 2 rfl) ?_
      refine lv_aload_n hx hb dJ2_grow_2_32 rfl (lv_at hl 2 rfl) ?_
      refine g_get (ci := 11) (v := .ref ar) (C := RJ2) (T := TJ2) (N := 3) hx hb hts in_J2 hown hK hW ha rfl 1 (by decide) q139 (fun _ h9 => h9) rfl dJ2_grow_2_33 ?_
      refine lv_iload_n hx hb dJ2_grow_2_36 rfl (lv_at hl 0 rfl) ?_
      refine g_callq (va_runS (As := [.ref ar, .int (nI (cap + max 1 (cap / 2)))]) (rest := [.ref a]) ⟨hx, hb, hml, hown, hts⟩ (mtJ8_copyOf l D w H.size ar cap (cap + max 1 (cap / 2)) ci N C T f xs hf his hfull hob hcl hca (by omega) (by omega)) (va_cwS 2 hts (lw_S q270 q271 q44 q272) rfl rfl rfl (by decide +kernel) ⟨Nat.le_of_ble_eq_true rfl, Nat.le_of_ble_eq_true rfl⟩) (g_preS hW hK hE) rfl rfl hl.1 rfl (lv_room (Nat.le_of_ble_eq_true rfl)) dJ2_grow_2_37 ⟨?_, ?_⟩) hW (fun r_ u1 H locs hp hW => ?_)
      · (try simp only [headSpec]); (try simp only [e10]); omega
      · (try simp only [headSpec]); (try simp only [e10]); omega
      obtain ⟨x, er, hx1, ⟨g, hg1, hg2⟩, hex1⟩ := hp
      subst er
      have ha1 := hex1.at ha (fun z => z)
      have hex2 : g_ex (fun q => q = a) w u1 := hex1.mono (fun _ _ z => z.elim)
      refine lv_dup_x1 hx hb dJ2_grow_2_40 rfl rfl ?_
      refine g_putf (ci := 11) (v := .ref x) (ty := (.array (.object "java/lang/Object"))) (C := RJ2) (T := TJ2) (N := 3) hx hb hts in_J2 tyJ2 tyJ2_ok nmJ2 hown hK hW ha1 rfl 1 (by decide) q139 (fun _ h9 => h9) rfl (by decide +kernel) rfl rfl (Nat.le_of_ble_eq_true rfl) dJ2_grow_2_41 (fun H locs hW => ?_)
      obtain ⟨w_11, ew_11⟩ : ∃ z__, z__ = g_put u1 a (.inr (11, [.int (mo), .ref x, .int (nI xs.length)])) := ⟨_, rfl⟩
      have hW := g_W.ren hW ew_11 rfl
      have h_12 : g_at w_11 a (.inr (11, [.int (mo), .ref x, .int (nI xs.length)])) := by rw [ew_11]; exact g_at.put_self ha1.1
      have h_13 : g_at w_11 x (.inl (D.1 104, (cap + max 1 (cap / 2)), .inr (.inr (.inr (.inr (g)))))) := by rw [ew_11]; exact hg1.put (g_neAO hg1 ha1)
      have x_14 : g_ex (fun q => q = a) w w_11 := by rw [ew_11]; exact hex2.put (fun hz9 => rfl)
      exact g_qret (v := some x) hx hb hr (Or.inr ⟨_, rfl⟩) hlocks hW (⟨x, rfl, hx1, ⟨mo, h_12⟩, ⟨g, by rw [e10]; exact h_13, fun j hj => (hg2 j (by omega)).trans (his j hj)⟩, x_14⟩) (by omega) (by rw [e10]; omega) dJ2_grow_2_44
    · exact absurd ((nI_gt0 (by omega)).mpr hc0) hd
set_option maxHeartbeats 4000000 in
set_option maxRecDepth 100000 in
/-- ArrayList.grow -/
theorem mtJ2_grow (l : Launch) (D : va_G) (w : g_H) (sz : Nat) (a ar cap : Nat) (xs : List Nat) (hal : g_AL D w a ar xs cap) (ci N : Nat) (C : String) (T : u_T) (hob : ∀ y ∈ xs, g_Ob D w ci y) (hcl : gCl[ci]? = some (C, T, N)) (hca : (C, "java/lang/Object") ∈ gNC) (hfull : xs.length = cap) (h6 : cap < 600) : Met l yJ2_grow (ws_ yJ2_grow cJ2_grow 1 (some (.array (.object "java/lang/Object")))) ({ frames := 9, cells := 1, slots := g_gr cap, locals := 223 }) (g_Pc D [.ref a] w sz) (g_Qq D w sz (fun r u => ∃ x, r = some x ∧ x ∉ w.1 ∧ (∃ mo : Int32, g_at u a (.inr (11, [.int mo, .ref x, .int (nI xs.length)]))) ∧ (∃ g : Nat → Option Nat, g_at u x (.inl (D.1 104, g_gr cap, .inr (.inr (.inr (.inr g))))) ∧ g_isq g xs) ∧ g_ex (fun q => q = a) w u)) (1) (g_gr cap) (g_A w sz) := by
  refine Met.ofW (cc := cJ2_grow) (maxL := 1) (ret := (some (.array (.object "java/lang/Object")))) (by decide) rfl ?_
  intro p e s m args below meth c s₁ B hml hv
  obtain ⟨rfl, hI⟩ := hv
  have hx := B.exec
  have hb := B.bytes
  have hr := B.returns
  have hts := atoms_spec (ws := ws_ yJ2_grow cJ2_grow 1 (some (.array (.object "java/lang/Object")))) B.pre
  have hts : ∀ w ∈ lw_all, w.before _ s = true := fun w h => hts w (List.mem_cons_of_mem _ h)
  have hown : s.vm.findClass RJ2 = some m.cls := findClass_of_methodNamed B.named
  have hlocks := B.notSynchronized
  have hsz := hI.1
  subst hsz
  have hW := g_W.start hI
  have hK := g_K hI
  have hE := g_E hI
  have hl := lv_entry ([.ref a]) (n := 1) (by exact Nat.le_of_ble_eq_true rfl)
  rw [lg_entry_eq]
  generalize (lg_sl ([.ref a]) ++ List.replicate (1 - (lg_sl ([.ref a])).length) Slot.unset).toArray = ls at hl ⊢
  have hl : lv_has ls 1 [(0, .ref a)] := hl
  have hal9 := hal
  obtain ⟨mo, ha, hlen, hcap, hcs⟩ := hal
  refine lv_aload_n hx hb dJ2_grow_0 rfl (lv_at hl 0 rfl) ?_
  refine lv_aload_n hx hb dJ2_grow_1 rfl (lv_at hl 0 rfl) ?_
  refine g_get (ci := 11) (v := .int (nI xs.length)) (C := RJ2) (T := TJ2) (N := 3) hx hb hts in_J2 hown hK hW ha rfl 2 (by decide) q142 (fun _ h9 => h9) rfl dJ2_grow_2 ?_
  refine lv_iconst (v := 1) hx hb dJ2_grow_5 (by decide) ?_
  refine lv_iadd hx hb dJ2_grow_6 ?_
  refine g_topi (y := nI (cap + 1)) (by rw [hfull]; exact nI_1 cap) ?_
  refine g_callq (va_runV (As := [.int (nI (cap + 1))]) (rest := []) ⟨hx, hb, hml, hown, hts⟩ (mtJ2_grow_2 l D w s.heap.size a ar cap xs hal9 ci N C T hob hcl hca hfull h6) (cwV 1 hts (lw_V q256 q258 qs3 q37 q259) rfl rfl rfl (by decide +kernel) ⟨Nat.le_of_ble_eq_true rfl, Nat.le_of_ble_eq_true rfl⟩) (g_preV hW hK hE ha rfl) rfl rfl hl.1 rfl (lv_room (Nat.le_of_ble_eq_true rfl)) dJ2_grow_7 ⟨?_, ?_⟩) hW (fun r_ u_ H locs hp hW => ?_)
  · (try simp only [headSpec]); omega
  · (try simp only [headSpec]); omega
  obtain ⟨x, er, h1⟩ := hp
  subst er
  exact g_qret (v := some x) hx hb hr (Or.inr ⟨_, rfl⟩) hlocks hW (⟨x, rfl, h1⟩) (by omega) (by omega) dJ2_grow_10
set_option maxHeartbeats 4000000 in
set_option maxRecDepth 100000 in
/-- ArrayList.add(Object, Object[], int) -/
theorem mtJ2_add_2 (l : Launch) (D : va_G) (w : g_H) (sz : Nat) (a ar cap : Nat) (xs : List Nat) (hal : g_AL D w a ar xs cap) (ci N y : Nat) (C : String) (T : u_T) (hob : xs.length = cap → ∀ y ∈ xs, g_Ob D w ci y) (hy : g_Ob D w ci y) (hcl : gCl[ci]? = some (C, T, N)) (hca : (C, "java/lang/Object") ∈ gNC) (h11 : ci ≠ 11) (h6 : xs.length < 600) : Met l yJ2_add_2 (ws_ yJ2_add_2 cJ2_add_2 4 none) ({ frames := 10, cells := g_ac xs.length cap, slots := g_as xs.length cap, locals := 260 }) (g_Pc D [.ref a, .ref y, .ref ar, .int (nI xs.length)] w sz) (g_Qv D w sz (fun u => ∃ ar2, g_AL D u a ar2 (xs ++ [y]) (g_an xs.length cap) ∧ (ar2 = ar ∨ ar2 ∉ w.1) ∧ g_ex (fun q => q = a ∨ (xs.length < cap ∧ q = ar)) w u)) (g_ac xs.length cap) (g_as xs.length cap) (g_A w sz) := by
  refine Met.ofW (cc := cJ2_add_2) (maxL := 4) (ret := none) (by decide) rfl ?_
  intro p e s m args below meth c s₁ B hml hv
  obtain ⟨rfl, hI⟩ := hv
  have hx := B.exec
  have hb := B.bytes
  have hr := B.returns
  have hts := atoms_spec (ws := ws_ yJ2_add_2 cJ2_add_2 4 none) B.pre
  have hts : ∀ w ∈ lw_all, w.before _ s = true := fun w h => hts w (List.mem_cons_of_mem _ h)
  have hown : s.vm.findClass RJ2 = some m.cls := findClass_of_methodNamed B.named
  have hlocks := B.notSynchronized
  have hsz := hI.1
  subst hsz
  have hW := g_W.start hI
  have hK := g_K hI
  have hE := g_E hI
  have hl := lv_entry ([.ref a, .ref y, .ref ar, .int (nI xs.length)]) (n := 4) (by exact Nat.le_of_ble_eq_true rfl)
  rw [lg_entry_eq]
  generalize (lg_sl ([.ref a, .ref y, .ref ar, .int (nI xs.length)]) ++ List.replicate (4 - (lg_sl ([.ref a, .ref y, .ref ar, .int (nI xs.length)])).length) Slot.unset).toArray = ls at hl ⊢
  have hl : lv_has ls 4 [(0, .ref a), (1, .ref y), (2, .ref ar), (3, .int (nI xs.length))] := hl
  have hal9 := hal
  obtain ⟨mo, ha, hlen, hcap, hcs⟩ := hal
  have hl6 : xs.length < 2 ^ 31 := by omega
  rcases hcs with ⟨hc0, har⟩ | ⟨hc0, f, hf, his⟩
  · have he : xs.length = cap := by omega
    refine lv_iload_n hx hb dJ2_add_2_0 rfl (lv_at hl 3 rfl) ?_
    refine lv_aload_n hx hb dJ2_add_2_1 rfl (lv_at hl 2 rfl) ?_
    refine g_lenR hx hb (by rw [har]; exact (hE.2.2.2.1.kept hW.2.2.1.2.1).narrow (fun _ z => z.elim)) dJ2_add_2_2 ?_
    refine lv_icmp_ne (tgt := 11) hx hb dJ2_add_2_3 (by decide) (fun hd => ?_) (fun hd => ?_)
    · exact absurd (show nI xs.length = nI 0 by rw [he, hc0]) hd
    · have e1 : g_ac xs.length cap = 1 := if_pos he
      have e2 : g_as xs.length cap = g_gr cap := if_pos he
      have e3 : g_an xs.length cap = g_gr cap := if_pos he
      refine lv_aload_n hx hb dJ2_add_2_6 rfl (lv_at hl 0 rfl) ?_
      refine g_callq (va_runV (As := []) (rest := []) ⟨hx, hb, hml, hown, hts⟩ (mtJ2_grow l D w s.heap.size a ar cap xs hal9 ci N C T (hob he) hcl hca he (by omega)) (cwV 0 hts (lw_V q252 q254 qs2 q37 q255) rfl rfl rfl (by decide +kernel) ⟨Nat.le_of_ble_eq_true rfl, Nat.le_of_ble_eq_true rfl⟩) (g_preV hW hK hE ha rfl) rfl rfl hl.1 rfl (lv_room (Nat.le_of_ble_eq_true rfl)) dJ2_add_2_7 ⟨?_, ?_⟩) hW (fun r_ u1 H locs hp hW => ?_)
      · (try simp only [headSpec]); (try simp only [e1, e2]); omega
      · (try simp only [headSpec]); (try simp only [e1, e2]); omega
      obtain ⟨x, er, hx1, ⟨mo1, ha1⟩, ⟨g, hg1, hg2⟩, hex1⟩ := hp
      subst er
      have hgr : cap < g_gr cap ∧ g_gr cap < 1000 := by unfold g_gr; split <;> omega
      have hy1 : g_Ob D u1 ci y := by
        rcases hy with ⟨fs, hy⟩ | hy
        · exact Or.inl ⟨fs, hex1.at hy (g_neO hy ha h11)⟩
        · exact Or.inr hy
      have hex2 : g_ex (fun q => q = a ∨ (xs.length < cap ∧ q = ar)) w u1 := hex1.mono (fun _ _ z => Or.inl z)
      refine lv_astore_n (lv' := [(2, .ref x), (0, .ref a), (1, .ref y), (3, .int (nI xs.length))]) hx hb dJ2_add_2_10 rfl hl (by decide) rfl (fun ls hl => ?_)
      refine lv_aload_n hx hb dJ2_add_2_11 rfl (lv_at hl 0 rfl) ?_
      refine lv_iload_n hx hb dJ2_add_2_12 rfl (lv_at hl 3 rfl) ?_
      refine lv_aload_n hx hb dJ2_add_2_13 rfl (lv_at hl 2 rfl) ?_
      refine g_astOb (i := xs.length) hx hb hK hE hW hg1 hy1 hcl hca (by omega) (by omega) dJ2_add_2_14 (fun H locs hW => ?_)
      obtain ⟨f_1, ef_1⟩ : ∃ z__, z__ = va_up (g) xs.length (some y) := ⟨_, rfl⟩
      rw [← ef_1] at hW
      obtain ⟨w_2, ew_2⟩ : ∃ z__, z__ = g_put u1 x (.inl (D.1 104, (g_gr cap), .inr (.inr (.inr (.inr (f_1)))))) := ⟨_, rfl⟩
      have hW := g_W.ren hW ew_2 rfl
      have h_3 : g_at w_2 a (.inr (11, [.int (mo1), .ref x, .int (nI xs.length)])) := by rw [ew_2]; exact ha1.put (g_neOA ha1 hg1)
      have h_4 : g_at w_2 x (.inl (D.1 104, (g_gr cap), .inr (.inr (.inr (.inr (f_1)))))) := by rw [ew_2]; exact g_at.put_self hg1.1
      have x_5 : g_ex (fun q => q = a ∨ (xs.length < cap ∧ q = ar)) w w_2 := by rw [ew_2]; exact hex2.put (fun hz9 => (absurd hz9 hx1))
      refine lv_aload_n hx hb dJ2_add_2_15 rfl (lv_at hl 1 rfl) ?_
      refine lv_iload_n hx hb dJ2_add_2_16 rfl (lv_at hl 3 rfl) ?_
      refine lv_iconst (v := 1) hx hb dJ2_add_2_17 (by decide) ?_
      refine lv_iadd hx hb dJ2_add_2_18 ?_
      refine g_topi (y := nI (xs ++ [y]).length) (by rw [List.length_append]; exact nI_1 _) ?_
      refine g_putf (ci := 11) (v := .int (nI (xs ++ [y]).length)) (ty := .int) (C := RJ2) (T := TJ2) (N := 3) hx hb hts in_J2 tyJ2 tyJ2_ok nmJ2 hown hK hW h_3 rfl 2 (by decide) q142 (fun _ h9 => h9) rfl (by decide +kernel) rfl rfl (Nat.le_of_ble_eq_true rfl) dJ2_add_2_19 (fun H locs hW => ?_)
      obtain ⟨w_6, ew_6⟩ : ∃ z__, z__ = g_put w_2 a (.inr (11, [.int (mo1), .ref x, .int (nI (xs ++ [y]).length)])) := ⟨_, rfl⟩
      have hW := g_W.ren hW ew_6 rfl
      have h_7 : g_at w_6 a (.inr (11, [.int (mo1), .ref x, .int (nI (xs ++ [y]).length)])) := by rw [ew_6]; exact g_at.put_self h_3.1
      have h_8 : g_at w_6 x (.inl (D.1 104, (g_gr cap), .inr (.inr (.inr (.inr (f_1)))))) := by rw [ew_6]; exact h_4.put (g_neAO h_4 h_3)
      have x_9 : g_ex (fun q => q = a ∨ (xs.length < cap ∧ q = ar)) w w_6 := by rw [ew_6]; exact x_5.put (fun hz9 => (Or.inl rfl))
      exact g_vret hx hb hr hlocks hW (⟨x, ⟨mo1, h_7, by rw [e3, List.length_append, List.length_singleton]; omega, by rw [e3]; omega, Or.inr ⟨by omega, f_1, by rw [e3]; exact h_8, g_isq_snoc hg2 (fun j hj => by rw [ef_1]; exact va_up_ne _ _ (by omega)) (by rw [ef_1]; exact va_up_self _ _ _)⟩⟩, Or.inr hx1, x_9⟩) (by rw [e1]; omega) (by rw [e2]; omega) dJ2_add_2_22
  · refine lv_iload_n hx hb dJ2_add_2_0 rfl (lv_at hl 3 rfl) ?_
    refine lv_aload_n hx hb dJ2_add_2_1 rfl (lv_at hl 2 rfl) ?_
    refine g_alen hx hb hK hW 4 hf rfl dJ2_add_2_2 ?_
    refine lv_icmp_ne (tgt := 11) hx hb dJ2_add_2_3 (by decide) (fun hd => ?_) (fun hd => ?_)
    · have he : ¬ xs.length = cap := fun z => hd (by rw [z])
      have e1 : g_ac xs.length cap = 0 := if_neg he
      have e2 : g_as xs.length cap = 0 := if_neg he
      have e3 : g_an xs.length cap = cap := if_neg he
      have x_10 : g_ex (fun q => q = a ∨ (xs.length < cap ∧ q = ar)) w w := g_ex.rf
      refine lv_aload_n hx hb dJ2_add_2_11 rfl (lv_at hl 2 rfl) ?_
      refine lv_iload_n hx hb dJ2_add_2_12 rfl (lv_at hl 3 rfl) ?_
      refine lv_aload_n hx hb dJ2_add_2_13 rfl (lv_at hl 1 rfl) ?_
      refine g_astOb (i := xs.length) hx hb hK hE hW hf hy hcl hca (by omega) (by omega) dJ2_add_2_14 (fun H locs hW => ?_)
      obtain ⟨f_11, ef_11⟩ : ∃ z__, z__ = va_up (f) xs.length (some y) := ⟨_, rfl⟩
      rw [← ef_11] at hW
      obtain ⟨w_12, ew_12⟩ : ∃ z__, z__ = g_put w ar (.inl (D.1 104, cap, .inr (.inr (.inr (.inr (f_11)))))) := ⟨_, rfl⟩
      have hW := g_W.ren hW ew_12 rfl
      have h_13 : g_at w_12 a (.inr (11, [.int (mo), .ref ar, .int (nI xs.length)])) := by rw [ew_12]; exact ha.put (g_neOA ha hf)
      have h_14 : g_at w_12 ar (.inl (D.1 104, cap, .inr (.inr (.inr (.inr (f_11)))))) := by rw [ew_12]; exact g_at.put_self hf.1
      have x_15 : g_ex (fun q => q = a ∨ (xs.length < cap ∧ q = ar)) w w_12 := by rw [ew_12]; exact x_10.put (fun hz9 => (Or.inr ⟨by omega, rfl⟩))
      refine lv_aload_n hx hb dJ2_add_2_15 rfl (lv_at hl 0 rfl) ?_
      refine lv_iload_n hx hb dJ2_add_2_16 rfl (lv_at hl 3 rfl) ?_
      refine lv_iconst (v := 1) hx hb dJ2_add_2_17 (by decide) ?_
      refine lv_iadd hx hb dJ2_add_2_18 ?_
      refine g_topi (y := nI (xs ++ [y]).length) (by rw [List.length_append]; exact nI_1 _) ?_
      refine g_putf (ci := 11) (v := .int (nI (xs ++ [y]).length)) (ty := .int) (C := RJ2) (T := TJ2) (N := 3) hx hb hts in_J2 tyJ2 tyJ2_ok nmJ2 hown hK hW h_13 rfl 2 (by decide) q142 (fun _ h9 => h9) rfl (by decide +kernel) rfl rfl (Nat.le_of_ble_eq_true rfl) dJ2_add_2_19 (fun H locs hW => ?_)
      obtain ⟨w_16, ew_16⟩ : ∃ z__, z__ = g_put w_12 a (.inr (11, [.int (mo), .ref ar, .int (nI (xs ++ [y]).length)])) := ⟨_, rfl⟩
      have hW := g_W.ren hW ew_16 rfl
      have h_17 : g_at w_16 a (.inr (11, [.int (mo), .ref ar, .int (nI (xs ++ [y]).length)])) := by rw [ew_16]; exact g_at.put_self h_13.1
      have h_18 : g_at w_16 ar (.inl (D.1 104, cap, .inr (.inr (.inr (.inr (f_11)))))) := by rw [ew_16]; exact h_14.put (g_neAO h_14 h_13)
      have x_19 : g_ex (fun q => q = a ∨ (xs.length < cap ∧ q = ar)) w w_16 := by rw [ew_16]; exact x_15.put (fun hz9 => (Or.inl rfl))
      exact g_vret hx hb hr hlocks hW (⟨ar, ⟨mo, h_17, by rw [e3, List.length_append, List.length_singleton]; omega, by rw [e3]; omega, Or.inr ⟨by omega, f_11, by rw [e3]; exact h_18, g_isq_snoc his (fun j hj => by rw [ef_11]; exact va_up_ne _ _ (by omega)) (by rw [ef_11]; exact va_up_self _ _ _)⟩⟩, Or.inl rfl, x_19⟩) (by rw [e1]; omega) (by rw [e2]; omega) dJ2_add_2_22
    · have he : xs.length = cap := by
        refine Classical.byContradiction fun z => ?_
        exact absurd hd (nI_ne (by omega) (by omega) z)
      have e1 : g_ac xs.length cap = 1 := if_pos he
      have e2 : g_as xs.length cap = g_gr cap := if_pos he
      have e3 : g_an xs.length cap = g_gr cap := if_pos he
      refine lv_aload_n hx hb dJ2_add_2_6 rfl (lv_at hl 0 rfl) ?_
      refine g_callq (va_runV (As := []) (rest := []) ⟨hx, hb, hml, hown, hts⟩ (mtJ2_grow l D w s.heap.size a ar cap xs hal9 ci N C T (hob he) hcl hca he (by omega)) (cwV 0 hts (lw_V q252 q254 qs2 q37 q255) rfl rfl rfl (by decide +kernel) ⟨Nat.le_of_ble_eq_true rfl, Nat.le_of_ble_eq_true rfl⟩) (g_preV hW hK hE ha rfl) rfl rfl hl.1 rfl (lv_room (Nat.le_of_ble_eq_true rfl)) dJ2_add_2_7 ⟨?_, ?_⟩) hW (fun r_ u1 H locs hp hW => ?_)
      · (try simp only [headSpec]); (try simp only [e1, e2]); omega
      · (try simp only [headSpec]); (try simp only [e1, e2]); omega
      obtain ⟨x, er, hx1, ⟨mo1, ha1⟩, ⟨g, hg1, hg2⟩, hex1⟩ := hp
      subst er
      have hgr : cap < g_gr cap ∧ g_gr cap < 1000 := by unfold g_gr; split <;> omega
      have hy1 : g_Ob D u1 ci y := by
        rcases hy with ⟨fs, hy⟩ | hy
        · exact Or.inl ⟨fs, hex1.at hy (g_neO hy ha h11)⟩
        · exact Or.inr hy
      have hex2 : g_ex (fun q => q = a ∨ (xs.length < cap ∧ q = ar)) w u1 := hex1.mono (fun _ _ z => Or.inl z)
      refine lv_astore_n (lv' := [(2, .ref x), (0, .ref a), (1, .ref y), (3, .int (nI xs.length))]) hx hb dJ2_add_2_10 rfl hl (by decide) rfl (fun ls hl => ?_)
      refine lv_aload_n hx hb dJ2_add_2_11 rfl (lv_at hl 0 rfl) ?_
      refine lv_iload_n hx hb dJ2_add_2_12 rfl (lv_at hl 3 rfl) ?_
      refine lv_aload_n hx hb dJ2_add_2_13 rfl (lv_at hl 2 rfl) ?_
      refine g_astOb (i := xs.length) hx hb hK hE hW hg1 hy1 hcl hca (by omega) (by omega) dJ2_add_2_14 (fun H locs hW => ?_)
      obtain ⟨f_20, ef_20⟩ : ∃ z__, z__ = va_up (g) xs.length (some y) := ⟨_, rfl⟩
      rw [← ef_20] at hW
      obtain ⟨w_21, ew_21⟩ : ∃ z__, z__ = g_put u1 x (.inl (D.1 104, (g_gr cap), .inr (.inr (.inr (.inr (f_20)))))) := ⟨_, rfl⟩
      have hW := g_W.ren hW ew_21 rfl
      have h_22 : g_at w_21 a (.inr (11, [.int (mo1), .ref x, .int (nI xs.length)])) := by rw [ew_21]; exact ha1.put (g_neOA ha1 hg1)
      have h_23 : g_at w_21 x (.inl (D.1 104, (g_gr cap), .inr (.inr (.inr (.inr (f_20)))))) := by rw [ew_21]; exact g_at.put_self hg1.1
      have x_24 : g_ex (fun q => q = a ∨ (xs.length < cap ∧ q = ar)) w w_21 := by rw [ew_21]; exact hex2.put (fun hz9 => (absurd hz9 hx1))
      refine lv_aload_n hx hb dJ2_add_2_15 rfl (lv_at hl 1 rfl) ?_
      refine lv_iload_n hx hb dJ2_add_2_16 rfl (lv_at hl 3 rfl) ?_
      refine lv_iconst (v := 1) hx hb dJ2_add_2_17 (by decide) ?_
      refine lv_iadd hx hb dJ2_add_2_18 ?_
      refine g_topi (y := nI (xs ++ [y]).length) (by rw [List.length_append]; exact nI_1 _) ?_
      refine g_putf (ci := 11) (v := .int (nI (xs ++ [y]).length)) (ty := .int) (C := RJ2) (T := TJ2) (N := 3) hx hb hts in_J2 tyJ2 tyJ2_ok nmJ2 hown hK hW h_22 rfl 2 (by decide) q142 (fun _ h9 => h9) rfl (by decide +kernel) rfl rfl (Nat.le_of_ble_eq_true rfl) dJ2_add_2_19 (fun H locs hW => ?_)
      obtain ⟨w_25, ew_25⟩ : ∃ z__, z__ = g_put w_21 a (.inr (11, [.int (mo1), .ref x, .int (nI (xs ++ [y]).length)])) := ⟨_, rfl⟩
      have hW := g_W.ren hW ew_25 rfl
      have h_26 : g_at w_25 a (.inr (11, [.int (mo1), .ref x, .int (nI (xs ++ [y]).length)])) := by rw [ew_25]; exact g_at.put_self h_22.1
      have h_27 : g_at w_25 x (.inl (D.1 104, (g_gr cap), .inr (.inr (.inr (.inr (f_20)))))) := by rw [ew_25]; exact h_23.put (g_neAO h_23 h_22)
      have x_28 : g_ex (fun q => q = a ∨ (xs.length < cap ∧ q = ar)) w w_25 := by rw [ew_25]; exact x_24.put (fun hz9 => (Or.inl rfl))
      exact g_vret hx hb hr hlocks hW (⟨x, ⟨mo1, h_26, by rw [e3, List.length_append, List.length_singleton]; omega, by rw [e3]; omega, Or.inr ⟨by omega, f_20, by rw [e3]; exact h_27, g_isq_snoc hg2 (fun j hj => by rw [ef_20]; exact va_up_ne _ _ (by omega)) (by rw [ef_20]; exact va_up_self _ _ _)⟩⟩, Or.inr hx1, x_28⟩) (by rw [e1]; omega) (by rw [e2]; omega) dJ2_add_2_22
set_option maxHeartbeats 4000000 in
set_option maxRecDepth 100000 in
/-- ArrayList.add -/
theorem mtJ2_add (l : Launch) (D : va_G) (w : g_H) (sz : Nat) (a ar cap : Nat) (xs : List Nat) (hal : g_AL D w a ar xs cap) (ci N y : Nat) (C : String) (T : u_T) (hob : xs.length = cap → ∀ y ∈ xs, g_Ob D w ci y) (hy : g_Ob D w ci y) (hcl : gCl[ci]? = some (C, T, N)) (hca : (C, "java/lang/Object") ∈ gNC) (h11 : ci ≠ 11) (h6 : xs.length < 600) : Met l yJ2_add (ws_ yJ2_add cJ2_add 2 (some .boolean)) ({ frames := 11, cells := g_ac xs.length cap, slots := g_as xs.length cap, locals := 283 }) (g_Pc D [.ref a, .ref y] w sz) (g_Qi D w sz (fun r u => r = 1 ∧ ∃ ar2, g_AL D u a ar2 (xs ++ [y]) (g_an xs.length cap) ∧ (ar2 = ar ∨ ar2 ∉ w.1) ∧ g_ex (fun q => q = a ∨ (xs.length < cap ∧ q = ar)) w u)) (g_ac xs.length cap) (g_as xs.length cap) (g_A w sz) := by
  refine Met.ofW (cc := cJ2_add) (maxL := 2) (ret := (some .boolean)) (by decide) rfl ?_
  intro p e s m args below meth c s₁ B hml hv
  obtain ⟨rfl, hI⟩ := hv
  have hx := B.exec
  have hb := B.bytes
  have hr := B.returns
  have hts := atoms_spec (ws := ws_ yJ2_add cJ2_add 2 (some .boolean)) B.pre
  have hts : ∀ w ∈ lw_all, w.before _ s = true := fun w h => hts w (List.mem_cons_of_mem _ h)
  have hown : s.vm.findClass RJ2 = some m.cls := findClass_of_methodNamed B.named
  have hlocks := B.notSynchronized
  have hsz := hI.1
  subst hsz
  have hW := g_W.start hI
  have hK := g_K hI
  have hE := g_E hI
  have hl := lv_entry ([.ref a, .ref y]) (n := 2) (by exact Nat.le_of_ble_eq_true rfl)
  rw [lg_entry_eq]
  generalize (lg_sl ([.ref a, .ref y]) ++ List.replicate (2 - (lg_sl ([.ref a, .ref y])).length) Slot.unset).toArray = ls at hl ⊢
  have hl : lv_has ls 2 [(0, .ref a), (1, .ref y)] := hl
  obtain ⟨mo, ha, hlen, hcap, hcs⟩ := hal
  have x_1 : g_ex (fun q => q = a) w w := g_ex.rf
  have hx00 : g_ex (fun q => q = a) w w := g_ex.rf
  refine lv_aload_n hx hb dJ2_add_0 rfl (lv_at hl 0 rfl) ?_
  refine lv_dup hx hb dJ2_add_1 rfl ?_
  refine g_get (ci := 11) (v := .int (mo)) (C := RJ2) (T := TJ2) (N := 3) hx hb hts in_J2 hown hK hW ha rfl 0 (by decide) q150 (fun x9 h9 => u_same (hts _ q147) x9 h9) rfl dJ2_add_2 ?_
  refine lv_iconst (v := 1) hx hb dJ2_add_5 (by decide) ?_
  refine lv_iadd hx hb dJ2_add_6 ?_
  refine g_putf (ci := 11) (v := .int ((mo) + (1))) (ty := .int) (C := RJ2) (T := TJ2) (N := 3) hx hb hts in_J2 tyJ2 tyJ2_ok nmJ2 hown hK hW ha rfl 0 (by decide) q150 (fun x9 h9 => u_same (hts _ q147) x9 h9) rfl (by decide +kernel) rfl rfl (Nat.le_of_ble_eq_true rfl) dJ2_add_7 (fun H locs hW => ?_)
  obtain ⟨w_2, ew_2⟩ : ∃ z__, z__ = g_put w a (.inr (11, [.int ((mo) + (1)), .ref ar, .int (nI xs.length)])) := ⟨_, rfl⟩
  have hW := g_W.ren hW ew_2 rfl
  have h_3 : g_at w_2 a (.inr (11, [.int ((mo) + (1)), .ref ar, .int (nI xs.length)])) := by rw [ew_2]; exact g_at.put_self ha.1
  have x_4 : g_ex (fun q => q = a) w w_2 := by rw [ew_2]; exact x_1.put (fun hz9 => rfl)
  refine lv_aload_n hx hb dJ2_add_10 rfl (lv_at hl 0 rfl) ?_
  refine lv_aload_n hx hb dJ2_add_11 rfl (lv_at hl 1 rfl) ?_
  refine lv_aload_n hx hb dJ2_add_12 rfl (lv_at hl 0 rfl) ?_
  refine g_get (ci := 11) (v := .ref ar) (C := RJ2) (T := TJ2) (N := 3) hx hb hts in_J2 hown hK hW h_3 rfl 1 (by decide) q139 (fun _ h9 => h9) rfl dJ2_add_13 ?_
  refine lv_aload_n hx hb dJ2_add_16 rfl (lv_at hl 0 rfl) ?_
  refine g_get (ci := 11) (v := .int (nI xs.length)) (C := RJ2) (T := TJ2) (N := 3) hx hb hts in_J2 hown hK hW h_3 rfl 2 (by decide) q142 (fun _ h9 => h9) rfl dJ2_add_17 ?_
  have hal2 : g_AL D w_2 a ar xs cap := by
    refine ⟨_, h_3, hlen, hcap, ?_⟩
    rcases hcs with h9 | ⟨h9, f, hf, his⟩
    · exact Or.inl h9
    · exact Or.inr ⟨h9, f, by rw [ew_2]; exact hf.put (g_neAO hf ha), his⟩
  have hob2 : xs.length = cap → ∀ y ∈ xs, g_Ob D w_2 ci y := fun z y hy => by rw [ew_2]; exact (hob z y hy).put ha (fun fs z => h11 (by cases z; rfl))
  have hy2 : g_Ob D w_2 ci y := by rw [ew_2]; exact hy.put ha (fun fs z => h11 (by cases z; rfl))
  refine g_callv (va_runV (As := [.ref y, .ref ar, .int (nI xs.length)]) (rest := []) ⟨hx, hb, hml, hown, hts⟩ (mtJ2_add_2 l D w_2 H.size a ar cap xs hal2 ci N y C T hob2 hy2 hcl hca h11 h6) (cwV 3 hts (lw_V q248 q250 qs1 q37 q251) rfl rfl rfl (by decide +kernel) ⟨Nat.le_of_ble_eq_true rfl, Nat.le_of_ble_eq_true rfl⟩) (g_preV hW hK hE h_3 rfl) rfl rfl hl.1 rfl (lv_room (Nat.le_of_ble_eq_true rfl)) dJ2_add_20 ⟨?_, ?_⟩) hW (fun u1 H locs hp hW => ?_)
  · (try simp only [headSpec]); omega
  · (try simp only [headSpec]); omega
  obtain ⟨ar2, h1, h2, h3⟩ := hp
  refine lv_iconst (v := 1) hx hb dJ2_add_23 (by decide) ?_
  exact g_zret (v := 1) hx hb hr hlocks (by rfl) hW (⟨rfl, ar2, h1, h2.elim Or.inl (fun z => Or.inr (fun q => z (x_4.1 _ q))), (x_4.mono (fun _ _ z => Or.inl z)).tr h3⟩) (by omega) (by omega) dJ2_add_24
set_option maxHeartbeats 4000000 in
set_option maxRecDepth 100000 in
/-- ArrayList.clear: its loop -/
theorem lpJ2_clear {p : Program} {l : Launch} {e : Env} {R : Room} {s : State} {m : MethodId} {args : Array Value} {below : List Frame} {meth : Method} {c : Code} {cells slots : Nat} {Q : State → Prop} {D : va_G} {A : Nat → Prop} {H0 : Heap} (hx : p.tables.exec = Jvm.exec) (hb : c.code = cJ2_clear) (hts : ∀ w ∈ lw_all, w.before args s = true) (hown : s.vm.findClass RJ2 = some m.cls) (hK : va_K D gCl (gT D) s) (w : g_H) (a ar cap n : Nat) (mo : Int32) (hn : n ≤ cap) (hcap : cap < 1000)
    (kk : ∀ (w1 : g_H) (g : Nat → Option Nat) (H : Heap) (locs : List Loc) (ls : Array Slot), g_ex (fun q => q = a ∨ (0 < cap ∧ q = ar)) w w1 → g_at w1 a (.inr (11, [.int (mo), .ref ar, .int (0)])) → g_at w1 ar (.inl (D.1 104, cap, .inr (.inr (.inr (.inr (g)))))) → g_W D A H0 H locs w1 → lv_has ls 4 [(0, .ref a)] → W p l e R s m args below meth c H locs cells slots Q (F0 m 42 ls [])) :
    ∀ (k : Nat) (i : Nat) (w1 : g_H) (g : Nat → Option Nat) (H : Heap) (locs : List Loc) (ls : Array Slot), n < i + k → i ≤ n → g_ex (fun q => q = a ∨ (0 < cap ∧ q = ar)) w w1 → g_at w1 a (.inr (11, [.int (mo), .ref ar, .int (0)])) → g_at w1 ar (.inl (D.1 104, cap, .inr (.inr (.inr (.inr (g)))))) → g_W D A H0 H locs w1 → lv_has ls 4 [(3, .int (nI i)), (2, .int (nI n)), (1, .ref ar), (0, .ref a)] → W p l e R s m args below meth c H locs cells slots Q (F0 m 27 ls []) := by
  intro k
  induction k with
  | zero => intro i w1 g H locs ls hfuel hi hex h1 h2 hW hl; exact absurd hfuel (by omega)
  | succ k ih =>
    intro i w1 g H locs ls hfuel hi hex h1 h2 hW hl
    refine lv_iload_n hx hb dJ2_clear_27 rfl (lv_at hl 0 rfl) ?_
    refine lv_iload_n hx hb dJ2_clear_28 rfl (lv_at hl 1 rfl) ?_
    refine g_icmp_ge (tgt := 42) hx hb (by omega) (by omega) dJ2_clear_29 (by decide) (fun hc => ?_) (fun hc => ?_)
    · exact kk w1 g H locs ls hex h1 h2 hW (lv_sub hl [3] rfl)
    · refine lv_aload_n hx hb dJ2_clear_32 rfl (lv_at hl 2 rfl) ?_
      refine lv_iload_n hx hb dJ2_clear_33 rfl (lv_at hl 0 rfl) ?_
      refine lv_null hx hb dJ2_clear_34 ?_
      refine g_astN (i := i) hx hb hK hW h2 (by omega) (by omega) dJ2_clear_35 (fun H locs hW => ?_)
      obtain ⟨f_1, ef_1⟩ : ∃ z__, z__ = va_up g i none := ⟨_, rfl⟩
      rw [← ef_1] at hW
      obtain ⟨w_2, ew_2⟩ : ∃ z__, z__ = g_put w1 ar (.inl (D.1 104, cap, .inr (.inr (.inr (.inr (f_1)))))) := ⟨_, rfl⟩
      have hW := g_W.ren hW ew_2 rfl
      have h_3 : g_at w_2 a (.inr (11, [.int (mo), .ref ar, .int (0)])) := by rw [ew_2]; exact h1.put (g_neOA h1 h2)
      have h_4 : g_at w_2 ar (.inl (D.1 104, cap, .inr (.inr (.inr (.inr (f_1)))))) := by rw [ew_2]; exact g_at.put_self h2.1
      have x_5 : g_ex (fun q => q = a ∨ (0 < cap ∧ q = ar)) w w_2 := by rw [ew_2]; exact hex.put (fun hz9 => (Or.inr ⟨by omega, rfl⟩))
      refine lv_iinc (v := nI (i + 1)) (lv' := [(3, .int (nI (i + 1))), (2, .int (nI n)), (1, .ref ar), (0, .ref a)]) hx hb dJ2_clear_36 hl (k := 0) rfl (nI_1 i) (by decide) rfl (fun ls hl => ?_)
      refine lv_goto (tgt := 27) hx hb dJ2_clear_39 (by decide) ?_
      exact ih (i + 1) w_2 f_1 H locs ls (by omega) (by omega) x_5 h_3 h_4 hW hl
set_option maxHeartbeats 4000000 in
set_option maxRecDepth 100000 in
/-- ArrayList.clear -/
theorem mtJ2_clear (l : Launch) (D : va_G) (w : g_H) (sz : Nat) (a ar cap : Nat) (xs : List Nat) (hal : g_AL D w a ar xs cap) : Met l yJ2_clear (ws_ yJ2_clear cJ2_clear 4 none) ({ frames := 1, cells := 0, slots := 0, locals := 12 }) (g_Pc D [.ref a] w sz) (g_Qv D w sz (fun u => g_AL D u a ar [] cap ∧ g_ex (fun q => q = a ∨ (0 < cap ∧ q = ar)) w u)) (0) (0) (g_A w sz) := by
  refine Met.ofW (cc := cJ2_clear) (maxL := 4) (ret := none) (by decide) rfl ?_
  intro p e s m args below meth c s₁ B hml hv
  obtain ⟨rfl, hI⟩ := hv
  have hx := B.exec
  have hb := B.bytes
  have hr := B.returns
  have hts := atoms_spec (ws := ws_ yJ2_clear cJ2_clear 4 none) B.pre
  have hts : ∀ w ∈ lw_all, w.before _ s = true := fun w h => hts w (List.mem_cons_of_mem _ h)
  have hown : s.vm.findClass RJ2 = some m.cls := findClass_of_methodNamed B.named
  have hlocks := B.notSynchronized
  have hsz := hI.1
  subst hsz
  have hW := g_W.start hI
  have hK := g_K hI
  have hE := g_E hI
  have hl := lv_entry ([.ref a]) (n := 4) (by exact Nat.le_of_ble_eq_true rfl)
  rw [lg_entry_eq]
  generalize (lg_sl ([.ref a]) ++ List.replicate (4 - (lg_sl ([.ref a])).length) Slot.unset).toArray = ls at hl ⊢
  have hl : lv_has ls 4 [(0, .ref a)] := hl
  obtain ⟨mo, ha, hlen, hcap, hcs⟩ := hal
  rcases hcs with ⟨hc0, har⟩ | ⟨hc0, f, hf, his⟩
  · have e0 : xs.length = 0 := by omega
    have x_1 : g_ex (fun q => q = a ∨ (0 < cap ∧ q = ar)) w w := g_ex.rf
    refine lv_aload_n hx hb dJ2_clear_0 rfl (lv_at hl 0 rfl) ?_
    refine lv_dup hx hb dJ2_clear_1 rfl ?_
    refine g_get (ci := 11) (v := .int (mo)) (C := RJ2) (T := TJ2) (N := 3) hx hb hts in_J2 hown hK hW ha rfl 0 (by decide) q150 (fun x9 h9 => u_same (hts _ q147) x9 h9) rfl dJ2_clear_2 ?_
    refine lv_iconst (v := 1) hx hb dJ2_clear_5 (by decide) ?_
    refine lv_iadd hx hb dJ2_clear_6 ?_
    refine g_putf (ci := 11) (v := .int ((mo) + (1))) (ty := .int) (C := RJ2) (T := TJ2) (N := 3) hx hb hts in_J2 tyJ2 tyJ2_ok nmJ2 hown hK hW ha rfl 0 (by decide) q150 (fun x9 h9 => u_same (hts _ q147) x9 h9) rfl (by decide +kernel) rfl rfl (Nat.le_of_ble_eq_true rfl) dJ2_clear_7 (fun H locs hW => ?_)
    obtain ⟨w_2, ew_2⟩ : ∃ z__, z__ = g_put w a (.inr (11, [.int ((mo) + (1)), .ref ar, .int (nI xs.length)])) := ⟨_, rfl⟩
    have hW := g_W.ren hW ew_2 rfl
    have h_3 : g_at w_2 a (.inr (11, [.int ((mo) + (1)), .ref ar, .int (nI xs.length)])) := by rw [ew_2]; exact g_at.put_self ha.1
    have x_4 : g_ex (fun q => q = a ∨ (0 < cap ∧ q = ar)) w w_2 := by rw [ew_2]; exact x_1.put (fun hz9 => (Or.inl rfl))
    refine lv_aload_n hx hb dJ2_clear_10 rfl (lv_at hl 0 rfl) ?_
    refine g_get (ci := 11) (v := .ref ar) (C := RJ2) (T := TJ2) (N := 3) hx hb hts in_J2 hown hK hW h_3 rfl 1 (by decide) q139 (fun _ h9 => h9) rfl dJ2_clear_11 ?_
    refine lv_astore_n (lv' := [(1, .ref ar), (0, .ref a)]) hx hb dJ2_clear_14 rfl hl (by decide) rfl (fun ls hl => ?_)
    refine lv_aload_n hx hb dJ2_clear_15 rfl (lv_at hl 1 rfl) ?_
    refine g_get (ci := 11) (v := .int (nI xs.length)) (C := RJ2) (T := TJ2) (N := 3) hx hb hts in_J2 hown hK hW h_3 rfl 2 (by decide) q142 (fun _ h9 => h9) rfl dJ2_clear_16 ?_
    refine lv_istore_n (lv' := [(2, .int (nI xs.length)), (1, .ref ar), (0, .ref a)]) hx hb dJ2_clear_19 rfl hl (by decide) rfl (fun ls hl => ?_)
    refine lv_aload_n hx hb dJ2_clear_20 rfl (lv_at hl 2 rfl) ?_
    refine lv_iconst (v := 0) hx hb dJ2_clear_21 (by decide) ?_
    refine lv_dup_x1 hx hb dJ2_clear_22 rfl rfl ?_
    refine g_putf (ci := 11) (v := .int (0)) (ty := .int) (C := RJ2) (T := TJ2) (N := 3) hx hb hts in_J2 tyJ2 tyJ2_ok nmJ2 hown hK hW h_3 rfl 2 (by decide) q142 (fun _ h9 => h9) rfl (by decide +kernel) rfl rfl (Nat.le_of_ble_eq_true rfl) dJ2_clear_23 (fun H locs hW => ?_)
    obtain ⟨w_5, ew_5⟩ : ∃ z__, z__ = g_put w_2 a (.inr (11, [.int ((mo) + (1)), .ref ar, .int (0)])) := ⟨_, rfl⟩
    have hW := g_W.ren hW ew_5 rfl
    have h_6 : g_at w_5 a (.inr (11, [.int ((mo) + (1)), .ref ar, .int (0)])) := by rw [ew_5]; exact g_at.put_self h_3.1
    have x_7 : g_ex (fun q => q = a ∨ (0 < cap ∧ q = ar)) w w_5 := by rw [ew_5]; exact x_4.put (fun hz9 => (Or.inl rfl))
    refine lv_istore_n (lv' := [(3, .int (0)), (2, .int (nI xs.length)), (1, .ref ar), (0, .ref a)]) hx hb dJ2_clear_26 rfl hl (by decide) rfl (fun ls hl => ?_)
    refine lv_iload_n hx hb dJ2_clear_27 rfl (lv_at hl 0 rfl) ?_
    refine lv_iload_n hx hb dJ2_clear_28 rfl (lv_at hl 1 rfl) ?_
    refine g_icmp_ge (x := 0) (tgt := 42) hx hb (by omega) (by omega) dJ2_clear_29 (by decide) (fun hd => ?_) (fun hd => absurd hd (by omega))
    exact g_vret hx hb hr hlocks hW (⟨⟨_, h_6, by simp, hcap, Or.inl ⟨hc0, har⟩⟩, x_7⟩) (by omega) (by omega) dJ2_clear_42
  · have x_8 : g_ex (fun q => q = a ∨ (0 < cap ∧ q = ar)) w w := g_ex.rf
    refine lv_aload_n hx hb dJ2_clear_0 rfl (lv_at hl 0 rfl) ?_
    refine lv_dup hx hb dJ2_clear_1 rfl ?_
    refine g_get (ci := 11) (v := .int (mo)) (C := RJ2) (T := TJ2) (N := 3) hx hb hts in_J2 hown hK hW ha rfl 0 (by decide) q150 (fun x9 h9 => u_same (hts _ q147) x9 h9) rfl dJ2_clear_2 ?_
    refine lv_iconst (v := 1) hx hb dJ2_clear_5 (by decide) ?_
    refine lv_iadd hx hb dJ2_clear_6 ?_
    refine g_putf (ci := 11) (v := .int ((mo) + (1))) (ty := .int) (C := RJ2) (T := TJ2) (N := 3) hx hb hts in_J2 tyJ2 tyJ2_ok nmJ2 hown hK hW ha rfl 0 (by decide) q150 (fun x9 h9 => u_same (hts _ q147) x9 h9) rfl (by decide +kernel) rfl rfl (Nat.le_of_ble_eq_true rfl) dJ2_clear_7 (fun H locs hW => ?_)
    obtain ⟨w_9, ew_9⟩ : ∃ z__, z__ = g_put w a (.inr (11, [.int ((mo) + (1)), .ref ar, .int (nI xs.length)])) := ⟨_, rfl⟩
    have hW := g_W.ren hW ew_9 rfl
    have h_10 : g_at w_9 a (.inr (11, [.int ((mo) + (1)), .ref ar, .int (nI xs.length)])) := by rw [ew_9]; exact g_at.put_self ha.1
    have h_11 : g_at w_9 ar (.inl (D.1 104, cap, .inr (.inr (.inr (.inr (f)))))) := by rw [ew_9]; exact hf.put (g_neAO hf ha)
    have x_12 : g_ex (fun q => q = a ∨ (0 < cap ∧ q = ar)) w w_9 := by rw [ew_9]; exact x_8.put (fun hz9 => (Or.inl rfl))
    refine lv_aload_n hx hb dJ2_clear_10 rfl (lv_at hl 0 rfl) ?_
    refine g_get (ci := 11) (v := .ref ar) (C := RJ2) (T := TJ2) (N := 3) hx hb hts in_J2 hown hK hW h_10 rfl 1 (by decide) q139 (fun _ h9 => h9) rfl dJ2_clear_11 ?_
    refine lv_astore_n (lv' := [(1, .ref ar), (0, .ref a)]) hx hb dJ2_clear_14 rfl hl (by decide) rfl (fun ls hl => ?_)
    refine lv_aload_n hx hb dJ2_clear_15 rfl (lv_at hl 1 rfl) ?_
    refine g_get (ci := 11) (v := .int (nI xs.length)) (C := RJ2) (T := TJ2) (N := 3) hx hb hts in_J2 hown hK hW h_10 rfl 2 (by decide) q142 (fun _ h9 => h9) rfl dJ2_clear_16 ?_
    refine lv_istore_n (lv' := [(2, .int (nI xs.length)), (1, .ref ar), (0, .ref a)]) hx hb dJ2_clear_19 rfl hl (by decide) rfl (fun ls hl => ?_)
    refine lv_aload_n hx hb dJ2_clear_20 rfl (lv_at hl 2 rfl) ?_
    refine lv_iconst (v := 0) hx hb dJ2_clear_21 (by decide) ?_
    refine lv_dup_x1 hx hb dJ2_clear_22 rfl rfl ?_
    refine g_putf (ci := 11) (v := .int (0)) (ty := .int) (C := RJ2) (T := TJ2) (N := 3) hx hb hts in_J2 tyJ2 tyJ2_ok nmJ2 hown hK hW h_10 rfl 2 (by decide) q142 (fun _ h9 => h9) rfl (by decide +kernel) rfl rfl (Nat.le_of_ble_eq_true rfl) dJ2_clear_23 (fun H locs hW => ?_)
    obtain ⟨w_13, ew_13⟩ : ∃ z__, z__ = g_put w_9 a (.inr (11, [.int ((mo) + (1)), .ref ar, .int (0)])) := ⟨_, rfl⟩
    have hW := g_W.ren hW ew_13 rfl
    have h_14 : g_at w_13 a (.inr (11, [.int ((mo) + (1)), .ref ar, .int (0)])) := by rw [ew_13]; exact g_at.put_self h_10.1
    have h_15 : g_at w_13 ar (.inl (D.1 104, cap, .inr (.inr (.inr (.inr (f)))))) := by rw [ew_13]; exact h_11.put (g_neAO h_11 h_10)
    have x_16 : g_ex (fun q => q = a ∨ (0 < cap ∧ q = ar)) w w_13 := by rw [ew_13]; exact x_12.put (fun hz9 => (Or.inl rfl))
    refine lv_istore_n (lv' := [(3, .int (0)), (2, .int (nI xs.length)), (1, .ref ar), (0, .ref a)]) hx hb dJ2_clear_26 rfl hl (by decide) rfl (fun ls hl => ?_)
    refine lpJ2_clear (D := D) hx hb hts hown hK w a ar cap xs.length ((mo) + (1)) hlen hcap (fun w1 g H locs ls hex h1 h2 hW hl => ?_) (xs.length + 1) 0 w_13 f _ _ ls (by omega) (by omega) x_16 h_14 h_15 hW hl
    exact g_vret hx hb hr hlocks hW (⟨⟨_, h1, by simp, hcap, Or.inr ⟨hc0, g, h2, fun j hj => absurd hj (by simp)⟩⟩, hex⟩) (by omega) (by omega) dJ2_clear_42
