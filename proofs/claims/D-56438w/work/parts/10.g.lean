/-! rows over the ghost heap -/
set_option maxRecDepth 100000
/-- what a method's walk stands on, over the heap H -/
def g_W (D : va_G) (A : Nat → Prop) (H0 H : Heap) (locs : List Loc) (w : g_H) : Prop := va_P D gCl (va_pl w.1 w.2) H ∧ va_D A (va_pl w.1 w.2) ∧ va_S A H0 H locs ∧ ∀ q, H0.size ≤ q → A q
/-- which cells a method may change: the world's, and those that it makes -/
abbrev g_A (w : g_H) (sz : Nat) : Nat → Prop := va_A (va_pl w.1 w.2) sz
theorem g_A.in {w : g_H} {sz a : Nat} (h : a ∈ w.1) : g_A w sz a := Or.inl (by
  obtain ⟨k, hk⟩ := va_pl_get (X := []) (f := w.2) h
  exact ⟨k, w.2 a, hk⟩)
theorem g_W.lt {D : va_G} {A : Nat → Prop} {H0 H : Heap} {locs : List Loc} {w : g_H} (h : g_W D A H0 H locs w) {a : Nat} (ha : a ∈ w.1) : a < H.size := va_pl_lt (X := []) h.1 ha
theorem g_W.get {D : va_G} {A : Nat → Prop} {H0 H : Heap} {locs : List Loc} {w : g_H} (h : g_W D A H0 H locs w) {a : Nat} {e : va_E} (ha : g_at w a e) : ∃ k : Nat, (va_pl w.1 w.2)[k]? = some (a, e) := by
  obtain ⟨k, hk⟩ := va_pl_get (X := []) (f := w.2) ha.1
  exact ⟨k, by rw [← ha.2]; exact hk⟩
theorem g_W.inA {D : va_G} {A : Nat → Prop} {H0 H : Heap} {locs : List Loc} {w : g_H} (h : g_W D A H0 H locs w) {a : Nat} (ha : a ∈ w.1) : A a := by
  obtain ⟨k, hk⟩ := h.get (a := a) (e := w.2 a) ⟨ha, rfl⟩
  exact h.2.1.2 k _ hk
theorem g_W.free {D : va_G} {A : Nat → Prop} {H0 H : Heap} {locs : List Loc} {w : g_H} (h : g_W D A H0 H locs w) : ∀ q, g_A w H.size q → A q := by
  intro q hq
  rcases hq with ⟨k, e, hk⟩ | hq
  · exact h.2.1.2 k _ hk
  · exact h.2.2.2 q (Nat.le_trans h.2.2.1.1 hq)
/-- a method's start -/
def g_In (D : va_G) (w : g_H) (sz : Nat) : State → Prop := fun U => U.heap.size = sz ∧ va_P D gCl (va_pl w.1 w.2) U.heap ∧ va_K D gCl (gT D) U ∧ va_D (fun _ => True) (va_pl w.1 w.2) ∧ g_Env D (g_A w sz) U
abbrev g_Pc (D : va_G) (av : List Value) (w : g_H) (sz : Nat) : Array Value → State → Prop := va_Pc av (g_In D w sz)
/-- a method's end: the world behind it -/
def g_Bo (D : va_G) (w : g_H) (sz : Nat) : g_H → State → Prop := fun u t => va_P D gCl (va_pl u.1 u.2) t.heap ∧ va_D (g_A w sz) (va_pl u.1 u.2)
abbrev g_Qi (D : va_G) (w : g_H) (sz : Nat) (post : Int32 → g_H → Prop) := va_Qi post (g_Bo D w sz) (g_A w sz)
abbrev g_Ql (D : va_G) (w : g_H) (sz : Nat) (post : Int64 → g_H → Prop) := va_Ql post (g_Bo D w sz) (g_A w sz)
abbrev g_Qf (D : va_G) (w : g_H) (sz : Nat) (post : UInt32 → g_H → Prop) := va_Qf post (g_Bo D w sz) (g_A w sz)
abbrev g_Qd (D : va_G) (w : g_H) (sz : Nat) (post : UInt64 → g_H → Prop) := va_Qd post (g_Bo D w sz) (g_A w sz)
abbrev g_Qv (D : va_G) (w : g_H) (sz : Nat) (post : g_H → Prop) := va_Qv post (g_Bo D w sz) (g_A w sz)
abbrev g_Qq (D : va_G) (w : g_H) (sz : Nat) (post : Option Nat → g_H → Prop) := va_Qq post (g_Bo D w sz) (g_A w sz)
theorem g_In.blind {D : va_G} {av : List Value} {w : g_H} {sz : Nat} : FrameBlind (g_Pc D av w sz) := by
  intro a U g mk h
  obtain ⟨h0, h1, h2, h3, h4, h5⟩ := h
  exact ⟨h0, h1, h2, va_K.moved (u := U) (U := U.calling g mk a) (Vm.Alike.refl U.vm) h3, h4, h5.same (U := U.calling g mk a) rfl rfl (Vm.Alike.refl U.vm)⟩
/-- a method's walk begins -/
theorem g_W.start {D : va_G} {w : g_H} {s : State} (h : g_In D w s.heap.size s) : g_W D (g_A w s.heap.size) s.heap s.heap [] w := ⟨h.2.1, h.2.2.2.1.self, va_S.rf, fun _ h => Or.inr h⟩
theorem g_K {D : va_G} {w : g_H} {s : State} {sz : Nat} (h : g_In D w sz s) : va_K D gCl (gT D) s := h.2.2.1
theorem g_E {D : va_G} {w : g_H} {s : State} {sz : Nat} (h : g_In D w sz s) : g_Env D (g_A w sz) s := h.2.2.2.2
theorem g_W.bo {D : va_G} {w0 w : g_H} {s t : State} {H : Heap} {locs : List Loc} (h : g_W D (g_A w0 s.heap.size) s.heap H locs w) (ht : t.heap = H) : g_Bo D w0 s.heap.size w t := ⟨by rw [ht]; exact h.1, h.2.1⟩
section G1
variable {p : Program} {l : Launch} {e : Env} {R : Room} {s : State} {m : MethodId} {args : Array Value} {below : List Frame} {meth : Method} {c : Code} {H : Heap} {locs : List Loc} {cells slots : Nat} {Q : State → Prop}
variable {cc : ByteArray} {pc : Nat} {ls : Array Slot} {rest : List Value} {D : va_G} {A : Nat → Prop} {a : Nat} {w : g_H} {H0 : Heap}
theorem g_pl0 {w : g_H} : ([] : va_W) ++ va_pl w.1 w.2 = va_pl w.1 w.2 := rfl
theorem g_get (hx : p.tables.exec = Jvm.exec) (hb : c.code = cc) {own ref C : String} {T : u_T} {N ci index : Nat} (hts : ∀ w ∈ lw_all, w.before args s = true) (hin : ∀ w ∈ u_ws C T N, w ∈ lw_all) (hown : s.vm.findClass own = some m.cls) (hK : va_K D gCl (gT D) s) (hW : g_W D A H0 H locs w) {fs : List Value} (he : g_at w a (.inr (ci, fs))) (hc : gCl[ci]? = some (C, T, N)) (k : Nat) (hk : k < N) (hlink : Cond.fieldLink own index ref (T k).2.1 (T k).2.2.1 ∈ lw_all) (hsame : ∀ x, s.fieldFound? (T k).1 (T k).2.1 (T k).2.2.1 = some x → s.fieldFound? ref (T k).2.1 (T k).2.2.1 = some x) {v : Value} (hv : fs[k]? = some v) (hdg : decode cc pc = .ok (.getfield index, 3))
    (kk : W p l e R s m args below meth c H locs cells slots Q (F0 m (pc + 3) ls (v :: rest))) : W p l e R s m args below meth c H locs cells slots Q (F0 m pc ls (.ref a :: rest)) := by
  obtain ⟨q0, h0⟩ := hW.get he
  exact va_get hx hb hts hin hown hK hW.1 q0 h0 hc k hk (hts _ hlink) hsame hv hdg kk
theorem g_set {e0 e1 : va_E} {k : Nat} (hD : va_D A (va_pl w.1 w.2)) (he : g_at w a e0) (hk : (va_pl w.1 w.2)[k]? = some (a, e0)) : (va_pl w.1 w.2).set k (a, e1) = va_pl (g_put w a e1).1 (g_put w a e1).2 := by
  have h := va_pl_set (A := A) (X := []) (L := w.1) (f := w.2) (a := a) (k := k) (e := e1) hD he.1 (by rw [he.2]; exact hk)
  exact h
theorem g_putf (hx : p.tables.exec = Jvm.exec) (hb : c.code = cc) {own ref C : String} {T : u_T} {N ci index : Nat} (hts : ∀ w ∈ lw_all, w.before args s = true) (hin : ∀ w ∈ u_ws C T N, w ∈ lw_all) (ty0 : Nat → FieldType) (hty : ∀ k, k < N → parseFieldDescriptor (T k).2.2.1 = some (ty0 k)) (hnm : ∀ a, a < N → ∀ b, b < N → a ≠ b → (T a).2.1 ≠ (T b).2.1) (hown : s.vm.findClass own = some m.cls) (hK : va_K D gCl (gT D) s) (hW : g_W D A H0 H locs w) {fs : List Value} (he : g_at w a (.inr (ci, fs))) (hc : gCl[ci]? = some (C, T, N)) (k : Nat) (hk : k < N) (hlink : Cond.fieldLink own index ref (T k).2.1 (T k).2.2.1 ∈ lw_all) (hsame : ∀ x, s.fieldFound? (T k).1 (T k).2.1 (T k).2.2.1 = some x → s.fieldFound? ref (T k).2.1 (T k).2.2.1 = some x) (hfin : (T k).2.2.2 = false) {ty : FieldType} {v : Value} (hd : parseFieldDescriptor (T k).2.2.1 = some ty) (hn : narrow ty v = v) (hfit : fits ty v = true) (hl : k < fs.length) (hdg : decode cc pc = .ok (.putfield index, 3))
    (kk : ∀ (H1 : Heap) (locs1 : List Loc), g_W D A H0 H1 locs1 (g_put w a (.inr (ci, fs.set k v))) → W p l e R s m args below meth c H1 locs1 cells slots Q (F0 m (pc + 3) ls rest)) : W p l e R s m args below meth c H locs cells slots Q (F0 m pc ls (v :: .ref a :: rest)) := by
  obtain ⟨q0, h0⟩ := hW.get he
  refine va_put hx hb hts hin ty0 hty hnm hown hK hW.1 hW.2.1 hW.2.2.1 q0 h0 hc k hk (hts _ hlink) hsame hfin hd hn hfit hl hdg (fun H1 locs1 h1 h2 h3 => kk H1 locs1 ?_)
  rw [g_set hW.2.1 he h0] at h1 h2
  exact ⟨h1, h2, h3, hW.2.2.2⟩
theorem g_putF (hx : p.tables.exec = Jvm.exec) (hb : c.code = cc) {own ref C : String} {T : u_T} {N ci index : Nat} (hts : ∀ w ∈ lw_all, w.before args s = true) (hin : ∀ w ∈ u_ws C T N, w ∈ lw_all) (ty0 : Nat → FieldType) (hty : ∀ k, k < N → parseFieldDescriptor (T k).2.2.1 = some (ty0 k)) (hnm : ∀ a, a < N → ∀ b, b < N → a ≠ b → (T a).2.1 ≠ (T b).2.1) (hown : s.vm.findClass own = some m.cls) (hK : va_K D gCl (gT D) s) (hW : g_W D A H0 H locs w) {fs : List Value} (he : g_at w a (.inr (ci, fs))) (hc : gCl[ci]? = some (C, T, N)) (k : Nat) (hk : k < N) (hlink : Cond.fieldLink own index ref (T k).2.1 (T k).2.2.1 ∈ lw_all) (hsame : ∀ x, s.fieldFound? (T k).1 (T k).2.1 (T k).2.2.1 = some x → s.fieldFound? ref (T k).2.1 (T k).2.2.1 = some x) (hfin : (T k).2.2.2 = true) (hin2 : meth.name = "<init>") (hdecl : (T k).1 = own) {ty : FieldType} {v : Value} (hd : parseFieldDescriptor (T k).2.2.1 = some ty) (hn : narrow ty v = v) (hfit : fits ty v = true) (hl : k < fs.length) (hdg : decode cc pc = .ok (.putfield index, 3))
    (kk : ∀ (H1 : Heap) (locs1 : List Loc), g_W D A H0 H1 locs1 (g_put w a (.inr (ci, fs.set k v))) → W p l e R s m args below meth c H1 locs1 cells slots Q (F0 m (pc + 3) ls rest)) : W p l e R s m args below meth c H locs cells slots Q (F0 m pc ls (v :: .ref a :: rest)) := by
  obtain ⟨q0, h0⟩ := hW.get he
  refine va_putF hx hb hts hin ty0 hty hnm hown hK hW.1 hW.2.1 hW.2.2.1 q0 h0 hc k hk (hts _ hlink) hsame hfin hin2 hdecl hd hn hfit hl hdg (fun H1 locs1 h1 h2 h3 => kk H1 locs1 ?_)
  rw [g_set hW.2.1 he h0] at h1 h2
  exact ⟨h1, h2, h3, hW.2.2.2⟩
theorem g_ialdI (hx : p.tables.exec = Jvm.exec) (hb : c.code = cc) (hK : va_K D gCl (gT D) s) (hW : g_W D A H0 H locs w) {n : Nat} {f : Nat → Int32} (he : g_at w a (.inl (D.1 100, n, .inl f))) {i : Int32} (hin : vp_in i n) (hdg : decode cc pc = .ok (.iaload, 1))
    (kk : W p l e R s m args below meth c H locs cells slots Q (F0 m (pc + 1) ls (.int (f i.toNatClampNeg) :: rest))) : W p l e R s m args below meth c H locs cells slots Q (F0 m pc ls (.int i :: .ref a :: rest)) := by
  obtain ⟨q0, h0⟩ := hW.get he
  exact va_iald hx hb hK hW.1 q0 0 h0 rfl hin hdg kk
theorem g_iastI (hx : p.tables.exec = Jvm.exec) (hb : c.code = cc) (hK : va_K D gCl (gT D) s) (hW : g_W D A H0 H locs w) {n : Nat} {f : Nat → Int32} (he : g_at w a (.inl (D.1 100, n, .inl f))) {i x : Int32} (hin : vp_in i n) (hdg : decode cc pc = .ok (.iastore, 1))
    (kk : ∀ (H1 : Heap) (locs1 : List Loc), g_W D A H0 H1 locs1 (g_put w a (.inl (D.1 100, n, .inl (upd f i.toNatClampNeg x)))) → W p l e R s m args below meth c H1 locs1 cells slots Q (F0 m (pc + 1) ls rest)) : W p l e R s m args below meth c H locs cells slots Q (F0 m pc ls (.int x :: .int i :: .ref a :: rest)) := by
  obtain ⟨q0, h0⟩ := hW.get he
  refine va_iast hx hb hK hW.1 hW.2.1 hW.2.2.1 q0 0 h0 rfl hin hdg (fun H1 locs1 h1 h2 h3 => kk H1 locs1 ?_)
  rw [g_set hW.2.1 he h0] at h1 h2
  exact ⟨h1, h2, h3, hW.2.2.2⟩
theorem g_bald (hx : p.tables.exec = Jvm.exec) (hb : c.code = cc) (hK : va_K D gCl (gT D) s) (hW : g_W D A H0 H locs w) {n : Nat} {f : Nat → Int32} (he : g_at w a (.inl (D.1 101, n, .inl f))) {i : Int32} (hin : vp_in i n) (hdg : decode cc pc = .ok (.baload, 1))
    (kk : W p l e R s m args below meth c H locs cells slots Q (F0 m (pc + 1) ls (.int (f i.toNatClampNeg) :: rest))) : W p l e R s m args below meth c H locs cells slots Q (F0 m pc ls (.int i :: .ref a :: rest)) := by
  obtain ⟨q0, h0⟩ := hW.get he
  exact va_bald hx hb hK hW.1 q0 1 h0 rfl hin hdg kk
theorem g_zald (hx : p.tables.exec = Jvm.exec) (hb : c.code = cc) (hK : va_K D gCl (gT D) s) (hW : g_W D A H0 H locs w) {n : Nat} {f : Nat → Int32} (he : g_at w a (.inl (D.1 102, n, .inl f))) {i : Int32} (hin : vp_in i n) (hdg : decode cc pc = .ok (.baload, 1))
    (kk : W p l e R s m args below meth c H locs cells slots Q (F0 m (pc + 1) ls (.int (f i.toNatClampNeg) :: rest))) : W p l e R s m args below meth c H locs cells slots Q (F0 m pc ls (.int i :: .ref a :: rest)) := by
  obtain ⟨q0, h0⟩ := hW.get he
  exact va_zald hx hb hK hW.1 q0 2 h0 rfl hin hdg kk
theorem g_lald (hx : p.tables.exec = Jvm.exec) (hb : c.code = cc) (hK : va_K D gCl (gT D) s) (hW : g_W D A H0 H locs w) {n : Nat} {f : Nat → Int64} (he : g_at w a (.inl (D.1 103, n, .inr (.inl f)))) {i : Int32} (hin : vp_in i n) (hdg : decode cc pc = .ok (.laload, 1))
    (kk : W p l e R s m args below meth c H locs cells slots Q (F0 m (pc + 1) ls (.long (f i.toNatClampNeg) :: rest))) : W p l e R s m args below meth c H locs cells slots Q (F0 m pc ls (.int i :: .ref a :: rest)) := by
  obtain ⟨q0, h0⟩ := hW.get he
  exact va_lald hx hb hK hW.1 q0 3 h0 rfl hin hdg kk
theorem g_bast (hx : p.tables.exec = Jvm.exec) (hb : c.code = cc) (hK : va_K D gCl (gT D) s) (hW : g_W D A H0 H locs w) {n : Nat} {f : Nat → Int32} (he : g_at w a (.inl (D.1 101, n, .inl f))) {i : Int32} {x : Int32} (hin : vp_in i n) (hdg : decode cc pc = .ok (.bastore, 1))
    (kk : ∀ (H1 : Heap) (locs1 : List Loc), g_W D A H0 H1 locs1 (g_put w a (.inl (D.1 101, n, .inl (upd f i.toNatClampNeg (vp_nar .byte x))))) → W p l e R s m args below meth c H1 locs1 cells slots Q (F0 m (pc + 1) ls rest)) : W p l e R s m args below meth c H locs cells slots Q (F0 m pc ls (.int x :: .int i :: .ref a :: rest)) := by
  obtain ⟨q0, h0⟩ := hW.get he
  refine va_bast hx hb hK hW.1 hW.2.1 hW.2.2.1 q0 1 h0 rfl hin hdg (fun H1 locs1 h1 h2 h3 => kk H1 locs1 ?_)
  rw [g_set hW.2.1 he h0] at h1 h2
  exact ⟨h1, h2, h3, hW.2.2.2⟩
theorem g_zast (hx : p.tables.exec = Jvm.exec) (hb : c.code = cc) (hK : va_K D gCl (gT D) s) (hW : g_W D A H0 H locs w) {n : Nat} {f : Nat → Int32} (he : g_at w a (.inl (D.1 102, n, .inl f))) {i : Int32} {x : Int32} (hin : vp_in i n) (hdg : decode cc pc = .ok (.bastore, 1))
    (kk : ∀ (H1 : Heap) (locs1 : List Loc), g_W D A H0 H1 locs1 (g_put w a (.inl (D.1 102, n, .inl (upd f i.toNatClampNeg (vp_nar .boolean x))))) → W p l e R s m args below meth c H1 locs1 cells slots Q (F0 m (pc + 1) ls rest)) : W p l e R s m args below meth c H locs cells slots Q (F0 m pc ls (.int x :: .int i :: .ref a :: rest)) := by
  obtain ⟨q0, h0⟩ := hW.get he
  refine va_zast hx hb hK hW.1 hW.2.1 hW.2.2.1 q0 2 h0 rfl hin hdg (fun H1 locs1 h1 h2 h3 => kk H1 locs1 ?_)
  rw [g_set hW.2.1 he h0] at h1 h2
  exact ⟨h1, h2, h3, hW.2.2.2⟩
theorem g_last (hx : p.tables.exec = Jvm.exec) (hb : c.code = cc) (hK : va_K D gCl (gT D) s) (hW : g_W D A H0 H locs w) {n : Nat} {f : Nat → Int64} (he : g_at w a (.inl (D.1 103, n, .inr (.inl f)))) {i : Int32} {x : Int64} (hin : vp_in i n) (hdg : decode cc pc = .ok (.lastore, 1))
    (kk : ∀ (H1 : Heap) (locs1 : List Loc), g_W D A H0 H1 locs1 (g_put w a (.inl (D.1 103, n, .inr (.inl (vp_updL f i.toNatClampNeg x))))) → W p l e R s m args below meth c H1 locs1 cells slots Q (F0 m (pc + 1) ls rest)) : W p l e R s m args below meth c H locs cells slots Q (F0 m pc ls (.long x :: .int i :: .ref a :: rest)) := by
  obtain ⟨q0, h0⟩ := hW.get he
  refine va_last hx hb hK hW.1 hW.2.1 hW.2.2.1 q0 3 h0 rfl hin hdg (fun H1 locs1 h1 h2 h3 => kk H1 locs1 ?_)
  rw [g_set hW.2.1 he h0] at h1 h2
  exact ⟨h1, h2, h3, hW.2.2.2⟩
theorem g_aldO (hx : p.tables.exec = Jvm.exec) (hb : c.code = cc) (hK : va_K D gCl (gT D) s) (hW : g_W D A H0 H locs w) {n : Nat} {f : Nat → Option Nat} (he : g_at w a (.inl (D.1 104, n, .inr (.inr (.inr (.inr f)))))) {i : Int32} (hin : vp_in i n) (hdg : decode cc pc = .ok (.aaload, 1))
    (kk : W p l e R s m args below meth c H locs cells slots Q (F0 m (pc + 1) ls (va_rf (f i.toNatClampNeg) :: rest))) : W p l e R s m args below meth c H locs cells slots Q (F0 m pc ls (.int i :: .ref a :: rest)) := by
  obtain ⟨q0, h0⟩ := hW.get he
  exact va_aldq hx hb hK hW.1 q0 4 h0 rfl hin hdg kk
theorem g_astON (hx : p.tables.exec = Jvm.exec) (hb : c.code = cc) (hK : va_K D gCl (gT D) s) (hW : g_W D A H0 H locs w) {n : Nat} {f : Nat → Option Nat} (he : g_at w a (.inl (D.1 104, n, .inr (.inr (.inr (.inr f)))))) {i : Int32} (hin : vp_in i n) (hdg : decode cc pc = .ok (.aastore, 1))
    (kk : ∀ (H1 : Heap) (locs1 : List Loc), g_W D A H0 H1 locs1 (g_put w a (.inl (D.1 104, n, .inr (.inr (.inr (.inr (va_up f i.toNatClampNeg none))))))) → W p l e R s m args below meth c H1 locs1 cells slots Q (F0 m (pc + 1) ls rest)) : W p l e R s m args below meth c H locs cells slots Q (F0 m pc ls (.null :: .int i :: .ref a :: rest)) := by
  obtain ⟨q0, h0⟩ := hW.get he
  refine va_astqN hx hb hK hW.1 hW.2.1 hW.2.2.1 q0 4 h0 rfl hin hdg (fun H1 locs1 h1 h2 h3 => kk H1 locs1 ?_)
  rw [g_set hW.2.1 he h0] at h1 h2
  exact ⟨h1, h2, h3, hW.2.2.2⟩
theorem g_aldS (hx : p.tables.exec = Jvm.exec) (hb : c.code = cc) (hK : va_K D gCl (gT D) s) (hW : g_W D A H0 H locs w) {n : Nat} {f : Nat → Option Nat} (he : g_at w a (.inl (D.1 105, n, .inr (.inr (.inr (.inr f)))))) {i : Int32} (hin : vp_in i n) (hdg : decode cc pc = .ok (.aaload, 1))
    (kk : W p l e R s m args below meth c H locs cells slots Q (F0 m (pc + 1) ls (va_rf (f i.toNatClampNeg) :: rest))) : W p l e R s m args below meth c H locs cells slots Q (F0 m pc ls (.int i :: .ref a :: rest)) := by
  obtain ⟨q0, h0⟩ := hW.get he
  exact va_aldq hx hb hK hW.1 q0 5 h0 rfl hin hdg kk
theorem g_astSN (hx : p.tables.exec = Jvm.exec) (hb : c.code = cc) (hK : va_K D gCl (gT D) s) (hW : g_W D A H0 H locs w) {n : Nat} {f : Nat → Option Nat} (he : g_at w a (.inl (D.1 105, n, .inr (.inr (.inr (.inr f)))))) {i : Int32} (hin : vp_in i n) (hdg : decode cc pc = .ok (.aastore, 1))
    (kk : ∀ (H1 : Heap) (locs1 : List Loc), g_W D A H0 H1 locs1 (g_put w a (.inl (D.1 105, n, .inr (.inr (.inr (.inr (va_up f i.toNatClampNeg none))))))) → W p l e R s m args below meth c H1 locs1 cells slots Q (F0 m (pc + 1) ls rest)) : W p l e R s m args below meth c H locs cells slots Q (F0 m pc ls (.null :: .int i :: .ref a :: rest)) := by
  obtain ⟨q0, h0⟩ := hW.get he
  refine va_astqN hx hb hK hW.1 hW.2.1 hW.2.2.1 q0 5 h0 rfl hin hdg (fun H1 locs1 h1 h2 h3 => kk H1 locs1 ?_)
  rw [g_set hW.2.1 he h0] at h1 h2
  exact ⟨h1, h2, h3, hW.2.2.2⟩
theorem g_astO (hx : p.tables.exec = Jvm.exec) (hb : c.code = cc) (hK : va_K D gCl (gT D) s) (hW : g_W D A H0 H locs w) {n v ci : Nat} {r : vw_C} {vs : List Value} {f : Nat → Option Nat} (he : g_at w a (.inl (D.1 104, n, .inr (.inr (.inr (.inr f)))))) (hca : va_Nw (.castable r.1 "java/lang/Object") s) (hv : g_at w v (.inr (ci, vs))) (hc : gCl[ci]? = some r) {i : Int32} (hin : vp_in i n) (hdg : decode cc pc = .ok (.aastore, 1))
    (kk : ∀ (H1 : Heap) (locs1 : List Loc), g_W D A H0 H1 locs1 (g_put w a (.inl (D.1 104, n, .inr (.inr (.inr (.inr (va_up f i.toNatClampNeg (some v)))))))) → W p l e R s m args below meth c H1 locs1 cells slots Q (F0 m (pc + 1) ls rest)) : W p l e R s m args below meth c H locs cells slots Q (F0 m pc ls (.ref v :: .int i :: .ref a :: rest)) := by
  obtain ⟨q0, h0⟩ := hW.get he
  obtain ⟨qk, hk⟩ := hW.get hv
  refine va_astqO hx hb hK hW.1 hW.2.1 hW.2.2.1 q0 4 qk ci h0 rfl hca hk hc hin hdg (fun H1 locs1 h1 h2 h3 => kk H1 locs1 ?_)
  rw [g_set hW.2.1 he h0] at h1 h2
  exact ⟨h1, h2, h3, hW.2.2.2⟩
theorem g_astS (hx : p.tables.exec = Jvm.exec) (hb : c.code = cc) (hK : va_K D gCl (gT D) s) (hW : g_W D A H0 H locs w) {n v : Nat} {vs : List Value} {f : Nat → Option Nat} (he : g_at w a (.inl (D.1 105, n, .inr (.inr (.inr (.inr f)))))) (hv : g_at w v (.inr (16, vs))) {i : Int32} (hin : vp_in i n) (hdg : decode cc pc = .ok (.aastore, 1))
    (kk : ∀ (H1 : Heap) (locs1 : List Loc), g_W D A H0 H1 locs1 (g_put w a (.inl (D.1 105, n, .inr (.inr (.inr (.inr (va_up f i.toNatClampNeg (some v)))))))) → W p l e R s m args below meth c H1 locs1 cells slots Q (F0 m (pc + 1) ls rest)) : W p l e R s m args below meth c H locs cells slots Q (F0 m pc ls (.ref v :: .int i :: .ref a :: rest)) := by
  obtain ⟨q0, h0⟩ := hW.get he
  obtain ⟨qk, hk⟩ := hW.get hv
  refine va_astq hx hb hK hW.1 hW.2.1 hW.2.2.1 q0 5 qk 16 (r := (RJ16, TJ16, 4)) h0 rfl hk rfl hin hdg (fun H1 locs1 h1 h2 h3 => kk H1 locs1 ?_)
  rw [g_set hW.2.1 he h0] at h1 h2
  exact ⟨h1, h2, h3, hW.2.2.2⟩
/-- the length of any array of the world -/
theorem g_alen (hx : p.tables.exec = Jvm.exec) (hb : c.code = cc) (hK : va_K D gCl (gT D) s) (hW : g_W D A H0 H locs w) (k : Nat) {x : vp_A} {ty : FieldType} {cA : ClassId} (he : g_at w a (.inl (cA, x))) (ht : (gT D)[k]? = some (cA, ty)) (hdg : decode cc pc = .ok (.arraylength, 1))
    (kk : W p l e R s m args below meth c H locs cells slots Q (F0 m (pc + 1) ls (.int (nI x.1) :: rest))) : W p l e R s m args below meth c H locs cells slots Q (F0 m pc ls (.ref a :: rest)) := by
  obtain ⟨q0, h0⟩ := hW.get he
  exact va_alen (v := nI x.1) hx hb hK hW.1 q0 k h0 ht rfl hdg kk
theorem g_fresh {q : Nat} {e0 : va_E} (hW : g_W D A H0 H locs w) (hD : va_D A (va_pl w.1 w.2 ++ [(q, e0)])) : q ∉ w.1 := by
  intro hq
  obtain ⟨k, hk⟩ := hW.get (a := q) (e := w.2 q) ⟨hq, rfl⟩
  have hl := (List.getElem?_eq_some_iff.mp hk).1
  have h1 : (va_pl w.1 w.2 ++ [(q, e0)])[k]? = some (q, w.2 q) := by rw [List.getElem?_append_left hl]; exact hk
  have h2 : (va_pl w.1 w.2 ++ [(q, e0)])[(va_pl w.1 w.2).length]? = some (q, e0) := by rw [List.getElem?_append_right (Nat.le_refl _), Nat.sub_self]; rfl
  have h3 := hD.1 _ _ _ _ h1 h2 rfl
  omega
theorem g_pushed {q : Nat} {e0 : va_E} {H1 : Heap} (hW : g_W D A H0 H locs w) (hP : va_P D gCl (va_pl w.1 w.2 ++ [(q, e0)]) H1) (hD : va_D A (va_pl w.1 w.2 ++ [(q, e0)])) (hS : va_S A H0 H1 locs) : q ∉ w.1 ∧ g_W D A H0 H1 locs (g_push w q e0) := by
  have hq := g_fresh hW hD
  refine ⟨hq, ?_⟩
  rw [va_pl_push hq] at hP hD
  exact ⟨hP, hD, hS, hW.2.2.2⟩
theorem g_newo (hx : p.tables.exec = Jvm.exec) (hb : c.code = cc) {own C : String} {T : u_T} {N ci index : Nat} (hts : ∀ w ∈ lw_all, w.before args s = true) (hin : ∀ w ∈ u_ws C T N, w ∈ lw_all) (ty : Nat → FieldType) (hty : ∀ k, k < N → parseFieldDescriptor (T k).2.2.1 = some (ty k)) (hown : s.vm.findClass own = some m.cls) (hcl : Cond.classLink own index C ∈ lw_all) (hinst : Cond.instantiable C N ∈ lw_all) (hini : Cond.initialized C ∈ lw_all) (hK : va_K D gCl (gT D) s) (hW : g_W D A H0 H locs w) (hc : gCl[ci]? = some (C, T, N)) (fs : List Value) (hfs : ∀ j, j < N → defaultValue (ty j) = vp_V fs j) (hcells : cells + 1 ≤ R.cells) (hslots : slots + N ≤ R.slots) (hdg : decode cc pc = .ok (.new index, 3))
    (kk : ∀ (q : Nat) (H1 : Heap), q ∉ w.1 → g_W D A H0 H1 locs (g_push w q (.inr (ci, fs))) → W p l e R s m args below meth c H1 locs (cells + 1) (slots + N) Q (F0 m (pc + 3) ls (.ref q :: rest))) : W p l e R s m args below meth c H locs cells slots Q (F0 m pc ls rest) := by
  refine va_new hx hb hts hin ty hty hown (hts _ hcl) (hts _ hinst) (hts _ hini) hK hW.1 hW.2.1 hW.2.2.1 hW.2.2.2 hc hfs hcells hslots hdg (fun q H1 h1 h2 h3 => ?_)
  obtain ⟨hq, hW1⟩ := g_pushed hW h1 h2 h3
  exact kk q H1 hq hW1
/-- an array's class is the one that the world names -/
theorem g_cls {cA cB : ClassId} {ty : FieldType} {tys : List (ClassId × FieldType)} {k : Nat} (hK : va_K D gCl (gT D) s) (hK2 : va_K D gCl (tys ++ [(cA, ty)]) s) (ht : (gT D)[k]? = some (cB, ty)) : cA = cB := by
  have h1 := (hK.2 k _ ht).2
  have h2 := (hK2.2 tys.length (cA, ty) (by rw [List.getElem?_append_right (Nat.le_refl _), Nat.sub_self]; rfl)).2
  cases ty with
  | object C =>
    obtain ⟨_, _, _, _, _, a⟩ := h1
    obtain ⟨_, _, _, _, _, b⟩ := h2
    exact Option.some.inj (b.symm.trans a)
  | _ => exact Option.some.inj (h2.symm.trans h1)
theorem g_newa (hx : p.tables.exec = Jvm.exec) (hb : c.code = cc) {atype : ArrayType} {ty : FieldType} (k : Nat) {cB : ClassId} (hty : newarray.typeOf atype = ty) (harr : (Cond.arrayClass (newarray.typeOf atype)).before args s = true) (hK : va_K D gCl (gT D) s) (hW : g_W D A H0 H locs w) (ht : (gT D)[k]? = some (cB, ty)) {n : Int32} (N' : Nat) (a0 : vp_A) (ha : ∀ cA : ClassId, vp_cell cA a0 = arrV cA N' (fun _ => defaultValue ty)) (hn : ¬ n < 0) (hN : n.toNatClampNeg = N') (hbytes : N' * componentBytes ty ≤ 536870912) (hcells : cells + 1 ≤ R.cells) (hslots : slots + N' ≤ R.slots) (hdg : decode cc pc = .ok (.newarray atype, 2))
    (kk : ∀ (q : Nat) (H1 : Heap), q ∉ w.1 → g_W D A H0 H1 locs (g_push w q (.inl (cB, a0))) → W p l e R s m args below meth c H1 locs (cells + 1) (slots + N') Q (F0 m (pc + 2) ls (.ref q :: rest))) : W p l e R s m args below meth c H locs cells slots Q (F0 m pc ls (.int n :: rest)) := by
  refine va_newa hx hb harr hty hK hW.1 hW.2.1 hW.2.2.1 hW.2.2.2 ha hn hN hbytes hcells hslots hdg (fun q cA H1 hK2 h1 h2 h3 => ?_)
  have hcc := g_cls (k := k) hK hK2 ht
  subst hcc
  obtain ⟨hq, hW1⟩ := g_pushed hW h1 h2 h3
  exact kk q H1 hq hW1
theorem g_newq (hx : p.tables.exec = Jvm.exec) (hb : c.code = cc) {own C : String} {index : Nat} (k : Nat) {cB : ClassId} (hts : ∀ w ∈ lw_all, w.before args s = true) (hown : s.vm.findClass own = some m.cls) (hcl : Cond.classLink own index C ∈ lw_all) (hover : va_AO C s) (hK : va_K D gCl (gT D) s) (hW : g_W D A H0 H locs w) (ht : (gT D)[k]? = some (cB, .object C)) {n : Int32} (N' : Nat) (hn : ¬ n < 0) (hN : n.toNatClampNeg = N') (hbytes : N' * 4 ≤ 536870912) (hcells : cells + 1 ≤ R.cells) (hslots : slots + N' ≤ R.slots) (hdg : decode cc pc = .ok (.anewarray index, 3))
    (kk : ∀ (q : Nat) (H1 : Heap), q ∉ w.1 → g_W D A H0 H1 locs (g_push w q (.inl (cB, N', .inr (.inr (.inr (.inr (fun _ => none))))))) → W p l e R s m args below meth c H1 locs (cells + 1) (slots + N') Q (F0 m (pc + 3) ls (.ref q :: rest))) : W p l e R s m args below meth c H locs cells slots Q (F0 m pc ls (.int n :: rest)) := by
  refine va_newq hx hb hown (hts _ hcl) hover hK hW.1 hW.2.1 hW.2.2.1 hW.2.2.2 hn hN hbytes hcells hslots hdg (fun q cA H1 hK2 h1 h2 h3 => ?_)
  have hcc := g_cls (k := k) hK hK2 ht
  subst hcc
  obtain ⟨hq, hW1⟩ := g_pushed hW h1 h2 h3
  exact kk q H1 hq hW1
/-- what a call asks of the world: through an object -/
theorem g_preV {locs : List Loc} {b ci : Nat} {fs As : List Value} {C : String} {T : u_T} {N : Nat} (hW : g_W D A s.heap H locs w) (hK : va_K D gCl (gT D) s) (hE : g_Env D A s) (hb : g_at w b (.inr (ci, fs))) (hc : gCl[ci]? = some (C, T, N)) : PreV s H C b (g_Pc D (.ref b :: As) w H.size) As := by
  obtain ⟨q0, h0⟩ := hW.get hb
  exact ⟨g_In.blind, va_recv hK hW.1 hc h0, fun U hU hWm => ⟨rfl, by rw [hU], by rw [hU]; exact hW.1, va_K.moved hWm.alike hK, hW.2.1.weaken (fun _ _ _ _ => trivial), hE.call hWm hU hW.2.2.1.2.1 hW.free⟩⟩
theorem g_preS {locs : List Loc} {As : List Value} (hW : g_W D A s.heap H locs w) (hK : va_K D gCl (gT D) s) (hE : g_Env D A s) : PreS s H (g_Pc D As w H.size) As :=
  ⟨g_In.blind, fun U hU hWm => ⟨rfl, by rw [hU], by rw [hU]; exact hW.1, va_K.moved hWm.alike hK, hW.2.1.weaken (fun _ _ _ _ => trivial), hE.call hWm hU hW.2.2.1.2.1 hW.free⟩⟩
theorem g_callv {st0 : List Value} {mc ms : Nat} {a : Array Value} {post : g_H → Prop} (hr : va_Run p l e R s m args below meth c H locs cells slots mc ms (F0 m pc ls st0) rest (g_Qv D w H.size post a) (g_A w H.size)) (hW : g_W D A H0 H locs w)
    (kk : ∀ (u : g_H) (H1 : Heap) (locs1 : List Loc), post u → g_W D A H0 H1 locs1 u → W p l e R s m args below meth c H1 locs1 (cells + mc) (slots + ms) Q (F0 m (pc + 3) ls (rest))) : W p l e R s m args below meth c H locs cells slots Q (F0 m pc ls st0) :=
  va_callv hr hW.2.2.1 (fun q _ h => hW.free q h) hW.free (fun u t H1 locs1 ht _ hp hB _ _ hS => kk u H1 locs1 hp ⟨by rw [← ht]; exact hB.1, hB.2.weaken (fun _ q _ h => hW.free q.1 h), hS, hW.2.2.2⟩)
theorem g_calli {st0 : List Value} {mc ms : Nat} {a : Array Value} {post : Int32 → g_H → Prop} (hr : va_Run p l e R s m args below meth c H locs cells slots mc ms (F0 m pc ls st0) rest (g_Qi D w H.size post a) (g_A w H.size)) (hW : g_W D A H0 H locs w)
    (kk : ∀ (r : Int32) (u : g_H) (H1 : Heap) (locs1 : List Loc), post r u → g_W D A H0 H1 locs1 u → W p l e R s m args below meth c H1 locs1 (cells + mc) (slots + ms) Q (F0 m (pc + 3) ls (.int r :: rest))) : W p l e R s m args below meth c H locs cells slots Q (F0 m pc ls st0) :=
  va_calli hr hW.2.2.1 (fun q _ h => hW.free q h) hW.free (fun r u t H1 locs1 ht _ hp hB _ _ hS => kk r u H1 locs1 hp ⟨by rw [← ht]; exact hB.1, hB.2.weaken (fun _ q _ h => hW.free q.1 h), hS, hW.2.2.2⟩)
theorem g_calll {st0 : List Value} {mc ms : Nat} {a : Array Value} {post : Int64 → g_H → Prop} (hr : va_Run p l e R s m args below meth c H locs cells slots mc ms (F0 m pc ls st0) rest (g_Ql D w H.size post a) (g_A w H.size)) (hW : g_W D A H0 H locs w)
    (kk : ∀ (r : Int64) (u : g_H) (H1 : Heap) (locs1 : List Loc), post r u → g_W D A H0 H1 locs1 u → W p l e R s m args below meth c H1 locs1 (cells + mc) (slots + ms) Q (F0 m (pc + 3) ls (.long r :: rest))) : W p l e R s m args below meth c H locs cells slots Q (F0 m pc ls st0) :=
  va_calll hr hW.2.2.1 (fun q _ h => hW.free q h) hW.free (fun r u t H1 locs1 ht _ hp hB _ _ hS => kk r u H1 locs1 hp ⟨by rw [← ht]; exact hB.1, hB.2.weaken (fun _ q _ h => hW.free q.1 h), hS, hW.2.2.2⟩)
theorem g_callf {st0 : List Value} {mc ms : Nat} {a : Array Value} {post : UInt32 → g_H → Prop} (hr : va_Run p l e R s m args below meth c H locs cells slots mc ms (F0 m pc ls st0) rest (g_Qf D w H.size post a) (g_A w H.size)) (hW : g_W D A H0 H locs w)
    (kk : ∀ (r : UInt32) (u : g_H) (H1 : Heap) (locs1 : List Loc), post r u → g_W D A H0 H1 locs1 u → W p l e R s m args below meth c H1 locs1 (cells + mc) (slots + ms) Q (F0 m (pc + 3) ls (.float r :: rest))) : W p l e R s m args below meth c H locs cells slots Q (F0 m pc ls st0) :=
  va_callf hr hW.2.2.1 (fun q _ h => hW.free q h) hW.free (fun r u t H1 locs1 ht _ hp hB _ _ hS => kk r u H1 locs1 hp ⟨by rw [← ht]; exact hB.1, hB.2.weaken (fun _ q _ h => hW.free q.1 h), hS, hW.2.2.2⟩)
theorem g_calld {st0 : List Value} {mc ms : Nat} {a : Array Value} {post : UInt64 → g_H → Prop} (hr : va_Run p l e R s m args below meth c H locs cells slots mc ms (F0 m pc ls st0) rest (g_Qd D w H.size post a) (g_A w H.size)) (hW : g_W D A H0 H locs w)
    (kk : ∀ (r : UInt64) (u : g_H) (H1 : Heap) (locs1 : List Loc), post r u → g_W D A H0 H1 locs1 u → W p l e R s m args below meth c H1 locs1 (cells + mc) (slots + ms) Q (F0 m (pc + 3) ls (.double r :: rest))) : W p l e R s m args below meth c H locs cells slots Q (F0 m pc ls st0) :=
  va_calld hr hW.2.2.1 (fun q _ h => hW.free q h) hW.free (fun r u t H1 locs1 ht _ hp hB _ _ hS => kk r u H1 locs1 hp ⟨by rw [← ht]; exact hB.1, hB.2.weaken (fun _ q _ h => hW.free q.1 h), hS, hW.2.2.2⟩)
theorem g_callq {st0 : List Value} {mc ms : Nat} {a : Array Value} {post : Option Nat → g_H → Prop} (hr : va_Run p l e R s m args below meth c H locs cells slots mc ms (F0 m pc ls st0) rest (g_Qq D w H.size post a) (g_A w H.size)) (hW : g_W D A H0 H locs w)
    (kk : ∀ (r : Option Nat) (u : g_H) (H1 : Heap) (locs1 : List Loc), post r u → g_W D A H0 H1 locs1 u → W p l e R s m args below meth c H1 locs1 (cells + mc) (slots + ms) Q (F0 m (pc + 3) ls (va_rf r :: rest))) : W p l e R s m args below meth c H locs cells slots Q (F0 m pc ls st0) :=
  va_callq hr hW.2.2.1 (fun q _ h => hW.free q h) hW.free (fun r u t H1 locs1 ht _ hp hB _ _ hS => kk r u H1 locs1 hp ⟨by rw [← ht]; exact hB.1, hB.2.weaken (fun _ q _ h => hW.free q.1 h), hS, hW.2.2.2⟩)
theorem g_vret (hx : p.tables.exec = Jvm.exec) (hb : c.code = cc) (hr : meth.sig.returnType = none) (hlocks : meth.locks = false) {w0 : g_H} {mc ms : Nat} {post : g_H → Prop} (hW : g_W D (g_A w0 s.heap.size) s.heap H locs w) (hp : post w) (hc : cells ≤ mc) (hs : slots ≤ ms) (hdg : decode cc pc = .ok (.return_, 1)) : W p l e R s m args below meth c H locs cells slots (MQ below (g_Qv D w0 s.heap.size post) args s mc ms (g_A w0 s.heap.size)) (F0 m pc ls []) :=
  W.widen hc hs (W.vret hx hb hr (fun t ht _ => ⟨⟨w, rfl, hp, hW.bo ht⟩, hW.2.2.1.F ht⟩) hW.2.2.1.2.2 hdg)
theorem g_iret (hx : p.tables.exec = Jvm.exec) (hb : c.code = cc) (hr : meth.sig.returnType = some .int) (hlocks : meth.locks = false) {v : Int32} {w0 : g_H} {mc ms : Nat} {post : Int32 → g_H → Prop} (hW : g_W D (g_A w0 s.heap.size) s.heap H locs w) (hp : post v w) (hc : cells ≤ mc) (hs : slots ≤ ms) (hdg : decode cc pc = .ok (.ireturn, 1)) : W p l e R s m args below meth c H locs cells slots (MQ below (g_Qi D w0 s.heap.size post) args s mc ms (g_A w0 s.heap.size)) (F0 m pc ls [.int v]) :=
  W.widen hc hs (W.iret hx hb hr (fun t ht _ => ⟨⟨v, w, rfl, hp, hW.bo ht⟩, hW.2.2.1.F ht⟩) hW.2.2.1.2.2 hdg)
theorem g_zret (hx : p.tables.exec = Jvm.exec) (hb : c.code = cc) {ty : FieldType} (hr : meth.sig.returnType = some ty) (hlocks : meth.locks = false) {v : Int32} (hn : narrow ty (.int v) = .int v) {w0 : g_H} {mc ms : Nat} {post : Int32 → g_H → Prop} (hW : g_W D (g_A w0 s.heap.size) s.heap H locs w) (hp : post v w) (hc : cells ≤ mc) (hs : slots ≤ ms) (hdg : decode cc pc = .ok (.ireturn, 1)) : W p l e R s m args below meth c H locs cells slots (MQ below (g_Qi D w0 s.heap.size post) args s mc ms (g_A w0 s.heap.size)) (F0 m pc ls [.int v]) :=
  W.widen hc hs (W.zret hx hb hr hn (fun t ht _ => ⟨⟨v, w, rfl, hp, hW.bo ht⟩, hW.2.2.1.F ht⟩) hW.2.2.1.2.2 hdg)
theorem g_lret (hx : p.tables.exec = Jvm.exec) (hb : c.code = cc) (hr : meth.sig.returnType = some .long) (hlocks : meth.locks = false) {v : Int64} {w0 : g_H} {mc ms : Nat} {post : Int64 → g_H → Prop} (hW : g_W D (g_A w0 s.heap.size) s.heap H locs w) (hp : post v w) (hc : cells ≤ mc) (hs : slots ≤ ms) (hdg : decode cc pc = .ok (.lreturn, 1)) : W p l e R s m args below meth c H locs cells slots (MQ below (g_Ql D w0 s.heap.size post) args s mc ms (g_A w0 s.heap.size)) (F0 m pc ls [.long v]) :=
  W.widen hc hs (W.lret hx hb hr (fun t ht _ => ⟨⟨v, w, rfl, hp, hW.bo ht⟩, hW.2.2.1.F ht⟩) hW.2.2.1.2.2 hdg)
theorem g_qret (hx : p.tables.exec = Jvm.exec) (hb : c.code = cc) {ty : FieldType} (hr : meth.sig.returnType = some ty) (hrt : (∃ n, ty = .object n) ∨ ∃ t, ty = .array t) (hlocks : meth.locks = false) {v : Option Nat} {w0 : g_H} {mc ms : Nat} {post : Option Nat → g_H → Prop} (hW : g_W D (g_A w0 s.heap.size) s.heap H locs w) (hp : post v w) (hc : cells ≤ mc) (hs : slots ≤ ms) (hdg : decode cc pc = .ok (.areturn, 1)) : W p l e R s m args below meth c H locs cells slots (MQ below (g_Qq D w0 s.heap.size post) args s mc ms (g_A w0 s.heap.size)) (F0 m pc ls [va_rf v]) :=
  W.widen hc hs (W.aret hx hb hr hrt (va_rf_or v) (fun t ht _ => ⟨⟨v, w, rfl, hp, hW.bo ht⟩, hW.2.2.1.F ht⟩) hW.2.2.1.2.2 hdg)
end G1
