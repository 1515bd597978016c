/-! STRINGS: a constant of the class files, or a String object of the world; g_Str D w a t: at a stands a String with the signs t (all below 128) -/
set_option maxRecDepth 100000
def g_no : Nat → Prop := fun _ => False
def g_is (f : Nat → Int32) (xs : List Nat) : Prop := ∀ j, j < xs.length → f j = nI (xs.getD j 0)
def g_tx (t : List Nat) : Prop := t.length < 1000 ∧ ∀ c ∈ t, c < 128
/-- an array of bytes that holds t -/
def g_by (D : va_G) (w : g_H) (v : Nat) (t : List Nat) : Prop := (∃ f : Nat → Int32, g_at w v (.inl (D.1 101, t.length, .inl f)) ∧ g_is f t) ∨ ∃ i : Nat, i < 15 ∧ v = D.2 1001 i ∧ gTx[i]? = some t
def g_Str (D : va_G) (w : g_H) (a : Nat) (t : List Nat) : Prop := g_tx t ∧ ((∃ (v : Nat) (h z : Int32) (f : Nat → Int32), g_at w a (.inr (16, [.ref v, .int 0, .int h, .int z])) ∧ g_at w v (.inl (D.1 101, t.length, .inl f)) ∧ g_is f t) ∨ ∃ i : Nat, i < 15 ∧ a = D.2 1000 i ∧ gTx[i]? = some t)
theorem g_tx.lt {t : List Nat} (h : g_tx t) {j : Nat} : t.getD j 0 < 128 := by
  rw [List.getD_eq_getElem?_getD]
  cases q : t[j]? with
  | none => exact Nat.zero_lt_of_lt (show 0 < 128 by decide)
  | some c => exact h.2 c (List.mem_of_getElem? q)
/-- what is read of bytes at the heap H -/
def g_rB (v : Nat) (t : List Nat) (s : State) (H : Heap) : Prop := va_T .byte v t.length (fun j => .int (nI (t.getD j 0))) g_no s H
/-- what is read of a String at the heap H -/
def g_rS (a v : Nat) (t : List Nat) (s : State) (H : Heap) : Prop := va_OF "java/lang/String" "value" "[B" (.ref v) a g_no s H ∧ va_OF "java/lang/String" "coder" "B" (.int 0) a g_no s H ∧ g_rB v t s H ∧ ∃ cell : Cell, H[a]? = some cell ∧ cell.vm.isStatics = false ∧ s.vm.findClass "java/lang/String" = some cell.cls
section GS
variable {p : Program} {l : Launch} {e : Env} {R : Room} {s : State} {m : MethodId} {args : Array Value} {below : List Frame} {meth : Method} {c : Code} {H : Heap} {locs : List Loc} {cells slots : Nat} {Q : State → Prop}
variable {cc : ByteArray} {pc : Nat} {ls : Array Slot} {rest : List Value} {D : va_G} {A : Nat → Prop} {a : Nat} {w : g_H} {H0 : Heap}
/-- a field of an object of the world, as a reading -/
theorem g_OF {C : String} {T : u_T} {N ci : Nat} (hts : ∀ w ∈ lw_all, w.before args s = true) (hin : ∀ w ∈ u_ws C T N, w ∈ lw_all) (hK : va_K D gCl (gT D) s) (hW : g_W D A H0 H locs w) {fs : List Value} (he : g_at w a (.inr (ci, fs))) (hc : gCl[ci]? = some (C, T, N)) (k : Nat) (hk : k < N) {v : Value} (hv : fs[k]? = some v) : va_OF (T k).1 (T k).2.1 (T k).2.2.1 v a g_no s H := by
  obtain ⟨q0, h0⟩ := hW.get he
  obtain ⟨r, h1, cell, q1, q2, q3, q4⟩ := hW.1 q0 _ h0
  have hr : r = (C, T, N) := Option.some.inj (h1.symm.trans hc)
  subst hr
  obtain ⟨hS, hfc, kC, hkC, hkind⟩ := hK.1 ci _ hc
  obtain ⟨cf, kf, fi, f, hi, hsl⟩ := hS k hk
  refine ⟨cf, kf, fi, f, cell, hi, (u_facts hfc hkC (u_lays hts hin hk) hi).1, q1, (by rw [q3]; exact (fun h => by cases h)), ?_, fun z => z⟩
  rw [hsl, q4 k hk]
  simp [vp_V, hv]
theorem g_T {n : Nat} {f : Nat → Int32} {g : Nat → Value} (hK : va_K D gCl (gT D) s) (hW : g_W D A H0 H locs w) (he : g_at w a (.inl (D.1 101, n, .inl f))) (hn : n < 2 ^ 31) (hg : ∀ j, j < n → .int (f j) = g j) : va_T .byte a n g g_no s H := by
  obtain ⟨q0, h0⟩ := hW.get he
  refine ⟨_, hW.1 q0 _ h0, (hK.2 1 _ rfl).1 n (fun j => .int (f j)), (fun q => by cases q), ?_, ?_, fun j hj => ?_, fun z => z⟩
  · show n ≤ (arrV _ _ _).slots.size; rw [arrV_size]; exact Nat.le_refl _
  · show (arrV _ _ _).slots.size.toInt32 = _; first | (rw [arrV_size]; done) | (rw [arrV_size]; rfl)
  · show (arrV _ _ _).slots[_]? = _; rw [arrV_read _ _ hj, hg j hj]
theorem g_by.rd {t : List Nat} {v : Nat} (h : g_by D w v t) (ht : g_tx t) (hK : va_K D gCl (gT D) s) (hE : g_Env D A s) (hW : g_W D A s.heap H locs w) : g_rB v t s H := by
  rcases h with ⟨f, h1, h2⟩ | ⟨i, h1, rfl, h3⟩
  · exact g_T hK hW h1 (Nat.lt_trans ht.1 (by decide)) (fun j hj => by rw [h2 j hj])
  · have hq := ((hE.2.2.2.2.2.1.1 i h1).2.2.2.kept hW.2.2.1.2.1).narrow (B := g_no) (fun _ z => z.elim)
    have e1 : gLen.getD i 0 = t.length := by
      unfold gLen; rw [List.getD_eq_getElem?_getD, List.getElem?_map, h3]; rfl
    have e2 : gByt.getD i [] = t.map (fun (c : Nat) => nI c) := by
      unfold gByt; rw [List.getD_eq_getElem?_getD, List.getElem?_map, h3]; rfl
    rw [e1, e2] at hq
    have e3 : (fun j => Value.int ((t.map (fun (c : Nat) => nI c)).getD j 0)) = (fun j => Value.int (nI (t.getD j 0))) := by
      funext j
      rw [List.getD_eq_getElem?_getD, List.getElem?_map, List.getD_eq_getElem?_getD]
      cases t[j]? <;> rfl
    rw [e3] at hq
    exact hq
theorem g_Str.rd {t : List Nat} (h : g_Str D w a t) (hts : ∀ w ∈ lw_all, w.before args s = true) (hK : va_K D gCl (gT D) s) (hE : g_Env D A s) (hW : g_W D A s.heap H locs w) : ∃ v, g_rS a v t s H ∧ g_by D w v t := by
  obtain ⟨ht, h | ⟨i, h1, rfl, h3⟩⟩ := h
  · obtain ⟨v, hh, z, f, h1, h2, h3⟩ := h
    have hb : g_by D w v t := Or.inl ⟨f, h2, h3⟩
    obtain ⟨q0, h0⟩ := hW.get h1
    exact ⟨v, ⟨g_OF (C := RJ16) (T := TJ16) (N := 4) hts in_J16 hK hW h1 rfl 0 (by decide) rfl, g_OF (C := RJ16) (T := TJ16) (N := 4) hts in_J16 hK hW h1 rfl 1 (by decide) rfl, hb.rd ht hK hE hW, va_recv hK hW.1 (ci := 16) rfl h0⟩, hb⟩
  · have hb : g_by D w (D.2 1001 i) t := Or.inr ⟨i, h1, rfl, h3⟩
    obtain ⟨k1, k2, k3, k4⟩ := hE.2.2.2.2.2.1.1 i h1
    have hk := hW.2.2.1.2.1
    obtain ⟨cell, c1, c2, c3, -⟩ := k1.kept hk
    exact ⟨_, ⟨(k3.kept hk).narrow (fun _ z => z.elim), (k2.kept hk).narrow (fun _ z => z.elim), hb.rd ht hK hE hW, cell, c1, c2, c3⟩, hb⟩
/-- getfield by a reading -/
theorem g_getR (hx : p.tables.exec = Jvm.exec) (hb : c.code = cc) {o n d own ref : String} {index : Nat} {v : Value} (h : va_OF o n d v a g_no s H) (hts : ∀ w ∈ lw_all, w.before args s = true) (hown : s.vm.findClass own = some m.cls) (hlink : Cond.fieldLink own index ref n d ∈ lw_all) (hsame : ∀ x, s.fieldFound? o n d = some x → s.fieldFound? ref n d = some x) (hdg : decode cc pc = .ok (.getfield index, 3))
    (kk : W p l e R s m args below meth c H locs cells slots Q (F0 m (pc + 3) ls (v :: rest))) : W p l e R s m args below meth c H locs cells slots Q (F0 m pc ls (.ref a :: rest)) := by
  obtain ⟨cf, k, i, f, cell, h1, h2, h3, h4, h5, -⟩ := h
  exact W.getf hx hb hown (hts _ hlink) (hsame _ h1) h2 h3 h4 h5 rfl rfl hdg kk
theorem g_lenR (hx : p.tables.exec = Jvm.exec) (hb : c.code = cc) {ty : FieldType} {n : Nat} {f : Nat → Value} (h : va_T ty a n f g_no s H) (hdg : decode cc pc = .ok (.arraylength, 1))
    (kk : W p l e R s m args below meth c H locs cells slots Q (F0 m (pc + 1) ls (.int (nI n) :: rest))) : W p l e R s m args below meth c H locs cells slots Q (F0 m pc ls (.ref a :: rest)) := by
  obtain ⟨cell, h1, h2, h3, h4, h5, h6, -⟩ := h
  exact W.alen (n := nI n) hx hb h1 h2 h5 rfl rfl hdg kk
theorem g_baldR (hx : p.tables.exec = Jvm.exec) (hb : c.code = cc) {n i : Nat} {f : Nat → Value} {v : Value} (h : va_T .byte a n f g_no s H) (hi : i < n) (hn : n < 2 ^ 31) (hv : f i = v) (hdg : decode cc pc = .ok (.baload, 1))
    (kk : W p l e R s m args below meth c H locs cells slots Q (F0 m (pc + 1) ls (v :: rest))) : W p l e R s m args below meth c H locs cells slots Q (F0 m pc ls (.int (nI i) :: .ref a :: rest)) := by
  obtain ⟨cell, h1, h2, h3, h4, h5, h6, -⟩ := h
  have e1 : (nI i).toNatClampNeg = i := nI_clamp (by omega)
  refine W.bald (v := v) hx hb h1 h2 h3 ?_ (by rw [e1, ← hv]; exact h6 i hi) rfl rfl hdg kk
  rw [e1]
  exact fun z => by
    rcases z with z | z
    · exact nI_pos (by omega) z
    · omega
theorem g_preVR {locs : List Loc} {As : List Value} {C : String} (hW : g_W D A s.heap H locs w) (hK : va_K D gCl (gT D) s) (hE : g_Env D A s) (hb : ∃ cell : Cell, H[a]? = some cell ∧ cell.vm.isStatics = false ∧ s.vm.findClass C = some cell.cls) : PreV s H C a (g_Pc D (.ref a :: As) w H.size) As :=
  ⟨g_In.blind, hb, (g_preS (As := .ref a :: As) hW hK hE).2⟩
end GS
theorem c_and : ∀ c, c < 128 → nI c &&& 255 = nI c := by decide +kernel
theorem c_nb : ∀ c, c < 128 → vp_nar .byte (nI c) = nI c := by decide +kernel
/-- a private method, called on an object of a subclass -/
theorem g_selP {C : String} {y : MethodName} {s : State} {args : Array Value} {n : Nat} (hy : y.cls ≠ "java/lang/invoke/MethodHandle" ∧ y.cls ≠ "java/lang/invoke/VarHandle") (hins : (Cond.instantiable C n).before args s = true) (hpriv : (Cond.privateMethod y).before args s = true) (hinst : (Cond.instanceMethod y).before args s = true) {x2 y2 : MethodName} (h2 : (Cond.selects C x2 y2).before args s = true) (hcl : y2.cls = y.cls) : (Cond.selects C y y).before args s = true := by
  obtain ⟨c, k, hc, hk, -, hniab, -, -⟩ := Cond.instantiable_spec hins
  have hni : k.isInterface = false := (Bool.or_eq_false_iff.mp hniab).1
  obtain ⟨mk, methM, hnamed, hmethM, -, -⟩ := Cond.instanceMethod_spec hinst
  have hfound : s.methodFound? y.cls y.name y.desc = some mk := State.methodFound?_of_named hnamed hy
  have hsel : selectMethod {} s.vm c mk = .method mk := selectMethod_private hmethM (Cond.privateMethod_at hpriv mk methM hnamed hmethM)
  obtain ⟨_, _, m2, -, -, hn2, -, mk2, hk2, hi2⟩ := Cond.selects_spec h2
  have e1 : m2.cls = mk.cls := Option.some.inj ((findClass_of_methodNamed hn2).symm.trans (by rw [hcl]; exact findClass_of_methodNamed hnamed))
  rw [e1] at hk2
  simp only [Cond.before, Cond.holds, Cond.value, hc, hfound, hnamed, hsel, hk2]
  simp [hi2]
theorem g_cwP {R : Room} {s : State} {args : Array Value} {own C : String} {index : Nat} {y : MethodName} {bytes : ByteArray} {maxL mc ms : Nat} {ret : Option FieldType} {rm : Room} (n : Nat) (hts : ∀ w ∈ lw_all, w.before args s = true) (hl : Cond.methodLink own index y ∈ lw_all) (hin : Cond.instanceMethod y ∈ lw_all) (hini : Cond.initialized y.cls ∈ lw_all) (hcode : Cond.code y bytes maxL ret ∈ lw_all) (hsel : (Cond.selects C y y).before args s = true) (hrc : rm.cells = mc) (hrs : rm.slots = ms)
    (hd : y.cls ≠ "java/lang/invoke/MethodHandle" ∧ y.cls ≠ "java/lang/invoke/VarHandle" ∧ (parseMethodDescriptor y.desc).map (fun d => d.parameters.length) = some n) (hR : rm.frames + 1 ≤ R.frames ∧ 8 + (maxL + 11) + rm.locals ≤ R.locals) : CallW R s args own C index y bytes maxL ret (ws_ y bytes maxL ret) rm mc ms n :=
  ⟨callB_of n hts (lw_meth hcode) rfl hrc hrs (hts _ hini) (hts _ hl) hd hR, hts _ hin, hsel⟩
