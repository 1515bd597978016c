/-! rows for bytes that are copied; StringBuilder: what stands in the world -/
set_option maxRecDepth 100000
def g_fit (n : Nat) (f : Nat → Int32) : Prop := ∀ j, j < n → fits .byte (.int (f j)) = true
theorem c_fit : ∀ c, c < 128 → fits .byte (.int (nI c)) = true := by decide +kernel
theorem g_fit0 {n : Nat} : g_fit n (fun _ => 0) := fun _ _ => c_fit 0 (by decide)
/-- a StringBuilder at b with its bytes at ba (cap of them), holding t; ml: whether it may be all Latin-1 -/
def g_SB (D : va_G) (w : g_H) (b ba : Nat) (ml : Int32) (t : List Nat) (cap : Nat) : Prop := g_at w b (.inr (15, [.ref ba, .int 0, .int ml, .int (nI t.length)])) ∧ (∃ f : Nat → Int32, g_at w ba (.inl (D.1 101, cap, .inl f)) ∧ g_is f t ∧ g_fit cap f) ∧ t.length ≤ cap ∧ cap ≤ 65536 ∧ ∀ c ∈ t, c < 128
theorem g_SB.ex {D : va_G} {M : Nat → Prop} {w w' : g_H} {b ba cap : Nat} {ml : Int32} {t : List Nat} (h : g_SB D w b ba ml t cap) (k : g_ex M w w') (n1 : ¬ M b) (n2 : ¬ M ba) : g_SB D w' b ba ml t cap := by
  obtain ⟨h1, ⟨f, h2, h3⟩, h4⟩ := h
  exact ⟨k.at h1 n1, ⟨f, k.at h2 n2, h3⟩, h4⟩
section GB
variable {p : Program} {l : Launch} {e : Env} {R : Room} {s : State} {m : MethodId} {args : Array Value} {below : List Frame} {meth : Method} {c : Code} {H : Heap} {locs : List Loc} {cells slots : Nat} {Q : State → Prop}
variable {cc : ByteArray} {pc : Nat} {ls : Array Slot} {rest : List Value} {D : va_G} {A : Nat → Prop} {a : Nat} {w : g_H} {H0 : Heap}
/-- System.arraycopy of bytes between two arrays of the world -/
theorem g_copyi (hx : p.tables.exec = Jvm.exec) (hb : c.code = cc) (hml : c.maxLocals = ls.size) {own : String} {index : Nat} (hts : ∀ w ∈ lw_all, w.before args s = true) (hown : s.vm.findClass own = some m.cls) (hlink : Cond.methodLink own index arraycopyName ∈ lw_all) (hK : va_K D gCl (gT D) s) (hW : g_W D A H0 H locs w) {a0 n0 n1 : Nat} {f g : Nat → Int32} (h0 : g_at w a0 (.inl (D.1 101, n0, .inl f))) (h1 : g_at w a (.inl (D.1 101, n1, .inl g))) (sp dp n : Nat) (hn : sp + n ≤ n0) (hn' : dp + n ≤ n1) (hs : n0 < 2 ^ 31) (hs' : n1 < 2 ^ 31) (hf : g_fit n0 f) (hframes : 1 ≤ R.frames) (hlocals : (rest.map fun v => v.category).sum + (nativeFrameWords "java/lang/System" "arraycopy" 5 + 11) ≤ R.locals) (hdg : decode cc pc = .ok (.invokestatic index, 3))
    (kk : ∀ (H1 : Heap) (locs1 : List Loc), g_W D A H0 H1 locs1 (g_put w a (.inl (D.1 101, n1, .inl (va_cpy f g sp dp n)))) → W p l e R s m args below meth c H1 locs1 cells slots Q (F0 m (pc + 3) ls rest)) : W p l e R s m args below meth c H locs cells slots Q (F0 m pc ls (.int (nI n) :: .int (nI dp) :: .ref a :: .int (nI sp) :: .ref a0 :: rest)) := by
  obtain ⟨q0, k0⟩ := hW.get h0
  obtain ⟨q1, k1⟩ := hW.get h1
  have e1 : (nI sp).toNatClampNeg = sp := nI_clamp (by omega)
  have e2 : (nI dp).toNatClampNeg = dp := nI_clamp (by omega)
  have e3 : (nI n).toNatClampNeg = n := nI_clamp (by omega)
  refine va_copyi hx hb hml hown (hts _ hlink) (hts _ q319) (hts _ q318) (hts _ q45) hK hW.1 hW.2.1 hW.2.2.1 q0 q1 1 1 k0 k1 rfl rfl rfl (nI_pos (by omega)) (nI_pos (by omega)) (nI_pos (by omega)) (by rw [e1, e3]; exact hn) (by rw [e2, e3]; exact hn') (fun i hi => by rw [e1]; rw [e3] at hi; exact hf _ (by omega)) hframes hlocals hdg (fun H1 locs1 z1 z2 z3 => kk H1 locs1 ?_)
  rw [e1, e2, e3, g_set hW.2.1 h1 k1] at z1 z2
  exact ⟨z1, z2, z3, hW.2.2.2⟩
/-- System.arraycopy of a String's bytes into an array of the world -/
theorem g_copyB (hx : p.tables.exec = Jvm.exec) (hb : c.code = cc) (hml : c.maxLocals = ls.size) {own : String} {index : Nat} (hts : ∀ w ∈ lw_all, w.before args s = true) (hown : s.vm.findClass own = some m.cls) (hlink : Cond.methodLink own index arraycopyName ∈ lw_all) (hK : va_K D gCl (gT D) s) (hE : g_Env D A s) (hW : g_W D A s.heap H locs w) {v n1 : Nat} {t : List Nat} {g : Nat → Int32} (ht : g_tx t) (h0 : g_by D w v t) (h1 : g_at w a (.inl (D.1 101, n1, .inl g))) (dp : Nat) (hn' : dp + t.length ≤ n1) (hs' : n1 < 2 ^ 31) (hframes : 1 ≤ R.frames) (hlocals : (rest.map fun v => v.category).sum + (nativeFrameWords "java/lang/System" "arraycopy" 5 + 11) ≤ R.locals) (hdg : decode cc pc = .ok (.invokestatic index, 3))
    (kk : ∀ (g' : Nat → Int32) (H1 : Heap) (locs1 : List Loc), (∀ j, g' j = if dp ≤ j ∧ j < dp + t.length then nI (t.getD (j - dp) 0) else g j) → g_W D A s.heap H1 locs1 (g_put w a (.inl (D.1 101, n1, .inl g'))) → W p l e R s m args below meth c H1 locs1 cells slots Q (F0 m (pc + 3) ls rest)) : W p l e R s m args below meth c H locs cells slots Q (F0 m pc ls (.int (nI t.length) :: .int (nI dp) :: .ref a :: .int 0 :: .ref v :: rest)) := by
  have hl1 := ht.1
  have z0 : ∀ {sp : Int32}, sp = 0 → sp.toNatClampNeg = 0 := fun h => by rw [h]; rfl
  rcases h0 with ⟨f, h2, h3⟩ | ⟨i, hi, rfl, h3⟩
  · have hff : g_fit t.length f := fun j hj => by rw [h3 j hj]; exact c_fit _ ht.lt
    refine g_copyi hx hb hml hts hown hlink hK hW h2 h1 0 dp t.length (by omega) hn' (by omega) hs' hff hframes hlocals hdg (fun H1 locs1 hW1 => kk _ H1 locs1 (fun j => ?_) hW1)
    unfold va_cpy
    by_cases q : dp ≤ j ∧ j < dp + t.length
    · rw [if_pos q, if_pos q, Nat.zero_add, h3 _ (by omega)]
    · rw [if_neg q, if_neg q]
  · have hq := (hE.2.2.2.2.2.1.1 i hi).2.2.2
    have e1 : gLen.getD i 0 = t.length := by
      unfold gLen; rw [List.getD_eq_getElem?_getD, List.getElem?_map, h3]; rfl
    have e2 : gByt.getD i [] = t.map (fun (c : Nat) => nI c) := by
      unfold gByt; rw [List.getD_eq_getElem?_getD, List.getElem?_map, h3]; rfl
    rw [e1, e2] at hq
    have e3 : ∀ j, (t.map (fun (c : Nat) => nI c)).getD j 0 = nI (t.getD j 0) := fun j => by
      rw [List.getD_eq_getElem?_getD, List.getElem?_map, List.getD_eq_getElem?_getD]
      cases t[j]? <;> rfl
    obtain ⟨q1, k1⟩ := hW.get h1
    have e4 : (nI dp).toNatClampNeg = dp := nI_clamp (by omega)
    have e5 : (nI t.length).toNatClampNeg = t.length := nI_clamp (by omega)
    refine vk_copyt (f := fun j => (t.map (fun (c : Nat) => nI c)).getD j 0) (sp := 0) hx hb hml hown (hts _ hlink) (hts _ q319) (hts _ q318) (hts _ q45) hK hW.1 hW.2.1 hW.2.2.1 hq q1 1 k1 rfl (by decide) (nI_pos (by omega)) (nI_pos (by omega)) (by rw [e5]; show 0 + _ ≤ _; omega) (by rw [e4, e5]; exact hn') (fun j _ => by rw [e3]; exact c_fit _ ht.lt) hframes hlocals hdg (fun H1 locs1 z1 z2 z3 => kk (va_cpy (fun j => (t.map (fun (c : Nat) => nI c)).getD j 0) g 0 dp t.length) H1 locs1 (fun j => ?_) ?_)
    · unfold va_cpy
      by_cases q : dp ≤ j ∧ j < dp + t.length
      · rw [if_pos q, if_pos q, Nat.zero_add]; exact e3 _
      · rw [if_neg q, if_neg q]
    · have e6 : (0 : Int32).toNatClampNeg = 0 := rfl
      rw [e4, e5, e6, g_set hW.2.1 h1 k1] at z1 z2
      exact ⟨z1, z2, z3, hW.2.2.2⟩
end GB
/-- what ensureCapacityInternal costs and makes: q places wanted, m there -/
def g_cc (q m : Nat) : Nat := if q ≤ m then 0 else 1
def g_cn (q m : Nat) : Nat := if q ≤ m then m else m + max (q - m) (m + 2)
def g_cs (q m : Nat) : Nat := if q ≤ m then 0 else m + max (q - m) (m + 2)
