/-! rows over natural numbers -/
set_option maxRecDepth 100000
section G2
variable {p : Program} {l : Launch} {e : Env} {R : Room} {s : State} {m : MethodId} {args : Array Value} {below : List Frame} {meth : Method} {c : Code} {H : Heap} {locs : List Loc} {cells slots : Nat} {Q : State → Prop}
variable {cc : ByteArray} {pc : Nat} {ls : Array Slot} {rest : List Value} {D : va_G} {A : Nat → Prop} {a : Nat} {w : g_H} {H0 : Heap}
/-- the top of the stack by another name -/
theorem g_top {v v' : Value} (h : v = v') (k : W p l e R s m args below meth c H locs cells slots Q (F0 m pc ls (v' :: rest))) : W p l e R s m args below meth c H locs cells slots Q (F0 m pc ls (v :: rest)) := by rw [h]; exact k
theorem g_topi {x y : Int32} (h : x = y) (k : W p l e R s m args below meth c H locs cells slots Q (F0 m pc ls (.int y :: rest))) : W p l e R s m args below meth c H locs cells slots Q (F0 m pc ls (.int x :: rest)) := by rw [h]; exact k
/-- two places that hold different things are two -/
theorem g_ne {b : Nat} {x y : va_E} (h : g_at w a x) (k : g_at w b y) (n : x ≠ y) : a ≠ b := fun z => n (h.inj (by rw [z]; exact k))
theorem g_neO {b ci cj : Nat} {fs gs : List Value} (h : g_at w a (.inr (ci, fs))) (k : g_at w b (.inr (cj, gs))) (n : ci ≠ cj) : a ≠ b := g_ne h k (fun z => n (by cases z; rfl))
theorem g_neOA {b ci : Nat} {fs : List Value} {x : ClassId × vp_A} (h : g_at w a (.inr (ci, fs))) (k : g_at w b (.inl x)) : a ≠ b := g_ne h k (fun z => by cases z)
theorem g_neAO {b ci : Nat} {fs : List Value} {x : ClassId × vp_A} (h : g_at w a (.inl x)) (k : g_at w b (.inr (ci, fs))) : a ≠ b := g_ne h k (fun z => by cases z)
theorem g_icmp_ge (hx : p.tables.exec = Jvm.exec) (hb : c.code = cc) {x y : Nat} {off : Int} {tgt : Nat} (h1 : x < 2 ^ 31) (h2 : y < 2 ^ 31) (hdg : decode cc pc = .ok (.if_icmp .ge off, 3)) (ht : (pc : Int) + off = (tgt : Int))
    (kt : y ≤ x → W p l e R s m args below meth c H locs cells slots Q (F0 m tgt ls rest)) (kf : x < y → W p l e R s m args below meth c H locs cells slots Q (F0 m (pc + 3) ls rest)) : W p l e R s m args below meth c H locs cells slots Q (F0 m pc ls (.int (nI y) :: .int (nI x) :: rest)) :=
  lv_icmp_ge hx hb hdg ht (fun h => kt ((nI_leI h2 h1).mp h)) (fun h => kf (Nat.not_le.mp (fun q => h ((nI_leI h2 h1).mpr q))))
theorem g_icmp_le (hx : p.tables.exec = Jvm.exec) (hb : c.code = cc) {x y : Nat} {off : Int} {tgt : Nat} (h1 : x < 2 ^ 31) (h2 : y < 2 ^ 31) (hdg : decode cc pc = .ok (.if_icmp .le off, 3)) (ht : (pc : Int) + off = (tgt : Int))
    (kt : x ≤ y → W p l e R s m args below meth c H locs cells slots Q (F0 m tgt ls rest)) (kf : y < x → W p l e R s m args below meth c H locs cells slots Q (F0 m (pc + 3) ls rest)) : W p l e R s m args below meth c H locs cells slots Q (F0 m pc ls (.int (nI y) :: .int (nI x) :: rest)) :=
  lv_icmp_le hx hb hdg ht (fun h => kt ((nI_leI h1 h2).mp h)) (fun h => kf (Nat.not_le.mp (fun q => h ((nI_leI h1 h2).mpr q))))
theorem g_iald (hx : p.tables.exec = Jvm.exec) (hb : c.code = cc) (hK : va_K D gCl (gT D) s) (hW : g_W D A H0 H locs w) {n i : Nat} {f : Nat → Int32} (he : g_at w a (.inl (D.1 100, n, .inl f))) (hi : i < n) (hn : n < 2 ^ 31) (hdg : decode cc pc = .ok (.iaload, 1))
    (kk : W p l e R s m args below meth c H locs cells slots Q (F0 m (pc + 1) ls (.int (f i) :: rest))) : W p l e R s m args below meth c H locs cells slots Q (F0 m pc ls (.int (nI i) :: .ref a :: rest)) :=
  g_ialdI hx hb hK hW he (vp_in_nI hi hn) hdg (by rw [nI_clamp (by omega)]; exact kk)
theorem g_iast (hx : p.tables.exec = Jvm.exec) (hb : c.code = cc) (hK : va_K D gCl (gT D) s) (hW : g_W D A H0 H locs w) {n i : Nat} {f : Nat → Int32} (he : g_at w a (.inl (D.1 100, n, .inl f))) (hi : i < n) (hn : n < 2 ^ 31) {x : Int32} (hdg : decode cc pc = .ok (.iastore, 1))
    (kk : ∀ (H1 : Heap) (locs1 : List Loc), g_W D A H0 H1 locs1 (g_put w a (.inl (D.1 100, n, .inl (upd f i x)))) → W p l e R s m args below meth c H1 locs1 cells slots Q (F0 m (pc + 1) ls rest)) : W p l e R s m args below meth c H locs cells slots Q (F0 m pc ls (.int x :: .int (nI i) :: .ref a :: rest)) :=
  g_iastI hx hb hK hW he (vp_in_nI hi hn) hdg (by rw [nI_clamp (by omega)]; exact kk)
end G2
theorem g_W.ren {D : va_G} {A : Nat → Prop} {H0 H : Heap} {locs : List Loc} {z z' w2 : g_H} (h : g_W D A H0 H locs z) (e : w2 = z') (hz : z = z') : g_W D A H0 H locs w2 := by rw [e, ← hz]; exact h
theorem nI_m1 {k : Nat} (h : 0 < k) : nI k - 1 = nI (k - 1) := pk_sub (a := k) (b := 1) h
theorem nI_dec (x : Int32) : x + Int32.ofInt (-1) = x - 1 := by
  rw [Int32.sub_eq_add_neg]
  rfl
theorem nI_pneg {k : Nat} (h : k < 2 ^ 31) : (nI k - 1 < 0) ↔ k = 0 := by
  rcases Nat.eq_zero_or_pos k with q | q
  · subst q; exact ⟨fun _ => rfl, fun _ => by decide⟩
  · rw [nI_m1 q]
    exact ⟨fun z => absurd z (nI_pos (by omega)), fun z => by omega⟩
