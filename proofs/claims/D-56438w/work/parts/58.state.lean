/-! the yard's state: what stands at the object and all that it holds. lab labels the places: 1 the yard, 2 program, 3 changes, 4 alternatives, 5 .. 8 the four symbols' texts, 9 machine, 10 covered, 11 kept, 12 queue, 13 findings; cp k: the capacity of part k -/
set_option maxRecDepth 100000
/-- what changes is none of the things that never change: instructions, edits, findings, Strings, bytes -/
def g_mut (D : va_G) (w : g_H) (M : Nat → Prop) : Prop := ∀ q, q ∈ w.1 → M q → (∀ (ci : Nat) (fs : List Value), w.2 q = .inr (ci, fs) → ¬ (3 ≤ ci ∧ ci ≤ 8) ∧ ci ≠ 16) ∧ ∀ y, w.2 q ≠ .inl (D.1 101, y)
theorem g_mut.no {D : va_G} {w : g_H} {M : Nat → Prop} (h : g_mut D w M) {q ci : Nat} {fs : List Value} (hq : g_at w q (.inr (ci, fs))) (hc : (3 ≤ ci ∧ ci ≤ 8) ∨ ci = 16) : ¬ M q := fun z => by
  obtain ⟨h1, -⟩ := h q hq.1 z
  obtain ⟨h2, h3⟩ := h1 ci fs hq.2
  rcases hc with hc | hc
  · exact h2 hc
  · exact h3 hc
theorem g_mut.str {D : va_G} {w w' : g_H} {M : Nat → Prop} {a : Nat} {t : List Nat} (h : g_mut D w M) (hs : g_Str D w a t) (k : g_ex M w w') : g_Str D w' a t := hs.ex k (fun q hq z => ⟨fun vs e => ((h q hq z).1 16 vs e).2 rfl, (h q hq z).2⟩)
theorem g_mut.ins {D : va_G} {w w' : g_H} {M : Nat → Prop} {a : Nat} {i : mI} (h : g_mut D w M) (hs : g_Ins D w a i) (k : g_ex M w w') : g_Ins D w' a i := ⟨k.at hs.1 (h.no hs.1 (Or.inl (by decide))), hs.2⟩
theorem g_mut.ed {D : va_G} {w w' : g_H} {M : Nat → Prop} {a kd pl dg : Nat} (h : g_mut D w M) (hs : g_Ed w a kd pl dg) (k : g_ex M w w') : g_Ed w' a kd pl dg := by
  obtain ⟨h1, h2, q | q | q | q⟩ := hs
  · exact ⟨h1, h2, Or.inl ⟨q.1, k.at q.2 (h.no q.2 (Or.inl (by decide)))⟩⟩
  · exact ⟨h1, h2, Or.inr (Or.inl ⟨q.1, k.at q.2 (h.no q.2 (Or.inl (by decide)))⟩)⟩
  · exact ⟨h1, h2, Or.inr (Or.inr (Or.inl ⟨q.1, k.at q.2 (h.no q.2 (Or.inl (by decide)))⟩))⟩
  · exact ⟨h1, h2, Or.inr (Or.inr (Or.inr ⟨q.1, k.at q.2 (h.no q.2 (Or.inl (by decide)))⟩))⟩
theorem g_mut.mono {D : va_G} {w : g_H} {M N : Nat → Prop} (h : g_mut D w M) (k : ∀ q, q ∈ w.1 → N q → M q) : g_mut D w N := fun q hq z => h q hq (k q hq z)
theorem g_mut.non {D : va_G} {w : g_H} : g_mut D w (fun _ => False) := fun _ _ z => z.elim
theorem g_mut.or {D : va_G} {w : g_H} {M N : Nat → Prop} (h : g_mut D w M) (k : g_mut D w N) : g_mut D w (fun q => M q ∨ N q) := fun q hq z => z.elim (h q hq) (k q hq)
theorem g_mut.obj {D : va_G} {w : g_H} {a ci : Nat} {fs : List Value} (h : g_at w a (.inr (ci, fs))) (hc : ¬ (3 ≤ ci ∧ ci ≤ 8) ∧ ci ≠ 16 := by decide) : g_mut D w (fun q => q = a) := fun q _ z => by
  subst z
  rw [h.2]
  exact ⟨fun cj fs e => by cases e; exact hc, fun y e => by cases e⟩
theorem g_mut.arr {D : va_G} {w : g_H} {a : Nat} {cA : ClassId} {x : vp_A} (h : g_at w a (.inl (cA, x))) (hc : cA ≠ D.1 101) : g_mut D w (fun q => q = a) := fun q _ z => by
  subst z
  rw [h.2]
  exact ⟨(fun cj fs e => by cases e), fun y e => hc (Prod.mk.inj (Sum.inl.inj e)).1⟩
/-- a list of Strings -/
def g_Strs (D : va_G) (w : g_H) (ks : List Nat) (ts : List (List Nat)) : Prop := ks.length = ts.length ∧ ∀ j, j < ts.length → g_Str D w (ks.getD j 0) (ts.getD j [])
theorem g_mut.strs {D : va_G} {w w' : g_H} {M : Nat → Prop} {ks : List Nat} {ts : List (List Nat)} (h : g_mut D w M) (hs : g_Strs D w ks ts) (k : g_ex M w w') : g_Strs D w' ks ts := ⟨hs.1, fun j hj => h.str (hs.2 j hj) k⟩
/-- a list of findings: input, shrunk, code -/
def g_Fins (D : va_G) (w : g_H) (fs : List Nat) (F : List (List Nat × List Nat × Int32)) : Prop := fs.length = F.length ∧ ∀ j, j < F.length → ∃ a b : Nat, g_at w (fs.getD j 0) (.inr (8, [.ref a, .ref b, .int (F.getD j ([], [], 0)).2.2])) ∧ g_Str D w a (F.getD j ([], [], 0)).1 ∧ g_Str D w b (F.getD j ([], [], 0)).2.1
theorem g_mut.fins {D : va_G} {w w' : g_H} {M : Nat → Prop} {fs : List Nat} {F : List (List Nat × List Nat × Int32)} (h : g_mut D w M) (hs : g_Fins D w fs F) (k : g_ex M w w') : g_Fins D w' fs F := ⟨hs.1, fun j hj => by
  obtain ⟨a, b, h1, h2, h3⟩ := hs.2 j hj
  exact ⟨a, b, k.at h1 (h.no h1 (Or.inl (by decide))), h.str h2 k, h.str h3 k⟩⟩
/-- the parts, with their labels -/
def cAL (D : va_G) (w : g_H) (lab : Nat → Nat) (k a : Nat) (xs : List Nat) (cap : Nat) : Prop := ∃ ar, g_AL D w a ar xs cap ∧ lab a = k ∧ (0 < cap → lab ar = k)
def cBS (D : va_G) (w : g_H) (lab : Nat → Nat) (k b : Nat) (E : Nat → Bool) (cap : Nat) : Prop := ∃ wa n, g_BS D w b wa E n cap ∧ lab b = k ∧ lab wa = k
def cMa (D : va_G) (w : g_H) (lab : Nat → Nat) (k m9 x cap : Nat) : Prop := ∃ (ra eb wb : Nat) (vv : Value) (cd : Int32) (st : Nat) (E : Nat → Bool) (n : Nat), g_Ma D w m9 ra eb wb x vv cd st E n cap ∧ lab m9 = k ∧ lab ra = k ∧ lab eb = k ∧ lab wb = k
def cLL (D : va_G) (w : g_H) (lab : Nat → Nat) (k a : Nat) (xs : List Nat) : Prop := ∃ ns, g_LL D w a ns xs ∧ lab a = k ∧ ∀ n ∈ ns, lab n = k
section SK
variable {D : va_G} {w w' : g_H} {M : Nat → Prop} {lab lab' : Nat → Nat} {k : Nat}
theorem cAL.keep {a cap : Nat} {xs : List Nat} (h : cAL D w lab k a xs cap) (q : g_ex M w w') (hl : ∀ z, z ∈ w.1 → lab' z = lab z) (hM : ∀ z, z ∈ w.1 → M z → lab z ≠ k) : cAL D w' lab' k a xs cap := by
  obtain ⟨ar, h1, h2, h3⟩ := h
  obtain ⟨mo, g1, g2, g3, g4⟩ := id h1
  have ha : ¬ M a := fun z => hM a g1.1 z h2
  have hr : 0 < cap → ar ∈ w.1 := fun h0 => by
    rcases g4 with ⟨h9, -⟩ | ⟨-, f, hf, -⟩
    · omega
    · exact hf.1
  exact ⟨ar, h1.ex q ha (fun h0 z => hM ar (hr h0) z (h3 h0)), (hl a g1.1).trans h2, fun h0 => (hl ar (hr h0)).trans (h3 h0)⟩
theorem cBS.keep {b cap : Nat} {E : Nat → Bool} (h : cBS D w lab k b E cap) (q : g_ex M w w') (hl : ∀ z, z ∈ w.1 → lab' z = lab z) (hM : ∀ z, z ∈ w.1 → M z → lab z ≠ k) : cBS D w' lab' k b E cap := by
  obtain ⟨wa, n, h1, h2, h3⟩ := h
  obtain ⟨f, hf, -⟩ := id h1.2.1
  exact ⟨wa, n, h1.ex q (fun z => hM b h1.1.1 z h2) (fun z => hM wa hf.1 z h3), (hl b h1.1.1).trans h2, (hl wa hf.1).trans h3⟩
theorem cMa.keep {m9 x cap : Nat} (h : cMa D w lab k m9 x cap) (q : g_ex M w w') (hl : ∀ z, z ∈ w.1 → lab' z = lab z) (hM : ∀ z, z ∈ w.1 → M z → lab z ≠ k) : cMa D w' lab' k m9 x cap := by
  obtain ⟨ra, eb, wb, vv, cd, st, E, n, h1, h2, h3, h4, h5⟩ := h
  obtain ⟨⟨rd, g1⟩, ⟨f, g2⟩, g3⟩ := id h1
  obtain ⟨fw, g4, -⟩ := id g3.2.1
  exact ⟨ra, eb, wb, vv, cd, st, E, n, h1.ex q (fun z => hM _ g1.1 z h2) (fun z => hM _ g2.1 z h3) (fun z => hM _ g3.1.1 z h4) (fun z => hM _ g4.1 z h5), (hl _ g1.1).trans h2, (hl _ g2.1).trans h3, (hl _ g3.1.1).trans h4, (hl _ g4.1).trans h5⟩
theorem cLL.keep {a : Nat} {xs : List Nat} (h : cLL D w lab k a xs) (q : g_ex M w w') (hl : ∀ z, z ∈ w.1 → lab' z = lab z) (hM : ∀ z, z ∈ w.1 → M z → lab z ≠ k) : cLL D w' lab' k a xs := by
  obtain ⟨ns, h1, h2, h3⟩ := h
  obtain ⟨⟨mo, g1⟩, g2, g3⟩ := id h1
  have hn : ∀ n ∈ ns, n ∈ w.1 := fun n hn => by
    obtain ⟨i, hi, e⟩ := g_of_mem hn
    obtain ⟨pv, hp⟩ := g2.2.1 i hi
    rw [← e]; exact hp.1
  exact ⟨ns, h1.ex q (fun z => hM a g1.1 z h2) (fun y hy z => hM y (hn y hy) z (h3 y hy)), (hl a g1.1).trans h2, fun n hy => (hl n (hn n hy)).trans (h3 n hy)⟩
end SK
def txt (xs : List Nat) : List Nat := xs.map (fun x => 48 + x)
abbrev yC : Type := Nat × Nat × Nat
/-- the yard: P program, C changes, A alternatives, cov covered, K kept, fq how many of them have left the queue, ac the next change, F findings, rn runs, tt total steps -/
def g_SY (D : va_G) (w : g_H) (lab : Nat → Nat) (x : Nat) (P : List mI) (C : List yC) (A : Nat → List (List Nat)) (cov : Nat → Bool) (K : List (List Nat)) (fq ac : Nat) (F : List (List Nat × List Nat × Int32)) (rn tt : Nat) (cp : Nat → Nat) : Prop :=
  ∃ (pg ch al m9 cv kp qu fi : Nat) (ps chs als ks qs fs : List Nat) (ys : Nat → List Nat),
    (g_at w x (.inr (0, [.ref pg, .ref ch, .ref al, .ref m9, .ref cv, .ref kp, .ref qu, .ref fi, .int (nI rn), .long (lN tt), .int (nI ac)])) ∧ lab x = 1) ∧
    (cAL D w lab 2 pg ps (cp 2) ∧ ps.length = P.length ∧ P.length ≤ 16 ∧ ∀ j, j < P.length → g_Ins D w (ps.getD j 0) (P.getD j mI0)) ∧
    (cAL D w lab 3 ch chs (cp 3) ∧ chs.length = C.length ∧ C.length ≤ 8 ∧ ∀ j, j < C.length → g_Ed w (chs.getD j 0) (C.getD j (0, 0, 0)).1 (C.getD j (0, 0, 0)).2.1 (C.getD j (0, 0, 0)).2.2) ∧
    (cAL D w lab 4 al als (cp 4) ∧ als.length = 4 ∧ ∀ j, j < 4 → cAL D w lab (5 + j) (als.getD j 0) (ys j) (cp (5 + j)) ∧ g_Strs D w (ys j) (A j) ∧ (A j).length ≤ 3) ∧
    cMa D w lab 9 m9 x (cp 9) ∧ cBS D w lab 10 cv cov (cp 10) ∧
    (cAL D w lab 11 kp ks (cp 11) ∧ g_Strs D w ks (K.map txt) ∧ ∀ xs ∈ K, sDg xs) ∧
    (cLL D w lab 12 qu qs ∧ g_Strs D w qs ((K.drop fq).map txt) ∧ fq ≤ K.length) ∧
    (cAL D w lab 13 fi fs (cp 13) ∧ g_Fins D w fs F) ∧ (K.length < 500 ∧ F.length < 500 ∧ rn < 100000 ∧ tt < 100000000 ∧ ac ≤ C.length)
/-- the yard behind a change of other places -/
theorem g_SY.keep {D : va_G} {w w' : g_H} {M : Nat → Prop} {lab lab' : Nat → Nat} {x fq ac rn tt : Nat} {P : List mI} {C : List yC} {A : Nat → List (List Nat)} {cov : Nat → Bool} {K : List (List Nat)} {F : List (List Nat × List Nat × Int32)} {cp : Nat → Nat} (h : g_SY D w lab x P C A cov K fq ac F rn tt cp) (q : g_ex M w w') (hm : g_mut D w M) (hl : ∀ z, z ∈ w.1 → lab' z = lab z) (hM : ∀ z, z ∈ w.1 → M z → lab z = 0 ∨ 13 < lab z) : g_SY D w' lab' x P C A cov K fq ac F rn tt cp := by
  obtain ⟨pg, ch, al, m9, cv, kp, qu, fi, ps, chs, als, ks, qs, fs, ys, ⟨h1, h1l⟩, ⟨h2, h2a, h2b, h2c⟩, ⟨h3, h3a, h3b, h3c⟩, ⟨h4, h4a, h4b⟩, h5, h6, ⟨h7, h7a, h7b⟩, ⟨h8, h8a, h8b⟩, ⟨h9, h9a⟩, hb⟩ := h
  have hk : ∀ k : Nat, 1 ≤ k → k ≤ 13 → ∀ z, z ∈ w.1 → M z → lab z ≠ k := fun k k1 k2 z hz hMz e => by have := hM z hz hMz; omega
  exact ⟨pg, ch, al, m9, cv, kp, qu, fi, ps, chs, als, ks, qs, fs, ys, ⟨q.at h1 (fun z => hk 1 (by decide) (by decide) x h1.1 z h1l), (hl x h1.1).trans h1l⟩,
    ⟨h2.keep q hl (hk 2 (by decide) (by decide)), h2a, h2b, fun j hj => hm.ins (h2c j hj) q⟩, ⟨h3.keep q hl (hk 3 (by decide) (by decide)), h3a, h3b, fun j hj => hm.ed (h3c j hj) q⟩,
    ⟨h4.keep q hl (hk 4 (by decide) (by decide)), h4a, fun j hj => ⟨(h4b j hj).1.keep q hl (hk (5 + j) (by omega) (by omega)), hm.strs (h4b j hj).2.1 q, (h4b j hj).2.2⟩⟩,
    h5.keep q hl (hk 9 (by decide) (by decide)), h6.keep q hl (hk 10 (by decide) (by decide)), ⟨h7.keep q hl (hk 11 (by decide) (by decide)), hm.strs h7a q, h7b⟩,
    ⟨h8.keep q hl (hk 12 (by decide) (by decide)), hm.strs h8a q, h8b⟩, ⟨h9.keep q hl (hk 13 (by decide) (by decide)), hm.fins h9a q⟩, hb⟩
