/-! the model's whole state *
-/
set_option maxRecDepth 100000
section GS9
variable {p : Program} {l : Launch} {e : Env} {R : Room} {s : State} {m : MethodId} {args : Array Value} {below : List Frame} {meth : Method} {c : Code} {H : Heap} {locs : List Loc} {cells slots : Nat} {Q : State → Prop}
variable {cc : ByteArray} {pc : Nat} {ls : Array Slot} {rest : List Value} {D : va_G} {A : Nat → Prop} {a : Nat} {w : g_H} {H0 : Heap}
/-- aastore of a String into an array of String -/
theorem g_astSt (hx : p.tables.exec = Jvm.exec) (hb : c.code = cc) (hK : va_K D gCl (gT D) s) (hE : g_Env D A s) (hW : g_W D A s.heap H locs w) {n i y : Nat} {f : Nat → Option Nat} (he : g_at w a (.inl (D.1 105, n, .inr (.inr (.inr (.inr f)))))) (hy : g_Ob D w 16 y) (hi : i < n) (hn : n < 2 ^ 31) (hdg : decode cc pc = .ok (.aastore, 1))
    (kk : ∀ (H1 : Heap) (locs1 : List Loc), g_W D A s.heap H1 locs1 (g_put w a (.inl (D.1 105, n, .inr (.inr (.inr (.inr (va_up f i (some y)))))))) → W p l e R s m args below meth c H1 locs1 cells slots Q (F0 m (pc + 1) ls rest)) : W p l e R s m args below meth c H locs cells slots Q (F0 m pc ls (.ref y :: .int (nI i) :: .ref a :: rest)) := by
  obtain ⟨q0, h0⟩ := hW.get he
  refine vb_astq hx hb hK hW.1 hW.2.1 hW.2.2.1 q0 5 h0 rfl (hy.rd rfl hK hE hW) (fun comp c0 => vb_asgS comp c0) (vp_in_nI hi hn) hdg (fun H1 locs1 h1 h2 h3 => kk H1 locs1 ?_)
  rw [nI_clamp (by omega), g_set hW.2.1 he h0] at h1 h2
  exact ⟨h1, h2, h3, hW.2.2.2⟩
/-- aaload of a String that is known -/
theorem g_aldSt (hx : p.tables.exec = Jvm.exec) (hb : c.code = cc) (hK : va_K D gCl (gT D) s) (hW : g_W D A H0 H locs w) {n i y : Nat} {f : Nat → Option Nat} (he : g_at w a (.inl (D.1 105, n, .inr (.inr (.inr (.inr f)))))) (hi : i < n) (hn : n < 2 ^ 31) (hy : f i = some y) (hdg : decode cc pc = .ok (.aaload, 1))
    (kk : W p l e R s m args below meth c H locs cells slots Q (F0 m (pc + 1) ls (.ref y :: rest))) : W p l e R s m args below meth c H locs cells slots Q (F0 m pc ls (.int (nI i) :: .ref a :: rest)) :=
  g_aldS hx hb hK hW he (vp_in_nI hi hn) hdg (by rw [nI_clamp (by omega), hy]; exact kk)
theorem g_aldSq (hx : p.tables.exec = Jvm.exec) (hb : c.code = cc) (hK : va_K D gCl (gT D) s) (hW : g_W D A H0 H locs w) {n i : Nat} {f : Nat → Option Nat} (he : g_at w a (.inl (D.1 105, n, .inr (.inr (.inr (.inr f)))))) (hi : i < n) (hn : n < 2 ^ 31) (hdg : decode cc pc = .ok (.aaload, 1))
    (kk : W p l e R s m args below meth c H locs cells slots Q (F0 m (pc + 1) ls (va_rf (f i) :: rest))) : W p l e R s m args below meth c H locs cells slots Q (F0 m pc ls (.int (nI i) :: .ref a :: rest)) :=
  g_aldS hx hb hK hW he (vp_in_nI hi hn) hdg (by rw [nI_clamp (by omega)]; exact kk)
end GS9
/-- an array of Strings -/
abbrev mA5 (D : va_G) (w : g_H) (a n : Nat) (f : Nat → Option Nat) : Prop := g_at w a (.inl (D.1 105, n, .inr (.inr (.inr (.inr f)))))
def mCh (D : va_G) (w : g_H) (mf : Nat → Nat) (C : List yC) : Prop := ∃ f5 f6 f7 : Nat → Int32, g_at w (mf 5) (.inl (D.1 100, 8, .inl f5)) ∧ g_at w (mf 6) (.inl (D.1 100, 8, .inl f6)) ∧ g_at w (mf 7) (.inl (D.1 100, 8, .inl f7)) ∧ C.length ≤ 8 ∧ ∀ j, j < C.length → (f5 j = nI (C.getD j (0, 0, 0)).1 ∧ f6 j = nI (C.getD j (0, 0, 0)).2.1 ∧ f7 j = nI (C.getD j (0, 0, 0)).2.2) ∧ (C.getD j (0, 0, 0)).1 < 4 ∧ (C.getD j (0, 0, 0)).2.1 < 8 ∧ (C.getD j (0, 0, 0)).2.2 < 8
def mAl (D : va_G) (w : g_H) (mf : Nat → Nat) (A : Nat → List (List Nat)) : Prop := ∃ (f9 : Nat → Option Nat) (f10 : Nat → Int32), mA5 D w (mf 9) 12 f9 ∧ g_at w (mf 10) (.inl (D.1 100, 4, .inl f10)) ∧ ∀ s, s < 4 → (A s).length ≤ 3 ∧ f10 s = nI (A s).length ∧ ∀ j, j < (A s).length → ∃ st, f9 (3 * s + j) = some st ∧ g_Str D w st ((A s).getD j [])
def mCv (D : va_G) (w : g_H) (mf : Nat → Nat) (cov : Nat → Bool) : Prop := ∃ f : Nat → Int32, g_at w (mf 18) (.inl (D.1 102, 272, .inl f)) ∧ mEg f cov
def mKp (D : va_G) (w : g_H) (a : Nat) (K : List (List Nat)) (cK : Nat) : Prop := ∃ f : Nat → Option Nat, mA5 D w a cK f ∧ K.length ≤ cK ∧ 16 ≤ cK ∧ cK < 2000 ∧ ∀ j, j < K.length → ∃ st, f j = some st ∧ g_Str D w st (txt (K.getD j []))
def mFi (D : va_G) (w : g_H) (mf : Nat → Nat) (F : List yF) : Prop := ∃ (f g : Nat → Option Nat) (h : Nat → Int32), mA5 D w (mf 23) 16 f ∧ mA5 D w (mf 24) 16 g ∧ g_at w (mf 25) (.inl (D.1 100, 16, .inl h)) ∧ F.length ≤ 16 ∧ ∀ j, j < F.length → (∃ st, f j = some st ∧ g_Str D w st (F.getD j ([], [], 0)).1) ∧ (∃ st, g j = some st ∧ g_Str D w st (F.getD j ([], [], 0)).2.1) ∧ h j = (F.getD j ([], [], 0)).2.2
/-- the model: P program, C changes, A alternatives, cov covered, K kept (in a row of cK places), fq the first in the queue, ac the next change, F findings, rn runs, tt total steps; en, td, st, E: what the last run left; th thrown -/
def g_MZ (D : va_G) (w : g_H) (lab : Nat → Nat) (y : Nat) (mf : Nat → Nat) (P : List mI) (C : List yC) (A : Nat → List (List Nat)) (cov : Nat → Bool) (K : List (List Nat)) (fq ac : Nat) (F : List yF) (rn tt cK : Nat) (en td st : Int32) (E : Nat → Bool) (th : Int32) : Prop :=
  g_at w y (.inr (10, mO mf (nI P.length) (nI C.length) en td st (nI rn) (lN tt) (nI K.length) (nI fq) (nI ac) (nI F.length) th)) ∧ (lab y = 20 ∧ mLab lab mf) ∧ mPr D w mf P ∧ mRw D w mf E ∧ mCh D w mf C ∧ mAl D w mf A ∧ mCv D w mf cov ∧ mKp D w (mf 19) K cK ∧ mFi D w mf F ∧ (K.length < 500 ∧ rn < 100000 ∧ tt < 100000000 ∧ fq ≤ K.length ∧ ac ≤ C.length)
section MZ
variable {D : va_G} {w w' : g_H} {M : Nat → Prop} {lab lab' : Nat → Nat} {y fq ac rn tt cK : Nat} {mf : Nat → Nat} {P : List mI} {C : List yC} {A : Nat → List (List Nat)} {cov : Nat → Bool} {K : List (List Nat)} {F : List yF} {en td st th : Int32} {E : Nat → Bool}
theorem mCh.ex (h : mCh D w mf C) (q : g_ex M w w') (n5 : ¬ M (mf 5)) (n6 : ¬ M (mf 6)) (n7 : ¬ M (mf 7)) : mCh D w' mf C := by
  obtain ⟨a, b, c, h1, h2, h3, hr⟩ := h
  exact ⟨a, b, c, q.at h1 n5, q.at h2 n6, q.at h3 n7, hr⟩
theorem mAl.ex (h : mAl D w mf A) (q : g_ex M w w') (hm : g_mut D w M) (n9 : ¬ M (mf 9)) (n10 : ¬ M (mf 10)) : mAl D w' mf A := by
  obtain ⟨f, g, h1, h2, h3⟩ := h
  refine ⟨f, g, q.at h1 n9, q.at h2 n10, fun s hs => ?_⟩
  obtain ⟨k1, k2, k3⟩ := h3 s hs
  exact ⟨k1, k2, fun j hj => by
    obtain ⟨st, e1, e2⟩ := k3 j hj
    exact ⟨st, e1, hm.str e2 q⟩⟩
theorem mCv.ex (h : mCv D w mf cov) (q : g_ex M w w') (n : ¬ M (mf 18)) : mCv D w' mf cov := by
  obtain ⟨f, h1, h2⟩ := h
  exact ⟨f, q.at h1 n, h2⟩
theorem mKp.ex {a : Nat} (h : mKp D w a K cK) (q : g_ex M w w') (hm : g_mut D w M) (n : ¬ M a) : mKp D w' a K cK := by
  obtain ⟨f, h1, h2, h3, h4, h5⟩ := h
  exact ⟨f, q.at h1 n, h2, h3, h4, fun j hj => by
    obtain ⟨st, e1, e2⟩ := h5 j hj
    exact ⟨st, e1, hm.str e2 q⟩⟩
theorem mFi.ex (h : mFi D w mf F) (q : g_ex M w w') (hm : g_mut D w M) (n1 : ¬ M (mf 23)) (n2 : ¬ M (mf 24)) (n3 : ¬ M (mf 25)) : mFi D w' mf F := by
  obtain ⟨f, g, k, h1, h2, h3, h4, h5⟩ := h
  exact ⟨f, g, k, q.at h1 n1, q.at h2 n2, q.at h3 n3, h4, fun j hj => by
    obtain ⟨⟨s1, e1, e2⟩, ⟨s2, e3, e4⟩, e5⟩ := h5 j hj
    exact ⟨⟨s1, e1, hm.str e2 q⟩, ⟨s2, e3, hm.str e4 q⟩, e5⟩⟩
/-- the places of the model stand -/
theorem g_MZ.mem (h : g_MZ D w lab y mf P C A cov K fq ac F rn tt cK en td st E th) : y ∈ w.1 ∧ ∀ k, k ∈ mKs → mf k ∈ w.1 := by
  obtain ⟨h0, -, ⟨f0, f1, f2, f3, a0, a1, a2, a3, -⟩, ⟨fE, g, a14, -, a15⟩, ⟨f5, f6, f7, a5, a6, a7, -⟩, ⟨f9, f10, a9, a10, -⟩, ⟨f18, a18, -⟩, ⟨f19, a19, -⟩, ⟨f23, f24, f25, a23, a24, a25, -⟩, -⟩ := h
  refine ⟨h0.1, fun k hk => ?_⟩
  simp only [mKs, List.mem_cons, List.not_mem_nil, or_false] at hk
  rcases hk with rfl | rfl | rfl | rfl | rfl | rfl | rfl | rfl | rfl | rfl | rfl | rfl | rfl | rfl | rfl | rfl
  · exact a0.1
  · exact a1.1
  · exact a2.1
  · exact a3.1
  · exact a5.1
  · exact a6.1
  · exact a7.1
  · exact a9.1
  · exact a10.1
  · exact a14.1
  · exact a15.1
  · exact a18.1
  · exact a19.1
  · exact a23.1
  · exact a24.1
  · exact a25.1
/-- what a change leaves; T: the labels of what changes -/
theorem g_MZ.parts (h : g_MZ D w lab y mf P C A cov K fq ac F rn tt cK en td st E th) (q : g_ex M w w') (hm : g_mut D w M) (hl : ∀ z, z ∈ w.1 → lab' z = lab z) (T : Nat → Prop) (hM : ∀ z, z ∈ w.1 → M z → T (lab z)) :
    (¬ T 20 → g_at w' y (.inr (10, mO mf (nI P.length) (nI C.length) en td st (nI rn) (lN tt) (nI K.length) (nI fq) (nI ac) (nI F.length) th))) ∧ (lab' y = 20 ∧ mLab lab' mf) ∧ ((¬ T 21 ∧ ¬ T 22 ∧ ¬ T 23 ∧ ¬ T 24) → mPr D w' mf P) ∧ ((¬ T 35 ∧ ¬ T 36) → mRw D w' mf E) ∧ ((¬ T 26 ∧ ¬ T 27 ∧ ¬ T 28) → mCh D w' mf C) ∧ ((¬ T 30 ∧ ¬ T 31) → mAl D w' mf A) ∧ (¬ T 39 → mCv D w' mf cov) ∧ (¬ T 40 → mKp D w' (mf 19) K cK) ∧ ((¬ T 44 ∧ ¬ T 45 ∧ ¬ T 46) → mFi D w' mf F) ∧ (K.length < 500 ∧ rn < 100000 ∧ tt < 100000000 ∧ fq ≤ K.length ∧ ac ≤ C.length) := by
  obtain ⟨my, mk⟩ := h.mem
  obtain ⟨h0, ⟨ly, hL⟩, h1, h2, h3, h4, h5, h6, h7, hb⟩ := h
  have hn : ∀ k, k ∈ mKs → ¬ T (21 + k) → ¬ M (mf k) := fun k hk ht z => ht (by rw [← hL k hk]; exact hM _ (mk k hk) z)
  refine ⟨fun t => q.at h0 (fun z => t (by rw [← ly]; exact hM _ my z)), ⟨(hl _ my).trans ly, fun k hk => (hl _ (mk k hk)).trans (hL k hk)⟩, fun t => h1.ex q (fun k hk => ?_), fun t => h2.ex q (hn 14 (by decide) t.1) (hn 15 (by decide) t.2), fun t => h3.ex q (hn 5 (by decide) t.1) (hn 6 (by decide) t.2.1) (hn 7 (by decide) t.2.2), fun t => h4.ex q hm (hn 9 (by decide) t.1) (hn 10 (by decide) t.2), fun t => h5.ex q (hn 18 (by decide) t), fun t => h6.ex q hm (hn 19 (by decide) t), fun t => h7.ex q hm (hn 23 (by decide) t.1) (hn 24 (by decide) t.2.1) (hn 25 (by decide) t.2.2), hb⟩
  simp only [List.mem_cons, List.not_mem_nil, or_false] at hk
  rcases hk with rfl | rfl | rfl | rfl
  · exact hn 0 (by decide) t.1
  · exact hn 1 (by decide) t.2.1
  · exact hn 2 (by decide) t.2.2.1
  · exact hn 3 (by decide) t.2.2.2
theorem g_MZ.keep (h : g_MZ D w lab y mf P C A cov K fq ac F rn tt cK en td st E th) (q : g_ex M w w') (hm : g_mut D w M) (hl : ∀ z, z ∈ w.1 → lab' z = lab z) (hM : ∀ z, z ∈ w.1 → M z → lab z < 20 ∨ 46 < lab z) : g_MZ D w' lab' y mf P C A cov K fq ac F rn tt cK en td st E th := by
  obtain ⟨h0, hL, h1, h2, h3, h4, h5, h6, h7, hb⟩ := h.parts q hm hl (fun n => n < 20 ∨ 46 < n) hM
  exact ⟨h0 (by decide), hL, h1 (by decide), h2 (by decide), h3 (by decide), h4 (by decide), h5 (by decide), h6 (by decide), h7 (by decide), hb⟩
/-- the object alone -/
theorem g_MZ.obj {en2 td2 st2 th2 : Int32} {rn2 tt2 fq2 ac2 : Nat} (h : g_MZ D w lab y mf P C A cov K fq ac F rn tt cK en td st E th) (hy : g_at w' y (.inr (10, mO mf (nI P.length) (nI C.length) en2 td2 st2 (nI rn2) (lN tt2) (nI K.length) (nI fq2) (nI ac2) (nI F.length) th2))) (q : g_ex (fun q => q = y) w w') (b1 : rn2 < 100000) (b2 : tt2 < 100000000) (b3 : fq2 ≤ K.length) (b4 : ac2 ≤ C.length) : g_MZ D w' lab y mf P C A cov K fq2 ac2 F rn2 tt2 cK en2 td2 st2 E th2 := by
  obtain ⟨-, hL, h1, h2, h3, h4, h5, h6, h7, hb⟩ := h.parts (lab' := lab) q (g_mut.obj h.1) (fun _ _ => rfl) (fun n => n = 20) (fun z _ hz => by rw [hz]; exact h.2.1.1)
  exact ⟨hy, hL, h1 (by decide), h2 (by decide), h3 (by decide), h4 (by decide), h5 (by decide), h6 (by decide), h7 (by decide), hb.1, b1, b2, b3, b4⟩
/-- behind a run -/
theorem g_MZ.run {s : State} (hK : va_K D gCl (gT D) s) {en2 td2 st2 : Int32} {E2 : Nat → Bool} (h : g_MZ D w lab y mf P C A cov K fq ac F rn tt cK en td st E th) (hy : g_at w' y (.inr (10, mO mf (nI P.length) (nI C.length) en2 td2 st2 (nI rn) (lN tt) (nI K.length) (nI fq) (nI ac) (nI F.length) th))) (hR : mRw D w' mf E2) (q : g_ex (fun q => q = y ∨ q = mf 14 ∨ q = mf 15) w w') : g_MZ D w' lab y mf P C A cov K fq ac F rn tt cK en2 td2 st2 E2 th := by
  obtain ⟨fE, g, a14, -, a15⟩ := h.2.2.2.1
  obtain ⟨-, hL, h1, -, h3, h4, h5, h6, h7, hb⟩ := h.parts (lab' := lab) q ((g_mut.obj h.1).or ((g_mut.arr a14 (g_neA hK (i := 2) (j := 1) rfl rfl (fun z => by cases z))).or (g_mut.arr a15 (g_neA hK (i := 0) (j := 1) rfl rfl (fun z => by cases z))))) (fun _ _ => rfl) (fun n => n = 20 ∨ n = 35 ∨ n = 36) (fun z _ hz => by
    rcases hz with hz | hz | hz
    · rw [hz]; exact Or.inl h.2.1.1
    · rw [hz]; exact Or.inr (Or.inl (h.2.1.2 14 (by decide)))
    · rw [hz]; exact Or.inr (Or.inr (h.2.1.2 15 (by decide))))
  exact ⟨hy, hL, h1 (by decide), hR, h3 (by decide), h4 (by decide), h5 (by decide), h6 (by decide), h7 (by decide), hb⟩
end MZ
/-- the places of the model alone have changed, its labels gone on -/
def mM (lab : Nat → Nat) (q : Nat) : Prop := 20 ≤ lab q ∧ lab q ≤ 46
def zCh (w : g_H) (lab : Nat → Nat) (u : g_H) (l2 : Nat → Nat) : Prop := (∀ z, z ∈ w.1 → l2 z = lab z) ∧ g_ex (mM lab) w u
theorem zCh.tr {w u v : g_H} {lab l2 l3 : Nat → Nat} (h : zCh w lab u l2) (k : zCh u l2 v l3) : zCh w lab v l3 :=
  ⟨fun z hz => (k.1 z (h.2.1 z hz)).trans (h.1 z hz), h.2.trM k.2 (fun z hz hM => by unfold mM at *; rw [h.1 z hz] at hM; exact hM)⟩
theorem zCh.rf {w : g_H} {lab : Nat → Nat} : zCh w lab w lab := ⟨fun _ _ => rfl, g_ex.rf⟩
theorem zCh.nw {w u : g_H} {lab : Nat → Nat} (q : g_ex (fun _ => False) w u) (j : Nat) : zCh w lab u (lb lab w j) := ⟨lb_in, q.mono (fun _ _ z => z.elim)⟩
theorem zCh.of {w u : g_H} {lab : Nat → Nat} {M : Nat → Prop} (q : g_ex M w u) (h : ∀ z, z ∈ w.1 → M z → mM lab z) : zCh w lab u lab := ⟨fun _ _ => rfl, q.mono h⟩
theorem g_MZ.zrun {D : va_G} {w u : g_H} {lab : Nat → Nat} {y fq ac rn tt cK : Nat} {mf : Nat → Nat} {P : List mI} {C : List yC} {A : Nat → List (List Nat)} {cov : Nat → Bool} {K : List (List Nat)} {F : List yF} {en td st th : Int32} {E : Nat → Bool} (h : g_MZ D w lab y mf P C A cov K fq ac F rn tt cK en td st E th) (q : g_ex (fun q => q = y ∨ q = mf 14 ∨ q = mf 15) w u) : zCh w lab u lab := zCh.of q (fun z _ hz => by
  unfold mM
  rcases hz with hz | hz | hz
  · rw [hz, h.2.1.1]; omega
  · rw [hz, h.2.1.2 14 (by decide)]; omega
  · rw [hz, h.2.1.2 15 (by decide)]; omega)
theorem g_MZ.zobj {D : va_G} {w u : g_H} {lab : Nat → Nat} {y fq ac rn tt cK : Nat} {mf : Nat → Nat} {P : List mI} {C : List yC} {A : Nat → List (List Nat)} {cov : Nat → Bool} {K : List (List Nat)} {F : List yF} {en td st th : Int32} {E : Nat → Bool} (h : g_MZ D w lab y mf P C A cov K fq ac F rn tt cK en td st E th) (q : g_ex (fun q => q = y) w u) : zCh w lab u lab := zCh.of q (fun z _ hz => by
  unfold mM
  rw [hz, h.2.1.1]; omega)
