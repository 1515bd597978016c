/-! the law: class and model in one world; labels kept honest *
-/
set_option maxRecDepth 100000
/-- what never changes -/
def g_im (D : va_G) (w : g_H) (q : Nat) : Prop := ¬ ((∀ (ci : Nat) (fs : List Value), w.2 q = .inr (ci, fs) → ¬ (3 ≤ ci ∧ ci ≤ 8) ∧ ci ≠ 16) ∧ ∀ y, w.2 q ≠ .inl (D.1 101, y))
theorem g_mut.im {D : va_G} {w : g_H} {M : Nat → Prop} (h : g_mut D w M) {q : Nat} (hq : q ∈ w.1) (hM : M q) : ¬ g_im D w q := fun z => z (h q hq hM)
/-- the labels, 0 at what never changes -/
noncomputable def lrl (D : va_G) (w : g_H) (lab : Nat → Nat) : Nat → Nat := fun q => by classical exact if g_im D w q then 0 else lab q
theorem rl_no {D : va_G} {w : g_H} {lab : Nat → Nat} {q : Nat} (h : ¬ g_im D w q) : lrl D w lab q = lab q := by unfold lrl; exact if_neg h
theorem rl_im {D : va_G} {w : g_H} {lab : Nat → Nat} {q : Nat} (h : g_im D w q) : lrl D w lab q = 0 := by unfold lrl; exact if_pos h
/-- the labels of class and model -/
def lM (lab : Nat → Nat) (q : Nat) : Prop := 1 ≤ lab q ∧ lab q ≤ 46
theorem rl_mut {D : va_G} {w : g_H} {lab : Nat → Nat} : g_mut D w (lM (lrl D w lab)) := fun q _ z => by
  by_cases h : g_im D w q
  · unfold lM at z; rw [rl_im h] at z; omega
  · exact Classical.not_not.mp h
section RL
variable {s : State} {D : va_G} {w : g_H} {lab : Nat → Nat} {k : Nat}
theorem cAL.rl (hK : va_K D gCl (gT D) s) {a cap : Nat} {xs : List Nat} (h : cAL D w lab k a xs cap) : cAL D w (lrl D w lab) k a xs cap := by
  obtain ⟨ar, h1, h2, h3⟩ := h
  have hm := h1.mut hK
  obtain ⟨mo, g1, g2, g3, g4⟩ := id h1
  have hr : 0 < cap → ar ∈ w.1 := fun h0 => by
    rcases g4 with ⟨h9, -⟩ | ⟨-, f, hf, -⟩
    · omega
    · exact hf.1
  exact ⟨ar, h1, (rl_no (hm.im g1.1 (Or.inl rfl))).trans h2, fun h0 => (rl_no (hm.im (hr h0) (Or.inr ⟨h0, rfl⟩))).trans (h3 h0)⟩
theorem cBS.rl (hK : va_K D gCl (gT D) s) {b cap : Nat} {E : Nat → Bool} (h : cBS D w lab k b E cap) : cBS D w (lrl D w lab) k b E cap := by
  obtain ⟨wa, n, h1, h2, h3⟩ := h
  have hm := h1.mut hK
  obtain ⟨f, hf, -⟩ := id h1.2.1
  exact ⟨wa, n, h1, (rl_no (hm.im h1.1.1 (Or.inl rfl))).trans h2, (rl_no (hm.im hf.1 (Or.inr rfl))).trans h3⟩
theorem cMa.rl (hK : va_K D gCl (gT D) s) {m9 x cap : Nat} (h : cMa D w lab k m9 x cap) : cMa D w (lrl D w lab) k m9 x cap := by
  obtain ⟨ra, eb, wb, vv, cd, st, E, n, h1, h2, h3, h4, h5⟩ := h
  have hm := h1.mut hK
  obtain ⟨⟨rd, g1⟩, ⟨f, g2⟩, g3⟩ := id h1
  obtain ⟨fw, g4, -⟩ := id g3.2.1
  exact ⟨ra, eb, wb, vv, cd, st, E, n, h1, (rl_no (hm.im g1.1 (Or.inl rfl))).trans h2, (rl_no (hm.im g2.1 (Or.inr (Or.inl rfl)))).trans h3, (rl_no (hm.im g3.1.1 (Or.inr (Or.inr (Or.inl rfl))))).trans h4, (rl_no (hm.im g4.1 (Or.inr (Or.inr (Or.inr rfl))))).trans h5⟩
theorem cLL.rl {a : Nat} {xs : List Nat} (h : cLL D w lab k a xs) : cLL D w (lrl D w lab) k a xs := by
  obtain ⟨ns, h1, h2, h3⟩ := h
  have hm := h1.mut
  obtain ⟨⟨mo, g1⟩, g2, g3⟩ := id h1
  have hn : ∀ n ∈ ns, n ∈ w.1 := fun n hn => by
    obtain ⟨i, hi, e⟩ := g_of_mem hn
    obtain ⟨pv, hp⟩ := g2.2.1 i hi
    rw [← e]; exact hp.1
  exact ⟨ns, h1, (rl_no (hm.im g1.1 (Or.inl rfl))).trans h2, fun n hy => (rl_no (hm.im (hn n hy) (Or.inr hy))).trans (h3 n hy)⟩
theorem g_SZ.rl (hK : va_K D gCl (gT D) s) {x ac rn tt : Nat} {rf : Nat → Nat} {P : List mI} {C : List yC} {A : Nat → List (List Nat)} {cov : Nat → Bool} {K Q : List (List Nat)} {F : List (List Nat × List Nat × Int32)} {cp : Nat → Nat} (h : g_SZ D w lab x rf P C A cov K Q ac F rn tt cp) : g_SZ D w (lrl D w lab) x rf P C A cov K Q ac F rn tt cp := by
  obtain ⟨⟨h1, h1l⟩, ⟨ps, h2, h2r⟩, ⟨chs, h3, h3r⟩, ⟨als, ys, h4, h4a, h4r⟩, h5, h6, ⟨ks, h7, h7r⟩, ⟨qs, h8, h8r⟩, ⟨fs, h9, h9r⟩, hb⟩ := h
  exact ⟨⟨h1, (rl_no ((g_mut.obj h1).im h1.1 rfl)).trans h1l⟩, ⟨ps, h2.rl hK, h2r⟩, ⟨chs, h3.rl hK, h3r⟩, ⟨als, ys, h4.rl hK, h4a, fun j hj => ⟨(h4r j hj).1.rl hK, (h4r j hj).2⟩⟩, h5.rl hK, h6.rl hK, ⟨ks, h7.rl hK, h7r⟩, ⟨qs, h8.rl, h8r⟩, ⟨fs, h9.rl hK, h9r⟩, hb⟩
theorem g_MZ.rl (hK : va_K D gCl (gT D) s) {y fq ac rn tt cK : Nat} {mf : Nat → Nat} {P : List mI} {C : List yC} {A : Nat → List (List Nat)} {cov : Nat → Bool} {K : List (List Nat)} {F : List yF} {en td st th : Int32} {E : Nat → Bool} (h : g_MZ D w lab y mf P C A cov K fq ac F rn tt cK en td st E th) : g_MZ D w (lrl D w lab) y mf P C A cov K fq ac F rn tt cK en td st E th := by
  obtain ⟨h0, ⟨hl0, hL⟩, hr⟩ := id h
  obtain ⟨-, -, ⟨f0, f1, f2, f3, a0, a1, a2, a3, -⟩, ⟨fE, g, a14, -, a15⟩, ⟨f5, f6, f7, a5, a6, a7, -⟩, ⟨f9, f10, a9, a10, -⟩, ⟨f18, a18, -⟩, ⟨f19, a19, -⟩, ⟨f23, f24, f25, a23, a24, a25, -⟩, -⟩ := id h
  have n0 : D.1 100 ≠ D.1 101 := g_neA hK (i := 0) (j := 1) rfl rfl (fun z => by cases z)
  have n2 : D.1 102 ≠ D.1 101 := g_neA hK (i := 2) (j := 1) rfl rfl (fun z => by cases z)
  have n5 : D.1 105 ≠ D.1 101 := g_neA hK (i := 5) (j := 1) rfl rfl (fun z => by cases z)
  have go : ∀ {a : Nat} {cA : ClassId} {x : vp_A}, g_at w a (.inl (cA, x)) → cA ≠ D.1 101 → lrl D w lab a = lab a := fun ha hc => rl_no ((g_mut.arr ha hc).im ha.1 rfl)
  refine ⟨h0, ⟨(rl_no ((g_mut.obj h0).im h0.1 rfl)).trans hl0, fun k hk => ?_⟩, hr⟩
  have hk9 := hL k hk
  simp only [mKs, List.mem_cons, List.not_mem_nil, or_false] at hk
  rcases hk with rfl | rfl | rfl | rfl | rfl | rfl | rfl | rfl | rfl | rfl | rfl | rfl | rfl | rfl | rfl | rfl
  · exact (go a0 n0).trans hk9
  · exact (go a1 n0).trans hk9
  · exact (go a2 n0).trans hk9
  · exact (go a3 n0).trans hk9
  · exact (go a5 n0).trans hk9
  · exact (go a6 n0).trans hk9
  · exact (go a7 n0).trans hk9
  · exact (go a9 n5).trans hk9
  · exact (go a10 n0).trans hk9
  · exact (go a14 n2).trans hk9
  · exact (go a15 n0).trans hk9
  · exact (go a18 n2).trans hk9
  · exact (go a19 n5).trans hk9
  · exact (go a23 n5).trans hk9
  · exact (go a24 n5).trans hk9
  · exact (go a25 n0).trans hk9
end RL
/-- the state of class and model: program, changes, alternatives, covered, kept, first of the queue, next change, findings, runs, steps, capacities, the kept row -/
abbrev yT : Type := (List mI) × (List yC) × (Nat → List (List Nat)) × (Nat → Bool) × (List (List Nat)) × (Nat) × (Nat) × (List yF) × (Nat) × (Nat) × (Nat → Nat) × (Nat)
def yW : Type := yT
def yW.P (z : yW) : List mI := (show yT from z).1
def yW.C (z : yW) : List yC := (show yT from z).2.1
def yW.A (z : yW) : Nat → List (List Nat) := (show yT from z).2.2.1
def yW.cov (z : yW) : Nat → Bool := (show yT from z).2.2.2.1
def yW.K (z : yW) : List (List Nat) := (show yT from z).2.2.2.2.1
def yW.fq (z : yW) : Nat := (show yT from z).2.2.2.2.2.1
def yW.ac (z : yW) : Nat := (show yT from z).2.2.2.2.2.2.1
def yW.F (z : yW) : List yF := (show yT from z).2.2.2.2.2.2.2.1
def yW.rn (z : yW) : Nat := (show yT from z).2.2.2.2.2.2.2.2.1
def yW.tt (z : yW) : Nat := (show yT from z).2.2.2.2.2.2.2.2.2.1
def yW.cp (z : yW) : Nat → Nat := (show yT from z).2.2.2.2.2.2.2.2.2.2.1
def yW.cK (z : yW) : Nat := (show yT from z).2.2.2.2.2.2.2.2.2.2.2
def yW.of (P : List mI) (C : List yC) (A : Nat → List (List Nat)) (cov : Nat → Bool) (K : List (List Nat)) (fq ac : Nat) (F : List yF) (rn tt : Nat) (cp : Nat → Nat) (cK : Nat) : yW := (show yT from (P, C, A, cov, K, fq, ac, F, rn, tt, cp, cK))
/-- class x, model y, the law's record o hold the state z; th: what the model tells as thrown -/
def lR (D : va_G) (w : g_H) (lab : Nat → Nat) (x y o : Nat) (z : yW) (th : Int32) : Prop :=
  (∃ rf, g_SZ D w lab x rf z.P z.C z.A z.cov z.K (z.K.drop z.fq) z.ac z.F z.rn z.tt z.cp) ∧ (∃ mf en td st E, g_MZ D w lab y mf z.P z.C z.A z.cov z.K z.fq z.ac z.F z.rn z.tt z.cK en td st E th) ∧ (∃ n d sv vv fv, g_at w o (oOut n d sv vv fv)) ∧ lab o = 50 ∧ g_mut D w (lM lab)
section LR
variable {s : State} {D : va_G} {w u : g_H} {lab l2 : Nat → Nat} {x y o : Nat}
theorem yM_lM (h : g_mut D w (lM lab)) : g_mut D w (yM lab) := h.mono (fun q _ z => by unfold yM at z; unfold lM; omega)
theorem mM_lM (h : g_mut D w (lM lab)) : g_mut D w (mM lab) := h.mono (fun q _ z => by unfold mM at z; unfold lM; omega)
/-- the model behind a call of the class -/
theorem l_cls {fq ac rn tt cK : Nat} {mf : Nat → Nat} {P : List mI} {C : List yC} {A : Nat → List (List Nat)} {cov : Nat → Bool} {K : List (List Nat)} {F : List yF} {en td st th : Int32} {E : Nat → Bool} (h : g_MZ D w lab y mf P C A cov K fq ac F rn tt cK en td st E th) (hm : g_mut D w (lM lab)) (hy : yCh w lab u l2) : g_MZ D u l2 y mf P C A cov K fq ac F rn tt cK en td st E th :=
  h.keep hy.2 (yM_lM hm) hy.1 (fun z _ hz => by unfold yM at hz; omega)
/-- the class behind a call of the model -/
theorem l_mod {ac rn tt : Nat} {rf : Nat → Nat} {P : List mI} {C : List yC} {A : Nat → List (List Nat)} {cov : Nat → Bool} {K Q : List (List Nat)} {F : List yF} {cp : Nat → Nat} (h : g_SZ D w lab x rf P C A cov K Q ac F rn tt cp) (hm : g_mut D w (lM lab)) (hy : zCh w lab u l2) : g_SZ D u l2 x rf P C A cov K Q ac F rn tt cp :=
  h.keep hy.2 (mM_lM hm) hy.1 (fun z _ hz => by unfold mM at hz; omega)
theorem l_oC {e : va_E} (h : g_at w o e) (ho : lab o = 50) (hy : yCh w lab u l2) : g_at u o e ∧ l2 o = 50 := ⟨hy.2.at h (fun z => by unfold yM at z; omega), (hy.1 o h.1).trans ho⟩
theorem l_oM {e : va_E} (h : g_at w o e) (ho : lab o = 50) (hy : zCh w lab u l2) : g_at u o e ∧ l2 o = 50 := ⟨hy.2.at h (fun z => by unfold mM at z; omega), (hy.1 o h.1).trans ho⟩
theorem l_rl {n : Int64} {d : UInt64} {sv vv fv : Option Nat} (h : g_at w o (oOut n d sv vv fv)) (ho : lab o = 50) : lrl D w lab o = 50 := (rl_no ((g_mut.obj h).im h.1 rfl)).trans ho
/-- a store into the law's record -/
theorem l_put {n n2 : Int64} {d d2 : UInt64} {sv vv fv sv2 vv2 fv2 : Option Nat} (h : g_at w o (oOut n d sv vv fv)) (ho : lab o = 50) (hm : g_mut D w (lM lab)) (e : u = g_put w o (oOut n2 d2 sv2 vv2 fv2)) : g_at u o (oOut n2 d2 sv2 vv2 fv2) ∧ g_ex (fun q => q = o) w u ∧ g_mut D u (lM lab) := by
  have hu : g_at u o (oOut n2 d2 sv2 vv2 fv2) := by rw [e]; exact g_at.put_self h.1
  have hq : g_ex (fun q => q = o) w u := by rw [e]; exact g_ex.rf.put (fun _ => rfl)
  refine ⟨hu, hq, fun q hq1 hM => ?_⟩
  have hne : q ≠ o := fun z => by rw [z] at hM; unfold lM at hM; omega
  have hw : q ∈ w.1 := by rw [e] at hq1; exact hq1
  have e2 : u.2 q = w.2 q := by rw [e]; exact if_neg hne
  rw [e2]
  exact hm q hw hM
theorem l_putS {ac rn tt : Nat} {rf : Nat → Nat} {P : List mI} {C : List yC} {A : Nat → List (List Nat)} {cov : Nat → Bool} {K Q : List (List Nat)} {F : List yF} {cp : Nat → Nat} {n : Int64} {d : UInt64} {sv vv fv : Option Nat} (hs : g_SZ D w lab x rf P C A cov K Q ac F rn tt cp) (h : g_at w o (oOut n d sv vv fv)) (ho : lab o = 50) (q : g_ex (fun q => q = o) w u) : g_SZ D u lab x rf P C A cov K Q ac F rn tt cp :=
  hs.keep q (g_mut.obj h) (fun _ _ => rfl) (fun z _ hz => by rw [hz, ho]; exact Or.inr (by decide))
theorem l_putM {fq ac rn tt cK : Nat} {mf : Nat → Nat} {P : List mI} {C : List yC} {A : Nat → List (List Nat)} {cov : Nat → Bool} {K : List (List Nat)} {F : List yF} {en td st th : Int32} {E : Nat → Bool} {n : Int64} {d : UInt64} {sv vv fv : Option Nat} (hs : g_MZ D w lab y mf P C A cov K fq ac F rn tt cK en td st E th) (h : g_at w o (oOut n d sv vv fv)) (ho : lab o = 50) (q : g_ex (fun q => q = o) w u) : g_MZ D u lab y mf P C A cov K fq ac F rn tt cK en td st E th :=
  hs.keep q (g_mut.obj h) (fun _ _ => rfl) (fun z _ hz => by rw [hz, ho]; exact Or.inr (by decide))
end LR
