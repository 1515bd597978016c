/-! the law: between its calls *
-/
set_option maxRecDepth 100000
/-- the class holds zc, the model zm; the law's record as told -/
def lMid (D : va_G) (w : g_H) (lab : Nat → Nat) (x y o : Nat) (zc zm : yW) (th : Int32) (n : Int64) (d : UInt64) (sv vv fv : Option Nat) : Prop :=
  (∃ rf, g_SZ D w lab x rf zc.P zc.C zc.A zc.cov zc.K (zc.K.drop zc.fq) zc.ac zc.F zc.rn zc.tt zc.cp) ∧ (∃ mf en td st E, g_MZ D w lab y mf zm.P zm.C zm.A zm.cov zm.K zm.fq zm.ac zm.F zm.rn zm.tt zm.cK en td st E th) ∧ g_at w o (oOut n d sv vv fv) ∧ lab o = 50 ∧ g_mut D w (lM lab)
section MID
variable {s : State} {D : va_G} {w u : g_H} {lab l2 : Nat → Nat} {x y o : Nat} {zc zm : yW} {th : Int32} {n : Int64} {d : UInt64} {sv vv fv : Option Nat}
theorem lMid.cls (hK : va_K D gCl (gT D) s) (h : lMid D w lab x y o zc zm th n d sv vv fv) {z2 : yW} (hS : ∃ rf, g_SZ D u l2 x rf z2.P z2.C z2.A z2.cov z2.K (z2.K.drop z2.fq) z2.ac z2.F z2.rn z2.tt z2.cp) (hy : yCh w lab u l2) : lMid D u (lrl D u l2) x y o z2 zm th n d sv vv fv := by
  obtain ⟨-, ⟨mf, en, td, st, E, hZ⟩, ho, hl, hm⟩ := h
  obtain ⟨rf, hS⟩ := hS
  have h2 := l_oC ho hl hy
  exact ⟨⟨rf, hS.rl hK⟩, ⟨mf, en, td, st, E, (l_cls hZ hm hy).rl hK⟩, h2.1, l_rl h2.1 h2.2, rl_mut⟩
theorem lMid.mod (hK : va_K D gCl (gT D) s) (h : lMid D w lab x y o zc zm th n d sv vv fv) {z2 : yW} {t2 : Int32} (hZ : ∃ mf en td st E, g_MZ D u l2 y mf z2.P z2.C z2.A z2.cov z2.K z2.fq z2.ac z2.F z2.rn z2.tt z2.cK en td st E t2) (hy : zCh w lab u l2) : lMid D u (lrl D u l2) x y o zc z2 t2 n d sv vv fv := by
  obtain ⟨⟨rf, hS⟩, -, ho, hl, hm⟩ := h
  obtain ⟨mf, en, td, st, E, hZ⟩ := hZ
  have h2 := l_oM ho hl hy
  exact ⟨⟨rf, (l_mod hS hm hy).rl hK⟩, ⟨mf, en, td, st, E, hZ.rl hK⟩, h2.1, l_rl h2.1 h2.2, rl_mut⟩
theorem lMid.put (h : lMid D w lab x y o zc zm th n d sv vv fv) {n2 : Int64} {d2 : UInt64} {sv2 vv2 fv2 : Option Nat} (e : u = g_put w o (oOut n2 d2 sv2 vv2 fv2)) : lMid D u lab x y o zc zm th n2 d2 sv2 vv2 fv2 := by
  obtain ⟨⟨rf, hS⟩, ⟨mf, en, td, st, E, hZ⟩, ho, hl, hm⟩ := h
  obtain ⟨h1, h2, h3⟩ := l_put ho hl hm e
  exact ⟨⟨rf, l_putS hS ho hl h2⟩, ⟨mf, en, td, st, E, l_putM hZ ho hl h2⟩, h1, hl, h3⟩
/-- a String through a store into the record, through a call of the model -/
theorem lMid.strP (h : lMid D w lab x y o zc zm th n d sv vv fv) {a : Nat} {t : List Nat} {n2 : Int64} {d2 : UInt64} {sv2 vv2 fv2 : Option Nat} (hs : g_Str D w a t) (e : u = g_put w o (oOut n2 d2 sv2 vv2 fv2)) : g_Str D u a t := by
  obtain ⟨-, -, ho, hl, hm⟩ := h
  exact (g_mut.obj ho).str hs (l_put ho hl hm e).2.1
theorem lMid.strM (h : lMid D w lab x y o zc zm th n d sv vv fv) {a : Nat} {t : List Nat} (hs : g_Str D w a t) (hy : zCh w lab u l2) : g_Str D u a t := by
  obtain ⟨-, -, ho, hl, hm⟩ := h
  exact (mM_lM hm).str hs hy.2
theorem lMid.finP (h : lMid D w lab x y o zc zm th n d sv vv fv) {fs : List Nat} {F : List yF} {n2 : Int64} {d2 : UInt64} {sv2 vv2 fv2 : Option Nat} (hs : g_Fins D w fs F) (e : u = g_put w o (oOut n2 d2 sv2 vv2 fv2)) : g_Fins D u fs F := by
  obtain ⟨-, -, ho, hl, hm⟩ := h
  exact (g_mut.obj ho).fins hs (l_put ho hl hm e).2.1
theorem lMid.finM (h : lMid D w lab x y o zc zm th n d sv vv fv) {fs : List Nat} {F : List yF} (hs : g_Fins D w fs F) (hy : zCh w lab u l2) : g_Fins D u fs F := by
  obtain ⟨-, -, ho, hl, hm⟩ := h
  exact (mM_lM hm).fins hs hy.2
/-- new objects of the law -/
theorem lMid.new (hK : va_K D gCl (gT D) s) (h : lMid D w lab x y o zc zm th n d sv vv fv) (q : g_ex (fun _ => False) w u) : lMid D u (lrl D u (lb lab w 0)) x y o zc zm th n d sv vv fv := by
  obtain ⟨rf, hS⟩ := h.1
  exact h.cls hK ⟨rf, hS.new q 0⟩ (yCh.nw q 0)
theorem lMid.lR (h : lMid D w lab x y o zc zc th n d sv vv fv) : lR D w lab x y o zc th := ⟨h.1, h.2.1, ⟨n, d, sv, vv, fv, h.2.2.1⟩, h.2.2.2⟩
theorem lR.mid (h : lR D w lab x y o zc th) : ∃ n d sv vv fv, lMid D w lab x y o zc zc th n d sv vv fv := by
  obtain ⟨h1, h2, ⟨n, d, sv, vv, fv, h3⟩, h4⟩ := h
  exact ⟨n, d, sv, vv, fv, h1, h2, h3, h4⟩
end MID
