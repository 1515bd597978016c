/-! ShrinkYard.take of digits *
-/
set_option maxRecDepth 100000
/-- a finding made: whether, the findings then, the capacities then -/
def tFl (F : List yF) (v : Nat) (c : Int32) : Bool := decide (v = 1) && !fnd F c
noncomputable def tSh (P : List mI) (xs : List Nat) (c : Int32) (cap : Nat) : List Nat × Nat := sShr P c (sMs xs + 1) xs cap
noncomputable def tF (P : List mI) (xs : List Nat) (F : List yF) (v : Nat) (c : Int32) (cap : Nat) : List yF := if tFl F v c = true then F ++ [(txt xs, txt (tSh P xs c cap).1, c)] else F
noncomputable def tCq (P : List mI) (xs : List Nat) (F : List yF) (v : Nat) (c : Int32) (cq : Nat → Nat) : Nat → Nat := if tFl F v c = true then cpU (cpU cq 9 (tSh P xs c (cq 9)).2) 13 (g_an F.length (cq 13)) else cq
noncomputable def tD (P : List mI) (xs : List Nat) (F : List yF) (v : Nat) (c : Int32) (cq : Nat → Nat) : Nat := if tFl F v c = true then (tSh P xs c (cq 9)).2 - cq 9 else 0
def tX (F : List yF) (v : Nat) (c : Int32) : Nat := if v = 1 then (if fnd F c = true then 1 else 15) else 0
def tG (F : List yF) (v : Nat) (c : Int32) (n : Nat) : Nat := if tFl F v c = true then g_as F.length n else 0
theorem g_ac_1 (n cap : Nat) : g_ac n cap ≤ 1 := by unfold g_ac; split <;> omega
theorem g_SZ.noM {D : va_G} {w : g_H} {lab : Nat → Nat} {z : Nat} {j : Nat} (h : lab z = j) (hj : j = 0 ∨ 13 < j) : ¬ yM lab z := fun k => by unfold yM at k; omega
theorem g_Ma.same {D : va_G} {w w2 : g_H} {m9 x ra eb wb st n cap ra2 eb2 wb2 st2 n2 cap2 : Nat} {vv vv2 : Value} {cd cd2 : Int32} {E E2 : Nat → Bool} (h : g_Ma D w m9 ra eb wb x vv cd st E n cap) (q : g_ex (fun _ => False) w w2) (k : g_Ma D w2 m9 ra2 eb2 wb2 x vv2 cd2 st2 E2 n2 cap2) : ra = ra2 ∧ eb = eb2 ∧ wb = wb2 := by
  obtain ⟨⟨rd, a1⟩, -, a3⟩ := h
  obtain ⟨⟨rd2, b1⟩, -, b3⟩ := k
  have h1 := (q.at a1 (fun z => z.elim)).2.symm.trans b1.2
  have h2 := Sum.inr.inj h1
  have h3 := (Prod.mk.inj h2).2
  have ea : ra = ra2 := by injection h3 with h4 h5; injection h4
  have eb' : eb = eb2 := by injection h3 with h4 h5; injection h5 with h6 h7; injection h6
  subst eb'
  have g1 := (q.at a3.1 (fun z => z.elim)).2.symm.trans b3.1.2
  have g2 := (Prod.mk.inj (Sum.inr.inj g1)).2
  have ew : wb = wb2 := by injection g2 with h4 h5; injection h4
  exact ⟨ea, rfl, ew⟩
set_option maxHeartbeats 4000000 in
set_option maxRecDepth 100000 in
/-- ShrinkYard.take: whether there is a finding -/
theorem lpX1_take {p : Program} {l : Launch} {e : Env} {R : Room} {s : State} {m : MethodId} {args : Array Value} {below : List Frame} {meth : Method} {c : Code} {Q : State → Prop} {D : va_G} {A : Nat → Prop} (hx : p.tables.exec = Jvm.exec) (hb : c.code = cX1_take_2) (hts : ∀ w ∈ lw_all, w.before args s = true) (hown : s.vm.findClass RX1 = some m.cls) (hK : va_K D gCl (gT D) s) (hE : g_Env D A s) (hml : c.maxLocals = 4) (hRf : 12 ≤ R.frames) (hRl : 304 ≤ R.locals) (x ac rn tt d da v : Nat) (rf : Nat → Nat) (P : List mI) (C : List yC) (A9 : Nat → List (List Nat)) (cov : Nat → Bool) (K Q9 : List (List Nat)) (F : List yF) (cq : Nat → Nat) (xs : List Nat) (hxs : sDg xs) (hv3 : v < 3) (hF9 : F.length + 1 < 500) (w0 : g_H) (l0 : Nat → Nat) (cd kv : Int32) (ra eb wb st n : Nat) (E : Nat → Bool) (hS : g_SZ D w0 l0 x rf P C A9 cov K Q9 ac F rn tt cq) (hMa : g_Ma D w0 (rf 9) ra eb wb x (.ref (D.2 1003 v)) cd st E n (cq 9)) (hld : l0 d = 0 ∧ l0 da = 0) (hd : g_Dig D w0 d da xs) (CF SF : Nat) (hRc : CF ≤ R.cells) (hRs : SF ≤ R.slots)
    (kk : ∀ (w2 : g_H) (l2 : Nat → Nat) (cells slots : Nat) (H : Heap) (locs : List Loc) (ls : Array Slot), cells ≤ CF → slots ≤ SF → g_SZ D w2 l2 x rf P C A9 cov K Q9 ac (tF P xs F v cd (cq 9)) rn tt (tCq P xs F v cd cq) → yCh w0 l0 w2 l2 → g_W D A s.heap H locs w2 → lv_has ls 4 [(2, .int kv)] → W p l e R s m args below meth c H locs cells slots Q (F0 m 147 ls [])) :
    ∀ (k : Nat) (cells : Nat) (slots : Nat) (H : Heap) (locs : List Loc) (ls : Array Slot), 0 < k → cells + tX F v cd + tD P xs F v cd cq ≤ CF → slots + 100 + 2 * tD P xs F v cd cq + tG F v cd (cq 13) ≤ SF → g_W D A s.heap H locs w0 → lv_has ls 4 [(2, .int (kv)), (0, .ref x), (1, .ref d)] → W p l e R s m args below meth c H locs cells slots Q (F0 m 90 ls []) := by
  intro k
  induction k with
  | zero => intro cells slots H locs ls hfuel hcl hsl hW hl; exact absurd hfuel (by omega)
  | succ k ih =>
    intro cells slots H locs ls hfuel hcl hsl hW hl
    obtain ⟨rd9, hm0⟩ := hMa.1
    refine lv_aload_n hx hb dX1_take_2_90 rfl (lv_at hl 1 rfl) ?_
    refine g_get (ci := 0) (v := .ref (rf 9)) (C := RX1) (T := TX1) (N := 11) hx hb hts in_X1 hown hK hW hS.1.1 rfl 3 (by decide) q357 (fun _ h9 => h9) rfl dX1_take_2_91 ?_
    refine g_getN (ci := 1) (v := .int (cd)) (C := RX2) (T := TX2) (N := 7) hx hb hts in_X2 hown hK hW hm0 rfl 3 (by decide) (nf_q195 hE) (fun _ h9 => h9) rfl dX1_take_2_94 ?_
    refine lv_istore_n (lv' := [(3, .int (cd)), (2, .int (kv)), (0, .ref x), (1, .ref d)]) hx hb dX1_take_2_97 rfl hl (by decide) rfl (fun ls hl => ?_)
    refine lv_aload_n hx hb dX1_take_2_98 rfl (lv_at hl 2 rfl) ?_
    refine g_get (ci := 0) (v := .ref (rf 9)) (C := RX1) (T := TX1) (N := 11) hx hb hts in_X1 hown hK hW hS.1.1 rfl 3 (by decide) q357 (fun _ h9 => h9) rfl dX1_take_2_99 ?_
    refine g_getN (ci := 1) (v := .ref (D.2 1003 v)) (C := RX2) (T := TX2) (N := 7) hx hb hts in_X2 hown hK hW hm0 rfl 2 (by decide) (nf_q193 hE) (fun _ h9 => h9) rfl dX1_take_2_102 ?_
    refine va_gets hx hb ((hE.2.2.2.2.2.2.2.1.1 1 (by decide)).1) hW.2.2.1 hown (hts _ q1280) (fun _ h9 => h9) dX1_take_2_105 ?_
    refine lv_acmp_ne (rx := some (D.2 1003 v)) (ry := some (D.2 1003 1)) (tgt := 147) hx hb dX1_take_2_108 (by decide) (fun hc => ?_) (fun hc => ?_)
    · have hfl : tFl F v cd = false := by unfold tFl; rw [decide_eq_false (fun z => hc (by rw [z]))]; rfl
      have e1 : tF P xs F v cd (cq 9) = F := by unfold tF; rw [hfl]; rfl
      have e2 : tCq P xs F v cd cq = cq := by unfold tCq; rw [hfl]; rfl
      exact kk w0 l0 _ _ H locs ls (by omega) (by omega) (by rw [e1, e2]; exact hS) yCh.rf hW (lv_sub hl [1] rfl)
    · have hv1 : v = 1 := g_vdI hE hv3 (by decide) (Option.some.inj (by first | exact hc | exact Classical.not_not.mp hc))
      have hX : 1 ≤ tX F v cd ∧ (fnd F cd ≠ true → tX F v cd = 15) := by unfold tX; rw [if_pos hv1]; by_cases z : fnd F cd = true; exact ⟨by rw [if_pos z]; omega, fun y => absurd z y⟩; exact ⟨by rw [if_neg z]; omega, fun _ => if_neg z⟩
      obtain ⟨hX1, hX15⟩ := hX
      refine lv_aload_n hx hb dX1_take_2_111 rfl (lv_at hl 2 rfl) ?_
      refine lv_iload_n hx hb dX1_take_2_112 rfl (lv_at hl 0 rfl) ?_
      refine g_calli (va_runV (As := [.int (cd)]) (rest := []) ⟨hx, hb, hml, hown, hts⟩ (mtX1_isFound l D w0 H.size l0 x ac rn tt rf P C A9 cov K Q9 F cq hS cd) (cwV 1 hts (lw_V q1281 q1283 qs16 q34 q1284) rfl rfl rfl (by decide +kernel) ⟨Nat.le_trans (Nat.le_of_ble_eq_true rfl) hRf, Nat.le_trans (Nat.le_of_ble_eq_true rfl) hRl⟩) (g_preV hW hK hE hS.1.1 rfl) rfl rfl hl.1 rfl (lv_room (Nat.le_of_ble_eq_true rfl)) dX1_take_2_113 ⟨?_, ?_⟩) hW (fun r_ u1 H locs hp hW => ?_)
      · (try simp only [headSpec]); omega
      · (try simp only [headSpec]); omega
      obtain ⟨er, hx1⟩ := hp
      subst er
      have hS1 := hS.new hx1 0
      have hy1 : yCh w0 l0 u1 (lb l0 w0 0) := yCh.nw hx1 0
      by_cases hq9 : fnd F cd = true
      · rw [if_pos hq9]
        refine lv_if_ne (tgt := 147) hx hb dX1_take_2_116 (by decide) (fun _ => ?_) (fun hz => absurd (by first | exact hz | exact Classical.not_not.mp hz) (by decide))
        have hfl : tFl F v cd = false := by unfold tFl; rw [hq9, Bool.not_true, Bool.and_false]
        have e1 : tF P xs F v cd (cq 9) = F := by unfold tF; rw [hfl]; rfl
        have e2 : tCq P xs F v cd cq = cq := by unfold tCq; rw [hfl]; rfl
        exact kk u1 _ _ _ H locs ls (by omega) (by omega) (by rw [e1, e2]; exact hS1) hy1 hW (lv_sub hl [1] rfl)
      · rw [if_neg hq9]
        refine lv_if_ne (tgt := 147) hx hb dX1_take_2_116 (by decide) (fun hz => absurd rfl hz) (fun _ => ?_)
        rw [hX15 hq9] at hcl
        have hfl : tFl F v cd = true := by unfold tFl; rw [decide_eq_true hv1, Bool.eq_false_iff.mpr hq9]; rfl
        have e1 : tF P xs F v cd (cq 9) = F ++ [(txt xs, txt (tSh P xs cd (cq 9)).1, cd)] := by unfold tF; rw [if_pos hfl]
        have e2 : tCq P xs F v cd cq = cpU (cpU cq 9 (tSh P xs cd (cq 9)).2) 13 (g_an F.length (cq 13)) := by unfold tCq; rw [if_pos hfl]
        have e3 : tD P xs F v cd cq = (tSh P xs cd (cq 9)).2 - cq 9 := by unfold tD; rw [if_pos hfl]
        have e4 : tG F v cd (cq 13) = g_as F.length (cq 13) := by unfold tG; rw [if_pos hfl]
        rw [e3] at hcl hsl
        rw [e4] at hsl
        have hac := g_ac_1 F.length (cq 13)
        have hge : cq 9 ≤ (tSh P xs cd (cq 9)).2 := sShr_ge P cd (sMs xs + 1) xs (cq 9)
        have hx8 := hxs.1
        have eT : tSh P xs cd (cq 9) = sShr P cd (sMs xs + 1) xs (cq 9) := rfl
        rw [eT] at hcl hsl hge e1 e2
        have hMa1 := hMa.ex hx1 (fun z => z.elim) (fun z => z.elim) (fun z => z.elim) (fun z => z.elim)
        have hd1 := hd.ex hx1 (fun z => z.elim) (fun z => z.elim)
        refine lv_aload_n hx hb dX1_take_2_119 rfl (lv_at hl 2 rfl) ?_
        refine g_get (ci := 0) (v := .ref (rf 13)) (C := RX1) (T := TX1) (N := 11) hx hb hts in_X1 hown hK hW hS1.1.1 rfl 7 (by decide) q361 (fun _ h9 => h9) rfl dX1_take_2_120 ?_
        have x_1 : g_ex (fun _ => False) u1 u1 := g_ex.rf
        refine g_newo (ci := 8) (C := RX12) (T := TX12) (N := 3) hx hb hts in_X12 tyX12 tyX12_ok hown q1525 q1527 q83 hK hW rfl [.null, .null, .int 0] (by decide +kernel) ?_ ?_ dX1_take_2_123 (fun o_2 H hq hW => ?_)
        · (try simp only [headSpec]); omega
        · (try simp only [headSpec]); omega
        have ho_2 := hq
        obtain ⟨w_3, ew_3⟩ : ∃ z__, z__ = g_push u1 o_2 (.inr (8, [.null, .null, .int (0)])) := ⟨_, rfl⟩
        have hW := g_W.ren hW ew_3 rfl
        have h_4 : g_at w_3 o_2 (.inr (8, [.null, .null, .int (0)])) := by rw [ew_3]; exact g_at.push_self
        have x_5 : g_ex (fun _ => False) u1 w_3 := by rw [ew_3]; exact x_1.push hq
        have hS2 := hS1.new x_5 0
        have hd2 := hd1.ex x_5 (fun z => z.elim) (fun z => z.elim)
        refine lv_dup hx hb dX1_take_2_126 rfl ?_
        refine lv_aload_n hx hb dX1_take_2_127 rfl (lv_at hl 3 rfl) ?_
        refine g_callq (va_runV (As := []) (rest := [.ref o_2, .ref o_2, .ref (rf 13)]) ⟨hx, hb, hml, hown, hts⟩ (mtX11_text l D w_3 H.size d da xs hd2 (fun x hx => Nat.le_of_lt_succ (Nat.lt_of_lt_of_le (hxs.2 x hx) (by decide)))) (cwV 0 hts (lw_V q1268 q1269 q1270 q75 q1271) rfl rfl rfl (by decide +kernel) ⟨Nat.le_trans (Nat.le_of_ble_eq_true rfl) hRf, Nat.le_trans (Nat.le_of_ble_eq_true rfl) hRl⟩) (g_preV hW hK hE hd2.1 rfl) rfl rfl hl.1 rfl (lv_room (Nat.le_of_ble_eq_true rfl)) dX1_take_2_128 ⟨?_, ?_⟩) hW (fun r_ u2 H locs hp hW => ?_)
        · (try simp only [headSpec]); omega
        · (try simp only [headSpec]); omega
        obtain ⟨s1, er, fs1, hs1, hx2⟩ := hp
        subst er
        have hS3 := hS2.new hx2 0
        have hd3 := hd2.ex hx2 (fun z => z.elim) (fun z => z.elim)
        have ho2 := hx2.at h_4 (fun z => z.elim)
        refine lv_aload_n hx hb dX1_take_2_131 rfl (lv_at hl 2 rfl) ?_
        refine lv_aload_n hx hb dX1_take_2_132 rfl (lv_at hl 3 rfl) ?_
        refine lv_iload_n hx hb dX1_take_2_133 rfl (lv_at hl 0 rfl) ?_
        obtain ⟨ra3, eb3, wb3, vv3, cd3, st3, E3, n3, par, ps, hMb, hPg, ⟨m1, m2, m3, m4⟩, ⟨m5, m6⟩, -⟩ := hS3.mach hK
        have hcx := hS3.cx hPg ⟨m1, m2, m3, m4⟩ m5 m6 hMb
        refine g_callq (va_runV (As := [.ref d, .int (cd)]) (rest := [.ref s1, .ref o_2, .ref o_2, .ref (rf 13)]) ⟨hx, hb, hml, hown, hts⟩ (mtX1_shrink l D u2 H.size x (rf 9) ra3 eb3 wb3 (rf 2) par _ d da st3 n3 _ vv3 cd3 E3 ps P xs cd hcx hMb hd3 hxs) (cwV 2 hts (lw_V q1528 q1530 qs21 q34 q1531) rfl rfl rfl (by decide +kernel) ⟨Nat.le_trans (Nat.le_of_ble_eq_true rfl) hRf, Nat.le_trans (Nat.le_of_ble_eq_true rfl) hRl⟩) (g_preV hW hK hE hS3.1.1 rfl) rfl rfl hl.1 rfl (lv_room (Nat.le_of_ble_eq_true rfl)) dX1_take_2_134 ⟨?_, ?_⟩) hW (fun r_ u3 H locs hp hW => ?_)
        · (try simp only [headSpec]); show _ + (8 + ((sShr P cd (sMs xs + 1) xs (cq 9)).2 - cq 9)) ≤ _; omega
        · (try simp only [headSpec]); show _ + (52 + 2 * ((sShr P cd (sMs xs + 1) xs (cq 9)).2 - cq 9)) ≤ _; omega
        obtain ⟨s2, er, fs2, hs2, ⟨wb4, vv4, cd4, st4, E4, n4, hMa4, hwb4⟩, hxr⟩ := hp
        subst er
        have lo : lb (lb (lb l0 w0 0) u1 0) w_3 0 o_2 = 0 := (lb_in _ h_4.1).trans (lb_out ho_2)
        have ho3 := hxr.at ho2 (fun z => by rcases z with z | z | z | z <;> rw [z] at lo <;> omega)
        have hs13 : g_Str D u3 s1 (txt xs) := (hMb.mut hK).str hs1 hxr
        refine lv_iload_n hx hb dX1_take_2_137 rfl (lv_at hl 0 rfl) ?_
        refine g_callv (va_runI (As := [.ref s1, .ref s2, .int (cd)]) (rest := [.ref o_2, .ref (rf 13)]) ⟨hx, hb, hml, hown, hts⟩ (mtX12_init l D u3 H.size o_2 s1 s2 cd ho3) (cwI 3 hts (lw_meth q1551) rfl rfl rfl (hts _ q83) (hts _ q1549) (hts _ q1550) rfl (by decide +kernel) ⟨Nat.le_trans (Nat.le_of_ble_eq_true rfl) hRf, Nat.le_trans (Nat.le_of_ble_eq_true rfl) hRl⟩) (g_preS hW hK hE) rfl rfl hl.1 rfl (lv_room (Nat.le_of_ble_eq_true rfl)) dX1_take_2_138 ⟨?_, ?_⟩) hW (fun u4 H locs hp hW => ?_)
        · (try simp only [headSpec]); omega
        · (try simp only [headSpec]); omega
        obtain ⟨ho4, hx4⟩ := hp
        have hx14 : g_ex (fun q => q = rf 9 ∨ q = ra3 ∨ q = eb3 ∨ q = wb3) u1 u4 := ((x_5.tr hx2).mono (fun _ _ z => z.elim) |>.tr hxr).trM hx4 (fun z hz hq => absurd (hq ▸ hz) ho_2)
        obtain ⟨ra5, eb5, wb5, vv5, cd5, st5, E5, n5, par5, ps5, hMc, -, ⟨k1, k2, k3, k4⟩, -, hcl5⟩ := hS1.mach hK
        have hsame := hMc.same (x_5.tr hx2) hMb
        obtain ⟨r1, r2, r3⟩ := hsame
        subst r1
        subst r2
        subst r3
        have ny : ∀ y, lb (lb (lb l0 w0 0) u1 0) w_3 0 y = 9 → y ≠ o_2 := fun y hy e => by rw [e] at hy; omega
        have hwb5 : wb4 ≠ o_2 := hwb4.elim (fun e => e ▸ ny _ m4) (fun e z => e (z ▸ ho2.1))
        have hMd := hMa4.ex hx4 (ny _ m1) (ny _ m2) (ny _ m3) hwb5
        have hS5 := hcl5 u4 wb4 _ _ _ _ _ _ hMd (hwb4.elim Or.inl (fun e => Or.inr (fun z => e (hx2.1 _ (x_5.1 _ z))))) hx14
        have hy5 : yCh u1 (lb l0 w0 0) u4 (lb (lb l0 w0 0) u1 9) := yCh.of hx14 (fun z _ hz => by unfold yM; rcases hz with hz | hz | hz | hz <;> rw [hz] <;> omega) 9
        have hs14 : g_Str D u4 s1 (txt xs) := hs13.ex hx4 (fun q hq z => by rw [z, ho3.2]; exact ⟨fun vs e => (by cases e), fun y e => (by cases e)⟩)
        have hs24 : g_Str D u4 s2 (txt (sShr P cd (sMs xs + 1) xs (cq 9)).1) := hs2.ex hx4 (fun q hq z => by rw [z, ho3.2]; exact ⟨fun vs e => (by cases e), fun y e => (by cases e)⟩)
        obtain ⟨far, fs, hfl4, ⟨hfll, hfin⟩, ⟨f1, f2⟩, hcl6⟩ := hS5.fnd hK (g_e0 hE hW)
        obtain ⟨mo4, hat4, -⟩ := id hfl4
        have c13 : cpU cq 9 (sShr P cd (sMs xs + 1) xs (cq 9)).2 13 = cq 13 := cpU_ne (by decide)
        have hen : g_ac fs.length (cq 13) = g_ac F.length (cq 13) := by rw [hfll]
        have hes : g_as fs.length (cq 13) = g_as F.length (cq 13) := by rw [hfll]
        have hfl13 : g_AL D u4 (rf 13) far fs (cq 13) := hfl4
        refine g_callFi (va_runF (cC := D.1 11) (hK.1 11 _ rfl).2 (As := [.ref o_2]) (rest := []) ⟨hx, hb, hml, hown, hts⟩ (mtJ2_add l D u4 H.size (rf 13) far (cq 13) fs hfl13 8 _ o_2 _ _ (fun _ => g_mem_getD (fun j hj => by obtain ⟨a9, b9, z9, -⟩ := hfin.2 j (by omega); exact Or.inl ⟨_, z9⟩)) (Or.inl ⟨_, ho4⟩) rfl (by decide) (by decide) (by omega)) (va_cwF 1 hts (lw_app (lw_in _ [239, 243, 245, 37] (by decide +kernel) (by decide +kernel)) (lw_meth q247)) rfl rfl rfl (fw_20 hE) (by decide +kernel) ⟨Nat.le_trans (Nat.le_of_ble_eq_true rfl) hRf, Nat.le_trans (Nat.le_of_ble_eq_true rfl) hRl⟩) (g_preV hW hK hE hat4 rfl) rfl rfl hl.1 rfl (lv_room (Nat.le_of_ble_eq_true rfl)) dX1_take_2_141 ⟨?_, ?_⟩) hW (fun r_ u5 H locs hp hW => ?_)
        · (try simp only [headSpec]); omega
        · (try simp only [headSpec]); omega
        obtain ⟨er, ar2, hal2, har2, hex6⟩ := hp
        subst er
        have hS6 := hcl6 u5 ar2 _ _ (F ++ [(txt xs, txt (sShr P cd (sMs xs + 1) xs (cq 9)).1, cd)]) hal2 har2 (hex6.mono (fun z _ hz => hz.imp id (fun q => ⟨by rw [c13]; omega, q.2⟩))) (hfin.app ho4 hs14 hs24) (by rw [List.length_append]; show _ + 1 < 500; omega)
        rw [hfll] at hS6
        have hy6 : yCh u4 (lb (lb l0 w0 0) u1 9) u5 (lb (lb (lb l0 w0 0) u1 9) u4 13) := yCh.of hex6 (fun z _ hz => by unfold yM; rcases hz with hz | hz; rw [hz]; omega; rw [hz.2, f2 (by rw [c13]; omega)]; omega) 13
        refine lv_pop hx hb dX1_take_2_146 rfl ?_
        exact kk u5 _ _ _ H locs ls (by omega) (by omega) (by rw [e1, e2]; exact hS6) ((hy1.tr hy5).tr hy6) hW (lv_sub hl [1] rfl)
