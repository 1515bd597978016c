/-! ShrinkYard.take of digits: what is kept *
-/
set_option maxRecDepth 100000
theorem sDg_le9 {xs : List Nat} (h : sDg xs) : ∀ x ∈ xs, x ≤ 9 := fun x hx => Nat.le_of_lt_succ (Nat.lt_of_lt_of_le (h.2 x hx) (by decide))
set_option maxHeartbeats 4000000 in
set_option maxRecDepth 100000 in
/-- ShrinkYard.take: what is kept -/
theorem lpX1_keep {p : Program} {l : Launch} {e : Env} {R : Room} {s : State} {m : MethodId} {args : Array Value} {below : List Frame} {meth : Method} {c : Code} {Q : State → Prop} {D : va_G} {A : Nat → Prop} (hx : p.tables.exec = Jvm.exec) (hb : c.code = cX1_take_2) (hts : ∀ w ∈ lw_all, w.before args s = true) (hown : s.vm.findClass RX1 = some m.cls) (hK : va_K D gCl (gT D) s) (hE : g_Env D A s) (hml : c.maxLocals = 4) (hRf : 12 ≤ R.frames) (hRl : 304 ≤ R.locals) (x ac rn tt d da : Nat) (rf : Nat → Nat) (P : List mI) (C : List yC) (A9 : Nat → List (List Nat)) (cov : Nat → Bool) (K Q9 : List (List Nat)) (F : List yF) (cq : Nat → Nat) (xs : List Nat) (hxs : sDg xs) (hK9 : K.length + 1 < 500) (hQ9 : Q9.length ≤ K.length) (w0 : g_H) (l0 : Nat → Nat) (kv : Int32) (hS : g_SZ D w0 l0 x rf P C A9 cov K Q9 ac F rn tt cq) (hld : l0 d = 0 ∧ l0 da = 0) (hd : g_Dig D w0 d da xs) (CF SF : Nat) (hRc : CF ≤ R.cells) (hRs : SF ≤ R.slots)
    (kk : ∀ (w2 : g_H) (l2 : Nat → Nat) (cells slots : Nat) (H : Heap) (locs : List Loc) (ls : Array Slot), cells ≤ CF → slots ≤ SF → g_SZ D w2 l2 x rf P C A9 cov (K ++ [xs]) (Q9 ++ [xs]) ac F rn tt (cpU cq 11 (g_an K.length (cq 11))) → (∀ z, z ∈ w0.1 → l2 z = l0 z) → g_ex (fun z => l0 z = 11 ∨ l0 z = 12) w0 w2 → g_W D A s.heap H locs w2 → lv_has ls 4 [(2, .int kv), (0, .ref x), (1, .ref d)] → W p l e R s m args below meth c H locs cells slots Q (F0 m 90 ls [])) :
    ∀ (k : Nat) (cells : Nat) (slots : Nat) (H : Heap) (locs : List Loc) (ls : Array Slot), 0 < k → cells + 10 ≤ CF → slots + 70 + g_as K.length (cq 11) ≤ SF → g_W D A s.heap H locs w0 → lv_has ls 4 [(2, .int (kv)), (0, .ref x), (1, .ref d)] → W p l e R s m args below meth c H locs cells slots Q (F0 m 65 ls []) := by
  intro k
  induction k with
  | zero => intro cells slots H locs ls hfuel hcl hsl hW hl; exact absurd hfuel (by omega)
  | succ k ih =>
    intro cells slots H locs ls hfuel hcl hsl hW hl
    have hx8 := hxs.1
    have hac := g_ac_1 K.length (cq 11)
    refine lv_aload_n hx hb dX1_take_2_65 rfl (lv_at hl 1 rfl) ?_
    refine g_get (ci := 0) (v := .ref (rf 11)) (C := RX1) (T := TX1) (N := 11) hx hb hts in_X1 hown hK hW hS.1.1 rfl 5 (by decide) q359 (fun _ h9 => h9) rfl dX1_take_2_66 ?_
    refine lv_aload_n hx hb dX1_take_2_69 rfl (lv_at hl 2 rfl) ?_
    refine g_callq (va_runV (As := []) (rest := [.ref (rf 11)]) ⟨hx, hb, hml, hown, hts⟩ (mtX11_text l D w0 H.size d da xs hd (sDg_le9 hxs)) (cwV 0 hts (lw_V q1268 q1269 q1270 q75 q1271) rfl rfl rfl (by decide +kernel) ⟨Nat.le_trans (Nat.le_of_ble_eq_true rfl) hRf, Nat.le_trans (Nat.le_of_ble_eq_true rfl) hRl⟩) (g_preV hW hK hE hd.1 rfl) rfl rfl hl.1 rfl (lv_room (Nat.le_of_ble_eq_true rfl)) dX1_take_2_70 ⟨?_, ?_⟩) hW (fun r_ u1 H locs hp hW => ?_)
    · (try simp only [headSpec]); omega
    · (try simp only [headSpec]); omega
    obtain ⟨s1, er, fs1, hs1, hx1⟩ := hp
    subst er
    have hS1 := hS.new hx1 0
    have hd1 := hd.ex hx1 (fun z => z.elim) (fun z => z.elim)
    obtain ⟨ar, ks, hal, ⟨hkl, hks, hkd⟩, ⟨f1, f2⟩, hcl1⟩ := hS1.kept hK (g_e0 hE hW)
    obtain ⟨mo4, hat4, -⟩ := id hal
    have hen : g_ac ks.length (cq 11) = g_ac K.length (cq 11) := by rw [hkl]
    have hes : g_as ks.length (cq 11) = g_as K.length (cq 11) := by rw [hkl]
    refine g_callFi (va_runF (cC := D.1 11) (hK.1 11 _ rfl).2 (As := [.ref s1]) (rest := []) ⟨hx, hb, hml, hown, hts⟩ (mtJ2_add l D u1 H.size (rf 11) ar (cq 11) ks hal 16 _ s1 _ _ (fun _ => g_mem_getD (fun j hj => g_Str.ob (hks.2 j (by rw [List.length_map]; omega)))) hs1.ob rfl (by decide) (by decide) (by omega)) (va_cwF 1 hts (lw_app (lw_in _ [239, 243, 245, 37] (by decide +kernel) (by decide +kernel)) (lw_meth q247)) rfl rfl rfl (fw_20 hE) (by decide +kernel) ⟨Nat.le_trans (Nat.le_of_ble_eq_true rfl) hRf, Nat.le_trans (Nat.le_of_ble_eq_true rfl) hRl⟩) (g_preV hW hK hE hat4 rfl) rfl rfl hl.1 rfl (lv_room (Nat.le_of_ble_eq_true rfl)) dX1_take_2_73 ⟨?_, ?_⟩) hW (fun r_ u2 H locs hp hW => ?_)
    · (try simp only [headSpec]); omega
    · (try simp only [headSpec]); omega
    obtain ⟨er, ar2, hal2, har2, hex2⟩ := hp
    subst er
    have hS2 := hcl1 u2 ar2 _ _ (K ++ [xs]) hal2 har2 (hex2.mono (fun z _ hz => hz.imp id (fun q => ⟨by omega, q.2⟩))) (by rw [List.map_append]; exact hks.app hs1) (fun y hy => (List.mem_append.mp hy).elim (hkd y) (fun z => by rw [List.mem_singleton.mp z]; exact hxs)) (by rw [List.length_append]; exact hK9)
    rw [hkl] at hS2
    have b2 : g_ex (fun z => l0 z = 11 ∨ l0 z = 12) w0 u2 := (hx1.mono (fun _ _ z => z.elim)).trM hex2 (fun z hz hq => Or.inl (by
      have h5 : lb l0 w0 0 z = 11 := by rcases hq with hq | hq; (rw [hq]; exact f1); (rw [hq.2]; exact f2 (by omega))
      rw [lb_in z hz] at h5; exact h5))
    have hd2 := hd.ex b2 (fun z => by rw [hld.1] at z; omega) (fun z => by rw [hld.2] at z; omega)
    refine lv_pop hx hb dX1_take_2_78 rfl ?_
    refine lv_aload_n hx hb dX1_take_2_79 rfl (lv_at hl 1 rfl) ?_
    refine g_get (ci := 0) (v := .ref (rf 12)) (C := RX1) (T := TX1) (N := 11) hx hb hts in_X1 hown hK hW hS2.1.1 rfl 6 (by decide) q360 (fun _ h9 => h9) rfl dX1_take_2_80 ?_
    refine lv_aload_n hx hb dX1_take_2_83 rfl (lv_at hl 2 rfl) ?_
    refine g_callq (va_runV (As := []) (rest := [.ref (rf 12)]) ⟨hx, hb, hml, hown, hts⟩ (mtX11_text l D u2 H.size d da xs hd2 (sDg_le9 hxs)) (cwV 0 hts (lw_V q1268 q1269 q1270 q75 q1271) rfl rfl rfl (by decide +kernel) ⟨Nat.le_trans (Nat.le_of_ble_eq_true rfl) hRf, Nat.le_trans (Nat.le_of_ble_eq_true rfl) hRl⟩) (g_preV hW hK hE hd2.1 rfl) rfl rfl hl.1 rfl (lv_room (Nat.le_of_ble_eq_true rfl)) dX1_take_2_84 ⟨?_, ?_⟩) hW (fun r_ u3 H locs hp hW => ?_)
    · (try simp only [headSpec]); omega
    · (try simp only [headSpec]); omega
    obtain ⟨s2, er, fs2, hs2, hx3⟩ := hp
    subst er
    have hS3 := hS2.new hx3 0
    obtain ⟨ns, qs, hll, hqs, ⟨c1, c2⟩, hcl2⟩ := hS3.que
    obtain ⟨mo5, hat5⟩ := hll.1
    have hnl : ns.length = Q9.length := by rw [← hll.2.1.1, hqs.1, List.length_map]
    refine g_callv (va_runV (As := [.ref s2]) (rest := []) ⟨hx, hb, hml, hown, hts⟩ (mtJ5_addLast l D u3 H.size (rf 12) ns qs hll s2 (by omega)) (cwV 1 hts (lw_V q1276 q1277 q1278 q41 q1279) rfl rfl rfl (by decide +kernel) ⟨Nat.le_trans (Nat.le_of_ble_eq_true rfl) hRf, Nat.le_trans (Nat.le_of_ble_eq_true rfl) hRl⟩) (g_preV hW hK hE hat5 rfl) rfl rfl hl.1 rfl (lv_room (Nat.le_of_ble_eq_true rfl)) dX1_take_2_87 ⟨?_, ?_⟩) hW (fun u4 H locs hp hW => ?_)
    · (try simp only [headSpec]); omega
    · (try simp only [headSpec]); omega
    obtain ⟨k9, fk9, hll4, hex4⟩ := hp
    have hS4 := hcl2 u4 _ _ (Q9 ++ [xs]) hll4 (fun n hn => (List.mem_append.mp hn).elim Or.inl (fun z => Or.inr (by rw [List.mem_singleton.mp z]; exact fk9))) hex4 (by rw [List.map_append]; exact hqs.app hs2)
    have hL : ∀ z, z ∈ w0.1 → lb (lb (lb (lb l0 w0 0) u1 11) u2 0) u3 12 z = l0 z := fun z hz => by
      have z1 := hx1.1 z hz
      have z2 := hex2.1 z z1
      rw [lb_in z (hx3.1 z z2), lb_in z z2, lb_in z z1, lb_in z hz]
    have b4 : g_ex (fun z => l0 z = 11 ∨ l0 z = 12) w0 u4 := (b2.trM hx3 (fun z _ hz => hz.elim)).trM hex4 (fun z hz hq => Or.inr (by
      have z1 := hx1.1 z hz
      have z2 := hex2.1 z z1
      have h5 : lb (lb (lb l0 w0 0) u1 11) u2 0 z = 12 := by rcases hq with hq | hq; (rw [hq]; exact c1); exact c2 z hq
      rw [lb_in z z2, lb_in z z1, lb_in z hz] at h5; exact h5))
    exact kk u4 _ _ _ H locs ls (by omega) (by omega) hS4 hL b4 hW (lv_sub hl [0, 1, 2] rfl)
