/-! the law's steps in plain Lean *
-/
set_option maxRecDepth 100000
def lTx (a : Int32) : List Nat := gTx.getD (fMod a 14) []
def lCh (a : Int32) : Nat := (a.toUInt32 % 65536).toNat
theorem lCh_lt {a : Int32} : lCh a < 65536 := by
  unfold lCh
  rw [UInt32.toNat_mod]
  exact Nat.mod_lt _ (by decide)
theorem lCh_v {a : Int32} : (a.toUInt32 % 65536).toInt32 = nI (lCh a) := by
  unfold lCh nI
  apply Int32.toBitVec_inj.mp
  apply BitVec.eq_of_toNat_eq
  simp
  have h : a.toUInt32.toNat = a.toBitVec.toNat := rfl
  rw [h]
  omega
theorem lTx_len {a : Int32} : (lTx a).length ≤ 8 := by
  have h := fMod_lt (a := a) (n := 14) (by decide)
  unfold lTx
  generalize fMod a 14 = k at h
  revert k
  decide
/-- the codes found: each once, each told by a run of the program -/
def fI (P : List mI) (F : List yF) : Prop := (F.map (fun f => f.2.2)).Nodup ∧ ∀ f ∈ F, ∃ xs, (mOut P xs).1 = 1 ∧ f.2.2 = mCode P xs
theorem fI.ok {P : List mI} {F : List yF} (h : fI P F) : fOk P F := ⟨h.1, fun f hf => by
  obtain ⟨xs, h1, h2⟩ := h.2 f hf
  rw [h2]; exact mCode_in h1⟩
theorem fI.take {P : List mI} {F : List yF} (h : fI P F) (xs : List Nat) : fI P (zFk P xs F) := by
  have h9 := h.ok.take xs (fun _ => 0)
  rw [tkF_z] at h9
  refine ⟨h9.1, fun f hf => ?_⟩
  unfold zFk zF at hf
  split at hf
  · rename_i h1
    split at hf
    · exact h.2 f hf
    · rcases List.mem_append.mp hf with q | q
      · exact h.2 f q
      · rw [List.mem_singleton.mp q]; exact ⟨xs, h1, rfl⟩
  · exact h.2 f hf
theorem m_first {P : List mI} {xs : List Nat} (h0 : 0 < P.length) (h7 : (P.getD 0 mI0).1 = 7) (h : (mOut P xs).1 = 1) : mCode P xs = (P.getD 0 mI0).2.2.1 := by
  unfold mCode
  rw [mOut_eq]
  unfold mRun
  have hn : ∀ g, mNext (P.getD 0 mI0) g 0 = none := fun g => by unfold mNext; rw [h7]; rfl
  rw [if_pos h0, hn]
  rfl
theorem g_nodup_one {α : Type} {a : α} : ∀ {xs : List α}, xs.Nodup → (∀ x ∈ xs, x = a) → xs.length ≤ 1
  | [], _, _ => Nat.zero_le _
  | [_], _, _ => Nat.le_refl _
  | x :: y :: xs, h, k => by
    have h1 := k x List.mem_cons_self
    have h2 := k y (List.mem_cons_of_mem _ List.mem_cons_self)
    exact absurd (h2 ▸ h1 ▸ List.mem_cons_self) (List.nodup_cons.mp h).1
theorem fI.lt {P : List mI} {F : List yF} (h : fI P F) (hP : P.length ≤ 16) : F.length < 16 := by
  have hle := h.ok.le
  rcases Nat.lt_or_ge F.length 16 with z | z
  · exact z
  · exfalso
    have hP16 : P.length = 16 := by omega
    have h3 := g_nodup_le (F.map (fun f => f.2.2)) ((P.filter (fun i => decide (i.1 = 7))).map (fun i => i.2.2.1)) h.1 (fun c hc => by
      obtain ⟨f, hf, rfl⟩ := List.mem_map.mp hc
      obtain ⟨i, hi, h7, e⟩ := h.ok.2 f hf
      exact List.mem_map.mpr ⟨i, List.mem_filter.mpr ⟨hi, decide_eq_true h7⟩, e⟩)
    rw [List.length_map, List.length_map] at h3
    have h4 := List.length_filter_le (fun i => decide (i.1 = 7)) P
    have h5 : ∀ i ∈ P, decide (i.1 = 7) = true := List.length_filter_eq_length_iff.mp (by omega)
    have h7 : (P.getD 0 mI0).1 = 7 := of_decide_eq_true (h5 _ (by rw [List.getD_eq_getElem?_getD, List.getElem?_eq_getElem (by omega)]; exact List.getElem_mem (by omega)))
    have h8 := g_nodup_one (a := (P.getD 0 mI0).2.2.1) h.1 (fun c hc => by
      obtain ⟨f, hf, rfl⟩ := List.mem_map.mp hc
      obtain ⟨xs, h1, h2⟩ := h.2 f hf
      rw [h2]; exact m_first (by omega) h7 h1)
    rw [List.length_map] at h8
    omega
theorem fI.nil {P : List mI} : fI P [] := ⟨List.nodup_nil, fun _ h => by cases h⟩
/-- what holds between the calls -/
def yV (z : yW) : Prop := (aOk z.A ∧ ∀ j, (z.A j).length ≤ 3) ∧ eOk z.cov ∧ (∀ q ∈ z.K, sDg q) ∧ z.cK ≤ 640 ∧ yI z.P z.cov z.K (z.K.drop z.fq) z.F z.rn z.tt ∧ (z.fq ≤ z.K.length ∧ z.ac ≤ z.C.length ∧ z.P.length ≤ 16 ∧ z.C.length ≤ 8) ∧ (∀ j, j < z.C.length → (z.C.getD j (0, 0, 0)).2.2 < 8) ∧ (z.cp 3 = 0 ∨ 8 < z.cp 3) ∧ fI z.P z.F ∧ (z.rn = 0 → z.K = [] ∧ z.F = [])
noncomputable def zTake (z : yW) (xs : List Nat) : yW := yW.of z.P z.C z.A (cvO z.cov (mOut z.P xs).2.2.2) (tkL (tkB z.P xs z.cov) z.K xs) z.fq z.ac (zFk z.P xs z.F) (z.rn + 1) (z.tt + (mOut z.P xs).2.2.1) (tkC z.P xs z.cov z.K z.F z.cp) (zC (tkB z.P xs z.cov) z.K.length z.cK)
def zCp (z : yW) (v : Nat) : yW := yW.of z.P z.C z.A z.cov z.K z.fq z.ac z.F z.rn z.tt (cpU z.cp 9 v) z.cK
noncomputable def zgZ (z : yW) (n : Nat) : yR := gGo z.P z.C n z.cov z.K (z.K.drop z.fq) z.ac z.F z.rn z.tt z.cp
noncomputable def zgM (z : yW) (n : Nat) : Nat × Nat × Nat × Nat := mGo z.P z.C n z.cov z.K z.fq z.ac z.F z.cK
noncomputable def zGo (z : yW) (n : Nat) : yW := yW.of z.P z.C z.A (zgZ z n).1 (zgZ z n).2.1 (zgM z n).1 (zgZ z n).2.2.2.1 (zgZ z n).2.2.2.2.1 (zgZ z n).2.2.2.2.2.1 (zgZ z n).2.2.2.2.2.2.1 (zgZ z n).2.2.2.2.2.2.2.1 (zgM z n).2.1
noncomputable def sAdd (z : yW) (op : Nat) (rg vl tg : Int32) : yW := by classical exact if iOk op rg vl tg ∧ z.P.length < 16 ∧ z.rn = 0 then yW.of (z.P ++ [(op, rg.toNatClampNeg, vl, tg.toNatClampNeg)]) z.C z.A z.cov z.K z.fq z.ac z.F z.rn z.tt (cpU z.cp 2 (g_an z.P.length (z.cp 2))) z.cK else z
noncomputable def sChg (z : yW) (k : Nat) (p9 d9 : Int32) : yW := by classical exact if kEd p9 d9 ∧ z.C.length < 8 then yW.of z.P (z.C ++ [(k, p9.toNatClampNeg, d9.toNatClampNeg)]) z.A z.cov z.K z.fq z.ac z.F z.rn z.tt (cpU z.cp 3 (g_an z.C.length (z.cp 3))) z.cK else z
noncomputable def sAlt (z : yW) (c : Nat) (t : List Nat) : yW := by classical exact if (kKind c = 1 ∧ kHas t 1 = true) ∧ (z.A (c - 65)).length < 3 then yW.of z.P z.C (fun i => if i = c - 65 then z.A (c - 65) ++ [t] else z.A i) z.cov z.K z.fq z.ac z.F z.rn z.tt (cpU z.cp (5 + (c - 65)) (g_an (z.A (c - 65)).length (z.cp (5 + (c - 65))))) z.cK else z
noncomputable def sTake (z : yW) (t : List Nat) : yW := by classical exact if isIn t then zTake z (digs t) else z
noncomputable def sDer (z : yW) (n : Int32) : yW := by classical exact if ¬ n < 0 ∧ (dvN z.A n).1 = 0 then zTake z (digs (dvN z.A n).2) else z
noncomputable def sGo (z : yW) (n : Int32) : yW := by classical exact if 1 ≤ n ∧ n ≤ 200 then zGo z n.toNatClampNeg else z
def sRes (z : yW) : yW := yW.of z.P z.C z.A (fun _ => false) [] 0 0 [] 0 0 z.cp z.cK
noncomputable def sRun (z : yW) (t : List Nat) : yW := by classical exact if isIn t then zCp z (bsC (z.cp 9) (mOut z.P (digs t)).2.2.2) else z
noncomputable def sShk (z : yW) (t : List Nat) : yW := by classical exact if isIn t then (if (mOut z.P (digs t)).1 = 1 then zCp (zCp z (bsC (z.cp 9) (mOut z.P (digs t)).2.2.2)) (sShr z.P (mCode z.P (digs t)) (sMs (digs t) + 1) (digs t) (bsC (z.cp 9) (mOut z.P (digs t)).2.2.2)).2 else zCp z (bsC (z.cp 9) (mOut z.P (digs t)).2.2.2)) else z
noncomputable def sFr (z : yW) (t : List Nat) : yW := by classical exact if isIn t then (if (mOut z.P (digs t)).1 = 1 then zCp z (rFold z.P (frC (digs t) 0) (bsC (z.cp 9) (mOut z.P (digs t)).2.2.2)) else zCp z (bsC (z.cp 9) (mOut z.P (digs t)).2.2.2)) else z
noncomputable def sSml (z : yW) (c n : Int32) : yW := by classical exact if 0 ≤ n ∧ n ≤ 3 then zCp z (sFind z.P c (octs 0 n.toNatClampNeg) (z.cp 9)).2 else z
noncomputable def sCnt (z : yW) (n : Int32) : yW := by classical exact if 0 ≤ n ∧ n ≤ 3 then zCp z (rFold z.P (octs 0 n.toNatClampNeg) (z.cp 9)) else z
theorem yV.cpu {z : yW} (h : yV z) (v : Nat) : yV (zCp z v) := by
  obtain ⟨h1, h2, h3, h4, h5, h6, h7, h8, h9⟩ := h
  exact ⟨h1, h2, h3, h4, h5, h6, h7, by show cpU z.cp 9 v 3 = 0 ∨ 8 < cpU z.cp 9 v 3; rw [cpU_ne (by decide)]; exact h8, h9⟩
theorem tkC_3 {P : List mI} {xs : List Nat} {cov : Nat → Bool} {K : List (List Nat)} {F : List yF} {cp : Nat → Nat} : tkC P xs cov K F cp 3 = cp 3 := by
  unfold tkC tCq tkC0
  repeat' split
  all_goals first | rfl | simp [cpU]
theorem gLoop_3 {P : List mI} {C : List yC} {b : Nat} : ∀ (k : Nat) (cov : Nat → Bool) (K Q : List (List Nat)) (ac : Nat) (F : List yF) (rn tt : Nat) (cp : Nat → Nat) (sp M S : Nat), (gLoop P C b k cov K Q ac F rn tt cp sp M S).2.2.2.2.2.2.2.1 3 = cp 3 := by
  intro k
  induction k with
  | zero => intro cov K Q ac F rn tt cp sp M S; rfl
  | succ k ih =>
    intro cov K Q ac F rn tt cp sp M S
    unfold gLoop
    split
    · rfl
    · split
      · rw [ih]; exact tkC_3
      · exact ih _ _ _ _ _ _ _ _ _ _ _
/-- a take -/
theorem yV.take {z : yW} (h : yV z) {xs : List Nat} (hx : sDg xs) : yV (zTake z xs) := by
  obtain ⟨h1, h2, h3, h4, h5, ⟨h6, h6b, h6c, h6d⟩, h7, h8, h9, h10⟩ := h
  have hk := tkL_len (b := tkB z.P xs z.cov) (K := z.K) (xs := xs)
  have hI := h5.take xs z.cp
  rw [tkL_drop h6, tkF_z] at hI
  exact ⟨h1, cvO_ok h6c h2, tkL_all h3 hx, zC_le h4 h5.q.2.2, hI, ⟨by show z.fq ≤ (tkL (tkB z.P xs z.cov) z.K xs).length; omega, h6b, h6c, h6d⟩, h7, by show tkC z.P xs z.cov z.K z.F z.cp 3 = 0 ∨ 8 < tkC z.P xs z.cov z.K z.F z.cp 3; rw [tkC_3]; exact h8, h9.take xs, fun e => absurd e (Nat.succ_ne_zero _)⟩
theorem v_take {z : yW} (h : yV z) (t : List Nat) : yV (sTake z t) := by
  unfold sTake
  split
  · rename_i q; exact h.take (isIn_sDg q)
  · exact h
theorem v_der {z : yW} (h : yV z) (n : Int32) : yV (sDer z n) := by
  unfold sDer
  split
  · rename_i q; exact h.take (isIn_sDg (dvN_in h.1.1 q.2))
  · exact h
theorem v_run {z : yW} (h : yV z) (t : List Nat) : yV (sRun z t) := by
  unfold sRun
  split
  · exact h.cpu _
  · exact h
theorem v_shk {z : yW} (h : yV z) (t : List Nat) : yV (sShk z t) := by
  unfold sShk
  split
  · split
    · exact (h.cpu _).cpu _
    · exact h.cpu _
  · exact h
theorem v_fr {z : yW} (h : yV z) (t : List Nat) : yV (sFr z t) := by
  unfold sFr
  split
  · split
    · exact h.cpu _
    · exact h.cpu _
  · exact h
theorem v_sml {z : yW} (h : yV z) (c n : Int32) : yV (sSml z c n) := by
  unfold sSml
  split
  · exact h.cpu _
  · exact h
theorem v_cnt {z : yW} (h : yV z) (n : Int32) : yV (sCnt z n) := by
  unfold sCnt
  split
  · exact h.cpu _
  · exact h
theorem yI.nil {P : List mI} {cov : Nat → Bool} : yI P cov [] [] [] 0 0 := ⟨Nat.zero_le _, ⟨0, Nat.le_refl _, rfl⟩, fI.nil.ok, Nat.le_refl _⟩
theorem v_res {z : yW} (h : yV z) : yV (sRes z) := by
  obtain ⟨h1, h2, h3, h4, h5, h6, h7, h8, h9, h10⟩ := h
  exact ⟨h1, (fun _ e => (by cases e)), (fun _ e => (by cases e)), h4, yI.nil, ⟨Nat.le_refl _, Nat.zero_le _, h6.2.2⟩, h7, h8, fI.nil, fun _ => ⟨rfl, rfl⟩⟩
theorem v_add {z : yW} (h : yV z) (op : Nat) (rg vl tg : Int32) : yV (sAdd z op rg vl tg) := by
  unfold sAdd
  split
  · rename_i q
    obtain ⟨h1, h2, h3, h4, h5, ⟨h6, h6b, h6c, h6d⟩, h7, h8, h9, h10⟩ := h
    obtain ⟨eK, eF⟩ := h10 q.2.2
    have hI : yI (z.P ++ [(op, rg.toNatClampNeg, vl, tg.toNatClampNeg)]) z.cov z.K (z.K.drop z.fq) z.F z.rn z.tt := ⟨h5.1, h5.2.1, by rw [eF]; exact fI.nil.ok, h5.2.2.2⟩
    exact ⟨h1, h2, h3, h4, hI, ⟨h6, h6b, (by show (z.P ++ [(op, rg.toNatClampNeg, vl, tg.toNatClampNeg)]).length ≤ 16; rw [List.length_append]; exact q.2.1), h6d⟩, h7, (by show cpU z.cp 2 (g_an z.P.length (z.cp 2)) 3 = 0 ∨ 8 < cpU z.cp 2 (g_an z.P.length (z.cp 2)) 3; rw [cpU_ne (by decide)]; exact h8), (by show fI (z.P ++ [(op, rg.toNatClampNeg, vl, tg.toNatClampNeg)]) z.F; rw [eF]; exact fI.nil), h10⟩
  · exact h
theorem v_chg {z : yW} (h : yV z) {k : Nat} (hk : k < 4) (p9 d9 : Int32) : yV (sChg z k p9 d9) := by
  unfold sChg
  split
  · rename_i q
    obtain ⟨h1, h2, h3, h4, h5, ⟨h6, h6b, h6c, h6d⟩, h7, h8, h9, h10⟩ := h
    have hl : (z.C ++ [(k, p9.toNatClampNeg, d9.toNatClampNeg)]).length = z.C.length + 1 := by rw [List.length_append]; rfl
    obtain ⟨pl, dg, -, -, hpl, hdg, ep, ed⟩ := kEd_n q.1
    refine ⟨h1, h2, h3, h4, h5, ⟨h6, (by show z.ac ≤ (z.C ++ [(k, p9.toNatClampNeg, d9.toNatClampNeg)]).length; omega), h6c, (by show (z.C ++ [(k, p9.toNatClampNeg, d9.toNatClampNeg)]).length ≤ 8; omega)⟩, fun j hj => ?_, ?_, h9, h10⟩
    · show ((z.C ++ [(k, p9.toNatClampNeg, d9.toNatClampNeg)]).getD j (0, 0, 0)).2.2 < 8
      have hj : j < z.C.length + 1 := by rw [← hl]; exact hj
      by_cases e : j = z.C.length
      · rw [e, getD_app, ed]; exact hdg
      · rw [getD_apl (by omega)]; exact h7 j (by omega)
    · show cpU z.cp 3 (g_an z.C.length (z.cp 3)) 3 = 0 ∨ 8 < cpU z.cp 3 (g_an z.C.length (z.cp 3)) 3
      rw [cpU_self]
      unfold g_an
      split
      · rename_i e
        rcases h8 with e8 | e8
        · right; rw [e8]; decide
        · omega
      · exact h8
  · exact h
theorem v_alt {z : yW} (h : yV z) {c : Nat} {t : List Nat} (ht : t.length ≤ 8) : yV (sAlt z c t) := by
  unfold sAlt
  split
  · rename_i q
    obtain ⟨⟨h1, h1b⟩, h2, h3, h4, h5, h6, h7, h8, h9, h10⟩ := h
    refine ⟨⟨fun j hj y hy => ?_, fun j => ?_⟩, h2, h3, h4, h5, h6, h7, ?_, h9, h10⟩
    · have hy : y ∈ (if j = c - 65 then z.A (c - 65) ++ [t] else z.A j) := hy
      split at hy
      · rename_i e
        rcases List.mem_append.mp hy with r | r
        · exact h1 (c - 65) (by omega) y r
        · rw [List.mem_singleton.mp r]; exact ⟨q.1.2, ht⟩
      · exact h1 j hj y hy
    · show (if j = c - 65 then z.A (c - 65) ++ [t] else z.A j).length ≤ 3
      split
      · rw [List.length_append]; have := q.2; show _ + 1 ≤ 3; omega
      · exact h1b j
    · show cpU z.cp (5 + (c - 65)) (g_an (z.A (c - 65)).length (z.cp (5 + (c - 65)))) 3 = 0 ∨ 8 < cpU z.cp (5 + (c - 65)) (g_an (z.A (c - 65)).length (z.cp (5 + (c - 65)))) 3
      rw [cpU_ne (by omega)]; exact h8
  · exact h
theorem gLoop_f {P : List mI} {C : List yC} {b : Nat} : ∀ (k : Nat) (cov : Nat → Bool) (K Q : List (List Nat)) (ac : Nat) (F : List yF) (rn tt : Nat) (cp : Nat → Nat) (sp M S : Nat), fI P F → ac ≤ C.length → (rn = 0 → K = [] ∧ F = [] ∧ Q = []) →
    fI P (gLoop P C b k cov K Q ac F rn tt cp sp M S).2.2.2.2.1 ∧ (gLoop P C b k cov K Q ac F rn tt cp sp M S).2.2.2.1 ≤ C.length ∧ ((gLoop P C b k cov K Q ac F rn tt cp sp M S).2.2.2.2.2.1 = 0 → (gLoop P C b k cov K Q ac F rn tt cp sp M S).2.1 = [] ∧ (gLoop P C b k cov K Q ac F rn tt cp sp M S).2.2.2.2.1 = []) := by
  intro k
  induction k with
  | zero => intro cov K Q ac F rn tt cp sp M S h1 h2 h3; exact ⟨h1, h2, fun e => ⟨(h3 e).1, (h3 e).2.1⟩⟩
  | succ k ih =>
    intro cov K Q ac F rn tt cp sp M S h1 h2 h3
    unfold gLoop
    split
    · exact ⟨h1, h2, fun e => ⟨(h3 e).1, (h3 e).2.1⟩⟩
    · rename_i q
      split
      · rename_i f
        unfold gFit at f
        rw [Bool.and_eq_true] at f
        have := of_decide_eq_true f.1
        exact ih _ _ _ _ _ _ _ _ _ _ _ (by rw [tkF_z]; exact h1.take _) (gPa_le this) (fun e => absurd e (Nat.succ_ne_zero _))
      · refine ih _ _ _ _ _ _ _ _ _ _ _ h1 (gPa_le (by unfold gNx; split <;> omega)) (fun e => ?_)
        obtain ⟨e1, e2, e3⟩ := h3 e
        exact absurd (Or.inl (by rw [e3]; rfl)) q
theorem mLoop_fq {P : List mI} {C : List yC} {b : Nat} : ∀ (k : Nat) (cov : Nat → Bool) (K : List (List Nat)) (fq ac : Nat) (F : List yF) (rn tt : Nat) (cp : Nat → Nat) (cK sp M S M9 S9 : Nat) (Z : yR) (Z2 : Nat × Nat × Nat × Nat), fq ≤ K.length →
    gLoop P C b k cov K (K.drop fq) ac F rn tt cp sp M S = Z → mLoop P C b k cov K fq ac F cK sp M9 S9 = Z2 → Z2.1 ≤ Z.2.1.length := by
  intro k
  induction k with
  | zero => intro cov K fq ac F rn tt cp cK sp M S M9 S9 Z Z2 hf h1 h2; subst h1; subst h2; exact hf
  | succ k ih =>
    intro cov K fq ac F rn tt cp cK sp M S M9 S9 Z Z2 hf h1 h2
    unfold gLoop at h1
    unfold mLoop at h2
    have hdl : (K.drop fq).length = K.length - fq := List.length_drop
    by_cases hc : (K.drop fq).length = 0 ∨ ¬ sp < b
    · rw [if_pos hc] at h1
      rw [if_pos (by omega)] at h2
      subst h1; subst h2
      exact hf
    · rw [if_neg hc] at h1
      rw [if_neg (by omega)] at h2
      have hlt : fq < K.length := by omega
      rw [drop_hd hlt] at h1
      obtain ⟨q1, eq1⟩ : ∃ z__, z__ = K.getD fq [] := ⟨_, rfl⟩
      rw [← eq1] at h1 h2
      by_cases hg : gFit C ac q1 = true
      · rw [if_pos hg] at h1 h2
        rw [tkL_drop hf, gPq_drop, tkF_z] at h1
        have hln := tkL_len (b := tkB P (gEd C ac q1) cov) (K := K) (xs := gEd C ac q1)
        exact ih _ _ _ _ _ _ _ _ _ _ _ _ _ _ Z Z2 (gPf_le (by omega)) h1 h2
      · rw [if_neg hg] at h1 h2
        rw [gPq_drop] at h1
        exact ih _ _ _ _ _ _ _ _ _ _ _ _ _ _ Z Z2 (gPf_le hlt) h1 h2
/-- goOn -/
theorem v_go {z : yW} (h : yV z) (n : Int32) : yV (sGo z n) := by
  unfold sGo
  split
  · have h0 := h
    obtain ⟨h1, h2, h3, h4, h5, ⟨h6, h6b, h6c, h6d⟩, h7, h8, h9, h10⟩ := h
    obtain ⟨r1, r2, r3, r4, r5, r6, r7⟩ := go_pair (b := n.toNatClampNeg) h6c h6d h7 (gMe z.cov (z.K.drop z.fq) z.ac + 1) z.cov z.K z.fq z.ac z.F z.rn z.tt z.cp z.cK 0 0 0 0 0 (zgZ z n.toNatClampNeg) (zgM z n.toNatClampNeg) rfl rfl h5 h2 h3 h4 h6 h6b
    have hf := gLoop_f (P := z.P) (C := z.C) (b := n.toNatClampNeg) (gMe z.cov (z.K.drop z.fq) z.ac + 1) z.cov z.K (z.K.drop z.fq) z.ac z.F z.rn z.tt z.cp 0 0 0 h9 h6b (fun e => by obtain ⟨e1, e2⟩ := h10 e; exact ⟨e1, e2, by rw [e1]; exact List.drop_nil⟩)
    have hq : (zgM z n.toNatClampNeg).1 ≤ (zgZ z n.toNatClampNeg).2.1.length := mLoop_fq (P := z.P) (C := z.C) (b := n.toNatClampNeg) (gMe z.cov (z.K.drop z.fq) z.ac + 1) z.cov z.K z.fq z.ac z.F z.rn z.tt z.cp z.cK 0 0 0 0 0 _ _ h6 rfl rfl
    refine ⟨h1, r3, r4, r5, ?_, ⟨hq, hf.2.1, h6c, h6d⟩, h7, ?_, hf.1, hf.2.2⟩
    · show yI z.P (zgZ z n.toNatClampNeg).1 (zgZ z n.toNatClampNeg).2.1 ((zgZ z n.toNatClampNeg).2.1.drop (zgM z n.toNatClampNeg).1) _ _ _
      rw [← r1]; exact r2
    · show (zgZ z n.toNatClampNeg).2.2.2.2.2.2.2.1 3 = 0 ∨ 8 < (zgZ z n.toNatClampNeg).2.2.2.2.2.2.2.1 3
      rw [show (zgZ z n.toNatClampNeg).2.2.2.2.2.2.2.1 3 = z.cp 3 from gLoop_3 _ _ _ _ _ _ _ _ _ _ _ _]
      exact h8
  · exact h
