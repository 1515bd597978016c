/-! ROOM 40: capacities stay small *
-/
set_option maxRecDepth 100000
theorem mOut_e320 {P : List mI} (hP : P.length ≤ 16) {xs : List Nat} {x : Nat} (h : x ∈ (mOut P xs).2.2.2) : x < 320 := by
  obtain ⟨n, t, u, -, -, h3, -, h5⟩ := rE_iff.mp h
  have := (rS_some h3).1
  omega
theorem g_bn_8 {q cap : Nat} (hq : q ≤ 5) (hc : cap ≤ 8) : g_bn q cap ≤ 8 := by
  unfold g_bn
  split
  · omega
  · exact hc
theorem bsC_8 : ∀ (es : List Nat) (cap : Nat), (∀ x ∈ es, x < 320) → cap ≤ 8 → bsC cap es ≤ 8
  | [], cap, _, h => h
  | x :: es, cap, hx, h => bsC_8 es _ (fun y hy => hx y (List.mem_cons_of_mem _ hy)) (g_bn_8 (by have := hx x List.mem_cons_self; omega) h)
theorem bsN_5 : ∀ (es : List Nat) (n : Nat), (∀ x ∈ es, x < 320) → n ≤ 5 → bsN n es ≤ 5
  | [], n, _, h => h
  | x :: es, n, hx, h => bsN_5 es _ (fun y hy => hx y (List.mem_cons_of_mem _ hy)) (by have := hx x List.mem_cons_self; omega)
theorem run_8 {P : List mI} (hP : P.length ≤ 16) (xs : List Nat) {cap : Nat} (h : cap ≤ 8) : bsC cap (mOut P xs).2.2.2 ≤ 8 := bsC_8 _ _ (fun _ hx => mOut_e320 hP hx) h
theorem sFind_8 {P : List mI} (hP : P.length ≤ 16) (c : Int32) : ∀ (ys : List (List Nat)) (cap : Nat), cap ≤ 8 → (sFind P c ys cap).2 ≤ 8
  | [], _, h => h
  | y :: ys, cap, h => by
    unfold sFind
    split
    · exact run_8 hP y h
    · exact sFind_8 hP c ys _ (run_8 hP y h)
theorem sShr_8 {P : List mI} (hP : P.length ≤ 16) (c : Int32) : ∀ (k : Nat) (xs : List Nat) (cap : Nat), cap ≤ 8 → (sShr P c k xs cap).2 ≤ 8
  | 0, _, _, h => h
  | k + 1, xs, cap, h => by
    unfold sShr
    split
    · exact sShr_8 hP c k _ _ (sFind_8 hP c _ cap h)
    · exact sFind_8 hP c _ cap h
theorem rFold_8 {P : List mI} (hP : P.length ≤ 16) : ∀ (ys : List (List Nat)) (cap : Nat), cap ≤ 8 → rFold P ys cap ≤ 8
  | [], _, h => h
  | y :: ys, _, h => rFold_8 hP ys _ (run_8 hP y h)
theorem rF2_8 {P : List mI} (hP : P.length ≤ 16) : ∀ (ys : List (List Nat)) (c : Nat), c ≤ 8 → rF2 P ys c ≤ 8
  | [], _, h => h
  | y :: ys, _, h => rF2_8 hP ys _ (g_bn_8 (bsN_5 _ _ (fun _ hx => mOut_e320 hP hx) (by omega)) h)
def cpOk (cp : Nat → Nat) : Prop := cp 9 ≤ 8 ∧ cp 10 ≤ 8
theorem cpOk_take {P : List mI} (hP : P.length ≤ 16) {xs : List Nat} {cov : Nat → Bool} {K : List (List Nat)} {F : List yF} {cp : Nat → Nat} (h : cpOk cp) : cpOk (tkC P xs cov K F cp) := by
  have e9 := tkC0_9 (P := P) (xs := xs) (cov := cov) (K := K) (cp := cp)
  have e10 : tkC0 P xs cov K cp 10 = g_bn (bsN 0 (mOut P xs).2.2.2) (cp 10) := by unfold tkC0; split <;> rfl
  have h9 : tkC0 P xs cov K cp 9 ≤ 8 := by rw [e9]; exact run_8 hP xs h.1
  have h10 : tkC0 P xs cov K cp 10 ≤ 8 := by rw [e10]; exact g_bn_8 (bsN_5 _ _ (fun _ hx => mOut_e320 hP hx) (by omega)) h.2
  unfold tkC tCq
  split
  · exact ⟨sShr_8 hP _ _ _ _ h9, h10⟩
  · exact ⟨h9, h10⟩
theorem cpOk_go {P : List mI} (hP : P.length ≤ 16) {C : List yC} {b : Nat} : ∀ (k : Nat) (cov : Nat → Bool) (K Q : List (List Nat)) (ac : Nat) (F : List yF) (rn tt : Nat) (cp : Nat → Nat) (sp M S : Nat), cpOk cp → cpOk (gLoop P C b k cov K Q ac F rn tt cp sp M S).2.2.2.2.2.2.2.1 := by
  intro k
  induction k with
  | zero => intro cov K Q ac F rn tt cp sp M S h; exact h
  | succ k ih =>
    intro cov K Q ac F rn tt cp sp M S h
    unfold gLoop
    split
    · exact h
    · split
      · exact ih _ _ _ _ _ _ _ _ _ _ _ (cpOk_take hP h)
      · exact ih _ _ _ _ _ _ _ _ _ _ _ h
theorem tx_sMs : ∀ i, i < 14 → sMs (digs (gTx.getD i [])) ≤ 36 ∨ ¬ inB (gTx.getD i []) = true := by decide +kernel
theorem lTx_sMs {a : Int32} (h : inB (lTx a) = true) : sMs (digs (lTx a)) ≤ 36 := (tx_sMs (fMod a 14) (fMod_lt (by decide))).resolve_right (fun z => z h)
theorem tri_36 {R m : Nat} (h : R ≤ 36) (h2 : 2 * m ≤ R * (R + 1)) : m ≤ 666 := by
  have : R * (R + 1) ≤ 36 * 37 := Nat.mul_le_mul h (by omega)
  omega
theorem shN_le {P : List mI} {a : Int32} : shN P (lTx a) ≤ 666 := by
  unfold shN
  split
  · rename_i h
    have hd : sDg (digs (lTx a)) := by
      have h1 := h.1
      unfold inB at h1
      simp only [Bool.and_eq_true, decide_eq_true_eq] at h1
      exact digs_ok h1.1 h1.2
    exact tri_36 (lTx_sMs h.1) (mTr_le P (mCode P (digs (lTx a))) (sMs (digs (lTx a)) + 1) (digs (lTx a)) hd)
  · omega
theorem frN_le {P : List mI} {a : Int32} : frN P (lTx a) ≤ 36 := by
  unfold frN
  split
  · rename_i h; exact lTx_sMs h.1
  · omega
theorem oc_tab : ∀ n, n < 4 → (octs 0 n).length ≤ 585 := by decide +kernel
theorem ocN_le {n : Int32} : ocN n ≤ 585 := by
  unfold ocN
  split
  · rename_i h
    refine oc_tab _ ?_
    have h2 := Int32.le_iff_toInt_le.mp h.2
    have e : (3 : Int32).toInt = 3 := rfl
    show n.toInt.toNat < 4
    omega
  · omega
