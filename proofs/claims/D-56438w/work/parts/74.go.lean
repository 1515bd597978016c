/-! goOn in plain Lean *
-/
set_option maxRecDepth 100000
theorem ct_imp {p q : Nat → Bool} (h : ∀ j, p j = true → q j = true) : ∀ n, fb_ct p n ≤ fb_ct q n
  | 0 => Nat.le_refl _
  | n + 1 => by
    rw [fb_ct_succ, fb_ct_succ]
    have := ct_imp h n
    cases e : p n
    · simp; omega
    · rw [h n e]; omega
/-- the codes found: each once, each a value of the program -/
def fOk (P : List mI) (F : List yF) : Prop := (F.map (fun f => f.2.2)).Nodup ∧ ∀ f ∈ F, ∃ i ∈ P, i.1 = 7 ∧ i.2.2.1 = f.2.2
def yI (P : List mI) (cov : Nat → Bool) (K Q : List (List Nat)) (F : List yF) (rn tt : Nat) : Prop := K.length ≤ fb_ct cov 320 ∧ (∃ fq, fq ≤ K.length ∧ Q = K.drop fq) ∧ fOk P F ∧ tt ≤ 65 * rn
theorem g_nodup_le {α : Type} : ∀ (xs ys : List α), xs.Nodup → (∀ x ∈ xs, x ∈ ys) → xs.length ≤ ys.length
  | [], _, _, _ => Nat.zero_le _
  | x :: xs, ys, h, k => by
    have hx := k x List.mem_cons_self
    obtain ⟨a, b, rfl⟩ := List.append_of_mem hx
    have h1 := List.nodup_cons.mp h
    have := g_nodup_le xs (a ++ b) h1.2 (fun y hy => by
      have h2 := k y (List.mem_cons_of_mem _ hy)
      rcases List.mem_append.mp h2 with h2 | h2
      · exact List.mem_append_left _ h2
      · rcases List.mem_cons.mp h2 with h2 | h2
        · exact absurd (h2 ▸ hy) h1.1
        · exact List.mem_append_right _ h2)
    simp only [List.length_append, List.length_cons] at this ⊢
    omega
theorem fOk.le {P : List mI} {F : List yF} (h : fOk P F) : F.length ≤ P.length := by
  have := g_nodup_le (F.map (fun f => f.2.2)) (P.map (fun i => i.2.2.1)) h.1 (fun c hc => by
    obtain ⟨f, hf, rfl⟩ := List.mem_map.mp hc
    obtain ⟨i, hi, -, e⟩ := h.2 f hf
    exact List.mem_map.mpr ⟨i, hi, e⟩)
  simpa using this
theorem m_fail {P : List mI} {xs : List Nat} : ∀ (k ad : Nat) (g : Nat → Int32) (rd st : Nat), (mRun P xs k ad g rd st).1 = 1 → ∃ i ∈ P, i.1 = 7 ∧ (mRun P xs k ad g rd st).2.1 = some i.2.2.1 := by
  intro k
  induction k with
  | zero => intro ad g rd st h; cases h
  | succ k ih =>
    intro ad g rd st h
    unfold mRun at h ⊢
    split at h
    · rename_i q
      rw [if_pos q]
      split at h
      · rename_i q2
        refine ⟨P.getD ad mI0, List.mem_of_getElem? (by rw [List.getD_eq_getElem?_getD, List.getElem?_eq_getElem q]; rfl), ?_, rfl⟩
        by_cases e : (P.getD ad mI0).1 = 7
        · exact e
        · rw [if_neg e] at h; cases h
      · split at h
        · cases h
        · rename_i q3
          rw [if_neg q3]
          exact ih _ _ _ _ h
    · cases h
theorem mCode_in {P : List mI} {xs : List Nat} (h : (mOut P xs).1 = 1) : ∃ i ∈ P, i.1 = 7 ∧ i.2.2.1 = mCode P xs := by
  unfold mCode
  rw [mOut_eq] at h ⊢
  obtain ⟨i, h1, h2, h3⟩ := m_fail _ _ _ _ _ h
  exact ⟨i, h1, h2, by rw [h3]; rfl⟩
theorem fnd_not {F : List yF} {c : Int32} (h : fnd F c = false) : c ∉ F.map (fun f => f.2.2) := fun hc => by
  obtain ⟨f, hf, e⟩ := List.mem_map.mp hc
  unfold fnd at h
  rw [List.any_eq_false] at h
  exact h f hf (beq_iff_eq.mpr e)
theorem fOk.take {P : List mI} {F : List yF} (h : fOk P F) (xs : List Nat) (cp : Nat → Nat) : fOk P (tkF P xs F cp) := by
  unfold tkF tF
  split
  · rename_i hf
    unfold tFl at hf
    have hv : (mOut P xs).1 = 1 := by by_cases e : (mOut P xs).1 = 1; exact e; rw [decide_eq_false e, Bool.false_and] at hf; cases hf
    have hn : fnd F (mCode P xs) = false := by cases q : fnd F (mCode P xs); rfl; rw [q, Bool.not_true, Bool.and_false] at hf; exact absurd hf (by decide)
    refine ⟨?_, fun f hm => ?_⟩
    · rw [List.map_append, List.nodup_append]
      exact ⟨h.1, by simp, fun a ha b hb e => fnd_not hn (by have hb := List.mem_singleton.mp hb; rw [← (show b = mCode P xs from hb), ← e]; exact ha)⟩
    · rcases List.mem_append.mp hm with hm | hm
      · exact h.2 f hm
      · rw [List.mem_singleton.mp hm]; exact mCode_in hv
  · exact h
theorem drop_app {K : List (List Nat)} {fq : Nat} {x : List Nat} (h : fq ≤ K.length) : K.drop fq ++ [x] = (K ++ [x]).drop fq := (List.drop_append_of_le_length h).symm
theorem yI.take {P : List mI} {cov : Nat → Bool} {K Q : List (List Nat)} {F : List yF} {rn tt : Nat} (h : yI P cov K Q F rn tt) (xs : List Nat) (cp : Nat → Nat) : yI P (cvO cov (mOut P xs).2.2.2) (tkL (tkB P xs cov) K xs) (tkL (tkB P xs cov) Q xs) (tkF P xs F cp) (rn + 1) (tt + (mOut P xs).2.2.1) := by
  obtain ⟨h1, ⟨fq, h2, rfl⟩, h3, h4⟩ := h
  have hs := mOut_steps (P := P) (xs := xs)
  have hle : fb_ct cov 320 ≤ fb_ct (cvO cov (mOut P xs).2.2.2) 320 := ct_imp (fun j hj => by unfold cvO; rw [hj]; rfl) 320
  refine ⟨?_, ?_, h3.take xs cp, by omega⟩
  · unfold tkL
    split
    · rename_i e
      unfold tkB at e
      rw [Bool.and_eq_true] at e
      have e1 := of_decide_eq_true e.1
      rw [List.length_append]
      show K.length + 1 ≤ _
      omega
    · omega
  · unfold tkL
    split
    · exact ⟨fq, by rw [List.length_append]; omega, drop_app h2⟩
    · exact ⟨fq, h2, rfl⟩
theorem yI.pop {P : List mI} {cov : Nat → Bool} {K Q : List (List Nat)} {F : List yF} {rn tt : Nat} (h : yI P cov K Q F rn tt) : yI P cov K Q.tail F rn tt := by
  obtain ⟨h1, ⟨fq, h2, rfl⟩, h3, h4⟩ := h
  refine ⟨h1, ?_, h3, h4⟩
  by_cases e : fq = K.length
  · exact ⟨fq, h2, by rw [e, List.drop_length]; rfl⟩
  · exact ⟨fq + 1, by omega, by rw [List.tail_drop]⟩
theorem yI.q {P : List mI} {cov : Nat → Bool} {K Q : List (List Nat)} {F : List yF} {rn tt : Nat} (h : yI P cov K Q F rn tt) : Q.length ≤ K.length ∧ (∀ q ∈ Q, q ∈ K) ∧ K.length ≤ 320 := by
  obtain ⟨h1, ⟨fq, h2, rfl⟩, h3, h4⟩ := h
  have := fb_ct_le cov 320
  exact ⟨by rw [List.length_drop]; omega, fun q hq => List.mem_of_mem_drop hq, by omega⟩
abbrev yR : Type := (Nat → Bool) × List (List Nat) × List (List Nat) × Nat × List yF × Nat × Nat × (Nat → Nat) × Nat × Nat × Nat
def gPq (C : List yC) (ac : Nat) (Q : List (List Nat)) : List (List Nat) := if ac = C.length then Q.tail else Q
def gPa (C : List yC) (ac : Nat) : Nat := if ac = C.length then 0 else ac
def gFit (C : List yC) (ac : Nat) (q : List Nat) : Bool := decide (ac < C.length) && eFits (C.getD ac (0, 0, 0)).1 (C.getD ac (0, 0, 0)).2.1 (C.getD ac (0, 0, 0)).2.2 q
def gEd (C : List yC) (ac : Nat) (q : List Nat) : List Nat := eAct (C.getD ac (0, 0, 0)).1 (C.getD ac (0, 0, 0)).2.1 (C.getD ac (0, 0, 0)).2.2 q
def gNx (C : List yC) (ac : Nat) : Nat := if ac < C.length then ac + 1 else ac
/-- goOn's loop; M, S: the cells and slots that its takes cost -/
noncomputable def gLoop (P : List mI) (C : List yC) (b : Nat) : Nat → (Nat → Bool) → List (List Nat) → List (List Nat) → Nat → List yF → Nat → Nat → (Nat → Nat) → Nat → Nat → Nat → yR
  | 0, cov, K, Q, ac, F, rn, tt, cp, sp, M, S => (cov, K, Q, ac, F, rn, tt, cp, sp, M, S)
  | k + 1, cov, K, Q, ac, F, rn, tt, cp, sp, M, S =>
    if Q.length = 0 ∨ ¬ sp < b then (cov, K, Q, ac, F, rn, tt, cp, sp, M, S)
    else if gFit C ac (Q.headD []) = true then
      gLoop P C b k (cvO cov (mOut P (gEd C ac (Q.headD []))).2.2.2) (tkL (tkB P (gEd C ac (Q.headD [])) cov) K (gEd C ac (Q.headD []))) (gPq C (ac + 1) (tkL (tkB P (gEd C ac (Q.headD [])) cov) Q (gEd C ac (Q.headD [])))) (gPa C (ac + 1)) (tkF P (gEd C ac (Q.headD [])) F cp) (rn + 1) (tt + (mOut P (gEd C ac (Q.headD []))).2.2.1) (tkC P (gEd C ac (Q.headD [])) cov K F cp) (sp + 1) (M + tkM P (gEd C ac (Q.headD [])) cov K F cp) (S + tkS P (gEd C ac (Q.headD [])) cov K F cp)
    else gLoop P C b k cov K (gPq C (gNx C ac) Q) (gPa C (gNx C ac)) F rn tt cp sp M S
theorem gLoop_mono {P : List mI} {C : List yC} {b : Nat} : ∀ (k : Nat) (cov : Nat → Bool) (K Q : List (List Nat)) (ac : Nat) (F : List yF) (rn tt : Nat) (cp : Nat → Nat) (sp M S : Nat), M ≤ (gLoop P C b k cov K Q ac F rn tt cp sp M S).2.2.2.2.2.2.2.2.2.1 ∧ S ≤ (gLoop P C b k cov K Q ac F rn tt cp sp M S).2.2.2.2.2.2.2.2.2.2 := by
  intro k
  induction k with
  | zero => intro cov K Q ac F rn tt cp sp M S; exact ⟨Nat.le_refl _, Nat.le_refl _⟩
  | succ k ih =>
    intro cov K Q ac F rn tt cp sp M S
    unfold gLoop
    split
    · exact ⟨Nat.le_refl _, Nat.le_refl _⟩
    · split
      · obtain ⟨h1, h2⟩ := ih (cvO cov (mOut P (gEd C ac (Q.headD []))).2.2.2) (tkL (tkB P (gEd C ac (Q.headD [])) cov) K (gEd C ac (Q.headD []))) (gPq C (ac + 1) (tkL (tkB P (gEd C ac (Q.headD [])) cov) Q (gEd C ac (Q.headD [])))) (gPa C (ac + 1)) (tkF P (gEd C ac (Q.headD [])) F cp) (rn + 1) (tt + (mOut P (gEd C ac (Q.headD []))).2.2.1) (tkC P (gEd C ac (Q.headD [])) cov K F cp) (sp + 1) (M + tkM P (gEd C ac (Q.headD [])) cov K F cp) (S + tkS P (gEd C ac (Q.headD [])) cov K F cp)
        exact ⟨by omega, by omega⟩
      · exact ih _ _ _ _ _ _ _ _ _ _ _
def gMe (cov : Nat → Bool) (Q : List (List Nat)) (ac : Nat) : Nat := 9 * (Q.length + (320 - fb_ct cov 320)) - ac
theorem gPq_me {C : List yC} {Q : List (List Nat)} {ac : Nat} (hC : C.length ≤ 8) (ha : ac ≤ C.length) (hQ : Q ≠ []) (n : Nat) : 9 * ((gPq C ac Q).length + n) - gPa C ac ≤ 9 * (Q.length + n) - ac := by
  unfold gPq gPa
  have : 0 < Q.length := List.length_pos_iff.mpr hQ
  split
  · rw [List.length_tail]; omega
  · omega
theorem gPa_le {C : List yC} {ac : Nat} (ha : ac ≤ C.length) : gPa C ac ≤ C.length := by unfold gPa; split <;> omega
theorem yI.pq {P : List mI} {C : List yC} {ac : Nat} {cov : Nat → Bool} {K Q : List (List Nat)} {F : List yF} {rn tt : Nat} (h : yI P cov K Q F rn tt) : yI P cov K (gPq C ac Q) F rn tt := by
  unfold gPq
  split
  · exact h.pop
  · exact h
theorem tkL_len {b : Bool} {K : List (List Nat)} {xs : List Nat} : (tkL b K xs).length = K.length + (if b = true then 1 else 0) := by unfold tkL; split <;> simp
theorem gMe_take {P : List mI} {xs : List Nat} {cov : Nat → Bool} {Q : List (List Nat)} : (tkL (tkB P xs cov) Q xs).length + (320 - fb_ct (cvO cov (mOut P xs).2.2.2) 320) ≤ Q.length + (320 - fb_ct cov 320) := by
  have hle : fb_ct cov 320 ≤ fb_ct (cvO cov (mOut P xs).2.2.2) 320 := ct_imp (fun j hj => by unfold cvO; rw [hj]; rfl) 320
  have := fb_ct_le (cvO cov (mOut P xs).2.2.2) 320
  rw [tkL_len]
  split
  · rename_i e
    unfold tkB at e
    rw [Bool.and_eq_true] at e
    have e1 := of_decide_eq_true e.1
    omega
  · omega
