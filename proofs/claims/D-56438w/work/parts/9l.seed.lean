/-! ROOM 12: how large the digits of an input are *
-/
set_option maxRecDepth 100000
theorem rm_mem {α : Type} {l : List α} {i : Nat} {d : α} (h : i < l.length) : l.getD i d ∈ l := by
  rw [List.getD_eq_getElem?_getD, List.getElem?_eq_getElem h]
  exact List.getElem_mem h
/-- what the digits have above 3 -/
def eP (xs : List Nat) : Nat := (xs.map (fun x => x - 3)).sum
theorem eP_cons (x : Nat) (xs : List Nat) : eP (x :: xs) = (x - 3) + eP xs := by unfold eP; rw [List.map_cons, List.sum_cons]
theorem sMs_eP : ∀ xs : List Nat, sMs xs ≤ 4 * xs.length + eP xs
  | [] => Nat.le_refl _
  | x :: xs => by
    have := sMs_eP xs
    rw [eP_cons]
    unfold sMs at this ⊢
    rw [List.sum_cons, List.length_cons]
    omega
theorem sMs_32 {xs : List Nat} (h : sDg xs) : sMs xs ≤ 32 + eP xs := by
  have := sMs_eP xs
  have := h.1
  omega
theorem eP_set : ∀ (xs : List Nat) (p e : Nat), p < xs.length → eP (xs.set p e) + (xs.getD p 0 - 3) = eP xs + (e - 3)
  | [], _, _, h => absurd h (by simp)
  | x :: xs, 0, e, _ => by rw [List.set_cons_zero, eP_cons, eP_cons]; show _ + (x - 3) = _; omega
  | x :: xs, p + 1, e, h => by
    have := eP_set xs p e (by simpa using h)
    rw [List.set_cons_succ, eP_cons, eP_cons]
    show _ + (xs.getD p 0 - 3) = _
    omega
theorem eP_ins : ∀ (xs : List Nat) (p e : Nat), p ≤ xs.length → eP (xs.insertIdx p e) = eP xs + (e - 3)
  | xs, 0, e, _ => by rw [List.insertIdx_zero, eP_cons]; omega
  | [], p + 1, e, h => absurd h (by simp)
  | x :: xs, p + 1, e, h => by
    have := eP_ins xs p e (by simpa using h)
    rw [List.insertIdx_succ_cons, eP_cons, eP_cons]
    omega
theorem eP_del : ∀ (xs : List Nat) (p : Nat), eP (xs.eraseIdx p) ≤ eP xs
  | [], _ => Nat.le_refl _
  | x :: xs, 0 => by rw [List.eraseIdx_cons_zero, eP_cons]; omega
  | x :: xs, p + 1 => by
    have := eP_del xs p
    rw [List.eraseIdx_cons_succ, eP_cons, eP_cons]
    omega
/-- a change adds at most 4 -/
theorem eP_act {k pl dg : Nat} {xs : List Nat} (hd : dg < 8) (hf : eFits k pl dg xs = true) : eP (eAct k pl dg xs) ≤ eP xs + 4 := by
  unfold eFits at hf
  unfold eAct
  by_cases q0 : k = 0
  · rw [if_pos q0] at hf ⊢
    have := eP_set xs pl dg (of_decide_eq_true hf).1
    omega
  · rw [if_neg q0] at hf ⊢
    by_cases q1 : k = 1
    · rw [if_pos q1] at hf ⊢
      have := eP_ins xs pl dg (of_decide_eq_true hf).1
      omega
    · rw [if_neg q1] at hf ⊢
      by_cases q2 : k = 2
      · rw [if_pos q2]
        have := eP_del xs pl
        omega
      · rw [if_neg q2] at hf ⊢
        have hp := (of_decide_eq_true hf).1
        have h1 := eP_set xs pl (xs.getD (pl + 1) 0) (by omega)
        have h2 := eP_set (xs.set pl (xs.getD (pl + 1) 0)) (pl + 1) (xs.getD pl 0) (by rw [List.length_set]; exact hp)
        have h3 : (xs.set pl (xs.getD (pl + 1) 0)).getD (pl + 1) 0 = xs.getD (pl + 1) 0 := by
          rw [List.getD_eq_getElem?_getD, List.getElem?_set_ne (by omega), ← List.getD_eq_getElem?_getD]
        rw [h3] at h2
        omega
/-- of a text: its digits above 3, its symbols, its digits -/
def tE (t : List Nat) : Nat := (t.map (fun c => if kKind c = 0 then c - 51 else 0)).sum
def tS (t : List Nat) : Nat := (t.map (fun c => if kKind c = 1 then 1 else 0)).sum
def tD9 (t : List Nat) : Nat := (t.map (fun c => if kKind c = 0 then 1 else 0)).sum
theorem map_rp {f : Nat → Nat} {t y : List Nat} {ad : Nat} (h : ad < t.length) : ((rpT t ad y).map f).sum + f (t.getD ad 0) = (t.map f).sum + (y.map f).sum := by
  have e : t = t.take ad ++ t.getD ad 0 :: t.drop (ad + 1) := by
    have h1 : t.drop ad = t.getD ad 0 :: t.drop (ad + 1) := by
      rw [List.drop_eq_getElem_cons h, List.getD_eq_getElem?_getD, List.getElem?_eq_getElem h]
      rfl
    rw [← h1, List.take_append_drop]
  have e2 : (t.map f).sum = ((t.take ad).map f).sum + (f (t.getD ad 0) + ((t.drop (ad + 1)).map f).sum) := by
    conv => lhs; rw [e]
    rw [List.map_append, List.sum_append, List.map_cons, List.sum_cons]
  unfold rpT
  rw [e2, List.map_append, List.map_append, List.sum_append, List.sum_append]
  omega
/-- the texts that can be alternatives -/
def gAl (y : List Nat) : Prop := (tS y = 0 ∧ (tE y ≤ 4 ∨ (tD9 y = 8 ∧ tE y ≤ 16)) ∧ tE y ≤ 4 * tD9 y) ∨ (tS y ≤ 2 ∧ tS y ≠ 0 ∧ tE y = 0)
theorem gAl_tx : ∀ i, i < 14 → kHas (gTx.getD i []) 1 = true → (tS (gTx.getD i []) = 0 ∧ (tE (gTx.getD i []) ≤ 4 ∨ (tD9 (gTx.getD i []) = 8 ∧ tE (gTx.getD i []) ≤ 16)) ∧ tE (gTx.getD i []) ≤ 4 * tD9 (gTx.getD i [])) ∨ (tS (gTx.getD i []) ≤ 2 ∧ tS (gTx.getD i []) ≠ 0 ∧ tE (gTx.getD i []) = 0) := by decide +kernel
theorem gAl_of {a : Int32} (h : kHas (lTx a) 1 = true) : gAl (lTx a) := gAl_tx (fMod a 14) (fMod_lt (by decide)) h
/-- all alternatives are such texts -/
def aAl (A : Nat → List (List Nat)) : Prop := ∀ j, j < 4 → ∀ y ∈ A j, gAl y
def tInv (t : List Nat) (u : Nat) : Prop := ∃ l w, tE t ≤ 4 * l + 12 * w ∧ 2 * l + tS t ≤ u + 1 ∧ tE t + 16 * w ≤ 4 * tD9 t
theorem tD9_le : ∀ t : List Nat, tD9 t ≤ t.length
  | [] => Nat.le_refl _
  | c :: t => by
    have := tD9_le t
    unfold tD9 at this ⊢
    rw [List.map_cons, List.sum_cons, List.length_cons]
    split <;> omega
theorem tInv_step {t y : List Nat} {ad u : Nat} (h : tInv t u) (ha : ad < t.length) (hk : kKind (t.getD ad 0) = 1) (hy : gAl y) : tInv (rpT t ad y) (u + 1) := by
  obtain ⟨l, w, h1, h2, h3⟩ := h
  have e1 := map_rp (f := fun c => if kKind c = 0 then c - 51 else 0) (y := y) ha
  have e2 := map_rp (f := fun c => if kKind c = 1 then 1 else 0) (y := y) ha
  have e3 := map_rp (f := fun c => if kKind c = 0 then 1 else 0) (y := y) ha
  rw [if_neg (by rw [hk]; decide)] at e1 e3
  rw [if_pos hk] at e2
  have e1 : tE (rpT t ad y) + 0 = tE t + tE y := e1
  have e2 : tS (rpT t ad y) + 1 = tS t + tS y := e2
  have e3 : tD9 (rpT t ad y) + 0 = tD9 t + tD9 y := e3
  rcases hy with ⟨a1, a2 | ⟨a2, a3⟩, a4⟩ | ⟨a1, a2, a3⟩
  · exact ⟨l + 1, w, by omega, by omega, by omega⟩
  · exact ⟨l + 1, w + 1, by omega, by omega, by omega⟩
  · exact ⟨l, w, by omega, by omega, by omega⟩
theorem kKind_lt {t : List Nat} (ht : kHas t 1 = true) (h : kFirst t < t.length) : kKind (t.getD (kFirst t) 0) = 1 := by
  have h1 := kFirst_ne t h
  have h2 := kHas_mem.mp ht _ (g_mem h)
  omega
theorem rm_first : ∀ t : List Nat, ¬ kFirst t < t.length → ∀ c ∈ t, kKind c = 0
  | [], _, c, hc => by cases hc
  | d :: t, h, c, hc => by
    unfold kFirst at h
    by_cases e : kKind d = 0
    · rw [if_pos e] at h
      rcases List.mem_cons.mp hc with rfl | hc
      · exact e
      · exact rm_first t (by simp at h ⊢; omega) c hc
    · rw [if_neg e] at h
      simp at h
theorem dv_eP {A : Nat → List (List Nat)} (hA : aOk A) (hG : aAl A) : ∀ (k lf : Nat) (t : List Nat) (u : Nat), u + k ≤ 12 → kHas t 1 = true → tInv t u → (dv A k lf t (kFirst t)).1 = 0 → tE (dv A k lf t (kFirst t)).2 ≤ 24 ∧ ∀ c ∈ (dv A k lf t (kFirst t)).2, kKind c = 0 := by
  have hend : ∀ (t : List Nat) (u : Nat), u ≤ 12 → tInv t u → ¬ (kFirst t < t.length ∨ 8 < t.length) → tE t ≤ 24 ∧ ∀ c ∈ t, kKind c = 0 := by
    intro t u hu ⟨l, w, h1, h2, h3⟩ h
    have h4 := tD9_le t
    refine ⟨?_, rm_first t (fun z => h (.inl z))⟩
    have h5 : t.length ≤ 8 := by omega
    rcases Nat.eq_zero_or_pos w with q | q
    · subst q; omega
    · omega
  intro k
  induction k with
  | zero =>
    intro lf t u hu ht hi h
    rw [dv_end (.inl rfl)] at h ⊢
    split at h
    · cases h
    · rename_i q
      rw [if_neg q]
      exact hend t u (by omega) hi q
  | succ k ih =>
    intro lf t u hu ht hi h
    by_cases q : kFirst t < t.length
    · have hk := kKind_lt ht q
      obtain ⟨k1, k2⟩ := kKind_1 ht q
      rw [dv, if_pos q] at h ⊢
      split at h
      · cases h
      · rename_i q2
        rw [if_neg q2]
        have hmem : (A (t.getD (kFirst t) 0 - 65)).getD (lf % (A (t.getD (kFirst t) 0 - 65)).length) [] ∈ A (t.getD (kFirst t) 0 - 65) := by
          have hlt : lf % (A (t.getD (kFirst t) 0 - 65)).length < (A (t.getD (kFirst t) 0 - 65)).length := Nat.mod_lt _ (by omega)
          exact rm_mem hlt
        exact ih _ _ (u + 1) (by omega) (kHas_rp ht (hA _ (by omega) _ hmem).1) (tInv_step hi q hk (hG _ (by omega) _ hmem)) h
    · rw [dv_end (.inr q)] at h ⊢
      split at h
      · cases h
      · rename_i q2
        rw [if_neg q2]
        exact hend t u (by omega) hi q2
theorem eP_digs : ∀ t : List Nat, (∀ c ∈ t, kKind c = 0) → eP (digs t) = tE t
  | [], _ => rfl
  | c :: t, h => by
    have ih := eP_digs t (fun d hd => h d (List.mem_cons_of_mem _ hd))
    show eP ((c - 48) :: digs t) = tE (c :: t)
    rw [eP_cons, ih]
    unfold tE
    rw [List.map_cons, List.sum_cons, if_pos (h c List.mem_cons_self)]
    omega
/-- a derived input has at most 24 above 3 -/
theorem dvN_eP {A : Nat → List (List Nat)} {n : Int32} (hA : aOk A) (hG : aAl A) (h : (dvN A n).1 = 0) : eP (digs (dvN A n).2) ≤ 24 := by
  obtain ⟨h1, h2⟩ := dv_eP hA hG 12 n.toNatClampNeg [65] 0 (Nat.le_refl _) rfl ⟨0, 0, by decide, by decide, by decide⟩ h
  have e := eP_digs (dvN A n).2 h2
  have h1 : tE (dvN A n).2 ≤ 24 := h1
  omega
theorem tx_eP : ∀ i, i < 14 → eP (digs (gTx.getD i [])) ≤ 16 ∨ ¬ inB (gTx.getD i []) = true := by decide +kernel
theorem lTx_eP {a : Int32} (h : inB (lTx a) = true) : eP (digs (lTx a)) ≤ 16 := (tx_eP (fMod a 14) (fMod_lt (by decide))).resolve_right (fun z => z h)
