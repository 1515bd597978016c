/-! ROOM 36: what several different inputs cost *
-/
set_option maxRecDepth 100000
theorem all_7 : ∀ (xs : List Nat), (∀ y ∈ xs, y < 8) → xs.sum = 7 * xs.length → xs = List.replicate xs.length 7
  | [], _, _ => rfl
  | x :: xs, h, hs => by
    have hx := h x List.mem_cons_self
    have hle : ∀ ys : List Nat, (∀ y ∈ ys, y < 8) → ys.sum ≤ 7 * ys.length := by
      intro ys
      induction ys with
      | nil => intro _; exact Nat.le_refl _
      | cons y ys ih =>
        intro hy
        have h1 := hy y List.mem_cons_self
        have h2 := ih (fun z hz => hy z (List.mem_cons_of_mem _ hz))
        rw [List.sum_cons, List.length_cons]
        omega
    have h2 := hle xs (fun z hz => h z (List.mem_cons_of_mem _ hz))
    rw [List.sum_cons, List.length_cons] at hs
    have hx7 : x = 7 := by omega
    have ih := all_7 xs (fun z hz => h z (List.mem_cons_of_mem _ hz)) (by omega)
    rw [List.length_cons, List.replicate_succ, ← ih, hx7]
theorem only_64 {x : List Nat} (hd : sDg x) (h : sMs x = 64) : x = List.replicate 8 7 := by
  have h1 := sMs_8 hd
  have h2 := hd.1
  have h3 : x.length = 8 := by omega
  unfold sMs at h
  have := all_7 x hd.2 (by omega)
  rw [h3] at this
  exact this
theorem sMs_64 {x : List Nat} (hd : sDg x) : sMs x ≤ 64 := by
  have h1 := sMs_8 hd
  have h2 := hd.1
  omega
/-- different inputs: at most one has 64 -/
theorem sum_63 {f : Nat → Nat} (hm : ∀ i j, i ≤ j → f i ≤ f j) : ∀ (l : List (List Nat)), l.Nodup → (∀ x ∈ l, sDg x) → (l.map (fun x => f (sMs x))).sum ≤ l.length * f 63 + (f 64 - f 63) ∧ (List.replicate 8 7 ∉ l → (l.map (fun x => f (sMs x))).sum ≤ l.length * f 63)
  | [], _, _ => ⟨Nat.zero_le _, fun _ => Nat.zero_le _⟩
  | x :: l, hn, hd => by
    obtain ⟨i1, i2⟩ := sum_63 hm l (List.nodup_cons.mp hn).2 (fun y hy => hd y (List.mem_cons_of_mem _ hy))
    have hx := hd x List.mem_cons_self
    have h64 := sMs_64 hx
    have hmm := hm 63 64 (by omega)
    rw [List.map_cons, List.sum_cons, List.length_cons, Nat.succ_mul]
    by_cases q : sMs x = 64
    · have hx7 := only_64 hx q
      have hnot : List.replicate 8 7 ∉ l := by rw [← hx7]; exact (List.nodup_cons.mp hn).1
      have := i2 hnot
      refine ⟨by rw [q]; omega, fun hno => ?_⟩
      exact absurd (by rw [← hx7]; exact List.mem_cons_self) hno
    · have := hm (sMs x) 63 (by omega)
      exact ⟨by omega, fun hno => by have := i2 (fun z => hno (List.mem_cons_of_mem _ z)); omega⟩
/-- the table of three exceptions, as a function of R alone -/
def f3L (R l : Nat) : Nat := if Nat.ble (l + 4) R && Nat.ble R (8 * (l + 4)) then uLook uT3 (l + 4) R 0 3 else 0
def f3 (R : Nat) : Nat := if R < 8 then R * (R + 1) / 2 else if 64 < R then 1936 else max (f3L R 0) (max (f3L R 1) (max (f3L R 2) (max (f3L R 3) (f3L R 4))))
theorem f3_tab : uAll 5 (fun l => uAll 65 (fun R => Nat.blt R (l + 4) || Nat.blt (8 * (l + 4)) R || Nat.ble (uLook uT3 (l + 4) R 0 3) (f3 R))) = true := by decide +kernel
theorem f3_ge {L R : Nat} (h4 : 4 ≤ L) (h8 : L ≤ 8) (hR : L ≤ R) (hR2 : R ≤ 8 * L) : uLook uT3 L R 0 3 ≤ f3 R := by
  have h1 := uAll_t (uAll_t f3_tab (L - 4) (by omega)) R (by omega)
  rw [show L - 4 + 4 = L by omega] at h1
  simp only [Bool.or_eq_true, Nat.blt_eq, Nat.ble_eq] at h1
  omega
theorem f3_step : uAll 64 (fun R => Nat.ble (f3 R) (f3 (R + 1))) = true := by decide +kernel
theorem f3_mono : ∀ i j, i ≤ j → f3 i ≤ f3 j := by
  intro i j h
  obtain ⟨k, rfl⟩ : ∃ k, j = i + k := ⟨j - i, by omega⟩
  induction k with
  | zero => exact Nat.le_refl _
  | succ k ih =>
    refine Nat.le_trans (ih (by omega)) ?_
    rcases Nat.lt_or_ge (i + k) 64 with q | q
    · exact Nat.ble_eq.mp (uAll_t f3_step (i + k) q)
    · have e1 : f3 (i + (k + 1)) = 1936 := by unfold f3; rw [if_neg (by omega), if_pos (by omega)]
      rw [e1]
      by_cases z : i + k = 64
      · rw [z]; decide +kernel
      · unfold f3; rw [if_neg (by omega), if_pos (by omega)]; exact Nat.le_refl _
theorem f3_vals : f3 64 = 1936 ∧ f3 63 = 1876 ∧ f3 62 = 1817 ∧ f3 61 = 1759 ∧ f3 60 = 1702 ∧ f3 59 = 1646 ∧ f3 58 = 1591 ∧ f3 57 = 1537 ∧ f3 56 = 1484 := by decide +kernel
/-- what a code of the first kinds costs -/
theorem cost_f3 {P : List mI} {c : Int32} (h : uOnce P c ∨ ∃ md rk, uRk P c 3 md rk) (n : Nat) {xs : List Nat} (hd : sDg xs) (hf : mFails P xs c = true) : mTr P c n xs ≤ max 1676 (f3 (sMs xs)) := by
  rcases h with h | ⟨md, rk, h⟩
  · exact Nat.le_trans (once_1676 h n hd hf) (Nat.le_max_left _ _)
  · rcases Nat.lt_or_ge xs.length 4 with q | q
    · have h1 := mTr_le P c n xs hd
      have h2 := sMs_8 hd
      have h3 : sMs xs * (sMs xs + 1) ≤ 24 * 25 := Nat.mul_le_mul (by omega) (by omega)
      exact Nat.le_trans (show mTr P c n xs ≤ 1676 by omega) (Nat.le_max_left _ _)
    · refine Nat.le_trans (Nat.le_trans (u1_3 h n hd q hf) (f3_ge q hd.1 (sMs_ge xs) (sMs_8 hd))) (Nat.le_max_right _ _)
