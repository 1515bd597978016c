/-! the environment at the law's entry, whole *
-/
set_option maxRecDepth 100000
section ENV
variable {s : State} {b : Nat}
theorem e_ac (h : e_ok s b) {ty : FieldType} (hw : Cond.arrayClass ty ∈ lw_tbl) : ∃ c : ClassId, ArrOfT s c ty ∧ s.vm.findClass ("[" ++ ty.toString) = some c := by
  obtain ⟨c, k, comp, f1, f2, f3⟩ := Cond.arrayClass_spec (e_t h hw)
  exact ⟨c, fun N z => ⟨(fun k h => by cases h), k, f2, comp, f3⟩, f1⟩
theorem e_ov (h : e_ok s b) {n : String} (hw : Cond.arrayOver (.object n) ∈ lw_tbl) : ∃ c : ClassId, ArrOfT s c (.object n) ∧ va_RA s c (.object n) := by
  obtain ⟨comp, c, k, g1, g2, g3, g4, g5⟩ := Cond.arrayOver_spec (e_t h hw)
  exact ⟨c, fun N z => ⟨(fun k h => by cases h), k, g3, comp, g4⟩, k, comp, g3, g4, g1, g5⟩
theorem e_cl (h : e_ok s b) : ∀ c : Nat, ∃ p : ClassId × (Nat → Nat), ∀ q, gCl[c]? = some q → u_Kn s q.1 q.2.1 q.2.2 p.1 p.2 := by
  have hts : ∀ w ∈ lw_all, w.before #[Value.ref b] s = true := fun w hw => h.1 w (lw_all_tbl hw)
  intro c
  match c with
  | 0 =>
    obtain ⟨a, i, hk⟩ := u_known (C := RX1) (T := TX1) (N := 11) (n := 11) hts in_X1 (hts _ q120)
    exact ⟨(a, i), fun q hq => by cases hq; exact hk⟩
  | 1 =>
    obtain ⟨a, i, hk⟩ := u_known (C := RX2) (T := TX2) (N := 7) (n := 7) hts in_X2 (hts _ q159)
    exact ⟨(a, i), fun q hq => by cases hq; exact hk⟩
  | 2 =>
    obtain ⟨a, i, hk⟩ := u_known (C := RX11) (T := TX11) (N := 2) (n := 2) hts in_X11 (hts _ q1157)
    exact ⟨(a, i), fun q hq => by cases hq; exact hk⟩
  | 3 =>
    obtain ⟨a, i, hk⟩ := u_known (C := RX7) (T := TX7) (N := 2) (n := 2) hts in_X7 (hts _ q681)
    exact ⟨(a, i), fun q hq => by cases hq; exact hk⟩
  | 4 =>
    obtain ⟨a, i, hk⟩ := u_known (C := RX8) (T := TX8) (N := 2) (n := 2) hts in_X8 (hts _ q694)
    exact ⟨(a, i), fun q hq => by cases hq; exact hk⟩
  | 5 =>
    obtain ⟨a, i, hk⟩ := u_known (C := RX9) (T := TX9) (N := 1) (n := 1) hts in_X9 (hts _ q707)
    exact ⟨(a, i), fun q hq => by cases hq; exact hk⟩
  | 6 =>
    obtain ⟨a, i, hk⟩ := u_known (C := RX10) (T := TX10) (N := 1) (n := 1) hts in_X10 (hts _ q717)
    exact ⟨(a, i), fun q hq => by cases hq; exact hk⟩
  | 7 =>
    obtain ⟨a, i, hk⟩ := u_known (C := RX5) (T := TX5) (N := 4) (n := 4) hts in_X5 (hts _ q99)
    exact ⟨(a, i), fun q hq => by cases hq; exact hk⟩
  | 8 =>
    obtain ⟨a, i, hk⟩ := u_known (C := RX12) (T := TX12) (N := 3) (n := 3) hts in_X12 (hts _ q1527)
    exact ⟨(a, i), fun q hq => by cases hq; exact hk⟩
  | 9 =>
    obtain ⟨a, i, hk⟩ := u_known (C := RX4) (T := TX4) (N := 5) (n := 5) hts in_X4 (hts _ q461)
    exact ⟨(a, i), fun q hq => by cases hq; exact hk⟩
  | 10 =>
    obtain ⟨a, i, hk⟩ := u_known (C := RX3) (T := TX3) (N := 28) (n := 28) hts in_X3 (hts _ q1877)
    exact ⟨(a, i), fun q hq => by cases hq; exact hk⟩
  | 11 =>
    obtain ⟨a, i, hk⟩ := u_known (C := RJ2) (T := TJ2) (N := 3) (n := 3) hts in_J2 (hts _ q126)
    exact ⟨(a, i), fun q hq => by cases hq; exact hk⟩
  | 12 =>
    obtain ⟨a, i, hk⟩ := u_known (C := RJ5) (T := TJ5) (N := 4) (n := 4) hts in_J5 (hts _ q218)
    exact ⟨(a, i), fun q hq => by cases hq; exact hk⟩
  | 13 =>
    obtain ⟨a, i, hk⟩ := u_known (C := RJ9) (T := TJ9) (N := 3) (n := 3) hts in_J9 (hts _ q333)
    exact ⟨(a, i), fun q hq => by cases hq; exact hk⟩
  | 14 =>
    obtain ⟨a, i, hk⟩ := u_known (C := RJ3) (T := TJ3) (N := 3) (n := 3) hts in_J3 (hts _ q165)
    exact ⟨(a, i), fun q hq => by cases hq; exact hk⟩
  | 15 =>
    obtain ⟨a, i, hk⟩ := u_known (C := RJ23) (T := TJ23) (N := 4) (n := 4) hts in_J23 (hts _ q831)
    exact ⟨(a, i), fun q hq => by cases hq; exact hk⟩
  | 16 =>
    obtain ⟨a, i, hk⟩ := u_known (C := RJ16) (T := TJ16) (N := 4) (n := 4) hts in_J16 (hts _ q978)
    exact ⟨(a, i), fun q hq => by cases hq; exact hk⟩
  | 17 =>
    obtain ⟨a, i, hk⟩ := u_known (C := RJ28) (T := TJ28) (N := 4) (n := 4) hts in_J28 (hts _ q1295)
    exact ⟨(a, i), fun q hq => by cases hq; exact hk⟩
  | n + 18 => exact ⟨(0, fun _ => 0), fun q hq => by cases hq⟩
theorem e_env (h : e_ok s b) : ∃ D : va_G, va_K D gCl (gT D) s ∧ g_Env D (fun q => s.heap.size ≤ q) s := by
  have hA : ∀ a : Nat, a < s.heap.size → ¬ (fun q : Nat => s.heap.size ≤ q) a := fun a ha => Nat.not_le.mpr ha
  obtain ⟨f, hf⟩ := Classical.axiomOfChoice (e_cl h)
  obtain ⟨c0, p0, r0⟩ := e_ac h (lw_all_tbl q187)
  obtain ⟨c1, p1, r1⟩ := e_ac h (lw_all_tbl q502)
  obtain ⟨c2, p2, r2⟩ := e_ac h (lw_all_tbl q1969)
  obtain ⟨c3, p3, r3⟩ := e_ac h (lw_all_tbl q188)
  obtain ⟨c4, p4, r4⟩ := e_ov h q312
  obtain ⟨c5, p5, r5⟩ := e_ov h q1883
  obtain ⟨adK, adV, hS, ha⟩ := e_str h hA
  obtain ⟨ao, hop⟩ := e_op h hA
  obtain ⟨av, hver⟩ := e_ver h hA
  obtain ⟨ac, hchg⟩ := e_chg h hA
  obtain ⟨t0, hZe, hTe⟩ := e_em h hA
  obtain ⟨mi, hmi⟩ := e_mi h
  refine ⟨(fun k => if k < 18 then (f k).1 else if k = 100 then c0 else if k = 101 then c1 else if k = 102 then c2 else if k = 103 then c3 else if k = 104 then c4 else c5, fun k => if k < 18 then (f k).2 else if k = 1000 then adK else if k = 1001 then adV else if k = 1002 then ao else if k = 1003 then av else if k = 1004 then ac else fun i => if i = 0 then t0 else mi), ⟨fun c q hq => ?_, fun k q hq => ?_⟩, ?_⟩
  · have hc : c < 18 := (List.getElem?_eq_some_iff.mp hq).1
    have hk := hf c q hq
    show u_Kn s q.1 q.2.1 q.2.2 (if c < 18 then (f c).1 else _) (if c < 18 then (f c).2 else _)
    rw [if_pos hc, if_pos hc]
    exact hk
  · match k, hq with
    | 0, hq => cases hq; exact ⟨p0, r0⟩
    | 1, hq => cases hq; exact ⟨p1, r1⟩
    | 2, hq => cases hq; exact ⟨p2, r2⟩
    | 3, hq => cases hq; exact ⟨p3, r3⟩
    | 4, hq => cases hq; exact ⟨p4, r4⟩
    | 5, hq => cases hq; exact ⟨p5, r5⟩
    | n + 6, hq => cases hq
  · exact ⟨e_cs h hA, e_si h hA, hZe, hTe, e_bs h hA, hS, hop, hver, hchg, e_rs h ha, e_nf h, e_nm h, e_nc h, e_fw h, e_pv h, e_ao h, e_as h, hmi, e_gc h, e_un h hA, e_su h hA, e_d4 h, e_sz h, e_dc h, e_nn h⟩
end ENV
