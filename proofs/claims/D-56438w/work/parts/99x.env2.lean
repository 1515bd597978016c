/-! the environment at the law's entry: strings and constants, told apart by what they hold *
-/
set_option maxRecDepth 100000
theorem e_OF {o n d : String} {v v' : Value} {t : Nat} {A : Nat → Prop} {U : State} {H : Heap} (h : va_OF o n d v t A U H) (k : va_OF o n d v' t A U H) : v = v' := by
  obtain ⟨cf, k1, i, f, cell, a1, a2, a3, a4, a5, a6⟩ := h
  obtain ⟨cf', k1', i', f', cell', b1, b2, b3, b4, b5, b6⟩ := k
  rw [a1] at b1
  cases b1
  rw [a3] at b3
  cases b3
  exact Option.some.inj (a5.symm.trans b5)
theorem e_T {ty : FieldType} {t N N' : Nat} {f f' : Nat → Value} {A : Nat → Prop} {U : State} {H : Heap} (h : va_T ty t N f A U H) (k : va_T ty t N' f' A U H) (hN : N < 2 ^ 31) (hN' : N' < 2 ^ 31) : N = N' ∧ ∀ j, j < N → f j = f' j := by
  obtain ⟨c1, a1, a2, a3, a4, a5, a6, a7⟩ := h
  obtain ⟨c2, b1, b2, b3, b4, b5, b6, b7⟩ := k
  rw [a1] at b1
  cases b1
  have e : N = N' := nI_inj hN hN' (a5.symm.trans b5)
  subst e
  exact ⟨rfl, fun j hj => Option.some.inj ((a6 j hj).symm.trans (b6 j hj))⟩
/-- the constants of an enum, told apart by a field -/
theorem e_En {args : Array Value} {s : State} {E d : String} {nm : List String} {F : List (String × String × String × List Int32)} {A : Nat → Prop} (hl : ∀ i, i < nm.length → (Cond.laysStatic E (nm.getD i "") d).before args s = true) (hini : (Cond.initialized E).before args s = true)
    (hex : ∀ i, i < nm.length → (Cond.exactly (.static E (nm.getD i "") d) E).before args s = true) (hf : ∀ q ∈ F, ∀ i, i < nm.length → (Cond.eq (.field (.static E (nm.getD i "") d) q.1 q.2.1 q.2.2.1) (.int (q.2.2.2.getD i 0))).before args s = true)
    (hd : ∃ q ∈ F, ∀ i j, i < nm.length → j < nm.length → q.2.2.2.getD i 0 = q.2.2.2.getD j 0 → i = j)
    (hA : ∀ a : Nat, a < s.heap.size → ¬ A a) : ∃ ad : Nat → Nat, va_En E d nm F ad A s s.heap := by
  have h0 : ∀ i : Nat, ∃ t : Nat, i < nm.length → (Term.static E (nm.getD i "") d).eval args s none [] s = some (.ref t) ∧ va_O E t A s s.heap := by
    intro i
    by_cases hi : i < nm.length
    · obtain ⟨a, c, cell, k, q1, q2, q3, q4, q5, q6, -⟩ := Cond.exactly_spec (hex i hi)
      exact ⟨a, fun _ => ⟨q1, cell, q3, q5, by rw [q6]; exact q2, hA a (Array.getElem?_eq_some_iff.mp q3).1⟩⟩
    · exact ⟨0, fun h => absurd h hi⟩
  obtain ⟨ad, had⟩ := Classical.axiomOfChoice h0
  have hfl : ∀ q ∈ F, ∀ i, i < nm.length → va_OF q.1 q.2.1 q.2.2.1 (.int (q.2.2.2.getD i 0)) (ad i) A s s.heap := fun q hq i hi => vk_OFof (had i hi).1 (va_eqt (hf q hq i hi)) hA
  refine ⟨ad, fun i hi => ⟨va_Zref (hl i hi) hini (had i hi).1 hA, (had i hi).2, fun q hq => hfl q hq i hi⟩, fun i j hi hj e => ?_⟩
  obtain ⟨q, hq, hinj⟩ := hd
  have h1 := hfl q hq i hi
  have h2 := hfl q hq j hj
  rw [← e] at h2
  have h3 := e_OF h1 h2
  exact hinj i j hi hj (Value.int.inj h3)
/-- string constants, told apart by their bytes -/
theorem e_S {args : Array Value} {s : State} {N : Nat} {tm : Nat → Term} {len : List Nat} {byt : List (List Int32)} {A : Nat → Prop} (hN : ∀ i : Nat, i < N → len.getD i 0 < 2 ^ 31) (hex : ∀ i : Nat, i < N → (Cond.exactly (tm i) "java/lang/String").before args s = true) (hco : ∀ i : Nat, i < N → (Cond.eq (.field (tm i) "java/lang/String" "coder" "B") (.int 0)).before args s = true)
    (har : ∀ i : Nat, i < N → (Cond.arrayOf (.field (tm i) "java/lang/String" "value" "[B") .byte).before args s = true) (hle : ∀ i : Nat, i < N → (Cond.eq (.length (.field (tm i) "java/lang/String" "value" "[B")) (.int (Int32.ofNat (len.getD i 0)))).before args s = true)
    (hel : ∀ i : Nat, i < N → ∀ j : Nat, j < len.getD i 0 → (Cond.eq (.elem (.field (tm i) "java/lang/String" "value" "[B") (.int (Int32.ofNat j))) (.int ((byt.getD i []).getD j 0))).before args s = true)
    (hne : ∀ i j : Nat, i < N → j < N → len.getD i 0 = len.getD j 0 → (∀ k, k < len.getD i 0 → (byt.getD i []).getD k 0 = (byt.getD j []).getD k 0) → i = j) (hA : ∀ a : Nat, a < s.heap.size → ¬ A a) :
    ∃ adK adV : Nat → Nat, vk_S N len byt adK adV A s s.heap ∧ ∀ i : Nat, i < N → (tm i).eval args s none [] s = some (.ref (adK i)) := by
  have h0 : ∀ i : Nat, ∃ q : Nat × Nat, i < N → (tm i).eval args s none [] s = some (.ref q.1) ∧ va_O "java/lang/String" q.1 A s s.heap ∧ va_OF "java/lang/String" "coder" "B" (.int 0) q.1 A s s.heap ∧ va_OF "java/lang/String" "value" "[B" (.ref q.2) q.1 A s s.heap ∧ va_T .byte q.2 (len.getD i 0) (fun j => .int ((byt.getD i []).getD j 0)) A s s.heap := by
    intro i
    by_cases hi : i < N
    · obtain ⟨a, c, cA, kA, q1, q2, q3, q4, q5, q6, -⟩ := Cond.exactly_spec (args := args) (first := s) (o := none) (s := s) (idx := []) (t := tm i) (cls := "java/lang/String") (hex i hi)
      obtain ⟨t, ht, hT⟩ := va_Tof (f := fun j => .int ((byt.getD i []).getD j 0)) (A := A) (hN i hi) (har i hi) (va_eqt (hle i hi)) (fun j hj => va_eqt (hel i hi j hj)) hA
      exact ⟨(a, t), fun _ => ⟨q1, ⟨cA, q3, q5, by rw [q6]; exact q2, hA a (Array.getElem?_eq_some_iff.mp q3).1⟩, vk_OFof q1 (va_eqt (hco i hi)) hA, vk_OFof q1 ht hA, hT⟩⟩
    · exact ⟨(0, 0), fun h => absurd h hi⟩
  obtain ⟨ad, had⟩ := Classical.axiomOfChoice h0
  refine ⟨fun i => (ad i).1, fun i => (ad i).2, ⟨fun i hi => (had i hi).2, fun i j hi hj e => ?_⟩, fun i hi => (had i hi).1⟩
  have e : (ad i).1 = (ad j).1 := e
  obtain ⟨-, -, -, h1, h2⟩ := had i hi
  obtain ⟨-, -, -, k1, k2⟩ := had j hj
  rw [← e] at k1
  have ev : (ad i).2 = (ad j).2 := Value.ref.inj (e_OF h1 k1)
  rw [← ev] at k2
  obtain ⟨r1, r2⟩ := e_T h2 k2 (hN i hi) (hN j hj)
  exact hne i j hi hj r1 (fun k hk => Value.int.inj (r2 k hk))
