/-! THE START: what the tables and the Statement's premises give at the law's entry -/
theorem st_arr {args : Array Value} {s : State} {ty : FieldType} (h : (Cond.arrayClass ty).before args s = true) (hno : ∀ C : String, ty ≠ .object C) : ∃ c : ClassId, ArrOfT s c ty ∧ va_RA s c ty := by
  obtain ⟨c, k, comp, h1, h2, h3⟩ := Cond.arrayClass_spec (args := args) (first := s) (o := none) (s := s) (idx := []) h
  refine ⟨c, fun n z => ⟨fun k h => (by cases h), k, h2, comp, h3⟩, ?_⟩
  cases ty <;> first | exact h1 | exact absurd rfl (hno _)
theorem st_arq {args : Array Value} {s : State} {C : String} (h : (Cond.arrayOver (.object C)).before args s = true) : ∃ c : ClassId, ArrOfT s c (.object C) ∧ va_RA s c (.object C) := by
  obtain ⟨comp, c, k, h1, h2, h3, h4, h5⟩ := Cond.arrayOver_spec (args := args) (first := s) (o := none) (s := s) (idx := []) h
  exact ⟨c, fun n z => ⟨fun k h => (by cases h), k, h3, comp, h4⟩, k, comp, h3, h4, h1, h5⟩
theorem st_gnF : ∀ q ∈ gnF, fln q ∈ lw_tbl := by decide +kernel
theorem st_gnM : ∀ q ∈ gnM, mln q ∈ lw_tbl := by decide +kernel
theorem st_gnC : ∀ q ∈ gnC, cst q ∈ lw_tbl := by decide +kernel
theorem st_gnD : ∀ q ∈ gnD, Cond.declares q ∈ lw_tbl := by decide +kernel
theorem st_kn {ws : List Cond} {args : Array Value} {s : State} (hts : ∀ w ∈ ws, w.before args s = true) {C : String} {T : u_T} {N : Nat} (hin : ∀ w ∈ u_ws C T N, w ∈ ws) (hi : Cond.instantiable C N ∈ ws) (k : Nat) : ∃ p : ClassId × (Nat → Nat), ∀ q : vw_C, vwCl[k]? = some q → q = (C, T, N) → u_Kn s q.1 q.2.1 q.2.2 p.1 p.2 := by
  obtain ⟨cC, iS, h⟩ := u_known (C := C) (T := T) (N := N) hts hin (hts _ hi)
  exact ⟨(cC, iS), fun q _ hq => by subst hq; exact h⟩
theorem st_K {args : Array Value} {s : State} (hts : ∀ w ∈ lw_tbl, w.before args s = true) (hnc : (Cond.not (.castable "java/util/NoSuchElementException" "java/lang/IndexOutOfBoundsException")).before args s = true) : ∃ (D : va_G) (cA : Nat → ClassId), GK D cA s := by
  have hta : ∀ w ∈ lw_all, w.before args s = true := fun w hw => hts w (List.mem_filter.mp hw).1
  have h0 : ∀ k : Nat, ∃ p : ClassId × (Nat → Nat), ∀ q : vw_C, vwCl[k]? = some q → u_Kn s q.1 q.2.1 q.2.2 p.1 p.2 := by
    intro k
    rcases k with _ | _ | _ | _ | _ | _ | _ | _ | _ | _ | _ | _ | _ | _ | _ | k
    · obtain ⟨p, h⟩ := st_kn (ws := lw_tbl) (C := RX4) (T := TX4) (N := 66) hts (fun w hw => (List.mem_filter.mp (in_X4 w hw)).1) (by decide +kernel) 0
      exact ⟨p, fun q hq => h q hq (by cases hq; rfl)⟩
    · obtain ⟨p, h⟩ := st_kn (ws := lw_tbl) (C := RX1) (T := TX1) (N := 21) hts (fun w hw => (List.mem_filter.mp (in_X1 w hw)).1) (by decide +kernel) 1
      exact ⟨p, fun q hq => h q hq (by cases hq; rfl)⟩
    · obtain ⟨p, h⟩ := st_kn (ws := lw_tbl) (C := RX2) (T := TX2) (N := 8) hts (fun w hw => (List.mem_filter.mp (in_X2 w hw)).1) (by decide +kernel) 2
      exact ⟨p, fun q hq => h q hq (by cases hq; rfl)⟩
    · obtain ⟨p, h⟩ := st_kn (ws := lw_tbl) (C := RX3) (T := TX3) (N := 7) hts (fun w hw => (List.mem_filter.mp (in_X3 w hw)).1) (by decide +kernel) 3
      exact ⟨p, fun q hq => h q hq (by cases hq; rfl)⟩
    · obtain ⟨p, h⟩ := st_kn (ws := lw_tbl) (C := RX5) (T := TX5) (N := 8) hts (fun w hw => (List.mem_filter.mp (in_X5 w hw)).1) (by decide +kernel) 4
      exact ⟨p, fun q hq => h q hq (by cases hq; rfl)⟩
    · obtain ⟨p, h⟩ := st_kn (ws := lw_tbl) (C := RX6) (T := TX6) (N := 5) hts (fun w hw => (List.mem_filter.mp (in_X6 w hw)).1) (by decide +kernel) 5
      exact ⟨p, fun q hq => h q hq (by cases hq; rfl)⟩
    · obtain ⟨p, h⟩ := st_kn (ws := lw_tbl) (C := RX7) (T := TX7) (N := 5) hts (fun w hw => (List.mem_filter.mp (in_X7 w hw)).1) (by decide +kernel) 6
      exact ⟨p, fun q hq => h q hq (by cases hq; rfl)⟩
    · obtain ⟨p, h⟩ := st_kn (ws := lw_tbl) (C := RX9) (T := TX9) (N := 6) hts (fun w hw => (List.mem_filter.mp (in_X9 w hw)).1) (by decide +kernel) 7
      exact ⟨p, fun q hq => h q hq (by cases hq; rfl)⟩
    · obtain ⟨p, h⟩ := st_kn (ws := lw_tbl) (C := RX10) (T := TX10) (N := 6) hts (fun w hw => (List.mem_filter.mp (in_X10 w hw)).1) (by decide +kernel) 8
      exact ⟨p, fun q hq => h q hq (by cases hq; rfl)⟩
    · obtain ⟨p, h⟩ := st_kn (ws := lw_tbl) (C := RX11) (T := TX11) (N := 3) hts (fun w hw => (List.mem_filter.mp (in_X11 w hw)).1) (by decide +kernel) 9
      exact ⟨p, fun q hq => h q hq (by cases hq; rfl)⟩
    · obtain ⟨p, h⟩ := st_kn (ws := lw_tbl) (C := RX13) (T := TX13) (N := 1) hts (fun w hw => (List.mem_filter.mp (in_X13 w hw)).1) (by decide +kernel) 10
      exact ⟨p, fun q hq => h q hq (by cases hq; rfl)⟩
    · obtain ⟨p, h⟩ := st_kn (ws := lw_tbl) (C := RX14) (T := TX14) (N := 1) hts (fun w hw => (List.mem_filter.mp (in_X14 w hw)).1) (by decide +kernel) 11
      exact ⟨p, fun q hq => h q hq (by cases hq; rfl)⟩
    · obtain ⟨p, h⟩ := st_kn (ws := lw_tbl) (C := RX15) (T := TX15) (N := 1) hts (fun w hw => (List.mem_filter.mp (in_X15 w hw)).1) (by decide +kernel) 12
      exact ⟨p, fun q hq => h q hq (by cases hq; rfl)⟩
    · obtain ⟨p, h⟩ := st_kn (ws := lw_tbl) (C := RX16) (T := TX16) (N := 3) hts (fun w hw => (List.mem_filter.mp (in_X16 w hw)).1) (by decide +kernel) 13
      exact ⟨p, fun q hq => h q hq (by cases hq; rfl)⟩
    · obtain ⟨p, h⟩ := st_kn (ws := lw_tbl) (C := RJ2) (T := TJ2) (N := 3) hts (fun w hw => (List.mem_filter.mp (in_J2 w hw)).1) (by decide +kernel) 14
      exact ⟨p, fun q hq => h q hq (by cases hq; rfl)⟩
    · exact ⟨(0, fun _ => 0), fun q hq => by simp at hq⟩
  obtain ⟨f, hf⟩ := Classical.axiomOfChoice h0
  obtain ⟨c0, h00, h01⟩ := st_arr (ty := .int) (hts _ (by decide +kernel)) (fun C => by simp)
  obtain ⟨c1, h10, h11⟩ := st_arr (ty := .boolean) (hts _ (by decide +kernel)) (fun C => by simp)
  obtain ⟨c2, h20, h21⟩ := st_arr (ty := .long) (hts _ (by decide +kernel)) (fun C => by simp)
  obtain ⟨c3, h30, h31⟩ := st_arr (ty := .byte) (hts _ (by decide +kernel)) (fun C => by simp)
  have o4 : (Cond.arrayOver (.object "java/lang/Object")).before args s = true := hts _ (by decide +kernel)
  have o5 : (Cond.arrayOver (.object "SaidSo$Part")).before args s = true := hts _ (by decide +kernel)
  obtain ⟨c4, h40, h41⟩ := st_arq o4
  obtain ⟨c5, h50, h51⟩ := st_arq o5
  refine ⟨(fun k => (f k).1, fun k => (f k).2), fun k => [c0, c1, c2, c3, c4, c5].getD k 0, ⟨fun k q hq => hf k q hq, ?_⟩, ?_⟩
  · intro k q hq
    rcases k with _ | _ | _ | _ | _ | _ | k
    · cases hq; exact ⟨h00, h01⟩
    · cases hq; exact ⟨h10, h11⟩
    · cases hq; exact ⟨h20, h21⟩
    · cases hq; exact ⟨h30, h31⟩
    · cases hq; exact ⟨h40, h41⟩
    · cases hq; exact ⟨h50, h51⟩
    · simp at hq
  · exact ⟨fun q hq => va_Nw.of rfl (hts _ (st_gnF q hq)), fun q hq => va_Nw.of rfl (hts _ (st_gnM q hq)), fun q hq => va_Nw.of rfl (hts _ (st_gnC q hq)), va_AO.of o4, va_AO.of o5, fun q hq => va_Nw.of rfl (hts _ (st_gnD q hq)), va_Nc.of hnc⟩
theorem st_SC {args : Array Value} {s : State} {tm : Term} {n : Nat} {f : Nat → Int32} {A : Nat → Prop} (hn : n < 2 ^ 31) (hex : (Cond.exactly tm "java/lang/String").before args s = true) (hco : (Cond.eq (.field tm "java/lang/String" "coder" "B") (.int 0)).before args s = true)
    (har : (Cond.arrayOf (.field tm "java/lang/String" "value" "[B") .byte).before args s = true) (hle : (Cond.eq (.length (.field tm "java/lang/String" "value" "[B")) (.int (Int32.ofNat n))).before args s = true)
    (hel : ∀ j : Nat, j < n → (Cond.eq (.elem (.field tm "java/lang/String" "value" "[B") (.int (Int32.ofNat j))) (.int (f j))).before args s = true) (hA : ∀ a : Nat, a < s.heap.size → ¬ A a) :
    ∃ a : Nat, tm.eval args s none [] s = some (.ref a) ∧ SC A s s.heap a n f := by
  obtain ⟨a, c, cA, kA, q1, q2, q3, q4, q5, q6, -⟩ := Cond.exactly_spec (args := args) (first := s) (o := none) (s := s) (idx := []) (t := tm) (cls := "java/lang/String") hex
  obtain ⟨t, ht, hT⟩ := va_Tof (f := fun j => .int (f j)) (A := A) hn har (va_eqt hle) (fun j hj => va_eqt (hel j hj)) hA
  exact ⟨a, q1, ⟨cA, q3, q5, by rw [q6]; exact q2, hA a (Array.getElem?_eq_some_iff.mp q3).1⟩, vk_OFof q1 (va_eqt hco) hA, t, vk_OFof q1 ht hA, hT⟩
def nmE : List Nat := [408, 409, 410, 412, 414, 416, 418, 420, 422, 423, 424, 425, 426, 427, 428, 430, 432, 434, 435, 437, 438, 440, 442, 444, 446, 448, 449]
def st_pr : List Cond := flatC (Cond.and given_1 narrow_1)
theorem st_nm0 : ∀ j : Nat, j < 27 → nmLen j < 2 ^ 31 := by decide +kernel
theorem st_nm1 : ∀ j : Nat, j < 27 → Cond.exactly (.string "SaidSo" (nmE.getD j 0)) "java/lang/String" ∈ st_pr := by decide +kernel
theorem st_nm2 : ∀ j : Nat, j < 27 → Cond.eq (.field (.string "SaidSo" (nmE.getD j 0)) "java/lang/String" "coder" "B") (.int 0) ∈ st_pr := by decide +kernel
theorem st_nm3 : ∀ j : Nat, j < 27 → Cond.arrayOf (.field (.string "SaidSo" (nmE.getD j 0)) "java/lang/String" "value" "[B") .byte ∈ st_pr := by decide +kernel
theorem st_nm4 : ∀ j : Nat, j < 27 → Cond.eq (.length (.field (.string "SaidSo" (nmE.getD j 0)) "java/lang/String" "value" "[B")) (.int (Int32.ofNat (nmLen j))) ∈ st_pr := by decide +kernel
theorem st_nm5 : ∀ j : Nat, j < 27 → ∀ i : Nat, i < nmLen j → Cond.eq (.elem (.field (.string "SaidSo" (nmE.getD j 0)) "java/lang/String" "value" "[B") (.int (Int32.ofNat i))) (.int (nmB j i)) ∈ st_pr := by decide +kernel
theorem st_nm6 : ∀ j : Nat, j < 27 → Cond.eq (.elem (.static "SaidSo" "NAMES" "[Ljava/lang/String;") (.int (Int32.ofNat j))) (.string "SaidSo" (nmE.getD j 0)) ∈ st_pr := by decide +kernel
theorem st_sg1 : ∀ i : Nat, i < 10 → Cond.eq (.elem (.field (.string "SaidSo$Reader" 52) "java/lang/String" "value" "[B") (.int (Int32.ofNat i))) (.int (sgB i)) ∈ st_pr := by decide +kernel
theorem st_H {args : Array Value} {s : State} (hts : ∀ w ∈ lw_tbl, w.before args s = true) (hgv : (Cond.and given_1 narrow_1).before args s = true) : GH (fun q => s.heap.size ≤ q) s s.heap := by
  have hs : ∀ w ∈ st_pr, w.before args s = true := flat_of_before _ hgv
  have hA : ∀ a : Nat, a < s.heap.size → ¬ (fun q : Nat => s.heap.size ≤ q) a := fun a h => Nat.not_le.mpr h
  refine ⟨vx_Zqof (args := args) (hts _ (by decide +kernel)) (hts _ (by decide +kernel)) (hs _ (by decide +kernel)) hA, vx_Zqof (args := args) (hts _ (by decide +kernel)) (hts _ (by decide +kernel)) (hs _ (by decide +kernel)) hA, ?_, ?_, ?_, ?_⟩
  · have e1 : (Cond.exactly (.static "SaidSo" "TROUBLE" "LSaidSo$Trouble;") "SaidSo$Trouble").before args s = true := hs _ (by decide +kernel)
    have e2 : (Cond.untouched (.static "SaidSo" "TROUBLE" "LSaidSo$Trouble;")).before args s = true := hs _ (by decide +kernel)
    obtain ⟨a, c, ce, k, q1, q2, q3, q4, q5, q6, -⟩ := Cond.exactly_spec (args := args) (first := s) (o := none) (s := s) (idx := []) e1
    obtain ⟨a', ce', u1, u2, -, -, u5⟩ := Cond.untouched_spec (args := args) (first := s) (o := none) (s := s) (idx := []) e2
    rw [q1] at u1
    cases u1
    rw [q3] at u2
    cases u2
    exact ⟨a, ce, va_Zof (args := args) (hts _ (by decide +kernel)) (hts _ (by decide +kernel)) q1 hA, q3, u5, by rw [q6]; exact q2, hA a (Array.getElem?_eq_some_iff.mp q3).1⟩
  · exact ⟨va_Zof (args := args) (hts _ (by decide +kernel)) (hts _ (by decide +kernel)) (va_eqi (hs _ (by decide +kernel))) hA, va_Zqof (args := args) (hts _ (by decide +kernel)) (hts _ (by decide +kernel)) (hs _ (by decide +kernel)) hA⟩
  · have h0 : ∀ j : Nat, ∃ a : Nat, j < 27 → (Term.string "SaidSo" (nmE.getD j 0)).eval args s none [] s = some (.ref a) ∧ SC (fun q => s.heap.size ≤ q) s s.heap a (nmLen j) (nmB j) := by
      intro j
      by_cases hj : j < 27
      · obtain ⟨a, h1, h2⟩ := st_SC (A := fun q => s.heap.size ≤ q) (f := nmB j) (st_nm0 j hj) (hs _ (st_nm1 j hj)) (hs _ (st_nm2 j hj)) (hs _ (st_nm3 j hj)) (hs _ (st_nm4 j hj)) (fun i hi => hs _ (st_nm5 j hj i hi)) hA
        exact ⟨a, fun _ => ⟨h1, h2⟩⟩
      · exact ⟨0, fun h => absurd h hj⟩
    obtain ⟨ad, had⟩ := Classical.axiomOfChoice h0
    have hlen : (Cond.eq (.length (.static "SaidSo" "NAMES" "[Ljava/lang/String;")) (.int (Int32.ofNat 27))).before args s = true := hs _ (by decide +kernel)
    obtain ⟨t, ht, hT⟩ := va_Tof (args := args) (s := s) (tm := .static "SaidSo" "NAMES" "[Ljava/lang/String;") (ty := .object "java/lang/String") (N := 27) (f := fun j => .ref (ad j)) (A := fun q => s.heap.size ≤ q) (by decide) (hs _ (by decide +kernel)) (va_eqt hlen) (fun j hj => va_eqv (hs _ (st_nm6 j hj)) (had j hj).1) hA
    exact ⟨t, ad, va_Zof (args := args) (hts _ (by decide +kernel)) (hts _ (by decide +kernel)) ht hA, hT, fun j hj => (had j hj).2⟩
  · obtain ⟨a, h1, h2⟩ := st_SC (args := args) (s := s) (tm := .string "SaidSo$Reader" 52) (n := 10) (A := fun q => s.heap.size ≤ q) (f := sgB) (by decide) (hs _ (by decide +kernel)) (hs _ (by decide +kernel)) (hs _ (by decide +kernel)) (hs _ (by decide +kernel)) (fun i hi => hs _ (st_sg1 i hi)) hA
    have hr : (Cond.stringRef "SaidSo$Reader" 52 ";()+-*/<=>").before args s = true := hts _ (by decide +kernel)
    have hr0 : (Cond.stringRef "SaidSo$Reader" 52 ";()+-*/<=>").before #[] s = true := by
      first
        | exact hr
        | (have h9 := hr; simp only [Cond.before, Cond.holds, Cond.value] at h9 ⊢; exact h9)
    refine ⟨a, vk_R.of hr0 ?_, h2⟩
    rw [Term.string_eval_of_vm (args := args) (args' := #[]) (U := s) (V := s) rfl]
    exact h1
