/-! RECORD MODE: the reference (SaidSoModel) as a record of its fields and arrays -/
abbrev MS : Type := (Nat → Int32) × (Nat → Int64) × (Nat → Nat → Int32) × (Nat → Nat → Int64)
def mi (M : MS) (k : Nat) : Int32 := M.1 k
def ml (M : MS) (k : Nat) : Int64 := M.2.1 k
def ma (M : MS) (k j : Nat) : Int32 := M.2.2.1 k j
def mb (M : MS) (k j : Nat) : Int64 := M.2.2.2 k j
def si (M : MS) (k : Nat) (v : Int32) : MS := (va_up M.1 k v, M.2.1, M.2.2.1, M.2.2.2)
def sl (M : MS) (k : Nat) (v : Int64) : MS := (M.1, va_up M.2.1 k v, M.2.2.1, M.2.2.2)
def sa (M : MS) (k j : Nat) (v : Int32) : MS := (M.1, M.2.1, va_up M.2.2.1 k (upd (M.2.2.1 k) j v), M.2.2.2)
def sb (M : MS) (k j : Nat) (v : Int64) : MS := (M.1, M.2.1, M.2.2.1, va_up M.2.2.2 k (vp_updL (M.2.2.2 k) j v))
theorem mi_si (M : MS) (k j : Nat) (v : Int32) : mi (si M k v) j = if j = k then v else mi M j := rfl
theorem mi_sl (M : MS) (k j : Nat) (v : Int64) : mi (sl M k v) j = mi M j := rfl
theorem mi_sa (M : MS) (k i j : Nat) (v : Int32) : mi (sa M k i v) j = mi M j := rfl
theorem mi_sb (M : MS) (k i j : Nat) (v : Int64) : mi (sb M k i v) j = mi M j := rfl
theorem ml_si (M : MS) (k j : Nat) (v : Int32) : ml (si M k v) j = ml M j := rfl
theorem ml_sl (M : MS) (k j : Nat) (v : Int64) : ml (sl M k v) j = if j = k then v else ml M j := rfl
theorem ml_sa (M : MS) (k i j : Nat) (v : Int32) : ml (sa M k i v) j = ml M j := rfl
theorem ml_sb (M : MS) (k i j : Nat) (v : Int64) : ml (sb M k i v) j = ml M j := rfl
theorem ma_si (M : MS) (k j : Nat) (v : Int32) : ma (si M k v) j = ma M j := rfl
theorem ma_sl (M : MS) (k j : Nat) (v : Int64) : ma (sl M k v) j = ma M j := rfl
theorem ma_sb (M : MS) (k i j : Nat) (v : Int64) : ma (sb M k i v) j = ma M j := rfl
theorem ma_sa (M : MS) (k i j : Nat) (v : Int32) : ma (sa M k i v) j = if j = k then upd (ma M k) i v else ma M j := rfl
theorem mb_si (M : MS) (k j : Nat) (v : Int32) : mb (si M k v) j = mb M j := rfl
theorem mb_sl (M : MS) (k j : Nat) (v : Int64) : mb (sl M k v) j = mb M j := rfl
theorem mb_sa (M : MS) (k i j : Nat) (v : Int32) : mb (sa M k i v) j = mb M j := rfl
theorem mb_sb (M : MS) (k i j : Nat) (v : Int64) : mb (sb M k i v) j = if j = k then vp_updL (mb M k) i v else mb M j := rfl
/-- kinds of the reference's fields: 0 int, 1 boolean, 2 long, 3 int[], 4 boolean[], 5 long[] -/
def mKL : List Nat := [3, 0, 0, 3, 0, 0, 0, 0, 0, 0, 0, 0, 0, 0, 0, 0, 0, 0, 0, 0, 0, 3, 3, 3, 3, 3, 3, 3, 3, 3, 3, 4, 3, 3, 3, 3, 3, 3, 3, 3, 3, 3, 3, 3, 0, 0, 0, 0, 0, 0, 3, 3, 0, 0, 0, 0, 1, 1, 2, 2, 3, 3, 5, 5, 1, 2]
def mK (k : Nat) : Nat := mKL.getD k 9
/-- lengths of its arrays, by field -/
def mNL : List Nat := [800, 0, 0, 132, 0, 0, 0, 0, 0, 0, 0, 0, 0, 0, 0, 0, 0, 0, 0, 0, 0, 16, 16, 16, 16, 16, 10, 10, 10, 10, 10, 120, 120, 120, 120, 120, 40, 40, 40, 6, 6, 128, 128, 128, 0, 0, 0, 0, 0, 0, 96, 96, 0, 0, 0, 0, 0, 0, 0, 0, 20, 20, 10, 64, 0, 0]
def mN (k : Nat) : Nat := mNL.getD k 0
/-- the fields that are arrays -/
def mAF : List Nat := [0, 3, 21, 22, 23, 24, 25, 26, 27, 28, 29, 30, 31, 32, 33, 34, 35, 36, 37, 38, 39, 40, 41, 42, 43, 50, 51, 60, 61, 62, 63]
abbrev mci : Nat := 0
abbrev vwCl : List vw_C := [(RX4, TX4, 66), (RX1, TX1, 21), (RX2, TX2, 8), (RX3, TX3, 7), (RX5, TX5, 8), (RX6, TX6, 5), (RX7, TX7, 5), (RX9, TX9, 6), (RX10, TX10, 6), (RX11, TX11, 3), (RX13, TX13, 1), (RX14, TX14, 1), (RX15, TX15, 1), (RX16, TX16, 3), (RJ2, TJ2, 3)]
abbrev tysA (cA : Nat → ClassId) : List (ClassId × FieldType) := [(cA 0, .int), (cA 1, .boolean), (cA 2, .long), (cA 3, .byte), (cA 4, .object "java/lang/Object"), (cA 5, .object "SaidSo$Part")]
def mfv (ad : Nat → Nat) (M : MS) (k : Nat) : Value := if mK k ≤ 1 then .int (mi M k) else if mK k = 2 then .long (ml M k) else .ref (ad k)
def mfs (ad : Nat → Nat) (M : MS) : List Value := (List.range 66).map (mfv ad M)
def mar (cA : Nat → ClassId) (M : MS) (k : Nat) : va_E := if mK k = 3 then .inl (cA 0, mN k, .inl (ma M k)) else if mK k = 4 then .inl (cA 1, mN k, .inl (ma M k)) else .inl (cA 2, mN k, .inr (.inl (mb M k)))
def mo (cA : Nat → ClassId) (m0 : Nat) (ad : Nat → Nat) (M : MS) : va_W := (m0, .inr (mci, mfs ad M)) :: mAF.map (fun k => (ad k, mar cA M k))
/-- the cells that the reference may write -/
def mF (m0 : Nat) (ad : Nat → Nat) : Nat → Prop := fun q => q = m0 ∨ ∃ k, k ∈ mAF ∧ q = ad k
/-- its cells are apart -/
def mAd (m0 : Nat) (ad : Nat → Nat) : Prop := (∀ k, k ∈ mAF → ad k ≠ m0) ∧ ∀ k j, k ∈ mAF → j ∈ mAF → ad k = ad j → k = j
theorem mAF_inj : ∀ i, i < mAF.length → ∀ j, j < mAF.length → mAF[i]? = mAF[j]? → i = j := by decide +kernel
theorem mo_D {cA : Nat → ClassId} {m0 : Nat} {ad : Nat → Nat} {M : MS} (h : mAd m0 ad) : va_D (mF m0 ad) (mo cA m0 ad M) := by
  have key : ∀ (i : Nat) (p : Nat × va_E), (mAF.map (fun k => (ad k, mar cA M k)))[i]? = some p → ∃ k, mAF[i]? = some k ∧ k ∈ mAF ∧ p.1 = ad k := by
    intro i p hp
    rw [List.getElem?_map] at hp
    cases hk : mAF[i]? with
    | none => rw [hk] at hp; cases hp
    | some k =>
      rw [hk] at hp
      cases hp
      exact ⟨k, rfl, List.mem_of_getElem? hk, rfl⟩
  refine ⟨?_, ?_⟩
  · intro i j p q hp hq hpq
    cases i with
    | zero =>
      cases j with
      | zero => rfl
      | succ j =>
        obtain ⟨k, -, h2, h3⟩ := key j q hq
        cases hp
        exact absurd (h3.symm.trans hpq.symm) (h.1 k h2)
    | succ i =>
      obtain ⟨k, h1, h2, h3⟩ := key i p hp
      cases j with
      | zero =>
        cases hq
        exact absurd (h3.symm.trans hpq) (h.1 k h2)
      | succ j =>
        obtain ⟨k', g1, g2, g3⟩ := key j q hq
        have hkk : k = k' := h.2 k k' h2 g2 (h3.symm.trans (hpq.trans g3))
        subst hkk
        have hi := (List.getElem?_eq_some_iff.mp h1)
        have hj := (List.getElem?_eq_some_iff.mp g1)
        obtain ⟨hi1, hi2⟩ := hi
        obtain ⟨hj1, hj2⟩ := hj
        have hij : i = j := mAF_inj i hi1 j hj1 (h1.trans g1.symm)
        rw [hij]
  · intro i q hq
    cases i with
    | zero => cases hq; exact Or.inl rfl
    | succ i =>
      obtain ⟨k, -, h2, h3⟩ := key i q hq
      exact Or.inr ⟨k, h2, h3⟩
theorem mfs_get (ad : Nat → Nat) (M : MS) {k : Nat} (hk : k < 66) : (mfs ad M)[k]? = some (mfv ad M k) := by
  unfold mfs
  rw [List.getElem?_map, List.getElem?_range hk]
  rfl
theorem mfs_len (ad : Nat → Nat) (M : MS) : (mfs ad M).length = 66 := by simp [mfs]
theorem mo_a {cA : Nat → ClassId} {m0 : Nat} {ad : Nat → Nat} {M : MS} {k q : Nat} (h : mAF[q]? = some k) : (mo cA m0 ad M)[q + 1]? = some (ad k, mar cA M k) := by
  unfold mo
  rw [List.getElem?_cons_succ, List.getElem?_map, h]
  rfl
theorem mfs_set {ad : Nat → Nat} {M M' : MS} {k : Nat} {v : Value} (hv : mfv ad M' k = v) (ho : ∀ j, j ≠ k → mfv ad M' j = mfv ad M j) : mfs ad M' = (mfs ad M).set k v := by
  apply List.ext_getElem?
  intro j
  rw [List.getElem?_set]
  by_cases hj : j < 66
  · rw [mfs_get ad M' hj, mfs_get ad M hj]
    by_cases hk : k = j
    · subst hk
      rw [if_pos rfl, mfs_len, if_pos hj, hv]
    · rw [if_neg hk, ho j (fun h => hk h.symm)]
  · have h1 : (mfs ad M')[j]? = none := List.getElem?_eq_none (by rw [mfs_len]; omega)
    have h2 : (mfs ad M)[j]? = none := List.getElem?_eq_none (by rw [mfs_len]; omega)
    rw [h1, h2]
    by_cases hk : k = j
    · rw [if_pos hk, mfs_len, if_neg (by omega)]
    · rw [if_neg hk]
theorem mo_si (cA : Nat → ClassId) (m0 : Nat) (ad : Nat → Nat) (M : MS) {k : Nat} (v : Int32) (hk : mK k ≤ 1) : mo cA m0 ad (si M k v) = (mo cA m0 ad M).set 0 (m0, .inr (mci, (mfs ad M).set k (.int v))) := by
  have h1 : mfs ad (si M k v) = (mfs ad M).set k (.int v) := mfs_set (by simp [mfv, hk, mi_si]) (fun j hj => by simp [mfv, mi_si, ml_si, hj])
  unfold mo
  rw [h1]
  rfl
theorem mo_sl (cA : Nat → ClassId) (m0 : Nat) (ad : Nat → Nat) (M : MS) {k : Nat} (v : Int64) (hk : mK k = 2) : mo cA m0 ad (sl M k v) = (mo cA m0 ad M).set 0 (m0, .inr (mci, (mfs ad M).set k (.long v))) := by
  have h1 : mfs ad (sl M k v) = (mfs ad M).set k (.long v) := mfs_set (by simp [mfv, hk, ml_sl]) (fun j hj => by simp [mfv, mi_sl, ml_sl, hj])
  unfold mo
  rw [h1]
  rfl
theorem mo_ar {cA : Nat → ClassId} {m0 : Nat} {ad : Nat → Nat} {M M' : MS} {k q : Nat} {e : va_E} (hq : mAF[q]? = some k) (hf : mfs ad M' = mfs ad M) (he : mar cA M' k = e) (ho : ∀ j, j ≠ k → mar cA M' j = mar cA M j) : mo cA m0 ad M' = (mo cA m0 ad M).set (q + 1) (ad k, e) := by
  unfold mo
  rw [hf, List.set_cons_succ]
  congr 1
  apply List.ext_getElem?
  intro j
  rw [List.getElem?_set, List.getElem?_map, List.getElem?_map]
  by_cases hj : q = j
  · subst hj
    rw [if_pos rfl, List.length_map, if_pos (List.getElem?_eq_some_iff.mp hq).1, hq]
    show some (ad k, mar cA M' k) = _
    rw [he]
  · rw [if_neg hj]
    cases hg : mAF[j]? with
    | none => rfl
    | some k' =>
      have hne : k' ≠ k := by
        intro hh
        subst hh
        have hj1 := (List.getElem?_eq_some_iff.mp hg).1
        have hq1 := (List.getElem?_eq_some_iff.mp hq).1
        exact hj (mAF_inj q hq1 j hj1 (hq.trans hg.symm))
      show some (ad k', mar cA M' k') = some (ad k', mar cA M k')
      rw [ho k' hne]
theorem mo_sa (cA : Nat → ClassId) (m0 : Nat) (ad : Nat → Nat) (M : MS) {k q : Nat} (i : Nat) (v : Int32) {c : Nat} (hq : mAF[q]? = some k) (hk : mK k = 3 ∧ c = 0 ∨ mK k = 4 ∧ c = 1) : mo cA m0 ad (sa M k i v) = (mo cA m0 ad M).set (q + 1) (ad k, .inl (cA c, mN k, .inl (upd (ma M k) i v))) := by
  refine mo_ar hq rfl ?_ (fun j hj => by simp [mar, ma_sa, mb_sa, hj])
  rcases hk with ⟨hk, rfl⟩ | ⟨hk, rfl⟩
  · simp [mar, hk, ma_sa]
  · simp [mar, hk, ma_sa]
theorem mo_sb (cA : Nat → ClassId) (m0 : Nat) (ad : Nat → Nat) (M : MS) {k q : Nat} (i : Nat) (v : Int64) (hq : mAF[q]? = some k) (hk : mK k = 5) : mo cA m0 ad (sb M k i v) = (mo cA m0 ad M).set (q + 1) (ad k, .inl (cA 2, mN k, .inr (.inl (vp_updL (mb M k) i v)))) := by
  refine mo_ar hq rfl ?_ (fun j hj => by simp [mar, ma_sb, mb_sb, hj])
  simp [mar, hk, mb_sb]
theorem mar_a {cA : Nat → ClassId} {M : MS} {k c : Nat} (hk : mK k = 3 ∧ c = 0 ∨ mK k = 4 ∧ c = 1) : mar cA M k = .inl (cA c, mN k, .inl (ma M k)) := by
  rcases hk with ⟨hk, rfl⟩ | ⟨hk, rfl⟩ <;> simp [mar, hk]
theorem mar_b {cA : Nat → ClassId} {M : MS} {k : Nat} (hk : mK k = 5) : mar cA M k = .inl (cA 2, mN k, .inr (.inl (mb M k))) := by
  simp [mar, hk]
theorem mAF_at {k : Nat} (h : k ∈ mAF) : ∃ q : Nat, mAF[q]? = some k := List.mem_iff_getElem?.mp h
/-- a value that a boolean may have -/
def vz (v : Int32) : Prop := v = 0 ∨ v = 1
theorem vz_0 : vz 0 := Or.inl rfl
theorem vz_1 : vz 1 := Or.inr rfl
theorem vz_nar {v : Int32} (h : vz v) : narrow .boolean (.int v) = .int v := by
  rcases h with rfl | rfl <;> decide
theorem vz_fit {v : Int32} (h : vz v) : fits .boolean (.int v) = true := by
  rcases h with rfl | rfl <;> decide
section MR
variable {p : Program} {l : Launch} {e : Env} {R : Room} {s : State} {m : MethodId} {args : Array Value} {below : List Frame} {meth : Method} {c : Code} {H : Heap} {locs : List Loc} {cells slots : Nat} {Q : State → Prop}
variable {cc : ByteArray} {pc nL : Nat} {ls : Array Slot} {rest : List Value} {D : va_G} {cA : Nat → ClassId} {m0 : Nat} {ad : Nat → Nat} {M : MS} {index : Nat} {H0 : Heap}
theorem mg_i (S : CallFix p m c cc nL s args lw_all RX4) (hK : va_K D vwCl (tysA cA) s) (hP : va_P D vwCl (mo cA m0 ad M) H) {k : Nat} (hk : k < 66) (ht : mK k ≤ 1)
    (hl : Cond.fieldLink RX4 index (TX4 k).1 (TX4 k).2.1 (TX4 k).2.2.1 ∈ lw_all) (hdg : decode cc pc = .ok (.getfield index, 3))
    (kk : W p l e R s m args below meth c H locs cells slots Q (F0 m (pc + 3) ls (.int (mi M k) :: rest))) : W p l e R s m args below meth c H locs cells slots Q (F0 m pc ls (.ref m0 :: rest)) := by
  obtain ⟨hx, hb, hml, hown, hts⟩ := S
  exact va_get (D := D) (ci := mci) (v := .int (mi M k)) (C := RX4) (T := TX4) (N := 66) hx hb hts in_X4 hown hK hP 0 (fs := mfs ad M) rfl rfl k hk (hts _ hl) (fun _ h => h) (by rw [mfs_get ad M hk]; simp [mfv, ht]) hdg kk
theorem mg_l (S : CallFix p m c cc nL s args lw_all RX4) (hK : va_K D vwCl (tysA cA) s) (hP : va_P D vwCl (mo cA m0 ad M) H) {k : Nat} (hk : k < 66) (ht : mK k = 2)
    (hl : Cond.fieldLink RX4 index (TX4 k).1 (TX4 k).2.1 (TX4 k).2.2.1 ∈ lw_all) (hdg : decode cc pc = .ok (.getfield index, 3))
    (kk : W p l e R s m args below meth c H locs cells slots Q (F0 m (pc + 3) ls (.long (ml M k) :: rest))) : W p l e R s m args below meth c H locs cells slots Q (F0 m pc ls (.ref m0 :: rest)) := by
  obtain ⟨hx, hb, hml, hown, hts⟩ := S
  exact va_get (D := D) (ci := mci) (v := .long (ml M k)) (C := RX4) (T := TX4) (N := 66) hx hb hts in_X4 hown hK hP 0 (fs := mfs ad M) rfl rfl k hk (hts _ hl) (fun _ h => h) (by rw [mfs_get ad M hk]; simp [mfv, ht]) hdg kk
theorem mg_r (S : CallFix p m c cc nL s args lw_all RX4) (hK : va_K D vwCl (tysA cA) s) (hP : va_P D vwCl (mo cA m0 ad M) H) {k : Nat} (hk : k < 66) (ht : 3 ≤ mK k)
    (hl : Cond.fieldLink RX4 index (TX4 k).1 (TX4 k).2.1 (TX4 k).2.2.1 ∈ lw_all) (hdg : decode cc pc = .ok (.getfield index, 3))
    (kk : W p l e R s m args below meth c H locs cells slots Q (F0 m (pc + 3) ls (.ref (ad k) :: rest))) : W p l e R s m args below meth c H locs cells slots Q (F0 m pc ls (.ref m0 :: rest)) := by
  obtain ⟨hx, hb, hml, hown, hts⟩ := S
  exact va_get (D := D) (ci := mci) (v := .ref (ad k)) (C := RX4) (T := TX4) (N := 66) hx hb hts in_X4 hown hK hP 0 (fs := mfs ad M) rfl rfl k hk (hts _ hl) (fun _ h => h) (by rw [mfs_get ad M hk]; unfold mfv; rw [if_neg (by omega), if_neg (by omega)]) hdg kk
theorem mp_i (S : CallFix p m c cc nL s args lw_all RX4) (hK : va_K D vwCl (tysA cA) s) (hA : mAd m0 ad) (hP : va_P D vwCl (mo cA m0 ad M) H) (hS : va_S (mF m0 ad) H0 H locs) {k : Nat} {v : Int32} (hk : k < 66) (ht : mK k = 0 ∨ mK k = 1 ∧ vz v)
    (hf : (TX4 k).2.2.2 = false) (hty : (TX4 k).2.2.1 = "I" ∧ mK k = 0 ∨ (TX4 k).2.2.1 = "Z" ∧ mK k = 1)
    (hl : Cond.fieldLink RX4 index (TX4 k).1 (TX4 k).2.1 (TX4 k).2.2.1 ∈ lw_all) (hdg : decode cc pc = .ok (.putfield index, 3))
    (kk : ∀ (M1 : MS) (H1 : Heap) (locs1 : List Loc), M1 = si M k v → va_P D vwCl (mo cA m0 ad M1) H1 → va_S (mF m0 ad) H0 H1 locs1 → W p l e R s m args below meth c H1 locs1 cells slots Q (F0 m (pc + 3) ls rest)) : W p l e R s m args below meth c H locs cells slots Q (F0 m pc ls (.int v :: .ref m0 :: rest)) := by
  obtain ⟨hx, hb, hml, hown, hts⟩ := S
  have hk1 : mK k ≤ 1 := by rcases ht with h | ⟨h, -⟩ <;> omega
  have key : ∃ ty : FieldType, parseFieldDescriptor (TX4 k).2.2.1 = some ty ∧ narrow ty (.int v) = .int v ∧ fits ty (.int v) = true := by
    rcases hty with ⟨h1, h2⟩ | ⟨h1, h2⟩
    · exact ⟨.int, by rw [h1]; decide, rfl, rfl⟩
    · have hz : vz v := by
        rcases ht with h | ⟨-, h⟩
        · omega
        · exact h
      exact ⟨.boolean, by rw [h1]; decide, vz_nar hz, vz_fit hz⟩
  obtain ⟨ty, h1, h2, h3⟩ := key
  refine va_put (D := D) (ci := mci) (v := .int v) (ty := ty) (C := RX4) (T := TX4) (N := 66) hx hb hts in_X4 tyX4 tyX4_ok nmX4 hown hK hP (mo_D hA) hS 0 (fs := mfs ad M) rfl rfl k hk (hts _ hl) (fun _ h => h) hf h1 h2 h3 (by rw [mfs_len]; exact hk) hdg (fun H1 locs1 hP1 _ hS1 => ?_)
  exact kk _ H1 locs1 rfl (by rw [mo_si cA m0 ad M v hk1]; exact hP1) hS1
theorem mp_l (S : CallFix p m c cc nL s args lw_all RX4) (hK : va_K D vwCl (tysA cA) s) (hA : mAd m0 ad) (hP : va_P D vwCl (mo cA m0 ad M) H) (hS : va_S (mF m0 ad) H0 H locs) {k : Nat} {v : Int64} (hk : k < 66) (ht : mK k = 2)
    (hf : (TX4 k).2.2.2 = false) (hty : (TX4 k).2.2.1 = "J")
    (hl : Cond.fieldLink RX4 index (TX4 k).1 (TX4 k).2.1 (TX4 k).2.2.1 ∈ lw_all) (hdg : decode cc pc = .ok (.putfield index, 3))
    (kk : ∀ (M1 : MS) (H1 : Heap) (locs1 : List Loc), M1 = sl M k v → va_P D vwCl (mo cA m0 ad M1) H1 → va_S (mF m0 ad) H0 H1 locs1 → W p l e R s m args below meth c H1 locs1 cells slots Q (F0 m (pc + 3) ls rest)) : W p l e R s m args below meth c H locs cells slots Q (F0 m pc ls (.long v :: .ref m0 :: rest)) := by
  obtain ⟨hx, hb, hml, hown, hts⟩ := S
  refine va_put (D := D) (ci := mci) (v := .long v) (ty := .long) (C := RX4) (T := TX4) (N := 66) hx hb hts in_X4 tyX4 tyX4_ok nmX4 hown hK hP (mo_D hA) hS 0 (fs := mfs ad M) rfl rfl k hk (hts _ hl) (fun _ h => h) hf (by rw [hty]; decide) rfl rfl (by rw [mfs_len]; exact hk) hdg (fun H1 locs1 hP1 _ hS1 => ?_)
  exact kk _ H1 locs1 rfl (by rw [mo_sl cA m0 ad M v ht]; exact hP1) hS1
theorem ml_a (S : CallFix p m c cc nL s args lw_all RX4) (hK : va_K D vwCl (tysA cA) s) (hP : va_P D vwCl (mo cA m0 ad M) H) {k : Nat} (hk : k ∈ mAF) (ht : mK k = 3) {i : Int32} (hin : vp_in i (mN k)) (hdg : decode cc pc = .ok (.iaload, 1))
    (kk : W p l e R s m args below meth c H locs cells slots Q (F0 m (pc + 1) ls (.int (ma M k i.toNatClampNeg) :: rest))) : W p l e R s m args below meth c H locs cells slots Q (F0 m pc ls (.int i :: .ref (ad k) :: rest)) := by
  obtain ⟨hx, hb, hml, hown, hts⟩ := S
  obtain ⟨q, hq⟩ := mAF_at hk
  exact va_iald hx hb hK hP (q + 1) 0 (by rw [mo_a hq, mar_a (Or.inl ⟨ht, rfl⟩)]) rfl hin hdg kk
theorem ml_z (S : CallFix p m c cc nL s args lw_all RX4) (hK : va_K D vwCl (tysA cA) s) (hP : va_P D vwCl (mo cA m0 ad M) H) {k : Nat} (hk : k ∈ mAF) (ht : mK k = 4) {i : Int32} (hin : vp_in i (mN k)) (hdg : decode cc pc = .ok (.baload, 1))
    (kk : W p l e R s m args below meth c H locs cells slots Q (F0 m (pc + 1) ls (.int (ma M k i.toNatClampNeg) :: rest))) : W p l e R s m args below meth c H locs cells slots Q (F0 m pc ls (.int i :: .ref (ad k) :: rest)) := by
  obtain ⟨hx, hb, hml, hown, hts⟩ := S
  obtain ⟨q, hq⟩ := mAF_at hk
  exact va_zald hx hb hK hP (q + 1) 1 (by rw [mo_a hq, mar_a (Or.inr ⟨ht, rfl⟩)]) rfl hin hdg kk
theorem ml_b (S : CallFix p m c cc nL s args lw_all RX4) (hK : va_K D vwCl (tysA cA) s) (hP : va_P D vwCl (mo cA m0 ad M) H) {k : Nat} (hk : k ∈ mAF) (ht : mK k = 5) {i : Int32} (hin : vp_in i (mN k)) (hdg : decode cc pc = .ok (.laload, 1))
    (kk : W p l e R s m args below meth c H locs cells slots Q (F0 m (pc + 1) ls (.long (mb M k i.toNatClampNeg) :: rest))) : W p l e R s m args below meth c H locs cells slots Q (F0 m pc ls (.int i :: .ref (ad k) :: rest)) := by
  obtain ⟨hx, hb, hml, hown, hts⟩ := S
  obtain ⟨q, hq⟩ := mAF_at hk
  exact va_lald hx hb hK hP (q + 1) 2 (by rw [mo_a hq, mar_b ht]) rfl hin hdg kk
theorem ml_n (S : CallFix p m c cc nL s args lw_all RX4) (hK : va_K D vwCl (tysA cA) s) (hP : va_P D vwCl (mo cA m0 ad M) H) {k : Nat} (hk : k ∈ mAF) (ht : mK k = 3) (hdg : decode cc pc = .ok (.arraylength, 1))
    (kk : W p l e R s m args below meth c H locs cells slots Q (F0 m (pc + 1) ls (.int (nI (mN k)) :: rest))) : W p l e R s m args below meth c H locs cells slots Q (F0 m pc ls (.ref (ad k) :: rest)) := by
  obtain ⟨hx, hb, hml, hown, hts⟩ := S
  obtain ⟨q, hq⟩ := mAF_at hk
  exact va_alen (v := nI (mN k)) hx hb hK hP (q + 1) 0 (by rw [mo_a hq, mar_a (Or.inl ⟨ht, rfl⟩)]) rfl rfl hdg kk
theorem ms_a (S : CallFix p m c cc nL s args lw_all RX4) (hK : va_K D vwCl (tysA cA) s) (hA : mAd m0 ad) (hP : va_P D vwCl (mo cA m0 ad M) H) (hS : va_S (mF m0 ad) H0 H locs) {k : Nat} (hk : k ∈ mAF) (ht : mK k = 3) {i v : Int32} (hin : vp_in i (mN k)) (hdg : decode cc pc = .ok (.iastore, 1))
    (kk : ∀ (M1 : MS) (H1 : Heap) (locs1 : List Loc), M1 = sa M k i.toNatClampNeg v → va_P D vwCl (mo cA m0 ad M1) H1 → va_S (mF m0 ad) H0 H1 locs1 → W p l e R s m args below meth c H1 locs1 cells slots Q (F0 m (pc + 1) ls rest)) : W p l e R s m args below meth c H locs cells slots Q (F0 m pc ls (.int v :: .int i :: .ref (ad k) :: rest)) := by
  obtain ⟨hx, hb, hml, hown, hts⟩ := S
  obtain ⟨q, hq⟩ := mAF_at hk
  refine va_iast hx hb hK hP (mo_D hA) hS (q + 1) 0 (by rw [mo_a hq, mar_a (Or.inl ⟨ht, rfl⟩)]) rfl hin hdg (fun H1 locs1 hP1 _ hS1 => ?_)
  exact kk _ H1 locs1 rfl (by rw [mo_sa cA m0 ad M _ v hq (Or.inl ⟨ht, rfl⟩)]; exact hP1) hS1
theorem ms_z (S : CallFix p m c cc nL s args lw_all RX4) (hK : va_K D vwCl (tysA cA) s) (hA : mAd m0 ad) (hP : va_P D vwCl (mo cA m0 ad M) H) (hS : va_S (mF m0 ad) H0 H locs) {k : Nat} (hk : k ∈ mAF) (ht : mK k = 4) {i v : Int32} (hin : vp_in i (mN k)) (hdg : decode cc pc = .ok (.bastore, 1))
    (kk : ∀ (M1 : MS) (H1 : Heap) (locs1 : List Loc), M1 = sa M k i.toNatClampNeg (vp_nar .boolean v) → va_P D vwCl (mo cA m0 ad M1) H1 → va_S (mF m0 ad) H0 H1 locs1 → W p l e R s m args below meth c H1 locs1 cells slots Q (F0 m (pc + 1) ls rest)) : W p l e R s m args below meth c H locs cells slots Q (F0 m pc ls (.int v :: .int i :: .ref (ad k) :: rest)) := by
  obtain ⟨hx, hb, hml, hown, hts⟩ := S
  obtain ⟨q, hq⟩ := mAF_at hk
  refine va_zast hx hb hK hP (mo_D hA) hS (q + 1) 1 (by rw [mo_a hq, mar_a (Or.inr ⟨ht, rfl⟩)]) rfl hin hdg (fun H1 locs1 hP1 _ hS1 => ?_)
  exact kk _ H1 locs1 rfl (by rw [mo_sa cA m0 ad M _ _ hq (Or.inr ⟨ht, rfl⟩)]; exact hP1) hS1
theorem ms_b (S : CallFix p m c cc nL s args lw_all RX4) (hK : va_K D vwCl (tysA cA) s) (hA : mAd m0 ad) (hP : va_P D vwCl (mo cA m0 ad M) H) (hS : va_S (mF m0 ad) H0 H locs) {k : Nat} (hk : k ∈ mAF) (ht : mK k = 5) {i : Int32} {v : Int64} (hin : vp_in i (mN k)) (hdg : decode cc pc = .ok (.lastore, 1))
    (kk : ∀ (M1 : MS) (H1 : Heap) (locs1 : List Loc), M1 = sb M k i.toNatClampNeg v → va_P D vwCl (mo cA m0 ad M1) H1 → va_S (mF m0 ad) H0 H1 locs1 → W p l e R s m args below meth c H1 locs1 cells slots Q (F0 m (pc + 1) ls rest)) : W p l e R s m args below meth c H locs cells slots Q (F0 m pc ls (.long v :: .int i :: .ref (ad k) :: rest)) := by
  obtain ⟨hx, hb, hml, hown, hts⟩ := S
  obtain ⟨q, hq⟩ := mAF_at hk
  refine va_last hx hb hK hP (mo_D hA) hS (q + 1) 2 (by rw [mo_a hq, mar_b ht]) rfl hin hdg (fun H1 locs1 hP1 _ hS1 => ?_)
  exact kk _ H1 locs1 rfl (by rw [mo_sb cA m0 ad M _ v hq ht]; exact hP1) hS1
end MR
theorem af_0 : 0 ∈ mAF := by decide
theorem af_3 : 3 ∈ mAF := by decide
theorem af_21 : 21 ∈ mAF := by decide
theorem af_22 : 22 ∈ mAF := by decide
theorem af_23 : 23 ∈ mAF := by decide
theorem af_24 : 24 ∈ mAF := by decide
theorem af_25 : 25 ∈ mAF := by decide
theorem af_26 : 26 ∈ mAF := by decide
theorem af_27 : 27 ∈ mAF := by decide
theorem af_28 : 28 ∈ mAF := by decide
theorem af_29 : 29 ∈ mAF := by decide
theorem af_30 : 30 ∈ mAF := by decide
theorem af_31 : 31 ∈ mAF := by decide
theorem af_32 : 32 ∈ mAF := by decide
theorem af_33 : 33 ∈ mAF := by decide
theorem af_34 : 34 ∈ mAF := by decide
theorem af_35 : 35 ∈ mAF := by decide
theorem af_36 : 36 ∈ mAF := by decide
theorem af_37 : 37 ∈ mAF := by decide
theorem af_38 : 38 ∈ mAF := by decide
theorem af_39 : 39 ∈ mAF := by decide
theorem af_40 : 40 ∈ mAF := by decide
theorem af_41 : 41 ∈ mAF := by decide
theorem af_42 : 42 ∈ mAF := by decide
theorem af_43 : 43 ∈ mAF := by decide
theorem af_50 : 50 ∈ mAF := by decide
theorem af_51 : 51 ∈ mAF := by decide
theorem af_60 : 60 ∈ mAF := by decide
theorem af_61 : 61 ∈ mAF := by decide
theorem af_62 : 62 ∈ mAF := by decide
theorem af_63 : 63 ∈ mAF := by decide
/-! STARTS AND CALLS: a method of the reference (record mode), a static method of numbers alone -/
abbrev mB (D : va_G) (cA : Nat → ClassId) (m0 : Nat) (ad : Nat → Nat) : MS → State → Prop := fun M' t => va_P D vwCl (mo cA m0 ad M') t.heap
abbrev mPc (av : List Value) (D : va_G) (cA : Nat → ClassId) (m0 : Nat) (ad : Nat → Nat) (M : MS) : Array Value → State → Prop := va_Pc av (fun U => va_P D vwCl (mo cA m0 ad M) U.heap ∧ va_K D vwCl (tysA cA) U)
theorem mPc_blind {av : List Value} {D : va_G} {cA : Nat → ClassId} {m0 : Nat} {ad : Nat → Nat} {M : MS} : FrameBlind (mPc av D cA m0 ad M) := fun a U g mk q => by
  obtain ⟨q0, qP, qK⟩ := q
  exact ⟨q0, qP, va_K.moved (u := U) (U := U.calling g mk a) (Vm.Alike.refl U.vm) qK⟩
theorem sPc_blind {av : List Value} : FrameBlind (va_Pc av (fun _ => True)) := fun a U g mk q => ⟨q.1, trivial⟩
section ST
variable {l : Launch} {y : MethodName} {cc : ByteArray} {maxL : Nat} {rm : Room} {D : va_G} {cA : Nat → ClassId} {m0 : Nat} {ad : Nat → Nat} {M : MS} {av : List Value} {own : String}
theorem mst_i {ty : FieldType} {Post : Int32 → MS → Prop} (hy : plainName y.cls = true) (ho : y.cls = own) (hav : (lg_sl av).length ≤ maxL)
    (body : ∀ (p : Program) (e : Env) (s : State) (m : MethodId) (args : Array Value) (below : List Frame) (meth : Method) (c : Code) (Q : State → Prop) (ls : Array Slot), CallFix p m c cc maxL s args lw_all own → va_K D vwCl (tysA cA) s → va_P D vwCl (mo cA m0 ad M) s.heap → va_S (mF m0 ad) s.heap s.heap [] → lv_has ls maxL (lv_args 0 av) →
      (∀ (H : Heap) (locs : List Loc) (pc : Nat) (ls : Array Slot) (v : Int32) (M' : MS), va_P D vwCl (mo cA m0 ad M') H → va_S (mF m0 ad) s.heap H locs → Post v M' → narrow ty (.int v) = .int v → decode cc pc = .ok (.ireturn, 1) → W p l e rm s m args below meth c H locs 0 0 Q (F0 m pc ls [.int v])) →
      W p l e rm s m args below meth c s.heap [] 0 0 Q (F0 m 0 ls [])) :
    Met l y (ws_ y cc maxL (some ty)) rm (mPc av D cA m0 ad M) (va_Qi Post (mB D cA m0 ad) (mF m0 ad)) 0 0 (mF m0 ad) := by
  refine Met.ofW (cc := cc) (maxL := maxL) (ret := some ty) hy rfl ?_
  intro p e s m args below meth c s₁ B hml hv
  obtain ⟨rfl, hP, hK⟩ := hv
  have hts := atoms_spec (ws := ws_ y cc maxL (some ty)) B.pre
  have hts : ∀ w ∈ lw_all, w.before _ s = true := fun w h => hts w (List.mem_cons_of_mem _ h)
  have hown : s.vm.findClass own = some m.cls := by rw [← ho]; exact findClass_of_methodNamed B.named
  have hlocks := B.notSynchronized
  rw [lg_entry_eq]
  exact body p e s m _ below meth c _ _ ⟨B.exec, B.bytes, hml, hown, hts⟩ hK hP va_S.rf (lv_entry av hav)
    (fun H locs pc ls v M' hP hS hp hn hd => W.zret (v := v) B.exec B.bytes B.returns hn (fun t ht hW => ⟨⟨v, M', rfl, hp, by show va_P _ _ _ t.heap; rw [ht]; exact hP⟩, hS.F ht⟩) hS.2.2 hd)
theorem mst_l {Post : Int64 → MS → Prop} (hy : plainName y.cls = true) (ho : y.cls = own) (hav : (lg_sl av).length ≤ maxL)
    (body : ∀ (p : Program) (e : Env) (s : State) (m : MethodId) (args : Array Value) (below : List Frame) (meth : Method) (c : Code) (Q : State → Prop) (ls : Array Slot), CallFix p m c cc maxL s args lw_all own → va_K D vwCl (tysA cA) s → va_P D vwCl (mo cA m0 ad M) s.heap → va_S (mF m0 ad) s.heap s.heap [] → lv_has ls maxL (lv_args 0 av) →
      (∀ (H : Heap) (locs : List Loc) (pc : Nat) (ls : Array Slot) (v : Int64) (M' : MS), va_P D vwCl (mo cA m0 ad M') H → va_S (mF m0 ad) s.heap H locs → Post v M' → decode cc pc = .ok (.lreturn, 1) → W p l e rm s m args below meth c H locs 0 0 Q (F0 m pc ls [.long v])) →
      W p l e rm s m args below meth c s.heap [] 0 0 Q (F0 m 0 ls [])) :
    Met l y (ws_ y cc maxL (some .long)) rm (mPc av D cA m0 ad M) (va_Ql Post (mB D cA m0 ad) (mF m0 ad)) 0 0 (mF m0 ad) := by
  refine Met.ofW (cc := cc) (maxL := maxL) (ret := some .long) hy rfl ?_
  intro p e s m args below meth c s₁ B hml hv
  obtain ⟨rfl, hP, hK⟩ := hv
  have hts := atoms_spec (ws := ws_ y cc maxL (some .long)) B.pre
  have hts : ∀ w ∈ lw_all, w.before _ s = true := fun w h => hts w (List.mem_cons_of_mem _ h)
  have hown : s.vm.findClass own = some m.cls := by rw [← ho]; exact findClass_of_methodNamed B.named
  have hlocks := B.notSynchronized
  rw [lg_entry_eq]
  exact body p e s m _ below meth c _ _ ⟨B.exec, B.bytes, hml, hown, hts⟩ hK hP va_S.rf (lv_entry av hav)
    (fun H locs pc ls v M' hP hS hp hd => W.lret (v := v) B.exec B.bytes B.returns (fun t ht hW => ⟨⟨v, M', rfl, hp, by show va_P _ _ _ t.heap; rw [ht]; exact hP⟩, hS.F ht⟩) hS.2.2 hd)
theorem mst_v {Post : MS → Prop} (hy : plainName y.cls = true) (ho : y.cls = own) (hav : (lg_sl av).length ≤ maxL)
    (body : ∀ (p : Program) (e : Env) (s : State) (m : MethodId) (args : Array Value) (below : List Frame) (meth : Method) (c : Code) (Q : State → Prop) (ls : Array Slot), CallFix p m c cc maxL s args lw_all own → va_K D vwCl (tysA cA) s → va_P D vwCl (mo cA m0 ad M) s.heap → va_S (mF m0 ad) s.heap s.heap [] → lv_has ls maxL (lv_args 0 av) →
      (∀ (H : Heap) (locs : List Loc) (pc : Nat) (ls : Array Slot) (M' : MS), va_P D vwCl (mo cA m0 ad M') H → va_S (mF m0 ad) s.heap H locs → Post M' → decode cc pc = .ok (.return_, 1) → W p l e rm s m args below meth c H locs 0 0 Q (F0 m pc ls [])) →
      W p l e rm s m args below meth c s.heap [] 0 0 Q (F0 m 0 ls [])) :
    Met l y (ws_ y cc maxL none) rm (mPc av D cA m0 ad M) (va_Qv Post (mB D cA m0 ad) (mF m0 ad)) 0 0 (mF m0 ad) := by
  refine Met.ofW (cc := cc) (maxL := maxL) (ret := none) hy rfl ?_
  intro p e s m args below meth c s₁ B hml hv
  obtain ⟨rfl, hP, hK⟩ := hv
  have hts := atoms_spec (ws := ws_ y cc maxL none) B.pre
  have hts : ∀ w ∈ lw_all, w.before _ s = true := fun w h => hts w (List.mem_cons_of_mem _ h)
  have hown : s.vm.findClass own = some m.cls := by rw [← ho]; exact findClass_of_methodNamed B.named
  have hlocks := B.notSynchronized
  rw [lg_entry_eq]
  exact body p e s m _ below meth c _ _ ⟨B.exec, B.bytes, hml, hown, hts⟩ hK hP va_S.rf (lv_entry av hav)
    (fun H locs pc ls M' hP hS hp hd => W.vret B.exec B.bytes B.returns (fun t ht hW => ⟨⟨M', rfl, hp, by show va_P _ _ _ t.heap; rw [ht]; exact hP⟩, hS.F ht⟩) hS.2.2 hd)
theorem sst_i {ty : FieldType} {Post : Int32 → Prop} (hy : plainName y.cls = true) (ho : y.cls = own) (hav : (lg_sl av).length ≤ maxL)
    (body : ∀ (p : Program) (e : Env) (s : State) (m : MethodId) (args : Array Value) (below : List Frame) (meth : Method) (c : Code) (Q : State → Prop) (ls : Array Slot), CallFix p m c cc maxL s args lw_all own → lv_has ls maxL (lv_args 0 av) →
      (∀ (pc : Nat) (ls : Array Slot) (v : Int32), Post v → narrow ty (.int v) = .int v → decode cc pc = .ok (.ireturn, 1) → W p l e rm s m args below meth c s.heap [] 0 0 Q (F0 m pc ls [.int v])) →
      W p l e rm s m args below meth c s.heap [] 0 0 Q (F0 m 0 ls [])) :
    Met l y (ws_ y cc maxL (some ty)) rm (va_Pc av (fun _ => True)) (vp_Si Post) 0 0 (fun _ => False) := by
  refine Met.ofW (cc := cc) (maxL := maxL) (ret := some ty) hy rfl ?_
  intro p e s m args below meth c s₁ B hml hv
  obtain ⟨rfl, -⟩ := hv
  have hts := atoms_spec (ws := ws_ y cc maxL (some ty)) B.pre
  have hts : ∀ w ∈ lw_all, w.before _ s = true := fun w h => hts w (List.mem_cons_of_mem _ h)
  have hown : s.vm.findClass own = some m.cls := by rw [← ho]; exact findClass_of_methodNamed B.named
  have hlocks := B.notSynchronized
  rw [lg_entry_eq]
  exact body p e s m _ below meth c _ _ ⟨B.exec, B.bytes, hml, hown, hts⟩ (lv_entry av hav)
    (fun pc ls v hp hn hd => W.zret (v := v) B.exec B.bytes B.returns hn (fun t ht hW => ⟨v, rfl, hp, ht⟩) (fun q h => by cases h) hd)
theorem sst_l {Post : Int64 → Prop} (hy : plainName y.cls = true) (ho : y.cls = own) (hav : (lg_sl av).length ≤ maxL)
    (body : ∀ (p : Program) (e : Env) (s : State) (m : MethodId) (args : Array Value) (below : List Frame) (meth : Method) (c : Code) (Q : State → Prop) (ls : Array Slot), CallFix p m c cc maxL s args lw_all own → lv_has ls maxL (lv_args 0 av) →
      (∀ (pc : Nat) (ls : Array Slot) (v : Int64), Post v → decode cc pc = .ok (.lreturn, 1) → W p l e rm s m args below meth c s.heap [] 0 0 Q (F0 m pc ls [.long v])) →
      W p l e rm s m args below meth c s.heap [] 0 0 Q (F0 m 0 ls [])) :
    Met l y (ws_ y cc maxL (some .long)) rm (va_Pc av (fun _ => True)) (vp_Sl Post) 0 0 (fun _ => False) := by
  refine Met.ofW (cc := cc) (maxL := maxL) (ret := some .long) hy rfl ?_
  intro p e s m args below meth c s₁ B hml hv
  obtain ⟨rfl, -⟩ := hv
  have hts := atoms_spec (ws := ws_ y cc maxL (some .long)) B.pre
  have hts : ∀ w ∈ lw_all, w.before _ s = true := fun w h => hts w (List.mem_cons_of_mem _ h)
  have hown : s.vm.findClass own = some m.cls := by rw [← ho]; exact findClass_of_methodNamed B.named
  have hlocks := B.notSynchronized
  rw [lg_entry_eq]
  exact body p e s m _ below meth c _ _ ⟨B.exec, B.bytes, hml, hown, hts⟩ (lv_entry av hav)
    (fun pc ls v hp hd => W.lret (v := v) B.exec B.bytes B.returns (fun t ht hW => ⟨v, rfl, hp, ht⟩) (fun q h => by cases h) hd)
end ST
section CA
variable {p : Program} {l : Launch} {e : Env} {R : Room} {s : State} {m : MethodId} {args : Array Value} {below : List Frame} {meth : Method} {c : Code} {H : Heap} {locs : List Loc} {cells slots : Nat} {Q : State → Prop}
variable {cc : ByteArray} {pc nL : Nat} {ls : Array Slot} {rest st0 As : List Value} {D : va_G} {cA : Nat → ClassId} {m0 : Nat} {ad : Nat → Nat} {M : MS} {index maxL n : Nat} {H0 : Heap} {y : MethodName} {bytes : ByteArray} {rm : Room} {own : String}
theorem no_locs {L : List Loc} (h : ∀ q ∈ L, (fun _ : Addr => False) q.base) : L = [] := by
  cases L with
  | nil => rfl
  | cons a t => exact (h a List.mem_cons_self).elim
/-- a static method of numbers, called -/
theorem sc_i {ty : FieldType} {Post : Int32 → Prop} (S : CallFix p m c cc nL s args lw_all own) (hM : Met l y (ws_ y bytes maxL (some ty)) rm (va_Pc As (fun _ => True)) (vp_Si Post) 0 0 (fun _ => False))
    (cw : CallB R s args own index y bytes maxL (some ty) (ws_ y bytes maxL (some ty)) rm 0 0 n ∧ (Cond.static y).before args s = true) (hn : As.length = n) (hst : st0 = As.reverse ++ rest) (hsz : ls.size = nL) (hroom : (rest.map fun v => v.category).sum ≤ 8) (hdg : decode cc pc = .ok (.invokestatic index, 3)) (hc : cells ≤ R.cells ∧ slots ≤ R.slots)
    (kk : ∀ r : Int32, Post r → W p l e R s m args below meth c H locs cells slots Q (F0 m (pc + 3) ls (.int r :: rest))) : W p l e R s m args below meth c H locs cells slots Q (F0 m pc ls st0) := by
  subst hst
  have hr : va_Run p l e R s m args below meth c H locs cells slots 0 0 (F0 m pc ls (As.reverse ++ rest)) rest (vp_Si Post As.toArray) (fun _ => False) := va_runS (g := F0 m pc ls (As.reverse ++ rest)) S hM cw ⟨sPc_blind, fun U hU hW => ⟨rfl, trivial⟩⟩ rfl hn hsz rfl (lv_room hroom) hdg hc
  intro T hT X
  obtain ⟨v, st₀, t, T', L, h0, X', hL, e1, e2, ⟨r, hv, hp, hh⟩, st⟩ := hr T hT X
  cases hv
  have hL0 := no_locs hL
  subst hL0
  obtain ⟨t2, a1, b1⟩ := kk r hp T' (by rw [e1, hh, h0]) (by simpa using X')
  exact ⟨t2, st t2 a1, b1⟩
theorem sc_l {Post : Int64 → Prop} (S : CallFix p m c cc nL s args lw_all own) (hM : Met l y (ws_ y bytes maxL (some .long)) rm (va_Pc As (fun _ => True)) (vp_Sl Post) 0 0 (fun _ => False))
    (cw : CallB R s args own index y bytes maxL (some .long) (ws_ y bytes maxL (some .long)) rm 0 0 n ∧ (Cond.static y).before args s = true) (hn : As.length = n) (hst : st0 = As.reverse ++ rest) (hsz : ls.size = nL) (hroom : (rest.map fun v => v.category).sum ≤ 8) (hdg : decode cc pc = .ok (.invokestatic index, 3)) (hc : cells ≤ R.cells ∧ slots ≤ R.slots)
    (kk : ∀ r : Int64, Post r → W p l e R s m args below meth c H locs cells slots Q (F0 m (pc + 3) ls (.long r :: rest))) : W p l e R s m args below meth c H locs cells slots Q (F0 m pc ls st0) := by
  subst hst
  have hr : va_Run p l e R s m args below meth c H locs cells slots 0 0 (F0 m pc ls (As.reverse ++ rest)) rest (vp_Sl Post As.toArray) (fun _ => False) := va_runS (g := F0 m pc ls (As.reverse ++ rest)) S hM cw ⟨sPc_blind, fun U hU hW => ⟨rfl, trivial⟩⟩ rfl hn hsz rfl (lv_room hroom) hdg hc
  intro T hT X
  obtain ⟨v, st₀, t, T', L, h0, X', hL, e1, e2, ⟨r, hv, hp, hh⟩, st⟩ := hr T hT X
  cases hv
  have hL0 := no_locs hL
  subst hL0
  obtain ⟨t2, a1, b1⟩ := kk r hp T' (by rw [e1, hh, h0]) (by simpa using X')
  exact ⟨t2, st t2 a1, b1⟩
/-- a method of the reference's, called from one -/
theorem mc_run {ret : Option FieldType} {Qc : Array Value → State → Outcome → State → Prop} (S : CallFix p m c cc nL s args lw_all own) (hK : va_K D vwCl (tysA cA) s) (hP : va_P D vwCl (mo cA m0 ad M) H)
    (hM : Met l y (ws_ y bytes maxL ret) rm (mPc (.ref m0 :: As) D cA m0 ad M) Qc 0 0 (mF m0 ad))
    (cw : CallW R s args own RX4 index y bytes maxL ret (ws_ y bytes maxL ret) rm 0 0 n) (hn : As.length = n) (hsz : ls.size = nL) (hroom : (rest.map fun v => v.category).sum ≤ 8) (hdg : decode cc pc = .ok (.invokevirtual index, 3)) (hc : cells ≤ R.cells ∧ slots ≤ R.slots) :
    va_Run p l e R s m args below meth c H locs cells slots 0 0 (F0 m pc ls (As.reverse ++ .ref m0 :: rest)) rest (Qc (Value.ref m0 :: As).toArray) (mF m0 ad) :=
  va_runV (g := F0 m pc ls (As.reverse ++ .ref m0 :: rest)) S hM cw ⟨mPc_blind, va_recv (q := (RX4, TX4, 66)) hK hP (ci := mci) (q0 := 0) rfl rfl, fun U hU hW => ⟨rfl, by rw [hU]; exact hP, va_K.moved hW.alike hK⟩⟩ rfl hn hsz rfl (lv_room hroom) hdg hc
theorem mc_i {ty : FieldType} {Post : Int32 → MS → Prop} (S : CallFix p m c cc nL s args lw_all own) (hK : va_K D vwCl (tysA cA) s) (hP : va_P D vwCl (mo cA m0 ad M) H) (hS : va_S (mF m0 ad) H0 H locs)
    (hM : Met l y (ws_ y bytes maxL (some ty)) rm (mPc (.ref m0 :: As) D cA m0 ad M) (va_Qi Post (mB D cA m0 ad) (mF m0 ad)) 0 0 (mF m0 ad))
    (cw : CallW R s args own RX4 index y bytes maxL (some ty) (ws_ y bytes maxL (some ty)) rm 0 0 n) (hn : As.length = n) (hst : st0 = As.reverse ++ .ref m0 :: rest) (hsz : ls.size = nL) (hroom : (rest.map fun v => v.category).sum ≤ 8) (hdg : decode cc pc = .ok (.invokevirtual index, 3)) (hc : cells ≤ R.cells ∧ slots ≤ R.slots)
    (kk : ∀ (r : Int32) (M1 : MS) (H1 : Heap) (locs1 : List Loc), Post r M1 → va_P D vwCl (mo cA m0 ad M1) H1 → va_S (mF m0 ad) H0 H1 locs1 → W p l e R s m args below meth c H1 locs1 cells slots Q (F0 m (pc + 3) ls (.int r :: rest))) : W p l e R s m args below meth c H locs cells slots Q (F0 m pc ls st0) := by
  subst hst
  exact va_calli (mc_run S hK hP hM cw hn hsz hroom hdg hc) hS (fun q _ h => h) (fun q h => h) (fun r M1 t H1 locs1 ht _ hp hB _ _ hS1 => kk r M1 H1 locs1 hp (by rw [← ht]; exact hB) hS1)
theorem mc_l {Post : Int64 → MS → Prop} (S : CallFix p m c cc nL s args lw_all own) (hK : va_K D vwCl (tysA cA) s) (hP : va_P D vwCl (mo cA m0 ad M) H) (hS : va_S (mF m0 ad) H0 H locs)
    (hM : Met l y (ws_ y bytes maxL (some .long)) rm (mPc (.ref m0 :: As) D cA m0 ad M) (va_Ql Post (mB D cA m0 ad) (mF m0 ad)) 0 0 (mF m0 ad))
    (cw : CallW R s args own RX4 index y bytes maxL (some .long) (ws_ y bytes maxL (some .long)) rm 0 0 n) (hn : As.length = n) (hst : st0 = As.reverse ++ .ref m0 :: rest) (hsz : ls.size = nL) (hroom : (rest.map fun v => v.category).sum ≤ 8) (hdg : decode cc pc = .ok (.invokevirtual index, 3)) (hc : cells ≤ R.cells ∧ slots ≤ R.slots)
    (kk : ∀ (r : Int64) (M1 : MS) (H1 : Heap) (locs1 : List Loc), Post r M1 → va_P D vwCl (mo cA m0 ad M1) H1 → va_S (mF m0 ad) H0 H1 locs1 → W p l e R s m args below meth c H1 locs1 cells slots Q (F0 m (pc + 3) ls (.long r :: rest))) : W p l e R s m args below meth c H locs cells slots Q (F0 m pc ls st0) := by
  subst hst
  exact va_calll (mc_run S hK hP hM cw hn hsz hroom hdg hc) hS (fun q _ h => h) (fun q h => h) (fun r M1 t H1 locs1 ht _ hp hB _ _ hS1 => kk r M1 H1 locs1 hp (by rw [← ht]; exact hB) hS1)
theorem mc_v {Post : MS → Prop} (S : CallFix p m c cc nL s args lw_all own) (hK : va_K D vwCl (tysA cA) s) (hP : va_P D vwCl (mo cA m0 ad M) H) (hS : va_S (mF m0 ad) H0 H locs)
    (hM : Met l y (ws_ y bytes maxL none) rm (mPc (.ref m0 :: As) D cA m0 ad M) (va_Qv Post (mB D cA m0 ad) (mF m0 ad)) 0 0 (mF m0 ad))
    (cw : CallW R s args own RX4 index y bytes maxL none (ws_ y bytes maxL none) rm 0 0 n) (hn : As.length = n) (hst : st0 = As.reverse ++ .ref m0 :: rest) (hsz : ls.size = nL) (hroom : (rest.map fun v => v.category).sum ≤ 8) (hdg : decode cc pc = .ok (.invokevirtual index, 3)) (hc : cells ≤ R.cells ∧ slots ≤ R.slots)
    (kk : ∀ (M1 : MS) (H1 : Heap) (locs1 : List Loc), Post M1 → va_P D vwCl (mo cA m0 ad M1) H1 → va_S (mF m0 ad) H0 H1 locs1 → W p l e R s m args below meth c H1 locs1 cells slots Q (F0 m (pc + 3) ls rest)) : W p l e R s m args below meth c H locs cells slots Q (F0 m pc ls st0) := by
  subst hst
  exact va_callv (mc_run S hK hP hM cw hn hsz hroom hdg hc) hS (fun q _ h => h) (fun q h => h) (fun M1 t H1 locs1 ht _ hp hB _ _ hS1 => kk M1 H1 locs1 hp (by rw [← ht]; exact hB) hS1)
end CA
theorem sw_n {x v : Int32} {n : Int} (h : ¬ x = v) (hv : v.toInt = n) : x.toInt ≠ n := fun g => h (Int32.toInt_inj.mp (g.trans hv.symm))
theorem kb_m2 : (Int8.ofInt (-2)).toInt32 = (-2) := by decide
theorem kb_6 : (Int8.ofInt (6)).toInt32 = (6) := by decide
theorem kb_7 : (Int8.ofInt (7)).toInt32 = (7) := by decide
theorem kb_8 : (Int8.ofInt (8)).toInt32 = (8) := by decide
theorem kb_9 : (Int8.ofInt (9)).toInt32 = (9) := by decide
theorem kb_10 : (Int8.ofInt (10)).toInt32 = (10) := by decide
theorem kb_11 : (Int8.ofInt (11)).toInt32 = (11) := by decide
theorem kb_12 : (Int8.ofInt (12)).toInt32 = (12) := by decide
theorem kb_13 : (Int8.ofInt (13)).toInt32 = (13) := by decide
theorem kb_14 : (Int8.ofInt (14)).toInt32 = (14) := by decide
theorem kb_15 : (Int8.ofInt (15)).toInt32 = (15) := by decide
theorem kb_16 : (Int8.ofInt (16)).toInt32 = (16) := by decide
theorem kb_17 : (Int8.ofInt (17)).toInt32 = (17) := by decide
theorem kb_18 : (Int8.ofInt (18)).toInt32 = (18) := by decide
theorem kb_19 : (Int8.ofInt (19)).toInt32 = (19) := by decide
theorem kb_20 : (Int8.ofInt (20)).toInt32 = (20) := by decide
theorem kb_21 : (Int8.ofInt (21)).toInt32 = (21) := by decide
theorem kb_22 : (Int8.ofInt (22)).toInt32 = (22) := by decide
theorem kb_23 : (Int8.ofInt (23)).toInt32 = (23) := by decide
theorem kb_24 : (Int8.ofInt (24)).toInt32 = (24) := by decide
theorem kb_25 : (Int8.ofInt (25)).toInt32 = (25) := by decide
theorem kb_26 : (Int8.ofInt (26)).toInt32 = (26) := by decide
theorem kb_27 : (Int8.ofInt (27)).toInt32 = (27) := by decide
theorem kb_28 : (Int8.ofInt (28)).toInt32 = (28) := by decide
theorem kb_29 : (Int8.ofInt (29)).toInt32 = (29) := by decide
theorem kb_30 : (Int8.ofInt (30)).toInt32 = (30) := by decide
theorem kb_31 : (Int8.ofInt (31)).toInt32 = (31) := by decide
theorem kb_32 : (Int8.ofInt (32)).toInt32 = (32) := by decide
theorem kb_33 : (Int8.ofInt (33)).toInt32 = (33) := by decide
theorem kb_34 : (Int8.ofInt (34)).toInt32 = (34) := by decide
theorem kb_35 : (Int8.ofInt (35)).toInt32 = (35) := by decide
theorem kb_36 : (Int8.ofInt (36)).toInt32 = (36) := by decide
theorem kb_37 : (Int8.ofInt (37)).toInt32 = (37) := by decide
theorem kb_38 : (Int8.ofInt (38)).toInt32 = (38) := by decide
theorem kb_39 : (Int8.ofInt (39)).toInt32 = (39) := by decide
theorem kb_40 : (Int8.ofInt (40)).toInt32 = (40) := by decide
theorem kb_41 : (Int8.ofInt (41)).toInt32 = (41) := by decide
theorem kb_42 : (Int8.ofInt (42)).toInt32 = (42) := by decide
theorem kb_43 : (Int8.ofInt (43)).toInt32 = (43) := by decide
theorem kb_44 : (Int8.ofInt (44)).toInt32 = (44) := by decide
theorem kb_45 : (Int8.ofInt (45)).toInt32 = (45) := by decide
theorem kb_46 : (Int8.ofInt (46)).toInt32 = (46) := by decide
theorem kb_47 : (Int8.ofInt (47)).toInt32 = (47) := by decide
theorem kb_48 : (Int8.ofInt (48)).toInt32 = (48) := by decide
theorem kb_49 : (Int8.ofInt (49)).toInt32 = (49) := by decide
theorem kb_50 : (Int8.ofInt (50)).toInt32 = (50) := by decide
theorem kb_51 : (Int8.ofInt (51)).toInt32 = (51) := by decide
theorem kb_52 : (Int8.ofInt (52)).toInt32 = (52) := by decide
theorem kb_53 : (Int8.ofInt (53)).toInt32 = (53) := by decide
theorem kb_54 : (Int8.ofInt (54)).toInt32 = (54) := by decide
theorem kb_55 : (Int8.ofInt (55)).toInt32 = (55) := by decide
theorem kb_56 : (Int8.ofInt (56)).toInt32 = (56) := by decide
theorem kb_57 : (Int8.ofInt (57)).toInt32 = (57) := by decide
theorem kb_58 : (Int8.ofInt (58)).toInt32 = (58) := by decide
theorem kb_59 : (Int8.ofInt (59)).toInt32 = (59) := by decide
theorem kb_60 : (Int8.ofInt (60)).toInt32 = (60) := by decide
theorem kb_61 : (Int8.ofInt (61)).toInt32 = (61) := by decide
theorem kb_62 : (Int8.ofInt (62)).toInt32 = (62) := by decide
theorem kb_63 : (Int8.ofInt (63)).toInt32 = (63) := by decide
theorem kb_64 : (Int8.ofInt (64)).toInt32 = (64) := by decide
theorem kb_65 : (Int8.ofInt (65)).toInt32 = (65) := by decide
theorem kb_66 : (Int8.ofInt (66)).toInt32 = (66) := by decide
theorem kb_67 : (Int8.ofInt (67)).toInt32 = (67) := by decide
theorem kb_68 : (Int8.ofInt (68)).toInt32 = (68) := by decide
theorem kb_69 : (Int8.ofInt (69)).toInt32 = (69) := by decide
theorem kb_70 : (Int8.ofInt (70)).toInt32 = (70) := by decide
theorem kb_71 : (Int8.ofInt (71)).toInt32 = (71) := by decide
theorem kb_72 : (Int8.ofInt (72)).toInt32 = (72) := by decide
theorem kb_73 : (Int8.ofInt (73)).toInt32 = (73) := by decide
theorem kb_74 : (Int8.ofInt (74)).toInt32 = (74) := by decide
theorem kb_75 : (Int8.ofInt (75)).toInt32 = (75) := by decide
theorem kb_76 : (Int8.ofInt (76)).toInt32 = (76) := by decide
theorem kb_77 : (Int8.ofInt (77)).toInt32 = (77) := by decide
theorem kb_78 : (Int8.ofInt (78)).toInt32 = (78) := by decide
theorem kb_79 : (Int8.ofInt (79)).toInt32 = (79) := by decide
theorem kb_80 : (Int8.ofInt (80)).toInt32 = (80) := by decide
theorem kb_81 : (Int8.ofInt (81)).toInt32 = (81) := by decide
theorem kb_82 : (Int8.ofInt (82)).toInt32 = (82) := by decide
theorem kb_83 : (Int8.ofInt (83)).toInt32 = (83) := by decide
theorem kb_84 : (Int8.ofInt (84)).toInt32 = (84) := by decide
theorem kb_85 : (Int8.ofInt (85)).toInt32 = (85) := by decide
theorem kb_86 : (Int8.ofInt (86)).toInt32 = (86) := by decide
theorem kb_87 : (Int8.ofInt (87)).toInt32 = (87) := by decide
theorem kb_88 : (Int8.ofInt (88)).toInt32 = (88) := by decide
theorem kb_89 : (Int8.ofInt (89)).toInt32 = (89) := by decide
theorem kb_90 : (Int8.ofInt (90)).toInt32 = (90) := by decide
theorem kb_91 : (Int8.ofInt (91)).toInt32 = (91) := by decide
theorem kb_92 : (Int8.ofInt (92)).toInt32 = (92) := by decide
theorem kb_93 : (Int8.ofInt (93)).toInt32 = (93) := by decide
theorem kb_94 : (Int8.ofInt (94)).toInt32 = (94) := by decide
theorem kb_95 : (Int8.ofInt (95)).toInt32 = (95) := by decide
theorem kb_96 : (Int8.ofInt (96)).toInt32 = (96) := by decide
theorem kb_97 : (Int8.ofInt (97)).toInt32 = (97) := by decide
theorem kb_98 : (Int8.ofInt (98)).toInt32 = (98) := by decide
theorem kb_99 : (Int8.ofInt (99)).toInt32 = (99) := by decide
theorem kb_100 : (Int8.ofInt (100)).toInt32 = (100) := by decide
theorem kb_101 : (Int8.ofInt (101)).toInt32 = (101) := by decide
theorem kb_102 : (Int8.ofInt (102)).toInt32 = (102) := by decide
theorem kb_103 : (Int8.ofInt (103)).toInt32 = (103) := by decide
theorem kb_104 : (Int8.ofInt (104)).toInt32 = (104) := by decide
theorem kb_105 : (Int8.ofInt (105)).toInt32 = (105) := by decide
theorem kb_106 : (Int8.ofInt (106)).toInt32 = (106) := by decide
theorem kb_107 : (Int8.ofInt (107)).toInt32 = (107) := by decide
theorem kb_108 : (Int8.ofInt (108)).toInt32 = (108) := by decide
theorem kb_109 : (Int8.ofInt (109)).toInt32 = (109) := by decide
theorem kb_110 : (Int8.ofInt (110)).toInt32 = (110) := by decide
theorem kb_111 : (Int8.ofInt (111)).toInt32 = (111) := by decide
theorem kb_112 : (Int8.ofInt (112)).toInt32 = (112) := by decide
theorem kb_113 : (Int8.ofInt (113)).toInt32 = (113) := by decide
theorem kb_114 : (Int8.ofInt (114)).toInt32 = (114) := by decide
theorem kb_115 : (Int8.ofInt (115)).toInt32 = (115) := by decide
theorem kb_116 : (Int8.ofInt (116)).toInt32 = (116) := by decide
theorem kb_117 : (Int8.ofInt (117)).toInt32 = (117) := by decide
theorem kb_118 : (Int8.ofInt (118)).toInt32 = (118) := by decide
theorem kb_119 : (Int8.ofInt (119)).toInt32 = (119) := by decide
theorem kb_120 : (Int8.ofInt (120)).toInt32 = (120) := by decide
theorem kb_121 : (Int8.ofInt (121)).toInt32 = (121) := by decide
theorem kb_122 : (Int8.ofInt (122)).toInt32 = (122) := by decide
theorem kb_123 : (Int8.ofInt (123)).toInt32 = (123) := by decide
theorem kb_124 : (Int8.ofInt (124)).toInt32 = (124) := by decide
theorem kb_125 : (Int8.ofInt (125)).toInt32 = (125) := by decide
theorem kb_126 : (Int8.ofInt (126)).toInt32 = (126) := by decide
theorem kb_127 : (Int8.ofInt (127)).toInt32 = (127) := by decide
theorem kc_m8 : Int32.ofInt (-8) = (-8) := by decide
theorem kc_m1 : Int32.ofInt (-1) = (-1) := by decide
theorem kc_0 : Int32.ofInt (0) = (0) := by decide
theorem kc_1 : Int32.ofInt (1) = (1) := by decide
theorem kc_2 : Int32.ofInt (2) = (2) := by decide
theorem kc_3 : Int32.ofInt (3) = (3) := by decide
theorem kc_4 : Int32.ofInt (4) = (4) := by decide
theorem kc_5 : Int32.ofInt (5) = (5) := by decide
theorem kc_6 : Int32.ofInt (6) = (6) := by decide
theorem ks_128 : (Int16.ofInt (128)).toInt32 = (128) := by decide
theorem ks_129 : (Int16.ofInt (129)).toInt32 = (129) := by decide
theorem ks_130 : (Int16.ofInt (130)).toInt32 = (130) := by decide
theorem ks_131 : (Int16.ofInt (131)).toInt32 = (131) := by decide
theorem ks_132 : (Int16.ofInt (132)).toInt32 = (132) := by decide
theorem ks_199 : (Int16.ofInt (199)).toInt32 = (199) := by decide
theorem ks_255 : (Int16.ofInt (255)).toInt32 = (255) := by decide
theorem ks_256 : (Int16.ofInt (256)).toInt32 = (256) := by decide
theorem ks_257 : (Int16.ofInt (257)).toInt32 = (257) := by decide
theorem ks_258 : (Int16.ofInt (258)).toInt32 = (258) := by decide
theorem ks_800 : (Int16.ofInt (800)).toInt32 = (800) := by decide
theorem ks_999 : (Int16.ofInt (999)).toInt32 = (999) := by decide
theorem ks_12345 : (Int16.ofInt (12345)).toInt32 = (12345) := by decide
