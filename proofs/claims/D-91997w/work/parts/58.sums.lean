/-! sums worked out: what a knot is worth, none: trouble -/
def bnd (v : Int64) : Option Int64 := if (1000000000000 : Int64) < v ∨ ¬ (-1000000000000 : Int64) ≤ v then none else some v
def abs64 (v : Int64) : Int64 := if (0 : Int64) ≤ v then v else -v
def tms (a b : Int64) : Option Int64 := if a ≠ 0 ∧ b ≠ 0 ∧ ¬ abs64 b ≤ (1000000000000 : Int64) / abs64 a then none else some (a * b)
def bJ (b : Bool) : Int64 := if b then 1 else 0
def op2 (s : Nat) (a b : Int64) : Option Int64 :=
  if s = 3 then some (bJ (decide (a ≠ 0) && decide (b ≠ 0)))
  else if s = 4 then some (bJ (decide (a ≠ 0) || decide (b ≠ 0)))
  else if s = 5 then some (bJ (decide (¬ b ≤ a)))
  else if s = 6 then some (bJ (decide (¬ b < a)))
  else if s = 7 then some (bJ (decide (a = b)))
  else if s = 8 then some (bJ (decide (¬ a = b)))
  else if s = 9 then some (bJ (decide (¬ a < b)))
  else if s = 10 then some (bJ (decide (¬ a ≤ b)))
  else if s = 11 then bnd (a + b)
  else if s = 12 then bnd (a - b)
  else if s = 13 then tms a b
  else if b = 0 then none else some (a / b)
def ev (K : Ka) (nm : Nat → Int64) : Nat → Nat → Option Int64
  | 0, _ => none
  | f + 1, k => if K.knot k = 0 then some (K.kP k).toInt64
    else if K.knot k = 1 then some (nm (K.kA k))
    else match ev K nm f (K.kA k) with
      | none => none
      | some a => if K.knot k = 2 then some (bJ (decide (a = 0)))
        else match ev K nm f (K.kB k) with
          | none => none
          | some b => op2 (K.knot k) a b
/-- what knot k is worth -/
def wv (K : Ka) (nm : Nat → Int64) (k : Nat) : Option Int64 := ev K nm (k + 1) k
theorem err1 {M : MS} {P Q : MS → Prop} (hp : Q (si M 64 1)) : vz (1 : Int32) ∧ ∀ M2 : MS, M2 = si M 64 1 → (mi M2 64 = 0 → P M2) ∧ (¬ mi M2 64 = 0 → Q M2) := ⟨Or.inr rfl, fun M2 e2 => by subst e2; exact br_f (by show ¬ (1 : Int32) = 0; decide) hp⟩
theorem err0 {M : MS} {P Q : MS → Prop} (hp : P (si M 64 0)) : vz (0 : Int32) ∧ ∀ M2 : MS, M2 = si M 64 0 → (mi M2 64 = 0 → P M2) ∧ (¬ mi M2 64 = 0 → Q M2) := ⟨Or.inl rfl, fun M2 e2 => by subst e2; exact br_t rfl hp⟩
theorem p4_bounded {M : MS} {v : Int64} {Post : Int64 → MS → Prop} (h1 : mi M 64 = 0 → ∀ w, bnd v = some w → Post w (si M 64 0)) (h0 : mi M 64 = 0 → bnd v = none → Post 0 (si M 64 1)) (h2 : ¬ mi M 64 = 0 → Post 0 (si M 64 1)) : w4_bounded v M Post := by
  unfold w4_bounded w4_bounded_c24 w4_bounded_c29
  refine br_c (fun c => br_c (fun d => ?_) (fun d => br_c (fun g => ?_) (fun g => ?_))) (fun c => err1 (P := Post v) (Q := Post 0) (h2 c))
  · exact err1 (P := Post v) (Q := Post 0) (h0 c (by unfold bnd; rw [if_pos (Or.inl d)]))
  · exact err0 (P := Post v) (Q := Post 0) (h1 c v (by unfold bnd; rw [if_neg (fun q => q.elim d (fun q => q g))]))
  · exact err1 (P := Post v) (Q := Post 0) (h0 c (by unfold bnd; rw [if_pos (Or.inr g)]))
theorem p4_times {M : MS} {a b : Int64} {Post : Int64 → MS → Prop} (h1 : mi M 64 = 0 → ∀ w, tms a b = some w → Post w (si M 64 0)) (h0 : mi M 64 = 0 → tms a b = none → Post 0 (si M 64 1)) (h2 : ¬ mi M 64 = 0 → Post 0 (si M 64 1)) : w4_times a b M Post := by
  have k48 : tms a b = some (a * b) → w4_times_c48 a b Post M := fun e => by
    unfold w4_times_c48 w4_times_c49 w4_times_c64 w4_times_c69
    exact br_c (fun c => br_t rfl (err0 (P := Post (a * b)) (Q := Post 0) (h1 c _ e))) (fun c => err1 (P := Post (a * b)) (Q := Post 0) (h2 c))
  have k49 : tms a b = none → w4_times_c49 a b Post (1 : Int32) M := fun e => by
    unfold w4_times_c49 w4_times_c64 w4_times_c69
    exact br_c (fun c => br_f (by decide) (err1 (P := Post (a * b)) (Q := Post 0) (h0 c e))) (fun c => err1 (P := Post (a * b)) (Q := Post 0) (h2 c))
  have k39 : a ≠ 0 → b ≠ 0 → w4_times_c39 a b Post (abs64 a) (1000000000000 : Int64) (abs64 b) M := fun ha hb => by
    have hz : ¬ abs64 a = 0 := by
      unfold abs64
      split
      · exact ha
      · intro q
        exact ha (by rw [← Int64.neg_neg (a := a), q]; rfl)
    refine ⟨hz, br_c (fun c => k48 ?_) (fun c => k49 ?_)⟩
    · unfold tms; rw [if_neg (fun q => q.2.2 c)]
    · unfold tms; rw [if_pos ⟨ha, hb, c⟩]
  refine br_c (fun c => k48 ?_) (fun c => br_c (fun d => k48 ?_) (fun d => ?_))
  · unfold tms; rw [if_neg (fun q => q.1 c)]
  · unfold tms; rw [if_neg (fun q => q.2.1 d)]
  · have k := k39 c d
    refine br_c (fun g => br_c (fun j => ?_) (fun j => ?_)) (fun g => br_c (fun j => ?_) (fun j => ?_))
    · unfold abs64 at k; rw [if_pos g, if_pos j] at k; exact k
    · unfold abs64 at k; rw [if_pos g, if_neg j] at k; exact k
    · unfold abs64 at k; rw [if_neg g, if_pos j] at k; exact k
    · unfold abs64 at k; rw [if_neg g, if_neg j] at k; exact k
theorem p4_compares {s : Nat} {a b : Int64} {Post : Int32 → Prop} (hs : 5 ≤ s ∧ s ≤ 10) (h : ∀ r : Bool, op2 s a b = some (bJ r) → Post (bI r)) : w4_compares (nI s) a b Post := by
  have e : s = 5 ∨ s = 6 ∨ s = 7 ∨ s = 8 ∨ s = 9 ∨ s = 10 := by omega
  have go : ∀ (c : Prop) [Decidable c] (r : Bool), op2 s a b = some (bJ (decide c)) → r = decide c → Post (bI r) := fun c _ r h1 h2 => h r (by rw [h2]; exact h1)
  unfold w4_compares
  rcases e with rfl | rfl | rfl | rfl | rfl | rfl
  · exact br_t rfl (br_c (fun c => go _ false rfl (decide_eq_false (fun q => q c)).symm) (fun c => go _ true rfl (decide_eq_true c).symm))
  · exact br_f (by decide) (br_t rfl (br_c (fun c => go _ false rfl (decide_eq_false (fun q => q c)).symm) (fun c => go _ true rfl (decide_eq_true c).symm)))
  · exact br_f (by decide) (br_f (by decide) (br_t rfl (br_c (fun c => go _ true rfl (decide_eq_true c).symm) (fun c => go _ false rfl (decide_eq_false c).symm))))
  · exact br_f (by decide) (br_f (by decide) (br_f (by decide) (br_t rfl (br_c (fun c => go _ false rfl (decide_eq_false (fun q => q c)).symm) (fun c => go _ true rfl (decide_eq_true c).symm)))))
  · exact br_f (by decide) (br_f (by decide) (br_f (by decide) (br_f (by decide) (br_t rfl (br_c (fun c => go _ false rfl (decide_eq_false (fun q => q c)).symm) (fun c => go _ true rfl (decide_eq_true c).symm))))))
  · exact br_f (by decide) (br_f (by decide) (br_f (by decide) (br_f (by decide) (br_f (by decide) (br_c (fun c => go _ false rfl (decide_eq_false (fun q => q c)).symm) (fun c => go _ true rfl (decide_eq_true c).symm))))))
def wk (K : Ka) (nm wo : Nat → Int64) (k : Nat) : Option Int64 := if K.knot k = 0 then some (K.kP k).toInt64 else if K.knot k = 1 then some (nm (K.kA k)) else if K.knot k = 2 then some (bJ (decide (wo (K.kA k) = 0))) else op2 (K.knot k) (wo (K.kA k)) (wo (K.kB k))
theorem p4_worthOf {M : MS} {K : Ka} {Post : Int64 → MS → Prop} {e k : Nat} (hO : KO K) (hM : MK M K) (he : e < 3) (hk1 : K.first e ≤ k) (hk2 : k < K.last e)
    (h1 : mi M 64 = 0 → ∀ w M', wk K (mb M 62) (mb M 63) k = some w → M' = M ∨ M' = si M 64 0 → Post w M')
    (h0 : (mi M 64 = 0 → wk K (mb M 62) (mb M 63) k = none) → ∀ r M', M' = si M 64 1 ∨ (M' = M ∧ ¬ mi M 64 = 0) → Post r M') : w4_worthOf (nI k) M Post := by
  obtain ⟨l1, l2⟩ := hO.last e he
  obtain ⟨n1, n2, n3, n4⟩ := hO.knot e k he hk1 hk2
  have l3 := hO.knots
  have hka : K.knot k = 1 ∨ 2 ≤ K.knot k → K.kP k = nI (K.kA k) ∧ K.kA k < 64 := fun q => by
    rcases q with q | q
    · exact ⟨(n2 q).1, by have := (n2 q).2; omega⟩
    · exact ⟨(n3 q).1, by have := (n3 q).2.2; omega⟩
  have hr : ∀ v, wk K (mb M 62) (mb M 63) k = some v → Post v M := fun v q => by
    by_cases c : mi M 64 = 0
    · exact h1 c v M q (Or.inl rfl)
    · exact h0 (fun c2 => absurd c2 c) v M (Or.inr ⟨rfl, c⟩)
  unfold w4_worthOf
  simp (disch := omega) only [nI_lt0, nI_clamp, vp_inT, nI_eq, imp_FT, imp_TF, true_and, and_true, mN_0, mN_3, mN_21, mN_22, mN_23, mN_24, mN_25, mN_26, mN_27, mN_28, mN_29, mN_30, mN_31, mN_32, mN_33, mN_34, mN_35, mN_36, mN_37, mN_38, mN_39, mN_40, mN_41, mN_42, mN_43, mN_50, mN_51, mN_60, mN_61, mN_62, mN_63, hM.nT, hM.nL, hM.nK, hM.nP, hM.knots, hM.told, hM.heard, hM.were, hM.truth, hM.isThere, hM.isNot, hM.fed, hM.fKind, hM.fPlace, hM.tName, hM.ways, hM.isSo, hM.paper, hM.police, hM.lName, hM.age, hM.begins, hM.ends, hM.taped, hM.isW, hM.who, hM.hour, hM.thing, hM.value, hM.pWho, hM.pThing, hM.pValue, hM.first, hM.last, hM.knot, hM.kP, hM.kO, hM.byte, hM.knot k (by omega), hM.kP k (by omega), hM.kO k (by omega), forall_eq]
  refine br_c (fun c => ?_) (fun c => ?_)
  · rw [nI_z (by omega)] at c
    exact hr _ (by unfold wk; rw [if_pos c])
  · rw [nI_z (by omega)] at c
    have q : ∀ m, m < 2 ^ 31 → (nI (K.knot k) = nI m ↔ K.knot k = m) := fun m hm => nI_eq (by omega) hm
    refine ek_if (q 1 (by decide)) (fun c1 => ?_) (fun c1 => ?_)
    · obtain ⟨g1, g2⟩ := n2 c1
      rw [g1]
      simp (disch := omega) only [nI_lt0, nI_clamp, vp_inT, nI_eq, imp_FT, imp_TF, true_and, and_true, mN_0, mN_3, mN_21, mN_22, mN_23, mN_24, mN_25, mN_26, mN_27, mN_28, mN_29, mN_30, mN_31, mN_32, mN_33, mN_34, mN_35, mN_36, mN_37, mN_38, mN_39, mN_40, mN_41, mN_42, mN_43, mN_50, mN_51, mN_60, mN_61, mN_62, mN_63]
      exact hr _ (by unfold wk; rw [if_neg c, if_pos c1])
    · obtain ⟨g1, g2, g3⟩ := n3 (by omega)
      rw [g1]
      simp (disch := omega) only [nI_lt0, nI_clamp, vp_inT, nI_eq, imp_FT, imp_TF, true_and, and_true, mN_0, mN_3, mN_21, mN_22, mN_23, mN_24, mN_25, mN_26, mN_27, mN_28, mN_29, mN_30, mN_31, mN_32, mN_33, mN_34, mN_35, mN_36, mN_37, mN_38, mN_39, mN_40, mN_41, mN_42, mN_43, mN_50, mN_51, mN_60, mN_61, mN_62, mN_63, forall_eq]
      refine ek_if (q 2 (by decide)) (fun c2 => br_c (fun d => ?_) (fun d => ?_)) (fun c2 => ?_)
      · exact hr _ (by unfold wk; rw [if_neg c, if_neg c1, if_pos c2, decide_eq_true d]; rfl)
      · exact hr _ (by unfold wk; rw [if_neg c, if_neg c1, if_pos c2, decide_eq_false d]; rfl)
      · obtain ⟨g4, g5, g6⟩ := n4 (by omega)
        rw [g4]
        have hw : wk K (mb M 62) (mb M 63) k = op2 (K.knot k) (mb M 63 (K.kA k)) (mb M 63 (K.kB k)) := by
          unfold wk; rw [if_neg c, if_neg c1, if_neg c2]
        rw [hw] at h1 h0 hr
        simp (disch := omega) only [nI_lt0, nI_clamp, vp_inT, nI_eq, imp_FT, imp_TF, true_and, and_true, mN_0, mN_3, mN_21, mN_22, mN_23, mN_24, mN_25, mN_26, mN_27, mN_28, mN_29, mN_30, mN_31, mN_32, mN_33, mN_34, mN_35, mN_36, mN_37, mN_38, mN_39, mN_40, mN_41, mN_42, mN_43, mN_50, mN_51, mN_60, mN_61, mN_62, mN_63, forall_eq]
        refine ek_if (q 3 (by decide)) (fun s => br_c (fun x => ?_) (fun x => br_c (fun y => ?_) (fun y => ?_))) (fun c3 => ?_)
        · exact hr _ (by simp [s, op2, bJ, x])
        · exact hr _ (by simp [s, op2, bJ, y])
        · exact hr _ (by simp [s, op2, bJ, x, y])
        refine ek_if (q 4 (by decide)) (fun s => br_c (fun x => br_c (fun y => ?_) (fun y => ?_)) (fun x => ?_)) (fun c4 => ?_)
        · exact hr _ (by simp [s, op2, bJ, x, y])
        · exact hr _ (by simp [s, op2, bJ, x, y])
        · exact hr _ (by simp [s, op2, bJ, x])
        refine ek_if (q 5 (by decide)) (fun s => p4_compares ⟨by omega, by omega⟩ (fun r e => bz (fun z => hr _ (by rw [e, z]; rfl)) (fun z => hr _ (by rw [e, z]; rfl)))) (fun c5 => ?_)
        refine ek_if (q 6 (by decide)) (fun s => p4_compares ⟨by omega, by omega⟩ (fun r e => bz (fun z => hr _ (by rw [e, z]; rfl)) (fun z => hr _ (by rw [e, z]; rfl)))) (fun c6 => ?_)
        refine ek_if (q 7 (by decide)) (fun s => p4_compares ⟨by omega, by omega⟩ (fun r e => bz (fun z => hr _ (by rw [e, z]; rfl)) (fun z => hr _ (by rw [e, z]; rfl)))) (fun c7 => ?_)
        refine ek_if (q 8 (by decide)) (fun s => p4_compares ⟨by omega, by omega⟩ (fun r e => bz (fun z => hr _ (by rw [e, z]; rfl)) (fun z => hr _ (by rw [e, z]; rfl)))) (fun c8 => ?_)
        refine ek_if (q 9 (by decide)) (fun s => p4_compares ⟨by omega, by omega⟩ (fun r e => bz (fun z => hr _ (by rw [e, z]; rfl)) (fun z => hr _ (by rw [e, z]; rfl)))) (fun c9 => ?_)
        refine ek_if (q 10 (by decide)) (fun s => p4_compares ⟨by omega, by omega⟩ (fun r e => bz (fun z => hr _ (by rw [e, z]; rfl)) (fun z => hr _ (by rw [e, z]; rfl)))) (fun c10 => ?_)
        refine ek_if (q 11 (by decide)) (fun s => p4_bounded (fun z w e => h1 z w _ (by rw [s]; exact e) (Or.inr rfl)) (fun z e => h0 (fun _ => by rw [s]; exact e) 0 _ (Or.inl rfl)) (fun z => h0 (fun z2 => absurd z2 z) 0 _ (Or.inl rfl))) (fun c11 => ?_)
        refine ek_if (q 12 (by decide)) (fun s => p4_bounded (fun z w e => h1 z w _ (by rw [s]; exact e) (Or.inr rfl)) (fun z e => h0 (fun _ => by rw [s]; exact e) 0 _ (Or.inl rfl)) (fun z => h0 (fun z2 => absurd z2 z) 0 _ (Or.inl rfl))) (fun c12 => ?_)
        refine ek_if (q 13 (by decide)) (fun s => p4_times (fun z w e => h1 z w _ (by rw [s]; exact e) (Or.inr rfl)) (fun z e => h0 (fun _ => by rw [s]; exact e) 0 _ (Or.inl rfl)) (fun z => h0 (fun z2 => absurd z2 z) 0 _ (Or.inl rfl))) (fun c13 => ?_)
        have k235 : ∀ {P : MS → Prop}, ((mi M 64 = 0 → op2 (K.knot k) (mb M 63 (K.kA k)) (mb M 63 (K.kB k)) = none)) → (vz (1 : Int32) ∧ ∀ M2 : MS, M2 = si M 64 1 → (mi M2 64 = 0 → P M2) ∧ (¬ mi M2 64 = 0 → Post 0 M2)) := fun e => err1 (Q := Post 0) (h0 e 0 _ (Or.inl rfl))
        refine ek_if (q 14 (by decide)) (fun s => br_c (fun z => br_c (fun y => ?_) (fun y => ?_)) (fun z => ?_)) (fun c14 => by omega)
        · exact k235 (fun _ => by rw [s]; simp [op2, y])
        · exact err0 (Q := Post 0) ⟨y, h1 z _ _ (by rw [s]; simp [op2, y]) (Or.inr rfl)⟩
        · exact k235 (fun z2 => absurd z2 z)
