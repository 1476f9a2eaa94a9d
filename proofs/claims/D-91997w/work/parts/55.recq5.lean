theorem p4_find {M : MS} {Post : Int32 → MS → Prop} {a u n : Nat} {v : Int32} (hn : u + n ≤ mN a) (hN : mN a < 2 ^ 31) (h : Post (fName (fun k => ma M a (u + k)) n v) M) : w4_find a (nI u) (nI n) v M Post := by
  refine upL (W := fun f i => anyB (fun k => decide (ma M a (u + k) = v)) i = false → w4_find_l3 a (nI u) (nI n) v Post f (nI i) M) (e := n) ?_ ?_ |>.imp (fun f h => h rfl)
  · intro n ha
    rw [w4_find_l3]
    refine br_t (Int32.le_refl _) ?_
    rw [fName, firstI_no ha] at h
    exact h
  · intro n2 i hi ih ha
    rw [w4_find_l3]
    refine br_f (nI_ge hi (by omega)) ?_
    simp (disch := omega) only [nI_add, nI_clamp, vp_inT, true_and, forall_eq, nI_1]
    refine br_c (fun c => ?_) (fun c => ?_)
    · rw [fName, firstI_at hi (by simp only [c, decide_true]) ha] at h
      exact h
    · exact ih (by simp only [anyB, ha, c, decide_false, Bool.or_false])
theorem p4_named {M : MS} {K : Ka} {Post : Int32 → MS → Prop} (hO : KO K) (hM : MK M K) {a b : Int32} (h : ∀ M', MK M' K → Post (aNamed K a b) M') : w4_named a b M Post := by
  have h9T := hO.nT; have h9L := hO.nL; have h9K := hO.nK; have h9P := hO.nP
  intro M1 e1
  replace hM : MK M1 K := by rw [e1]; exact hM.si2
  replace h := h M1 hM
  unfold aNamed at h
  have e2 : fName (fun k => ma M1 21 (0 + k)) K.nT b = fName K.tName K.nT b := firstI_congr (fun i hi => by simp only [Nat.zero_add, hM.tName i hi])
  have e3 : fName (fun k => ma M1 26 (0 + k)) K.nL b = fName K.lName K.nL b := firstI_congr (fun i hi => by simp only [Nat.zero_add, hM.lName i hi])
  refine br_c (fun c => ?_) (fun c => br_c (fun d => ?_) (fun d => ?_))
  · rw [hM.nT]
    refine p4_find (u := 0) (by rw [mN_21]; omega) (by rw [mN_21]; omega) ?_
    rw [e2]
    simp only [c, if_true] at h
    exact h
  · rw [hM.nL]
    refine p4_find (u := 0) (by rw [mN_26]; omega) (by rw [mN_26]; omega) ?_
    rw [e3]
    simp only [c, d, if_true, if_false] at h
    exact h
  · simp only [c, d, if_false] at h
    exact h
theorem p4_fault {M : MS} {K : Ka} {Post : Int32 → MS → Prop} (hO : KO K) (hM : MK M K) {a : Int32} (h : ∀ M', MK M' K → Post (aFault K a) M') : w4_fault a M Post := by
  intro M1 e1
  replace hM : MK M1 K := by rw [e1]; exact hM.si2
  replace h := h M1 hM
  unfold aFault at h
  refine br_c (fun c => ?_) (fun c => br_c (fun d => ?_) (fun d => ?_))
  · rw [hM.fKind]; simp only [c, if_true] at h; exact h
  · rw [hM.fPlace]; simp only [c, d, if_true, if_false] at h; exact h
  · simp only [c, d, if_false] at h; exact h
theorem p4_teller {M : MS} {K : Ka} {Post : Int32 → MS → Prop} (hO : KO K) (hM : MK M K) {a b : Int32} (h : ∀ M', MK M' K → Post (aTeller K a b) M') : w4_teller a b M Post := by
  have h9T := hO.nT; have h9L := hO.nL; have h9K := hO.nK; have h9P := hO.nP
  intro M1 e1
  replace hM : MK M1 K := by rw [e1]; exact hM.si2
  replace h := h M1 hM
  unfold aTeller at h
  refine p4_isTeller hO hM (fun t e ht ha => br_f (by decide) ?_) (fun e => br_t rfl ?_)
  · rw [e] at h
    subst ha
    simp (disch := omega) only [nI_lt0, nI_clamp, vp_inT, nI_eq, imp_FT, imp_TF, true_and, and_true, mN_0, mN_3, mN_21, mN_22, mN_23, mN_24, mN_25, mN_26, mN_27, mN_28, mN_29, mN_30, mN_31, mN_32, mN_33, mN_34, mN_35, mN_36, mN_37, mN_38, mN_39, mN_40, mN_41, mN_42, mN_43, mN_50, mN_51, mN_60, mN_61, mN_62, mN_63, hM.nT, hM.nL, hM.nK, hM.nP, hM.knots, hM.told, hM.heard, hM.were, hM.truth, hM.isThere, hM.isNot, hM.fed, hM.fKind, hM.fPlace, hM.tName, hM.ways, hM.isSo, hM.paper, hM.police, hM.lName, hM.age, hM.begins, hM.ends, hM.taped, hM.isW, hM.who, hM.hour, hM.thing, hM.value, hM.pWho, hM.pThing, hM.pValue, hM.first, hM.last, hM.knot, hM.kP, hM.kO, hM.byte]
    refine br_c (fun c => ?_) (fun c => br_c (fun d => ?_) (fun d => br_c (fun g => ?_) (fun g => br_c (fun j => ?_) (fun j => ?_))))
    · simp only [c, if_true] at h; exact h
    · simp only [c, d, if_true, if_false] at h; exact h
    · simp only [c, d, g, if_true, if_false] at h; exact h
    · simp only [c, d, g, j, if_true, if_false] at h; exact h
    · simp only [c, d, g, j, if_false] at h; exact h
  · rw [e] at h
    exact h
theorem p4_line {M : MS} {K : Ka} {Post : Int32 → MS → Prop} (hO : KO K) (hM : MK M K) {a b : Int32} (h : ∀ M', MK M' K → Post (aLine K a b) M') : w4_line a b M Post := by
  have h9T := hO.nT; have h9L := hO.nL; have h9K := hO.nK; have h9P := hO.nP
  intro M1 e1
  replace hM : MK M1 K := by rw [e1]; exact hM.si2
  replace h := h M1 hM
  unfold aLine at h
  refine p4_isHeardX hO hM (fun t e ht ha => bz (fun q => ?_) (fun q => ?_)) (fun e => br_t rfl ?_)
  · rw [e] at h
    simp only [q, if_false, Bool.false_eq_true] at h
    exact h
  · rw [e] at h
    subst ha
    simp only [q, if_true] at h
    simp (disch := omega) only [nI_lt0, nI_clamp, vp_inT, nI_eq, imp_FT, imp_TF, true_and, and_true, mN_0, mN_3, mN_21, mN_22, mN_23, mN_24, mN_25, mN_26, mN_27, mN_28, mN_29, mN_30, mN_31, mN_32, mN_33, mN_34, mN_35, mN_36, mN_37, mN_38, mN_39, mN_40, mN_41, mN_42, mN_43, mN_50, mN_51, mN_60, mN_61, mN_62, mN_63, hM.nT, hM.nL, hM.nK, hM.nP, hM.knots, hM.told, hM.heard, hM.were, hM.truth, hM.isThere, hM.isNot, hM.fed, hM.fKind, hM.fPlace, hM.tName, hM.ways, hM.isSo, hM.paper, hM.police, hM.lName, hM.age, hM.begins, hM.ends, hM.taped, hM.isW, hM.who, hM.hour, hM.thing, hM.value, hM.pWho, hM.pThing, hM.pValue, hM.first, hM.last, hM.knot, hM.kP, hM.kO, hM.byte]
    refine br_c (fun c => ?_) (fun c => br_c (fun d => ?_) (fun d => br_c (fun g => ?_) (fun g => br_c (fun j => ?_) (fun j => br_c (fun l => ?_) (fun l => ?_)))))
    · simp only [c, if_true] at h
      exact bz (fun q2 => by rw [q2] at h; exact h) (fun q2 => by rw [q2] at h; exact h)
    · simp only [c, d, if_true, if_false] at h; exact h
    · simp only [c, d, g, if_true, if_false] at h; exact h
    · simp only [c, d, g, j, if_true, if_false] at h; exact h
    · simp only [c, d, g, j, l, if_true, if_false] at h; exact h
    · simp only [c, d, g, j, l, if_false] at h; exact h
  · rw [e] at h
    exact h
theorem p4_look {M : MS} {K : Ka} {Post : Int32 → MS → Prop} (hO : KO K) (hM : MK M K) {a b : Int32} (h : ∀ M', MK M' K → mi M' 2 = (aLook K a b).1 → Post (aLook K a b).2 M') : w4_look a b M Post := by
  have h9T := hO.nT; have h9L := hO.nL; have h9K := hO.nK; have h9P := hO.nP
  intro M1 e1
  replace hM : MK M1 K := by rw [e1]; exact hM.si2
  have e0 : mi M1 2 = 0 := by rw [e1]; rfl
  unfold aLook at h
  refine p4_isThing hO hM (fun t e ht ha => br_f (by decide) ?_) (fun e => br_t rfl ?_)
  · rw [e] at h
    subst ha
    simp (disch := omega) only [nI_lt0, nI_clamp, vp_inT, nI_eq, imp_FT, imp_TF, true_and, and_true, mN_0, mN_3, mN_21, mN_22, mN_23, mN_24, mN_25, mN_26, mN_27, mN_28, mN_29, mN_30, mN_31, mN_32, mN_33, mN_34, mN_35, mN_36, mN_37, mN_38, mN_39, mN_40, mN_41, mN_42, mN_43, mN_50, mN_51, mN_60, mN_61, mN_62, mN_63, hM.nT, hM.nL, hM.nK, hM.nP, hM.knots, hM.told, hM.heard, hM.were, hM.truth, hM.isThere, hM.isNot, hM.fed, hM.fKind, hM.fPlace, hM.tName, hM.ways, hM.isSo, hM.paper, hM.police, hM.lName, hM.age, hM.begins, hM.ends, hM.taped, hM.isW, hM.who, hM.hour, hM.thing, hM.value, hM.pWho, hM.pThing, hM.pValue, hM.first, hM.last, hM.knot, hM.kP, hM.kO, hM.byte]
    refine br_c (fun c => ?_) (fun c => br_c (fun d => ?_) (fun d => br_c (fun g => ?_) (fun g => br_c (fun j => ?_) (fun j => ?_))))
    · simp only [c, if_true] at h; exact h _ hM e0
    · simp only [c, d, if_true, if_false] at h; exact h _ hM e0
    · simp only [c, d, g, if_true, if_false] at h; exact h _ hM e0
    · simp only [c, d, g, j, if_true, if_false] at h; exact h _ hM e0
    · simp only [c, d, g, j, if_false] at h
      intro M2 e2
      exact h _ (by rw [e2]; exact hM.si2) (by rw [e2]; rfl)
  · rw [e] at h
    intro M2 e2
    exact h _ (by rw [e2]; exact hM.si2) (by rw [e2]; rfl)
theorem p4_count {M : MS} {K : Ka} {Post : Int32 → MS → Prop} (hO : KO K) (hM : MK M K) {a : Int32} (h : ∀ M', MK M' K → Post (aCount K a) M') : w4_count a M Post := by
  intro M1 e1
  replace hM : MK M1 K := by rw [e1]; exact hM.si2
  replace h := h M1 hM
  unfold aCount at h
  rw [hM.nT, hM.nL, hM.nK, hM.nP, hM.knots, hM.heard, hM.told]
  refine br_c (fun c0 => ?_) (fun c0 => br_c (fun c1 => ?_) (fun c1 => br_c (fun c2 => ?_) (fun c2 => br_c (fun c3 => p4_heardMany hO hM ?_) (fun c3 => br_c (fun c4 => ?_) (fun c4 => br_c (fun c5 => ?_) (fun c5 => br_c (fun c6 => ?_) (fun c6 => br_c (fun c7 => ?_) (fun c7 => ?_))))))))
  · simp only [c0, if_true] at h; exact h
  · simp only [c0, c1, if_true, if_false] at h; exact h
  · simp only [c0, c1, c2, if_true, if_false] at h; exact h
  · simp only [c0, c1, c2, c3, if_true, if_false] at h; exact h
  · simp only [c0, c1, c2, c3, c4, if_true, if_false] at h; exact h
  · simp only [c0, c1, c2, c3, c4, c5, if_true, if_false] at h; exact h
  · simp only [c0, c1, c2, c3, c4, c5, c6, if_true, if_false] at h; exact h
  · simp only [c0, c1, c2, c3, c4, c5, c6, c7, if_true, if_false] at h; exact h
  · simp only [c0, c1, c2, c3, c4, c5, c6, c7, if_false] at h; exact h
theorem p4_truth {M : MS} {K : Ka} {Post : Int32 → MS → Prop} (hO : KO K) (hM : MK M K) {a : Int32} (h : ∀ M', MK M' (aTruth K a).2 → Post (aTruth K a).1 M') : w4_truth a M Post := by
  intro M1 e1
  replace hM : MK M1 K := by rw [e1]; exact hM.si2
  unfold aTruth at h
  refine p4_isIn (bz (fun c => ?_) (fun c => ?_))
  · rw [Bool.and_eq_false_iff, decide_eq_false_iff_not, decide_eq_false_iff_not] at c
    rw [if_neg (fun q => c.elim (fun c => c q.1) (fun c => c q.2))] at h
    exact h _ hM
  · rw [Bool.and_eq_true_iff, decide_eq_true_iff, decide_eq_true_iff] at c
    rw [if_pos c] at h
    intro M4 e4
    exact h _ (by rw [e4]; exact hM.setTruth)
theorem p4_begin {M : MS} {K : Ka} {Post : Int32 → MS → Prop} (hO : KO K) (hM : MK M K) {a b : Int32} (h : ∀ M', MK M' (aBegin K a b).2 → Post (aBegin K a b).1 M') : w4_begin a b M Post := by
  intro M1 e1
  replace hM : MK M1 K := by rw [e1]; exact hM.si2
  unfold aBegin at h
  refine p4_isIn (bz (fun c => ?_) (fun c => p4_isIn (bz (fun d => ?_) (fun d => ?_))))
  · rw [Bool.and_eq_false_iff, decide_eq_false_iff_not, decide_eq_false_iff_not] at c
    rw [if_neg (fun q => c.elim (fun c => c q.1.1) (fun c => c q.1.2))] at h
    exact h _ hM
  · rw [Bool.and_eq_false_iff, decide_eq_false_iff_not, decide_eq_false_iff_not] at d
    rw [if_neg (fun q => d.elim (fun c => c q.2.1) (fun c => c q.2.2))] at h
    exact h _ hM
  · rw [Bool.and_eq_true_iff, decide_eq_true_iff, decide_eq_true_iff] at c d
    rw [if_pos ⟨c, d⟩] at h
    intro M6 e6 M7 e7
    exact h _ (by rw [e7, e6]; exact hM.setBegin)
theorem p4_isFirstLine {M : MS} {K : Ka} {Post : Int32 → MS → Prop} (hO : KO K) (hM : MK M K) {k : Nat} (hk : k < K.nP) (h : Post (bI (fpg K k)) M) : w4_isFirstLine (nI k) M Post := by
  have h9T := hO.nT; have h9L := hO.nL; have h9K := hO.nK; have h9P := hO.nP; have h9w := hO.pWho k hk; have h9t := hO.pThing k hk
  refine upL (W := fun f i => anyB (f1B K k) i = false → w4_isFirstLine_l2 (nI k) Post f (nI i) M) (e := k) ?_ ?_ |>.imp (fun f h => h rfl)
  · intro n ha
    rw [w4_isFirstLine_l2]
    refine br_t (Int32.le_refl _) ?_
    (simp only [Bool.false_and, Bool.true_and, Bool.and_false, Bool.and_true, Bool.false_or, Bool.true_or, Bool.or_false, Bool.or_true, Bool.not_true, Bool.not_false, bI_t, bI_f, if_true, if_false, beq_self_eq_true, decide_true, decide_false, reduceCtorEq, Bool.false_eq_true, fpg, ha] at h; exact h)
  · intro n i hi ih ha
    rw [w4_isFirstLine_l2]
    refine br_f (nI_ge hi (by omega)) ?_
    have h9u := hO.pWho i (by omega); have h9v := hO.pThing i (by omega)
    simp only [w4_isFirstLine_c39, forall_eq, nI_1]
    simp (disch := omega) only [nI_lt0, nI_clamp, vp_inT, nI_eq, imp_FT, imp_TF, true_and, and_true, mN_0, mN_3, mN_21, mN_22, mN_23, mN_24, mN_25, mN_26, mN_27, mN_28, mN_29, mN_30, mN_31, mN_32, mN_33, mN_34, mN_35, mN_36, mN_37, mN_38, mN_39, mN_40, mN_41, mN_42, mN_43, mN_50, mN_51, mN_60, mN_61, mN_62, mN_63, hM.nT, hM.nL, hM.nK, hM.nP, hM.knots, hM.told, hM.heard, hM.were, hM.truth, hM.isThere, hM.isNot, hM.fed, hM.fKind, hM.fPlace, hM.tName, hM.ways, hM.isSo, hM.paper, hM.police, hM.lName, hM.age, hM.begins, hM.ends, hM.taped, hM.isW, hM.who, hM.hour, hM.thing, hM.value, hM.pWho, hM.pThing, hM.pValue, hM.first, hM.last, hM.knot, hM.kP, hM.kO, hM.byte]
    refine br_c (fun c => br_c (fun d => ?_) (fun d => ?_)) (fun c => ?_)
    · rw [fpg, anyB_t i hi (by simp only [f1B, c, d, beq_self_eq_true, Bool.and_true])] at h
      exact h
    · exact ih (by simp only [anyB, ha, f1B, beq_eq_false_iff_ne.mpr d, Bool.and_false, Bool.or_false])
    · exact ih (by simp only [anyB, ha, f1B, beq_eq_false_iff_ne.mpr c, Bool.false_and, Bool.or_false])
