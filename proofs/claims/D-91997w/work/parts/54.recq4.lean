theorem p4_isOf {s : Int32} {k : Nat} {Post : Int32 → Prop} (h : Post (bI (bt s k))) : w4_isOf s (nI k) Post := by
  refine br_c (fun c => ?_) (fun c => ?_)
  · (simp only [Bool.false_and, Bool.true_and, Bool.and_false, Bool.and_true, Bool.false_or, Bool.true_or, Bool.or_false, Bool.or_true, Bool.not_true, Bool.not_false, bI_t, bI_f, if_true, if_false, beq_self_eq_true, decide_true, decide_false, reduceCtorEq, Bool.false_eq_true, bt, c] at h; exact h)
  · (simp only [Bool.false_and, Bool.true_and, Bool.and_false, Bool.and_true, Bool.false_or, Bool.true_or, Bool.or_false, Bool.or_true, Bool.not_true, Bool.not_false, bI_t, bI_f, if_true, if_false, beq_self_eq_true, decide_true, decide_false, reduceCtorEq, Bool.false_eq_true, bt, c] at h; exact h)
theorem p4_many {s : Int32} {Post : Int32 → Prop} (h : Post (mn s 16)) : w4_many s Post := by
  refine upL (W := fun f i => w4_many_l4 s Post f (mn s i) (nI i)) (e := 16) ?_ ?_
  · intro n
    rw [w4_many_l4]
    exact br_t (Int32.le_refl _) h
  · intro n i hi ih
    rw [w4_many_l4]
    refine br_f (nI_ge (b := 16) hi (by omega)) ?_
    simp only [forall_eq, nI_1]
    exact ih
theorem p4_isSet {M : MS} {K : Ka} {Post : Int32 → MS → Prop} (hO : KO K) (hM : MK M K) {a : Int32} (hs : ix a (2 ^ K.nL) ≠ none → Post 1 M) (hn : ix a (2 ^ K.nL) = none → Post 0 M) : w4_isSet a M Post := by
  have h9T := hO.nT; have h9L := hO.nL; have h9K := hO.nK; have h9P := hO.nP; have h92 := two_n h9L
  unfold w4_isSet
  rw [hM.nL, shl_n h9L]
  cases e : ix a (2 ^ K.nL) with
  | some t =>
    obtain ⟨h1, h2⟩ := ix_lt (by omega) e
    replace hs := hs (by rw [e]; simp)
    subst h2
    exact br_f (nI_pos (by omega)) (br_f (nI_ge h1 (by omega)) hs)
  | none => exact br_c (fun _ => hn e) (fun c => br_t ((ix_none e).resolve_left c) (hn e))
theorem p4_isTaped {M : MS} {K : Ka} {Post : Int32 → MS → Prop} (hO : KO K) (hM : MK M K) {k : Nat} (hk : k < K.nK) (h : Post (bI (tp K k)) M) : w4_isTaped (nI k) M Post := by
  have h9T := hO.nT; have h9L := hO.nL; have h9K := hO.nK; have h9P := hO.nP; have h9w := hO.who k hk
  unfold w4_isTaped
  simp (disch := omega) only [nI_lt0, nI_clamp, vp_inT, nI_eq, imp_FT, imp_TF, true_and, and_true, mN_0, mN_3, mN_21, mN_22, mN_23, mN_24, mN_25, mN_26, mN_27, mN_28, mN_29, mN_30, mN_31, mN_32, mN_33, mN_34, mN_35, mN_36, mN_37, mN_38, mN_39, mN_40, mN_41, mN_42, mN_43, mN_50, mN_51, mN_60, mN_61, mN_62, mN_63, hM.nT, hM.nL, hM.nK, hM.nP, hM.knots, hM.told, hM.heard, hM.were, hM.truth, hM.isThere, hM.isNot, hM.fed, hM.fKind, hM.fPlace, hM.tName, hM.ways, hM.isSo, hM.paper, hM.police, hM.lName, hM.age, hM.begins, hM.ends, hM.taped, hM.isW, hM.who, hM.hour, hM.thing, hM.value, hM.pWho, hM.pThing, hM.pValue, hM.first, hM.last, hM.knot, hM.kP, hM.kO, hM.byte]
  refine br_c (fun c => ?_) (fun c => br_c (fun d => ?_) (fun d => ?_))
  · (simp only [Bool.false_and, Bool.true_and, Bool.and_false, Bool.and_true, Bool.false_or, Bool.true_or, Bool.or_false, Bool.or_true, Bool.not_true, Bool.not_false, bI_t, bI_f, if_true, if_false, beq_self_eq_true, decide_true, decide_false, reduceCtorEq, Bool.false_eq_true, tp, Int32.not_le.mpr c] at h; exact h)
  · (simp only [Bool.false_and, Bool.true_and, Bool.and_false, Bool.and_true, Bool.false_or, Bool.true_or, Bool.or_false, Bool.or_true, Bool.not_true, Bool.not_false, bI_t, bI_f, if_true, if_false, beq_self_eq_true, decide_true, decide_false, reduceCtorEq, Bool.false_eq_true, tp, Int32.not_le.mpr d] at h; exact h)
  · (simp only [Bool.false_and, Bool.true_and, Bool.and_false, Bool.and_true, Bool.false_or, Bool.true_or, Bool.or_false, Bool.or_true, Bool.not_true, Bool.not_false, bI_t, bI_f, if_true, if_false, beq_self_eq_true, decide_true, decide_false, reduceCtorEq, Bool.false_eq_true, tp, Int32.not_lt.mp c, Int32.not_lt.mp d] at h; exact h)
theorem p4_wasAsked {M : MS} {K : Ka} {Post : Int32 → MS → Prop} (hO : KO K) (hM : MK M K) {k : Nat} (hk : k < K.nK) (h : Post (bI (wa K k)) M) : w4_wasAsked (nI k) M Post := by
  have h9T := hO.nT; have h9L := hO.nL; have h9K := hO.nK; have h9P := hO.nP; have h9w := hO.who k hk; have h9t := hO.thing k hk
  refine upL (W := fun f i => anyB (fun i => ak K (K.who k) i && (K.thing i == K.thing k && tp K i)) i = false → w4_wasAsked_l2 (nI k) Post f (nI i) M) (e := k) ?_ ?_ |>.imp (fun f h => h rfl)
  · intro n ha
    rw [w4_wasAsked_l2]
    refine br_t (Int32.le_refl _) ?_
    (simp only [Bool.false_and, Bool.true_and, Bool.and_false, Bool.and_true, Bool.false_or, Bool.true_or, Bool.or_false, Bool.or_true, Bool.not_true, Bool.not_false, bI_t, bI_f, if_true, if_false, beq_self_eq_true, decide_true, decide_false, reduceCtorEq, Bool.false_eq_true, wa, ha] at h; exact h)
  · intro n i hi ih ha
    rw [w4_wasAsked_l2]
    refine br_f (nI_ge hi (by omega)) ?_
    have h9u := hO.thing i (by omega)
    simp only [w4_wasAsked_c46, forall_eq, nI_1]
    simp (disch := omega) only [nI_lt0, nI_clamp, vp_inT, nI_eq, imp_FT, imp_TF, true_and, and_true, mN_0, mN_3, mN_21, mN_22, mN_23, mN_24, mN_25, mN_26, mN_27, mN_28, mN_29, mN_30, mN_31, mN_32, mN_33, mN_34, mN_35, mN_36, mN_37, mN_38, mN_39, mN_40, mN_41, mN_42, mN_43, mN_50, mN_51, mN_60, mN_61, mN_62, mN_63, hM.nT, hM.nL, hM.nK, hM.nP, hM.knots, hM.told, hM.heard, hM.were, hM.truth, hM.isThere, hM.isNot, hM.fed, hM.fKind, hM.fPlace, hM.tName, hM.ways, hM.isSo, hM.paper, hM.police, hM.lName, hM.age, hM.begins, hM.ends, hM.taped, hM.isW, hM.who, hM.hour, hM.thing, hM.value, hM.pWho, hM.pThing, hM.pValue, hM.first, hM.last, hM.knot, hM.kP, hM.kO, hM.byte]
    refine p4_asks hO hM (by omega) h9w ?_
    simp (disch := omega) only [nI_lt0, nI_clamp, vp_inT, nI_eq, imp_FT, imp_TF, true_and, and_true, mN_0, mN_3, mN_21, mN_22, mN_23, mN_24, mN_25, mN_26, mN_27, mN_28, mN_29, mN_30, mN_31, mN_32, mN_33, mN_34, mN_35, mN_36, mN_37, mN_38, mN_39, mN_40, mN_41, mN_42, mN_43, mN_50, mN_51, mN_60, mN_61, mN_62, mN_63, hM.nT, hM.nL, hM.nK, hM.nP, hM.knots, hM.told, hM.heard, hM.were, hM.truth, hM.isThere, hM.isNot, hM.fed, hM.fKind, hM.fPlace, hM.tName, hM.ways, hM.isSo, hM.paper, hM.police, hM.lName, hM.age, hM.begins, hM.ends, hM.taped, hM.isW, hM.who, hM.hour, hM.thing, hM.value, hM.pWho, hM.pThing, hM.pValue, hM.first, hM.last, hM.knot, hM.kP, hM.kO, hM.byte]
    refine bz (fun c => ?_) (fun c => br_c (fun d => p4_isTaped hO hM (by omega) (bz (fun g => ?_) (fun g => ?_))) (fun d => ?_))
    · exact ih (by simp only [anyB, ha, c, Bool.false_and, Bool.or_false])
    · exact ih (by simp only [anyB, ha, g, Bool.and_false, Bool.or_false])
    · rw [wa, anyB_t i hi (by simp only [c, d, g, beq_self_eq_true, Bool.and_true])] at h
      exact h
    · exact ih (by simp only [anyB, ha, beq_eq_false_iff_ne.mpr d, Bool.false_and, Bool.and_false, Bool.or_false])
theorem p4_supposed {M : MS} {K : Ka} {Post : Int32 → MS → Prop} (hO : KO K) (hM : MK M K) {a : Int32} (h : ∀ M', MK M' K → Post (aSup K a) M') : w4_supposed a M Post := by
  have h9T := hO.nT; have h9L := hO.nL; have h9K := hO.nK; have h9P := hO.nP
  intro M1 e1
  replace hM : MK M1 K := by rw [e1]; exact hM.si2
  replace h := h M1 hM
  unfold aSup at h
  refine p4_isTeller hO hM (fun t e ht ha => br_f (by decide) ?_) (fun e => br_t rfl ?_)
  · rw [e] at h
    subst ha
    simp (disch := omega) only [nI_lt0, nI_clamp, vp_inT, nI_eq, imp_FT, imp_TF, true_and, and_true, mN_0, mN_3, mN_21, mN_22, mN_23, mN_24, mN_25, mN_26, mN_27, mN_28, mN_29, mN_30, mN_31, mN_32, mN_33, mN_34, mN_35, mN_36, mN_37, mN_38, mN_39, mN_40, mN_41, mN_42, mN_43, mN_50, mN_51, mN_60, mN_61, mN_62, mN_63, hM.nT, hM.nL, hM.nK, hM.nP, hM.knots, hM.told, hM.heard, hM.were, hM.truth, hM.isThere, hM.isNot, hM.fed, hM.fKind, hM.fPlace, hM.tName, hM.ways, hM.isSo, hM.paper, hM.police, hM.lName, hM.age, hM.begins, hM.ends, hM.taped, hM.isW, hM.who, hM.hour, hM.thing, hM.value, hM.pWho, hM.pThing, hM.pValue, hM.first, hM.last, hM.knot, hM.kP, hM.kO, hM.byte]
    refine br_c (fun c => ?_) (fun c => ?_)
    · simp only [c, if_true] at h
      refine upL (W := fun f i => w4_supposed_l36 (nI t) Post f (sup K t i) (nI i) M1) (e := K.nK) ?_ ?_
      · intro n
        rw [w4_supposed_l36]
        exact br_t (by rw [hM.nK]; exact Int32.le_refl _) h
      · intro n i hi ih
        rw [w4_supposed_l36]
        have h9w := hO.who i hi; have h9t := hO.thing i hi
        refine br_f (by rw [hM.nK]; exact nI_ge hi (by omega)) ?_
        simp only [w4_supposed_c123, forall_eq, nI_1]
        refine p4_isHeardWord hO hM hi ?_
        simp (disch := omega) only [nI_lt0, nI_clamp, vp_inT, nI_eq, imp_FT, imp_TF, true_and, and_true, mN_0, mN_3, mN_21, mN_22, mN_23, mN_24, mN_25, mN_26, mN_27, mN_28, mN_29, mN_30, mN_31, mN_32, mN_33, mN_34, mN_35, mN_36, mN_37, mN_38, mN_39, mN_40, mN_41, mN_42, mN_43, mN_50, mN_51, mN_60, mN_61, mN_62, mN_63, hM.nT, hM.nL, hM.nK, hM.nP, hM.knots, hM.told, hM.heard, hM.were, hM.truth, hM.isThere, hM.isNot, hM.fed, hM.fKind, hM.fPlace, hM.tName, hM.ways, hM.isSo, hM.paper, hM.police, hM.lName, hM.age, hM.begins, hM.ends, hM.taped, hM.isW, hM.who, hM.hour, hM.thing, hM.value, hM.pWho, hM.pThing, hM.pValue, hM.first, hM.last, hM.knot, hM.kP, hM.kO, hM.byte]
        refine bz (fun c => ?_) (fun c => br_c (fun d => p4_isTaped hO hM hi (bz (fun g => ?_) (fun g => p4_isRight hO hM hi (bz (fun j => ?_) (fun j => ?_))))) (fun d => ?_))
        · (simp only [Bool.false_and, Bool.true_and, Bool.and_false, Bool.and_true, Bool.false_or, Bool.true_or, Bool.or_false, Bool.or_true, Bool.not_true, Bool.not_false, bI_t, bI_f, if_true, if_false, beq_self_eq_true, decide_true, decide_false, reduceCtorEq, Bool.false_eq_true, sup, suB, c] at ih; exact ih)
        · (simp only [Bool.false_and, Bool.true_and, Bool.and_false, Bool.and_true, Bool.false_or, Bool.true_or, Bool.or_false, Bool.or_true, Bool.not_true, Bool.not_false, bI_t, bI_f, if_true, if_false, beq_self_eq_true, decide_true, decide_false, reduceCtorEq, Bool.false_eq_true, sup, suB, c, d, g] at ih; exact ih)
        · (simp only [Bool.false_and, Bool.true_and, Bool.and_false, Bool.and_true, Bool.false_or, Bool.true_or, Bool.or_false, Bool.or_true, Bool.not_true, Bool.not_false, bI_t, bI_f, if_true, if_false, beq_self_eq_true, decide_true, decide_false, reduceCtorEq, Bool.false_eq_true, sup, suB, c, d, g, j] at ih; exact ih)
        · simp (disch := omega) only [nI_lt0, nI_clamp, vp_inT, nI_eq, imp_FT, imp_TF, true_and, and_true, mN_0, mN_3, mN_21, mN_22, mN_23, mN_24, mN_25, mN_26, mN_27, mN_28, mN_29, mN_30, mN_31, mN_32, mN_33, mN_34, mN_35, mN_36, mN_37, mN_38, mN_39, mN_40, mN_41, mN_42, mN_43, mN_50, mN_51, mN_60, mN_61, mN_62, mN_63, hM.nT, hM.nL, hM.nK, hM.nP, hM.knots, hM.told, hM.heard, hM.were, hM.truth, hM.isThere, hM.isNot, hM.fed, hM.fKind, hM.fPlace, hM.tName, hM.ways, hM.isSo, hM.paper, hM.police, hM.lName, hM.age, hM.begins, hM.ends, hM.taped, hM.isW, hM.who, hM.hour, hM.thing, hM.value, hM.pWho, hM.pThing, hM.pValue, hM.first, hM.last, hM.knot, hM.kP, hM.kO, hM.byte]
          refine p4_had (bz (fun l => ?_) (fun l => p4_wasAsked hO hM hi ?_))
          · (simp only [Bool.false_and, Bool.true_and, Bool.and_false, Bool.and_true, Bool.false_or, Bool.true_or, Bool.or_false, Bool.or_true, Bool.not_true, Bool.not_false, bI_t, bI_f, if_true, if_false, beq_self_eq_true, decide_true, decide_false, reduceCtorEq, Bool.false_eq_true, sup, suB, c, d, g, j, l] at ih; exact ih)
          · simp (disch := omega) only [nI_lt0, nI_clamp, vp_inT, nI_eq, imp_FT, imp_TF, true_and, and_true, mN_0, mN_3, mN_21, mN_22, mN_23, mN_24, mN_25, mN_26, mN_27, mN_28, mN_29, mN_30, mN_31, mN_32, mN_33, mN_34, mN_35, mN_36, mN_37, mN_38, mN_39, mN_40, mN_41, mN_42, mN_43, mN_50, mN_51, mN_60, mN_61, mN_62, mN_63, hM.nT, hM.nL, hM.nK, hM.nP, hM.knots, hM.told, hM.heard, hM.were, hM.truth, hM.isThere, hM.isNot, hM.fed, hM.fKind, hM.fPlace, hM.tName, hM.ways, hM.isSo, hM.paper, hM.police, hM.lName, hM.age, hM.begins, hM.ends, hM.taped, hM.isW, hM.who, hM.hour, hM.thing, hM.value, hM.pWho, hM.pThing, hM.pValue, hM.first, hM.last, hM.knot, hM.kP, hM.kO, hM.byte]
            refine bz (fun q => ?_) (fun q => ?_)
            · (simp only [Bool.false_and, Bool.true_and, Bool.and_false, Bool.and_true, Bool.false_or, Bool.true_or, Bool.or_false, Bool.or_true, Bool.not_true, Bool.not_false, bI_t, bI_f, if_true, if_false, beq_self_eq_true, decide_true, decide_false, reduceCtorEq, Bool.false_eq_true, sup, suB, c, d, g, j, l, q] at ih; exact ih)
            · (simp only [Bool.false_and, Bool.true_and, Bool.and_false, Bool.and_true, Bool.false_or, Bool.true_or, Bool.or_false, Bool.or_true, Bool.not_true, Bool.not_false, bI_t, bI_f, if_true, if_false, beq_self_eq_true, decide_true, decide_false, reduceCtorEq, Bool.false_eq_true, sup, suB, c, d, g, j, l, q] at ih; exact ih)
        · (simp only [Bool.false_and, Bool.true_and, Bool.and_false, Bool.and_true, Bool.false_or, Bool.true_or, Bool.or_false, Bool.or_true, Bool.not_true, Bool.not_false, bI_t, bI_f, if_true, if_false, beq_self_eq_true, decide_true, decide_false, reduceCtorEq, Bool.false_eq_true, sup, suB, c, beq_eq_false_iff_ne.mpr d] at ih; exact ih)
    · simp only [c, if_false] at h
      exact h
  · rw [e] at h
    exact h
theorem p4_together {M : MS} {K : Ka} {Post : Int32 → MS → Prop} (hO : KO K) (hM : MK M K) (h : ∀ M', MK M' K → Post (aTog K) M') : w4_together M Post := by
  have h9T := hO.nT; have h9L := hO.nL; have h9K := hO.nK; have h9P := hO.nP; have h92 := two_n h9L
  intro M1 e1
  replace hM : MK M1 K := by rw [e1]; exact hM.si2
  replace h := h M1 hM
  have ht1 : tog K 1 = 0 := by unfold tog; split <;> rfl
  suffices hh : ∃ f, w4_together_l9 Post f (tog K 1) (nI 1) M1 by rw [ht1] at hh; exact hh
  refine upF (W := fun f i => w4_together_l9 Post f (tog K i) (nI i) M1) (e := 2 ^ K.nL) (s := 1) h92.1 ?_ ?_
  · intro n
    rw [w4_together_l9]
    exact br_t (by rw [hM.nL, shl_n h9L]; exact Int32.le_refl _) h
  · intro n i hi0 hi ih
    rw [w4_together_l9]
    refine br_f (by rw [hM.nL, shl_n h9L]; exact nI_ge hi (by omega)) ?_
    refine upL (W := fun f a => w4_together_l24 (w4_together_l9 Post n) Post f (tog K i) (nI i) (bI (!anyB (okA K (nI i)) a)) (nI a) M1) (e := K.nL) ?_ ?_
    · intro n2
      rw [w4_together_l24]
      refine br_t (by rw [hM.nL]; exact Int32.le_refl _) ?_
      simp only [w4_together_c111, forall_eq, nI_1]
      refine bz (fun c => ?_) (fun c => p4_many (p4_many (br_c (fun d => ?_) (fun d => ?_))))
      · (simp only [Bool.false_and, Bool.true_and, Bool.and_false, Bool.and_true, Bool.false_or, Bool.true_or, Bool.or_false, Bool.or_true, Bool.not_true, Bool.not_false, bI_t, bI_f, if_true, if_false, beq_self_eq_true, decide_true, decide_false, reduceCtorEq, Bool.false_eq_true, tog, c] at ih; exact ih)
      · (simp only [Bool.false_and, Bool.true_and, Bool.and_false, Bool.and_true, Bool.false_or, Bool.true_or, Bool.or_false, Bool.or_true, Bool.not_true, Bool.not_false, bI_t, bI_f, if_true, if_false, beq_self_eq_true, decide_true, decide_false, reduceCtorEq, Bool.false_eq_true, tog, c, Int32.not_lt.mpr d] at ih; exact ih)
      · (simp only [Bool.false_and, Bool.true_and, Bool.and_false, Bool.and_true, Bool.false_or, Bool.true_or, Bool.or_false, Bool.or_true, Bool.not_true, Bool.not_false, bI_t, bI_f, if_true, if_false, beq_self_eq_true, decide_true, decide_false, reduceCtorEq, Bool.false_eq_true, tog, c, Int32.not_le.mp d] at ih; exact ih)
    · intro n2 a ha ih2
      rw [w4_together_l24]
      refine br_f (by rw [hM.nL]; exact nI_ge ha (by omega)) ?_
      refine upL (W := fun f b => w4_together_l36 (w4_together_l9 Post n) (w4_together_l24 (w4_together_l9 Post n) Post n2) Post f (tog K i) (nI i) (bI (!(anyB (okA K (nI i)) a || anyB (okB K (nI i) a) b))) (nI a) (nI b) M1) (e := a) ?_ ?_ |>.imp (fun f h => by simpa only [anyB, Bool.or_false, nI_0] using h)
      · intro n3
        rw [w4_together_l36]
        refine br_t (Int32.le_refl _) ?_
        simp only [forall_eq, nI_1]
        exact ih2
      · intro n3 b hb ih3
        rw [w4_together_l36]
        refine br_f (nI_ge hb (by omega)) ?_
        simp only [w4_together_c80, w4_together_c81, w4_together_c76, forall_eq, nI_1]
        refine bz (fun c => ?_) (fun c => p4_isOf (bz (fun d => ?_) (fun d => p4_isOf (bz (fun g => ?_) (fun g => p4_clashes hO hM ha (by omega) ?_)))))
        · rw [Bool.not_eq_false', Bool.or_eq_true] at c
          have hc : (!(anyB (okA K (nI i)) a || anyB (okB K (nI i) a) (b + 1))) = false := by
            rcases c with c | c
            · simp only [c, Bool.true_or, Bool.not_true]
            · simp only [anyB, c, Bool.true_or, Bool.or_true, Bool.not_true]
          rw [hc] at ih3
          exact ih3
        · have hc : (!(anyB (okA K (nI i)) a || anyB (okB K (nI i) a) (b + 1))) = true := by
            simp only [anyB, okB, d, Bool.false_and, Bool.or_false]
            exact c
          rw [hc] at ih3
          exact ih3
        · have hc : (!(anyB (okA K (nI i)) a || anyB (okB K (nI i) a) (b + 1))) = true := by
            simp only [anyB, okB, g, Bool.false_and, Bool.and_false, Bool.or_false]
            exact c
          rw [hc] at ih3
          exact ih3
        · have hcn : cnt (clB K a b) K.nT ≤ K.nT := cnt_le _ _
          refine br_c (fun j => ?_) (fun j => ?_)
          · rw [nI_z (by omega)] at j
            have hc : (!(anyB (okA K (nI i)) a || anyB (okB K (nI i) a) (b + 1))) = true := by
              simp only [anyB, okB, clN, j, decide_true, Bool.not_true, Bool.and_false, Bool.or_false]
              exact c
            rw [hc] at ih3
            exact ih3
          · rw [nI_z (by omega)] at j
            have hc : (!(anyB (okA K (nI i)) a || anyB (okB K (nI i) a) (b + 1))) = false := by
              have h1 : okB K (nI i) a b = true := by simp only [okB, clN, d, g, j, decide_false, Bool.not_false, Bool.and_true]
              simp only [anyB, h1, Bool.or_true, Bool.not_true]
            rw [hc] at ih3
            exact ih3
theorem nI_sum {a b : Nat} : nI a + nI b = nI (a + b) := nI_add a b
theorem p4_lies {M : MS} {K : Ka} {Post : Int32 → MS → Prop} (hO : KO K) (hM : MK M K) {a : Int32} (h : ∀ M', MK M' K → Post (aLies K a) M') : w4_lies a M Post := by
  have h9T := hO.nT; have h9L := hO.nL; have h9K := hO.nK; have h9P := hO.nP; have h92 := two_n h9L
  intro M1 e1
  replace hM : MK M1 K := by rw [e1]; exact hM.si2
  replace h := h M1 hM
  unfold aLies at h
  refine p4_isSet hO hM (fun e => br_f (by decide) ?_) (fun e => br_t rfl ?_)
  · have h2 : Post (lsI K a K.nT) M1 := by
      cases g : ix a (2 ^ K.nL) with
      | none => exact absurd g e
      | some t => rw [g] at h; exact h
    clear h
    refine upL (W := fun f i => w4_lies_l19 a Post f (lsI K a i) (nI i) M1) (e := K.nT) ?_ ?_
    · intro n
      rw [w4_lies_l19]
      exact br_t (by rw [hM.nT]; exact Int32.le_refl _) h2
    · intro n x hx ih
      rw [w4_lies_l19]
      refine br_f (by rw [hM.nT]; exact nI_ge hx (by omega)) ?_
      obtain ⟨w, w1, w2, w3, w4⟩ := hO.wN hx
      refine upL (W := fun f v => w4_lies_l36 a (w4_lies_l19 a Post n) Post f (lsI K a x) (nI x) (nI (al K a x v)) (nI (mx K a x v)) (nI v) M1) (e := w) ?_ ?_
      · intro n2
        rw [w4_lies_l36]
        simp (disch := omega) only [nI_lt0, nI_clamp, vp_inT, nI_eq, imp_FT, imp_TF, true_and, and_true, mN_0, mN_3, mN_21, mN_22, mN_23, mN_24, mN_25, mN_26, mN_27, mN_28, mN_29, mN_30, mN_31, mN_32, mN_33, mN_34, mN_35, mN_36, mN_37, mN_38, mN_39, mN_40, mN_41, mN_42, mN_43, mN_50, mN_51, mN_60, mN_61, mN_62, mN_63, hM.nT, hM.nL, hM.nK, hM.nP, hM.knots, hM.told, hM.heard, hM.were, hM.truth, hM.isThere, hM.isNot, hM.fed, hM.fKind, hM.fPlace, hM.tName, hM.ways, hM.isSo, hM.paper, hM.police, hM.lName, hM.age, hM.begins, hM.ends, hM.taped, hM.isW, hM.who, hM.hour, hM.thing, hM.value, hM.pWho, hM.pThing, hM.pValue, hM.first, hM.last, hM.knot, hM.kP, hM.kO, hM.byte]
        refine br_t (by rw [w2]; exact Int32.le_refl _) ?_
        simp only [forall_eq, nI_1]
        simp only [lsI, w1] at ih
        exact ih
      · intro n2 v hv ih2
        rw [w4_lies_l36]
        simp (disch := omega) only [nI_lt0, nI_clamp, vp_inT, nI_eq, imp_FT, imp_TF, true_and, and_true, mN_0, mN_3, mN_21, mN_22, mN_23, mN_24, mN_25, mN_26, mN_27, mN_28, mN_29, mN_30, mN_31, mN_32, mN_33, mN_34, mN_35, mN_36, mN_37, mN_38, mN_39, mN_40, mN_41, mN_42, mN_43, mN_50, mN_51, mN_60, mN_61, mN_62, mN_63, hM.nT, hM.nL, hM.nK, hM.nP, hM.knots, hM.told, hM.heard, hM.were, hM.truth, hM.isThere, hM.isNot, hM.fed, hM.fKind, hM.fPlace, hM.tName, hM.ways, hM.isSo, hM.paper, hM.police, hM.lName, hM.age, hM.begins, hM.ends, hM.taped, hM.isW, hM.who, hM.hour, hM.thing, hM.value, hM.pWho, hM.pThing, hM.pValue, hM.first, hM.last, hM.knot, hM.kP, hM.kO, hM.byte]
        refine br_f (by rw [w2]; exact nI_ge hv (by omega)) ?_
        refine upL (W := fun f t => w4_lies_l53 a (w4_lies_l19 a Post n) (w4_lies_l36 a (w4_lies_l19 a Post n) Post n2) Post f (lsI K a x) (nI x) (nI (al K a x v)) (nI (mx K a x v)) (nI v) (nI (cnt (fun t => bt a t && decide (sto K t x = nI v)) t)) (nI t) M1) (e := K.nL) ?_ ?_
        · intro n3
          rw [w4_lies_l53]
          have hs : cnt (fun t => bt a t && decide (sto K t x = nI v)) K.nL ≤ K.nL := cnt_le _ _
          have hm : ∀ v, mx K a x v ≤ K.nL := by
            intro v
            induction v with
            | zero => exact Nat.zero_le _
            | succ v ihv =>
              have : sm K a x v ≤ K.nL := cnt_le _ _
              unfold mx
              split <;> omega
          have hmv := hm v
          refine br_t (by rw [hM.nL]; exact Int32.le_refl _) ?_
          simp only [w4_lies_c120, forall_eq, nI_1, nI_add]
          refine br_c (fun c => ?_) (fun c => ?_)
          · rw [nI_leI (by omega) (by omega)] at c
            have c2 : ¬ mx K a x v < sm K a x v := Nat.not_lt.mpr c
            simp only [al, mx, if_neg c2] at ih2
            exact ih2
          · rw [nI_leI (by omega) (by omega)] at c
            have c2 : mx K a x v < sm K a x v := Nat.not_le.mp c
            simp only [al, mx, if_pos c2] at ih2
            exact ih2
        · intro n3 t ht ih3
          rw [w4_lies_l53]
          refine br_f (by rw [hM.nL]; exact nI_ge ht (by omega)) ?_
          simp only [w4_lies_c89, w4_lies_c90, forall_eq, nI_1, Int32.add_zero]
          refine p4_isOf (bz (fun c => ?_) (fun c => p4_storyOf hO hM ht hx (br_c (fun d => ?_) (fun d => ?_))))
          · (simp only [Bool.false_and, Bool.true_and, Bool.and_false, Bool.and_true, Bool.false_or, Bool.true_or, Bool.or_false, Bool.or_true, Bool.not_true, Bool.not_false, bI_t, bI_f, if_true, if_false, beq_self_eq_true, decide_true, decide_false, reduceCtorEq, Bool.false_eq_true, cnt, c] at ih3; exact ih3)
          · (simp only [Bool.false_and, Bool.true_and, Bool.and_false, Bool.and_true, Bool.false_or, Bool.true_or, Bool.or_false, Bool.or_true, Bool.not_true, Bool.not_false, bI_t, bI_f, if_true, if_false, beq_self_eq_true, decide_true, decide_false, reduceCtorEq, Bool.false_eq_true, cnt, c, d] at ih3; exact ih3)
          · (simp only [Bool.false_and, Bool.true_and, Bool.and_false, Bool.and_true, Bool.false_or, Bool.true_or, Bool.or_false, Bool.or_true, Bool.not_true, Bool.not_false, bI_t, bI_f, if_true, if_false, beq_self_eq_true, decide_true, decide_false, reduceCtorEq, Bool.false_eq_true, cnt, c, d] at ih3; exact ih3)
  · rw [e] at h
    exact h
