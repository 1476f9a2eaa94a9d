/-! the record's queries: what each answers, by the case -/
theorem p4_isHeard {M : MS} {K : Ka} {Post : Int32 → MS → Prop} (hO : KO K) (hM : MK M K) {k : Nat} (hk : k < K.nK) (h : Post (bI (hh K k)) M) : w4_isHeard (nI k) M Post := by
  have h9T := hO.nT; have h9L := hO.nL; have h9K := hO.nK; have h9P := hO.nP
  unfold w4_isHeard
  simp (disch := omega) only [nI_lt0, nI_clamp, vp_inT, nI_eq, imp_FT, imp_TF, true_and, and_true, mN_0, mN_3, mN_21, mN_22, mN_23, mN_24, mN_25, mN_26, mN_27, mN_28, mN_29, mN_30, mN_31, mN_32, mN_33, mN_34, mN_35, mN_36, mN_37, mN_38, mN_39, mN_40, mN_41, mN_42, mN_43, mN_50, mN_51, mN_60, mN_61, mN_62, mN_63, hM.nT, hM.nL, hM.nK, hM.nP, hM.knots, hM.told, hM.heard, hM.were, hM.truth, hM.isThere, hM.isNot, hM.fed, hM.fKind, hM.fPlace, hM.tName, hM.ways, hM.isSo, hM.paper, hM.police, hM.lName, hM.age, hM.begins, hM.ends, hM.taped, hM.isW, hM.who, hM.hour, hM.thing, hM.value, hM.pWho, hM.pThing, hM.pValue, hM.first, hM.last, hM.knot, hM.kP, hM.kO, hM.byte, nI_leI, show ¬ K.nK ≤ k by omega]
  refine br_c (fun c => ?_) (fun c => ?_)
  · (simp only [Bool.false_and, Bool.true_and, Bool.and_false, Bool.and_true, Bool.false_or, Bool.true_or, Bool.or_false, Bool.or_true, Bool.not_true, Bool.not_false, bI_t, bI_f, if_true, if_false, beq_self_eq_true, decide_true, decide_false, reduceCtorEq, Bool.false_eq_true, hh, Int32.not_le.mpr c] at h; exact h)
  · (simp only [Bool.false_and, Bool.true_and, Bool.and_false, Bool.and_true, Bool.false_or, Bool.true_or, Bool.or_false, Bool.or_true, Bool.not_true, Bool.not_false, bI_t, bI_f, if_true, if_false, beq_self_eq_true, decide_true, decide_false, reduceCtorEq, Bool.false_eq_true, hh, Int32.not_lt.mp c] at h; exact h)
theorem p4_isHeardWord {M : MS} {K : Ka} {Post : Int32 → MS → Prop} (hO : KO K) (hM : MK M K) {k : Nat} (hk : k < K.nK) (h : Post (bI (hw K k)) M) : w4_isHeardWord (nI k) M Post := by
  have h9T := hO.nT; have h9L := hO.nL; have h9K := hO.nK; have h9P := hO.nP
  refine p4_isHeard hO hM hk (bz (fun b => ?_) (fun b => ?_))
  · (simp only [Bool.false_and, Bool.true_and, Bool.and_false, Bool.and_true, Bool.false_or, Bool.true_or, Bool.or_false, Bool.or_true, Bool.not_true, Bool.not_false, bI_t, bI_f, if_true, if_false, beq_self_eq_true, decide_true, decide_false, reduceCtorEq, Bool.false_eq_true, hw, b] at h; exact h)
  · simp (disch := omega) only [nI_lt0, nI_clamp, vp_inT, nI_eq, imp_FT, imp_TF, true_and, and_true, mN_0, mN_3, mN_21, mN_22, mN_23, mN_24, mN_25, mN_26, mN_27, mN_28, mN_29, mN_30, mN_31, mN_32, mN_33, mN_34, mN_35, mN_36, mN_37, mN_38, mN_39, mN_40, mN_41, mN_42, mN_43, mN_50, mN_51, mN_60, mN_61, mN_62, mN_63, hM.nT, hM.nL, hM.nK, hM.nP, hM.knots, hM.told, hM.heard, hM.were, hM.truth, hM.isThere, hM.isNot, hM.fed, hM.fKind, hM.fPlace, hM.tName, hM.ways, hM.isSo, hM.paper, hM.police, hM.lName, hM.age, hM.begins, hM.ends, hM.taped, hM.isW, hM.who, hM.hour, hM.thing, hM.value, hM.pWho, hM.pThing, hM.pValue, hM.first, hM.last, hM.knot, hM.kP, hM.kO, hM.byte]
    simp only [hw, b, Bool.true_and] at h
    exact bz (fun b => by rw [b] at h; exact h) (fun b => by rw [b] at h; exact h)
theorem p4_says {M : MS} {K : Ka} {Post : Int32 → MS → Prop} (hO : KO K) (hM : MK M K) {k t x : Nat} (hk : k < K.nK) (ht : t < K.nL) (hx : x < K.nT) (h : Post (bI (sy K t x k)) M) : w4_says (nI k) (nI t) (nI x) M Post := by
  have h9T := hO.nT; have h9L := hO.nL; have h9K := hO.nK; have h9P := hO.nP; have := hO.who k hk; have := hO.thing k hk
  refine p4_isHeardWord hO hM hk (bz (fun b => ?_) (fun b => ?_))
  · (simp only [Bool.false_and, Bool.true_and, Bool.and_false, Bool.and_true, Bool.false_or, Bool.true_or, Bool.or_false, Bool.or_true, Bool.not_true, Bool.not_false, bI_t, bI_f, if_true, if_false, beq_self_eq_true, decide_true, decide_false, reduceCtorEq, Bool.false_eq_true, sy, b] at h; exact h)
  · simp (disch := omega) only [nI_lt0, nI_clamp, vp_inT, nI_eq, imp_FT, imp_TF, true_and, and_true, mN_0, mN_3, mN_21, mN_22, mN_23, mN_24, mN_25, mN_26, mN_27, mN_28, mN_29, mN_30, mN_31, mN_32, mN_33, mN_34, mN_35, mN_36, mN_37, mN_38, mN_39, mN_40, mN_41, mN_42, mN_43, mN_50, mN_51, mN_60, mN_61, mN_62, mN_63, hM.nT, hM.nL, hM.nK, hM.nP, hM.knots, hM.told, hM.heard, hM.were, hM.truth, hM.isThere, hM.isNot, hM.fed, hM.fKind, hM.fPlace, hM.tName, hM.ways, hM.isSo, hM.paper, hM.police, hM.lName, hM.age, hM.begins, hM.ends, hM.taped, hM.isW, hM.who, hM.hour, hM.thing, hM.value, hM.pWho, hM.pThing, hM.pValue, hM.first, hM.last, hM.knot, hM.kP, hM.kO, hM.byte]
    simp only [sy, b, Bool.true_and] at h
    refine br_c (fun c => br_c (fun d => ?_) (fun d => ?_)) (fun c => ?_)
    · (simp only [Bool.false_and, Bool.true_and, Bool.and_false, Bool.and_true, Bool.false_or, Bool.true_or, Bool.or_false, Bool.or_true, Bool.not_true, Bool.not_false, bI_t, bI_f, if_true, if_false, beq_self_eq_true, decide_true, decide_false, reduceCtorEq, Bool.false_eq_true, c, d] at h; exact h)
    · (simp only [Bool.false_and, Bool.true_and, Bool.and_false, Bool.and_true, Bool.false_or, Bool.true_or, Bool.or_false, Bool.or_true, Bool.not_true, Bool.not_false, bI_t, bI_f, if_true, if_false, beq_self_eq_true, decide_true, decide_false, reduceCtorEq, Bool.false_eq_true, c, beq_eq_false_iff_ne.mpr d] at h; exact h)
    · (simp only [Bool.false_and, Bool.true_and, Bool.and_false, Bool.and_true, Bool.false_or, Bool.true_or, Bool.or_false, Bool.or_true, Bool.not_true, Bool.not_false, bI_t, bI_f, if_true, if_false, beq_self_eq_true, decide_true, decide_false, reduceCtorEq, Bool.false_eq_true, beq_eq_false_iff_ne.mpr c] at h; exact h)
theorem p4_asks {M : MS} {K : Ka} {Post : Int32 → MS → Prop} (hO : KO K) (hM : MK M K) {k t : Nat} (hk : k < K.nK) (ht : t < K.nL) (h : Post (bI (ak K t k)) M) : w4_asks (nI k) (nI t) M Post := by
  have h9T := hO.nT; have h9L := hO.nL; have h9K := hO.nK; have h9P := hO.nP; have := hO.who k hk
  refine p4_isHeard hO hM hk (bz (fun b => ?_) (fun b => ?_))
  · (simp only [Bool.false_and, Bool.true_and, Bool.and_false, Bool.and_true, Bool.false_or, Bool.true_or, Bool.or_false, Bool.or_true, Bool.not_true, Bool.not_false, bI_t, bI_f, if_true, if_false, beq_self_eq_true, decide_true, decide_false, reduceCtorEq, Bool.false_eq_true, ak, b] at h; exact h)
  · simp (disch := omega) only [nI_lt0, nI_clamp, vp_inT, nI_eq, imp_FT, imp_TF, true_and, and_true, mN_0, mN_3, mN_21, mN_22, mN_23, mN_24, mN_25, mN_26, mN_27, mN_28, mN_29, mN_30, mN_31, mN_32, mN_33, mN_34, mN_35, mN_36, mN_37, mN_38, mN_39, mN_40, mN_41, mN_42, mN_43, mN_50, mN_51, mN_60, mN_61, mN_62, mN_63, hM.nT, hM.nL, hM.nK, hM.nP, hM.knots, hM.told, hM.heard, hM.were, hM.truth, hM.isThere, hM.isNot, hM.fed, hM.fKind, hM.fPlace, hM.tName, hM.ways, hM.isSo, hM.paper, hM.police, hM.lName, hM.age, hM.begins, hM.ends, hM.taped, hM.isW, hM.who, hM.hour, hM.thing, hM.value, hM.pWho, hM.pThing, hM.pValue, hM.first, hM.last, hM.knot, hM.kP, hM.kO, hM.byte]
    simp only [ak, b, Bool.true_and] at h
    refine bz (fun c => br_c (fun d => ?_) (fun d => ?_)) (fun c => ?_)
    · (simp only [Bool.false_and, Bool.true_and, Bool.and_false, Bool.and_true, Bool.false_or, Bool.true_or, Bool.or_false, Bool.or_true, Bool.not_true, Bool.not_false, bI_t, bI_f, if_true, if_false, beq_self_eq_true, decide_true, decide_false, reduceCtorEq, Bool.false_eq_true, c, d] at h; exact h)
    · (simp only [Bool.false_and, Bool.true_and, Bool.and_false, Bool.and_true, Bool.false_or, Bool.true_or, Bool.or_false, Bool.or_true, Bool.not_true, Bool.not_false, bI_t, bI_f, if_true, if_false, beq_self_eq_true, decide_true, decide_false, reduceCtorEq, Bool.false_eq_true, c, beq_eq_false_iff_ne.mpr d] at h; exact h)
    · (simp only [Bool.false_and, Bool.true_and, Bool.and_false, Bool.and_true, Bool.false_or, Bool.true_or, Bool.or_false, Bool.or_true, Bool.not_true, Bool.not_false, bI_t, bI_f, if_true, if_false, beq_self_eq_true, decide_true, decide_false, reduceCtorEq, Bool.false_eq_true, c] at h; exact h)
theorem p4_isRight {M : MS} {K : Ka} {Post : Int32 → MS → Prop} (hO : KO K) (hM : MK M K) {k : Nat} (hk : k < K.nK) (h : Post (bI (rt K k)) M) : w4_isRight (nI k) M Post := by
  have h9T := hO.nT; have h9L := hO.nL; have h9K := hO.nK; have h9P := hO.nP; have h9 := hO.thing k hk
  unfold w4_isRight
  simp (disch := omega) only [nI_lt0, nI_clamp, vp_inT, nI_eq, imp_FT, imp_TF, true_and, and_true, mN_0, mN_3, mN_21, mN_22, mN_23, mN_24, mN_25, mN_26, mN_27, mN_28, mN_29, mN_30, mN_31, mN_32, mN_33, mN_34, mN_35, mN_36, mN_37, mN_38, mN_39, mN_40, mN_41, mN_42, mN_43, mN_50, mN_51, mN_60, mN_61, mN_62, mN_63, hM.nT, hM.nL, hM.nK, hM.nP, hM.knots, hM.told, hM.heard, hM.were, hM.truth, hM.isThere, hM.isNot, hM.fed, hM.fKind, hM.fPlace, hM.tName, hM.ways, hM.isSo, hM.paper, hM.police, hM.lName, hM.age, hM.begins, hM.ends, hM.taped, hM.isW, hM.who, hM.hour, hM.thing, hM.value, hM.pWho, hM.pThing, hM.pValue, hM.first, hM.last, hM.knot, hM.kP, hM.kO, hM.byte]
  refine br_c (fun c => ?_) (fun c => ?_)
  · (simp only [Bool.false_and, Bool.true_and, Bool.and_false, Bool.and_true, Bool.false_or, Bool.true_or, Bool.or_false, Bool.or_true, Bool.not_true, Bool.not_false, bI_t, bI_f, if_true, if_false, beq_self_eq_true, decide_true, decide_false, reduceCtorEq, Bool.false_eq_true, rt, c] at h; exact h)
  · (simp only [Bool.false_and, Bool.true_and, Bool.and_false, Bool.and_true, Bool.false_or, Bool.true_or, Bool.or_false, Bool.or_true, Bool.not_true, Bool.not_false, bI_t, bI_f, if_true, if_false, beq_self_eq_true, decide_true, decide_false, reduceCtorEq, Bool.false_eq_true, rt, c] at h; exact h)
theorem p4_latestOff {M : MS} {K : Ka} {Post : Int32 → MS → Prop} (hO : KO K) (hM : MK M K) {t : Nat} {u : Int32} (ht : t < K.nL) (h : Post (loff K t u) M) : w4_latestOff (nI t) u M Post := by
  have h9T := hO.nT; have h9L := hO.nL; have h9K := hO.nK; have h9P := hO.nP
  unfold w4_latestOff
  simp (disch := omega) only [nI_lt0, nI_clamp, vp_inT, nI_eq, imp_FT, imp_TF, true_and, and_true, mN_0, mN_3, mN_21, mN_22, mN_23, mN_24, mN_25, mN_26, mN_27, mN_28, mN_29, mN_30, mN_31, mN_32, mN_33, mN_34, mN_35, mN_36, mN_37, mN_38, mN_39, mN_40, mN_41, mN_42, mN_43, mN_50, mN_51, mN_60, mN_61, mN_62, mN_63, hM.nT, hM.nL, hM.nK, hM.nP, hM.knots, hM.told, hM.heard, hM.were, hM.truth, hM.isThere, hM.isNot, hM.fed, hM.fKind, hM.fPlace, hM.tName, hM.ways, hM.isSo, hM.paper, hM.police, hM.lName, hM.age, hM.begins, hM.ends, hM.taped, hM.isW, hM.who, hM.hour, hM.thing, hM.value, hM.pWho, hM.pThing, hM.pValue, hM.first, hM.last, hM.knot, hM.kP, hM.kO, hM.byte]
  refine br_c (fun c => ?_) (fun c => br_c (fun d => ?_) (fun d => ?_))
  · simp only [loff, Int32.not_le.mpr c, false_and, if_false] at h; exact h
  · simp only [loff, Int32.not_lt.mpr d, and_false, if_false] at h; exact h
  · simp only [loff, Int32.not_lt.mp c, Int32.not_le.mp d, and_true, if_true] at h; exact h
theorem p4_isFirst {M : MS} {K : Ka} {Post : Int32 → MS → Prop} (hO : KO K) (hM : MK M K) {k : Nat} (hk : k < K.nK) (h : Post (bI (fs K k)) M) : w4_isFirst (nI k) M Post := by
  have h9T := hO.nT; have h9L := hO.nL; have h9K := hO.nK; have h9P := hO.nP; have h9w := hO.who k hk; have h9t := hO.thing k hk
  refine upL (W := fun f i => anyB (sy K (K.who k) (K.thing k)) i = false → w4_isFirst_l2 (nI k) Post f (nI i) M) (e := k) ?_ ?_ |>.imp (fun f h => h rfl)
  · intro n ha
    rw [w4_isFirst_l2]
    refine br_t (Int32.le_refl _) ?_
    (simp only [Bool.false_and, Bool.true_and, Bool.and_false, Bool.and_true, Bool.false_or, Bool.true_or, Bool.or_false, Bool.or_true, Bool.not_true, Bool.not_false, bI_t, bI_f, if_true, if_false, beq_self_eq_true, decide_true, decide_false, reduceCtorEq, Bool.false_eq_true, fs, ha] at h; exact h)
  · intro n i hi ih ha
    rw [w4_isFirst_l2]
    refine br_f (nI_ge hi (by omega)) ?_
    simp (disch := omega) only [nI_lt0, nI_clamp, vp_inT, nI_eq, imp_FT, imp_TF, true_and, and_true, mN_0, mN_3, mN_21, mN_22, mN_23, mN_24, mN_25, mN_26, mN_27, mN_28, mN_29, mN_30, mN_31, mN_32, mN_33, mN_34, mN_35, mN_36, mN_37, mN_38, mN_39, mN_40, mN_41, mN_42, mN_43, mN_50, mN_51, mN_60, mN_61, mN_62, mN_63, hM.nT, hM.nL, hM.nK, hM.nP, hM.knots, hM.told, hM.heard, hM.were, hM.truth, hM.isThere, hM.isNot, hM.fed, hM.fKind, hM.fPlace, hM.tName, hM.ways, hM.isSo, hM.paper, hM.police, hM.lName, hM.age, hM.begins, hM.ends, hM.taped, hM.isW, hM.who, hM.hour, hM.thing, hM.value, hM.pWho, hM.pThing, hM.pValue, hM.first, hM.last, hM.knot, hM.kP, hM.kO, hM.byte, forall_eq, nI_1]
    refine p4_says hO hM (by omega) h9w h9t (bz (fun b => ?_) (fun b => ?_))
    · exact ih (by simp only [anyB, ha, b, Bool.or_false])
    · (simp only [Bool.false_and, Bool.true_and, Bool.and_false, Bool.and_true, Bool.false_or, Bool.true_or, Bool.or_false, Bool.or_true, Bool.not_true, Bool.not_false, bI_t, bI_f, if_true, if_false, beq_self_eq_true, decide_true, decide_false, reduceCtorEq, Bool.false_eq_true, fs, anyB_t i hi b] at h; exact h)
theorem p4_ledBy {M : MS} {K : Ka} {Post : Int32 → MS → Prop} (hO : KO K) (hM : MK M K) {k : Nat} (hk : k < K.nK) (h : Post (lb K k) M) : w4_ledBy (nI k) M Post := by
  have h9T := hO.nT; have h9L := hO.nL; have h9K := hO.nK; have h9P := hO.nP; have h9w := hO.who k hk; have h9t := hO.thing k hk
  refine upL (W := fun f i => w4_ledBy_l4 (nI k) Post f (lastI (fun i => ak K (K.who k) i && (K.thing i == K.thing k && decide (K.value i = K.value k))) i) (nI i) M) (e := k) ?_ ?_
  · intro n
    rw [w4_ledBy_l4]
    exact br_t (Int32.le_refl _) h
  · intro n i hi ih
    rw [w4_ledBy_l4]
    refine br_f (nI_ge hi (by omega)) ?_
    have h9u := hO.thing i (by omega)
    simp (disch := omega) only [nI_lt0, nI_clamp, vp_inT, nI_eq, imp_FT, imp_TF, true_and, and_true, mN_0, mN_3, mN_21, mN_22, mN_23, mN_24, mN_25, mN_26, mN_27, mN_28, mN_29, mN_30, mN_31, mN_32, mN_33, mN_34, mN_35, mN_36, mN_37, mN_38, mN_39, mN_40, mN_41, mN_42, mN_43, mN_50, mN_51, mN_60, mN_61, mN_62, mN_63, hM.nT, hM.nL, hM.nK, hM.nP, hM.knots, hM.told, hM.heard, hM.were, hM.truth, hM.isThere, hM.isNot, hM.fed, hM.fKind, hM.fPlace, hM.tName, hM.ways, hM.isSo, hM.paper, hM.police, hM.lName, hM.age, hM.begins, hM.ends, hM.taped, hM.isW, hM.who, hM.hour, hM.thing, hM.value, hM.pWho, hM.pThing, hM.pValue, hM.first, hM.last, hM.knot, hM.kP, hM.kO, hM.byte, forall_eq, nI_1, w4_ledBy_c57, w4_ledBy_c58]
    refine p4_asks hO hM (by omega) h9w ?_
    simp (disch := omega) only [nI_lt0, nI_clamp, vp_inT, nI_eq, imp_FT, imp_TF, true_and, and_true, mN_0, mN_3, mN_21, mN_22, mN_23, mN_24, mN_25, mN_26, mN_27, mN_28, mN_29, mN_30, mN_31, mN_32, mN_33, mN_34, mN_35, mN_36, mN_37, mN_38, mN_39, mN_40, mN_41, mN_42, mN_43, mN_50, mN_51, mN_60, mN_61, mN_62, mN_63, hM.nT, hM.nL, hM.nK, hM.nP, hM.knots, hM.told, hM.heard, hM.were, hM.truth, hM.isThere, hM.isNot, hM.fed, hM.fKind, hM.fPlace, hM.tName, hM.ways, hM.isSo, hM.paper, hM.police, hM.lName, hM.age, hM.begins, hM.ends, hM.taped, hM.isW, hM.who, hM.hour, hM.thing, hM.value, hM.pWho, hM.pThing, hM.pValue, hM.first, hM.last, hM.knot, hM.kP, hM.kO, hM.byte]
    refine bz (fun b => ?_) (fun b => br_c (fun c => br_c (fun d => ?_) (fun d => ?_)) (fun c => ?_))
    · (simp only [Bool.false_and, Bool.true_and, Bool.and_false, Bool.and_true, Bool.false_or, Bool.true_or, Bool.or_false, Bool.or_true, Bool.not_true, Bool.not_false, bI_t, bI_f, if_true, if_false, beq_self_eq_true, decide_true, decide_false, reduceCtorEq, Bool.false_eq_true, lastI, b] at ih; exact ih)
    · (simp only [Bool.false_and, Bool.true_and, Bool.and_false, Bool.and_true, Bool.false_or, Bool.true_or, Bool.or_false, Bool.or_true, Bool.not_true, Bool.not_false, bI_t, bI_f, if_true, if_false, beq_self_eq_true, decide_true, decide_false, reduceCtorEq, Bool.false_eq_true, lastI, b, c, d] at ih; exact ih)
    · (simp only [Bool.false_and, Bool.true_and, Bool.and_false, Bool.and_true, Bool.false_or, Bool.true_or, Bool.or_false, Bool.or_true, Bool.not_true, Bool.not_false, bI_t, bI_f, if_true, if_false, beq_self_eq_true, decide_true, decide_false, reduceCtorEq, Bool.false_eq_true, lastI, b, c, d] at ih; exact ih)
    · (simp only [Bool.false_and, Bool.true_and, Bool.and_false, Bool.and_true, Bool.false_or, Bool.true_or, Bool.or_false, Bool.or_true, Bool.not_true, Bool.not_false, bI_t, bI_f, if_true, if_false, beq_self_eq_true, decide_true, decide_false, reduceCtorEq, Bool.false_eq_true, lastI, b, beq_eq_false_iff_ne.mpr c] at ih; exact ih)
theorem p4_had {s u : Int32} {Post : Int32 → Prop} (h : Post (bI (hd s u))) : w4_had s u Post := by
  refine br_c (fun c => ?_) (fun c => br_c (fun d => ?_) (fun d => ?_))
  · (simp only [Bool.false_and, Bool.true_and, Bool.and_false, Bool.and_true, Bool.false_or, Bool.true_or, Bool.or_false, Bool.or_true, Bool.not_true, Bool.not_false, bI_t, bI_f, if_true, if_false, beq_self_eq_true, decide_true, decide_false, reduceCtorEq, Bool.false_eq_true, hd, Int32.not_le.mpr c] at h; exact h)
  · (simp only [Bool.false_and, Bool.true_and, Bool.and_false, Bool.and_true, Bool.false_or, Bool.true_or, Bool.or_false, Bool.or_true, Bool.not_true, Bool.not_false, bI_t, bI_f, if_true, if_false, beq_self_eq_true, decide_true, decide_false, reduceCtorEq, Bool.false_eq_true, hd, Int32.not_le.mpr d] at h; exact h)
  · (simp only [Bool.false_and, Bool.true_and, Bool.and_false, Bool.and_true, Bool.false_or, Bool.true_or, Bool.or_false, Bool.or_true, Bool.not_true, Bool.not_false, bI_t, bI_f, if_true, if_false, beq_self_eq_true, decide_true, decide_false, reduceCtorEq, Bool.false_eq_true, hd, Int32.not_lt.mp c, Int32.not_lt.mp d] at h; exact h)
theorem p4_isOff {M : MS} {K : Ka} {Post : Int32 → MS → Prop} (hO : KO K) (hM : MK M K) {k : Nat} (hk : k < K.nK) (h : Post (bI (ofs K k)) M) : w4_isOff (nI k) M Post := by
  have h9T := hO.nT; have h9L := hO.nL; have h9K := hO.nK; have h9P := hO.nP; have h9w := hO.who k hk; have h9t := hO.thing k hk
  unfold w4_isOff
  simp (disch := omega) only [nI_lt0, nI_clamp, vp_inT, nI_eq, imp_FT, imp_TF, true_and, and_true, mN_0, mN_3, mN_21, mN_22, mN_23, mN_24, mN_25, mN_26, mN_27, mN_28, mN_29, mN_30, mN_31, mN_32, mN_33, mN_34, mN_35, mN_36, mN_37, mN_38, mN_39, mN_40, mN_41, mN_42, mN_43, mN_50, mN_51, mN_60, mN_61, mN_62, mN_63, hM.nT, hM.nL, hM.nK, hM.nP, hM.knots, hM.told, hM.heard, hM.were, hM.truth, hM.isThere, hM.isNot, hM.fed, hM.fKind, hM.fPlace, hM.tName, hM.ways, hM.isSo, hM.paper, hM.police, hM.lName, hM.age, hM.begins, hM.ends, hM.taped, hM.isW, hM.who, hM.hour, hM.thing, hM.value, hM.pWho, hM.pThing, hM.pValue, hM.first, hM.last, hM.knot, hM.kP, hM.kO, hM.byte]
  refine p4_latestOff hO hM h9w ?_
  simp (disch := omega) only [nI_lt0, nI_clamp, vp_inT, nI_eq, imp_FT, imp_TF, true_and, and_true, mN_0, mN_3, mN_21, mN_22, mN_23, mN_24, mN_25, mN_26, mN_27, mN_28, mN_29, mN_30, mN_31, mN_32, mN_33, mN_34, mN_35, mN_36, mN_37, mN_38, mN_39, mN_40, mN_41, mN_42, mN_43, mN_50, mN_51, mN_60, mN_61, mN_62, mN_63, hM.nT, hM.nL, hM.nK, hM.nP, hM.knots, hM.told, hM.heard, hM.were, hM.truth, hM.isThere, hM.isNot, hM.fed, hM.fKind, hM.fPlace, hM.tName, hM.ways, hM.isSo, hM.paper, hM.police, hM.lName, hM.age, hM.begins, hM.ends, hM.taped, hM.isW, hM.who, hM.hour, hM.thing, hM.value, hM.pWho, hM.pThing, hM.pValue, hM.first, hM.last, hM.knot, hM.kP, hM.kO, hM.byte]
  refine br_c (fun c => ?_) (fun c => p4_had (bz (fun b => ?_) (fun b => ?_)))
  · (simp only [Bool.false_and, Bool.true_and, Bool.and_false, Bool.and_true, Bool.false_or, Bool.true_or, Bool.or_false, Bool.or_true, Bool.not_true, Bool.not_false, bI_t, bI_f, if_true, if_false, beq_self_eq_true, decide_true, decide_false, reduceCtorEq, Bool.false_eq_true, ofs, Int32.not_le.mpr c] at h; exact h)
  · (simp only [Bool.false_and, Bool.true_and, Bool.and_false, Bool.and_true, Bool.false_or, Bool.true_or, Bool.or_false, Bool.or_true, Bool.not_true, Bool.not_false, bI_t, bI_f, if_true, if_false, beq_self_eq_true, decide_true, decide_false, reduceCtorEq, Bool.false_eq_true, ofs, b] at h; exact h)
  · (simp only [Bool.false_and, Bool.true_and, Bool.and_false, Bool.and_true, Bool.false_or, Bool.true_or, Bool.or_false, Bool.or_true, Bool.not_true, Bool.not_false, bI_t, bI_f, if_true, if_false, beq_self_eq_true, decide_true, decide_false, reduceCtorEq, Bool.false_eq_true, ofs, b, Int32.not_lt.mp c] at h; exact h)
theorem what_214 {a : Int32} {Post : Int32 → MS → Prop} {M : MS} {c : Bool} {t0 t1 : Int32} (h : Post ((t1 ||| t0) ||| (if c then 64 else 0)) M) : w4_whatIs_c214 a Post (bI c) t0 t1 M := bzi (P := fun t => Post ((t1 ||| t0) ||| t) M) h
theorem what_202 {a : Int32} {Post : Int32 → MS → Prop} {M : MS} {n : Bool} {x10 t0 t1 : Int32} (h : w4_whatIs_c214 a Post x10 (if n then 32 else 0) (t1 ||| t0) M) : w4_whatIs_c202 a Post (bI n) x10 t0 t1 M := bzi (P := fun t => w4_whatIs_c214 a Post x10 t (t1 ||| t0) M) h
theorem what_190 {a : Int32} {Post : Int32 → MS → Prop} {M : MS} {o : Bool} {x9 x10 t0 t1 : Int32} (h : w4_whatIs_c202 a Post x9 x10 (if o then 16 else 0) (t1 ||| t0) M) : w4_whatIs_c190 a Post (bI o) x9 x10 t0 t1 M := bzi (P := fun t => w4_whatIs_c202 a Post x9 x10 t (t1 ||| t0) M) h
theorem what_178 {a : Int32} {Post : Int32 → MS → Prop} {M : MS} {p : Bool} {x8 x9 x10 t0 t1 : Int32} (h : w4_whatIs_c190 a Post x8 x9 x10 (if p then 8 else 0) (t1 ||| t0) M) : w4_whatIs_c178 a Post (bI p) x8 x9 x10 t0 t1 M := bzi (P := fun t => w4_whatIs_c190 a Post x8 x9 x10 t (t1 ||| t0) M) h
theorem what_167 {a : Int32} {Post : Int32 → MS → Prop} {M : MS} {d : Bool} {x7 x8 x9 x10 t0 t1 : Int32} (h : w4_whatIs_c178 a Post x7 x8 x9 x10 (if d then 4 else 0) (t1 ||| t0) M) : w4_whatIs_c167 a Post (bI d) x7 x8 x9 x10 t0 t1 M := bzi (P := fun t => w4_whatIs_c178 a Post x7 x8 x9 x10 t (t1 ||| t0) M) h
theorem what_157 {a : Int32} {Post : Int32 → MS → Prop} {M : MS} {f : Bool} {x6 x7 x8 x9 x10 t0 : Int32} (h : w4_whatIs_c167 a Post x6 x7 x8 x9 x10 (if f then 2 else 0) t0 M) : w4_whatIs_c157 a Post (bI f) x6 x7 x8 x9 x10 t0 M := bzi (P := fun t => w4_whatIs_c167 a Post x6 x7 x8 x9 x10 t t0 M) h
theorem what_145 {a : Int32} {Post : Int32 → MS → Prop} {M : MS} {r : Bool} {x5 x6 x7 x8 x9 x10 : Int32} (h : w4_whatIs_c157 a Post x5 x6 x7 x8 x9 x10 (if r then 1 else 0) M) : w4_whatIs_c146 a Post (bI r) x5 x6 x7 x8 x9 x10 M := bzi (P := fun t => w4_whatIs_c157 a Post x5 x6 x7 x8 x9 x10 t M) h
theorem what_146 {a : Int32} {Post : Int32 → MS → Prop} {M : MS} {r f d p o n c : Bool} (h : Post ((if r then 1 else 0) ||| (if f then 2 else 0) ||| (if d then 4 else 0) ||| (if p then 8 else 0) ||| (if o then 16 else 0) ||| (if n then 32 else 0) ||| (if c then 64 else 0)) M) : w4_whatIs_c146 a Post (bI r) (bI f) (bI d) (bI p) (bI o) (bI n) (bI c) M := what_145 (what_157 (what_167 (what_178 (what_190 (what_202 (what_214 h))))))
theorem what_119 {a : Int32} {Post : Int32 → MS → Prop} {M : MS} {r f d p o n : Bool} (h : Post (wo r f d p o n) M) : w4_whatIs_c119 a Post (bI r) (bI f) (bI d) (bI p) (bI o) (bI n) M := by
  have h1 : w4_whatIs_c146 a Post (bI r) (bI f) (bI d) (bI p) (bI o) (bI n) (bI (f && (!d && (!p && !o)))) M := what_146 h
  refine bz (fun e => ?_) (fun e => bz (fun e2 => bz (fun e3 => bz (fun e4 => ?_) (fun e4 => ?_)) (fun e3 => ?_)) (fun e2 => ?_))
  · rw [e] at h1 ⊢; exact h1
  · rw [e, e2, e3, e4] at h1 ⊢; exact h1
  · rw [e, e2, e3, e4] at h1 ⊢; exact h1
  · rw [e, e2, e3] at h1 ⊢; exact h1
  · rw [e, e2] at h1 ⊢; exact h1
theorem p4_whatIs {M : MS} {K : Ka} {Post : Int32 → MS → Prop} (hO : KO K) (hM : MK M K) {k : Nat} (hk : k < K.nK) (h : Post (wb K k) M) : w4_whatIs (nI k) M Post := by
  have h9T := hO.nT; have h9L := hO.nL; have h9K := hO.nK; have h9P := hO.nP; have h9w := hO.who k hk; have h9t := hO.thing k hk
  unfold w4_whatIs
  simp (disch := omega) only [nI_lt0, nI_clamp, vp_inT, nI_eq, imp_FT, imp_TF, true_and, and_true, mN_0, mN_3, mN_21, mN_22, mN_23, mN_24, mN_25, mN_26, mN_27, mN_28, mN_29, mN_30, mN_31, mN_32, mN_33, mN_34, mN_35, mN_36, mN_37, mN_38, mN_39, mN_40, mN_41, mN_42, mN_43, mN_50, mN_51, mN_60, mN_61, mN_62, mN_63, hM.nT, hM.nL, hM.nK, hM.nP, hM.knots, hM.told, hM.heard, hM.were, hM.truth, hM.isThere, hM.isNot, hM.fed, hM.fKind, hM.fPlace, hM.tName, hM.ways, hM.isSo, hM.paper, hM.police, hM.lName, hM.age, hM.begins, hM.ends, hM.taped, hM.isW, hM.who, hM.hour, hM.thing, hM.value, hM.pWho, hM.pThing, hM.pValue, hM.first, hM.last, hM.knot, hM.kP, hM.kO, hM.byte, forall_eq]
  refine p4_isRight hO hM hk ?_
  simp (disch := omega) only [nI_lt0, nI_clamp, vp_inT, nI_eq, imp_FT, imp_TF, true_and, and_true, mN_0, mN_3, mN_21, mN_22, mN_23, mN_24, mN_25, mN_26, mN_27, mN_28, mN_29, mN_30, mN_31, mN_32, mN_33, mN_34, mN_35, mN_36, mN_37, mN_38, mN_39, mN_40, mN_41, mN_42, mN_43, mN_50, mN_51, mN_60, mN_61, mN_62, mN_63, hM.nT, hM.nL, hM.nK, hM.nP, hM.knots, hM.told, hM.heard, hM.were, hM.truth, hM.isThere, hM.isNot, hM.fed, hM.fKind, hM.fPlace, hM.tName, hM.ways, hM.isSo, hM.paper, hM.police, hM.lName, hM.age, hM.begins, hM.ends, hM.taped, hM.isW, hM.who, hM.hour, hM.thing, hM.value, hM.pWho, hM.pThing, hM.pValue, hM.first, hM.last, hM.knot, hM.kP, hM.kO, hM.byte]
  refine p4_had (p4_isFirst hO hM hk (p4_ledBy hO hM hk ?_))
  have h85 : w4_whatIs_c85 (nI k) Post (nI (K.thing k)) (bI (rt K k)) (bI (hd (K.paper (K.thing k)) (K.hour k))) (bI (fs K k)) (bI (decide (0 ≤ lb K k))) (bI (isPub K k)) (bI (isOf K k)) M := by
    have h1 := what_119 (a := nI k) h
    unfold w4_whatIs_c85
    refine bz (fun e => ?_) (fun e => bz (fun e2 => ?_) (fun e2 => ?_))
    · rw [show isNw K k = false by simp only [isNw, e, Bool.false_and]] at h1; exact h1
    · simp (disch := omega) only [nI_lt0, nI_clamp, vp_inT, nI_eq, imp_FT, imp_TF, true_and, and_true, mN_0, mN_3, mN_21, mN_22, mN_23, mN_24, mN_25, mN_26, mN_27, mN_28, mN_29, mN_30, mN_31, mN_32, mN_33, mN_34, mN_35, mN_36, mN_37, mN_38, mN_39, mN_40, mN_41, mN_42, mN_43, mN_50, mN_51, mN_60, mN_61, mN_62, mN_63, hM.nT, hM.nL, hM.nK, hM.nP, hM.knots, hM.told, hM.heard, hM.were, hM.truth, hM.isThere, hM.isNot, hM.fed, hM.fKind, hM.fPlace, hM.tName, hM.ways, hM.isSo, hM.paper, hM.police, hM.lName, hM.age, hM.begins, hM.ends, hM.taped, hM.isW, hM.who, hM.hour, hM.thing, hM.value, hM.pWho, hM.pThing, hM.pValue, hM.first, hM.last, hM.knot, hM.kP, hM.kO, hM.byte]
      refine p4_had (bz (fun e3 => ?_) (fun e3 => ?_))
      · rw [show isNw K k = true by simp only [isNw, e, e2, e3, Bool.true_and, Bool.not_false]] at h1; exact h1
      · rw [show isNw K k = false by simp only [isNw, e, e2, e3, Bool.true_and, Bool.not_false, Bool.not_true]] at h1; exact h1
    · rw [show isNw K k = false by simp only [isNw, e, e2, Bool.true_and, Bool.not_true, Bool.false_and]] at h1; exact h1
  have h66 : w4_whatIs_c66 (nI k) Post (nI (K.thing k)) (bI (rt K k)) (bI (hd (K.paper (K.thing k)) (K.hour k))) (bI (fs K k)) (bI (decide (0 ≤ lb K k))) (bI (isPub K k)) M := by
    unfold w4_whatIs_c66
    refine bz (fun e => ?_) (fun e => p4_isOff hO hM hk (bz (fun e2 => ?_) (fun e2 => ?_)))
    · rw [show isOf K k = false by simp only [isOf, e, Bool.false_and]] at h85; exact h85
    · rw [show isOf K k = false by simp only [isOf, e, e2, Bool.and_false]] at h85; exact h85
    · rw [show isOf K k = true by simp only [isOf, e, e2, Bool.and_true]] at h85; exact h85
  have h50 : w4_whatIs_c50 (nI k) Post (nI (K.thing k)) (bI (rt K k)) (bI (hd (K.paper (K.thing k)) (K.hour k))) (bI (fs K k)) (bI (decide (0 ≤ lb K k))) M := by
    unfold w4_whatIs_c50
    refine bz (fun e => ?_) (fun e => bz (fun e2 => ?_) (fun e2 => ?_))
    · rw [show isPub K k = false by simp only [isPub, e, Bool.false_and]] at h66; exact h66
    · rw [show isPub K k = false by simp only [isPub, e, e2, Bool.and_false]] at h66; exact h66
    · rw [show isPub K k = true by simp only [isPub, e, e2, Bool.and_true]] at h66; exact h66
  refine br_c (fun c => ?_) (fun c => ?_)
  · rw [decide_eq_false (Int32.not_le.mpr c)] at h50; exact h50
  · rw [decide_eq_true (Int32.not_lt.mp c)] at h50; exact h50
