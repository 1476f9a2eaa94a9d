def in1 (K : Ka) (t : Nat) (b : Bool) (k : Nat) : Bool := hh K k && (K.who k == t && (!b || tp K k))
theorem p4_isIn1 {M : MS} {K : Ka} {Post : Int32 → MS → Prop} (hO : KO K) (hM : MK M K) {k t : Nat} {b : Bool} (hk : k < K.nK) (ht : t < K.nL) (h : Post (bI (in1 K t b k)) M) : w4_isIn1 (nI k) (nI t) (bI b) M Post := by
  have h9T := hO.nT; have h9L := hO.nL; have h9K := hO.nK; have h9P := hO.nP; have h9w := hO.who k hk
  refine p4_isHeard hO hM hk (bz (fun c => ?_) (fun c => ?_))
  · (simp only [Bool.false_and, Bool.true_and, Bool.and_false, Bool.and_true, Bool.false_or, Bool.true_or, Bool.or_false, Bool.or_true, Bool.not_true, Bool.not_false, bI_t, bI_f, if_true, if_false, beq_self_eq_true, decide_true, decide_false, reduceCtorEq, Bool.false_eq_true, in1, c] at h; exact h)
  · simp (disch := omega) only [nI_lt0, nI_clamp, vp_inT, nI_eq, imp_FT, imp_TF, true_and, and_true, mN_0, mN_3, mN_21, mN_22, mN_23, mN_24, mN_25, mN_26, mN_27, mN_28, mN_29, mN_30, mN_31, mN_32, mN_33, mN_34, mN_35, mN_36, mN_37, mN_38, mN_39, mN_40, mN_41, mN_42, mN_43, mN_50, mN_51, mN_60, mN_61, mN_62, mN_63, hM.nT, hM.nL, hM.nK, hM.nP, hM.knots, hM.told, hM.heard, hM.were, hM.truth, hM.isThere, hM.isNot, hM.fed, hM.fKind, hM.fPlace, hM.tName, hM.ways, hM.isSo, hM.paper, hM.police, hM.lName, hM.age, hM.begins, hM.ends, hM.taped, hM.isW, hM.who, hM.hour, hM.thing, hM.value, hM.pWho, hM.pThing, hM.pValue, hM.first, hM.last, hM.knot, hM.kP, hM.kO, hM.byte]
    refine br_c (fun d => bz (fun g => ?_) (fun g => p4_isTaped hO hM hk (bz (fun j => ?_) (fun j => ?_)))) (fun d => ?_)
    · (simp only [Bool.false_and, Bool.true_and, Bool.and_false, Bool.and_true, Bool.false_or, Bool.true_or, Bool.or_false, Bool.or_true, Bool.not_true, Bool.not_false, bI_t, bI_f, if_true, if_false, beq_self_eq_true, decide_true, decide_false, reduceCtorEq, Bool.false_eq_true, in1, c, d, g] at h; exact h)
    · (simp only [Bool.false_and, Bool.true_and, Bool.and_false, Bool.and_true, Bool.false_or, Bool.true_or, Bool.or_false, Bool.or_true, Bool.not_true, Bool.not_false, bI_t, bI_f, if_true, if_false, beq_self_eq_true, decide_true, decide_false, reduceCtorEq, Bool.false_eq_true, in1, c, d, g, j] at h; exact h)
    · (simp only [Bool.false_and, Bool.true_and, Bool.and_false, Bool.and_true, Bool.false_or, Bool.true_or, Bool.or_false, Bool.or_true, Bool.not_true, Bool.not_false, bI_t, bI_f, if_true, if_false, beq_self_eq_true, decide_true, decide_false, reduceCtorEq, Bool.false_eq_true, in1, c, d, g, j] at h; exact h)
    · (simp only [Bool.false_and, Bool.true_and, Bool.and_false, Bool.and_true, Bool.false_or, Bool.true_or, Bool.or_false, Bool.or_true, Bool.not_true, Bool.not_false, bI_t, bI_f, if_true, if_false, beq_self_eq_true, decide_true, decide_false, reduceCtorEq, Bool.false_eq_true, in1, c, beq_eq_false_iff_ne.mpr d] at h; exact h)
def fi1 (K : Ka) (t : Nat) (b : Bool) (k i : Nat) : Bool := in1 K t b i && (K.isW i && K.thing i == K.thing k)
def fi (K : Ka) (t : Nat) (b : Bool) (k : Nat) : Bool := !anyB (fi1 K t b k) k
theorem p4_isFirstIn {M : MS} {K : Ka} {Post : Int32 → MS → Prop} (hO : KO K) (hM : MK M K) {k t : Nat} {b : Bool} (hk : k < K.nK) (ht : t < K.nL) (h : Post (bI (fi K t b k)) M) : w4_isFirstIn (nI k) (nI t) (bI b) M Post := by
  have h9T := hO.nT; have h9L := hO.nL; have h9K := hO.nK; have h9P := hO.nP; have h9t := hO.thing k hk
  refine upL (W := fun f i => anyB (fi1 K t b k) i = false → w4_isFirstIn_l3 (nI k) (nI t) (bI b) Post f (nI i) M) (e := k) ?_ ?_ |>.imp (fun f h => h rfl)
  · intro n ha
    rw [w4_isFirstIn_l3]
    refine br_t (Int32.le_refl _) ?_
    (simp only [Bool.false_and, Bool.true_and, Bool.and_false, Bool.and_true, Bool.false_or, Bool.true_or, Bool.or_false, Bool.or_true, Bool.not_true, Bool.not_false, bI_t, bI_f, if_true, if_false, beq_self_eq_true, decide_true, decide_false, reduceCtorEq, Bool.false_eq_true, fi, ha] at h; exact h)
  · intro n i hi ih ha
    rw [w4_isFirstIn_l3]
    refine br_f (nI_ge hi (by omega)) ?_
    have h9u := hO.thing i (by omega)
    simp only [w4_isFirstIn_c48, forall_eq, nI_1]
    refine p4_isIn1 hO hM (by omega) ht (bz (fun c => ?_) (fun c => ?_))
    · exact ih (by simp only [anyB, ha, fi1, c, Bool.false_and, Bool.or_false])
    · simp (disch := omega) only [nI_lt0, nI_clamp, vp_inT, nI_eq, imp_FT, imp_TF, true_and, and_true, mN_0, mN_3, mN_21, mN_22, mN_23, mN_24, mN_25, mN_26, mN_27, mN_28, mN_29, mN_30, mN_31, mN_32, mN_33, mN_34, mN_35, mN_36, mN_37, mN_38, mN_39, mN_40, mN_41, mN_42, mN_43, mN_50, mN_51, mN_60, mN_61, mN_62, mN_63, hM.nT, hM.nL, hM.nK, hM.nP, hM.knots, hM.told, hM.heard, hM.were, hM.truth, hM.isThere, hM.isNot, hM.fed, hM.fKind, hM.fPlace, hM.tName, hM.ways, hM.isSo, hM.paper, hM.police, hM.lName, hM.age, hM.begins, hM.ends, hM.taped, hM.isW, hM.who, hM.hour, hM.thing, hM.value, hM.pWho, hM.pThing, hM.pValue, hM.first, hM.last, hM.knot, hM.kP, hM.kO, hM.byte]
      refine bz (fun d => ?_) (fun d => br_c (fun g => ?_) (fun g => ?_))
      · exact ih (by simp only [anyB, ha, fi1, d, Bool.false_and, Bool.and_false, Bool.or_false])
      · rw [fi, anyB_t i hi (by simp only [fi1, c, d, g, beq_self_eq_true, Bool.and_true])] at h
        exact h
      · exact ih (by simp only [anyB, ha, fi1, beq_eq_false_iff_ne.mpr g, Bool.and_false, Bool.or_false])
def iA (K : Ka) (t : Nat) (b : Bool) (k : Nat) : Bool := in1 K t b k && !K.isW k
def iP (K : Ka) (t : Nat) (b : Bool) (k : Nat) : Bool := in1 K t b k && (!K.isW k && decide (0 ≤ K.value k))
def iW (K : Ka) (t : Nat) (b : Bool) (k : Nat) : Bool := in1 K t b k && (K.isW k && fi K t b k)
def iR (K : Ka) (t : Nat) (b : Bool) (k : Nat) : Bool := iW K t b k && rt K k
def iQ (K : Ka) (t : Nat) (b : Bool) (k : Nat) : Bool := iW K t b k && !rt K k
def iN (K : Ka) (t : Nat) (b : Bool) (k : Nat) : Bool := iW K t b k && isNw K k
def tkN (K : Ka) (t : Nat) (b : Bool) (i j : Nat) : Int64 := if j = 0 then (K.age t).toInt64 else if j = 3 then lN (cnt (iA K t b) i) else if j = 4 then lN (cnt (iP K t b) i) else if j = 5 then lN (cnt (iR K t b) i) else if j = 6 then lN (cnt (iQ K t b) i) else if j = 7 then lN (cnt (iN K t b) i) else 0
theorem wo_32 (r f d p o n : Bool) : wo r f d p o n &&& 32 = 0 ↔ n = false := by
  cases r <;> cases f <;> cases d <;> cases p <;> cases o <;> cases n <;> decide
theorem wo_14 (r f d p o n : Bool) : wo r f d p o n &&& 14 = 2 ↔ (f && (!d && !p)) = true := by
  cases r <;> cases f <;> cases d <;> cases p <;> cases o <;> cases n <;> decide
theorem wo_16 (r f d p o n : Bool) : wo r f d p o n &&& 16 = 0 ↔ o = false := by
  cases r <;> cases f <;> cases d <;> cases p <;> cases o <;> cases n <;> decide
theorem p4_namesByTalk {M : MS} {K : Ka} {Post : MS → Prop} {t : Nat} {b : Bool} (hO : KO K) (hM : MK M K) (ht : t < K.nL) (h : ∀ M', MK M' K → ml M' = ml M → (∀ j, j < 10 → mb M' 62 j = tkN K t b K.nK j) → Post M') : w4_namesByTalk (nI t) (bI b) M Post := by
  have h9T := hO.nT; have h9L := hO.nL; have h9K := hO.nK; have h9P := hO.nP
  refine p4_noNames hO hM ht (fun M1 g1 g2 g3 => ?_)
  refine upL (W := fun f i => ∀ M2 : MS, MK M2 K → ml M2 = ml M → (∀ j, j < 10 → mb M2 62 j = tkN K t b i j) → w4_namesByTalk_l7 (nI t) (bI b) Post f (nI i) M2) (e := K.nK) ?_ ?_ |>.imp (fun f h => h M1 g1 g2 (fun j hj => (g3 j hj).trans (lt10 (P := fun j => nm0 K t j = tkN K t b 0 j) rfl rfl rfl rfl rfl rfl rfl rfl rfl rfl j hj)))
  · intro n M2 p1 pl p2
    rw [w4_namesByTalk_l7]
    exact br_t (by rw [p1.nK]; exact Int32.le_refl _) (h M2 p1 pl p2)
  · intro n i hi ih M2 p1 pl p2
    have hM := p1
    rw [w4_namesByTalk_l7]
    refine br_f (by rw [p1.nK]; exact nI_ge hi (by omega)) ?_
    simp only [w4_namesByTalk_c132, w4_namesByTalk_c130, w4_namesByTalk_c101, w4_namesByTalk_c68, forall_eq, nI_1]
    refine p4_isIn1 hO p1 hi ht (bz (fun c => ?_) (fun c => ?_))
    · refine ih M2 p1 pl (fun j hj => ?_)
      rw [p2 j hj]
      simp [tkN, cnt, iA, iP, iW, iR, iQ, iN, c]
    · simp (disch := omega) only [nI_lt0, nI_clamp, vp_inT, nI_eq, imp_FT, imp_TF, true_and, and_true, mN_0, mN_3, mN_21, mN_22, mN_23, mN_24, mN_25, mN_26, mN_27, mN_28, mN_29, mN_30, mN_31, mN_32, mN_33, mN_34, mN_35, mN_36, mN_37, mN_38, mN_39, mN_40, mN_41, mN_42, mN_43, mN_50, mN_51, mN_60, mN_61, mN_62, mN_63, hM.nT, hM.nL, hM.nK, hM.nP, hM.knots, hM.told, hM.heard, hM.were, hM.truth, hM.isThere, hM.isNot, hM.fed, hM.fKind, hM.fPlace, hM.tName, hM.ways, hM.isSo, hM.paper, hM.police, hM.lName, hM.age, hM.begins, hM.ends, hM.taped, hM.isW, hM.who, hM.hour, hM.thing, hM.value, hM.pWho, hM.pThing, hM.pValue, hM.first, hM.last, hM.knot, hM.kP, hM.kO, hM.byte, ma_sb, v62_3, v62_4, v62_5, v62_6, v62_7, cl_3, cl_4, cl_5, cl_6, cl_7]
      refine bz (fun d => br_c (fun g => ?_) (fun g => ?_)) (fun d => p4_isFirstIn hO p1 hi ht (bz (fun g => ?_) (fun g => p4_isRight hO p1 hi (bz (fun q => p4_whatIs hO ?_ hi ?_) (fun q => p4_whatIs hO ?_ hi ?_)))))
      · refine ih _ p1 pl (lt10 ?_ ?_ ?_ ?_ ?_ ?_ ?_ ?_ ?_ ?_) <;> simp [mb_sb_s, uL_if, p2, tkN, cnt, iA, iP, iW, iR, iQ, iN, c, d, Int32.not_le.mpr g, lN_1]
      · refine ih _ p1 pl (lt10 ?_ ?_ ?_ ?_ ?_ ?_ ?_ ?_ ?_ ?_) <;> simp [mb_sb_s, uL_if, p2, tkN, cnt, iA, iP, iW, iR, iQ, iN, c, d, Int32.not_lt.mp g, lN_1]
      · refine ih M2 p1 pl (fun j hj => ?_)
        rw [p2 j hj]
        simp [tkN, cnt, iA, iP, iW, iR, iQ, iN, c, d, g]
      · exact p1
      · unfold wb
        refine ek_if (wo_32 _ _ _ _ _ _) (fun l => ?_) (fun l => ?_)
        · refine ih _ p1 pl (lt10 ?_ ?_ ?_ ?_ ?_ ?_ ?_ ?_ ?_ ?_) <;> simp [mb_sb_s, uL_if, p2, tkN, cnt, iA, iP, iW, iR, iQ, iN, c, d, g, q, l, lN_1]
        · refine ih _ p1 pl (lt10 ?_ ?_ ?_ ?_ ?_ ?_ ?_ ?_ ?_ ?_) <;> simp [mb_sb_s, uL_if, p2, tkN, cnt, iA, iP, iW, iR, iQ, iN, c, d, g, q, l, lN_1]
      · exact p1
      · unfold wb
        refine ek_if (wo_32 _ _ _ _ _ _) (fun l => ?_) (fun l => ?_)
        · refine ih _ p1 pl (lt10 ?_ ?_ ?_ ?_ ?_ ?_ ?_ ?_ ?_ ?_) <;> simp [mb_sb_s, uL_if, p2, tkN, cnt, iA, iP, iW, iR, iQ, iN, c, d, g, q, l, lN_1]
        · refine ih _ p1 pl (lt10 ?_ ?_ ?_ ?_ ?_ ?_ ?_ ?_ ?_ ?_) <;> simp [mb_sb_s, uL_if, p2, tkN, cnt, iA, iP, iW, iR, iQ, iN, c, d, g, q, l, lN_1]
def pgB (K : Ka) (t k : Nat) : Bool := K.pWho k == t && decide (¬ pgk K k ≤ 1)
def pgT (K : Ka) (t k : Nat) : Bool := K.pWho k == t
def btN (K : Ka) (t i j : Nat) : Int64 := if j = 1 then (K.ends t - K.begins t).toInt64 else if j = 2 then (offN K t (K.ends t)).toInt64 else if j = 8 then lN (cnt (pgB K t) i) else if j = 9 then lN (cnt (pgT K t) i) else tkN K t false K.nK j
theorem p4_namesByBoth {M : MS} {K : Ka} {Post : MS → Prop} {t : Nat} (hO : KO K) (hM : MK M K) (ht : t < K.nL) (h : ∀ M', MK M' K → ml M' = ml M → (∀ j, j < 10 → mb M' 62 j = btN K t K.nP j) → Post M') : w4_namesByBoth (nI t) M Post := by
  have h9T := hO.nT; have h9L := hO.nL; have h9K := hO.nK; have h9P := hO.nP
  refine p4_namesByTalk (b := false) hO hM ht (fun M1 g1 g2 g3 => ?_)
  replace hM := g1
  simp (disch := omega) only [nI_lt0, nI_clamp, vp_inT, nI_eq, imp_FT, imp_TF, true_and, and_true, mN_0, mN_3, mN_21, mN_22, mN_23, mN_24, mN_25, mN_26, mN_27, mN_28, mN_29, mN_30, mN_31, mN_32, mN_33, mN_34, mN_35, mN_36, mN_37, mN_38, mN_39, mN_40, mN_41, mN_42, mN_43, mN_50, mN_51, mN_60, mN_61, mN_62, mN_63, hM.nT, hM.nL, hM.nK, hM.nP, hM.knots, hM.told, hM.heard, hM.were, hM.truth, hM.isThere, hM.isNot, hM.fed, hM.fKind, hM.fPlace, hM.tName, hM.ways, hM.isSo, hM.paper, hM.police, hM.lName, hM.age, hM.begins, hM.ends, hM.taped, hM.isW, hM.who, hM.hour, hM.thing, hM.value, hM.pWho, hM.pThing, hM.pValue, hM.first, hM.last, hM.knot, hM.kP, hM.kO, hM.byte, v62_1, cl_1, v62_2, cl_2, ma_sb, forall_eq]
  refine p4_offUpTo hO ?_ ht ?_
  · exact g1
  refine upL (W := fun f i => ∀ M2 : MS, MK M2 K → ml M2 = ml M → (∀ j, j < 10 → mb M2 62 j = btN K t i j) → w4_namesByBoth_l46 (nI t) Post f (nI i) M2) (e := K.nP) ?_ ?_ |>.imp (fun f h => h _ g1 g2 ?_)
  · intro n M2 p1 pl p2
    rw [w4_namesByBoth_l46]
    exact br_t (by rw [p1.nP]; exact Int32.le_refl _) (h M2 p1 pl p2)
  · intro n i hi ih M2 p1 pl p2
    replace hM := p1
    rw [w4_namesByBoth_l46]
    have h9w := hO.pWho i hi
    refine br_f (by rw [p1.nP]; exact nI_ge hi (by omega)) ?_
    simp only [w4_namesByBoth_c102, w4_namesByBoth_c89, forall_eq, nI_1]
    simp (disch := omega) only [nI_lt0, nI_clamp, vp_inT, nI_eq, imp_FT, imp_TF, true_and, and_true, mN_0, mN_3, mN_21, mN_22, mN_23, mN_24, mN_25, mN_26, mN_27, mN_28, mN_29, mN_30, mN_31, mN_32, mN_33, mN_34, mN_35, mN_36, mN_37, mN_38, mN_39, mN_40, mN_41, mN_42, mN_43, mN_50, mN_51, mN_60, mN_61, mN_62, mN_63, hM.nT, hM.nL, hM.nK, hM.nP, hM.knots, hM.told, hM.heard, hM.were, hM.truth, hM.isThere, hM.isNot, hM.fed, hM.fKind, hM.fPlace, hM.tName, hM.ways, hM.isSo, hM.paper, hM.police, hM.lName, hM.age, hM.begins, hM.ends, hM.taped, hM.isW, hM.who, hM.hour, hM.thing, hM.value, hM.pWho, hM.pThing, hM.pValue, hM.first, hM.last, hM.knot, hM.kP, hM.kO, hM.byte, v62_8, v62_9, cl_8, cl_9]
    refine br_c (fun c => p4_pageIs hO p1 hi (br_c (fun d => ?_) (fun d => ?_))) (fun c => ?_)
    · refine ih _ p1 pl (lt10 ?_ ?_ ?_ ?_ ?_ ?_ ?_ ?_ ?_ ?_) <;> simp [mb_sb_s, uL_if, p2, btN, tkN, cnt, pgB, pgT, c, Int32.not_lt.mpr d, lN_1]
    · refine ih _ p1 pl (lt10 ?_ ?_ ?_ ?_ ?_ ?_ ?_ ?_ ?_ ?_) <;> simp [mb_sb_s, uL_if, p2, btN, tkN, cnt, pgB, pgT, c, Int32.not_le.mp d, lN_1]
    · refine ih M2 p1 pl (fun j hj => ?_)
      rw [p2 j hj]
      simp [btN, cnt, pgB, pgT, c]
  · refine lt10 ?_ ?_ ?_ ?_ ?_ ?_ ?_ ?_ ?_ ?_ <;> simp [mb_sb_s, uL_if, g3, btN, tkN, cnt] <;> rfl
def pgF (K : Ka) (t k : Nat) : Bool := K.pWho k == t && fpg K k
def pgR (K : Ka) (t k : Nat) : Bool := pgF K t k && decide (K.pValue k = K.isSo (K.pThing k))
def pgQ (K : Ka) (t k : Nat) : Bool := pgF K t k && !decide (K.pValue k = K.isSo (K.pThing k))
def pgN (K : Ka) (t i j : Nat) : Int64 := if j = 0 then (K.age t).toInt64 else if j = 5 then lN (cnt (pgR K t) i) else if j = 6 then lN (cnt (pgQ K t) i) else if j = 9 then lN (cnt (pgT K t) i) else 0
theorem p4_namesByPage {M : MS} {K : Ka} {Post : MS → Prop} {t : Nat} (hO : KO K) (hM : MK M K) (ht : t < K.nL) (h : ∀ M', MK M' K → ml M' = ml M → (∀ j, j < 10 → mb M' 62 j = pgN K t K.nP j) → Post M') : w4_namesByPage (nI t) M Post := by
  have h9T := hO.nT; have h9L := hO.nL; have h9K := hO.nK; have h9P := hO.nP
  refine p4_noNames hO hM ht (fun M1 g1 g2 g3 => ?_)
  refine upL (W := fun f i => ∀ M2 : MS, MK M2 K → ml M2 = ml M → (∀ j, j < 10 → mb M2 62 j = pgN K t i j) → w4_namesByPage_l7 (nI t) Post f (nI i) M2) (e := K.nP) ?_ ?_ |>.imp (fun f h => h M1 g1 g2 (fun j hj => (g3 j hj).trans (lt10 (P := fun j => nm0 K t j = pgN K t 0 j) rfl rfl rfl rfl rfl rfl rfl rfl rfl rfl j hj)))
  · intro n M2 p1 pl p2
    rw [w4_namesByPage_l7]
    exact br_t (by rw [p1.nP]; exact Int32.le_refl _) (h M2 p1 pl p2)
  · intro n i hi ih M2 p1 pl p2
    replace hM := p1
    rw [w4_namesByPage_l7]
    have h9w := hO.pWho i hi; have h9t := hO.pThing i hi
    refine br_f (by rw [p1.nP]; exact nI_ge hi (by omega)) ?_
    simp only [w4_namesByPage_c82, w4_namesByPage_c77, forall_eq, nI_1]
    simp (disch := omega) only [nI_lt0, nI_clamp, vp_inT, nI_eq, imp_FT, imp_TF, true_and, and_true, mN_0, mN_3, mN_21, mN_22, mN_23, mN_24, mN_25, mN_26, mN_27, mN_28, mN_29, mN_30, mN_31, mN_32, mN_33, mN_34, mN_35, mN_36, mN_37, mN_38, mN_39, mN_40, mN_41, mN_42, mN_43, mN_50, mN_51, mN_60, mN_61, mN_62, mN_63, hM.nT, hM.nL, hM.nK, hM.nP, hM.knots, hM.told, hM.heard, hM.were, hM.truth, hM.isThere, hM.isNot, hM.fed, hM.fKind, hM.fPlace, hM.tName, hM.ways, hM.isSo, hM.paper, hM.police, hM.lName, hM.age, hM.begins, hM.ends, hM.taped, hM.isW, hM.who, hM.hour, hM.thing, hM.value, hM.pWho, hM.pThing, hM.pValue, hM.first, hM.last, hM.knot, hM.kP, hM.kO, hM.byte, v62_9, cl_9]
    refine br_c (fun c => p4_isFirstLine hO ?_ hi (bz (fun d => ?_) (fun d => ?_))) (fun c => ?_)
    · exact p1
    · refine ih _ p1 pl (lt10 ?_ ?_ ?_ ?_ ?_ ?_ ?_ ?_ ?_ ?_) <;> simp [mb_sb_s, uL_if, p2, pgN, cnt, pgR, pgQ, pgF, pgT, c, d, lN_1]
    · simp (disch := omega) only [nI_lt0, nI_clamp, vp_inT, nI_eq, imp_FT, imp_TF, true_and, and_true, mN_0, mN_3, mN_21, mN_22, mN_23, mN_24, mN_25, mN_26, mN_27, mN_28, mN_29, mN_30, mN_31, mN_32, mN_33, mN_34, mN_35, mN_36, mN_37, mN_38, mN_39, mN_40, mN_41, mN_42, mN_43, mN_50, mN_51, mN_60, mN_61, mN_62, mN_63, hM.nT, hM.nL, hM.nK, hM.nP, hM.knots, hM.told, hM.heard, hM.were, hM.truth, hM.isThere, hM.isNot, hM.fed, hM.fKind, hM.fPlace, hM.tName, hM.ways, hM.isSo, hM.paper, hM.police, hM.lName, hM.age, hM.begins, hM.ends, hM.taped, hM.isW, hM.who, hM.hour, hM.thing, hM.value, hM.pWho, hM.pThing, hM.pValue, hM.first, hM.last, hM.knot, hM.kP, hM.kO, hM.byte, ma_sb, v62_5, v62_6, cl_5, cl_6]
      refine br_c (fun g => ?_) (fun g => ?_)
      · refine ih _ p1 pl (lt10 ?_ ?_ ?_ ?_ ?_ ?_ ?_ ?_ ?_ ?_) <;> simp [mb_sb_s, uL_if, p2, pgN, cnt, pgR, pgQ, pgF, pgT, c, d, g, lN_1]
      · refine ih _ p1 pl (lt10 ?_ ?_ ?_ ?_ ?_ ?_ ?_ ?_ ?_ ?_) <;> simp [mb_sb_s, uL_if, p2, pgN, cnt, pgR, pgQ, pgF, pgT, c, d, g, lN_1]
    · refine ih M2 p1 pl (fun j hj => ?_)
      rw [p2 j hj]
      simp [pgN, cnt, pgR, pgQ, pgF, pgT, c]
