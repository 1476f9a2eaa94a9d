theorem p4_latestWord {M : MS} {K : Ka} {Post : Int32 → MS → Prop} (hO : KO K) (hM : MK M K) {t x : Nat} (ht : t < K.nL) (hx : x < K.nT) (h : Post (lastI (sy K t x) K.nK) M) : w4_latestWord (nI t) (nI x) M Post := by
  have h9T := hO.nT; have h9L := hO.nL; have h9K := hO.nK; have h9P := hO.nP
  refine upL (W := fun f i => w4_latestWord_l5 (nI t) (nI x) Post f (lastI (sy K t x) i) (nI i) M) (e := K.nK) ?_ ?_
  · intro n
    rw [w4_latestWord_l5]
    exact br_t (by rw [hM.nK]; exact Int32.le_refl _) h
  · intro n i hi ih
    rw [w4_latestWord_l5]
    refine br_f (by rw [hM.nK]; exact nI_ge hi (by omega)) ?_
    simp only [w4_latestWord_c31, forall_eq, nI_1]
    refine p4_says hO hM hi ht hx (bz (fun b => ?_) (fun b => ?_))
    · (simp only [Bool.false_and, Bool.true_and, Bool.and_false, Bool.and_true, Bool.false_or, Bool.true_or, Bool.or_false, Bool.or_true, Bool.not_true, Bool.not_false, bI_t, bI_f, if_true, if_false, beq_self_eq_true, decide_true, decide_false, reduceCtorEq, Bool.false_eq_true, lastI, b] at ih; exact ih)
    · (simp only [Bool.false_and, Bool.true_and, Bool.and_false, Bool.and_true, Bool.false_or, Bool.true_or, Bool.or_false, Bool.or_true, Bool.not_true, Bool.not_false, bI_t, bI_f, if_true, if_false, beq_self_eq_true, decide_true, decide_false, reduceCtorEq, Bool.false_eq_true, lastI, b] at ih; exact ih)
theorem p4_heardMany {M : MS} {K : Ka} {Post : Int32 → MS → Prop} (hO : KO K) (hM : MK M K) (h : Post (nI (cnt (hh K) K.nK)) M) : w4_heardMany M Post := by
  have h9T := hO.nT; have h9L := hO.nL; have h9K := hO.nK; have h9P := hO.nP
  refine upL (W := fun f i => w4_heardMany_l4 Post f (nI (cnt (hh K) i)) (nI i) M) (e := K.nK) ?_ ?_
  · intro n
    rw [w4_heardMany_l4]
    exact br_t (by rw [hM.nK]; exact Int32.le_refl _) h
  · intro n i hi ih
    rw [w4_heardMany_l4]
    refine br_f (by rw [hM.nK]; exact nI_ge hi (by omega)) ?_
    simp only [w4_heardMany_c26, forall_eq, nI_1, Int32.add_zero]
    refine p4_isHeard hO hM hi (bz (fun c => ?_) (fun c => ?_))
    · (simp only [Bool.false_and, Bool.true_and, Bool.and_false, Bool.and_true, Bool.false_or, Bool.true_or, Bool.or_false, Bool.or_true, Bool.not_true, Bool.not_false, bI_t, bI_f, if_true, if_false, beq_self_eq_true, decide_true, decide_false, reduceCtorEq, Bool.false_eq_true, cnt, c] at ih; exact ih)
    · (simp only [Bool.false_and, Bool.true_and, Bool.and_false, Bool.and_true, Bool.false_or, Bool.true_or, Bool.or_false, Bool.or_true, Bool.not_true, Bool.not_false, bI_t, bI_f, if_true, if_false, beq_self_eq_true, decide_true, decide_false, reduceCtorEq, Bool.false_eq_true, cnt, c] at ih; exact ih)
theorem p4_hear {M : MS} {K : Ka} {Post : Int32 → MS → Prop} (hO : KO K) (hM : MK M K) {a : Int32} (h : ∀ M', MK M' (aHear K a).2 → Post (aHear K a).1 M') : w4_hear a M Post := by
  intro M1 e1
  replace hM : MK M1 K := by rw [e1]; exact hM.si2
  unfold aHear at h
  refine p4_isIn (bz (fun c => ?_) (fun c => ?_))
  · rw [Bool.and_eq_false_iff, decide_eq_false_iff_not, decide_eq_false_iff_not] at c
    rw [if_neg (fun q => c.elim (fun c => c q.1) (fun c => c q.2))] at h
    exact h _ hM
  · rw [Bool.and_eq_true_iff, decide_eq_true_iff, decide_eq_true_iff] at c
    rw [if_pos c] at h
    intro M4 e4
    have hM4 : MK M4 (K.setHeard a) := by rw [e4]; exact hM.setHeard
    exact p4_heardMany (hO.setHeard c.1 c.2) hM4 (h _ hM4)
theorem p4_firstSaid {M : MS} {K : Ka} {Post : Int32 → MS → Prop} (hO : KO K) (hM : MK M K) {t x : Nat} {v : Int32} (ht : t < K.nL) (hx : x < K.nT) (h : Post (firstI (svB K t x v) K.nK) M) : w4_firstSaid (nI t) (nI x) v M Post := by
  have h9T := hO.nT; have h9L := hO.nL; have h9K := hO.nK; have h9P := hO.nP
  refine upL (W := fun f i => anyB (svB K t x v) i = false → w4_firstSaid_l3 (nI t) (nI x) v Post f (nI i) M) (e := K.nK) ?_ ?_ |>.imp (fun f h => h rfl)
  · intro n ha
    rw [w4_firstSaid_l3]
    refine br_t (by rw [hM.nK]; exact Int32.le_refl _) ?_
    rw [firstI_no ha] at h
    exact h
  · intro n i hi ih ha
    rw [w4_firstSaid_l3]
    refine br_f (by rw [hM.nK]; exact nI_ge hi (by omega)) ?_
    simp only [w4_firstSaid_c37, forall_eq, nI_1]
    refine p4_says hO hM hi ht hx ?_
    simp (disch := omega) only [nI_lt0, nI_clamp, vp_inT, nI_eq, imp_FT, imp_TF, true_and, and_true, mN_0, mN_3, mN_21, mN_22, mN_23, mN_24, mN_25, mN_26, mN_27, mN_28, mN_29, mN_30, mN_31, mN_32, mN_33, mN_34, mN_35, mN_36, mN_37, mN_38, mN_39, mN_40, mN_41, mN_42, mN_43, mN_50, mN_51, mN_60, mN_61, mN_62, mN_63, hM.nT, hM.nL, hM.nK, hM.nP, hM.knots, hM.told, hM.heard, hM.were, hM.truth, hM.isThere, hM.isNot, hM.fed, hM.fKind, hM.fPlace, hM.tName, hM.ways, hM.isSo, hM.paper, hM.police, hM.lName, hM.age, hM.begins, hM.ends, hM.taped, hM.isW, hM.who, hM.hour, hM.thing, hM.value, hM.pWho, hM.pThing, hM.pValue, hM.first, hM.last, hM.knot, hM.kP, hM.kO, hM.byte]
    refine bz (fun c => ?_) (fun c => br_c (fun d => ?_) (fun d => ?_))
    · exact ih (by simp only [anyB, ha, svB, c, Bool.false_and, Bool.or_false])
    · rw [firstI_at hi (by simp only [svB, c, d, decide_true, Bool.true_and]) ha] at h
      exact h
    · exact ih (by simp only [anyB, ha, svB, c, d, decide_false, Bool.true_and, Bool.or_false])
theorem p4_storyOf {M : MS} {K : Ka} {Post : Int32 → MS → Prop} (hO : KO K) (hM : MK M K) {t x : Nat} (ht : t < K.nL) (hx : x < K.nT) (h : Post (sto K t x) M) : w4_storyOf (nI t) (nI x) M Post := by
  have h9T := hO.nT; have h9L := hO.nL; have h9K := hO.nK; have h9P := hO.nP
  refine p4_latestWord hO hM ht hx ?_
  cases e : anyB (sy K t x) K.nK with
  | true =>
    obtain ⟨k, h1, h2, h3, h4⟩ := lastI_V K.value e
    rw [h2]
    refine br_t (nI_pos' (by omega)) ?_
    simp (disch := omega) only [nI_lt0, nI_clamp, vp_inT, nI_eq, imp_FT, imp_TF, true_and, and_true, mN_0, mN_3, mN_21, mN_22, mN_23, mN_24, mN_25, mN_26, mN_27, mN_28, mN_29, mN_30, mN_31, mN_32, mN_33, mN_34, mN_35, mN_36, mN_37, mN_38, mN_39, mN_40, mN_41, mN_42, mN_43, mN_50, mN_51, mN_60, mN_61, mN_62, mN_63, hM.nT, hM.nL, hM.nK, hM.nP, hM.knots, hM.told, hM.heard, hM.were, hM.truth, hM.isThere, hM.isNot, hM.fed, hM.fKind, hM.fPlace, hM.tName, hM.ways, hM.isSo, hM.paper, hM.police, hM.lName, hM.age, hM.begins, hM.ends, hM.taped, hM.isW, hM.who, hM.hour, hM.thing, hM.value, hM.pWho, hM.pThing, hM.pValue, hM.first, hM.last, hM.knot, hM.kP, hM.kO, hM.byte]
    rw [← h4]
    exact h
  | false =>
    rw [lastI_no e]
    refine br_f (by decide) ?_
    rw [sto, lastV_no e] at h
    exact h
theorem p4_pageIs {M : MS} {K : Ka} {Post : Int32 → MS → Prop} (hO : KO K) (hM : MK M K) {k : Nat} (hk : k < K.nP) (h : Post (pgk K k) M) : w4_pageIs (nI k) M Post := by
  have h9T := hO.nT; have h9L := hO.nL; have h9K := hO.nK; have h9P := hO.nP; have h9w := hO.pWho k hk; have h9t := hO.pThing k hk
  unfold w4_pageIs
  simp (disch := omega) only [nI_lt0, nI_clamp, vp_inT, nI_eq, imp_FT, imp_TF, true_and, and_true, mN_0, mN_3, mN_21, mN_22, mN_23, mN_24, mN_25, mN_26, mN_27, mN_28, mN_29, mN_30, mN_31, mN_32, mN_33, mN_34, mN_35, mN_36, mN_37, mN_38, mN_39, mN_40, mN_41, mN_42, mN_43, mN_50, mN_51, mN_60, mN_61, mN_62, mN_63, hM.nT, hM.nL, hM.nK, hM.nP, hM.knots, hM.told, hM.heard, hM.were, hM.truth, hM.isThere, hM.isNot, hM.fed, hM.fKind, hM.fPlace, hM.tName, hM.ways, hM.isSo, hM.paper, hM.police, hM.lName, hM.age, hM.begins, hM.ends, hM.taped, hM.isW, hM.who, hM.hour, hM.thing, hM.value, hM.pWho, hM.pThing, hM.pValue, hM.first, hM.last, hM.knot, hM.kP, hM.kO, hM.byte]
  refine p4_latestWord hO hM h9w h9t ?_
  unfold pgk at h
  cases e : anyB (sy K (K.pWho k) (K.pThing k)) K.nK with
  | true =>
    obtain ⟨i, h1, h2, h3, h4⟩ := lastI_V K.value e
    rw [e, if_pos rfl] at h
    rw [h2]
    refine br_t (nI_pos' (by omega)) ?_
    have h5 : sto K (K.pWho k) (K.pThing k) = K.value i := h4
    rw [h5] at h
    simp (disch := omega) only [nI_lt0, nI_clamp, vp_inT, nI_eq, imp_FT, imp_TF, true_and, and_true, mN_0, mN_3, mN_21, mN_22, mN_23, mN_24, mN_25, mN_26, mN_27, mN_28, mN_29, mN_30, mN_31, mN_32, mN_33, mN_34, mN_35, mN_36, mN_37, mN_38, mN_39, mN_40, mN_41, mN_42, mN_43, mN_50, mN_51, mN_60, mN_61, mN_62, mN_63, hM.nT, hM.nL, hM.nK, hM.nP, hM.knots, hM.told, hM.heard, hM.were, hM.truth, hM.isThere, hM.isNot, hM.fed, hM.fKind, hM.fPlace, hM.tName, hM.ways, hM.isSo, hM.paper, hM.police, hM.lName, hM.age, hM.begins, hM.ends, hM.taped, hM.isW, hM.who, hM.hour, hM.thing, hM.value, hM.pWho, hM.pThing, hM.pValue, hM.first, hM.last, hM.knot, hM.kP, hM.kO, hM.byte]
    refine br_c (fun c => ?_) (fun c => p4_firstSaid hO hM h9w h9t ?_)
    · rw [if_pos c] at h; exact h
    · rw [if_neg c] at h
      cases g : anyB (svB K (K.pWho k) (K.pThing k) (K.pValue k)) K.nK with
      | true =>
        rw [g, if_pos rfl] at h
        obtain ⟨j, j1, j2⟩ := firstI_ex g
        rw [j2]
        exact br_f (nI_pos (by omega)) h
      | false =>
        rw [g, if_neg (by simp)] at h
        rw [firstI_no g]
        exact br_t (by decide) h
  | false =>
    rw [e, if_neg (by simp)] at h
    rw [lastI_no e]
    exact br_f (by decide) h
theorem p4_page {M : MS} {K : Ka} {Post : Int32 → MS → Prop} (hO : KO K) (hM : MK M K) {a : Int32} (h : ∀ M', MK M' K → Post (aPage K a) M') : w4_page a M Post := by
  have h9T := hO.nT; have h9L := hO.nL; have h9K := hO.nK; have h9P := hO.nP
  intro M1 e1
  replace hM : MK M1 K := by rw [e1]; exact hM.si2
  replace h := h M1 hM
  unfold aPage at h
  cases e : ix a K.nP with
  | some k =>
    obtain ⟨h1, h2⟩ := ix_lt (by omega) e
    rw [e] at h
    subst h2
    exact br_f (nI_pos (by omega)) (br_t (by rw [hM.nP]; exact nI_lt h1 (by omega)) (p4_pageIs hO hM h1 h))
  | none =>
    rw [e] at h
    exact br_c (fun _ => h) (fun c => br_f (by rw [hM.nP]; exact Int32.not_lt.mpr ((ix_none e).resolve_left c)) h)
theorem p4_isOnPage {M : MS} {K : Ka} {Post : Int32 → MS → Prop} (hO : KO K) (hM : MK M K) {t x : Nat} {v : Int32} (ht : t < K.nL) (hx : x < K.nT) (h : Post (bI (onP K t x v)) M) : w4_isOnPage (nI t) (nI x) v M Post := by
  have h9T := hO.nT; have h9L := hO.nL; have h9K := hO.nK; have h9P := hO.nP
  refine upL (W := fun f i => anyB (fun k => K.pWho k == t && (K.pThing k == x && decide (K.pValue k = v))) i = false → w4_isOnPage_l3 (nI t) (nI x) v Post f (nI i) M) (e := K.nP) ?_ ?_ |>.imp (fun f h => h rfl)
  · intro n ha
    rw [w4_isOnPage_l3]
    refine br_t (by rw [hM.nP]; exact Int32.le_refl _) ?_
    rw [onP, ha] at h
    exact h
  · intro n i hi ih ha
    rw [w4_isOnPage_l3]
    refine br_f (by rw [hM.nP]; exact nI_ge hi (by omega)) ?_
    have h9w := hO.pWho i hi; have h9t := hO.pThing i hi
    simp only [w4_isOnPage_c47, forall_eq, nI_1]
    simp (disch := omega) only [nI_lt0, nI_clamp, vp_inT, nI_eq, imp_FT, imp_TF, true_and, and_true, mN_0, mN_3, mN_21, mN_22, mN_23, mN_24, mN_25, mN_26, mN_27, mN_28, mN_29, mN_30, mN_31, mN_32, mN_33, mN_34, mN_35, mN_36, mN_37, mN_38, mN_39, mN_40, mN_41, mN_42, mN_43, mN_50, mN_51, mN_60, mN_61, mN_62, mN_63, hM.nT, hM.nL, hM.nK, hM.nP, hM.knots, hM.told, hM.heard, hM.were, hM.truth, hM.isThere, hM.isNot, hM.fed, hM.fKind, hM.fPlace, hM.tName, hM.ways, hM.isSo, hM.paper, hM.police, hM.lName, hM.age, hM.begins, hM.ends, hM.taped, hM.isW, hM.who, hM.hour, hM.thing, hM.value, hM.pWho, hM.pThing, hM.pValue, hM.first, hM.last, hM.knot, hM.kP, hM.kO, hM.byte]
    refine br_c (fun c => br_c (fun d => br_c (fun g => ?_) (fun g => ?_)) (fun d => ?_)) (fun c => ?_)
    · rw [onP, anyB_t i hi (by simp only [c, d, g, beq_self_eq_true, decide_true, Bool.and_true])] at h
      exact h
    · exact ih (by simp only [anyB, ha, g, decide_false, Bool.and_false, Bool.or_false])
    · exact ih (by simp only [anyB, ha, beq_eq_false_iff_ne.mpr d, Bool.false_and, Bool.and_false, Bool.or_false])
    · exact ih (by simp only [anyB, ha, beq_eq_false_iff_ne.mpr c, Bool.false_and, Bool.or_false])
theorem p4_left {M : MS} {K : Ka} {Post : Int32 → MS → Prop} (hO : KO K) (hM : MK M K) {a : Int32} (h : ∀ M', MK M' K → Post (aLeft K a) M') : w4_left a M Post := by
  have h9T := hO.nT; have h9L := hO.nL; have h9K := hO.nK; have h9P := hO.nP
  intro M1 e1
  replace hM : MK M1 K := by rw [e1]; exact hM.si2
  replace h := h M1 hM
  unfold aLeft at h
  refine p4_isTeller hO hM (fun t e ht ha => br_f (by decide) ?_) (fun e => br_t rfl ?_)
  · rw [e] at h
    subst ha
    refine upL (W := fun f i => w4_left_l19 (nI t) Post f (nI (cnt (fun k => hw K k && (K.who k == t && (!rt K k && !onP K t (K.thing k) (K.value k)))) i)) (nI i) M1) (e := K.nK) ?_ ?_
    · intro n
      rw [w4_left_l19]
      exact br_t (by rw [hM.nK]; exact Int32.le_refl _) h
    · intro n i hi ih
      rw [w4_left_l19]
      have h9w := hO.who i hi; have h9t := hO.thing i hi
      refine br_f (by rw [hM.nK]; exact nI_ge hi (by omega)) ?_
      simp only [w4_left_c78, w4_left_c79, forall_eq, nI_1, Int32.add_zero]
      refine p4_isHeardWord hO hM hi ?_
      simp (disch := omega) only [nI_lt0, nI_clamp, vp_inT, nI_eq, imp_FT, imp_TF, true_and, and_true, mN_0, mN_3, mN_21, mN_22, mN_23, mN_24, mN_25, mN_26, mN_27, mN_28, mN_29, mN_30, mN_31, mN_32, mN_33, mN_34, mN_35, mN_36, mN_37, mN_38, mN_39, mN_40, mN_41, mN_42, mN_43, mN_50, mN_51, mN_60, mN_61, mN_62, mN_63, hM.nT, hM.nL, hM.nK, hM.nP, hM.knots, hM.told, hM.heard, hM.were, hM.truth, hM.isThere, hM.isNot, hM.fed, hM.fKind, hM.fPlace, hM.tName, hM.ways, hM.isSo, hM.paper, hM.police, hM.lName, hM.age, hM.begins, hM.ends, hM.taped, hM.isW, hM.who, hM.hour, hM.thing, hM.value, hM.pWho, hM.pThing, hM.pValue, hM.first, hM.last, hM.knot, hM.kP, hM.kO, hM.byte]
      refine bz (fun c => ?_) (fun c => br_c (fun d => p4_isRight hO hM hi (bz (fun g => ?_) (fun g => ?_))) (fun d => ?_))
      · (simp only [Bool.false_and, Bool.true_and, Bool.and_false, Bool.and_true, Bool.false_or, Bool.true_or, Bool.or_false, Bool.or_true, Bool.not_true, Bool.not_false, bI_t, bI_f, if_true, if_false, beq_self_eq_true, decide_true, decide_false, reduceCtorEq, Bool.false_eq_true, cnt, c] at ih; exact ih)
      · simp (disch := omega) only [nI_lt0, nI_clamp, vp_inT, nI_eq, imp_FT, imp_TF, true_and, and_true, mN_0, mN_3, mN_21, mN_22, mN_23, mN_24, mN_25, mN_26, mN_27, mN_28, mN_29, mN_30, mN_31, mN_32, mN_33, mN_34, mN_35, mN_36, mN_37, mN_38, mN_39, mN_40, mN_41, mN_42, mN_43, mN_50, mN_51, mN_60, mN_61, mN_62, mN_63, hM.nT, hM.nL, hM.nK, hM.nP, hM.knots, hM.told, hM.heard, hM.were, hM.truth, hM.isThere, hM.isNot, hM.fed, hM.fKind, hM.fPlace, hM.tName, hM.ways, hM.isSo, hM.paper, hM.police, hM.lName, hM.age, hM.begins, hM.ends, hM.taped, hM.isW, hM.who, hM.hour, hM.thing, hM.value, hM.pWho, hM.pThing, hM.pValue, hM.first, hM.last, hM.knot, hM.kP, hM.kO, hM.byte]
        refine p4_isOnPage hO hM ht h9t (bz (fun j => ?_) (fun j => ?_))
        · (simp only [Bool.false_and, Bool.true_and, Bool.and_false, Bool.and_true, Bool.false_or, Bool.true_or, Bool.or_false, Bool.or_true, Bool.not_true, Bool.not_false, bI_t, bI_f, if_true, if_false, beq_self_eq_true, decide_true, decide_false, reduceCtorEq, Bool.false_eq_true, cnt, c, d, g, j] at ih; exact ih)
        · (simp only [Bool.false_and, Bool.true_and, Bool.and_false, Bool.and_true, Bool.false_or, Bool.true_or, Bool.or_false, Bool.or_true, Bool.not_true, Bool.not_false, bI_t, bI_f, if_true, if_false, beq_self_eq_true, decide_true, decide_false, reduceCtorEq, Bool.false_eq_true, cnt, c, d, g, j] at ih; exact ih)
      · (simp only [Bool.false_and, Bool.true_and, Bool.and_false, Bool.and_true, Bool.false_or, Bool.true_or, Bool.or_false, Bool.or_true, Bool.not_true, Bool.not_false, bI_t, bI_f, if_true, if_false, beq_self_eq_true, decide_true, decide_false, reduceCtorEq, Bool.false_eq_true, cnt, c, d, g] at ih; exact ih)
      · (simp only [Bool.false_and, Bool.true_and, Bool.and_false, Bool.and_true, Bool.false_or, Bool.true_or, Bool.or_false, Bool.or_true, Bool.not_true, Bool.not_false, bI_t, bI_f, if_true, if_false, beq_self_eq_true, decide_true, decide_false, reduceCtorEq, Bool.false_eq_true, cnt, c, beq_eq_false_iff_ne.mpr d] at ih; exact ih)
  · rw [e] at h
    exact h
theorem p4_story {M : MS} {K : Ka} {Post : Int32 → MS → Prop} (hO : KO K) (hM : MK M K) {a b : Int32} (h : ∀ M', MK M' K → Post (aStory K a b) M') : w4_story a b M Post := by
  have h9T := hO.nT; have h9L := hO.nL; have h9K := hO.nK; have h9P := hO.nP
  intro M1 e1
  replace hM : MK M1 K := by rw [e1]; exact hM.si2
  replace h := h M1 hM
  unfold aStory at h
  refine p4_isTeller hO hM (fun t e ht ha => br_f (by decide) ?_) (fun e => br_t rfl ?_)
  · refine p4_isThing hO hM (fun x e2 hx ha2 => br_f (by decide) ?_) (fun e2 => br_t rfl ?_)
    · rw [e, e2] at h
      subst ha; subst ha2
      exact p4_storyOf hO hM ht hx h
    · rw [e, e2] at h
      exact h
  · rw [e] at h
    exact h
theorem p4_clashes {M : MS} {K : Ka} {Post : Int32 → MS → Prop} (hO : KO K) (hM : MK M K) {t u : Nat} (ht : t < K.nL) (hu : u < K.nL) (h : Post (nI (cnt (clB K t u) K.nT)) M) : w4_clashes (nI t) (nI u) M Post := by
  have h9T := hO.nT; have h9L := hO.nL; have h9K := hO.nK; have h9P := hO.nP
  refine upL (W := fun f i => w4_clashes_l5 (nI t) (nI u) Post f (nI (cnt (clB K t u) i)) (nI i) M) (e := K.nT) ?_ ?_
  · intro n
    rw [w4_clashes_l5]
    exact br_t (by rw [hM.nT]; exact Int32.le_refl _) h
  · intro n i hi ih
    rw [w4_clashes_l5]
    refine br_f (by rw [hM.nT]; exact nI_ge hi (by omega)) ?_
    simp only [w4_clashes_c54, w4_clashes_c55, forall_eq, nI_1, Int32.add_zero]
    refine p4_storyOf hO hM ht hi (p4_storyOf hO hM hu hi ?_)
    refine br_c (fun c => ?_) (fun c => br_c (fun d => ?_) (fun d => br_c (fun g => ?_) (fun g => ?_)))
    · (simp only [Bool.false_and, Bool.true_and, Bool.and_false, Bool.and_true, Bool.false_or, Bool.true_or, Bool.or_false, Bool.or_true, Bool.not_true, Bool.not_false, bI_t, bI_f, if_true, if_false, beq_self_eq_true, decide_true, decide_false, reduceCtorEq, Bool.false_eq_true, cnt, clB, Int32.not_le.mpr c] at ih; exact ih)
    · (simp only [Bool.false_and, Bool.true_and, Bool.and_false, Bool.and_true, Bool.false_or, Bool.true_or, Bool.or_false, Bool.or_true, Bool.not_true, Bool.not_false, bI_t, bI_f, if_true, if_false, beq_self_eq_true, decide_true, decide_false, reduceCtorEq, Bool.false_eq_true, cnt, clB, Int32.not_le.mpr d] at ih; exact ih)
    · (simp only [Bool.false_and, Bool.true_and, Bool.and_false, Bool.and_true, Bool.false_or, Bool.true_or, Bool.or_false, Bool.or_true, Bool.not_true, Bool.not_false, bI_t, bI_f, if_true, if_false, beq_self_eq_true, decide_true, decide_false, reduceCtorEq, Bool.false_eq_true, cnt, clB, g] at ih; exact ih)
    · (simp only [Bool.false_and, Bool.true_and, Bool.and_false, Bool.and_true, Bool.false_or, Bool.true_or, Bool.or_false, Bool.or_true, Bool.not_true, Bool.not_false, bI_t, bI_f, if_true, if_false, beq_self_eq_true, decide_true, decide_false, reduceCtorEq, Bool.false_eq_true, cnt, clB, Int32.not_lt.mp c, Int32.not_lt.mp d, g] at ih; exact ih)
theorem p4_clash {M : MS} {K : Ka} {Post : Int32 → MS → Prop} (hO : KO K) (hM : MK M K) {a b : Int32} (h : ∀ M', MK M' K → Post (aClash K a b) M') : w4_clash a b M Post := by
  have h9T := hO.nT; have h9L := hO.nL; have h9K := hO.nK; have h9P := hO.nP
  intro M1 e1
  replace hM : MK M1 K := by rw [e1]; exact hM.si2
  replace h := h M1 hM
  unfold aClash at h
  refine p4_isTeller hO hM (fun t e ht ha => br_f (by decide) ?_) (fun e => br_t rfl ?_)
  · refine p4_isTeller hO hM (fun u e2 hu ha2 => br_f (by decide) ?_) (fun e2 => br_t rfl ?_)
    · rw [e, e2] at h
      subst ha; subst ha2
      refine br_c (fun c => ?_) (fun c => ?_)
      · simp only [(nI_eq (by omega) (by omega)).mp c, if_true] at h
        exact h
      · simp only [show ¬ t = u from fun q => c (by rw [q]), if_false] at h
        exact p4_clashes hO hM ht hu h
    · rw [e, e2] at h
      exact h
  · rw [e] at h
    exact h
