/-! the record's answers -/
theorem p4_isTeller {M : MS} {K : Ka} {Post : Int32 → MS → Prop} (hO : KO K) (hM : MK M K) {a : Int32} (hs : ∀ t, ix a K.nL = some t → t < K.nL → a = nI t → Post 1 M) (hn : ix a K.nL = none → Post 0 M) : w4_isTeller a M Post := by
  have h9T := hO.nT; have h9L := hO.nL; have h9K := hO.nK; have h9P := hO.nP
  unfold w4_isTeller
  cases e : ix a K.nL with
  | some t =>
    obtain ⟨h1, h2⟩ := ix_lt (by omega) e
    subst h2
    exact br_f (nI_pos (by omega)) (br_f (by rw [hM.nL]; exact nI_ge h1 (by omega)) (hs t e h1 rfl))
  | none => exact br_c (fun _ => hn e) (fun c => br_t (by rw [hM.nL]; exact (ix_none e).resolve_left c) (hn e))
theorem p4_isThing {M : MS} {K : Ka} {Post : Int32 → MS → Prop} (hO : KO K) (hM : MK M K) {a : Int32} (hs : ∀ t, ix a K.nT = some t → t < K.nT → a = nI t → Post 1 M) (hn : ix a K.nT = none → Post 0 M) : w4_isThing a M Post := by
  have h9T := hO.nT; have h9L := hO.nL; have h9K := hO.nK; have h9P := hO.nP
  unfold w4_isThing
  cases e : ix a K.nT with
  | some t =>
    obtain ⟨h1, h2⟩ := ix_lt (by omega) e
    subst h2
    exact br_f (nI_pos (by omega)) (br_f (by rw [hM.nT]; exact nI_ge h1 (by omega)) (hs t e h1 rfl))
  | none => exact br_c (fun _ => hn e) (fun c => br_t (by rw [hM.nT]; exact (ix_none e).resolve_left c) (hn e))
theorem p4_isHeardX {M : MS} {K : Ka} {Post : Int32 → MS → Prop} (hO : KO K) (hM : MK M K) {a : Int32} (hs : ∀ k, ix a K.nK = some k → k < K.nK → a = nI k → Post (bI (hh K k)) M) (hn : ix a K.nK = none → Post 0 M) : w4_isHeard a M Post := by
  have h9T := hO.nT; have h9L := hO.nL; have h9K := hO.nK; have h9P := hO.nP
  cases e : ix a K.nK with
  | some k =>
    obtain ⟨h1, h2⟩ := ix_lt (by omega) e
    rw [h2]
    exact p4_isHeard hO hM h1 (hs k e h1 h2)
  | none => exact br_c (fun _ => hn e) (fun c => br_t (by rw [hM.nK]; exact (ix_none e).resolve_left c) (hn e))
theorem p4_isHeardWordX {M : MS} {K : Ka} {Post : Int32 → MS → Prop} (hO : KO K) (hM : MK M K) {a : Int32} (hs : ∀ k, ix a K.nK = some k → k < K.nK → a = nI k → Post (bI (hw K k)) M) (hn : ix a K.nK = none → Post 0 M) : w4_isHeardWord a M Post := by
  have h9T := hO.nT; have h9L := hO.nL; have h9K := hO.nK; have h9P := hO.nP
  cases e : ix a K.nK with
  | some k =>
    obtain ⟨h1, h2⟩ := ix_lt (by omega) e
    rw [h2]
    exact p4_isHeardWord hO hM h1 (hs k e h1 h2)
  | none => exact p4_isHeardX hO hM (fun k h => absurd h (by rw [e]; simp)) (fun _ => br_t rfl (hn e))
theorem p4_isIn {a lo hi : Int32} {Post : Int32 → Prop} (h : Post (bI (decide (lo ≤ a) && decide (a ≤ hi)))) : w4_isIn a lo hi Post := by
  refine br_c (fun c => ?_) (fun c => br_c (fun d => ?_) (fun d => ?_))
  · (simp only [Bool.false_and, Bool.true_and, Bool.and_false, Bool.and_true, Bool.false_or, Bool.true_or, Bool.or_false, Bool.or_true, Bool.not_true, Bool.not_false, bI_t, bI_f, if_true, if_false, beq_self_eq_true, decide_true, decide_false, reduceCtorEq, Bool.false_eq_true, decide_eq_false (Int32.not_le.mpr c)] at h; exact h)
  · (simp only [Bool.false_and, Bool.true_and, Bool.and_false, Bool.and_true, Bool.false_or, Bool.true_or, Bool.or_false, Bool.or_true, Bool.not_true, Bool.not_false, bI_t, bI_f, if_true, if_false, beq_self_eq_true, decide_true, decide_false, reduceCtorEq, Bool.false_eq_true, decide_eq_false (Int32.not_le.mpr d)] at h; exact h)
  · (simp only [Bool.false_and, Bool.true_and, Bool.and_false, Bool.and_true, Bool.false_or, Bool.true_or, Bool.or_false, Bool.or_true, Bool.not_true, Bool.not_false, bI_t, bI_f, if_true, if_false, beq_self_eq_true, decide_true, decide_false, reduceCtorEq, Bool.false_eq_true, decide_eq_true (Int32.not_lt.mp c), decide_eq_true (Int32.not_lt.mp d)] at h; exact h)
theorem p4_word {M : MS} {K : Ka} {Post : Int32 → MS → Prop} (hO : KO K) (hM : MK M K) {a : Int32} (h : ∀ M', MK M' K → Post (aWord K a) M') : w4_word a M Post := by
  intro M1 e1
  have hM : MK M1 K := by rw [e1]; exact hM.si2
  replace h := h M1 hM
  unfold aWord at h
  refine p4_isHeardWordX hO hM (fun k e hk ha => ?_) (fun e => ?_)
  · rw [e] at h
    subst ha
    refine bz (fun b => ?_) (fun b => p4_whatIs hO hM hk ?_)
    · (simp only [Bool.false_and, Bool.true_and, Bool.and_false, Bool.and_true, Bool.false_or, Bool.true_or, Bool.or_false, Bool.or_true, Bool.not_true, Bool.not_false, bI_t, bI_f, if_true, if_false, beq_self_eq_true, decide_true, decide_false, reduceCtorEq, Bool.false_eq_true, b] at h; exact h)
    · (simp only [Bool.false_and, Bool.true_and, Bool.and_false, Bool.and_true, Bool.false_or, Bool.true_or, Bool.or_false, Bool.or_true, Bool.not_true, Bool.not_false, bI_t, bI_f, if_true, if_false, beq_self_eq_true, decide_true, decide_false, reduceCtorEq, Bool.false_eq_true, b] at h; exact h)
  · rw [e] at h
    exact br_t rfl h
theorem p4_led {M : MS} {K : Ka} {Post : Int32 → MS → Prop} (hO : KO K) (hM : MK M K) {a : Int32} (h : ∀ M', MK M' K → Post (aLed K a) M') : w4_led a M Post := by
  intro M1 e1
  have hM : MK M1 K := by rw [e1]; exact hM.si2
  replace h := h M1 hM
  unfold aLed at h
  refine p4_isHeardWordX hO hM (fun k e hk ha => ?_) (fun e => ?_)
  · rw [e] at h
    subst ha
    refine bz (fun b => ?_) (fun b => p4_ledBy hO hM hk ?_)
    · (simp only [Bool.false_and, Bool.true_and, Bool.and_false, Bool.and_true, Bool.false_or, Bool.true_or, Bool.or_false, Bool.or_true, Bool.not_true, Bool.not_false, bI_t, bI_f, if_true, if_false, beq_self_eq_true, decide_true, decide_false, reduceCtorEq, Bool.false_eq_true, b] at h; exact h)
    · (simp only [Bool.false_and, Bool.true_and, Bool.and_false, Bool.and_true, Bool.false_or, Bool.true_or, Bool.or_false, Bool.or_true, Bool.not_true, Bool.not_false, bI_t, bI_f, if_true, if_false, beq_self_eq_true, decide_true, decide_false, reduceCtorEq, Bool.false_eq_true, b] at h; exact h)
  · rw [e] at h
    exact br_t rfl h
theorem p4_words {M : MS} {K : Ka} {Post : Int32 → MS → Prop} (hO : KO K) (hM : MK M K) {a b : Int32} (h : ∀ M', MK M' K → Post (aWords K a b) M') : w4_words a b M Post := by
  have h9T := hO.nT; have h9L := hO.nL; have h9K := hO.nK; have h9P := hO.nP
  intro M1 e1
  have hM : MK M1 K := by rw [e1]; exact hM.si2
  replace h := h M1 hM
  unfold aWords at h
  refine p4_isTeller hO hM (fun t e ht ha => br_f (by decide) ?_) (fun e => br_t rfl ?_)
  · rw [e] at h
    subst ha
    refine p4_isIn (bz (fun c => ?_) (fun c => ?_))
    · rw [Bool.and_eq_false_iff, decide_eq_false_iff_not, decide_eq_false_iff_not] at c
      simp only [show ¬ (1 ≤ b ∧ b ≤ 127) from fun q => c.elim (fun c => c q.1) (fun c => c q.2), if_false] at h
      exact h
    · rw [Bool.and_eq_true_iff, decide_eq_true_iff, decide_eq_true_iff] at c
      simp only [c, and_true, if_true] at h
      refine upL (W := fun f i => w4_words_l30 (nI t) b Post f (nI (cnt (fun k => hw K k && (K.who k == t && decide (wb K k &&& b = b))) i)) (nI i) M1) (e := K.nK) ?_ ?_
      · intro n
        rw [w4_words_l30]
        exact br_t (by rw [hM.nK]; exact Int32.le_refl _) h
      · intro n i hi ih
        rw [w4_words_l30]
        have h9w := hO.who i hi
        refine br_f (by rw [hM.nK]; exact nI_ge hi (by omega)) ?_
        simp only [w4_words_c76, w4_words_c77, forall_eq, nI_1, Int32.add_zero]
        refine p4_isHeardWord hO hM hi ?_
        simp (disch := omega) only [nI_lt0, nI_clamp, vp_inT, nI_eq, imp_FT, imp_TF, true_and, and_true, mN_0, mN_3, mN_21, mN_22, mN_23, mN_24, mN_25, mN_26, mN_27, mN_28, mN_29, mN_30, mN_31, mN_32, mN_33, mN_34, mN_35, mN_36, mN_37, mN_38, mN_39, mN_40, mN_41, mN_42, mN_43, mN_50, mN_51, mN_60, mN_61, mN_62, mN_63, hM.nT, hM.nL, hM.nK, hM.nP, hM.knots, hM.told, hM.heard, hM.were, hM.truth, hM.isThere, hM.isNot, hM.fed, hM.fKind, hM.fPlace, hM.tName, hM.ways, hM.isSo, hM.paper, hM.police, hM.lName, hM.age, hM.begins, hM.ends, hM.taped, hM.isW, hM.who, hM.hour, hM.thing, hM.value, hM.pWho, hM.pThing, hM.pValue, hM.first, hM.last, hM.knot, hM.kP, hM.kO, hM.byte]
        refine bz (fun c => ?_) (fun c => br_c (fun d => p4_whatIs hO hM hi (br_c (fun g => ?_) (fun g => ?_))) (fun d => ?_))
        · (simp only [Bool.false_and, Bool.true_and, Bool.and_false, Bool.and_true, Bool.false_or, Bool.true_or, Bool.or_false, Bool.or_true, Bool.not_true, Bool.not_false, bI_t, bI_f, if_true, if_false, beq_self_eq_true, decide_true, decide_false, reduceCtorEq, Bool.false_eq_true, cnt, c] at ih; exact ih)
        · (simp only [Bool.false_and, Bool.true_and, Bool.and_false, Bool.and_true, Bool.false_or, Bool.true_or, Bool.or_false, Bool.or_true, Bool.not_true, Bool.not_false, bI_t, bI_f, if_true, if_false, beq_self_eq_true, decide_true, decide_false, reduceCtorEq, Bool.false_eq_true, cnt, c, d, g] at ih; exact ih)
        · (simp only [Bool.false_and, Bool.true_and, Bool.and_false, Bool.and_true, Bool.false_or, Bool.true_or, Bool.or_false, Bool.or_true, Bool.not_true, Bool.not_false, bI_t, bI_f, if_true, if_false, beq_self_eq_true, decide_true, decide_false, reduceCtorEq, Bool.false_eq_true, cnt, c, d, g] at ih; exact ih)
        · (simp only [Bool.false_and, Bool.true_and, Bool.and_false, Bool.and_true, Bool.false_or, Bool.true_or, Bool.or_false, Bool.or_true, Bool.not_true, Bool.not_false, bI_t, bI_f, if_true, if_false, beq_self_eq_true, decide_true, decide_false, reduceCtorEq, Bool.false_eq_true, cnt, c, beq_eq_false_iff_ne.mpr d] at ih; exact ih)
  · rw [e] at h
    exact h
