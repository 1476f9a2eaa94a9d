def tpN (K : Ka) (t j : Nat) : Int64 := if j = 1 then (if 0 ≤ K.taped t then (K.ends t - K.taped t).toInt64 else 0) else tkN K t true K.nK j
def fdB (K : Ka) (t : Nat) (b : Int32) : Bool := hB K (if b = 0 then pgN K t K.nP else if b = 1 then tpN K t else btN K t K.nP) 2
def barB (K : Ka) (t : Nat) : Bool := hB K (btN K t K.nP) 1
theorem vz_b (b : Bool) : vz (bI b) := by cases b; exact Or.inl rfl; exact Or.inr rfl
theorem p4_finds {M : MS} {K : Ka} {Post : Int32 → MS → Prop} (hO : KO K) (hM : MK M K) {t : Nat} {b : Int32} (ht : t < K.nL) (h : ∀ M', MK M' K → Post (bI (fdB K t b)) M') : w4_finds (nI t) b M Post := by
  have h9T := hO.nT; have h9L := hO.nL; have h9K := hO.nK; have h9P := hO.nP
  have fin : ∀ (g : Nat → Int64) (M1 : MS), (if b = 0 then pgN K t K.nP else if b = 1 then tpN K t else btN K t K.nP) = g → MK M1 K → (∀ j, j < 10 → mb M1 62 j = g j) → w4_finds_c64 (nI t) b Post M1 := by
    intro g M1 eg g1 g3
    unfold w4_finds_c64
    refine p4_holds (e := 2) hO g1 (by decide) (fun M' m1 => ⟨vz_b _, ?_⟩)
    have h := h M' m1
    rw [fdB, eg, ← hB_congr hO g3 (by decide)] at h
    exact h
  unfold w4_finds
  refine br_c (fun c => ?_) (fun c => br_c (fun d => ?_) (fun d => ?_))
  · exact p4_namesByPage hO hM ht (fun M' m1 _ m3 => fin _ M' (by rw [if_pos c]) m1 m3)
  · refine p4_namesByTalk (b := true) hO hM ht (fun M' m1 m2 m3 => ?_)
    replace hM := m1
    simp only [w4_finds_c55]
    simp (disch := omega) only [nI_lt0, nI_clamp, vp_inT, nI_eq, imp_FT, imp_TF, true_and, and_true, mN_0, mN_3, mN_21, mN_22, mN_23, mN_24, mN_25, mN_26, mN_27, mN_28, mN_29, mN_30, mN_31, mN_32, mN_33, mN_34, mN_35, mN_36, mN_37, mN_38, mN_39, mN_40, mN_41, mN_42, mN_43, mN_50, mN_51, mN_60, mN_61, mN_62, mN_63, hM.nT, hM.nL, hM.nK, hM.nP, hM.knots, hM.told, hM.heard, hM.were, hM.truth, hM.isThere, hM.isNot, hM.fed, hM.fKind, hM.fPlace, hM.tName, hM.ways, hM.isSo, hM.paper, hM.police, hM.lName, hM.age, hM.begins, hM.ends, hM.taped, hM.isW, hM.who, hM.hour, hM.thing, hM.value, hM.pWho, hM.pThing, hM.pValue, hM.first, hM.last, hM.knot, hM.kP, hM.kO, hM.byte, v62_1, cl_1, forall_eq]
    refine br_c (fun g => ?_) (fun g => ?_)
    · refine fin (tpN K t) _ (by rw [if_neg c, if_pos d]) m1 (lt10 ?_ ?_ ?_ ?_ ?_ ?_ ?_ ?_ ?_ ?_) <;> simp [mb_sb_s, uL_if, m3, tpN, Int32.not_le.mpr g]
    · refine fin (tpN K t) _ (by rw [if_neg c, if_pos d]) m1 (lt10 ?_ ?_ ?_ ?_ ?_ ?_ ?_ ?_ ?_ ?_) <;> simp [mb_sb_s, uL_if, m3, tpN, Int32.not_lt.mp g]
  · exact p4_namesByBoth hO hM ht (fun M' m1 _ m3 => fin _ M' (by rw [if_neg c, if_neg d]) m1 m3)
theorem p4_isBarred {M : MS} {K : Ka} {Post : Int32 → MS → Prop} (hO : KO K) (hM : MK M K) {t : Nat} (ht : t < K.nL) (h : ∀ M', MK M' K → Post (bI (barB K t)) M') : w4_isBarred (nI t) M Post := by
  refine p4_namesByBoth hO hM ht (fun M1 g1 g2 g3 => ?_)
  refine p4_holds (e := 1) hO g1 (by decide) (fun M' m1 => ⟨vz_b _, ?_⟩)
  have h := h M' m1
  rw [barB, ← hB_congr hO g3 (by decide)] at h
  exact h
def aBarred (K : Ka) (a : Int32) : Int32 := match ix a K.nL with | none => -1 | some t => bI (barB K t)
theorem p4_barred {M : MS} {K : Ka} {Post : Int32 → MS → Prop} (hO : KO K) (hM : MK M K) {a : Int32} (h : ∀ M', MK M' K → Post (aBarred K a) M') : w4_barred a M Post := by
  intro M1 e1
  replace hM : MK M1 K := by rw [e1]; exact hM.si2
  unfold aBarred at h
  refine p4_isTeller hO hM (fun t e ht ha => br_f (by decide) ?_) (fun e => br_t rfl ?_)
  · rw [e] at h
    subst ha
    refine p4_isBarred hO hM ht (fun M' m1 => ?_)
    have h := h M' m1
    dsimp only at h
    exact bz (fun c => by rw [c] at h; exact h) (fun c => by rw [c] at h; exact h)
  · rw [e] at h
    exact h _ hM
def aJury (K : Ka) (a b : Int32) : Int32 := match ix a K.nL with | none => -1 | some t => if 0 ≤ b ∧ b ≤ 2 then bI (fdB K t b) else -1
theorem p4_jury {M : MS} {K : Ka} {Post : Int32 → MS → Prop} (hO : KO K) (hM : MK M K) {a b : Int32} (h : ∀ M', MK M' K → Post (aJury K a b) M') : w4_jury a b M Post := by
  intro M1 e1
  replace hM : MK M1 K := by rw [e1]; exact hM.si2
  unfold aJury at h
  refine p4_isTeller hO hM (fun t e ht ha => br_f (by decide) ?_) (fun e => br_t rfl ?_)
  · rw [e] at h
    subst ha
    refine p4_isIn (bz (fun c => ?_) (fun c => ?_))
    · rw [Bool.and_eq_false_iff, decide_eq_false_iff_not, decide_eq_false_iff_not] at c
      have h := h M1 hM
      simp only [show ¬ (0 ≤ b ∧ b ≤ 2) from fun q => c.elim (fun c => c q.1) (fun c => c q.2), if_false] at h
      exact h
    · rw [Bool.and_eq_true_iff, decide_eq_true_iff, decide_eq_true_iff] at c
      refine p4_finds hO hM ht (fun M' m1 => ?_)
      have h := h M' m1
      simp only [c, and_true, if_true] at h
      exact bz (fun c => by rw [c] at h; exact h) (fun c => by rw [c] at h; exact h)
  · rw [e] at h
    exact h _ hM
def Ka.setWere (K : Ka) (v : Int32) : Ka := (K.1, va_up K.2.1 1 v, K.2.2)
theorem KO.setWere {K : Ka} {v : Int32} (h : KO K) : KO (K.setWere v) := h
theorem MK.setWere {M : MS} {K : Ka} {v : Int32} (h : MK M K) : MK (si M 46 v) (K.setWere v) := by
  obtain ⟨a1, a2, a3, a4, a5, a6, a7, a8, a9⟩ := h
  exact ⟨a1, a2, a3, a4, a5, a6, a7, rfl, a9⟩
def aThere (K : Ka) (a : Int32) : Int32 × Ka := match ix a (2 ^ K.nL) with | none => (-1, K) | some _ => (mn a 16, K.setWere a)
theorem p4_there_2 {M : MS} {K : Ka} {Post : Int32 → MS → Prop} (hO : KO K) (hM : MK M K) {a : Int32} (h : ∀ M', MK M' (aThere K a).2 → Post (aThere K a).1 M') : w4_there_2 a M Post := by
  intro M1 e1
  replace hM : MK M1 K := by rw [e1]; exact hM.si2
  unfold aThere at h
  refine p4_isSet hO hM (fun e => br_f (by decide) (fun M5 e5 => p4_many ?_)) (fun e => br_t rfl ?_)
  · cases e2 : ix a (2 ^ K.nL) with
    | none => exact absurd e2 e
    | some t =>
      rw [e2] at h
      exact h _ (by rw [e5]; exact hM.setWere)
  · rw [e] at h
    exact h _ hM
def fnd (K : Ka) (b : Int32) : Nat → Int32
  | 0 => 0
  | n + 1 => if fdB K n b && !barB K n then fnd K b n ||| ((1 : Int32) <<< (nI n &&& 31)) else fnd K b n
def aFound (K : Ka) (a b : Int32) : Int32 := if (0 ≤ a ∧ a ≤ 2) ∧ (0 ≤ b ∧ b ≤ 1) then (if b = 0 then fnd K a K.nL &&& (K.were ^^^ (-1)) else K.were &&& (fnd K a K.nL ^^^ (-1))) else -1
theorem p4_found {M : MS} {K : Ka} {Post : Int32 → MS → Prop} (hO : KO K) (hM : MK M K) {a b : Int32} (h : ∀ M', MK M' K → Post (aFound K a b) M') : w4_found a b M Post := by
  have h9T := hO.nT; have h9L := hO.nL; have h9K := hO.nK; have h9P := hO.nP
  intro M1 e1
  replace hM : MK M1 K := by rw [e1]; exact hM.si2
  unfold aFound at h
  refine p4_isIn (bz (fun c => ?_) (fun c => p4_isIn (bz (fun d => ?_) (fun d => ?_))))
  · rw [Bool.and_eq_false_iff, decide_eq_false_iff_not, decide_eq_false_iff_not] at c
    rw [if_neg (fun q => c.elim (fun c => c q.1.1) (fun c => c q.1.2))] at h
    exact h _ hM
  · rw [Bool.and_eq_false_iff, decide_eq_false_iff_not, decide_eq_false_iff_not] at d
    rw [if_neg (fun q => d.elim (fun c => c q.2.1) (fun c => c q.2.2))] at h
    exact h _ hM
  · rw [Bool.and_eq_true_iff, decide_eq_true_iff, decide_eq_true_iff] at c d
    rw [if_pos ⟨c, d⟩] at h
    refine upL (W := fun f i => ∀ M2 : MS, MK M2 K → w4_found_l30 a b Post f (fnd K a i) (nI i) M2) (e := K.nL) ?_ ?_ |>.imp (fun f h => h M1 hM)
    · intro n M2 p1
      rw [w4_found_l30]
      have h := h M2 p1
      refine br_t (by rw [p1.nL]; exact Int32.le_refl _) ?_
      rw [p1.were]
      refine br_c (fun g => ?_) (fun g => ?_)
      · rw [if_pos g] at h; exact h
      · rw [if_neg g] at h; exact h
    · intro n i hi ih M2 p1
      rw [w4_found_l30]
      refine br_f (by rw [p1.nL]; exact nI_ge hi (by omega)) ?_
      simp only [w4_found_c66, w4_found_c67, forall_eq, nI_1, Int32.or_zero]
      refine p4_finds hO p1 hi (fun M3 m1 => bz (fun g => ?_) (fun g => p4_isBarred hO m1 hi (fun M4 m3 => bz (fun j => ?_) (fun j => ?_))))
      · have ih := ih M3 m1
        (simp only [Bool.false_and, Bool.true_and, Bool.and_false, Bool.and_true, Bool.false_or, Bool.true_or, Bool.or_false, Bool.or_true, Bool.not_true, Bool.not_false, bI_t, bI_f, if_true, if_false, beq_self_eq_true, decide_true, decide_false, reduceCtorEq, Bool.false_eq_true, fnd, g] at ih; exact ih)
      · have ih := ih M4 m3
        (simp only [Bool.false_and, Bool.true_and, Bool.and_false, Bool.and_true, Bool.false_or, Bool.true_or, Bool.or_false, Bool.or_true, Bool.not_true, Bool.not_false, bI_t, bI_f, if_true, if_false, beq_self_eq_true, decide_true, decide_false, reduceCtorEq, Bool.false_eq_true, fnd, g, j] at ih; exact ih)
      · have ih := ih M4 m3
        (simp only [Bool.false_and, Bool.true_and, Bool.and_false, Bool.and_true, Bool.false_or, Bool.true_or, Bool.or_false, Bool.or_true, Bool.not_true, Bool.not_false, bI_t, bI_f, if_true, if_false, beq_self_eq_true, decide_true, decide_false, reduceCtorEq, Bool.false_eq_true, fnd, g, j] at ih; exact ih)
