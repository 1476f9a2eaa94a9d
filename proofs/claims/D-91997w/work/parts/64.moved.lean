/-- how many lines of a page were moved: the state after k lines: many, most, keys, rising -/
def mvR (sd : Nat → Int32) (n : Nat) (lo : Nat → Nat) : Nat → Nat
  | 0 => 1
  | i + 1 => if sd i ≤ sd n ∧ mvR sd n lo i ≤ lo i then lo i + 1 else mvR sd n lo i
def mvB (K : Ka) (t k : Nat) : Bool := K.pWho k == t && decide (pgk K k ≤ 1)
def mvS (K : Ka) (t : Nat) : Nat → Nat × Nat × (Nat → Int32) × (Nat → Nat)
  | 0 => (0, 0, fun _ => 0, fun _ => 0)
  | k + 1 => let s := mvS K t k
    if mvB K t k then
      let sd := va_up s.2.2.1 s.1 (firstI (svB K t (K.pThing k) (K.pValue k)) K.nK)
      let r := mvR sd s.1 s.2.2.2 s.1
      (s.1 + 1, if s.2.1 < r then r else s.2.1, sd, va_up s.2.2.2 s.1 r)
    else s
def aMoved (K : Ka) (a : Int32) : Int32 := match ix a K.nL with | none => -1 | some t => nI (mvS K t K.nP).1 - nI (mvS K t K.nP).2.1
theorem mvR_le {sd : Nat → Int32} {n : Nat} {lo : Nat → Nat} {N : Nat} (h : ∀ i, i < N → lo i ≤ N) : ∀ i, i ≤ N → 1 ≤ mvR sd n lo i ∧ mvR sd n lo i ≤ N + 1
  | 0, _ => ⟨Nat.le_refl _, by unfold mvR; omega⟩
  | i + 1, hi => by
    have h1 := mvR_le (sd := sd) (n := n) h i (by omega)
    have h2 := h i (by omega)
    unfold mvR
    split <;> omega
theorem mvS_le (K : Ka) (t : Nat) : ∀ k, (mvS K t k).1 ≤ k ∧ (mvS K t k).2.1 ≤ (mvS K t k).1 ∧ ∀ i, i < (mvS K t k).1 → (mvS K t k).2.2.2 i ≤ (mvS K t k).1
  | 0 => ⟨Nat.le_refl _, Nat.le_refl _, fun i hi => absurd hi (Nat.not_lt_zero _)⟩
  | k + 1 => by
    obtain ⟨h1, h2, h3⟩ := mvS_le K t k
    unfold mvS
    by_cases c : mvB K t k = true
    · simp only [c, if_true]
      have h4 := mvR_le (sd := va_up (mvS K t k).2.2.1 (mvS K t k).1 (firstI (svB K t (K.pThing k) (K.pValue k)) K.nK)) (n := (mvS K t k).1) h3 (mvS K t k).1 (Nat.le_refl _)
      refine ⟨by omega, by split <;> omega, fun i hi => ?_⟩
      by_cases e : i = (mvS K t k).1
      · rw [e, va_up_self]; exact h4.2
      · rw [va_up_ne _ _ e]
        have := h3 i (by omega)
        omega
    · simp only [c, if_false, Bool.false_eq_true]
      exact ⟨by omega, h2, h3⟩
theorem p4_moved {M : MS} {K : Ka} {Post : Int32 → MS → Prop} (hO : KO K) (hM : MK M K) {a : Int32} (h : ∀ M', MK M' K → Post (aMoved K a) M') : w4_moved a M Post := by
  have h9T := hO.nT; have h9L := hO.nL; have h9K := hO.nK; have h9P := hO.nP
  intro M1 e1
  replace hM : MK M1 K := by rw [e1]; exact hM.si2
  unfold aMoved at h
  refine p4_isTeller hO hM (fun t e ht ha => br_f (by decide) ?_) (fun e => br_t rfl ?_)
  · rw [e] at h
    subst ha
    refine upL (W := fun f k => ∀ M2 : MS, MK M2 K → (∀ i, i < (mvS K t k).1 → ma M2 60 i = (mvS K t k).2.2.1 i ∧ ma M2 61 i = nI ((mvS K t k).2.2.2 i)) → w4_moved_l22 (nI t) Post f (nI (mvS K t k).1) (nI (mvS K t k).2.1) (nI k) M2) (e := K.nP) ?_ ?_ |>.imp (fun f h => h M1 hM (fun i hi => absurd hi (Nat.not_lt_zero _)))
    · intro n M2 p1 p2
      rw [w4_moved_l22]
      exact br_t (by rw [p1.nP]; exact Int32.le_refl _) (h M2 p1)
    · intro n k hk ih M2 p1 p2
      replace hM := p1
      rw [w4_moved_l22]
      have h9w := hO.pWho k hk; have h9x := hO.pThing k hk
      obtain ⟨b1, b2, b3⟩ := mvS_le K t k
      refine br_f (by rw [p1.nP]; exact nI_ge hk (by omega)) ?_
      simp only [w4_moved_c173, forall_eq, nI_1]
      simp (disch := omega) only [nI_lt0, nI_clamp, vp_inT, nI_eq, imp_FT, imp_TF, true_and, and_true, mN_0, mN_3, mN_21, mN_22, mN_23, mN_24, mN_25, mN_26, mN_27, mN_28, mN_29, mN_30, mN_31, mN_32, mN_33, mN_34, mN_35, mN_36, mN_37, mN_38, mN_39, mN_40, mN_41, mN_42, mN_43, mN_50, mN_51, mN_60, mN_61, mN_62, mN_63, hM.nT, hM.nL, hM.nK, hM.nP, hM.knots, hM.told, hM.heard, hM.were, hM.truth, hM.isThere, hM.isNot, hM.fed, hM.fKind, hM.fPlace, hM.tName, hM.ways, hM.isSo, hM.paper, hM.police, hM.lName, hM.age, hM.begins, hM.ends, hM.taped, hM.isW, hM.who, hM.hour, hM.thing, hM.value, hM.pWho, hM.pThing, hM.pValue, hM.first, hM.last, hM.knot, hM.kP, hM.kO, hM.byte]
      have hs : mvS K t (k + 1) = if mvB K t k then ((mvS K t k).1 + 1, if (mvS K t k).2.1 < mvR (va_up (mvS K t k).2.2.1 (mvS K t k).1 (firstI (svB K t (K.pThing k) (K.pValue k)) K.nK)) (mvS K t k).1 (mvS K t k).2.2.2 (mvS K t k).1 then mvR (va_up (mvS K t k).2.2.1 (mvS K t k).1 (firstI (svB K t (K.pThing k) (K.pValue k)) K.nK)) (mvS K t k).1 (mvS K t k).2.2.2 (mvS K t k).1 else (mvS K t k).2.1, va_up (mvS K t k).2.2.1 (mvS K t k).1 (firstI (svB K t (K.pThing k) (K.pValue k)) K.nK), va_up (mvS K t k).2.2.2 (mvS K t k).1 (mvR (va_up (mvS K t k).2.2.1 (mvS K t k).1 (firstI (svB K t (K.pThing k) (K.pValue k)) K.nK)) (mvS K t k).1 (mvS K t k).2.2.2 (mvS K t k).1)) else mvS K t k := rfl
      rw [hs] at ih
      clear hs
      generalize hs : mvS K t k = s at *
      obtain ⟨m, mo, sd, lo⟩ := s
      dsimp only at *
      refine br_c (fun c => p4_pageIs hO p1 hk (br_c (fun d => ?_) (fun d => ?_))) (fun c => ?_)
      · have hb : mvB K t k = true := by simp only [mvB, c, d, decide_true, beq_self_eq_true, Bool.and_true]
        rw [if_pos hb] at ih
        dsimp only at ih
        simp (disch := omega) only [nI_lt0, nI_clamp, vp_inT, nI_eq, imp_FT, imp_TF, true_and, and_true, mN_0, mN_3, mN_21, mN_22, mN_23, mN_24, mN_25, mN_26, mN_27, mN_28, mN_29, mN_30, mN_31, mN_32, mN_33, mN_34, mN_35, mN_36, mN_37, mN_38, mN_39, mN_40, mN_41, mN_42, mN_43, mN_50, mN_51, mN_60, mN_61, mN_62, mN_63, hM.nT, hM.nL, hM.nK, hM.nP, hM.knots, hM.told, hM.heard, hM.were, hM.truth, hM.isThere, hM.isNot, hM.fed, hM.fKind, hM.fPlace, hM.tName, hM.ways, hM.isSo, hM.paper, hM.police, hM.lName, hM.age, hM.begins, hM.ends, hM.taped, hM.isW, hM.who, hM.hour, hM.thing, hM.value, hM.pWho, hM.pThing, hM.pValue, hM.first, hM.last, hM.knot, hM.kP, hM.kO, hM.byte]
        refine p4_firstSaid hO p1 ht h9x ?_
        generalize firstI (svB K t (K.pThing k) (K.pValue k)) K.nK = fv at *
        refine upL (W := fun f i => ∀ M3 : MS, MK M3 K → (∀ j, j < m + 1 → ma M3 60 j = va_up sd m fv j) → (∀ j, j < m → ma M3 61 j = nI (lo j)) → ma M3 61 m = nI (mvR (va_up sd m fv) m lo i) → w4_moved_l90 (nI t) (w4_moved_l22 (nI t) Post n) Post f (nI m) (nI mo) (nI k) (nI i) M3) (e := m) ?_ ?_ |>.imp (fun f h => h _ p1 (fun j hj => ?_) (fun j hj => ?_) ?_)
        · intro n2 M3 q1 q2 q3 q4
          have hr := mvR_le (sd := va_up sd m fv) (n := m) b3 m (Nat.le_refl _)
          rw [w4_moved_l90]
          refine br_t (Int32.le_refl _) ?_
          simp only [w4_moved_c169, w4_moved_c173, forall_eq, nI_1]
          simp (disch := omega) only [nI_lt0, nI_clamp, vp_inT, nI_eq, imp_FT, imp_TF, true_and, and_true, mN_0, mN_3, mN_21, mN_22, mN_23, mN_24, mN_25, mN_26, mN_27, mN_28, mN_29, mN_30, mN_31, mN_32, mN_33, mN_34, mN_35, mN_36, mN_37, mN_38, mN_39, mN_40, mN_41, mN_42, mN_43, mN_50, mN_51, mN_60, mN_61, mN_62, mN_63, q4, nI_leI]
          have fin : ∀ mo', (if mo < mvR (va_up sd m fv) m lo m then mvR (va_up sd m fv) m lo m else mo) = mo' → w4_moved_l22 (nI t) Post n (nI (m + 1)) (nI mo') (nI (k + 1)) M3 := fun mo' e => by
            rw [e] at ih
            refine ih M3 q1 (fun i hi => ⟨q2 i hi, ?_⟩)
            unfold va_up
            by_cases g : i = m
            · rw [if_pos g, g]; exact q4
            · rw [if_neg g]; exact q3 i (by omega)
          refine br_c (fun g => ?_) (fun g => ?_)
          · exact fin mo (by rw [if_neg (by omega)])
          · exact fin _ (by rw [if_pos (by omega)])
        · intro n2 i hi ih2 M3 q1 q2 q3 q4
          have hr := mvR_le (sd := va_up sd m fv) (n := m) b3 i (by omega)
          have hl := b3 i hi
          rw [w4_moved_l90]
          refine br_f (nI_ge hi (by omega)) ?_
          simp only [w4_moved_c143, forall_eq, nI_1]
          simp (disch := omega) only [nI_lt0, nI_clamp, vp_inT, nI_eq, imp_FT, imp_TF, true_and, and_true, mN_0, mN_3, mN_21, mN_22, mN_23, mN_24, mN_25, mN_26, mN_27, mN_28, mN_29, mN_30, mN_31, mN_32, mN_33, mN_34, mN_35, mN_36, mN_37, mN_38, mN_39, mN_40, mN_41, mN_42, mN_43, mN_50, mN_51, mN_60, mN_61, mN_62, mN_63, q2 i (by omega), q2 m (by omega), q3 i hi, q4, nI_ltI]
          have st : ∀ r, mvR (va_up sd m fv) m lo (i + 1) = r → ∀ M4 : MS, MK M4 K → (∀ j, ma M4 60 j = ma M3 60 j) → (∀ j, j < m → ma M4 61 j = ma M3 61 j) → ma M4 61 m = nI r → w4_moved_l90 (nI t) (w4_moved_l22 (nI t) Post n) Post n2 (nI m) (nI mo) (nI k) (nI (i + 1)) M4 := fun r er M4 s1 s2 s3 s4 =>
            ih2 M4 s1 (fun j hj => (s2 j).trans (q2 j hj)) (fun j hj => (s3 j hj).trans (q3 j hj)) (by rw [er]; exact s4)
          refine br_c (fun g => ?_) (fun g => br_c (fun j => ?_) (fun j => ?_))
          · exact st _ (by rw [mvR, if_neg (fun q => Int32.not_le.mpr g q.1)]) M3 q1 (fun _ => rfl) (fun _ _ => rfl) q4
          · exact st _ (by rw [mvR, if_neg (fun q => by omega)]) M3 q1 (fun _ => rfl) (fun _ _ => rfl) q4
          · refine st (lo i + 1) (by rw [mvR, if_pos ⟨Int32.not_lt.mp g, by omega⟩]) _ q1 (fun _ => rfl) (fun j hj => ?_) ?_
            · rw [ma_sa, if_pos rfl, pk_un (by omega)]
            · rw [ma_sa, if_pos rfl, pk_us, nI_1]
        · show ma (sa M2 60 m fv) 60 j = _
          rw [ma_sa, if_pos rfl]
          by_cases g : j = m
          · rw [g, pk_us]; unfold va_up; rw [if_pos rfl]
          · rw [pk_un g]; unfold va_up; rw [if_neg g]; exact (p2 j (by omega)).1
        · rw [ma_sa, if_pos rfl, pk_un (by omega)]
          exact (p2 j hj).2
        · rw [ma_sa, if_pos rfl, pk_us]
          rfl
      · rw [if_neg (by simp only [mvB, c, d, decide_false, Bool.and_false]; decide)] at ih
        exact ih M2 p1 p2
      · rw [if_neg (by simp only [mvB, beq_eq_false_iff_ne.mpr c, Bool.false_and]; decide)] at ih
        exact ih M2 p1 p2
  · rw [e] at h
    exact h _ hM
