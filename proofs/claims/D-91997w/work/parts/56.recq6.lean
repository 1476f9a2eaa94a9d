theorem p4_undo {M : MS} {K : Ka} {Post : Int32 → MS → Prop} (hO : KO K) (hM : MK M K) (h : ∀ M', MK M' (aUndo K).2 → Post (aUndo K).1 M') : w4_undo M Post := by
  have h9T := hO.nT; have h9L := hO.nL; have h9K := hO.nK; have h9P := hO.nP; have h9o := hO.told
  intro M1 e1
  replace hM : MK M1 K := by rw [e1]; exact hM.si2
  unfold aUndo at h
  rw [hM.told]
  refine br_c (fun c => ?_) (fun c => ?_)
  · rw [nI_z (by omega)] at c
    rw [if_pos c] at h
    exact h _ hM
  · rw [nI_z (by omega)] at c
    rw [if_neg c] at h
    intro M3 e3 M4 e4
    have e5 : nI K.told - 1 = nI (K.told - 1) := by
      have := nI_pred (K.told - 1)
      rwa [show K.told - 1 + 1 = K.told by omega] at this
    have e6 : nI K.nK - 1 = nI (K.nK - 1) := by
      have := nI_pred (K.nK - 1)
      rwa [show K.nK - 1 + 1 = K.nK by omega] at this
    have e7 : mi M3 13 = nI K.nK := by rw [e3]; exact hM.nK
    rw [e7, e6] at e4
    rw [e5] at e3
    have e8 : mi M4 44 = nI (K.told - 1) := by rw [e4, e3]; rfl
    rw [e8]
    refine h _ ?_
    rw [e4, e3]
    have h0 := hM
    obtain ⟨a1, a2, a3, a4, a5, a6, a7⟩ := h0
    refine ⟨a1, a2, rfl, a4, a5, rfl, hM.heard, hM.were, hM.truth, hM.isThere, hM.isNot, hM.fed, hM.fKind, hM.fPlace, hM.tName, hM.ways, hM.isSo, hM.paper, hM.police, hM.lName, hM.age, hM.begins, hM.ends, hM.taped, ?_, ?_, ?_, ?_, ?_, hM.pWho, hM.pThing, hM.pValue, hM.first, hM.last, hM.knot, hM.kP, hM.kO, hM.byte, hM.words⟩
    · exact fun j (hj : j < K.nK - 1) => hM.isW j (by omega)
    · exact fun j (hj : j < K.nK - 1) => hM.who j (by omega)
    · exact fun j (hj : j < K.nK - 1) => hM.hour j (by omega)
    · exact fun j (hj : j < K.nK - 1) => hM.thing j (by omega)
    · exact fun j (hj : j < K.nK - 1) => hM.value j (by omega)
theorem p4_latestHour {M : MS} {Post : Int32 → MS → Prop} {u n : Nat} {v : Int32} (hn : u + n ≤ 120) (h : Post (lastV (fun k => decide (ma M 32 (u + k) = v)) (fun k => ma M 33 (u + k)) n) M) : w4_latestHour (nI u) (nI n) v M Post := by
  refine upL (W := fun f i => w4_latestHour_l6 (nI u) (nI n) v Post f (lastV (fun k => decide (ma M 32 (u + k) = v)) (fun k => ma M 33 (u + k)) i) (nI (u + i)) M) (e := n) ?_ ?_
  · intro n2
    rw [w4_latestHour_l6]
    refine br_t (by rw [nI_add]; exact Int32.le_refl _) h
  · intro n2 i hi ih
    rw [w4_latestHour_l6]
    refine br_f (by rw [nI_add]; exact nI_ge (by omega) (by omega)) ?_
    simp only [w4_latestHour_c37, forall_eq, nI_1]
    simp (disch := omega) only [nI_lt0, nI_clamp, vp_inT, nI_eq, imp_FT, imp_TF, true_and, and_true, mN_0, mN_3, mN_21, mN_22, mN_23, mN_24, mN_25, mN_26, mN_27, mN_28, mN_29, mN_30, mN_31, mN_32, mN_33, mN_34, mN_35, mN_36, mN_37, mN_38, mN_39, mN_40, mN_41, mN_42, mN_43, mN_50, mN_51, mN_60, mN_61, mN_62, mN_63]
    refine br_c (fun c => ?_) (fun c => ?_)
    · simp only [lastV, c, decide_true, if_true] at ih; exact ih
    · simp only [lastV, c, decide_false, if_false, Bool.false_eq_true] at ih; exact ih
theorem nI_p1m {n : Nat} : nI n + 1 - 1 = nI n := by rw [nI_1]; exact nI_pred n
theorem p4_say_90 {M : MS} {K : Ka} {Post : Int32 → MS → Prop} {w : Bool} {t x : Nat} {u v t0 : Int32} (hO : KO K) (hM : MK M K) (hn : K.nK < 60) (h1 : t0 ≤ v → ∀ M', MK M' (K.add w t x u v) → Post (nI K.nK) M') (h0 : ¬ t0 ≤ v → Post (-1) M) : w4_say_c90 (bI w) (nI t) u (nI x) v Post t0 v M := by
  have h9T := hO.nT; have h9L := hO.nL; have h9K := hO.nK; have h9P := hO.nP
  unfold w4_say_c90
  refine br_c (fun c => ?_) h0
  replace h1 := h1 c
  have hw : vp_nar .boolean (bI w) = bI w := by cases w <;> decide
  have i1 : ∀ N : Nat, K.nK < N → N < 2 ^ 31 → vp_in (mi M 13) N := fun N h h2 => by rw [hM.nK]; exact vp_in_nI h h2
  refine ⟨i1 _ (by rw [mN_31]; omega) (by decide), fun M1 e1 => ?_⟩
  have g1 : mi M1 13 = mi M 13 := by rw [e1]; rfl
  rw [g1]
  refine ⟨i1 _ (by rw [mN_32]; omega) (by decide), fun M2 e2 => ?_⟩
  have g2 : mi M2 13 = mi M 13 := by rw [e2]; exact g1
  rw [g2]
  refine ⟨i1 _ (by rw [mN_33]; omega) (by decide), fun M3 e3 => ?_⟩
  have g3 : mi M3 13 = mi M 13 := by rw [e3]; exact g2
  rw [g3]
  refine ⟨i1 _ (by rw [mN_34]; omega) (by decide), fun M4 e4 => ?_⟩
  have g4 : mi M4 13 = mi M 13 := by rw [e4]; exact g3
  rw [g4]
  refine ⟨i1 _ (by rw [mN_35]; omega) (by decide), fun M5 e5 => ?_⟩
  have g5 : mi M5 13 = mi M 13 := by rw [e5]; exact g4
  rw [g5]
  intro M6 e6 M7 e7
  have g6 : mi M6 44 = mi M 44 := by rw [e6, e5, e4, e3, e2, e1]; rfl
  have g7 : mi M7 13 = mi M 13 + 1 := by rw [e7, e6]; rfl
  rw [g7, hM.nK, nI_p1m]
  rw [g6, hM.told, nI_1] at e7
  rw [hM.nK, nI_1] at e6
  rw [hM.nK, nI_clamp (by omega)] at e1 e2 e3 e4 e5
  rw [hw] at e1
  refine h1 _ ?_
  rw [e7, e6, e5, e4, e3, e2, e1]
  have s : ∀ (f : Nat → Int32) (y : Int32), upd f K.nK y K.nK = y := fun f y => pk_us
  have o : ∀ (f : Nat → Int32) (y : Int32) (k : Nat), k < K.nK → upd f K.nK y k = f k := fun f y k hk => pk_un (by omega)
  have s' : ∀ {α : Type} (f : Nat → α) (y : α), va_up f K.nK y K.nK = y := fun f y => by
    unfold va_up; rw [if_pos rfl]
  have o' : ∀ {α : Type} (f : Nat → α) (y : α) (k : Nat), k < K.nK → va_up f K.nK y k = f k := fun f y k hk => by
    unfold va_up; rw [if_neg (by omega)]
  have e : ∀ k, k < K.nK + 1 → k = K.nK ∨ k < K.nK := fun k hk => by omega
  refine ⟨hM.nT, hM.nL, rfl, hM.nP, hM.knots, rfl, hM.heard, hM.were, hM.truth, hM.isThere, hM.isNot, hM.fed, hM.fKind, hM.fPlace, hM.tName, hM.ways, hM.isSo, hM.paper, hM.police, hM.lName, hM.age, hM.begins, hM.ends, hM.taped, ?_, ?_, ?_, ?_, ?_, hM.pWho, hM.pThing, hM.pValue, hM.first, hM.last, hM.knot, hM.kP, hM.kO, hM.byte, hM.words⟩
  · intro j hj
    show upd (ma M 31) K.nK (bI w) j = bI (va_up K.wd K.nK (if w then 1 else 0) j == 1)
    rcases e j hj with rfl | q
    · rw [s, s']; cases w <;> rfl
    · rw [o _ _ _ q, o' _ _ _ q]; exact hM.isW j q
  · intro j hj
    show upd (ma M 32) K.nK (nI t) j = nI (va_up K.who K.nK t j)
    rcases e j hj with rfl | q
    · rw [s, s']
    · rw [o _ _ _ q, o' _ _ _ q]; exact hM.who j q
  · intro j hj
    show upd (ma M 33) K.nK u j = va_up K.hour K.nK u j
    rcases e j hj with rfl | q
    · rw [s, s']
    · rw [o _ _ _ q, o' _ _ _ q]; exact hM.hour j q
  · intro j hj
    show upd (ma M 34) K.nK (nI x) j = nI (va_up K.thing K.nK x j)
    rcases e j hj with rfl | q
    · rw [s, s']
    · rw [o _ _ _ q, o' _ _ _ q]; exact hM.thing j q
  · intro j hj
    show upd (ma M 35) K.nK v j = va_up K.value K.nK v j
    rcases e j hj with rfl | q
    · rw [s, s']
    · rw [o _ _ _ q, o' _ _ _ q]; exact hM.value j q
theorem p4_say {M : MS} {K : Ka} {Post : Int32 → MS → Prop} (hO : KO K) (hM : MK M K) {w : Bool} {a u b v : Int32} (h : ∀ M', MK M' (aSay K w a u b v).2 → Post (aSay K w a u b v).1 M') : w4_say (bI w) a u b v M Post := by
  have h9T := hO.nT; have h9L := hO.nL; have h9K := hO.nK; have h9P := hO.nP
  intro M1 e1
  replace hM : MK M1 K := by rw [e1]; exact hM.si2
  unfold aSay at h
  rw [hM.nK]
  refine br_c (fun c => ?_) (fun c => ?_)
  · rw [show (60 : Int32) = nI 60 from rfl, nI_eq (by omega) (by omega)] at c
    rw [if_pos c] at h
    exact h _ hM
  · rw [show (60 : Int32) = nI 60 from rfl, nI_eq (by omega) (by omega)] at c
    rw [if_neg c] at h
    refine p4_isTeller hO hM (fun t e ht ha => br_f (by decide) ?_) (fun e => br_t rfl ?_)
    · refine p4_isThing hO hM (fun x e2 hx ha2 => br_f (by decide) ?_) (fun e2 => br_t rfl ?_)
      · rw [e, e2] at h
        dsimp only at h
        subst ha; subst ha2
        simp (disch := omega) only [nI_lt0, nI_clamp, vp_inT, nI_eq, imp_FT, imp_TF, true_and, and_true, mN_0, mN_3, mN_21, mN_22, mN_23, mN_24, mN_25, mN_26, mN_27, mN_28, mN_29, mN_30, mN_31, mN_32, mN_33, mN_34, mN_35, mN_36, mN_37, mN_38, mN_39, mN_40, mN_41, mN_42, mN_43, mN_50, mN_51, mN_60, mN_61, mN_62, mN_63, hM.nT, hM.nL, hM.nK, hM.nP, hM.knots, hM.told, hM.heard, hM.were, hM.truth, hM.isThere, hM.isNot, hM.fed, hM.fKind, hM.fPlace, hM.tName, hM.ways, hM.isSo, hM.paper, hM.police, hM.lName, hM.age, hM.begins, hM.ends, hM.taped, hM.isW, hM.who, hM.hour, hM.thing, hM.value, hM.pWho, hM.pThing, hM.pValue, hM.first, hM.last, hM.knot, hM.kP, hM.kO, hM.byte]
        refine br_c (fun c1 => ?_) (fun c1 => br_c (fun c2 => ?_) (fun c2 => ?_))
        · simp only [Int32.not_le.mpr c1, false_and, if_false] at h
          exact h _ hM
        · simp only [Int32.not_le.mpr c2, false_and, and_false, if_false] at h
          exact h _ hM
        · refine p4_latestHour (u := 0) (by omega) ?_
          have e3 : lastV (fun k => decide (ma M1 32 (0 + k) = nI t)) (fun k => ma M1 33 (0 + k)) K.nK = latH K t := by
            refine lastV_congr (fun i hi => ?_) (fun i hi => ?_)
            · have h9w := hO.who i hi
              simp (disch := omega) only [Nat.zero_add, hM.who i hi, nI_eq]
              by_cases q : K.who i = t
              · simp only [q, decide_true, beq_self_eq_true]
              · simp only [q, decide_false, beq_eq_false_iff_ne.mpr q]
            · simp only [Nat.zero_add, hM.hour i hi]
          rw [e3]
          refine br_c (fun c3 => ?_) (fun c3 => ?_)
          · simp (disch := omega) only [nI_lt0, nI_clamp, vp_inT, nI_eq, imp_FT, imp_TF, true_and, and_true, mN_0, mN_3, mN_21, mN_22, mN_23, mN_24, mN_25, mN_26, mN_27, mN_28, mN_29, mN_30, mN_31, mN_32, mN_33, mN_34, mN_35, mN_36, mN_37, mN_38, mN_39, mN_40, mN_41, mN_42, mN_43, mN_50, mN_51, mN_60, mN_61, mN_62, mN_63, hM.nT, hM.nL, hM.nK, hM.nP, hM.knots, hM.told, hM.heard, hM.were, hM.truth, hM.isThere, hM.isNot, hM.fed, hM.fKind, hM.fPlace, hM.tName, hM.ways, hM.isSo, hM.paper, hM.police, hM.lName, hM.age, hM.begins, hM.ends, hM.taped, hM.isW, hM.who, hM.hour, hM.thing, hM.value, hM.pWho, hM.pThing, hM.pValue, hM.first, hM.last, hM.knot, hM.kP, hM.kO, hM.byte]
            refine br_c (fun c4 => ?_) (fun c4 => ?_)
            · simp only [Int32.not_lt.mpr c4, and_false, if_false] at h
              exact h _ hM
            · have hb := fun (t0 : Int32) (ht0 : (if w then (0 : Int32) else -1) = t0) => p4_say_90 (M := M1) (Post := Post) (w := w) (t := t) (x := x) (u := u) (v := v) (t0 := t0) hO hM (by omega) (fun c5 M' hM' => by
                rw [ht0, if_pos ⟨⟨Int32.not_lt.mp c1, Int32.not_lt.mp c2, c3⟩, c5, Int32.not_le.mp c4⟩] at h
                exact h _ hM') (fun c5 => by
                rw [ht0, if_neg (fun q => c5 q.2.1)] at h
                exact h _ hM)
              cases w
              · exact br_t rfl (hb (-1) rfl)
              · exact br_f (by decide) (hb 0 rfl)
          · simp only [c3, and_false, false_and, if_false] at h
            exact h _ hM
      · rw [e, e2] at h
        exact h _ hM
    · rw [e] at h
      exact h _ hM
