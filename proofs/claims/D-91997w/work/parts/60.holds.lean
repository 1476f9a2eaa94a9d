def hB (K : Ka) (nm : Nat → Int64) (e : Nat) : Bool := decide (K.first e < K.last e) && (match wv K nm (K.last e - 1) with | some v => !decide (v = 0) | none => false)
theorem p4_hasLine {M : MS} {K : Ka} {Post : Int32 → MS → Prop} (hO : KO K) (hM : MK M K) {e : Nat} (he : e < 3) (h : Post (bI (decide (K.first e < K.last e))) M) : w4_hasLine (nI e) M Post := by
  obtain ⟨l1, l2⟩ := hO.last e he
  have l3 := hO.knots
  unfold w4_hasLine
  simp (disch := omega) only [nI_lt0, nI_clamp, vp_inT, nI_eq, imp_FT, imp_TF, true_and, and_true, mN_0, mN_3, mN_21, mN_22, mN_23, mN_24, mN_25, mN_26, mN_27, mN_28, mN_29, mN_30, mN_31, mN_32, mN_33, mN_34, mN_35, mN_36, mN_37, mN_38, mN_39, mN_40, mN_41, mN_42, mN_43, mN_50, mN_51, mN_60, mN_61, mN_62, mN_63, hM.nT, hM.nL, hM.nK, hM.nP, hM.knots, hM.told, hM.heard, hM.were, hM.truth, hM.isThere, hM.isNot, hM.fed, hM.fKind, hM.fPlace, hM.tName, hM.ways, hM.isSo, hM.paper, hM.police, hM.lName, hM.age, hM.begins, hM.ends, hM.taped, hM.isW, hM.who, hM.hour, hM.thing, hM.value, hM.pWho, hM.pThing, hM.pValue, hM.first, hM.last, hM.knot, hM.kP, hM.kO, hM.byte, nI_leI]
  refine br_c (fun c => ?_) (fun c => ?_)
  · rw [decide_eq_false (by omega)] at h; exact h
  · rw [decide_eq_true (by omega)] at h; exact h
theorem p4_holds {M : MS} {K : Ka} {Post : Int32 → MS → Prop} (hO : KO K) (hM : MK M K) {e : Nat} (he : e < 3) (h : ∀ M', MK M' K → Post (bI (hB K (mb M 62) e)) M') : w4_holds (nI e) M Post := by
  refine p4_hasLine hO hM he (bz (fun c => ?_) (fun c => ?_))
  · have h := h M hM
    rw [hB, c] at h
    exact h
  · refine p4_sumOf hO hM he (by simpa using c) (fun r M' m1 m2 m3 m4 m5 => ?_)
    have h := h M' m1
    rw [hB, c, Bool.true_and] at h
    refine br_c (fun g => ?_) (fun g => ?_)
    · rw [m4 g] at h
      refine br_c (fun j => ?_) (fun j => ?_)
      · simp only [j, decide_true, Bool.not_true, bI_f] at h; exact h
      · simp only [j, decide_false, Bool.not_false, bI_t] at h; exact h
    · rw [m5 g] at h
      exact h
theorem ev_congr {K : Ka} {nm nm' : Nat → Int64} (hO : KO K) (hn : ∀ j, j < 10 → nm j = nm' j) {e : Nat} (he : e < 3) : ∀ (f k : Nat), K.first e ≤ k → k < K.last e → ev K nm f k = ev K nm' f k := by
  intro f
  induction f with
  | zero => intro k _ _; rfl
  | succ f ih =>
    intro k h1 h2
    obtain ⟨n1, n2, n3, n4⟩ := hO.knot e k he h1 h2
    unfold ev
    by_cases c0 : K.knot k = 0
    · rw [if_pos c0, if_pos c0]
    · rw [if_neg c0, if_neg c0]
      by_cases c1 : K.knot k = 1
      · rw [if_pos c1, if_pos c1, hn _ (n2 c1).2]
      · rw [if_neg c1, if_neg c1]
        obtain ⟨-, a1, a2⟩ := n3 (by omega)
        rw [ih (K.kA k) a1 (by omega)]
        by_cases c2 : K.knot k = 2
        · simp only [c2, if_true]
        · obtain ⟨-, b1, b2⟩ := n4 (by omega)
          rw [ih (K.kB k) b1 (by omega)]
theorem hB_congr {K : Ka} {nm nm' : Nat → Int64} (hO : KO K) (hn : ∀ j, j < 10 → nm j = nm' j) {e : Nat} (he : e < 3) : hB K nm e = hB K nm' e := by
  unfold hB
  by_cases c : K.first e < K.last e
  · rw [show wv K nm (K.last e - 1) = wv K nm' (K.last e - 1) from ev_congr hO hn he _ _ (by omega) (by omega)]
  · rw [decide_eq_false c, Bool.false_and, Bool.false_and]
def nm0 (K : Ka) (t : Nat) (j : Nat) : Int64 := if j = 0 then (K.age t).toInt64 else 0
theorem p4_noNames {M : MS} {K : Ka} {Post : MS → Prop} {t : Nat} (hO : KO K) (hM : MK M K) (ht : t < K.nL) (h : ∀ M', MK M' K → ml M' = ml M → (∀ j, j < 10 → mb M' 62 j = nm0 K t j) → Post M') : w4_noNames (nI t) M Post := by
  have h9T := hO.nT; have h9L := hO.nL; have h9K := hO.nK; have h9P := hO.nP
  refine upL (W := fun f i => ∀ M2 : MS, MK M2 K → ml M2 = ml M → (∀ j, j < i → mb M2 62 j = 0) → w4_noNames_l2 (nI t) Post f (nI i) M2) (e := 10) ?_ ?_ |>.imp (fun f h => h M hM rfl (fun j hj => absurd hj (Nat.not_lt_zero _)))
  · intro n M2 g1 g2 g3
    rw [w4_noNames_l2, nI_clamp (by omega), g1.age t ht]
    refine br_t (Int32.le_refl _) ⟨by rw [mN_27]; exact vp_in_nI (by omega) (by omega), by rw [mN_62]; exact vp_in_nI (n := 0) (by omega) (by omega), fun M3 e3 => h M3 (by rw [e3]; exact g1) (by rw [e3]; exact g2) (fun j hj => ?_)⟩
    rw [e3, mb_sb, if_pos rfl]
    by_cases q : j = 0
    · subst q
      exact pk_uLs
    · rw [show (0 : Int32).toNatClampNeg = 0 from rfl, pk_uLn q, g3 j hj, nm0, if_neg q]
  · intro n i hi ih M2 g1 g2 g3
    rw [w4_noNames_l2]
    refine br_f (nI_ge (b := 10) hi (by omega)) ⟨by rw [mN_62]; exact vp_in_nI (by omega) (by omega), fun M3 e3 v hv => ?_⟩
    subst hv
    rw [nI_1]
    rw [nI_clamp (by omega)] at e3
    refine ih M3 (by rw [e3]; exact g1) (by rw [e3]; exact g2) (fun j hj => ?_)
    rw [e3, mb_sb, if_pos rfl]
    by_cases q : j = i
    · subst q; exact pk_uLs
    · rw [pk_uLn q]; exact g3 j (by omega)
