theorem v0_10 : vp_in (0 : Int32) 10 := vp_in_nI (n := 0) (by omega) (by omega)
theorem cl_0 : (0 : Int32).toNatClampNeg = 0 := nI_clamp (n := 0) (by omega)
theorem v1_10 : vp_in (1 : Int32) 10 := vp_in_nI (n := 1) (by omega) (by omega)
theorem cl_1 : (1 : Int32).toNatClampNeg = 1 := nI_clamp (n := 1) (by omega)
theorem v2_10 : vp_in (2 : Int32) 10 := vp_in_nI (n := 2) (by omega) (by omega)
theorem cl_2 : (2 : Int32).toNatClampNeg = 2 := nI_clamp (n := 2) (by omega)
theorem v3_10 : vp_in (3 : Int32) 10 := vp_in_nI (n := 3) (by omega) (by omega)
theorem cl_3 : (3 : Int32).toNatClampNeg = 3 := nI_clamp (n := 3) (by omega)
theorem v4_10 : vp_in (4 : Int32) 10 := vp_in_nI (n := 4) (by omega) (by omega)
theorem cl_4 : (4 : Int32).toNatClampNeg = 4 := nI_clamp (n := 4) (by omega)
theorem v5_10 : vp_in (5 : Int32) 10 := vp_in_nI (n := 5) (by omega) (by omega)
theorem cl_5 : (5 : Int32).toNatClampNeg = 5 := nI_clamp (n := 5) (by omega)
theorem v6_10 : vp_in (6 : Int32) 10 := vp_in_nI (n := 6) (by omega) (by omega)
theorem cl_6 : (6 : Int32).toNatClampNeg = 6 := nI_clamp (n := 6) (by omega)
theorem v7_10 : vp_in (7 : Int32) 10 := vp_in_nI (n := 7) (by omega) (by omega)
theorem cl_7 : (7 : Int32).toNatClampNeg = 7 := nI_clamp (n := 7) (by omega)
theorem v8_10 : vp_in (8 : Int32) 10 := vp_in_nI (n := 8) (by omega) (by omega)
theorem cl_8 : (8 : Int32).toNatClampNeg = 8 := nI_clamp (n := 8) (by omega)
theorem v9_10 : vp_in (9 : Int32) 10 := vp_in_nI (n := 9) (by omega) (by omega)
theorem cl_9 : (9 : Int32).toNatClampNeg = 9 := nI_clamp (n := 9) (by omega)
def offN (K : Ka) (t : Nat) (u : Int32) : Int32 := if 0 ≤ loff K t u - K.begins t + 1 then loff K t u - K.begins t + 1 else 0
def aB (K : Ka) (t k : Nat) : Bool := ak K t k && decide (0 ≤ K.value k)
def lawN (K : Ka) (k : Nat) (j : Nat) : Int64 := if j = 0 then (K.age (K.who k)).toInt64 else if j = 1 then (K.hour k - K.begins (K.who k)).toInt64 else if j = 2 then (offN K (K.who k) (K.hour k)).toInt64 else if j = 3 then lN (cnt (ak K (K.who k)) k) else if j = 4 then lN (cnt (aB K (K.who k)) k) else 0
def clampJ (v : Int64) : Int32 := if (0 : Int64) ≤ v then (if v ≤ (100 : Int64) then v.toInt32 else 100) else 0
def lawI (K : Ka) (k : Nat) : Int32 := if K.first 0 < K.last 0 then (match wv K (lawN K k) (K.last 0 - 1) with | some v => clampJ v | none => 50) else 50
def aLaw (K : Ka) (a : Int32) : Int32 := match ix a K.nK with | none => -1 | some k => if hw K k then lawI K k else -1
theorem p4_offUpTo {M : MS} {K : Ka} {Post : Int32 → MS → Prop} (hO : KO K) (hM : MK M K) {t : Nat} {u : Int32} (ht : t < K.nL) (h : Post (offN K t u) M) : w4_offUpTo (nI t) u M Post := by
  have h9T := hO.nT; have h9L := hO.nL; have h9K := hO.nK; have h9P := hO.nP
  refine p4_latestOff hO hM ht ?_
  simp (disch := omega) only [nI_lt0, nI_clamp, vp_inT, nI_eq, imp_FT, imp_TF, true_and, and_true, mN_0, mN_3, mN_21, mN_22, mN_23, mN_24, mN_25, mN_26, mN_27, mN_28, mN_29, mN_30, mN_31, mN_32, mN_33, mN_34, mN_35, mN_36, mN_37, mN_38, mN_39, mN_40, mN_41, mN_42, mN_43, mN_50, mN_51, mN_60, mN_61, mN_62, mN_63, hM.nT, hM.nL, hM.nK, hM.nP, hM.knots, hM.told, hM.heard, hM.were, hM.truth, hM.isThere, hM.isNot, hM.fed, hM.fKind, hM.fPlace, hM.tName, hM.ways, hM.isSo, hM.paper, hM.police, hM.lName, hM.age, hM.begins, hM.ends, hM.taped, hM.isW, hM.who, hM.hour, hM.thing, hM.value, hM.pWho, hM.pThing, hM.pValue, hM.first, hM.last, hM.knot, hM.kP, hM.kO, hM.byte, forall_eq]
  unfold offN at h
  refine br_c (fun c => ?_) (fun c => ?_)
  · rw [if_pos c] at h; exact h
  · rw [if_neg c] at h; exact h
theorem lt10 {P : Nat → Prop} (h0 : P 0) (h1 : P 1) (h2 : P 2) (h3 : P 3) (h4 : P 4) (h5 : P 5) (h6 : P 6) (h7 : P 7) (h8 : P 8) (h9 : P 9) (j : Nat) (hj : j < 10) : P j := by
  have : j = 0 ∨ j = 1 ∨ j = 2 ∨ j = 3 ∨ j = 4 ∨ j = 5 ∨ j = 6 ∨ j = 7 ∨ j = 8 ∨ j = 9 := by omega
  rcases this with rfl | rfl | rfl | rfl | rfl | rfl | rfl | rfl | rfl | rfl <;> assumption
theorem uL_if (f : Nat → Int64) (k : Nat) (x : Int64) (j : Nat) : vp_updL f k x j = if j = k then x else f j := rfl
theorem mb_sb_s (M : MS) (k i : Nat) (v : Int64) : mb (sb M k i v) k = vp_updL (mb M k) i v := by rw [mb_sb, if_pos rfl]
theorem v62 {n : Nat} (h : n < 10) : vp_in (nI n) 10 = True := eq_true (vp_in_nI h (by decide))
theorem v62_1 : vp_in (1 : Int32) 10 = True := v62 (n := 1) (by decide)
theorem v62_2 : vp_in (2 : Int32) 10 = True := v62 (n := 2) (by decide)
theorem v62_3 : vp_in (3 : Int32) 10 = True := v62 (n := 3) (by decide)
theorem v62_4 : vp_in (4 : Int32) 10 = True := v62 (n := 4) (by decide)
theorem v62_5 : vp_in (5 : Int32) 10 = True := v62 (n := 5) (by decide)
theorem v62_6 : vp_in (6 : Int32) 10 = True := v62 (n := 6) (by decide)
theorem v62_7 : vp_in (7 : Int32) 10 = True := v62 (n := 7) (by decide)
theorem v62_8 : vp_in (8 : Int32) 10 = True := v62 (n := 8) (by decide)
theorem v62_9 : vp_in (9 : Int32) 10 = True := v62 (n := 9) (by decide)
def lwN (K : Ka) (k i j : Nat) : Int64 := if j = 3 then lN (cnt (ak K (K.who k)) i) else if j = 4 then lN (cnt (aB K (K.who k)) i) else lawN K k j
theorem p4_law_end {M2 : MS} {K : Ka} {Post : Int32 → MS → Prop} (hO : KO K) {k : Nat} (c' : K.first 0 < K.last 0) (p1 : MK M2 K) (p3 : ∀ j, j < 10 → mb M2 62 j = lawN K k j) (h : ∀ M', MK M' K → ml M' = ml M2 → Post (lawI K k) M') : w4_sumOf (nI 0) M2 (fun r_12 M_11 => ((mi M_11 64) = 0 → (((0 : Int64) ≤ r_12 → ((r_12 ≤ (100 : Int64) → (Post r_12.toInt32 M_11)) ∧ (¬ (r_12 ≤ (100 : Int64)) → (Post (100) M_11)))) ∧ (¬ ((0 : Int64) ≤ r_12) → (Post (0) M_11)))) ∧ (¬ ((mi M_11 64) = 0) → (Post (50) M_11))) := by
  have en : wv K (mb M2 62) (K.last 0 - 1) = wv K (lawN K k) (K.last 0 - 1) := ev_congr hO p3 (e := 0) (by decide) _ _ (by omega) (by omega)
  refine p4_sumOf (e := 0) hO p1 (by decide) c' (fun r M' m1 m2 m3 m4 m5 => ?_)
  have h := h M' m1 m3
  rw [lawI, if_pos c', ← en] at h
  refine br_c (fun g => ?_) (fun g => ?_)
  · rw [m4 g] at h
    unfold clampJ at h
    refine br_c (fun j => br_c (fun l => ?_) (fun l => ?_)) (fun j => ?_)
    · simp only [j, l, if_true] at h; exact h
    · simp only [j, l, if_true, if_false] at h; exact h
    · simp only [j, if_false] at h; exact h
  · rw [m5 g] at h
    exact h
theorem p4_law_loop {M9 : MS} {K : Ka} {Post : Int32 → MS → Prop} (hO : KO K) {k : Nat} (hk : k < K.nK) (c' : K.first 0 < K.last 0) (m9 : MK M9 K) (n9 : ∀ j, j < 10 → mb M9 62 j = lwN K k 0 j) (h : ∀ M', MK M' K → ml M' = ml M9 → Post (lawI K k) M') : ∃ f, w4_lawAt_l63 (nI k) Post f (nI (K.who k)) 0 M9 := by
  have h9T := hO.nT; have h9L := hO.nL; have h9K := hO.nK; have h9P := hO.nP; have h9w := hO.who k hk
  refine upL (W := fun f i => ∀ M2 : MS, MK M2 K → ml M2 = ml M9 → (∀ j, j < 10 → mb M2 62 j = lwN K k i j) → w4_lawAt_l63 (nI k) Post f (nI (K.who k)) (nI i) M2) (e := k) ?_ ?_ |>.imp (fun f h => h M9 m9 rfl n9)
  · intro n M2 p1 p2 p3
    rw [w4_lawAt_l63]
    refine br_t (Int32.le_refl _) (p4_law_end hO c' p1 (lt10 ?_ ?_ ?_ ?_ ?_ ?_ ?_ ?_ ?_ ?_) (fun M' m1 m2 => h M' m1 (m2.trans p2))) <;> simp [p3, lwN, lawN]
  · intro n i hi ih M2 p1 p2 p3
    rw [w4_lawAt_l63]
    refine br_f (nI_ge hi (by omega)) ?_
    have hM := p1
    simp only [w4_lawAt_c111, w4_lawAt_c113, forall_eq, nI_1]
    refine p4_asks hO p1 (by omega) h9w (bz (fun b => ?_) (fun b => ?_))
    · refine ih M2 p1 p2 (fun j hj => ?_)
      rw [p3 j hj]
      simp [lwN, cnt, aB, b]
    · simp (disch := omega) only [nI_lt0, nI_clamp, vp_inT, nI_eq, imp_FT, imp_TF, true_and, and_true, mN_0, mN_3, mN_21, mN_22, mN_23, mN_24, mN_25, mN_26, mN_27, mN_28, mN_29, mN_30, mN_31, mN_32, mN_33, mN_34, mN_35, mN_36, mN_37, mN_38, mN_39, mN_40, mN_41, mN_42, mN_43, mN_50, mN_51, mN_60, mN_61, mN_62, mN_63, hM.nT, hM.nL, hM.nK, hM.nP, hM.knots, hM.told, hM.heard, hM.were, hM.truth, hM.isThere, hM.isNot, hM.fed, hM.fKind, hM.fPlace, hM.tName, hM.ways, hM.isSo, hM.paper, hM.police, hM.lName, hM.age, hM.begins, hM.ends, hM.taped, hM.isW, hM.who, hM.hour, hM.thing, hM.value, hM.pWho, hM.pThing, hM.pValue, hM.first, hM.last, hM.knot, hM.kP, hM.kO, hM.byte, ma_sb, v62_3, v62_4, cl_3, cl_4]
      refine br_c (fun g => ?_) (fun g => ?_)
      · refine ih _ p1 p2 (lt10 ?_ ?_ ?_ ?_ ?_ ?_ ?_ ?_ ?_ ?_) <;> simp [mb_sb_s, uL_if, p3, lwN, lawN, cnt, aB, b, Int32.not_le.mpr g, lN_1]
      · refine ih _ p1 p2 (lt10 ?_ ?_ ?_ ?_ ?_ ?_ ?_ ?_ ?_ ?_) <;> simp [mb_sb_s, uL_if, p3, lwN, lawN, cnt, aB, b, Int32.not_lt.mp g, lN_1]
theorem p4_lawAt {M : MS} {K : Ka} {Post : Int32 → MS → Prop} (hO : KO K) (hM : MK M K) {k : Nat} (hk : k < K.nK) (h : ∀ M', MK M' K → ml M' = ml M → Post (lawI K k) M') : w4_lawAt (nI k) M Post := by
  have h9T := hO.nT; have h9L := hO.nL; have h9K := hO.nK; have h9P := hO.nP; have h9w := hO.who k hk
  refine p4_hasLine (e := 0) hO hM (by decide) (bz (fun c => ?_) (fun c => ?_))
  · have h := h M hM rfl
    rw [lawI, if_neg (by simpa using c)] at h
    exact h
  · have c' : K.first 0 < K.last 0 := by simpa using c
    simp (disch := omega) only [nI_lt0, nI_clamp, vp_inT, nI_eq, imp_FT, imp_TF, true_and, and_true, mN_0, mN_3, mN_21, mN_22, mN_23, mN_24, mN_25, mN_26, mN_27, mN_28, mN_29, mN_30, mN_31, mN_32, mN_33, mN_34, mN_35, mN_36, mN_37, mN_38, mN_39, mN_40, mN_41, mN_42, mN_43, mN_50, mN_51, mN_60, mN_61, mN_62, mN_63, hM.nT, hM.nL, hM.nK, hM.nP, hM.knots, hM.told, hM.heard, hM.were, hM.truth, hM.isThere, hM.isNot, hM.fed, hM.fKind, hM.fPlace, hM.tName, hM.ways, hM.isSo, hM.paper, hM.police, hM.lName, hM.age, hM.begins, hM.ends, hM.taped, hM.isW, hM.who, hM.hour, hM.thing, hM.value, hM.pWho, hM.pThing, hM.pValue, hM.first, hM.last, hM.knot, hM.kP, hM.kO, hM.byte, forall_eq]
    refine p4_noNames hO hM h9w (fun M5 g1 g2 g3 => ?_)
    replace hM := g1
    simp (disch := omega) only [nI_lt0, nI_clamp, vp_inT, nI_eq, imp_FT, imp_TF, true_and, and_true, mN_0, mN_3, mN_21, mN_22, mN_23, mN_24, mN_25, mN_26, mN_27, mN_28, mN_29, mN_30, mN_31, mN_32, mN_33, mN_34, mN_35, mN_36, mN_37, mN_38, mN_39, mN_40, mN_41, mN_42, mN_43, mN_50, mN_51, mN_60, mN_61, mN_62, mN_63, hM.nT, hM.nL, hM.nK, hM.nP, hM.knots, hM.told, hM.heard, hM.were, hM.truth, hM.isThere, hM.isNot, hM.fed, hM.fKind, hM.fPlace, hM.tName, hM.ways, hM.isSo, hM.paper, hM.police, hM.lName, hM.age, hM.begins, hM.ends, hM.taped, hM.isW, hM.who, hM.hour, hM.thing, hM.value, hM.pWho, hM.pThing, hM.pValue, hM.first, hM.last, hM.knot, hM.kP, hM.kO, hM.byte, v62_1, v62_2, cl_1, cl_2, ma_sb]
    refine p4_offUpTo hO ?_ h9w ?_
    · exact g1
    · refine p4_law_loop hO hk c' g1 (lt10 ?_ ?_ ?_ ?_ ?_ ?_ ?_ ?_ ?_ ?_) (fun M' m1 m2 => h M' m1 (m2.trans g2)) <;> simp [mb_sb_s, uL_if, g3, nm0, lwN, lawN, cnt, lN]
