theorem p1_fault {cA : Nat → ClassId} {x : Nat} {a : Ad} {V : VS} {K : Ka} {Post : Int32 → VS → Prop} (hO : KO K) (hH : HK cA x a V K) {b : Int32} (h : Post (aFault K b) V) : vX1_fault cA x b V Post := by
  unfold vX1_fault
  simp (disch := first | assumption | omega) only [nI_lt0, nI_clamp, vp_inT, nI_eq, imp_FT, imp_TF, true_and, and_true, bO_s, hH.x0, hH.x1, hH.x2, hH.x3, hH.x4, hH.x5, hH.x6, hH.x7, hH.x8, hH.x9, hH.x10, hH.x11, hH.x12, hH.x15, hH.x16, hH.x18, hH.x19, hH.x20, hH.vx, hH.c0, hH.c1, hH.c2, hH.c3, hH.c4, hH.c6, hH.vc, hH.vT, hH.vL, hH.vP, hH.vK, hH.t0, hH.t1, hH.t2, hH.t3, hH.t4, hH.vt, hH.l0, hH.l1, hH.l2, hH.l3, hH.l4, hH.vl, hH.p0, hH.p1, hH.p2, hH.vp, hH.k0, hH.w0, hH.k1, hH.w1, hH.k2, hH.w2, hH.k3, hH.w3, hH.k4, hH.w4, hH.k5, hH.w5, hH.q5, hH.vk, hH.vw, hH.sT, hH.sL, hH.sP, hH.sK, hH.gT, hH.gL, hH.gP, hH.gK]
  unfold aFault at h
  refine br_c (fun c => ?_) (fun c => br_c (fun d => ?_) (fun d => ?_))
  · rw [if_pos c] at h; exact h
  · rw [if_neg c, if_pos d] at h; exact h
  · rw [if_neg c, if_neg d] at h; exact h
theorem p1_thing {cA : Nat → ClassId} {x : Nat} {a : Ad} {V : VS} {K : Ka} {Post : Int32 → VS → Prop} (hO : KO K) (hH : HK cA x a V K) {v : Int32} (h : Post (fName K.tName K.nT v) V) : vX3_thing cA a.c v V Post := by
  have h9T := hO.nT; have h9L := hO.nL; have h9K := hO.nK; have h9P := hO.nP
  unfold vX3_thing
  refine upL (W := fun f i => anyB (fun k => decide (K.tName k = v)) i = false → vX3_thing_l2 cA a.c v Post f (nI i) V) (e := K.nT) ?_ ?_ |>.imp (fun f h => h rfl)
  · intro n ha
    rw [vX3_thing_l2]
    simp (disch := first | assumption | omega) only [nI_lt0, nI_clamp, vp_inT, nI_eq, imp_FT, imp_TF, true_and, and_true, bO_s, hH.x0, hH.x1, hH.x2, hH.x3, hH.x4, hH.x5, hH.x6, hH.x7, hH.x8, hH.x9, hH.x10, hH.x11, hH.x12, hH.x15, hH.x16, hH.x18, hH.x19, hH.x20, hH.vx, hH.c0, hH.c1, hH.c2, hH.c3, hH.c4, hH.c6, hH.vc, hH.vT, hH.vL, hH.vP, hH.vK, hH.t0, hH.t1, hH.t2, hH.t3, hH.t4, hH.vt, hH.l0, hH.l1, hH.l2, hH.l3, hH.l4, hH.vl, hH.p0, hH.p1, hH.p2, hH.vp, hH.k0, hH.w0, hH.k1, hH.w1, hH.k2, hH.w2, hH.k3, hH.w3, hH.k4, hH.w4, hH.k5, hH.w5, hH.q5, hH.vk, hH.vw, hH.sT, hH.sL, hH.sP, hH.sK, hH.gT, hH.gL, hH.gP, hH.gK]
    refine br_t (Int32.le_refl _) ?_
    rw [fName, firstI_no ha] at h
    exact h
  · intro n i hi ih ha
    rw [vX3_thing_l2]
    simp only [forall_eq, nI_1]
    simp (disch := first | assumption | omega) only [nI_lt0, nI_clamp, vp_inT, nI_eq, imp_FT, imp_TF, true_and, and_true, bO_s, hH.x0, hH.x1, hH.x2, hH.x3, hH.x4, hH.x5, hH.x6, hH.x7, hH.x8, hH.x9, hH.x10, hH.x11, hH.x12, hH.x15, hH.x16, hH.x18, hH.x19, hH.x20, hH.vx, hH.c0, hH.c1, hH.c2, hH.c3, hH.c4, hH.c6, hH.vc, hH.vT, hH.vL, hH.vP, hH.vK, hH.t0, hH.t1, hH.t2, hH.t3, hH.t4, hH.vt, hH.l0, hH.l1, hH.l2, hH.l3, hH.l4, hH.vl, hH.p0, hH.p1, hH.p2, hH.vp, hH.k0, hH.w0, hH.k1, hH.w1, hH.k2, hH.w2, hH.k3, hH.w3, hH.k4, hH.w4, hH.k5, hH.w5, hH.q5, hH.vk, hH.vw, hH.sT, hH.sL, hH.sP, hH.sK, hH.gT, hH.gL, hH.gP, hH.gK]
    refine br_f (nI_ge hi (by omega)) (br_c (fun c => ?_) (fun c => ?_))
    · rw [fName, firstI_at hi (by simp only [c, decide_true]) ha] at h
      exact h
    · exact ih (by simp only [anyB, ha, c, decide_false, Bool.or_false])
theorem p1_tellerN {cA : Nat → ClassId} {x : Nat} {a : Ad} {V : VS} {K : Ka} {Post : Int32 → VS → Prop} (hO : KO K) (hH : HK cA x a V K) {v : Int32} (h : Post (fName K.lName K.nL v) V) : vX3_teller cA a.c v V Post := by
  have h9T := hO.nT; have h9L := hO.nL; have h9K := hO.nK; have h9P := hO.nP
  unfold vX3_teller
  refine upL (W := fun f i => anyB (fun k => decide (K.lName k = v)) i = false → vX3_teller_l2 cA a.c v Post f (nI i) V) (e := K.nL) ?_ ?_ |>.imp (fun f h => h rfl)
  · intro n ha
    rw [vX3_teller_l2]
    simp (disch := first | assumption | omega) only [nI_lt0, nI_clamp, vp_inT, nI_eq, imp_FT, imp_TF, true_and, and_true, bO_s, hH.x0, hH.x1, hH.x2, hH.x3, hH.x4, hH.x5, hH.x6, hH.x7, hH.x8, hH.x9, hH.x10, hH.x11, hH.x12, hH.x15, hH.x16, hH.x18, hH.x19, hH.x20, hH.vx, hH.c0, hH.c1, hH.c2, hH.c3, hH.c4, hH.c6, hH.vc, hH.vT, hH.vL, hH.vP, hH.vK, hH.t0, hH.t1, hH.t2, hH.t3, hH.t4, hH.vt, hH.l0, hH.l1, hH.l2, hH.l3, hH.l4, hH.vl, hH.p0, hH.p1, hH.p2, hH.vp, hH.k0, hH.w0, hH.k1, hH.w1, hH.k2, hH.w2, hH.k3, hH.w3, hH.k4, hH.w4, hH.k5, hH.w5, hH.q5, hH.vk, hH.vw, hH.sT, hH.sL, hH.sP, hH.sK, hH.gT, hH.gL, hH.gP, hH.gK]
    refine br_t (Int32.le_refl _) ?_
    rw [fName, firstI_no ha] at h
    exact h
  · intro n i hi ih ha
    rw [vX3_teller_l2]
    simp only [forall_eq, nI_1]
    simp (disch := first | assumption | omega) only [nI_lt0, nI_clamp, vp_inT, nI_eq, imp_FT, imp_TF, true_and, and_true, bO_s, hH.x0, hH.x1, hH.x2, hH.x3, hH.x4, hH.x5, hH.x6, hH.x7, hH.x8, hH.x9, hH.x10, hH.x11, hH.x12, hH.x15, hH.x16, hH.x18, hH.x19, hH.x20, hH.vx, hH.c0, hH.c1, hH.c2, hH.c3, hH.c4, hH.c6, hH.vc, hH.vT, hH.vL, hH.vP, hH.vK, hH.t0, hH.t1, hH.t2, hH.t3, hH.t4, hH.vt, hH.l0, hH.l1, hH.l2, hH.l3, hH.l4, hH.vl, hH.p0, hH.p1, hH.p2, hH.vp, hH.k0, hH.w0, hH.k1, hH.w1, hH.k2, hH.w2, hH.k3, hH.w3, hH.k4, hH.w4, hH.k5, hH.w5, hH.q5, hH.vk, hH.vw, hH.sT, hH.sL, hH.sP, hH.sK, hH.gT, hH.gL, hH.gP, hH.gK]
    refine br_f (nI_ge hi (by omega)) (br_c (fun c => ?_) (fun c => ?_))
    · rw [fName, firstI_at hi (by simp only [c, decide_true]) ha] at h
      exact h
    · exact ih (by simp only [anyB, ha, c, decide_false, Bool.or_false])
theorem p1_named {cA : Nat → ClassId} {x : Nat} {a : Ad} {V : VS} {K : Ka} {Post : Int32 → VS → Prop} (hO : KO K) (hH : HK cA x a V K) {b d : Int32} (h : Post (aNamed K b d) V) : vX1_named cA x b d V Post := by
  unfold vX1_named
  simp (disch := first | assumption | omega) only [nI_lt0, nI_clamp, vp_inT, nI_eq, imp_FT, imp_TF, true_and, and_true, bO_s, hH.x0, hH.x1, hH.x2, hH.x3, hH.x4, hH.x5, hH.x6, hH.x7, hH.x8, hH.x9, hH.x10, hH.x11, hH.x12, hH.x15, hH.x16, hH.x18, hH.x19, hH.x20, hH.vx, hH.c0, hH.c1, hH.c2, hH.c3, hH.c4, hH.c6, hH.vc, hH.vT, hH.vL, hH.vP, hH.vK, hH.t0, hH.t1, hH.t2, hH.t3, hH.t4, hH.vt, hH.l0, hH.l1, hH.l2, hH.l3, hH.l4, hH.vl, hH.p0, hH.p1, hH.p2, hH.vp, hH.k0, hH.w0, hH.k1, hH.w1, hH.k2, hH.w2, hH.k3, hH.w3, hH.k4, hH.w4, hH.k5, hH.w5, hH.q5, hH.vk, hH.vw, hH.sT, hH.sL, hH.sP, hH.sK, hH.gT, hH.gL, hH.gP, hH.gK]
  unfold aNamed at h
  refine br_c (fun c => p1_thing hO hH ?_) (fun c => br_c (fun g => p1_tellerN hO hH ?_) (fun g => ?_))
  · rw [if_pos c] at h; exact h
  · rw [if_neg c, if_pos g] at h; exact h
  · rw [if_neg c, if_neg g] at h; exact h
theorem in_03 {d : Int32} {hi : Nat} (hh : hi < 2 ^ 31) (h1 : 0 ≤ d) (h2 : d ≤ nI hi) : ∃ j : Nat, j ≤ hi ∧ d = nI j := by
  obtain ⟨j, hj, rfl⟩ := nI_of (Int32.not_lt.mpr h1)
  exact ⟨j, (nI_leI hj hh).mp h2, rfl⟩
theorem p1_teller {cA : Nat → ClassId} {x : Nat} {a : Ad} {V : VS} {K : Ka} {Post : Int32 → VS → Prop} (hO : KO K) (hH : HK cA x a V K) {b d : Int32} (h : Post (aTeller K b d) V) : vX1_teller cA x b d V Post := by
  have h9T := hO.nT; have h9L := hO.nL; have h9K := hO.nK; have h9P := hO.nP
  unfold vX1_teller
  simp (disch := first | assumption | omega) only [nI_lt0, nI_clamp, vp_inT, nI_eq, imp_FT, imp_TF, true_and, and_true, bO_s, hH.x0, hH.x1, hH.x2, hH.x3, hH.x4, hH.x5, hH.x6, hH.x7, hH.x8, hH.x9, hH.x10, hH.x11, hH.x12, hH.x15, hH.x16, hH.x18, hH.x19, hH.x20, hH.vx, hH.c0, hH.c1, hH.c2, hH.c3, hH.c4, hH.c6, hH.vc, hH.vT, hH.vL, hH.vP, hH.vK, hH.t0, hH.t1, hH.t2, hH.t3, hH.t4, hH.vt, hH.l0, hH.l1, hH.l2, hH.l3, hH.l4, hH.vl, hH.p0, hH.p1, hH.p2, hH.vp, hH.k0, hH.w0, hH.k1, hH.w1, hH.k2, hH.w2, hH.k3, hH.w3, hH.k4, hH.w4, hH.k5, hH.w5, hH.q5, hH.vk, hH.vw, hH.sT, hH.sL, hH.sP, hH.sK, hH.gT, hH.gL, hH.gP, hH.gK]
  unfold aTeller at h
  refine p1_isTeller hO hH (fun t e ht hb => br_f (by decide) ?_) (fun e => br_t rfl ?_)
  · rw [e] at h
    subst hb
    dsimp only at h
    simp (disch := first | assumption | omega) only [nI_lt0, nI_clamp, vp_inT, nI_eq, imp_FT, imp_TF, true_and, and_true, bO_s, hH.x0, hH.x1, hH.x2, hH.x3, hH.x4, hH.x5, hH.x6, hH.x7, hH.x8, hH.x9, hH.x10, hH.x11, hH.x12, hH.x15, hH.x16, hH.x18, hH.x19, hH.x20, hH.vx, hH.c0, hH.c1, hH.c2, hH.c3, hH.c4, hH.c6, hH.vc, hH.vT, hH.vL, hH.vP, hH.vK, hH.t0, hH.t1, hH.t2, hH.t3, hH.t4, hH.vt, hH.l0, hH.l1, hH.l2, hH.l3, hH.l4, hH.vl, hH.p0, hH.p1, hH.p2, hH.vp, hH.k0, hH.w0, hH.k1, hH.w1, hH.k2, hH.w2, hH.k3, hH.w3, hH.k4, hH.w4, hH.k5, hH.w5, hH.q5, hH.vk, hH.vw, hH.sT, hH.sL, hH.sP, hH.sK, hH.gT, hH.gL, hH.gP, hH.gK]
    refine p1_in (bz (fun c => ?_) (fun c => br_c (fun g0 => ?_) (fun g0 => br_c (fun g1 => ?_) (fun g1 => br_c (fun g2 => ?_) (fun g2 => ?_)))))
    · rw [Bool.and_eq_false_iff, decide_eq_false_iff_not, decide_eq_false_iff_not] at c
      rw [if_neg (fun q => by subst q; exact c.elim (fun c => c (by decide)) (fun c => c (by decide))), if_neg (fun q => by subst q; exact c.elim (fun c => c (by decide)) (fun c => c (by decide))), if_neg (fun q => by subst q; exact c.elim (fun c => c (by decide)) (fun c => c (by decide))), if_neg (fun q => by subst q; exact c.elim (fun c => c (by decide)) (fun c => c (by decide)))] at h
      exact h
    · rw [if_pos g0] at h; exact h
    · rw [if_neg g0, if_pos g1] at h; exact h
    · rw [if_neg g0, if_neg g1, if_pos g2] at h; exact h
    · rw [Bool.and_eq_true_iff, decide_eq_true_iff, decide_eq_true_iff] at c
      obtain ⟨j, j1, rfl⟩ := in_03 (hi := 3) (by decide) c.1 c.2
      have : j = 0 ∨ j = 1 ∨ j = 2 ∨ j = 3 := by omega
      rcases this with rfl | rfl | rfl | rfl
      · exact absurd rfl g0
      · exact absurd rfl g1
      · exact absurd rfl g2
      · exact h
  · rw [e] at h
    exact h
theorem p1_line {cA : Nat → ClassId} {x : Nat} {a : Ad} {V : VS} {K : Ka} {Post : Int32 → VS → Prop} (hO : KO K) (hH : HK cA x a V K) {b d : Int32} (h : Post (aLine K b d) V) : vX1_line cA x b d V Post := by
  have h9T := hO.nT; have h9L := hO.nL; have h9K := hO.nK; have h9P := hO.nP
  unfold vX1_line
  simp (disch := first | assumption | omega) only [nI_lt0, nI_clamp, vp_inT, nI_eq, imp_FT, imp_TF, true_and, and_true, bO_s, hH.x0, hH.x1, hH.x2, hH.x3, hH.x4, hH.x5, hH.x6, hH.x7, hH.x8, hH.x9, hH.x10, hH.x11, hH.x12, hH.x15, hH.x16, hH.x18, hH.x19, hH.x20, hH.vx, hH.c0, hH.c1, hH.c2, hH.c3, hH.c4, hH.c6, hH.vc, hH.vT, hH.vL, hH.vP, hH.vK, hH.t0, hH.t1, hH.t2, hH.t3, hH.t4, hH.vt, hH.l0, hH.l1, hH.l2, hH.l3, hH.l4, hH.vl, hH.p0, hH.p1, hH.p2, hH.vp, hH.k0, hH.w0, hH.k1, hH.w1, hH.k2, hH.w2, hH.k3, hH.w3, hH.k4, hH.w4, hH.k5, hH.w5, hH.q5, hH.vk, hH.vw, hH.sT, hH.sL, hH.sP, hH.sK, hH.gT, hH.gL, hH.gP, hH.gK]
  unfold aLine at h
  refine p1_isHeardX hO hH (fun k e hk hb => bz (fun q => ?_) (fun q => ?_)) (fun e => br_t rfl ?_)
  · rw [e] at h
    simp only [q, if_false, Bool.false_eq_true] at h
    exact h
  · rw [e] at h
    subst hb
    simp only [q, if_true] at h
    simp (disch := first | assumption | omega) only [nI_lt0, nI_clamp, vp_inT, nI_eq, imp_FT, imp_TF, true_and, and_true, bO_s, hH.x0, hH.x1, hH.x2, hH.x3, hH.x4, hH.x5, hH.x6, hH.x7, hH.x8, hH.x9, hH.x10, hH.x11, hH.x12, hH.x15, hH.x16, hH.x18, hH.x19, hH.x20, hH.vx, hH.c0, hH.c1, hH.c2, hH.c3, hH.c4, hH.c6, hH.vc, hH.vT, hH.vL, hH.vP, hH.vK, hH.t0, hH.t1, hH.t2, hH.t3, hH.t4, hH.vt, hH.l0, hH.l1, hH.l2, hH.l3, hH.l4, hH.vl, hH.p0, hH.p1, hH.p2, hH.vp, hH.k0, hH.w0, hH.k1, hH.w1, hH.k2, hH.w2, hH.k3, hH.w3, hH.k4, hH.w4, hH.k5, hH.w5, hH.q5, hH.vk, hH.vw, hH.sT, hH.sL, hH.sP, hH.sK, hH.gT, hH.gL, hH.gP, hH.gK]
    refine p1_in (bz (fun c => ?_) (fun c => ?_))
    · rw [Bool.and_eq_false_iff, decide_eq_false_iff_not, decide_eq_false_iff_not] at c
      have n : ∀ z : Int32, 0 ≤ z → z ≤ 4 → ¬ d = z := fun z z1 z2 q => by subst q; exact c.elim (fun c => c z1) (fun c => c z2)
      rw [if_neg (n 0 (by decide) (by decide)), if_neg (n 1 (by decide) (by decide)), if_neg (n 2 (by decide) (by decide)), if_neg (n 3 (by decide) (by decide)), if_neg (n 4 (by decide) (by decide))] at h
      exact h
    · rw [Bool.and_eq_true_iff, decide_eq_true_iff, decide_eq_true_iff] at c
      obtain ⟨j, j1, rfl⟩ := in_03 (hi := 4) (by decide) c.1 c.2
      have : j = 0 ∨ j = 1 ∨ j = 2 ∨ j = 3 ∨ j = 4 := by omega
      rcases this with rfl | rfl | rfl | rfl | rfl
      · refine br_t rfl (fun K8 e8 => p1_isWord hH hk ?_)
        rw [if_pos (show nI 0 = 0 from rfl)] at h
        rw [e8]
        exact bz (fun g => by rw [g] at h; exact h) (fun g => by rw [g] at h; exact h)
      · exact br_f (by decide) (br_t rfl h)
      · exact br_f (by decide) (br_f (by decide) (br_t rfl h))
      · exact br_f (by decide) (br_f (by decide) (br_f (by decide) (br_t rfl h)))
      · exact br_f (by decide) (br_f (by decide) (br_f (by decide) (br_f (by decide) h)))
  · rw [e] at h
    exact h
theorem p1_heardMany {cA : Nat → ClassId} {x : Nat} {a : Ad} {V : VS} {K : Ka} {Post : Int32 → VS → Prop} (hO : KO K) (hH : HK cA x a V K) (h : Post (nI (cnt (hh K) K.nK)) V) : ∃ f, vX1_count_l83 cA x 3 Post f 0 0 V := by
  have h9T := hO.nT; have h9L := hO.nL; have h9K := hO.nK; have h9P := hO.nP
  refine upL (W := fun f i => vX1_count_l83 cA x 3 Post f (nI (cnt (hh K) i)) (nI i) V) (e := K.nK) ?_ ?_
  · intro n
    rw [vX1_count_l83]
    simp (disch := first | assumption | omega) only [nI_lt0, nI_clamp, vp_inT, nI_eq, imp_FT, imp_TF, true_and, and_true, bO_s, hH.x0, hH.x1, hH.x2, hH.x3, hH.x4, hH.x5, hH.x6, hH.x7, hH.x8, hH.x9, hH.x10, hH.x11, hH.x12, hH.x15, hH.x16, hH.x18, hH.x19, hH.x20, hH.vx, hH.c0, hH.c1, hH.c2, hH.c3, hH.c4, hH.c6, hH.vc, hH.vT, hH.vL, hH.vP, hH.vK, hH.t0, hH.t1, hH.t2, hH.t3, hH.t4, hH.vt, hH.l0, hH.l1, hH.l2, hH.l3, hH.l4, hH.vl, hH.p0, hH.p1, hH.p2, hH.vp, hH.k0, hH.w0, hH.k1, hH.w1, hH.k2, hH.w2, hH.k3, hH.w3, hH.k4, hH.w4, hH.k5, hH.w5, hH.q5, hH.vk, hH.vw, hH.sT, hH.sL, hH.sP, hH.sK, hH.gT, hH.gL, hH.gP, hH.gK]
    exact br_t (Int32.le_refl _) h
  · intro n i hi ih
    rw [vX1_count_l83]
    simp only [vX1_count_c111, forall_eq, nI_1, Int32.add_zero]
    simp (disch := first | assumption | omega) only [nI_lt0, nI_clamp, vp_inT, nI_eq, imp_FT, imp_TF, true_and, and_true, bO_s, hH.x0, hH.x1, hH.x2, hH.x3, hH.x4, hH.x5, hH.x6, hH.x7, hH.x8, hH.x9, hH.x10, hH.x11, hH.x12, hH.x15, hH.x16, hH.x18, hH.x19, hH.x20, hH.vx, hH.c0, hH.c1, hH.c2, hH.c3, hH.c4, hH.c6, hH.vc, hH.vT, hH.vL, hH.vP, hH.vK, hH.t0, hH.t1, hH.t2, hH.t3, hH.t4, hH.vt, hH.l0, hH.l1, hH.l2, hH.l3, hH.l4, hH.vl, hH.p0, hH.p1, hH.p2, hH.vp, hH.k0, hH.w0, hH.k1, hH.w1, hH.k2, hH.w2, hH.k3, hH.w3, hH.k4, hH.w4, hH.k5, hH.w5, hH.q5, hH.vk, hH.vw, hH.sT, hH.sL, hH.sP, hH.sK, hH.gT, hH.gL, hH.gP, hH.gK]
    refine br_f (nI_ge hi (by omega)) (p1_isHeardX hO hH (fun k e hk hb => ?_) (fun e => absurd e (by rw [ix_nI hi (by omega)]; simp)))
    rw [ix_nI hi (by omega)] at e
    cases e
    refine bz (fun c => ?_) (fun c => ?_)
    · (simp only [Bool.false_and, Bool.true_and, Bool.and_false, Bool.and_true, Bool.false_or, Bool.true_or, Bool.or_false, Bool.or_true, Bool.not_true, Bool.not_false, bI_t, bI_f, if_true, if_false, beq_self_eq_true, decide_true, decide_false, reduceCtorEq, Bool.false_eq_true, cnt, c] at ih; exact ih)
    · (simp only [Bool.false_and, Bool.true_and, Bool.and_false, Bool.and_true, Bool.false_or, Bool.true_or, Bool.or_false, Bool.or_true, Bool.not_true, Bool.not_false, bI_t, bI_f, if_true, if_false, beq_self_eq_true, decide_true, decide_false, reduceCtorEq, Bool.false_eq_true, cnt, c] at ih; exact ih)
theorem p1_count {cA : Nat → ClassId} {x : Nat} {a : Ad} {V : VS} {K : Ka} {Post : Int32 → VS → Prop} (hO : KO K) (hH : HK cA x a V K) {b : Int32} (h : Post (aCount K b) V) : vX1_count cA x b V Post := by
  unfold vX1_count
  simp (disch := first | assumption | omega) only [nI_lt0, nI_clamp, vp_inT, nI_eq, imp_FT, imp_TF, true_and, and_true, bO_s, hH.x0, hH.x1, hH.x2, hH.x3, hH.x4, hH.x5, hH.x6, hH.x7, hH.x8, hH.x9, hH.x10, hH.x11, hH.x12, hH.x15, hH.x16, hH.x18, hH.x19, hH.x20, hH.vx, hH.c0, hH.c1, hH.c2, hH.c3, hH.c4, hH.c6, hH.vc, hH.vT, hH.vL, hH.vP, hH.vK, hH.t0, hH.t1, hH.t2, hH.t3, hH.t4, hH.vt, hH.l0, hH.l1, hH.l2, hH.l3, hH.l4, hH.vl, hH.p0, hH.p1, hH.p2, hH.vp, hH.k0, hH.w0, hH.k1, hH.w1, hH.k2, hH.w2, hH.k3, hH.w3, hH.k4, hH.w4, hH.k5, hH.w5, hH.q5, hH.vk, hH.vw, hH.sT, hH.sL, hH.sP, hH.sK, hH.gT, hH.gL, hH.gP, hH.gK]
  unfold aCount at h
  refine br_c (fun c => ?_) (fun c => ?_)
  · rw [if_pos c] at h; exact h
  rw [if_neg c] at h; clear c
  refine br_c (fun c => ?_) (fun c => ?_)
  · rw [if_pos c] at h; exact h
  rw [if_neg c] at h; clear c
  refine br_c (fun c => ?_) (fun c => ?_)
  · rw [if_pos c] at h; exact h
  rw [if_neg c] at h; clear c
  refine br_c (fun c => ?_) (fun c => ?_)
  · rw [if_pos c] at h; subst c; exact p1_heardMany hO hH h
  rw [if_neg c] at h; clear c
  refine br_c (fun c => ?_) (fun c => ?_)
  · rw [if_pos c] at h; exact h
  rw [if_neg c] at h; clear c
  refine br_c (fun c => ?_) (fun c => ?_)
  · rw [if_pos c] at h; exact h
  rw [if_neg c] at h; clear c
  refine br_c (fun c => ?_) (fun c => ?_)
  · rw [if_pos c] at h; exact h
  rw [if_neg c] at h; clear c
  refine br_c (fun c => ?_) (fun c => ?_)
  · rw [if_pos c] at h; exact h
  rw [if_neg c] at h; exact h
