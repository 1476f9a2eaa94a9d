theorem p1_firstPage {cA : Nat → ClassId} {x : Nat} {a : Ad} {V : VS} {K : Ka} {Post : Option Nat → VS → Prop} (hO : KO K) (hH : HK cA x a V K) {t y : Nat} (ht : t < K.nL) (hy : y < K.nT) (hs : ∀ k, k < K.nP → (K.pWho k == t && K.pThing k == y) = true → anyB (fun i => K.pWho i == t && K.pThing i == y) k = false → Post (some (a.p k)) V) (hn : anyB (fun i => K.pWho i == t && K.pThing i == y) K.nP = false → Post none V) : vX1_firstPage cA x (nI t) (nI y) V Post := by
  have h9T := hO.nT; have h9L := hO.nL; have h9K := hO.nK; have h9P := hO.nP
  unfold vX1_firstPage
  refine upL (W := fun f i => anyB (fun i => K.pWho i == t && K.pThing i == y) i = false → vX1_firstPage_l2 cA x (nI t) (nI y) Post f (nI i) V) (e := K.nP) ?_ ?_ |>.imp (fun f h => h rfl)
  · intro n ha
    rw [vX1_firstPage_l2]
    simp (disch := first | assumption | omega) only [nI_lt0, nI_clamp, vp_inT, nI_eq, imp_FT, imp_TF, true_and, and_true, bO_s, hH.x0, hH.x1, hH.x2, hH.x3, hH.x4, hH.x5, hH.x6, hH.x7, hH.x8, hH.x9, hH.x10, hH.x11, hH.x12, hH.x15, hH.x16, hH.x18, hH.x19, hH.x20, hH.vx, hH.c0, hH.c1, hH.c2, hH.c3, hH.c4, hH.c6, hH.vc, hH.vT, hH.vL, hH.vP, hH.vK, hH.t0, hH.t1, hH.t2, hH.t3, hH.t4, hH.vt, hH.l0, hH.l1, hH.l2, hH.l3, hH.l4, hH.vl, hH.p0, hH.p1, hH.p2, hH.vp, hH.k0, hH.w0, hH.k1, hH.w1, hH.k2, hH.w2, hH.k3, hH.w3, hH.k4, hH.w4, hH.k5, hH.w5, hH.q5, hH.vk, hH.vw, hH.sT, hH.sL, hH.sP, hH.sK, hH.gT, hH.gL, hH.gP, hH.gK]
    exact br_t (Int32.le_refl _) (hn ha)
  · intro n i hi ih ha
    rw [vX1_firstPage_l2]
    have h9w := hO.pWho i hi; have h9t := hO.pThing i hi
    simp only [vX1_firstPage_c73, forall_eq, nI_1]
    simp (disch := first | assumption | omega) only [nI_lt0, nI_clamp, vp_inT, nI_eq, imp_FT, imp_TF, true_and, and_true, bO_s, hH.x0, hH.x1, hH.x2, hH.x3, hH.x4, hH.x5, hH.x6, hH.x7, hH.x8, hH.x9, hH.x10, hH.x11, hH.x12, hH.x15, hH.x16, hH.x18, hH.x19, hH.x20, hH.vx, hH.c0, hH.c1, hH.c2, hH.c3, hH.c4, hH.c6, hH.vc, hH.vT, hH.vL, hH.vP, hH.vK, hH.t0, hH.t1, hH.t2, hH.t3, hH.t4, hH.vt, hH.l0, hH.l1, hH.l2, hH.l3, hH.l4, hH.vl, hH.p0, hH.p1, hH.p2, hH.vp, hH.k0, hH.w0, hH.k1, hH.w1, hH.k2, hH.w2, hH.k3, hH.w3, hH.k4, hH.w4, hH.k5, hH.w5, hH.q5, hH.vk, hH.vw, hH.sT, hH.sL, hH.sP, hH.sK, hH.gT, hH.gL, hH.gP, hH.gK]
    refine br_f (nI_ge hi (by omega)) (br_c (fun c => br_c (fun d => ?_) (fun d => ?_)) (fun c => ?_))
    · exact hs i hi (by simp only [c, d, beq_self_eq_true, Bool.and_true]) ha
    · exact ih (by simp only [anyB, ha, beq_eq_false_iff_ne.mpr d, Bool.and_false, Bool.or_false])
    · exact ih (by simp only [anyB, ha, beq_eq_false_iff_ne.mpr c, Bool.false_and, Bool.or_false])
/-- pages by things: which thing has a first line that is right, is wrong -/
def pyR (K : Ka) (t y : Nat) : Bool := anyB (fun k => pgR K t k && K.pThing k == y) K.nP
def pyQ (K : Ka) (t y : Nat) : Bool := anyB (fun k => pgQ K t k && K.pThing k == y) K.nP
theorem pgF_of {K : Ka} {t y k : Nat} (h1 : (K.pWho k == t && K.pThing k == y) = true) (h2 : anyB (fun i => K.pWho i == t && K.pThing i == y) k = false) : pgF K t k = true := by
  simp only [Bool.and_eq_true, beq_iff_eq] at h1
  unfold pgF fpg
  rw [show anyB (f1B K k) k = anyB (fun i => K.pWho i == t && K.pThing i == y) k from anyB_congr (fun i _ => by unfold f1B; rw [h1.1, h1.2]), h2, h1.1]
  simp
theorem pgF_only {K : Ka} {t y k i : Nat} (h1 : (K.pWho k == t && K.pThing k == y) = true) (hk : pgF K t k = true) (hi : pgF K t i = true) (hy : K.pThing i = y) : i = k := by
  simp only [Bool.and_eq_true, beq_iff_eq] at h1
  by_cases c : i < k
  · exact absurd (hy.trans h1.2.symm) (pgF_thing c hi hk)
  · by_cases d : k < i
    · exact absurd (hy.trans h1.2.symm) (fun e => pgF_thing d hk hi e.symm)
    · omega
theorem py_of {K : Ka} {t y k : Nat} (hk : k < K.nP) (h1 : (K.pWho k == t && K.pThing k == y) = true) (h2 : anyB (fun i => K.pWho i == t && K.pThing i == y) k = false) : pyR K t y = decide (K.pValue k = K.isSo y) ∧ pyQ K t y = !decide (K.pValue k = K.isSo y) := by
  have hF := pgF_of h1 h2
  have hy : K.pThing k = y := by simp only [Bool.and_eq_true, beq_iff_eq] at h1; exact h1.2
  constructor
  · unfold pyR
    cases e : decide (K.pValue k = K.isSo y) with
    | true => exact anyB_t k hk (by unfold pgR; rw [hF, hy, e]; simp)
    | false =>
      refine anyB_of (fun i hi => ?_)
      unfold pgR
      cases e1 : pgF K t i with
      | false => rfl
      | true =>
        by_cases c : K.pThing i = y
        · have := pgF_only h1 hF e1 c
          subst this
          rw [hy, e]
          rfl
        · rw [beq_eq_false_iff_ne.mpr c, Bool.and_false]
  · unfold pyQ
    cases e : decide (K.pValue k = K.isSo y) with
    | false => exact anyB_t k hk (by unfold pgQ; rw [hF, hy, e]; simp)
    | true =>
      refine anyB_of (fun i hi => ?_)
      unfold pgQ
      cases e1 : pgF K t i with
      | false => rfl
      | true =>
        by_cases c : K.pThing i = y
        · have := pgF_only h1 hF e1 c
          subst this
          rw [hy, e]
          rfl
        · rw [beq_eq_false_iff_ne.mpr c, Bool.and_false]
theorem py_no {K : Ka} {t y : Nat} (h2 : anyB (fun i => K.pWho i == t && K.pThing i == y) K.nP = false) : pyR K t y = false ∧ pyQ K t y = false := by
  have h := anyB_f h2
  constructor
  · refine anyB_of (fun i hi => ?_)
    have h3 := h i hi
    unfold pgR pgF
    revert h3
    cases K.pWho i == t <;> cases K.pThing i == y <;> simp
  · refine anyB_of (fun i hi => ?_)
    have h3 := h i hi
    unfold pgQ pgF
    revert h3
    cases K.pWho i == t <;> cases K.pThing i == y <;> simp
theorem pgR_swap {K : Ka} (hO : KO K) (t : Nat) : cnt (pgR K t) K.nP = cnt (pyR K t) K.nT :=
  cnt_swap (fun k hk _ => hO.pThing k hk) (fun i k hik _ h1 h2 => pgF_thing hik (by unfold pgR at h1; simp only [Bool.and_eq_true] at h1; exact h1.1) (by unfold pgR at h2; simp only [Bool.and_eq_true] at h2; exact h2.1))
theorem pgQ_swap {K : Ka} (hO : KO K) (t : Nat) : cnt (pgQ K t) K.nP = cnt (pyQ K t) K.nT :=
  cnt_swap (fun k hk _ => hO.pThing k hk) (fun i k hik _ h1 h2 => pgF_thing hik (by unfold pgQ at h1; simp only [Bool.and_eq_true] at h1; exact h1.1) (by unfold pgQ at h2; simp only [Bool.and_eq_true] at h2; exact h2.1))
def pgM (K : Ka) (t i m j : Nat) : Int64 := if j = 0 then (K.age t).toInt64 else if j = 5 then lN (cnt (pyR K t) i) else if j = 6 then lN (cnt (pyQ K t) i) else if j = 9 then lN (cnt (pgT K t) m) else 0
theorem pgM_N {K : Ka} (hO : KO K) (t j : Nat) : pgM K t K.nT K.nP j = pgN K t K.nP j := by
  unfold pgM pgN
  rw [pgR_swap hO, pgQ_swap hO]
theorem p1_hearPage {cA : Nat → ClassId} {x : Nat} {a : Ad} {V : VS} {K : Ka} {Post : VS → Prop} (hO : KO K) (hH : HK cA x a V K) {t : Nat} (ht : t < K.nL) (h : ∀ g, (∀ j, j < 10 → g j = pgN K t K.nP j) → Post (vU V a.n (eN cA g))) : vX1_hearPage cA x (nI t) V Post := by
  have h9T := hO.nT; have h9L := hO.nL; have h9K := hO.nK; have h9P := hO.nP
  have hH0 := hH
  unfold vX1_hearPage
  simp (disch := first | assumption | omega) only [nI_lt0, nI_clamp, vp_inT, nI_eq, imp_FT, imp_TF, true_and, and_true, bO_s, hH.x0, hH.x1, hH.x2, hH.x3, hH.x4, hH.x5, hH.x6, hH.x7, hH.x8, hH.x9, hH.x10, hH.x11, hH.x12, hH.x15, hH.x16, hH.x18, hH.x19, hH.x20, hH.vx, hH.c0, hH.c1, hH.c2, hH.c3, hH.c4, hH.c6, hH.vc, hH.vT, hH.vL, hH.vP, hH.vK, hH.t0, hH.t1, hH.t2, hH.t3, hH.t4, hH.vt, hH.l0, hH.l1, hH.l2, hH.l3, hH.l4, hH.vl, hH.p0, hH.p1, hH.p2, hH.vp, hH.k0, hH.w0, hH.k1, hH.w1, hH.k2, hH.w2, hH.k3, hH.w3, hH.k4, hH.w4, hH.k5, hH.w5, hH.q5, hH.vk, hH.vw, hH.sT, hH.sL, hH.sP, hH.sK, hH.gT, hH.gL, hH.gP, hH.gK]
  refine p1_nothing hO hH ht (fun g1 q1 => ?_)
  refine upL (W := fun f i => ∀ g : Nat → Int64, (∀ j, j < 10 → g j = pgM K t i 0 j) → vX1_hearPage_l20 cA x (nI t) Post f (nI i) (vU V a.n (eN cA g))) (e := K.nT) ?_ ?_ |>.imp (fun f h => h g1 (fun j hj => (q1 j hj).trans (lt10 (P := fun j => nm0 K t j = pgM K t 0 0 j) rfl rfl rfl rfl rfl rfl rfl rfl rfl rfl j hj)))
  · intro n g p2
    rw [vX1_hearPage_l20]
    replace hH := hH0.nam g
    simp (disch := first | assumption | omega) only [nI_lt0, nI_clamp, vp_inT, nI_eq, imp_FT, imp_TF, true_and, and_true, bO_s, hH.x0, hH.x1, hH.x2, hH.x3, hH.x4, hH.x5, hH.x6, hH.x7, hH.x8, hH.x9, hH.x10, hH.x11, hH.x12, hH.x15, hH.x16, hH.x18, hH.x19, hH.x20, hH.vx, hH.c0, hH.c1, hH.c2, hH.c3, hH.c4, hH.c6, hH.vc, hH.vT, hH.vL, hH.vP, hH.vK, hH.t0, hH.t1, hH.t2, hH.t3, hH.t4, hH.vt, hH.l0, hH.l1, hH.l2, hH.l3, hH.l4, hH.vl, hH.p0, hH.p1, hH.p2, hH.vp, hH.k0, hH.w0, hH.k1, hH.w1, hH.k2, hH.w2, hH.k3, hH.w3, hH.k4, hH.w4, hH.k5, hH.w5, hH.q5, hH.vk, hH.vw, hH.sT, hH.sL, hH.sP, hH.sK, hH.gT, hH.gL, hH.gP, hH.gK]
    refine br_t (Int32.le_refl _) ?_
    refine upL (W := fun f i => ∀ g : Nat → Int64, (∀ j, j < 10 → g j = pgM K t K.nT i j) → vX1_hearPage_l92 cA x (nI t) Post f (nI i) (vU V a.n (eN cA g))) (e := K.nP) ?_ ?_ |>.imp (fun f h => h g p2)
    · intro n2 g p3
      rw [vX1_hearPage_l92]
      replace hH := hH0.nam g
      simp (disch := first | assumption | omega) only [nI_lt0, nI_clamp, vp_inT, nI_eq, imp_FT, imp_TF, true_and, and_true, bO_s, hH.x0, hH.x1, hH.x2, hH.x3, hH.x4, hH.x5, hH.x6, hH.x7, hH.x8, hH.x9, hH.x10, hH.x11, hH.x12, hH.x15, hH.x16, hH.x18, hH.x19, hH.x20, hH.vx, hH.c0, hH.c1, hH.c2, hH.c3, hH.c4, hH.c6, hH.vc, hH.vT, hH.vL, hH.vP, hH.vK, hH.t0, hH.t1, hH.t2, hH.t3, hH.t4, hH.vt, hH.l0, hH.l1, hH.l2, hH.l3, hH.l4, hH.vl, hH.p0, hH.p1, hH.p2, hH.vp, hH.k0, hH.w0, hH.k1, hH.w1, hH.k2, hH.w2, hH.k3, hH.w3, hH.k4, hH.w4, hH.k5, hH.w5, hH.q5, hH.vk, hH.vw, hH.sT, hH.sL, hH.sP, hH.sK, hH.gT, hH.gL, hH.gP, hH.gK]
      exact br_t (Int32.le_refl _) (h g (fun j hj => (p3 j hj).trans (pgM_N hO t j)))
    · intro n2 i hi ih g p3
      rw [vX1_hearPage_l92]
      replace hH := hH0.nam g
      have h9w := hO.pWho i hi
      simp only [vX1_hearPage_c140, forall_eq, nI_1]
      simp (disch := first | assumption | omega) only [nI_lt0, nI_clamp, vp_inT, nI_eq, imp_FT, imp_TF, true_and, and_true, bO_s, hH.x0, hH.x1, hH.x2, hH.x3, hH.x4, hH.x5, hH.x6, hH.x7, hH.x8, hH.x9, hH.x10, hH.x11, hH.x12, hH.x15, hH.x16, hH.x18, hH.x19, hH.x20, hH.vx, hH.c0, hH.c1, hH.c2, hH.c3, hH.c4, hH.c6, hH.vc, hH.vT, hH.vL, hH.vP, hH.vK, hH.t0, hH.t1, hH.t2, hH.t3, hH.t4, hH.vt, hH.l0, hH.l1, hH.l2, hH.l3, hH.l4, hH.vl, hH.p0, hH.p1, hH.p2, hH.vp, hH.k0, hH.w0, hH.k1, hH.w1, hH.k2, hH.w2, hH.k3, hH.w3, hH.k4, hH.w4, hH.k5, hH.w5, hH.q5, hH.vk, hH.vw, hH.sT, hH.sL, hH.sP, hH.sK, hH.gT, hH.gL, hH.gP, hH.gK, nl_9, nt_9]
      refine br_f (nI_ge hi (by omega)) (br_c (fun c => ?_) (fun c => ?_))
      · refine ih _ (lt10 ?_ ?_ ?_ ?_ ?_ ?_ ?_ ?_ ?_ ?_) <;> simp [uL_if, p3, pgM, cnt, pgT, c, lN_1]
      · refine ih _ (lt10 ?_ ?_ ?_ ?_ ?_ ?_ ?_ ?_ ?_ ?_) <;> simp [uL_if, p3, pgM, cnt, pgT, c, lN_1]
  · intro n y hy ih g p2
    rw [vX1_hearPage_l20]
    replace hH := hH0.nam g
    simp only [vX1_hearPage_c84, vX1_hearPage_c79, forall_eq, nI_1]
    simp (disch := first | assumption | omega) only [nI_lt0, nI_clamp, vp_inT, nI_eq, imp_FT, imp_TF, true_and, and_true, bO_s, hH.x0, hH.x1, hH.x2, hH.x3, hH.x4, hH.x5, hH.x6, hH.x7, hH.x8, hH.x9, hH.x10, hH.x11, hH.x12, hH.x15, hH.x16, hH.x18, hH.x19, hH.x20, hH.vx, hH.c0, hH.c1, hH.c2, hH.c3, hH.c4, hH.c6, hH.vc, hH.vT, hH.vL, hH.vP, hH.vK, hH.t0, hH.t1, hH.t2, hH.t3, hH.t4, hH.vt, hH.l0, hH.l1, hH.l2, hH.l3, hH.l4, hH.vl, hH.p0, hH.p1, hH.p2, hH.vp, hH.k0, hH.w0, hH.k1, hH.w1, hH.k2, hH.w2, hH.k3, hH.w3, hH.k4, hH.w4, hH.k5, hH.w5, hH.q5, hH.vk, hH.vw, hH.sT, hH.sL, hH.sP, hH.sK, hH.gT, hH.gL, hH.gP, hH.gK]
    refine br_f (nI_ge hy (by omega)) (p1_firstPage hO hH ht hy (fun k hk h1 h2 => ⟨fun q => (by cases q), fun n9 q => ?_⟩) (fun h2 => ⟨fun _ => ?_, fun n9 q => (by cases q)⟩))
    · cases q
      obtain ⟨e1, e2⟩ := py_of hk h1 h2
      simp (disch := first | assumption | omega) only [nI_lt0, nI_clamp, vp_inT, nI_eq, imp_FT, imp_TF, true_and, and_true, bO_s, hH.x0, hH.x1, hH.x2, hH.x3, hH.x4, hH.x5, hH.x6, hH.x7, hH.x8, hH.x9, hH.x10, hH.x11, hH.x12, hH.x15, hH.x16, hH.x18, hH.x19, hH.x20, hH.vx, hH.c0, hH.c1, hH.c2, hH.c3, hH.c4, hH.c6, hH.vc, hH.vT, hH.vL, hH.vP, hH.vK, hH.t0, hH.t1, hH.t2, hH.t3, hH.t4, hH.vt, hH.l0, hH.l1, hH.l2, hH.l3, hH.l4, hH.vl, hH.p0, hH.p1, hH.p2, hH.vp, hH.k0, hH.w0, hH.k1, hH.w1, hH.k2, hH.w2, hH.k3, hH.w3, hH.k4, hH.w4, hH.k5, hH.w5, hH.q5, hH.vk, hH.vw, hH.sT, hH.sL, hH.sP, hH.sK, hH.gT, hH.gL, hH.gP, hH.gK, nl_5, nt_5, nl_6, nt_6]
      refine br_c (fun c => ?_) (fun c => ?_)
      · rw [decide_eq_true c] at e1 e2
        refine ih _ (lt10 ?_ ?_ ?_ ?_ ?_ ?_ ?_ ?_ ?_ ?_) <;> simp [uL_if, p2, pgM, cnt, e1, e2, lN_1]
      · rw [decide_eq_false c] at e1 e2
        refine ih _ (lt10 ?_ ?_ ?_ ?_ ?_ ?_ ?_ ?_ ?_ ?_) <;> simp [uL_if, p2, pgM, cnt, e1, e2, lN_1]
    · obtain ⟨e1, e2⟩ := py_no h2
      refine ih _ (fun j hj => ?_)
      rw [p2 j hj]
      simp [pgM, cnt, e1, e2]
theorem p1_holds {cA : Nat → ClassId} {x : Nat} {a : Ad} {V : VS} {K : Ka} {Post : Int32 → VS → Prop} (hO : KO K) (hH : HK cA x a V K) {e : Nat} {g : Nat → Int64} {PX : Nat → Nat → VS → Prop} (he : e < 3) (h : Post (bI (hB K g e)) (vU V a.n (eN cA g))) : vX1_holds cA x (nI e) (vU V a.n (eN cA g)) Post PX := by
  have hH0 := hH
  replace hH := hH0.nam g
  unfold vX1_holds
  rcases hH.part he with ⟨c, p⟩ | ⟨c, q, p, hT⟩
  · simp (disch := first | assumption | omega) only [nI_lt0, nI_clamp, vp_inT, nI_eq, imp_FT, imp_TF, true_and, and_true, bO_s, hH.x0, hH.x1, hH.x2, hH.x3, hH.x4, hH.x5, hH.x6, hH.x7, hH.x8, hH.x9, hH.x10, hH.x11, hH.x12, hH.x15, hH.x16, hH.x18, hH.x19, hH.x20, hH.vx, hH.c0, hH.c1, hH.c2, hH.c3, hH.c4, hH.c6, hH.vc, hH.vT, hH.vL, hH.vP, hH.vK, hH.t0, hH.t1, hH.t2, hH.t3, hH.t4, hH.vt, hH.l0, hH.l1, hH.l2, hH.l3, hH.l4, hH.vl, hH.p0, hH.p1, hH.p2, hH.vp, hH.k0, hH.w0, hH.k1, hH.w1, hH.k2, hH.w2, hH.k3, hH.w3, hH.k4, hH.w4, hH.k5, hH.w5, hH.q5, hH.vk, hH.vw, hH.sT, hH.sL, hH.sP, hH.sK, hH.gT, hH.gL, hH.gP, hH.gK, p]
    refine ⟨fun _ => ?_, fun n z => (by cases z)⟩
    rw [hB, decide_eq_false c] at h
    exact h
  · simp (disch := first | assumption | omega) only [nI_lt0, nI_clamp, vp_inT, nI_eq, imp_FT, imp_TF, true_and, and_true, bO_s, hH.x0, hH.x1, hH.x2, hH.x3, hH.x4, hH.x5, hH.x6, hH.x7, hH.x8, hH.x9, hH.x10, hH.x11, hH.x12, hH.x15, hH.x16, hH.x18, hH.x19, hH.x20, hH.vx, hH.c0, hH.c1, hH.c2, hH.c3, hH.c4, hH.c6, hH.vc, hH.vT, hH.vL, hH.vP, hH.vK, hH.t0, hH.t1, hH.t2, hH.t3, hH.t4, hH.vt, hH.l0, hH.l1, hH.l2, hH.l3, hH.l4, hH.vl, hH.p0, hH.p1, hH.p2, hH.vp, hH.k0, hH.w0, hH.k1, hH.w1, hH.k2, hH.w2, hH.k3, hH.w3, hH.k4, hH.w4, hH.k5, hH.w5, hH.q5, hH.vk, hH.vw, hH.sT, hH.sL, hH.sP, hH.sK, hH.gT, hH.gL, hH.gP, hH.gK, p]
    refine ⟨fun z => (by cases z), fun n z => ?_⟩
    clear z
    refine p1_of (e := e) hO (vU_s _ _ _) he 70 80 _ q _ _ (by decide) (by omega) (by omega) hT (fun v hv => ?_) (fun hv q9 => ⟨rfl, ?_⟩)
    · rw [hB, decide_eq_true c, Bool.true_and, hv] at h
      dsimp only at h
      refine br_c (fun z => ?_) (fun z => ?_)
      · rw [decide_eq_true z] at h; exact h
      · rw [decide_eq_false z] at h; exact h
    · rw [hB, decide_eq_true c, Bool.true_and, hv] at h
      exact h
theorem p1_isBarred {cA : Nat → ClassId} {x : Nat} {a : Ad} {V : VS} {K : Ka} {Post : Int32 → VS → Prop} (hO : KO K) (hH : HK cA x a V K) {t : Nat} (ht : t < K.nL) (h : ∀ g, Post (bI (barB K t)) (vU V a.n (eN cA g))) : vX1_isBarred cA x (nI t) V Post := by
  unfold vX1_isBarred
  simp (disch := first | assumption | omega) only [nI_lt0, nI_clamp, vp_inT, nI_eq, imp_FT, imp_TF, true_and, and_true, bO_s, hH.x0, hH.x1, hH.x2, hH.x3, hH.x4, hH.x5, hH.x6, hH.x7, hH.x8, hH.x9, hH.x10, hH.x11, hH.x12, hH.x15, hH.x16, hH.x18, hH.x19, hH.x20, hH.vx, hH.c0, hH.c1, hH.c2, hH.c3, hH.c4, hH.c6, hH.vc, hH.vT, hH.vL, hH.vP, hH.vK, hH.t0, hH.t1, hH.t2, hH.t3, hH.t4, hH.vt, hH.l0, hH.l1, hH.l2, hH.l3, hH.l4, hH.vl, hH.p0, hH.p1, hH.p2, hH.vp, hH.k0, hH.w0, hH.k1, hH.w1, hH.k2, hH.w2, hH.k3, hH.w3, hH.k4, hH.w4, hH.k5, hH.w5, hH.q5, hH.vk, hH.vw, hH.sT, hH.sL, hH.sP, hH.sK, hH.gT, hH.gL, hH.gP, hH.gK]
  refine p1_hearTalk (b := false) hO hH ht (fun g hg => ?_)
  rw [(hH.nam g).vx]
  refine p1_holds (e := 1) hO hH (by decide) ⟨vz_b _, ?_⟩
  have h := h g
  have hg' : ∀ j, j < 10 → g j = btN K t K.nP j := hg
  rw [barB, ← hB_congr hO hg' (by decide)] at h
  exact h
theorem p1_finds {cA : Nat → ClassId} {x : Nat} {a : Ad} {V : VS} {K : Ka} {Post : Int32 → VS → Prop} (hO : KO K) (hH : HK cA x a V K) {t : Nat} {b : Int32} (ht : t < K.nL) (h : ∀ g, Post (bI (fdB K t b)) (vU V a.n (eN cA g))) : vX1_finds cA x (nI t) b V Post := by
  have fin : ∀ (g g' : Nat → Int64), (if b = 0 then pgN K t K.nP else if b = 1 then tpN K t else btN K t K.nP) = g → (∀ j, j < 10 → g' j = g j) → vX1_finds_c27 cA x (nI t) b Post (vU V a.n (eN cA g')) := by
    intro g g' eg hg
    unfold vX1_finds_c27
    rw [(hH.nam g').vx]
    refine p1_holds (e := 2) hO hH (by decide) ⟨vz_b _, ?_⟩
    have h := h g'
    rw [fdB, eg, ← hB_congr hO hg (by decide)] at h
    exact h
  unfold vX1_finds vX1_finds_c24
  simp (disch := first | assumption | omega) only [nI_lt0, nI_clamp, vp_inT, nI_eq, imp_FT, imp_TF, true_and, and_true, bO_s, hH.x0, hH.x1, hH.x2, hH.x3, hH.x4, hH.x5, hH.x6, hH.x7, hH.x8, hH.x9, hH.x10, hH.x11, hH.x12, hH.x15, hH.x16, hH.x18, hH.x19, hH.x20, hH.vx, hH.c0, hH.c1, hH.c2, hH.c3, hH.c4, hH.c6, hH.vc, hH.vT, hH.vL, hH.vP, hH.vK, hH.t0, hH.t1, hH.t2, hH.t3, hH.t4, hH.vt, hH.l0, hH.l1, hH.l2, hH.l3, hH.l4, hH.vl, hH.p0, hH.p1, hH.p2, hH.vp, hH.k0, hH.w0, hH.k1, hH.w1, hH.k2, hH.w2, hH.k3, hH.w3, hH.k4, hH.w4, hH.k5, hH.w5, hH.q5, hH.vk, hH.vw, hH.sT, hH.sL, hH.sP, hH.sK, hH.gT, hH.gL, hH.gP, hH.gK]
  refine br_c (fun c => ?_) (fun c => br_c (fun d => ?_) (fun d => ?_))
  · exact p1_hearPage hO hH ht (fun g hg => fin _ g (by rw [if_pos c]) hg)
  · exact p1_hearTalk (b := true) hO hH ht (fun g hg => fin (tpN K t) g (by rw [if_neg c, if_pos d]) hg)
  · exact p1_hearTalk (b := false) hO hH ht (fun g hg => fin (btN K t K.nP) g (by rw [if_neg c, if_neg d]) hg)
theorem p1_barred {cA : Nat → ClassId} {x : Nat} {a : Ad} {V : VS} {K : Ka} {Post : Int32 → VS → Prop} (hO : KO K) (hH : HK cA x a V K) {b : Int32} (h : ∀ V', HK cA x a V' K → Post (aBarred K b) V') : vX1_barred cA x b V Post := by
  unfold vX1_barred
  simp (disch := first | assumption | omega) only [nI_lt0, nI_clamp, vp_inT, nI_eq, imp_FT, imp_TF, true_and, and_true, bO_s, hH.x0, hH.x1, hH.x2, hH.x3, hH.x4, hH.x5, hH.x6, hH.x7, hH.x8, hH.x9, hH.x10, hH.x11, hH.x12, hH.x15, hH.x16, hH.x18, hH.x19, hH.x20, hH.vx, hH.c0, hH.c1, hH.c2, hH.c3, hH.c4, hH.c6, hH.vc, hH.vT, hH.vL, hH.vP, hH.vK, hH.t0, hH.t1, hH.t2, hH.t3, hH.t4, hH.vt, hH.l0, hH.l1, hH.l2, hH.l3, hH.l4, hH.vl, hH.p0, hH.p1, hH.p2, hH.vp, hH.k0, hH.w0, hH.k1, hH.w1, hH.k2, hH.w2, hH.k3, hH.w3, hH.k4, hH.w4, hH.k5, hH.w5, hH.q5, hH.vk, hH.vw, hH.sT, hH.sL, hH.sP, hH.sK, hH.gT, hH.gL, hH.gP, hH.gK]
  unfold aBarred at h
  refine p1_isTeller hO hH (fun t e ht hb => br_f (by decide) ?_) (fun e => br_t rfl ?_)
  · rw [e] at h
    subst hb
    simp (disch := first | assumption | omega) only [nI_lt0, nI_clamp, vp_inT, nI_eq, imp_FT, imp_TF, true_and, and_true, bO_s, hH.x0, hH.x1, hH.x2, hH.x3, hH.x4, hH.x5, hH.x6, hH.x7, hH.x8, hH.x9, hH.x10, hH.x11, hH.x12, hH.x15, hH.x16, hH.x18, hH.x19, hH.x20, hH.vx, hH.c0, hH.c1, hH.c2, hH.c3, hH.c4, hH.c6, hH.vc, hH.vT, hH.vL, hH.vP, hH.vK, hH.t0, hH.t1, hH.t2, hH.t3, hH.t4, hH.vt, hH.l0, hH.l1, hH.l2, hH.l3, hH.l4, hH.vl, hH.p0, hH.p1, hH.p2, hH.vp, hH.k0, hH.w0, hH.k1, hH.w1, hH.k2, hH.w2, hH.k3, hH.w3, hH.k4, hH.w4, hH.k5, hH.w5, hH.q5, hH.vk, hH.vw, hH.sT, hH.sL, hH.sP, hH.sK, hH.gT, hH.gL, hH.gP, hH.gK]
    refine p1_isBarred hO hH ht (fun g => ?_)
    have h := h _ (hH.nam g)
    dsimp only at h
    exact bz (fun c => by rw [c] at h; exact h) (fun c => by rw [c] at h; exact h)
  · rw [e] at h
    exact h _ hH
theorem p1_jury {cA : Nat → ClassId} {x : Nat} {a : Ad} {V : VS} {K : Ka} {Post : Int32 → VS → Prop} (hO : KO K) (hH : HK cA x a V K) {b d : Int32} (h : ∀ V', HK cA x a V' K → Post (aJury K b d) V') : vX1_jury cA x b d V Post := by
  unfold vX1_jury
  simp (disch := first | assumption | omega) only [nI_lt0, nI_clamp, vp_inT, nI_eq, imp_FT, imp_TF, true_and, and_true, bO_s, hH.x0, hH.x1, hH.x2, hH.x3, hH.x4, hH.x5, hH.x6, hH.x7, hH.x8, hH.x9, hH.x10, hH.x11, hH.x12, hH.x15, hH.x16, hH.x18, hH.x19, hH.x20, hH.vx, hH.c0, hH.c1, hH.c2, hH.c3, hH.c4, hH.c6, hH.vc, hH.vT, hH.vL, hH.vP, hH.vK, hH.t0, hH.t1, hH.t2, hH.t3, hH.t4, hH.vt, hH.l0, hH.l1, hH.l2, hH.l3, hH.l4, hH.vl, hH.p0, hH.p1, hH.p2, hH.vp, hH.k0, hH.w0, hH.k1, hH.w1, hH.k2, hH.w2, hH.k3, hH.w3, hH.k4, hH.w4, hH.k5, hH.w5, hH.q5, hH.vk, hH.vw, hH.sT, hH.sL, hH.sP, hH.sK, hH.gT, hH.gL, hH.gP, hH.gK]
  unfold aJury at h
  refine p1_isTeller hO hH (fun t e ht hb => br_f (by decide) ?_) (fun e => br_t rfl ?_)
  · rw [e] at h
    subst hb
    simp (disch := first | assumption | omega) only [nI_lt0, nI_clamp, vp_inT, nI_eq, imp_FT, imp_TF, true_and, and_true, bO_s, hH.x0, hH.x1, hH.x2, hH.x3, hH.x4, hH.x5, hH.x6, hH.x7, hH.x8, hH.x9, hH.x10, hH.x11, hH.x12, hH.x15, hH.x16, hH.x18, hH.x19, hH.x20, hH.vx, hH.c0, hH.c1, hH.c2, hH.c3, hH.c4, hH.c6, hH.vc, hH.vT, hH.vL, hH.vP, hH.vK, hH.t0, hH.t1, hH.t2, hH.t3, hH.t4, hH.vt, hH.l0, hH.l1, hH.l2, hH.l3, hH.l4, hH.vl, hH.p0, hH.p1, hH.p2, hH.vp, hH.k0, hH.w0, hH.k1, hH.w1, hH.k2, hH.w2, hH.k3, hH.w3, hH.k4, hH.w4, hH.k5, hH.w5, hH.q5, hH.vk, hH.vw, hH.sT, hH.sL, hH.sP, hH.sK, hH.gT, hH.gL, hH.gP, hH.gK]
    refine p1_in (bz (fun c => ?_) (fun c => ?_))
    · rw [Bool.and_eq_false_iff, decide_eq_false_iff_not, decide_eq_false_iff_not] at c
      have h := h V hH
      simp only [show ¬ (0 ≤ d ∧ d ≤ 2) from fun q => c.elim (fun c => c q.1) (fun c => c q.2), if_false] at h
      exact h
    · rw [Bool.and_eq_true_iff, decide_eq_true_iff, decide_eq_true_iff] at c
      refine p1_finds hO hH ht (fun g => ?_)
      have h := h _ (hH.nam g)
      simp only [c, and_true, if_true] at h
      exact bz (fun c => by rw [c] at h; exact h) (fun c => by rw [c] at h; exact h)
  · rw [e] at h
    exact h _ hH
theorem p1_found {cA : Nat → ClassId} {x : Nat} {a : Ad} {V : VS} {K : Ka} {Post : Int32 → VS → Prop} (hO : KO K) (hH : HK cA x a V K) {b d : Int32} (h : ∀ V', HK cA x a V' K → Post (aFound K b d) V') : vX1_found cA x b d V Post := by
  have h9T := hO.nT; have h9L := hO.nL; have h9K := hO.nK; have h9P := hO.nP
  unfold vX1_found
  unfold aFound at h
  refine p1_in (bz (fun c => ?_) (fun c => p1_in (bz (fun e => ?_) (fun e => ?_))))
  · rw [Bool.and_eq_false_iff, decide_eq_false_iff_not, decide_eq_false_iff_not] at c
    rw [if_neg (fun q => c.elim (fun c => c q.1.1) (fun c => c q.1.2))] at h
    exact h _ hH
  · rw [Bool.and_eq_false_iff, decide_eq_false_iff_not, decide_eq_false_iff_not] at e
    rw [if_neg (fun q => e.elim (fun c => c q.2.1) (fun c => c q.2.2))] at h
    exact h _ hH
  · rw [Bool.and_eq_true_iff, decide_eq_true_iff, decide_eq_true_iff] at c e
    rw [if_pos ⟨c, e⟩] at h
    refine upL (W := fun f i => ∀ V2 : VS, HK cA x a V2 K → vX1_found_l25 cA x b d Post f (fnd K b i) (nI i) V2) (e := K.nL) ?_ ?_ |>.imp (fun f h => h V hH)
    · intro n V2 hH
      rw [vX1_found_l25]
      have h := h V2 hH
      simp (disch := first | assumption | omega) only [nI_lt0, nI_clamp, vp_inT, nI_eq, imp_FT, imp_TF, true_and, and_true, bO_s, hH.x0, hH.x1, hH.x2, hH.x3, hH.x4, hH.x5, hH.x6, hH.x7, hH.x8, hH.x9, hH.x10, hH.x11, hH.x12, hH.x15, hH.x16, hH.x18, hH.x19, hH.x20, hH.vx, hH.c0, hH.c1, hH.c2, hH.c3, hH.c4, hH.c6, hH.vc, hH.vT, hH.vL, hH.vP, hH.vK, hH.t0, hH.t1, hH.t2, hH.t3, hH.t4, hH.vt, hH.l0, hH.l1, hH.l2, hH.l3, hH.l4, hH.vl, hH.p0, hH.p1, hH.p2, hH.vp, hH.k0, hH.w0, hH.k1, hH.w1, hH.k2, hH.w2, hH.k3, hH.w3, hH.k4, hH.w4, hH.k5, hH.w5, hH.q5, hH.vk, hH.vw, hH.sT, hH.sL, hH.sP, hH.sK, hH.gT, hH.gL, hH.gP, hH.gK]
      refine br_t (Int32.le_refl _) (br_c (fun g => ?_) (fun g => ?_))
      · rw [if_pos g] at h; exact h
      · rw [if_neg g] at h; exact h
    · intro n i hi ih V2 hH
      rw [vX1_found_l25]
      simp only [vX1_found_c67, vX1_found_c68, forall_eq, nI_1, Int32.or_zero]
      simp (disch := first | assumption | omega) only [nI_lt0, nI_clamp, vp_inT, nI_eq, imp_FT, imp_TF, true_and, and_true, bO_s, hH.x0, hH.x1, hH.x2, hH.x3, hH.x4, hH.x5, hH.x6, hH.x7, hH.x8, hH.x9, hH.x10, hH.x11, hH.x12, hH.x15, hH.x16, hH.x18, hH.x19, hH.x20, hH.vx, hH.c0, hH.c1, hH.c2, hH.c3, hH.c4, hH.c6, hH.vc, hH.vT, hH.vL, hH.vP, hH.vK, hH.t0, hH.t1, hH.t2, hH.t3, hH.t4, hH.vt, hH.l0, hH.l1, hH.l2, hH.l3, hH.l4, hH.vl, hH.p0, hH.p1, hH.p2, hH.vp, hH.k0, hH.w0, hH.k1, hH.w1, hH.k2, hH.w2, hH.k3, hH.w3, hH.k4, hH.w4, hH.k5, hH.w5, hH.q5, hH.vk, hH.vw, hH.sT, hH.sL, hH.sP, hH.sK, hH.gT, hH.gL, hH.gP, hH.gK]
      refine br_f (nI_ge hi (by omega)) (p1_isBarred hO hH hi (fun g1 => bz (fun j => ?_) (fun j => ?_)))
      · have hH1 := hH.nam g1
        rw [hH1.vx]
        refine p1_finds hO hH1 hi (fun g2 => bz (fun l => ?_) (fun l => ?_))
        · have ih := ih _ (hH1.nam g2)
          (simp only [Bool.false_and, Bool.true_and, Bool.and_false, Bool.and_true, Bool.false_or, Bool.true_or, Bool.or_false, Bool.or_true, Bool.not_true, Bool.not_false, bI_t, bI_f, if_true, if_false, beq_self_eq_true, decide_true, decide_false, reduceCtorEq, Bool.false_eq_true, fnd, j, l] at ih; exact ih)
        · have ih := ih _ (hH1.nam g2)
          (simp only [Bool.false_and, Bool.true_and, Bool.and_false, Bool.and_true, Bool.false_or, Bool.true_or, Bool.or_false, Bool.or_true, Bool.not_true, Bool.not_false, bI_t, bI_f, if_true, if_false, beq_self_eq_true, decide_true, decide_false, reduceCtorEq, Bool.false_eq_true, fnd, j, l] at ih; exact ih)
      · have ih := ih _ (hH.nam g1)
        (simp only [Bool.false_and, Bool.true_and, Bool.and_false, Bool.and_true, Bool.false_or, Bool.true_or, Bool.or_false, Bool.or_true, Bool.not_true, Bool.not_false, bI_t, bI_f, if_true, if_false, beq_self_eq_true, decide_true, decide_false, reduceCtorEq, Bool.false_eq_true, fnd, j] at ih; exact ih)
