theorem HK.part {cA : Nat → ClassId} {x : Nat} {a : Ad} {V : VS} {K : Ka} (h : HK cA x a V K) {e : Nat} (he : e < 3) : (¬ K.first e < K.last e ∧ lR V (cA 5) a.pa (nI e) = some none) ∨ (K.first e < K.last e ∧ ∃ q, lR V (cA 5) a.pa (nI e) = some (some q) ∧ HT (fun b e => V b = some e) K 70 (K.last e - 1) q) := by
  obtain ⟨f, h1, h2⟩ := h.hr.parts
  have h3 := lR_of (k := e) h1 he (by decide)
  by_cases c : K.first e < K.last e
  · obtain ⟨q, q1, q2⟩ := (h2 e he).2 c
    rw [q1] at h3
    exact Or.inr ⟨c, q, h3, q2⟩
  · rw [(h2 e he).1 c] at h3
    exact Or.inl ⟨c, h3⟩
theorem clamp2 (v : Int64) : (let u := if v < (100 : Int64) then v else (100 : Int64); (if u < (0 : Int64) then (0 : Int64) else u).toInt32) = clampJ v := by
  show (if (if v < (100 : Int64) then v else (100 : Int64)) < (0 : Int64) then (0 : Int64) else (if v < (100 : Int64) then v else (100 : Int64))).toInt32 = clampJ v
  unfold clampJ
  by_cases c : 0 ≤ v
  · rw [if_pos c]
    by_cases d : v < 100
    · rw [if_pos d, if_neg (Int64.not_lt.mpr c), if_pos (Int64.le_of_lt d)]
    · rw [if_neg d, if_neg (by decide)]
      by_cases e : v ≤ 100
      · rw [if_pos e, Int64.le_antisymm e (Int64.not_lt.mp d)]
      · rw [if_neg e]; rfl
  · have d : v < 0 := Int64.not_le.mp c
    rw [if_neg c, if_pos (Int64.lt_trans d (by decide : (0 : Int64) < 100)), if_pos d]
    rfl
theorem iA_f {K : Ka} {t k : Nat} : iA K t false k = ak K t k := by
  unfold iA in1 ak
  cases hh K k <;> cases K.isW k <;> cases (K.who k == t) <;> rfl
theorem iP_f {K : Ka} {t k : Nat} : iP K t false k = aB K t k := by
  unfold iP in1 aB ak
  cases hh K k <;> cases K.isW k <;> cases (K.who k == t) <;> rfl
theorem p1_lawAt {cA : Nat → ClassId} {x : Nat} {a : Ad} {V : VS} {K : Ka} {Post : Int32 → VS → Prop} (hO : KO K) (hH : HK cA x a V K) {k : Nat} {PX : Nat → Nat → VS → Prop} (hk : k < K.nK) (h : ∀ g, Post (lawI K k) (vU V a.n (eN cA g))) : vX1_lawAt cA x (nI k) V Post PX := by
  have h9T := hO.nT; have h9L := hO.nL; have h9K := hO.nK; have h9P := hO.nP
  have h9w := hO.who k hk
  have hH0 := hH
  obtain ⟨g0, e0⟩ := hH.nm0
  unfold vX1_lawAt
  simp (disch := first | assumption | omega) only [nI_lt0, nI_clamp, vp_inT, nI_eq, imp_FT, imp_TF, true_and, and_true, bO_s, hH.x0, hH.x1, hH.x2, hH.x3, hH.x4, hH.x5, hH.x6, hH.x7, hH.x8, hH.x9, hH.x10, hH.x11, hH.x12, hH.x15, hH.x16, hH.x18, hH.x19, hH.x20, hH.vx, hH.c0, hH.c1, hH.c2, hH.c3, hH.c4, hH.c6, hH.vc, hH.vT, hH.vL, hH.vP, hH.vK, hH.t0, hH.t1, hH.t2, hH.t3, hH.t4, hH.vt, hH.l0, hH.l1, hH.l2, hH.l3, hH.l4, hH.vl, hH.p0, hH.p1, hH.p2, hH.vp, hH.k0, hH.w0, hH.k1, hH.w1, hH.k2, hH.w2, hH.k3, hH.w3, hH.k4, hH.w4, hH.k5, hH.w5, hH.q5, hH.vk, hH.vw, hH.sT, hH.sL, hH.sP, hH.sK, hH.gT, hH.gL, hH.gP, hH.gK]
  rcases hH.part (e := 0) (by decide) with ⟨c, p⟩ | ⟨c, q, p, hT⟩
  · rw [show (0 : Int32) = nI 0 from rfl, p, bO_s]
    refine ⟨fun _ => ?_, fun n z => (by cases z)⟩
    have h := h g0
    rw [← e0, lawI, if_neg c] at h
    exact h
  · rw [show (0 : Int32) = nI 0 from rfl, p, bO_s]
    refine ⟨fun z => (by cases z), fun n z => ?_⟩
    clear z
    refine p1_nothing hO hH h9w (fun g1 q1 => ?_)
    replace hH := hH0.nam g1
    simp (disch := first | assumption | omega) only [nI_lt0, nI_clamp, vp_inT, nI_eq, imp_FT, imp_TF, true_and, and_true, bO_s, hH.x0, hH.x1, hH.x2, hH.x3, hH.x4, hH.x5, hH.x6, hH.x7, hH.x8, hH.x9, hH.x10, hH.x11, hH.x12, hH.x15, hH.x16, hH.x18, hH.x19, hH.x20, hH.vx, hH.c0, hH.c1, hH.c2, hH.c3, hH.c4, hH.c6, hH.vc, hH.vT, hH.vL, hH.vP, hH.vK, hH.t0, hH.t1, hH.t2, hH.t3, hH.t4, hH.vt, hH.l0, hH.l1, hH.l2, hH.l3, hH.l4, hH.vl, hH.p0, hH.p1, hH.p2, hH.vp, hH.k0, hH.w0, hH.k1, hH.w1, hH.k2, hH.w2, hH.k3, hH.w3, hH.k4, hH.w4, hH.k5, hH.w5, hH.q5, hH.vk, hH.vw, hH.sT, hH.sL, hH.sP, hH.sK, hH.gT, hH.gL, hH.gP, hH.gK, nt_1]
    replace hH := hH0.nam (vp_updL g1 1 (K.hour k - K.begins (K.who k)).toInt64)
    simp (disch := first | assumption | omega) only [nI_lt0, nI_clamp, vp_inT, nI_eq, imp_FT, imp_TF, true_and, and_true, bO_s, hH.x0, hH.x1, hH.x2, hH.x3, hH.x4, hH.x5, hH.x6, hH.x7, hH.x8, hH.x9, hH.x10, hH.x11, hH.x12, hH.x15, hH.x16, hH.x18, hH.x19, hH.x20, hH.vx, hH.c0, hH.c1, hH.c2, hH.c3, hH.c4, hH.c6, hH.vc, hH.vT, hH.vL, hH.vP, hH.vK, hH.t0, hH.t1, hH.t2, hH.t3, hH.t4, hH.vt, hH.l0, hH.l1, hH.l2, hH.l3, hH.l4, hH.vl, hH.p0, hH.p1, hH.p2, hH.vp, hH.k0, hH.w0, hH.k1, hH.w1, hH.k2, hH.w2, hH.k3, hH.w3, hH.k4, hH.w4, hH.k5, hH.w5, hH.q5, hH.vk, hH.vw, hH.sT, hH.sL, hH.sP, hH.sK, hH.gT, hH.gL, hH.gP, hH.gK]
    refine p1_off hO hH h9w ?_
    simp (disch := first | assumption | omega) only [nI_lt0, nI_clamp, vp_inT, nI_eq, imp_FT, imp_TF, true_and, and_true, bO_s, hH.x0, hH.x1, hH.x2, hH.x3, hH.x4, hH.x5, hH.x6, hH.x7, hH.x8, hH.x9, hH.x10, hH.x11, hH.x12, hH.x15, hH.x16, hH.x18, hH.x19, hH.x20, hH.vx, hH.c0, hH.c1, hH.c2, hH.c3, hH.c4, hH.c6, hH.vc, hH.vT, hH.vL, hH.vP, hH.vK, hH.t0, hH.t1, hH.t2, hH.t3, hH.t4, hH.vt, hH.l0, hH.l1, hH.l2, hH.l3, hH.l4, hH.vl, hH.p0, hH.p1, hH.p2, hH.vp, hH.k0, hH.w0, hH.k1, hH.w1, hH.k2, hH.w2, hH.k3, hH.w3, hH.k4, hH.w4, hH.k5, hH.w5, hH.q5, hH.vk, hH.vw, hH.sT, hH.sL, hH.sP, hH.sK, hH.gT, hH.gL, hH.gP, hH.gK, nt_2]
    replace hH := hH0.nam (vp_updL (vp_updL g1 1 (K.hour k - K.begins (K.who k)).toInt64) 2 (offN K (K.who k) (K.hour k)).toInt64)
    simp (disch := first | assumption | omega) only [nI_lt0, nI_clamp, vp_inT, nI_eq, imp_FT, imp_TF, true_and, and_true, bO_s, hH.x0, hH.x1, hH.x2, hH.x3, hH.x4, hH.x5, hH.x6, hH.x7, hH.x8, hH.x9, hH.x10, hH.x11, hH.x12, hH.x15, hH.x16, hH.x18, hH.x19, hH.x20, hH.vx, hH.c0, hH.c1, hH.c2, hH.c3, hH.c4, hH.c6, hH.vc, hH.vT, hH.vL, hH.vP, hH.vK, hH.t0, hH.t1, hH.t2, hH.t3, hH.t4, hH.vt, hH.l0, hH.l1, hH.l2, hH.l3, hH.l4, hH.vl, hH.p0, hH.p1, hH.p2, hH.vp, hH.k0, hH.w0, hH.k1, hH.w1, hH.k2, hH.w2, hH.k3, hH.w3, hH.k4, hH.w4, hH.k5, hH.w5, hH.q5, hH.vk, hH.vw, hH.sT, hH.sL, hH.sP, hH.sK, hH.gT, hH.gL, hH.gP, hH.gK]
    refine p1_countAsks (b := false) hO hH0 h9w (by omega) (fun g2 q3 q4 qo => ?_)
    replace hH := hH0.nam g2
    have hT2 : HT (fun b e => vU V a.n (eN cA g2) b = some e) K 70 (K.last 0 - 1) q := by
      obtain ⟨gg, hn⟩ := hH0.hs.nam
      refine HT.mono (fun b e z => ?_) hT.kp
      rw [vU_n _ _ (va_ne z.1 hn (fun q => by rw [q] at z; exact z.2))]
      exact z.1
    have p2 : lR (vU V a.n (eN cA g2)) (cA 5) a.pa (nI 0) = some (some q) := by
      obtain ⟨f, h1, -⟩ := hH0.hr.parts
      obtain ⟨gg, hn⟩ := hH0.hs.nam
      rw [← p, lR_of (f := f) (n := 3) (by rw [vU_n _ _ (va_ne h1 hn (tg rfl))]; exact h1) (by decide) (by decide), lR_of h1 (by decide) (by decide)]
    simp (disch := first | assumption | omega) only [nI_lt0, nI_clamp, vp_inT, nI_eq, imp_FT, imp_TF, true_and, and_true, bO_s, hH.x0, hH.x1, hH.x2, hH.x3, hH.x4, hH.x5, hH.x6, hH.x7, hH.x8, hH.x9, hH.x10, hH.x11, hH.x12, hH.x15, hH.x16, hH.x18, hH.x19, hH.x20, hH.vx, hH.c0, hH.c1, hH.c2, hH.c3, hH.c4, hH.c6, hH.vc, hH.vT, hH.vL, hH.vP, hH.vK, hH.t0, hH.t1, hH.t2, hH.t3, hH.t4, hH.vt, hH.l0, hH.l1, hH.l2, hH.l3, hH.l4, hH.vl, hH.p0, hH.p1, hH.p2, hH.vp, hH.k0, hH.w0, hH.k1, hH.w1, hH.k2, hH.w2, hH.k3, hH.w3, hH.k4, hH.w4, hH.k5, hH.w5, hH.q5, hH.vk, hH.vw, hH.sT, hH.sL, hH.sP, hH.sK, hH.gT, hH.gL, hH.gP, hH.gK]
    rw [p2]
    refine p1_of (e := 0) hO (vU_s _ _ _) (by decide) 70 80 _ q _ _ (by decide) (by omega) (by omega) hT2 (fun v hv v78 e78 v79 e79 => ?_) (fun hv q9 => ⟨rfl, ?_⟩)
    all_goals
      have en : wv K g2 (K.last 0 - 1) = wv K (lawN K k) (K.last 0 - 1) := by
        refine ev_congr hO (fun j hj => ?_) (e := 0) (by decide) _ _ (by omega) (by omega)
        revert j
        refine lt10 ?_ ?_ ?_ ?_ ?_ ?_ ?_ ?_ ?_ ?_
        · rw [qo 0 (by decide) (by decide)]; simp [uL_if, q1, nm0, lawN]
        · rw [qo 1 (by decide) (by decide)]; simp [uL_if, q1, nm0, lawN]
        · rw [qo 2 (by decide) (by decide)]; simp [uL_if, q1, nm0, lawN]
        · rw [q3, cnt_congr (fun i _ => iA_f)]; simp [uL_if, q1, nm0, lawN]
        · rw [q4, cnt_congr (fun i _ => iP_f)]; simp [uL_if, q1, nm0, lawN]
        · rw [qo 5 (by decide) (by decide)]; simp [uL_if, q1, nm0, lawN]
        · rw [qo 6 (by decide) (by decide)]; simp [uL_if, q1, nm0, lawN]
        · rw [qo 7 (by decide) (by decide)]; simp [uL_if, q1, nm0, lawN]
        · rw [qo 8 (by decide) (by decide)]; simp [uL_if, q1, nm0, lawN]
        · rw [qo 9 (by decide) (by decide)]; simp [uL_if, q1, nm0, lawN]
      have h := h g2
      rw [lawI, if_pos c, ← en, hv] at h
    · rw [e79, e78]
      have e := clamp2 v
      dsimp only at e
      rw [e]
      exact h
    · exact h
theorem p1_law {cA : Nat → ClassId} {x : Nat} {a : Ad} {V : VS} {K : Ka} {Post : Int32 → VS → Prop} (hO : KO K) (hH : HK cA x a V K) {b : Int32} (h : ∀ V', HK cA x a V' K → Post (aLaw K b) V') : vX1_law cA x b V Post := by
  unfold vX1_law
  simp (disch := first | assumption | omega) only [nI_lt0, nI_clamp, vp_inT, nI_eq, imp_FT, imp_TF, true_and, and_true, bO_s, hH.x0, hH.x1, hH.x2, hH.x3, hH.x4, hH.x5, hH.x6, hH.x7, hH.x8, hH.x9, hH.x10, hH.x11, hH.x12, hH.x15, hH.x16, hH.x18, hH.x19, hH.x20, hH.vx, hH.c0, hH.c1, hH.c2, hH.c3, hH.c4, hH.c6, hH.vc, hH.vT, hH.vL, hH.vP, hH.vK, hH.t0, hH.t1, hH.t2, hH.t3, hH.t4, hH.vt, hH.l0, hH.l1, hH.l2, hH.l3, hH.l4, hH.vl, hH.p0, hH.p1, hH.p2, hH.vp, hH.k0, hH.w0, hH.k1, hH.w1, hH.k2, hH.w2, hH.k3, hH.w3, hH.k4, hH.w4, hH.k5, hH.w5, hH.q5, hH.vk, hH.vw, hH.sT, hH.sL, hH.sP, hH.sK, hH.gT, hH.gL, hH.gP, hH.gK]
  unfold aLaw at h
  refine p1_aWord hO hH (fun k e hk hb => bo (fun c => ?_) (fun c => ?_)) (fun e => ⟨fun _ => ?_, fun n q => (by cases q)⟩)
  · rw [e] at h; replace h := h V hH; (simp only [Bool.false_and, Bool.true_and, Bool.and_false, Bool.and_true, Bool.false_or, Bool.true_or, Bool.or_false, Bool.or_true, Bool.not_true, Bool.not_false, bI_t, bI_f, if_true, if_false, beq_self_eq_true, decide_true, decide_false, reduceCtorEq, Bool.false_eq_true, c] at h; exact h)
  · rw [e] at h
    subst hb
    simp (disch := first | assumption | omega) only [nI_lt0, nI_clamp, vp_inT, nI_eq, imp_FT, imp_TF, true_and, and_true, bO_s, hH.x0, hH.x1, hH.x2, hH.x3, hH.x4, hH.x5, hH.x6, hH.x7, hH.x8, hH.x9, hH.x10, hH.x11, hH.x12, hH.x15, hH.x16, hH.x18, hH.x19, hH.x20, hH.vx, hH.c0, hH.c1, hH.c2, hH.c3, hH.c4, hH.c6, hH.vc, hH.vT, hH.vL, hH.vP, hH.vK, hH.t0, hH.t1, hH.t2, hH.t3, hH.t4, hH.vt, hH.l0, hH.l1, hH.l2, hH.l3, hH.l4, hH.vl, hH.p0, hH.p1, hH.p2, hH.vp, hH.k0, hH.w0, hH.k1, hH.w1, hH.k2, hH.w2, hH.k3, hH.w3, hH.k4, hH.w4, hH.k5, hH.w5, hH.q5, hH.vk, hH.vw, hH.sT, hH.sL, hH.sP, hH.sK, hH.gT, hH.gL, hH.gP, hH.gK]
    refine p1_lawAt hO hH hk (fun g => ?_)
    replace h := h _ (hH.nam g)
    (simp only [Bool.false_and, Bool.true_and, Bool.and_false, Bool.and_true, Bool.false_or, Bool.true_or, Bool.or_false, Bool.or_true, Bool.not_true, Bool.not_false, bI_t, bI_f, if_true, if_false, beq_self_eq_true, decide_true, decide_false, reduceCtorEq, Bool.false_eq_true, c] at h; exact h)
  · rw [e] at h; exact h V hH
theorem p1_countWords {cA : Nat → ClassId} {x : Nat} {a : Ad} {V : VS} {K : Ka} {Post : VS → Prop} (hO : KO K) (hH : HK cA x a V K) {t : Nat} {b : Bool} {g : Nat → Int64} (ht : t < K.nL) (h : ∀ g', g' 5 = g 5 + lN (cnt (iR K t b) K.nK) → g' 6 = g 6 + lN (cnt (iQ K t b) K.nK) → g' 7 = g 7 + lN (cnt (iN K t b) K.nK) → (∀ j, j ≠ 5 → j ≠ 6 → j ≠ 7 → g' j = g j) → Post (vU V a.n (eN cA g'))) : vX1_countWords cA x (nI t) (bI b) (vU V a.n (eN cA g)) Post := by
  have h9T := hO.nT; have h9L := hO.nL; have h9K := hO.nK; have h9P := hO.nP
  have hH0 := hH
  unfold vX1_countWords
  refine upL (W := fun f i => ∀ g' : Nat → Int64, g' 5 = g 5 + lN (cnt (iR K t b) i) → g' 6 = g 6 + lN (cnt (iQ K t b) i) → g' 7 = g 7 + lN (cnt (iN K t b) i) → (∀ j, j ≠ 5 → j ≠ 6 → j ≠ 7 → g' j = g j) → vX1_countWords_l2 cA x (nI t) (bI b) Post f (nI i) (vU V a.n (eN cA g'))) (e := K.nK) ?_ ?_ |>.imp (fun f h => h g (by simp [cnt, lN_0]) (by simp [cnt, lN_0]) (by simp [cnt, lN_0]) (fun _ _ _ _ => rfl))
  · intro n g' q5 q6 q7 qo
    rw [vX1_countWords_l2]
    replace hH := hH0.nam g'
    simp (disch := first | assumption | omega) only [nI_lt0, nI_clamp, vp_inT, nI_eq, imp_FT, imp_TF, true_and, and_true, bO_s, hH.x0, hH.x1, hH.x2, hH.x3, hH.x4, hH.x5, hH.x6, hH.x7, hH.x8, hH.x9, hH.x10, hH.x11, hH.x12, hH.x15, hH.x16, hH.x18, hH.x19, hH.x20, hH.vx, hH.c0, hH.c1, hH.c2, hH.c3, hH.c4, hH.c6, hH.vc, hH.vT, hH.vL, hH.vP, hH.vK, hH.t0, hH.t1, hH.t2, hH.t3, hH.t4, hH.vt, hH.l0, hH.l1, hH.l2, hH.l3, hH.l4, hH.vl, hH.p0, hH.p1, hH.p2, hH.vp, hH.k0, hH.w0, hH.k1, hH.w1, hH.k2, hH.w2, hH.k3, hH.w3, hH.k4, hH.w4, hH.k5, hH.w5, hH.q5, hH.vk, hH.vw, hH.sT, hH.sL, hH.sP, hH.sK, hH.gT, hH.gL, hH.gP, hH.gK]
    exact br_t (Int32.le_refl _) (h g' q5 q6 q7 qo)
  · intro n i hi ih g' q5 q6 q7 qo
    rw [vX1_countWords_l2]
    replace hH := hH0.nam g'
    simp only [vX1_countWords_c98, vX1_countWords_c96, vX1_countWords_c70, forall_eq, nI_1]
    have no : iW K t b i = false → vX1_countWords_l2 cA x (nI t) (bI b) Post n (nI (i + 1)) (vU V a.n (eN cA g')) := fun z => ih g' (by rw [q5]; simp only [cnt, iR, z, Bool.false_and, if_false, Bool.false_eq_true, Nat.add_zero]) (by rw [q6]; simp only [cnt, iQ, z, Bool.false_and, if_false, Bool.false_eq_true, Nat.add_zero]) (by rw [q7]; simp only [cnt, iN, z, Bool.false_and, if_false, Bool.false_eq_true, Nat.add_zero]) qo
    simp (disch := first | assumption | omega) only [nI_lt0, nI_clamp, vp_inT, nI_eq, imp_FT, imp_TF, true_and, and_true, bO_s, hH.x0, hH.x1, hH.x2, hH.x3, hH.x4, hH.x5, hH.x6, hH.x7, hH.x8, hH.x9, hH.x10, hH.x11, hH.x12, hH.x15, hH.x16, hH.x18, hH.x19, hH.x20, hH.vx, hH.c0, hH.c1, hH.c2, hH.c3, hH.c4, hH.c6, hH.vc, hH.vT, hH.vL, hH.vP, hH.vK, hH.t0, hH.t1, hH.t2, hH.t3, hH.t4, hH.vt, hH.l0, hH.l1, hH.l2, hH.l3, hH.l4, hH.vl, hH.p0, hH.p1, hH.p2, hH.vp, hH.k0, hH.w0, hH.k1, hH.w1, hH.k2, hH.w2, hH.k3, hH.w3, hH.k4, hH.w4, hH.k5, hH.w5, hH.q5, hH.vk, hH.vw, hH.sT, hH.sL, hH.sP, hH.sK, hH.gT, hH.gL, hH.gP, hH.gK]
    refine br_f (nI_ge hi (by omega)) (p1_word_2 hO hH hi ht (bo (fun c => no ?_) (fun c => ?_)))
    · unfold iW in1; unfold hw1 hw at c
      cases e1 : hh K i <;> cases e2 : K.who i == t <;> cases e3 : K.isW i <;> simp_all
    · obtain ⟨c1, c2, c3⟩ := hw1_W c
      have c4 : hh K i = true := by unfold hw at c1; simp only [Bool.and_eq_true] at c1; exact c1.1
      simp (disch := first | assumption | omega) only [nI_lt0, nI_clamp, vp_inT, nI_eq, imp_FT, imp_TF, true_and, and_true, bO_s, hH.x0, hH.x1, hH.x2, hH.x3, hH.x4, hH.x5, hH.x6, hH.x7, hH.x8, hH.x9, hH.x10, hH.x11, hH.x12, hH.x15, hH.x16, hH.x18, hH.x19, hH.x20, hH.vx, hH.c0, hH.c1, hH.c2, hH.c3, hH.c4, hH.c6, hH.vc, hH.vT, hH.vL, hH.vP, hH.vK, hH.t0, hH.t1, hH.t2, hH.t3, hH.t4, hH.vt, hH.l0, hH.l1, hH.l2, hH.l3, hH.l4, hH.vl, hH.p0, hH.p1, hH.p2, hH.vp, hH.k0, hH.w0, hH.k1, hH.w1, hH.k2, hH.w2, hH.k3, hH.w3, hH.k4, hH.w4, hH.k5, hH.w5, hH.q5, hH.vk, hH.vw, hH.sT, hH.sL, hH.sP, hH.sK, hH.gT, hH.gL, hH.gP, hH.gK]
      refine p1_counts hO hH hi (bz (fun l => no ?_) (fun l => ?_))
      · unfold iW in1; rw [l]; simp
      · have ef : f2 K b i = fi K t b i := by
          unfold f2 fi
          congr 1
          refine anyB_congr (fun m hm => ?_)
          have : K.who i = t := by simpa using c3
          unfold f2B fi1 sy hw in1
          rw [this]
          cases hh K m <;> cases K.isW m <;> cases (K.who m == t) <;> cases b <;> cases tp K m <;> simp
        simp (disch := first | assumption | omega) only [nI_lt0, nI_clamp, vp_inT, nI_eq, imp_FT, imp_TF, true_and, and_true, bO_s, hH.x0, hH.x1, hH.x2, hH.x3, hH.x4, hH.x5, hH.x6, hH.x7, hH.x8, hH.x9, hH.x10, hH.x11, hH.x12, hH.x15, hH.x16, hH.x18, hH.x19, hH.x20, hH.vx, hH.c0, hH.c1, hH.c2, hH.c3, hH.c4, hH.c6, hH.vc, hH.vT, hH.vL, hH.vP, hH.vK, hH.t0, hH.t1, hH.t2, hH.t3, hH.t4, hH.vt, hH.l0, hH.l1, hH.l2, hH.l3, hH.l4, hH.vl, hH.p0, hH.p1, hH.p2, hH.vp, hH.k0, hH.w0, hH.k1, hH.w1, hH.k2, hH.w2, hH.k3, hH.w3, hH.k4, hH.w4, hH.k5, hH.w5, hH.q5, hH.vk, hH.vw, hH.sT, hH.sL, hH.sP, hH.sK, hH.gT, hH.gL, hH.gP, hH.gK]
        refine p1_isFirst hO hH hi ?_
        rw [ef]
        refine bz (fun d => no ?_) (fun d => ?_)
        · unfold iW; rw [d]; simp
        · have hW : iW K t b i = true := by unfold iW in1; rw [c4, c3, l, c2, d]; rfl
          simp (disch := first | assumption | omega) only [nI_lt0, nI_clamp, vp_inT, nI_eq, imp_FT, imp_TF, true_and, and_true, bO_s, hH.x0, hH.x1, hH.x2, hH.x3, hH.x4, hH.x5, hH.x6, hH.x7, hH.x8, hH.x9, hH.x10, hH.x11, hH.x12, hH.x15, hH.x16, hH.x18, hH.x19, hH.x20, hH.vx, hH.c0, hH.c1, hH.c2, hH.c3, hH.c4, hH.c6, hH.vc, hH.vT, hH.vL, hH.vP, hH.vK, hH.t0, hH.t1, hH.t2, hH.t3, hH.t4, hH.vt, hH.l0, hH.l1, hH.l2, hH.l3, hH.l4, hH.vl, hH.p0, hH.p1, hH.p2, hH.vp, hH.k0, hH.w0, hH.k1, hH.w1, hH.k2, hH.w2, hH.k3, hH.w3, hH.k4, hH.w4, hH.k5, hH.w5, hH.q5, hH.vk, hH.vw, hH.sT, hH.sL, hH.sP, hH.sK, hH.gT, hH.gL, hH.gP, hH.gK]
          have st : ∀ (p : Nat) (r s : Bool) (gg : Nat → Int64), rt K i = r → isNw K i = s → (p = if r then 5 else 6) → gg = vp_updL (vp_updL g' p (g' p + 1)) 7 (vp_updL g' p (g' p + 1) 7 + (if s then 1 else 0)) → vX1_countWords_l2 cA x (nI t) (bI b) Post n (nI (i + 1)) (vU V a.n (eN cA gg)) := by
            intro p r s gg hr hs hp hg
            refine ih gg ?_ ?_ ?_ (fun j j5 j6 j7 => ?_)
            · rw [hg]
              simp only [cnt, iR, hW, hr, Bool.true_and]
              cases r
              · subst hp; simp [uL_if, q5]
              · subst hp; simp [uL_if, q5, Int64.add_assoc, lN_1]
            · rw [hg]
              simp only [cnt, iQ, hW, hr, Bool.true_and]
              cases r
              · subst hp; simp [uL_if, q6, Int64.add_assoc, lN_1]
              · subst hp; simp [uL_if, q6]
            · rw [hg]
              simp only [cnt, iN, hW, hs, Bool.true_and]
              have hp7 : ¬ 7 = p := by subst hp; cases r <;> decide
              cases s
              · simp [uL_if, q7, hp7]
              · simp [uL_if, q7, hp7, Int64.add_assoc, lN_1]
            · rw [hg, uL_if, if_neg j7, uL_if, if_neg (by subst hp; cases r; exact j6; exact j5)]
              exact qo j j5 j6 j7
          refine p1_isRight hO hH hi c2 (bz (fun r => ?_) (fun r => ?_))
          · simp (disch := first | assumption | omega) only [nI_lt0, nI_clamp, vp_inT, nI_eq, imp_FT, imp_TF, true_and, and_true, bO_s, hH.x0, hH.x1, hH.x2, hH.x3, hH.x4, hH.x5, hH.x6, hH.x7, hH.x8, hH.x9, hH.x10, hH.x11, hH.x12, hH.x15, hH.x16, hH.x18, hH.x19, hH.x20, hH.vx, hH.c0, hH.c1, hH.c2, hH.c3, hH.c4, hH.c6, hH.vc, hH.vT, hH.vL, hH.vP, hH.vK, hH.t0, hH.t1, hH.t2, hH.t3, hH.t4, hH.vt, hH.l0, hH.l1, hH.l2, hH.l3, hH.l4, hH.vl, hH.p0, hH.p1, hH.p2, hH.vp, hH.k0, hH.w0, hH.k1, hH.w1, hH.k2, hH.w2, hH.k3, hH.w3, hH.k4, hH.w4, hH.k5, hH.w5, hH.q5, hH.vk, hH.vw, hH.sT, hH.sL, hH.sP, hH.sK, hH.gT, hH.gL, hH.gP, hH.gK, nl_6, nt_6, nl_7]
            have hH1 := hH0.nam (vp_updL g' 6 (g' 6 + 1))
            rw [hH1.x12, bO_s, bO_s, nl_7, bO_s, hH1.vw hi c2]
            refine p1_isNew hO hH1 hi c2 (bz (fun s => ?_) (fun s => ?_))
            · rw [nt_7]; exact st 6 false false _ r s rfl rfl
            · rw [nt_7]; exact st 6 false true _ r s rfl rfl
          · simp (disch := first | assumption | omega) only [nI_lt0, nI_clamp, vp_inT, nI_eq, imp_FT, imp_TF, true_and, and_true, bO_s, hH.x0, hH.x1, hH.x2, hH.x3, hH.x4, hH.x5, hH.x6, hH.x7, hH.x8, hH.x9, hH.x10, hH.x11, hH.x12, hH.x15, hH.x16, hH.x18, hH.x19, hH.x20, hH.vx, hH.c0, hH.c1, hH.c2, hH.c3, hH.c4, hH.c6, hH.vc, hH.vT, hH.vL, hH.vP, hH.vK, hH.t0, hH.t1, hH.t2, hH.t3, hH.t4, hH.vt, hH.l0, hH.l1, hH.l2, hH.l3, hH.l4, hH.vl, hH.p0, hH.p1, hH.p2, hH.vp, hH.k0, hH.w0, hH.k1, hH.w1, hH.k2, hH.w2, hH.k3, hH.w3, hH.k4, hH.w4, hH.k5, hH.w5, hH.q5, hH.vk, hH.vw, hH.sT, hH.sL, hH.sP, hH.sK, hH.gT, hH.gL, hH.gP, hH.gK, nl_5, nt_5, nl_7]
            have hH1 := hH0.nam (vp_updL g' 5 (g' 5 + 1))
            rw [hH1.x12, bO_s, bO_s, nl_7, bO_s, hH1.vw hi c2]
            refine p1_isNew hO hH1 hi c2 (bz (fun s => ?_) (fun s => ?_))
            · rw [nt_7]; exact st 5 true false _ r s rfl rfl
            · rw [nt_7]; exact st 5 true true _ r s rfl rfl
/-- the names of a talk -/
theorem p1_hearTalk {cA : Nat → ClassId} {x : Nat} {a : Ad} {V : VS} {K : Ka} {Post : VS → Prop} (hO : KO K) (hH : HK cA x a V K) {t : Nat} {b : Bool} (ht : t < K.nL) (h : ∀ g, (∀ j, j < 10 → g j = if b then tpN K t j else btN K t K.nP j) → Post (vU V a.n (eN cA g))) : vX1_hearTalk cA x (nI t) (bI b) V Post := by
  have h9T := hO.nT; have h9L := hO.nL; have h9K := hO.nK; have h9P := hO.nP
  have hH0 := hH
  obtain ⟨g0, e0⟩ := hH.nm0
  unfold vX1_hearTalk
  simp (disch := first | assumption | omega) only [nI_lt0, nI_clamp, vp_inT, nI_eq, imp_FT, imp_TF, true_and, and_true, bO_s, hH.x0, hH.x1, hH.x2, hH.x3, hH.x4, hH.x5, hH.x6, hH.x7, hH.x8, hH.x9, hH.x10, hH.x11, hH.x12, hH.x15, hH.x16, hH.x18, hH.x19, hH.x20, hH.vx, hH.c0, hH.c1, hH.c2, hH.c3, hH.c4, hH.c6, hH.vc, hH.vT, hH.vL, hH.vP, hH.vK, hH.t0, hH.t1, hH.t2, hH.t3, hH.t4, hH.vt, hH.l0, hH.l1, hH.l2, hH.l3, hH.l4, hH.vl, hH.p0, hH.p1, hH.p2, hH.vp, hH.k0, hH.w0, hH.k1, hH.w1, hH.k2, hH.w2, hH.k3, hH.w3, hH.k4, hH.w4, hH.k5, hH.w5, hH.q5, hH.vk, hH.vw, hH.sT, hH.sL, hH.sP, hH.sK, hH.gT, hH.gL, hH.gP, hH.gK]
  refine p1_nothing hO hH ht (fun g1 q1 => ?_)
  replace hH := hH0.nam g1
  have c64 : ∀ w : Int64, (if b then tpN K t 1 else btN K t K.nP 1) = w → vX1_hearTalk_c64 cA x (nI t) (bI b) Post (a.l t) w 1 (some a.n) (vU V a.n (eN cA g1)) := by
    intro w hw
    unfold vX1_hearTalk_c64
    rw [bO_s, nt_1, bO_s]
    replace hH := hH0.nam (vp_updL g1 1 w)
    simp (disch := first | assumption | omega) only [nI_lt0, nI_clamp, vp_inT, nI_eq, imp_FT, imp_TF, true_and, and_true, bO_s, hH.x0, hH.x1, hH.x2, hH.x3, hH.x4, hH.x5, hH.x6, hH.x7, hH.x8, hH.x9, hH.x10, hH.x11, hH.x12, hH.x15, hH.x16, hH.x18, hH.x19, hH.x20, hH.vx, hH.c0, hH.c1, hH.c2, hH.c3, hH.c4, hH.c6, hH.vc, hH.vT, hH.vL, hH.vP, hH.vK, hH.t0, hH.t1, hH.t2, hH.t3, hH.t4, hH.vt, hH.l0, hH.l1, hH.l2, hH.l3, hH.l4, hH.vl, hH.p0, hH.p1, hH.p2, hH.vp, hH.k0, hH.w0, hH.k1, hH.w1, hH.k2, hH.w2, hH.k3, hH.w3, hH.k4, hH.w4, hH.k5, hH.w5, hH.q5, hH.vk, hH.vw, hH.sT, hH.sL, hH.sP, hH.sK, hH.gT, hH.gL, hH.gP, hH.gK]
    refine p1_countAsks hO hH0 ht (Nat.le_refl _) (fun g2 a3 a4 ao => ?_)
    replace hH := hH0.nam g2
    simp (disch := first | assumption | omega) only [nI_lt0, nI_clamp, vp_inT, nI_eq, imp_FT, imp_TF, true_and, and_true, bO_s, hH.x0, hH.x1, hH.x2, hH.x3, hH.x4, hH.x5, hH.x6, hH.x7, hH.x8, hH.x9, hH.x10, hH.x11, hH.x12, hH.x15, hH.x16, hH.x18, hH.x19, hH.x20, hH.vx, hH.c0, hH.c1, hH.c2, hH.c3, hH.c4, hH.c6, hH.vc, hH.vT, hH.vL, hH.vP, hH.vK, hH.t0, hH.t1, hH.t2, hH.t3, hH.t4, hH.vt, hH.l0, hH.l1, hH.l2, hH.l3, hH.l4, hH.vl, hH.p0, hH.p1, hH.p2, hH.vp, hH.k0, hH.w0, hH.k1, hH.w1, hH.k2, hH.w2, hH.k3, hH.w3, hH.k4, hH.w4, hH.k5, hH.w5, hH.q5, hH.vk, hH.vw, hH.sT, hH.sL, hH.sP, hH.sK, hH.gT, hH.gL, hH.gP, hH.gK]
    refine p1_countWords hO hH0 ht (fun g3 b5 b6 b7 bo => ?_)
    have base : ∀ j, j < 10 → g3 j = if j = 1 then w else tkN K t b K.nK j := by
      refine lt10 ?_ ?_ ?_ ?_ ?_ ?_ ?_ ?_ ?_ ?_
      · rw [bo 0 (by decide) (by decide) (by decide), ao 0 (by decide) (by decide)]; simp [uL_if, q1, nm0, tkN]
      · rw [bo 1 (by decide) (by decide) (by decide), ao 1 (by decide) (by decide)]; simp [uL_if, q1, nm0, tkN]
      · rw [bo 2 (by decide) (by decide) (by decide), ao 2 (by decide) (by decide)]; simp [uL_if, q1, nm0, tkN]
      · rw [bo 3 (by decide) (by decide) (by decide), a3]; simp [uL_if, q1, nm0, tkN]
      · rw [bo 4 (by decide) (by decide) (by decide), a4]; simp [uL_if, q1, nm0, tkN]
      · rw [b5, ao 5 (by decide) (by decide)]; simp [uL_if, q1, nm0, tkN]
      · rw [b6, ao 6 (by decide) (by decide)]; simp [uL_if, q1, nm0, tkN]
      · rw [b7, ao 7 (by decide) (by decide)]; simp [uL_if, q1, nm0, tkN]
      · rw [bo 8 (by decide) (by decide) (by decide), ao 8 (by decide) (by decide)]; simp [uL_if, q1, nm0, tkN]
      · rw [bo 9 (by decide) (by decide) (by decide), ao 9 (by decide) (by decide)]; simp [uL_if, q1, nm0, tkN]
    replace hH := hH0.nam g3
    refine bz (fun c => ?_) (fun c => ?_)
    · subst c
      simp (disch := first | assumption | omega) only [nI_lt0, nI_clamp, vp_inT, nI_eq, imp_FT, imp_TF, true_and, and_true, bO_s, hH.x0, hH.x1, hH.x2, hH.x3, hH.x4, hH.x5, hH.x6, hH.x7, hH.x8, hH.x9, hH.x10, hH.x11, hH.x12, hH.x15, hH.x16, hH.x18, hH.x19, hH.x20, hH.vx, hH.c0, hH.c1, hH.c2, hH.c3, hH.c4, hH.c6, hH.vc, hH.vT, hH.vL, hH.vP, hH.vK, hH.t0, hH.t1, hH.t2, hH.t3, hH.t4, hH.vt, hH.l0, hH.l1, hH.l2, hH.l3, hH.l4, hH.vl, hH.p0, hH.p1, hH.p2, hH.vp, hH.k0, hH.w0, hH.k1, hH.w1, hH.k2, hH.w2, hH.k3, hH.w3, hH.k4, hH.w4, hH.k5, hH.w5, hH.q5, hH.vk, hH.vw, hH.sT, hH.sL, hH.sP, hH.sK, hH.gT, hH.gL, hH.gP, hH.gK]
      refine p1_off hO hH ht ?_
      simp (disch := first | assumption | omega) only [nI_lt0, nI_clamp, vp_inT, nI_eq, imp_FT, imp_TF, true_and, and_true, bO_s, hH.x0, hH.x1, hH.x2, hH.x3, hH.x4, hH.x5, hH.x6, hH.x7, hH.x8, hH.x9, hH.x10, hH.x11, hH.x12, hH.x15, hH.x16, hH.x18, hH.x19, hH.x20, hH.vx, hH.c0, hH.c1, hH.c2, hH.c3, hH.c4, hH.c6, hH.vc, hH.vT, hH.vL, hH.vP, hH.vK, hH.t0, hH.t1, hH.t2, hH.t3, hH.t4, hH.vt, hH.l0, hH.l1, hH.l2, hH.l3, hH.l4, hH.vl, hH.p0, hH.p1, hH.p2, hH.vp, hH.k0, hH.w0, hH.k1, hH.w1, hH.k2, hH.w2, hH.k3, hH.w3, hH.k4, hH.w4, hH.k5, hH.w5, hH.q5, hH.vk, hH.vw, hH.sT, hH.sL, hH.sP, hH.sK, hH.gT, hH.gL, hH.gP, hH.gK, nt_2]
      refine upL (W := fun f i => ∀ g : Nat → Int64, (∀ j, j < 10 → g j = btN K t i j) → vX1_hearTalk_l110 cA x (nI t) (bI false) Post f (nI i) (vU V a.n (eN cA g))) (e := K.nP) ?_ ?_ |>.imp (fun f h => h _ ?_)
      · intro n g p2
        rw [vX1_hearTalk_l110]
        replace hH := hH0.nam g
        simp (disch := first | assumption | omega) only [nI_lt0, nI_clamp, vp_inT, nI_eq, imp_FT, imp_TF, true_and, and_true, bO_s, hH.x0, hH.x1, hH.x2, hH.x3, hH.x4, hH.x5, hH.x6, hH.x7, hH.x8, hH.x9, hH.x10, hH.x11, hH.x12, hH.x15, hH.x16, hH.x18, hH.x19, hH.x20, hH.vx, hH.c0, hH.c1, hH.c2, hH.c3, hH.c4, hH.c6, hH.vc, hH.vT, hH.vL, hH.vP, hH.vK, hH.t0, hH.t1, hH.t2, hH.t3, hH.t4, hH.vt, hH.l0, hH.l1, hH.l2, hH.l3, hH.l4, hH.vl, hH.p0, hH.p1, hH.p2, hH.vp, hH.k0, hH.w0, hH.k1, hH.w1, hH.k2, hH.w2, hH.k3, hH.w3, hH.k4, hH.w4, hH.k5, hH.w5, hH.q5, hH.vk, hH.vw, hH.sT, hH.sL, hH.sP, hH.sK, hH.gT, hH.gL, hH.gP, hH.gK]
        exact br_t (Int32.le_refl _) (h g (fun j hj => by rw [p2 j hj]; rfl))
      · intro n i hi ih g p2
        rw [vX1_hearTalk_l110]
        replace hH := hH0.nam g
        have h9w := hO.pWho i hi
        simp only [vX1_hearTalk_c190, vX1_hearTalk_c188, forall_eq, nI_1]
        simp (disch := first | assumption | omega) only [nI_lt0, nI_clamp, vp_inT, nI_eq, imp_FT, imp_TF, true_and, and_true, bO_s, hH.x0, hH.x1, hH.x2, hH.x3, hH.x4, hH.x5, hH.x6, hH.x7, hH.x8, hH.x9, hH.x10, hH.x11, hH.x12, hH.x15, hH.x16, hH.x18, hH.x19, hH.x20, hH.vx, hH.c0, hH.c1, hH.c2, hH.c3, hH.c4, hH.c6, hH.vc, hH.vT, hH.vL, hH.vP, hH.vK, hH.t0, hH.t1, hH.t2, hH.t3, hH.t4, hH.vt, hH.l0, hH.l1, hH.l2, hH.l3, hH.l4, hH.vl, hH.p0, hH.p1, hH.p2, hH.vp, hH.k0, hH.w0, hH.k1, hH.w1, hH.k2, hH.w2, hH.k3, hH.w3, hH.k4, hH.w4, hH.k5, hH.w5, hH.q5, hH.vk, hH.vw, hH.sT, hH.sL, hH.sP, hH.sK, hH.gT, hH.gL, hH.gP, hH.gK, nl_9, nt_9]
        refine br_f (nI_ge hi (by omega)) (br_c (fun c => ?_) (fun c => ?_))
        · have hH1 := hH0.nam (vp_updL g 9 (g 9 + 1))
          rw [hH1.x12, bO_s, bO_s, nl_8, bO_s, hH1.vx]
          refine p1_kindOf hO hH1 hi (br_c (fun d => ?_) (fun d => ?_))
          · rw [nt_8]
            refine ih _ (lt10 ?_ ?_ ?_ ?_ ?_ ?_ ?_ ?_ ?_ ?_) <;> simp [uL_if, p2, btN, tkN, cnt, pgB, pgT, c, Int32.not_lt.mpr d, lN_1]
          · rw [nt_8]
            refine ih _ (lt10 ?_ ?_ ?_ ?_ ?_ ?_ ?_ ?_ ?_ ?_) <;> simp [uL_if, p2, btN, tkN, cnt, pgB, pgT, c, Int32.not_le.mp d, lN_1]
        · refine ih _ (fun j hj => ?_)
          rw [p2 j hj]
          simp [btN, cnt, pgB, pgT, c]
      · have hw' : w = (K.ends t - K.begins t).toInt64 := hw.symm
        refine lt10 ?_ ?_ ?_ ?_ ?_ ?_ ?_ ?_ ?_ ?_ <;> simp [uL_if, base, btN, tkN, cnt, hw'] <;> rfl
    · subst c
      refine h g3 (fun j hj => ?_)
      rw [base j hj]
      simp only [if_true] at hw ⊢
      by_cases c : j = 1
      · subst c; rw [if_pos rfl]; exact hw.symm
      · rw [if_neg c, tpN, if_neg c]
  simp (disch := first | assumption | omega) only [nI_lt0, nI_clamp, vp_inT, nI_eq, imp_FT, imp_TF, true_and, and_true, bO_s, hH.x0, hH.x1, hH.x2, hH.x3, hH.x4, hH.x5, hH.x6, hH.x7, hH.x8, hH.x9, hH.x10, hH.x11, hH.x12, hH.x15, hH.x16, hH.x18, hH.x19, hH.x20, hH.vx, hH.c0, hH.c1, hH.c2, hH.c3, hH.c4, hH.c6, hH.vc, hH.vT, hH.vL, hH.vP, hH.vK, hH.t0, hH.t1, hH.t2, hH.t3, hH.t4, hH.vt, hH.l0, hH.l1, hH.l2, hH.l3, hH.l4, hH.vl, hH.p0, hH.p1, hH.p2, hH.vp, hH.k0, hH.w0, hH.k1, hH.w1, hH.k2, hH.w2, hH.k3, hH.w3, hH.k4, hH.w4, hH.k5, hH.w5, hH.q5, hH.vk, hH.vw, hH.sT, hH.sL, hH.sP, hH.sK, hH.gT, hH.gL, hH.gP, hH.gK]
  refine bz (fun c => ?_) (fun c => ?_)
  · subst c
    exact c64 _ rfl
  · subst c
    refine ek_if (Iff.of_eq (m1_ge (hO.tpm ht))) (fun d => c64 _ (by simp [tpN, d])) (fun d => c64 _ (by rw [Classical.not_not] at d; simp [tpN, d]))
