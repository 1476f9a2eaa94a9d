theorem wo_x16 (r f d p o n : Bool) : wo r f d p o n &&& ((14 : Int32) ||| 16) = 2 ↔ (f && (!d && !p) && !o) = true := by
  cases r <;> cases f <;> cases d <;> cases p <;> cases o <;> cases n <;> decide
theorem wo_x0 (r f d p o n : Bool) : wo r f d p o n &&& ((14 : Int32) ||| 0) = 2 ↔ (f && (!d && !p)) = true := by
  cases r <;> cases f <;> cases d <;> cases p <;> cases o <;> cases n <;> decide
theorem p1_odds {cA : Nat → ClassId} {x : Nat} {a : Ad} {V : VS} {K : Ka} {Post : Int64 → VS → Prop} (hO : KO K) (hH : HK cA x a V K) {b s c : Int32} (h : ∀ V', HK cA x a V' K → Post (aOdds K b s c) V') : vX1_odds cA x b s c V Post := by
  have h9T := hO.nT; have h9L := hO.nL; have h9K := hO.nK; have h9P := hO.nP
  unfold vX1_odds
  simp (disch := first | assumption | omega) only [nI_lt0, nI_clamp, vp_inT, nI_eq, imp_FT, imp_TF, true_and, and_true, bO_s, hH.x0, hH.x1, hH.x2, hH.x3, hH.x4, hH.x5, hH.x6, hH.x7, hH.x8, hH.x9, hH.x10, hH.x11, hH.x12, hH.x15, hH.x16, hH.x18, hH.x19, hH.x20, hH.vx, hH.c0, hH.c1, hH.c2, hH.c3, hH.c4, hH.c6, hH.vc, hH.vT, hH.vL, hH.vP, hH.vK, hH.t0, hH.t1, hH.t2, hH.t3, hH.t4, hH.vt, hH.l0, hH.l1, hH.l2, hH.l3, hH.l4, hH.vl, hH.p0, hH.p1, hH.p2, hH.vp, hH.k0, hH.w0, hH.k1, hH.w1, hH.k2, hH.w2, hH.k3, hH.w3, hH.k4, hH.w4, hH.k5, hH.w5, hH.q5, hH.vk, hH.vw, hH.sT, hH.sL, hH.sP, hH.sK, hH.gT, hH.gL, hH.gP, hH.gK]
  unfold aOdds at h
  refine p1_isTeller (Post := fun r_1 V_2 => _) hO hH (fun t e ht hb => br_f (by decide) ?_) (fun e => br_t rfl ?_)
  · rw [e] at h
    subst hb
    dsimp only at h
    refine p1_in (bz (fun c1 => ?_) (fun c1 => p1_in (bz (fun c2 => ?_) (fun c2 => ?_))))
    · rw [Bool.and_eq_false_iff, decide_eq_false_iff_not, decide_eq_false_iff_not] at c1
      rw [if_neg (fun q => c1.elim (fun c => c q.1.1) (fun c => c q.1.2))] at h
      exact h _ hH
    · rw [Bool.and_eq_false_iff, decide_eq_false_iff_not, decide_eq_false_iff_not] at c2
      rw [if_neg (fun q => c2.elim (fun c => c q.2.1) (fun c => c q.2.2))] at h
      exact h _ hH
    · rw [Bool.and_eq_true_iff, decide_eq_true_iff, decide_eq_true_iff] at c1 c2
      rw [if_pos ⟨c1, c2⟩] at h
      obtain ⟨u, w, b1, b2, b3, b4⟩ := hO.base
      have k236 : ∀ V2 : VS, HK cA x a V2 K → OX x a V2 K (oR K t s) → vX1_odds_c236 cA x (nI t) s c Post V2 := by
        intro V2 m1 m2
        have h := h V2 m1
        obtain ⟨nu, hx⟩ := m2
        unfold vX1_odds_c236
        refine br_c (fun g => ?_) (fun g => ?_)
        · rw [if_pos g] at h
          exact bO_of (gJ_of (v := lN ((oR K t s).1 / Nat.gcd (oR K t s).1 (oR K t s).2)) hx rfl rfl) h
        · rw [if_neg g] at h
          exact bO_of (gJ_of (v := lN ((oR K t s).2 / Nat.gcd (oR K t s).1 (oR K t s).2)) hx rfl rfl) h
      obtain ⟨fo, ag, nu, hx⟩ := hH.obj
      refine bO_of (pF_of (l := oX a K fo ag nu) _ hx rfl (show 13 < 21 by decide)) (bO_of (pF_of _ (vU_s _ _ _) rfl (show 14 < 21 by decide)) ?_)
      rw [vU_vU]
      have hx1 := vU_s V x (.inr (1, oX a K (lN 1) (lN 1) nu))
      have hH1 : HK cA x a (vU V x (.inr (1, oX a K (lN 1) (lN 1) nu))) K := hH.setX rfl rfl (fun P g => g) (fun P g => g)
      rw [show vU V x (.inr (1, ((oX a K fo ag nu).set 13 (.long 1)).set 14 (.long 1))) = vU V x (.inr (1, oX a K (lN 1) (lN 1) nu)) from rfl]
      generalize vU V x (.inr (1, oX a K (lN 1) (lN 1) nu)) = V1 at *
      rw [hH1.x8, bO_s, hH1.x9, bO_s, hH1.vx, b1, b2, nI_l (by omega), nI_l (by omega)]
      have bs : K.isThere.toNatClampNeg = u ∧ K.isNot.toNatClampNeg = w := ⟨by rw [b1, nI_clamp (by omega)], by rw [b2, nI_clamp (by omega)]⟩
      refine p1_weigh hx1 (by omega) (by omega) (by omega) ?_
      have hH2 : HK cA x a (vU V1 x (.inr (1, oX a K (lN (1 * u / Nat.gcd (1 * u) (1 * w))) (lN (1 * w / Nat.gcd (1 * u) (1 * w))) nu))) K := hH1.setX rfl rfl (fun P g => g) (fun P g => g)
      have hx2 : OX x a (vU V1 x (.inr (1, oX a K (lN (1 * u / Nat.gcd (1 * u) (1 * w))) (lN (1 * w / Nat.gcd (1 * u) (1 * w))) nu))) K (u, w) := ⟨nu, by rw [vU_s, Nat.one_mul, Nat.one_mul]⟩
      generalize vU V1 x (.inr (1, oX a K (lN (1 * u / Nat.gcd (1 * u) (1 * w))) (lN (1 * w / Nat.gcd (1 * u) (1 * w))) nu)) = V2 at *
      have k143 : ∀ V3 : VS, HK cA x a V3 K → OX x a V3 K (if s = 2 then (u, w) else oR K t s) → vX1_odds_c143 cA x (nI t) s c Post V3 := by
        intro V3 m1 m2
        unfold vX1_odds_c143
        by_cases g : s = 2
        · rw [if_pos g] at m2
          refine upL (W := fun f i => ∀ V3 : VS, HK cA x a V3 K → OX x a V3 K (oY K t i) → vX1_odds_l146 cA x (nI t) s c Post f (nI i) V3) (e := K.nT) ?_ ?_ |>.imp (fun f h => h V3 m1 (by unfold oY; rw [bs.1, bs.2]; exact m2))
          · intro n V4 hH p2
            rw [vX1_odds_l146]
            simp (disch := first | assumption | omega) only [nI_lt0, nI_clamp, vp_inT, nI_eq, imp_FT, imp_TF, true_and, and_true, bO_s, hH.x0, hH.x1, hH.x2, hH.x3, hH.x4, hH.x5, hH.x6, hH.x7, hH.x8, hH.x9, hH.x10, hH.x11, hH.x12, hH.x15, hH.x16, hH.x18, hH.x19, hH.x20, hH.vx, hH.c0, hH.c1, hH.c2, hH.c3, hH.c4, hH.c6, hH.vc, hH.vT, hH.vL, hH.vP, hH.vK, hH.t0, hH.t1, hH.t2, hH.t3, hH.t4, hH.vt, hH.l0, hH.l1, hH.l2, hH.l3, hH.l4, hH.vl, hH.p0, hH.p1, hH.p2, hH.vp, hH.k0, hH.w0, hH.k1, hH.w1, hH.k2, hH.w2, hH.k3, hH.w3, hH.k4, hH.w4, hH.k5, hH.w5, hH.q5, hH.vk, hH.vw, hH.sT, hH.sL, hH.sP, hH.sK, hH.gT, hH.gL, hH.gP, hH.gK]
            refine br_t (Int32.le_refl _) (k236 V4 hH ?_)
            unfold oR
            rw [if_pos g, ← oY_P hO]
            exact p2
          · intro n y hy ih V4 hH p2
            rw [vX1_odds_l146]
            simp only [vX1_odds_c230, vX1_odds_c227, forall_eq, nI_1]
            simp (disch := first | assumption | omega) only [nI_lt0, nI_clamp, vp_inT, nI_eq, imp_FT, imp_TF, true_and, and_true, bO_s, hH.x0, hH.x1, hH.x2, hH.x3, hH.x4, hH.x5, hH.x6, hH.x7, hH.x8, hH.x9, hH.x10, hH.x11, hH.x12, hH.x15, hH.x16, hH.x18, hH.x19, hH.x20, hH.vx, hH.c0, hH.c1, hH.c2, hH.c3, hH.c4, hH.c6, hH.vc, hH.vT, hH.vL, hH.vP, hH.vK, hH.t0, hH.t1, hH.t2, hH.t3, hH.t4, hH.vt, hH.l0, hH.l1, hH.l2, hH.l3, hH.l4, hH.vl, hH.p0, hH.p1, hH.p2, hH.vp, hH.k0, hH.w0, hH.k1, hH.w1, hH.k2, hH.w2, hH.k3, hH.w3, hH.k4, hH.w4, hH.k5, hH.w5, hH.q5, hH.vk, hH.vw, hH.sT, hH.sL, hH.sP, hH.sK, hH.gT, hH.gL, hH.gP, hH.gK]
            refine br_f (nI_ge hy (by omega)) (br_t g (p1_firstPage hO hH ht hy (fun k hk h1 h2 => ⟨fun q => (by cases q), fun n9 q => ?_⟩) (fun h2 => ⟨fun _ => ?_, fun n9 q => (by cases q)⟩)))
            · cases q
              obtain ⟨e1, e2⟩ := py_of hk h1 h2
              simp (disch := first | assumption | omega) only [nI_lt0, nI_clamp, vp_inT, nI_eq, imp_FT, imp_TF, true_and, and_true, bO_s, hH.x0, hH.x1, hH.x2, hH.x3, hH.x4, hH.x5, hH.x6, hH.x7, hH.x8, hH.x9, hH.x10, hH.x11, hH.x12, hH.x15, hH.x16, hH.x18, hH.x19, hH.x20, hH.vx, hH.c0, hH.c1, hH.c2, hH.c3, hH.c4, hH.c6, hH.vc, hH.vT, hH.vL, hH.vP, hH.vK, hH.t0, hH.t1, hH.t2, hH.t3, hH.t4, hH.vt, hH.l0, hH.l1, hH.l2, hH.l3, hH.l4, hH.vl, hH.p0, hH.p1, hH.p2, hH.vp, hH.k0, hH.w0, hH.k1, hH.w1, hH.k2, hH.w2, hH.k3, hH.w3, hH.k4, hH.w4, hH.k5, hH.w5, hH.q5, hH.vk, hH.vw, hH.sT, hH.sL, hH.sP, hH.sK, hH.gT, hH.gL, hH.gP, hH.gK]
              have st : ∀ r : Bool, decide (K.pValue k = K.isSo y) = r → vX1_weigh_2 cA x (a.t y) (bI r) V4 (fun V_88 => vX1_odds_l146 cA x (nI t) s c Post n (nI (y + 1)) V_88) := by
                intro r hr
                refine p1_weigh_2 (n := y) hO hH hy p2 (oY_OK hO t y (by omega)) (by omega) (fun V' n1 n2 => ih V' n1 ?_)
                rw [hr] at e1 e2
                unfold oY
                rw [e1, e2]
                cases r
                · exact n2
                · exact n2
              refine br_c (fun q => ?_) (fun q => ?_)
              · exact st true (decide_eq_true q)
              · exact st false (decide_eq_false q)
            · obtain ⟨e1, e2⟩ := py_no h2
              refine ih V4 hH ?_
              unfold oY
              rw [e1, e2]
              exact p2
        · rw [if_neg g] at m2
          refine ⟨1, ?_⟩
          rw [vX1_odds_l146]
          have hH := m1
          simp (disch := first | assumption | omega) only [nI_lt0, nI_clamp, vp_inT, nI_eq, imp_FT, imp_TF, true_and, and_true, bO_s, hH.x0, hH.x1, hH.x2, hH.x3, hH.x4, hH.x5, hH.x6, hH.x7, hH.x8, hH.x9, hH.x10, hH.x11, hH.x12, hH.x15, hH.x16, hH.x18, hH.x19, hH.x20, hH.vx, hH.c0, hH.c1, hH.c2, hH.c3, hH.c4, hH.c6, hH.vc, hH.vT, hH.vL, hH.vP, hH.vK, hH.t0, hH.t1, hH.t2, hH.t3, hH.t4, hH.vt, hH.l0, hH.l1, hH.l2, hH.l3, hH.l4, hH.vl, hH.p0, hH.p1, hH.p2, hH.vp, hH.k0, hH.w0, hH.k1, hH.w1, hH.k2, hH.w2, hH.k3, hH.w3, hH.k4, hH.w4, hH.k5, hH.w5, hH.q5, hH.vk, hH.vw, hH.sT, hH.sL, hH.sP, hH.sK, hH.gT, hH.gL, hH.gP, hH.gK]
          exact br_c (fun _ => k236 V3 hH m2) (fun _ => br_f g (k236 V3 hH m2))
      refine upL (W := fun f i => ∀ V3 : VS, HK cA x a V3 K → OX x a V3 K (if s = 2 then (u, w) else oL K t s i) → vX1_odds_l57 cA x (nI t) s c Post f (nI i) V3) (e := K.nK) ?_ ?_ |>.imp (fun f h => h V2 hH2 (by
        by_cases g : s = 2
        · rw [if_pos g]; exact hx2
        · rw [if_neg g]; unfold oL; rw [bs.1, bs.2]; exact hx2))
      · intro n V3 hH p2
        rw [vX1_odds_l57]
        simp (disch := first | assumption | omega) only [nI_lt0, nI_clamp, vp_inT, nI_eq, imp_FT, imp_TF, true_and, and_true, bO_s, hH.x0, hH.x1, hH.x2, hH.x3, hH.x4, hH.x5, hH.x6, hH.x7, hH.x8, hH.x9, hH.x10, hH.x11, hH.x12, hH.x15, hH.x16, hH.x18, hH.x19, hH.x20, hH.vx, hH.c0, hH.c1, hH.c2, hH.c3, hH.c4, hH.c6, hH.vc, hH.vT, hH.vL, hH.vP, hH.vK, hH.t0, hH.t1, hH.t2, hH.t3, hH.t4, hH.vt, hH.l0, hH.l1, hH.l2, hH.l3, hH.l4, hH.vl, hH.p0, hH.p1, hH.p2, hH.vp, hH.k0, hH.w0, hH.k1, hH.w1, hH.k2, hH.w2, hH.k3, hH.w3, hH.k4, hH.w4, hH.k5, hH.w5, hH.q5, hH.vk, hH.vw, hH.sT, hH.sL, hH.sP, hH.sK, hH.gT, hH.gL, hH.gP, hH.gK]
        refine br_t (Int32.le_refl _) (k143 V3 hH ?_)
        by_cases g : s = 2
        · rw [if_pos g] at p2 ⊢; exact p2
        · rw [if_neg g] at p2 ⊢; unfold oR; rw [if_neg g]; exact p2
      · intro n i hi ih V3 hH p2
        rw [vX1_odds_l57]
        have h9t := hO.thing i hi
        simp only [vX1_odds_c113, vX1_odds_c137, forall_eq, nI_1]
        simp (disch := first | assumption | omega) only [nI_lt0, nI_clamp, vp_inT, nI_eq, imp_FT, imp_TF, true_and, and_true, bO_s, hH.x0, hH.x1, hH.x2, hH.x3, hH.x4, hH.x5, hH.x6, hH.x7, hH.x8, hH.x9, hH.x10, hH.x11, hH.x12, hH.x15, hH.x16, hH.x18, hH.x19, hH.x20, hH.vx, hH.c0, hH.c1, hH.c2, hH.c3, hH.c4, hH.c6, hH.vc, hH.vT, hH.vL, hH.vP, hH.vK, hH.t0, hH.t1, hH.t2, hH.t3, hH.t4, hH.vt, hH.l0, hH.l1, hH.l2, hH.l3, hH.l4, hH.vl, hH.p0, hH.p1, hH.p2, hH.vp, hH.k0, hH.w0, hH.k1, hH.w1, hH.k2, hH.w2, hH.k3, hH.w3, hH.k4, hH.w4, hH.k5, hH.w5, hH.q5, hH.vk, hH.vw, hH.sT, hH.sL, hH.sP, hH.sK, hH.gT, hH.gL, hH.gP, hH.gK]
        refine br_f (nI_ge hi (by omega)) (br_c (fun g => k143 V3 hH ?_) (fun g => ?_))
        · have : s = 2 := Int32.le_antisymm c1.2 g
          rw [if_pos this] at p2 ⊢
          exact p2
        · have g2 : ¬ s = 2 := fun q => g (by rw [q]; exact Int32.le_refl _)
          rw [if_neg g2] at p2
          simp only [if_neg g2] at ih
          have hc := oB_cnt hO t s
          have hcm : cnt (oB K t s) (i + 1) ≤ cnt (oB K t s) K.nK := cnt_mono (by omega)
          have no : oB K t s i = false → vX1_odds_l57 cA x (nI t) s c Post n (nI (i + 1)) V3 := fun z => ih V3 hH (by simp only [oL, z, if_false, Bool.false_eq_true]; exact p2)
          refine p1_word_2 hO hH hi ht (bo (fun z => no ?_) (fun z => ?_))
          · unfold oB; unfold hw1 at z
            rw [← Bool.and_assoc, z, Bool.false_and]
          · obtain ⟨z1, z2, z3⟩ := hw1_W z
            simp (disch := first | assumption | omega) only [nI_lt0, nI_clamp, vp_inT, nI_eq, imp_FT, imp_TF, true_and, and_true, bO_s, hH.x0, hH.x1, hH.x2, hH.x3, hH.x4, hH.x5, hH.x6, hH.x7, hH.x8, hH.x9, hH.x10, hH.x11, hH.x12, hH.x15, hH.x16, hH.x18, hH.x19, hH.x20, hH.vx, hH.c0, hH.c1, hH.c2, hH.c3, hH.c4, hH.c6, hH.vc, hH.vT, hH.vL, hH.vP, hH.vK, hH.t0, hH.t1, hH.t2, hH.t3, hH.t4, hH.vt, hH.l0, hH.l1, hH.l2, hH.l3, hH.l4, hH.vl, hH.p0, hH.p1, hH.p2, hH.vp, hH.k0, hH.w0, hH.k1, hH.w1, hH.k2, hH.w2, hH.k3, hH.w3, hH.k4, hH.w4, hH.k5, hH.w5, hH.q5, hH.vk, hH.vw, hH.sT, hH.sL, hH.sP, hH.sK, hH.gT, hH.gL, hH.gP, hH.gK]
            have yes : oB K t s i = true → bO (gR V3 [7] (a.k i) 1) (fun p_105 => bO (vO V3 [7] (a.k i)) (fun o_109 => vX9_isRight cA (a.k i) V3 (fun r_107 V_108 => bO p_105 (fun n_111 => bO (vO V_108 [1] x) (fun o_114 => vX1_weigh_2 cA x n_111 r_107 V_108 (fun V_113 => vX1_odds_l57 cA x (nI t) s c Post n (nI (i + 1)) V_113)))))) := fun hb => by
              have hcs := cnt_s hb
              rw [hH.w1 hi z2, bO_s, hH.vw hi z2]
              simp only [bO_s]
              refine p1_isRight hO hH hi z2 ?_
              rw [hH.vx]
              refine p1_weigh_2 (n := cnt (oB K t s) i) hO hH h9t p2 (oL_OK hO t s i (by omega)) (by omega) (fun V' n1 n2 => ih V' n1 ?_)
              simp only [oL, hb, if_true]
              exact n2
            refine p1_bitsOf hO hH hi z1 (br_c (fun s0 => ?_) (fun s0 => ?_))
            · unfold wb
              refine ek_if (wo_x16 _ _ _ _ _ _) (fun l => yes ?_) (fun l => no ?_)
              · rw [Bool.and_eq_true] at l
                unfold oB
                rw [z1, z3, l.1, l.2]
                simp
              · unfold oB
                rw [z1, z3, decide_eq_false (show ¬ s = 1 by rw [s0]; decide), Bool.false_or, Bool.true_and, Bool.true_and]
                rw [Bool.not_eq_true] at l
                exact l
            · have s1 : s = 1 := by
                obtain ⟨j, j1, rfl⟩ := in_03 (hi := 2) (by decide) c1.1 c1.2
                have : j = 0 ∨ j = 1 ∨ j = 2 := by omega
                rcases this with rfl | rfl | rfl
                · exact absurd rfl s0
                · rfl
                · exact absurd rfl g2
              unfold wb
              refine ek_if (wo_x0 _ _ _ _ _ _) (fun l => yes ?_) (fun l => no ?_)
              · unfold oB
                rw [z1, z3, l, decide_eq_true s1]
                simp
              · unfold oB
                rw [z1, z3, decide_eq_true s1, Bool.true_or, Bool.and_true, Bool.true_and, Bool.true_and]
                simpa using l
  · rw [e] at h
    exact h _ hH
