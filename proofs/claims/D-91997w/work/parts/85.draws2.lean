theorem p1_draws {cA : Nat → ClassId} {x : Nat} {a : Ad} {V : VS} {K : Ka} {Post : Int32 → VS → Prop} (hO : KO K) (hH : HK cA x a V K) {b s c : Int32} (h : ∀ V', HK cA x a V' K → Post (aDraws K b s c) V') : vX1_draws cA x b s c V Post := by
  have h9T := hO.nT; have h9L := hO.nL; have h9K := hO.nK; have h9P := hO.nP
  unfold vX1_draws
  simp (disch := first | assumption | omega) only [nI_lt0, nI_clamp, vp_inT, nI_eq, imp_FT, imp_TF, true_and, and_true, bO_s, hH.x0, hH.x1, hH.x2, hH.x3, hH.x4, hH.x5, hH.x6, hH.x7, hH.x8, hH.x9, hH.x10, hH.x11, hH.x12, hH.x15, hH.x16, hH.x18, hH.x19, hH.x20, hH.vx, hH.c0, hH.c1, hH.c2, hH.c3, hH.c4, hH.c6, hH.vc, hH.vT, hH.vL, hH.vP, hH.vK, hH.t0, hH.t1, hH.t2, hH.t3, hH.t4, hH.vt, hH.l0, hH.l1, hH.l2, hH.l3, hH.l4, hH.vl, hH.p0, hH.p1, hH.p2, hH.vp, hH.k0, hH.w0, hH.k1, hH.w1, hH.k2, hH.w2, hH.k3, hH.w3, hH.k4, hH.w4, hH.k5, hH.w5, hH.q5, hH.vk, hH.vw, hH.sT, hH.sL, hH.sP, hH.sK, hH.gT, hH.gL, hH.gP, hH.gK]
  unfold aDraws at h
  refine p1_isTeller hO hH (fun t e ht hb => br_f (by decide) ?_) (fun e => br_t rfl ?_)
  · rw [e] at h
    subst hb
    dsimp only at h
    refine br_c (fun c1 => ?_) (fun c1 => p1_in (bz (fun c2 => ?_) (fun c2 => ?_)))
    · rw [if_neg (fun q => Int32.not_le.mpr c1 q.1)] at h
      exact h _ hH
    · rw [Bool.and_eq_false_iff, decide_eq_false_iff_not, decide_eq_false_iff_not] at c2
      rw [if_neg (fun q => c2.elim (fun c => c q.2.1) (fun c => c q.2.2))] at h
      exact h _ hH
    · rw [Bool.and_eq_true_iff, decide_eq_true_iff, decide_eq_true_iff] at c2
      rw [if_pos ⟨Int32.not_lt.mp c1, c2⟩] at h
      obtain ⟨s0, hs, rfl⟩ := nI_of c1
      obtain ⟨d, hd, rfl⟩ := nI_of2 (x := c) (M := 99) (n := 99) (by decide) (Int32.not_lt.mpr (Int32.le_trans (by decide) c2.1)) c2.2
      rw [nI_clamp hs, nI_clamp (by omega)] at h
      obtain ⟨f0, q0⟩ := hH.hs.fir
      obtain ⟨l0, r0⟩ := hH.hs.law
      obtain ⟨p0, u0⟩ := hH.hs.put
      have d2 := hH.hs.d2; have d3 := hH.hs.d3; have d4 := hH.hs.d4
      have hc8 := frB_cnt hO t
      refine upL (W := fun f k => ∀ (V2 : VS) (ff lf pf : Nat → Int32), DR cA x a V2 K t k ff lf pf → vX1_draws_l36 cA x (nI t) (nI s0) (nI d) Post f (nI (cnt (frB K t) k)) (nI (cnt (owB K t) k)) 0 (nI k) V2) (e := K.nK) ?_ ?_ |>.imp (fun f h => h V f0 l0 p0 ⟨hH, q0, r0, u0, fun i hi => absurd hi (Nat.not_lt_zero _)⟩)
      · intro n V2 ff lf pf hD
        have hH := hD.hk
        rw [vX1_draws_l36]
        simp (disch := first | assumption | omega) only [nI_lt0, nI_clamp, vp_inT, nI_eq, imp_FT, imp_TF, true_and, and_true, bO_s, hH.x0, hH.x1, hH.x2, hH.x3, hH.x4, hH.x5, hH.x6, hH.x7, hH.x8, hH.x9, hH.x10, hH.x11, hH.x12, hH.x15, hH.x16, hH.x18, hH.x19, hH.x20, hH.vx, hH.c0, hH.c1, hH.c2, hH.c3, hH.c4, hH.c6, hH.vc, hH.vT, hH.vL, hH.vP, hH.vK, hH.t0, hH.t1, hH.t2, hH.t3, hH.t4, hH.vt, hH.l0, hH.l1, hH.l2, hH.l3, hH.l4, hH.vl, hH.p0, hH.p1, hH.p2, hH.vp, hH.k0, hH.w0, hH.k1, hH.w1, hH.k2, hH.w2, hH.k3, hH.w3, hH.k4, hH.w4, hH.k5, hH.w5, hH.q5, hH.vk, hH.vw, hH.sT, hH.sL, hH.sP, hH.sK, hH.gT, hH.gL, hH.gP, hH.gK]
        refine br_t (Int32.le_refl _) ?_
        obtain ⟨fo, ag, nu, hx⟩ := hH.obj
        rw [pF_of (l := oX a K fo ag nu) _ hx rfl (show 17 < 21 by decide), bO_s]
        have hx1 := vU_s V2 x (.inr (1, oX a K fo ag (nI s0)))
        have mv : DR cA x a (vU V2 x (.inr (1, oX a K fo ag (nI s0)))) K t K.nK ff lf pf := by
          have o : ∀ {b : Nat} {f : Nat → Int32}, V2 b = some (eI cA 8 f) → vU V2 x (.inr (1, oX a K fo ag (nI s0))) b = some (eI cA 8 f) := fun {b f} g => by
            rw [vU_n _ _ (va_ne g hx (tg rfl))]; exact g
          exact ⟨hH.setX rfl rfl (fun P g => g) (fun P g => g), o hD.fi, o hD.la, o hD.pu, hD.all⟩
        refine upL (W := fun f i => ∀ (V3 : VS) (fo ag : Int64), DR cA x a V3 K t K.nK ff lf pf → V3 x = some (.inr (1, oX a K fo ag (nI (drD K t s0 i).2))) → vX1_draws_l149 cA x (nI t) (nI s0) (nI d) Post f (nI (cnt (frB K t) K.nK)) (nI (cnt (owB K t) K.nK)) (nI (drD K t s0 i).1) (nI i) V3) (e := d) ?_ ?_ |>.imp (fun f h => h _ fo ag mv hx1)
        · intro n2 V3 fo ag hD3 hx3
          rw [vX1_draws_l149]
          exact br_t (Int32.le_refl _) (h V3 hD3.hk)
        · intro n2 i hi ih V3 fo ag hD3 hx3
          rw [vX1_draws_l149]
          refine br_f (nI_ge hi (by omega)) ?_
          refine p1_drawOne (s0 := (drD K t s0 i).2) (ff := ff) (lf := lf) (pf := pf) (n := 0) hO ht rfl (fun V4 fo4 ag4 hD4 hx4 => ?_) K.nK 0 (by omega) V3 fo ag hD3 hx3
          rw [nI_1]
          have h4 := ih V4 fo4 ag4 hD4 hx4
          have e4 : nI (drD K t s0 i).1 + (if cnt (owB K t) K.nK ≤ (drL K t (drD K t s0 i).2 K.nK).1 then 1 else 0) = nI (drD K t s0 (i + 1)).1 := by
            show _ = nI ((drD K t s0 i).1 + (if cnt (owB K t) K.nK ≤ (drL K t (drD K t s0 i).2 K.nK).1 then 1 else 0))
            by_cases g : cnt (owB K t) K.nK ≤ (drL K t (drD K t s0 i).2 K.nK).1
            · rw [if_pos g, if_pos g, nI_1]
            · rw [if_neg g, if_neg g, Int32.add_zero, Nat.add_zero]
          rw [e4]
          exact h4
      · intro n k hk ih V2 ff lf pf hD
        have hH := hD.hk
        rw [vX1_draws_l36]
        simp only [vX1_draws_c135, vX1_draws_c132, forall_eq, nI_1, Int32.add_zero]
        have no : frB K t k = false → vX1_draws_l36 cA x (nI t) (nI s0) (nI d) Post n (nI (cnt (frB K t) k)) (nI (cnt (owB K t) k)) 0 (nI (k + 1)) V2 := fun z => by
          have h := ih V2 ff lf pf ⟨hD.hk, hD.fi, hD.la, hD.pu, fun i hi hp => by
            by_cases g : i = k
            · rw [g, z] at hp; cases hp
            · exact hD.all i (by omega) hp⟩
          rw [cnt_n z, cnt_n (by unfold owB; rw [z]; rfl)] at h
          exact h
        simp (disch := first | assumption | omega) only [nI_lt0, nI_clamp, vp_inT, nI_eq, imp_FT, imp_TF, true_and, and_true, bO_s, hH.x0, hH.x1, hH.x2, hH.x3, hH.x4, hH.x5, hH.x6, hH.x7, hH.x8, hH.x9, hH.x10, hH.x11, hH.x12, hH.x15, hH.x16, hH.x18, hH.x19, hH.x20, hH.vx, hH.c0, hH.c1, hH.c2, hH.c3, hH.c4, hH.c6, hH.vc, hH.vT, hH.vL, hH.vP, hH.vK, hH.t0, hH.t1, hH.t2, hH.t3, hH.t4, hH.vt, hH.l0, hH.l1, hH.l2, hH.l3, hH.l4, hH.vl, hH.p0, hH.p1, hH.p2, hH.vp, hH.k0, hH.w0, hH.k1, hH.w1, hH.k2, hH.w2, hH.k3, hH.w3, hH.k4, hH.w4, hH.k5, hH.w5, hH.q5, hH.vk, hH.vw, hH.sT, hH.sL, hH.sP, hH.sK, hH.gT, hH.gL, hH.gP, hH.gK]
        refine br_f (nI_ge hk (by omega)) (p1_word_2 hO hH hk ht (bo (fun g => no ?_) (fun g => ?_)))
        · unfold frB; unfold hw1 at g
          rw [← Bool.and_assoc, g, Bool.false_and]
        · obtain ⟨g1, g2, g3⟩ := hw1_W g
          simp (disch := first | assumption | omega) only [nI_lt0, nI_clamp, vp_inT, nI_eq, imp_FT, imp_TF, true_and, and_true, bO_s, hH.x0, hH.x1, hH.x2, hH.x3, hH.x4, hH.x5, hH.x6, hH.x7, hH.x8, hH.x9, hH.x10, hH.x11, hH.x12, hH.x15, hH.x16, hH.x18, hH.x19, hH.x20, hH.vx, hH.c0, hH.c1, hH.c2, hH.c3, hH.c4, hH.c6, hH.vc, hH.vT, hH.vL, hH.vP, hH.vK, hH.t0, hH.t1, hH.t2, hH.t3, hH.t4, hH.vt, hH.l0, hH.l1, hH.l2, hH.l3, hH.l4, hH.vl, hH.p0, hH.p1, hH.p2, hH.vp, hH.k0, hH.w0, hH.k1, hH.w1, hH.k2, hH.w2, hH.k3, hH.w3, hH.k4, hH.w4, hH.k5, hH.w5, hH.q5, hH.vk, hH.vw, hH.sT, hH.sL, hH.sP, hH.sK, hH.gT, hH.gL, hH.gP, hH.gK]
          refine p1_isFirst (b := false) hO hH hk ?_
          rw [f2_f]
          refine bz (fun j => no ?_) (fun j => ?_)
          · unfold frB; rw [j]; simp
          · have hfr : frB K t k = true := by unfold frB; rw [g1, g3, j]; rfl
            have hlt : cnt (frB K t) k < 8 := Nat.lt_of_lt_of_le (cnt_lt hk hfr) hc8
            simp (disch := first | assumption | omega) only [nI_lt0, nI_clamp, vp_inT, nI_eq, imp_FT, imp_TF, true_and, and_true, bO_s, hH.x0, hH.x1, hH.x2, hH.x3, hH.x4, hH.x5, hH.x6, hH.x7, hH.x8, hH.x9, hH.x10, hH.x11, hH.x12, hH.x15, hH.x16, hH.x18, hH.x19, hH.x20, hH.vx, hH.c0, hH.c1, hH.c2, hH.c3, hH.c4, hH.c6, hH.vc, hH.vT, hH.vL, hH.vP, hH.vK, hH.t0, hH.t1, hH.t2, hH.t3, hH.t4, hH.vt, hH.l0, hH.l1, hH.l2, hH.l3, hH.l4, hH.vl, hH.p0, hH.p1, hH.p2, hH.vp, hH.k0, hH.w0, hH.k1, hH.w1, hH.k2, hH.w2, hH.k3, hH.w3, hH.k4, hH.w4, hH.k5, hH.w5, hH.q5, hH.vk, hH.vw, hH.sT, hH.sL, hH.sP, hH.sK, hH.gT, hH.gL, hH.gP, hH.gK]
            rw [ke_t _ hD.fi hlt (by decide), bO_s]
            have hH1 := hH.row (by decide) hD.fi (upd ff (cnt (frB K t) k) (nI k))
            have la1 : vU V2 a.fi (eI cA 8 (upd ff (cnt (frB K t) k) (nI k))) a.la = some (eI cA 8 lf) := by rw [vU_n _ _ (Ne.symm d2)]; exact hD.la
            have pu1 : vU V2 a.fi (eI cA 8 (upd ff (cnt (frB K t) k) (nI k))) a.pu = some (eI cA 8 pf) := by rw [vU_n _ _ (Ne.symm d3)]; exact hD.pu
            have fi1 := vU_s V2 a.fi (eI cA 8 (upd ff (cnt (frB K t) k) (nI k)))
            generalize vU V2 a.fi (eI cA 8 (upd ff (cnt (frB K t) k) (nI k))) = V3 at *
            rw [hH1.x19, bO_s, hH1.vx]
            refine p1_lawAt hO hH1 hk (fun g9 => ?_)
            obtain ⟨gn, hn⟩ := hH1.hs.nam
            have hH2 := hH1.nam g9
            have o2 : ∀ {b : Nat} {f : Nat → Int32}, V3 b = some (eI cA 8 f) → vU V3 a.n (eN cA g9) b = some (eI cA 8 f) := fun {b f} z => by
              rw [vU_n _ _ (va_ne z hn (tg rfl))]; exact z
            have la2 := o2 la1
            have pu2 := o2 pu1
            have fi2 := o2 fi1
            generalize vU V3 a.n (eN cA g9) = V4 at *
            rw [bO_s, ke_t _ la2 hlt (by decide), bO_s]
            have hH3 := hH2.row (by decide) la2 (upd lf (cnt (frB K t) k) (lawI K k))
            have pu3 : vU V4 a.la (eI cA 8 (upd lf (cnt (frB K t) k) (lawI K k))) a.pu = some (eI cA 8 pf) := by rw [vU_n _ _ (Ne.symm d4)]; exact pu2
            have fi3 : vU V4 a.la (eI cA 8 (upd lf (cnt (frB K t) k) (lawI K k))) a.fi = some (eI cA 8 (upd ff (cnt (frB K t) k) (nI k))) := by rw [vU_n _ _ d2]; exact fi2
            have la3 := vU_s V4 a.la (eI cA 8 (upd lf (cnt (frB K t) k) (lawI K k)))
            generalize vU V4 a.la (eI cA 8 (upd lf (cnt (frB K t) k) (lawI K k))) = V5 at *
            rw [hH3.x20, bO_s, hH3.vx]
            refine p1_putAhead hO hH3 hk ?_
            rw [bO_s, ke_t _ pu3 hlt (by decide), bO_s]
            have hH4 := hH3.row (by decide) pu3 (upd pf (cnt (frB K t) k) (pa K k))
            have la4 : vU V5 a.pu (eI cA 8 (upd pf (cnt (frB K t) k) (pa K k))) a.la = some (eI cA 8 (upd lf (cnt (frB K t) k) (lawI K k))) := by rw [vU_n _ _ d4]; exact la3
            have fi4 : vU V5 a.pu (eI cA 8 (upd pf (cnt (frB K t) k) (pa K k))) a.fi = some (eI cA 8 (upd ff (cnt (frB K t) k) (nI k))) := by rw [vU_n _ _ d3]; exact fi3
            have pu4 := vU_s V5 a.pu (eI cA 8 (upd pf (cnt (frB K t) k) (pa K k)))
            generalize vU V5 a.pu (eI cA 8 (upd pf (cnt (frB K t) k) (pa K k))) = V6 at *
            have hD4 : DR cA x a V6 K t (k + 1) (upd ff (cnt (frB K t) k) (nI k)) (upd lf (cnt (frB K t) k) (lawI K k)) (upd pf (cnt (frB K t) k) (pa K k)) := by
              refine ⟨hH4, fi4, la4, pu4, fun i hi hp => ?_⟩
              by_cases z : i = k
              · subst z
                exact ⟨pk_us, pk_us, pk_us⟩
              · have hl : cnt (frB K t) i ≠ cnt (frB K t) k := Nat.ne_of_lt (cnt_lt (by omega) hp)
                rw [pk_un hl, pk_un hl, pk_un hl]
                exact hD.all i (by omega) hp
            have h := ih V6 _ _ _ hD4
            rw [cnt_s hfr] at h
            rw [hH4.vw hk g2]
            refine p1_isRight hO hH4 hk g2 (bz (fun r => ?_) (fun r => ?_))
            · rw [cnt_n (by unfold owB; rw [r]; simp)] at h
              exact h
            · rw [cnt_s (by unfold owB; rw [hfr, r]; rfl)] at h
              exact h
  · rw [e] at h
    exact h _ hH
