/-! SaidSo's moved: two rows of numbers beside the case -/
theorem ke_l {cA : Nat → ClassId} {V : VS} {q n k : Nat} {f : Nat → Int32} (h : V q = some (eI cA n f)) (hk : k < n) (hn : n < 2 ^ 31) : lI V (cA 0) q (nI k) = some (f k) := lI_of h hk hn
theorem ke_t {cA : Nat → ClassId} {V : VS} {q n k : Nat} {f : Nat → Int32} (v : Int32) (h : V q = some (eI cA n f)) (hk : k < n) (hn : n < 2 ^ 31) : tI V (cA 0) q (nI k) v = some (vU V q (eI cA n (upd f k v))) := tI_of v h hk hn
theorem p1_moved {cA : Nat → ClassId} {x : Nat} {a : Ad} {V : VS} {K : Ka} {Post : Int32 → VS → Prop} (hO : KO K) (hH : HK cA x a V K) {b : Int32} (h : ∀ V', HK cA x a V' K → Post (aMoved K b) V') : vX1_moved cA x b V Post := by
  have h9T := hO.nT; have h9L := hO.nL; have h9K := hO.nK; have h9P := hO.nP
  unfold vX1_moved
  simp (disch := first | assumption | omega) only [nI_lt0, nI_clamp, vp_inT, nI_eq, imp_FT, imp_TF, true_and, and_true, bO_s, hH.x0, hH.x1, hH.x2, hH.x3, hH.x4, hH.x5, hH.x6, hH.x7, hH.x8, hH.x9, hH.x10, hH.x11, hH.x12, hH.x15, hH.x16, hH.x18, hH.x19, hH.x20, hH.vx, hH.c0, hH.c1, hH.c2, hH.c3, hH.c4, hH.c6, hH.vc, hH.vT, hH.vL, hH.vP, hH.vK, hH.t0, hH.t1, hH.t2, hH.t3, hH.t4, hH.vt, hH.l0, hH.l1, hH.l2, hH.l3, hH.l4, hH.vl, hH.p0, hH.p1, hH.p2, hH.vp, hH.k0, hH.w0, hH.k1, hH.w1, hH.k2, hH.w2, hH.k3, hH.w3, hH.k4, hH.w4, hH.k5, hH.w5, hH.q5, hH.vk, hH.vw, hH.sT, hH.sL, hH.sP, hH.sK, hH.gT, hH.gL, hH.gP, hH.gK]
  unfold aMoved at h
  refine p1_isTeller hO hH (fun t e ht hb => br_f (by decide) ?_) (fun e => br_t rfl ?_)
  · rw [e] at h
    subst hb
    dsimp only at h
    obtain ⟨kf0, hk0⟩ := hH.hs.key
    obtain ⟨rf0, hr0⟩ := hH.hs.ris
    have d1 := hH.hs.d1
    refine upL (W := fun f k => ∀ (V2 : VS) (kf rf : Nat → Int32), HK cA x a V2 K → V2 a.ke = some (eI cA 20 kf) → V2 a.ri = some (eI cA 20 rf) → (∀ i, i < (mvS K t k).1 → kf i = (mvS K t k).2.2.1 i ∧ rf i = nI ((mvS K t k).2.2.2 i)) → vX1_moved_l17 cA x (nI t) Post f (nI (mvS K t k).1) (nI (mvS K t k).2.1) (nI k) V2) (e := K.nP) ?_ ?_ |>.imp (fun f h => h V kf0 rf0 hH hk0 hr0 (fun i hi => absurd hi (Nat.not_lt_zero _)))
    · intro n V2 kf rf hH hk hr p2
      rw [vX1_moved_l17]
      simp (disch := first | assumption | omega) only [nI_lt0, nI_clamp, vp_inT, nI_eq, imp_FT, imp_TF, true_and, and_true, bO_s, hH.x0, hH.x1, hH.x2, hH.x3, hH.x4, hH.x5, hH.x6, hH.x7, hH.x8, hH.x9, hH.x10, hH.x11, hH.x12, hH.x15, hH.x16, hH.x18, hH.x19, hH.x20, hH.vx, hH.c0, hH.c1, hH.c2, hH.c3, hH.c4, hH.c6, hH.vc, hH.vT, hH.vL, hH.vP, hH.vK, hH.t0, hH.t1, hH.t2, hH.t3, hH.t4, hH.vt, hH.l0, hH.l1, hH.l2, hH.l3, hH.l4, hH.vl, hH.p0, hH.p1, hH.p2, hH.vp, hH.k0, hH.w0, hH.k1, hH.w1, hH.k2, hH.w2, hH.k3, hH.w3, hH.k4, hH.w4, hH.k5, hH.w5, hH.q5, hH.vk, hH.vw, hH.sT, hH.sL, hH.sP, hH.sK, hH.gT, hH.gL, hH.gP, hH.gK]
      exact br_t (Int32.le_refl _) (h V2 hH)
    · intro n k hk ih V2 kf rf hH hke hri p2
      rw [vX1_moved_l17]
      have h9w := hO.pWho k hk; have h9x := hO.pThing k hk
      obtain ⟨b1, b2, b3⟩ := mvS_le K t k
      simp only [vX1_moved_c168, forall_eq, nI_1]
      simp (disch := first | assumption | omega) only [nI_lt0, nI_clamp, vp_inT, nI_eq, imp_FT, imp_TF, true_and, and_true, bO_s, hH.x0, hH.x1, hH.x2, hH.x3, hH.x4, hH.x5, hH.x6, hH.x7, hH.x8, hH.x9, hH.x10, hH.x11, hH.x12, hH.x15, hH.x16, hH.x18, hH.x19, hH.x20, hH.vx, hH.c0, hH.c1, hH.c2, hH.c3, hH.c4, hH.c6, hH.vc, hH.vT, hH.vL, hH.vP, hH.vK, hH.t0, hH.t1, hH.t2, hH.t3, hH.t4, hH.vt, hH.l0, hH.l1, hH.l2, hH.l3, hH.l4, hH.vl, hH.p0, hH.p1, hH.p2, hH.vp, hH.k0, hH.w0, hH.k1, hH.w1, hH.k2, hH.w2, hH.k3, hH.w3, hH.k4, hH.w4, hH.k5, hH.w5, hH.q5, hH.vk, hH.vw, hH.sT, hH.sL, hH.sP, hH.sK, hH.gT, hH.gL, hH.gP, hH.gK]
      refine br_f (nI_ge hk (by omega)) ?_
      have hs : mvS K t (k + 1) = if mvB K t k then ((mvS K t k).1 + 1, if (mvS K t k).2.1 < mvR (va_up (mvS K t k).2.2.1 (mvS K t k).1 (firstI (svB K t (K.pThing k) (K.pValue k)) K.nK)) (mvS K t k).1 (mvS K t k).2.2.2 (mvS K t k).1 then mvR (va_up (mvS K t k).2.2.1 (mvS K t k).1 (firstI (svB K t (K.pThing k) (K.pValue k)) K.nK)) (mvS K t k).1 (mvS K t k).2.2.2 (mvS K t k).1 else (mvS K t k).2.1, va_up (mvS K t k).2.2.1 (mvS K t k).1 (firstI (svB K t (K.pThing k) (K.pValue k)) K.nK), va_up (mvS K t k).2.2.2 (mvS K t k).1 (mvR (va_up (mvS K t k).2.2.1 (mvS K t k).1 (firstI (svB K t (K.pThing k) (K.pValue k)) K.nK)) (mvS K t k).1 (mvS K t k).2.2.2 (mvS K t k).1)) else mvS K t k := rfl
      rw [hs] at ih
      clear hs
      generalize hs : mvS K t k = s at *
      obtain ⟨m, mo, sd, lo⟩ := s
      dsimp only at *
      refine br_c (fun c => p1_kindOf hO hH hk (br_c (fun d => ?_) (fun d => ?_))) (fun c => ?_)
      · have hb : mvB K t k = true := by simp only [mvB, c, d, decide_true, beq_self_eq_true, Bool.and_true]
        rw [if_pos hb] at ih
        dsimp only at ih
        simp (disch := first | assumption | omega) only [nI_lt0, nI_clamp, vp_inT, nI_eq, imp_FT, imp_TF, true_and, and_true, bO_s, hH.x0, hH.x1, hH.x2, hH.x3, hH.x4, hH.x5, hH.x6, hH.x7, hH.x8, hH.x9, hH.x10, hH.x11, hH.x12, hH.x15, hH.x16, hH.x18, hH.x19, hH.x20, hH.vx, hH.c0, hH.c1, hH.c2, hH.c3, hH.c4, hH.c6, hH.vc, hH.vT, hH.vL, hH.vP, hH.vK, hH.t0, hH.t1, hH.t2, hH.t3, hH.t4, hH.vt, hH.l0, hH.l1, hH.l2, hH.l3, hH.l4, hH.vl, hH.p0, hH.p1, hH.p2, hH.vp, hH.k0, hH.w0, hH.k1, hH.w1, hH.k2, hH.w2, hH.k3, hH.w3, hH.k4, hH.w4, hH.k5, hH.w5, hH.q5, hH.vk, hH.vw, hH.sT, hH.sL, hH.sP, hH.sK, hH.gT, hH.gL, hH.gP, hH.gK]
        refine p1_said hO hH ht h9x ?_
        generalize firstI (svB K t (K.pThing k) (K.pValue k)) K.nK = fv at *
        rw [ke_t fv hke (by omega) (by decide), bO_s]
        have hH1 := hH.row (by decide) hke (upd kf m fv)
        have hri1 : vU V2 a.ke (eI cA 20 (upd kf m fv)) a.ri = some (eI cA 20 rf) := by rw [vU_n _ _ d1]; exact hri
        rw [hH1.x15, bO_s, bO_s, ke_t 1 hri1 (by omega) (by decide), bO_s]
        have hH2 := hH1.row (by decide) hri1 (upd rf m 1)
        refine upL (W := fun f i => ∀ rf' : Nat → Int32, (∀ j, j < m → rf' j = nI (lo j)) → rf' m = nI (mvR (va_up sd m fv) m lo i) → vX1_moved_l102 cA x (nI t) (vX1_moved_l17 cA x (nI t) Post n) Post f (nI m) (nI mo) (nI k) (nI i) (vU (vU V2 a.ke (eI cA 20 (upd kf m fv))) a.ri (eI cA 20 rf'))) (e := m) ?_ ?_ |>.imp (fun f h => h (upd rf m 1) (fun j hj => by rw [pk_un (by omega)]; exact (p2 j hj).2) (by rw [pk_us]; rfl))
        · intro n2 rf' q3 q4
          have hH3 := hH1.row (by decide) hri1 rf'
          have hke3 : vU (vU V2 a.ke (eI cA 20 (upd kf m fv))) a.ri (eI cA 20 rf') a.ke = some (eI cA 20 (upd kf m fv)) := by rw [vU_n _ _ (Ne.symm d1)]; exact vU_s _ _ _
          have hr := mvR_le (sd := va_up sd m fv) (n := m) b3 m (Nat.le_refl _)
          rw [vX1_moved_l102]
          refine br_t (Int32.le_refl _) ?_
          rw [hH3.x15, bO_s, bO_s, ke_l (vU_s _ _ _) (by omega) (by decide), bO_s]
          simp only [vX1_moved_c168, forall_eq, nI_1]
          rw [q4]
          have e1 : (if nI mo < nI (mvR (va_up sd m fv) m lo m) then nI (mvR (va_up sd m fv) m lo m) else nI mo) = nI (if mo < mvR (va_up sd m fv) m lo m then mvR (va_up sd m fv) m lo m else mo) := by
            by_cases g : mo < mvR (va_up sd m fv) m lo m
            · rw [if_pos g, if_pos (nI_lt g (by omega))]
            · rw [if_neg g, if_neg (nI_nlt (Nat.not_lt.mp g) (by omega))]
          rw [e1]
          refine ih _ _ rf' hH3 hke3 (vU_s _ _ _) (fun i hi => ⟨?_, ?_⟩)
          · by_cases g : i = m
            · rw [g, pk_us, va_up_self]
            · rw [pk_un g, va_up_ne _ _ g]; exact (p2 i (by omega)).1
          · by_cases g : i = m
            · rw [g, va_up_self]; exact q4
            · rw [va_up_ne _ _ g]; exact q3 i (by omega)
        · intro n2 i hi ih2 rf' q3 q4
          have hH3 := hH1.row (by decide) hri1 rf'
          have hke3 : vU (vU V2 a.ke (eI cA 20 (upd kf m fv))) a.ri (eI cA 20 rf') a.ke = some (eI cA 20 (upd kf m fv)) := by rw [vU_n _ _ (Ne.symm d1)]; exact vU_s _ _ _
          have hr := mvR_le (sd := va_up sd m fv) (n := m) b3 i (by omega)
          have hl := b3 i hi
          rw [vX1_moved_l102]
          refine br_f (nI_ge hi (by omega)) ?_
          simp only [vX1_moved_c148, forall_eq, nI_1]
          rw [hH3.x16, bO_s, bO_s, ke_l hke3 (by omega) (by decide), bO_s, bO_s, bO_s, ke_l hke3 (by omega) (by decide), bO_s, pk_us, pk_un (by omega), (p2 i hi).1]
          refine br_c (fun g => ?_) (fun g => ?_)
          · refine ih2 rf' q3 ?_
            rw [q4, mvR, if_neg (fun q => Int32.not_le.mpr g (by rw [va_up_ne _ _ (by omega), va_up_self] at q; exact q.1))]
          · rw [hH3.x15, bO_s, bO_s, bO_s, ke_l (vU_s _ _ _) (by omega) (by decide), bO_s, bO_s, bO_s, ke_l (vU_s _ _ _) (by omega) (by decide), bO_s, bO_s, ke_t _ (vU_s _ _ _) (by omega) (by decide), bO_s, vU_vU]
            rw [q3 i hi, q4, nI_1]
            refine ih2 _ (fun j hj => by rw [pk_un (by omega)]; exact q3 j hj) ?_
            rw [pk_us, mvR]
            have g' : va_up sd m fv i ≤ va_up sd m fv m := by rw [va_up_ne _ _ (by omega), va_up_self]; exact Int32.not_lt.mp g
            by_cases l : mvR (va_up sd m fv) m lo i ≤ lo i
            · rw [if_pos (nI_lt (by omega) (by omega)), if_pos ⟨g', l⟩]
            · rw [if_neg (nI_nlt (by omega) (by omega)), if_neg (fun q => l q.2)]
      · rw [if_neg (by simp only [mvB, c, d, decide_false, Bool.and_false]; decide)] at ih
        exact ih V2 kf rf hH hke hri p2
      · rw [if_neg (by simp only [mvB, beq_eq_false_iff_ne.mpr c, Bool.false_and]; decide)] at ih
        exact ih V2 kf rf hH hke hri p2
  · rw [e] at h
    exact h _ hH
