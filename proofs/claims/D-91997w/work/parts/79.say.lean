theorem p1_remove {cA : Nat → ClassId} {V : VS} {q e n : Nat} {m : Int32} {f : Nat → Option Nat} {Post : Option Nat → VS → Prop} (hu : V q = some (.inr (14, oLi m e (n + 1)))) (hw : V e = some (eO cA 60 f)) (hn : n < 60) (h : Post (f n) (vU (vU V q (.inr (14, oLi (m + 1) e n))) e (eO cA 60 (va_up f n none)))) : vJ2_remove cA q (nI n) V Post := by
  have hqe : e ≠ q := va_ne hw hu (tg rfl)
  unfold vJ2_remove wJ11_checkIndex wJ5_checkIndex
  refine bO_of (gI_of (v := nI (n + 1)) hu rfl rfl) (br_f (nI_pos (by omega)) (br_t (nI_lt (by omega) (by omega)) ?_))
  refine bO_of (gR_of (v := e) hu rfl rfl) (bO_of rfl (bO_of (lR_of hw hn (by decide)) ?_))
  refine bO_of (vO_of hu rfl) ?_
  unfold vJ2_fastRemove vJ2_fastRemove_c34
  refine bO_of (gI_of (v := m) hu rfl rfl) (bO_of (pF_of _ hu rfl (by decide : 0 < 3)) (bO_of (gI_of (v := nI (n + 1)) (vU_s _ _ _) rfl rfl) (fun v7 e7 => ?_)))
  rw [e7, nI_pred]
  refine br_t (Int32.le_refl _) (bO_of (pF_of _ (vU_s _ _ _) rfl (by decide : 2 < 3)) ?_)
  rw [vU_vU]
  refine bO_of (tR_of none (f := f) (n := 60) (by rw [vU_n _ _ hqe]; exact hw) hn (by decide)) ?_
  exact h
theorem p1_add {cA : Nat → ClassId} {V : VS} {q e n N b : Nat} {m : Int32} {f : Nat → Option Nat} {o : Nat × List Value} {Post : Int32 → VS → Prop} (hu : V q = some (.inr (14, oLi m e n))) (hw : V e = some (eO cA N f)) (hn : n < N) (hN : N < 2 ^ 31) (hb : V b = some (.inr o)) (ho : [5, 6, 7, 8, 9].contains o.1 = true) (h : Post 1 (vU (vU V q (.inr (14, oLi (m + 1) e (n + 1)))) e (eO cA N (va_up f n (some b))))) : vJ2_add cA q b V Post := by
  have hqe : e ≠ q := va_ne hw hu (tg2 rfl)
  have hb1 : ∃ o' : Nat × List Value, vU V q (.inr (14, oLi (m + 1) e n)) b = some (.inr o') ∧ [5, 6, 7, 8, 9].contains o'.1 = true := by
    by_cases c : b = q
    · exfalso
      rw [c, hu] at hb
      cases hb
      cases ho
    · exact ⟨o, by rw [vU_n _ _ c]; exact hb, ho⟩
  obtain ⟨⟨o1, o2⟩, hb1, ho1⟩ := hb1
  unfold vJ2_add
  refine bO_of (gI_of (v := m) hu rfl rfl) (bO_of (pF_of _ hu rfl (by decide : 0 < 3)) ?_)
  refine bO_of (gR_of (v := e) (vU_s _ _ _) rfl rfl) (bO_of (gI_of (v := nI n) (vU_s _ _ _) rfl rfl) (bO_of rfl (bO_of (vO_of (vU_s _ _ _) rfl) ?_)))
  unfold vJ2_add_2 vJ2_add_2_c11
  have hw1 : vU V q (.inr (14, oLi (m + 1) e n)) e = some (eO cA N f) := by rw [vU_n _ _ hqe]; exact hw
  refine bO_of (nA_of hw1) (br_f (fun z => ?_) (bO_of (vO_of hb1 ho1) (bO_of (tR_of (some b) hw1 hn hN) (bO_of (pF_of (l := oLi (m + 1) e n) _ (by rw [vU_n _ _ (Ne.symm hqe)]; exact vU_s _ _ _) rfl (by decide : 2 < 3)) ?_))))
  · rw [nI_eq (by omega) (by omega)] at z
    omega
  · rw [nI_1, vU_comm _ _ _ hqe, vU_vU]
    exact h
theorem p1_undo {cA : Nat → ClassId} {x : Nat} {a : Ad} {V : VS} {K : Ka} {Post : Int32 → VS → Prop} (hO : KO K) (hH : HK cA x a V K) (h : ∀ V', HK cA x a V' (aUndo K).2 → Post (aUndo K).1 V') : vX1_undo cA x V Post := by
  have h9T := hO.nT; have h9L := hO.nL; have h9K := hO.nK; have h9P := hO.nP; have h9o := hO.told
  unfold vX1_undo
  simp (disch := first | assumption | omega) only [nI_lt0, nI_clamp, vp_inT, nI_eq, imp_FT, imp_TF, true_and, and_true, bO_s, hH.x0, hH.x1, hH.x2, hH.x3, hH.x4, hH.x5, hH.x6, hH.x7, hH.x8, hH.x9, hH.x10, hH.x11, hH.x12, hH.x15, hH.x16, hH.x18, hH.x19, hH.x20, hH.vx, hH.c0, hH.c1, hH.c2, hH.c3, hH.c4, hH.c6, hH.vc, hH.vT, hH.vL, hH.vP, hH.vK, hH.t0, hH.t1, hH.t2, hH.t3, hH.t4, hH.vt, hH.l0, hH.l1, hH.l2, hH.l3, hH.l4, hH.vl, hH.p0, hH.p1, hH.p2, hH.vp, hH.k0, hH.w0, hH.k1, hH.w1, hH.k2, hH.w2, hH.k3, hH.w3, hH.k4, hH.w4, hH.k5, hH.w5, hH.q5, hH.vk, hH.vw, hH.sT, hH.sL, hH.sP, hH.sK, hH.gT, hH.gL, hH.gP, hH.gK]
  unfold aUndo at h
  refine br_c (fun c => ?_) (fun c => ?_)
  · rw [nI_z (by omega)] at c
    rw [if_pos c] at h
    exact h _ hH
  · rw [nI_z (by omega)] at c
    rw [if_neg c] at h
    obtain ⟨fo, ag, nu, hx⟩ := hH.obj
    obtain ⟨m, hu⟩ := hH.hl.liK
    obtain ⟨f, hw, hf⟩ := hH.hl.arK
    have hl := hH.hl.line
    obtain ⟨n, hn⟩ : ∃ n, K.nK = n + 1 := ⟨K.nK - 1, by omega⟩
    have hx1 : x ≠ a.lK := va_ne hx hu (tg rfl)
    have hx2 : x ≠ a.eK := va_ne hx hw (tg rfl)
    rw [hn] at hu hf hl
    rw [hn, nI_pred]
    refine p1_remove hu hw (by omega) ?_
    refine bO_of (gI_of (v := nI K.told) (by rw [vU_n _ _ hx2, vU_n _ _ hx1]; exact hx) rfl rfl) (bO_of (pF_of (l := oX a K fo ag nu) _ (by rw [vU_n _ _ hx2, vU_n _ _ hx1]; exact hx) rfl (by decide : 6 < 21)) (bO_of (gI_of (v := nI K.told - 1) (vU_s _ _ _) rfl rfl) ?_))
    have e5 : nI K.told - 1 = nI (K.told - 1) := by
      have := nI_pred (K.told - 1)
      rwa [show K.told - 1 + 1 = K.told by omega] at this
    rw [e5]
    refine h _ ?_
    have hle : a.eK ≠ a.lK := va_ne hw hu (tg rfl)
    have hnk : K.undo.nK = n := by show K.nK - 1 = n; omega
    refine hH.lines (a' := a) ⟨rfl, rfl, rfl, rfl⟩ (fun b e g1 g2 g3 g4 => by rw [vU_n _ _ g4, vU_n _ _ g3, vU_n _ _ g2]; exact g1) ⟨fo, ag, nu, vU_s _ _ _⟩ ⟨⟨m + 1, ?_⟩, ⟨va_up f n none, ?_, ?_⟩, ?_⟩ rfl rfl ⟨rfl, rfl, rfl, rfl, rfl, rfl, rfl, rfl, rfl, rfl, rfl, rfl, rfl⟩
    · dsimp only
      rw [vU_n _ _ (Ne.symm hx1), vU_n _ _ (Ne.symm hle), vU_s, hnk]
    · dsimp only
      rw [vU_n _ _ (Ne.symm hx2), vU_s]
    · dsimp only
      rw [hnk]
      intro i hi
      unfold va_up
      rw [if_neg (by omega)]
      exact hf i (by omega)
    · dsimp only
      rw [hnk]
      intro i hi
      have g := hl i (by omega)
      have c1 : a.k i ≠ a.lK := va_ne g hu (by cases K.isW i <;> exact inr_k (by decide))
      have c2 : a.k i ≠ a.eK := va_ne g hw inr_inl
      have c3 : a.k i ≠ x := va_ne g hx (by cases K.isW i <;> exact inr_k (by decide))
      rw [vU_n _ _ c3, vU_n _ _ c2, vU_n _ _ c1]
      exact g
theorem HK.new {cA : Nat → ClassId} {x : Nat} {a : Ad} {V : VS} {K : Ka} (h : HK cA x a V K) {q : Nat} (hq : V q = none) (e : va_E) : HK cA x a (vU V q e) K := by
  have o : ∀ b y, V b = some y → vU V q e b = some y := fun b y g => by
    rw [vU_n _ _ (fun z => by rw [z, hq] at g; cases g)]; exact g
  obtain ⟨⟨fo, ag, nu, hx⟩, ⟨fb, b1, b2⟩, hr, hl, ⟨r0, r1, r2, r3, r4, r5, m, r⟩, ⟨g, n⟩, ⟨f1, s1⟩, ⟨f2, s2⟩, ⟨f3, s3⟩, ⟨f4, s4⟩, ⟨f5, s5⟩, ⟨f6, s6⟩, d⟩ := h
  exact ⟨⟨fo, ag, nu, o _ _ hx⟩, ⟨fb, o _ _ b1, b2⟩, hr.mono o, hl.mono o, ⟨r0, r1, r2, r3, r4, r5, m, o _ _ r⟩, ⟨g, o _ _ n⟩, ⟨f1, o _ _ s1⟩, ⟨f2, o _ _ s2⟩, ⟨f3, o _ _ s3⟩, ⟨f4, o _ _ s4⟩, ⟨f5, o _ _ s5⟩, ⟨f6, o _ _ s6⟩, d⟩
/-- a new line's constructor -/
theorem p1_newLine {cA : Nat → ClassId} {x : Nat} {a : Ad} {V : VS} {K : Ka} {Post : VS → Prop} (hO : KO K) (hH : HK cA x a V K) {q c t y : Nat} {u v : Int32} (hq : V q = none) (hc : [7, 8].contains c = true) (ht : t < K.nL) (hy : y < K.nT) (h : Post (vU V q (.inr (c, [.ref (a.l t), .ref (a.t y), .int (nI t), .int (nI y), .int u, .int v])))) : vX8_init cA q a.c (nI t) u (nI y) v (vU V q (.inr (c, [.null, .null, .int 0, .int 0, .int 0, .int 0]))) Post := by
  have h9T := hO.nT; have h9L := hO.nL; have h9K := hO.nK; have h9P := hO.nP
  unfold vX8_init
  refine bO_of (pF_of _ (vU_s _ _ _) hc (by decide : 2 < 6)) ?_
  rw [vU_vU]
  refine bO_of (pF_of _ (vU_s _ _ _) hc (by decide : 3 < 6)) ?_
  rw [vU_vU]
  refine bO_of (hH.new hq _).c1 (bO_of rfl ?_)
  rw [(hH.new hq _).vL, (hH.new hq _).gL ht (by omega), bO_s, (hH.new hq _).vl ht]
  refine bO_of (pF_of _ (vU_s _ _ _) hc (by decide : 0 < 6)) ?_
  rw [vU_vU]
  refine bO_of (hH.new hq _).c0 (bO_of rfl ?_)
  rw [(hH.new hq _).vT, (hH.new hq _).gT hy (by omega), bO_s, (hH.new hq _).vt hy]
  refine bO_of (pF_of _ (vU_s _ _ _) hc (by decide : 1 < 6)) ?_
  rw [vU_vU]
  refine bO_of (pF_of _ (vU_s _ _ _) hc (by decide : 4 < 6)) ?_
  rw [vU_vU]
  refine bO_of (pF_of _ (vU_s _ _ _) hc (by decide : 5 < 6)) ?_
  rw [vU_vU]
  exact h
theorem p1_latestL {cA : Nat → ClassId} {x : Nat} {a : Ad} {V : VS} {K : Ka} {Post : Int32 → VS → Prop} (hO : KO K) (hH : HK cA x a V K) {t : Nat} (ht : t < K.nL) (h : anyB (fun k => K.who k == t) K.nK = true → Post (lastV (fun k => K.who k == t) K.hour K.nK) V) (hb : anyB (fun k => K.who k == t) K.nK = false → Post (K.begins t) V) : vX3_latest cA a.c (nI t) V Post := by
  have h9T := hO.nT; have h9L := hO.nL; have h9K := hO.nK; have h9P := hO.nP
  unfold vX3_latest
  simp (disch := first | assumption | omega) only [nI_lt0, nI_clamp, vp_inT, nI_eq, imp_FT, imp_TF, true_and, and_true, bO_s, hH.x0, hH.x1, hH.x2, hH.x3, hH.x4, hH.x5, hH.x6, hH.x7, hH.x8, hH.x9, hH.x10, hH.x11, hH.x12, hH.x15, hH.x16, hH.x18, hH.x19, hH.x20, hH.vx, hH.c0, hH.c1, hH.c2, hH.c3, hH.c4, hH.c6, hH.vc, hH.vT, hH.vL, hH.vP, hH.vK, hH.t0, hH.t1, hH.t2, hH.t3, hH.t4, hH.vt, hH.l0, hH.l1, hH.l2, hH.l3, hH.l4, hH.vl, hH.p0, hH.p1, hH.p2, hH.vp, hH.k0, hH.w0, hH.k1, hH.w1, hH.k2, hH.w2, hH.k3, hH.w3, hH.k4, hH.w4, hH.k5, hH.w5, hH.q5, hH.vk, hH.vw, hH.sT, hH.sL, hH.sP, hH.sK, hH.gT, hH.gL, hH.gP, hH.gK]
  refine upL (W := fun f i => vX3_latest_l17 cA a.c (nI t) Post f (if anyB (fun k => K.who k == t) i then lastV (fun k => K.who k == t) K.hour i else K.begins t) (nI i) V) (e := K.nK) ?_ ?_
  · intro n
    rw [vX3_latest_l17]
    simp (disch := first | assumption | omega) only [nI_lt0, nI_clamp, vp_inT, nI_eq, imp_FT, imp_TF, true_and, and_true, bO_s, hH.x0, hH.x1, hH.x2, hH.x3, hH.x4, hH.x5, hH.x6, hH.x7, hH.x8, hH.x9, hH.x10, hH.x11, hH.x12, hH.x15, hH.x16, hH.x18, hH.x19, hH.x20, hH.vx, hH.c0, hH.c1, hH.c2, hH.c3, hH.c4, hH.c6, hH.vc, hH.vT, hH.vL, hH.vP, hH.vK, hH.t0, hH.t1, hH.t2, hH.t3, hH.t4, hH.vt, hH.l0, hH.l1, hH.l2, hH.l3, hH.l4, hH.vl, hH.p0, hH.p1, hH.p2, hH.vp, hH.k0, hH.w0, hH.k1, hH.w1, hH.k2, hH.w2, hH.k3, hH.w3, hH.k4, hH.w4, hH.k5, hH.w5, hH.q5, hH.vk, hH.vw, hH.sT, hH.sL, hH.sP, hH.sK, hH.gT, hH.gL, hH.gP, hH.gK]
    refine br_t (Int32.le_refl _) ?_
    cases g : anyB (fun k => K.who k == t) K.nK with
    | true => rw [if_pos rfl]; exact h g
    | false => rw [if_neg (by simp)]; exact hb g
  · intro n i hi ih
    rw [vX3_latest_l17]
    have h9w := hO.who i hi
    simp only [vX3_latest_c61, forall_eq, nI_1]
    simp (disch := first | assumption | omega) only [nI_lt0, nI_clamp, vp_inT, nI_eq, imp_FT, imp_TF, true_and, and_true, bO_s, hH.x0, hH.x1, hH.x2, hH.x3, hH.x4, hH.x5, hH.x6, hH.x7, hH.x8, hH.x9, hH.x10, hH.x11, hH.x12, hH.x15, hH.x16, hH.x18, hH.x19, hH.x20, hH.vx, hH.c0, hH.c1, hH.c2, hH.c3, hH.c4, hH.c6, hH.vc, hH.vT, hH.vL, hH.vP, hH.vK, hH.t0, hH.t1, hH.t2, hH.t3, hH.t4, hH.vt, hH.l0, hH.l1, hH.l2, hH.l3, hH.l4, hH.vl, hH.p0, hH.p1, hH.p2, hH.vp, hH.k0, hH.w0, hH.k1, hH.w1, hH.k2, hH.w2, hH.k3, hH.w3, hH.k4, hH.w4, hH.k5, hH.w5, hH.q5, hH.vk, hH.vw, hH.sT, hH.sL, hH.sP, hH.sK, hH.gT, hH.gL, hH.gP, hH.gK]
    refine br_f (nI_ge hi (by omega)) (br_c (fun c => ?_) (fun c => ?_))
    · simp only [anyB, lastV, c, beq_self_eq_true, Bool.or_true, if_true] at ih
      exact ih
    · simp only [anyB, lastV, beq_eq_false_iff_ne.mpr c, Bool.or_false, if_false, Bool.false_eq_true] at ih
      exact ih
theorem latH_ge {K : Ka} (hO : KO K) {t : Nat} (ht : t < K.nL) (hb : anyB (fun k => K.who k == t) K.nK = true) : K.begins t ≤ latH K t := by
  obtain ⟨k, h1, h2, h3, h4⟩ := lastI_V K.hour hb
  have h5 := (hO.hour k h1).1
  have h3 : K.who k = t := by simpa using h3
  rw [h3] at h5
  unfold latH
  rw [h4]
  exact h5
theorem le_m1' {v w : Int32} (hw : 2 ≤ w) : v ≤ w - 1 ↔ v < w := by
  obtain ⟨j, hj, rfl⟩ := nI_of (x := w) (fun q => absurd (Int32.lt_of_lt_of_le q (by decide : (0 : Int32) ≤ 2)) (fun q2 => Int32.not_lt.mpr hw q2))
  rw [show (2 : Int32) = nI 2 from rfl, nI_leI (by decide) hj] at hw
  obtain ⟨k, rfl⟩ : ∃ k, j = k + 1 := ⟨j - 1, by omega⟩
  rw [nI_pred, Int32.le_iff_toInt_le, Int32.lt_iff_toInt_lt, nI_toInt hj, nI_toInt (by omega)]
  omega
/-- a line more: at q -/
def Ad.add (a : Ad) (n q : Nat) : Ad := (a.1, va_up a.2 2 (va_up a.k n q))
theorem p1_say {cA : Nat → ClassId} {x : Nat} {a : Ad} {V : VS} {K : Ka} {Post : Int32 → VS → Prop} (hO : KO K) (hH : HK cA x a V K) {w : Bool} {b u d v : Int32} {MC MS : Nat} (hC : 1 ≤ MC) (hS : 6 ≤ MS) (h : ∀ a' V', a'.o = a.o → HK cA x a' V' (aSay K w b u d v).2 → Post (aSay K w b u d v).1 V') : vX1_say cA x (bI w) b u d v V MC MS Post := by
  have h9T := hO.nT; have h9L := hO.nL; have h9K := hO.nK; have h9P := hO.nP
  unfold vX1_say
  simp (disch := first | assumption | omega) only [nI_lt0, nI_clamp, vp_inT, nI_eq, imp_FT, imp_TF, true_and, and_true, bO_s, hH.x0, hH.x1, hH.x2, hH.x3, hH.x4, hH.x5, hH.x6, hH.x7, hH.x8, hH.x9, hH.x10, hH.x11, hH.x12, hH.x15, hH.x16, hH.x18, hH.x19, hH.x20, hH.vx, hH.c0, hH.c1, hH.c2, hH.c3, hH.c4, hH.c6, hH.vc, hH.vT, hH.vL, hH.vP, hH.vK, hH.t0, hH.t1, hH.t2, hH.t3, hH.t4, hH.vt, hH.l0, hH.l1, hH.l2, hH.l3, hH.l4, hH.vl, hH.p0, hH.p1, hH.p2, hH.vp, hH.k0, hH.w0, hH.k1, hH.w1, hH.k2, hH.w2, hH.k3, hH.w3, hH.k4, hH.w4, hH.k5, hH.w5, hH.q5, hH.vk, hH.vw, hH.sT, hH.sL, hH.sP, hH.sK, hH.gT, hH.gL, hH.gP, hH.gK]
  unfold aSay at h
  refine p1_isTeller hO hH (fun t e ht hb => br_f (by decide) ?_) (fun e => br_t rfl ?_)
  · simp (disch := first | assumption | omega) only [nI_lt0, nI_clamp, vp_inT, nI_eq, imp_FT, imp_TF, true_and, and_true, bO_s, hH.x0, hH.x1, hH.x2, hH.x3, hH.x4, hH.x5, hH.x6, hH.x7, hH.x8, hH.x9, hH.x10, hH.x11, hH.x12, hH.x15, hH.x16, hH.x18, hH.x19, hH.x20, hH.vx, hH.c0, hH.c1, hH.c2, hH.c3, hH.c4, hH.c6, hH.vc, hH.vT, hH.vL, hH.vP, hH.vK, hH.t0, hH.t1, hH.t2, hH.t3, hH.t4, hH.vt, hH.l0, hH.l1, hH.l2, hH.l3, hH.l4, hH.vl, hH.p0, hH.p1, hH.p2, hH.vp, hH.k0, hH.w0, hH.k1, hH.w1, hH.k2, hH.w2, hH.k3, hH.w3, hH.k4, hH.w4, hH.k5, hH.w5, hH.q5, hH.vk, hH.vw, hH.sT, hH.sL, hH.sP, hH.sK, hH.gT, hH.gL, hH.gP, hH.gK]
    refine p1_isThing hO hH (fun y e2 hy hb2 => br_f (by decide) ?_) (fun e2 => br_t rfl ?_)
    · rw [e, e2] at h
      dsimp only at h
      subst hb; subst hb2
      simp (disch := first | assumption | omega) only [nI_lt0, nI_clamp, vp_inT, nI_eq, imp_FT, imp_TF, true_and, and_true, bO_s, hH.x0, hH.x1, hH.x2, hH.x3, hH.x4, hH.x5, hH.x6, hH.x7, hH.x8, hH.x9, hH.x10, hH.x11, hH.x12, hH.x15, hH.x16, hH.x18, hH.x19, hH.x20, hH.vx, hH.c0, hH.c1, hH.c2, hH.c3, hH.c4, hH.c6, hH.vc, hH.vT, hH.vL, hH.vP, hH.vK, hH.t0, hH.t1, hH.t2, hH.t3, hH.t4, hH.vt, hH.l0, hH.l1, hH.l2, hH.l3, hH.l4, hH.vl, hH.p0, hH.p1, hH.p2, hH.vp, hH.k0, hH.w0, hH.k1, hH.w1, hH.k2, hH.w2, hH.k3, hH.w3, hH.k4, hH.w4, hH.k5, hH.w5, hH.q5, hH.vk, hH.vw, hH.sT, hH.sL, hH.sP, hH.sK, hH.gT, hH.gL, hH.gP, hH.gK]
      rw [show (60 : Int32) = nI 60 from rfl, nI_eq (by omega) (by omega)]
      refine br_c (fun c => ?_) (fun c => ?_)
      · rw [if_pos c] at h
        exact h a V rfl hH
      · rw [if_neg c] at h
        have key : ∀ lo : Int32, (lo ≤ u ↔ K.begins t ≤ u ∧ latH K t ≤ u) → w1_in u lo (K.ends t) (fun r_44 => (r_44 = 0 → (Post (-1) V)) ∧ (¬ (r_44 = 0) → ((bI w = 0 → (vX1_say_c77 cA x (bI w) (nI t) u (nI y) v MC MS Post (-1) v V 0 0)) ∧ (¬ (bI w = 0) → (vX1_say_c77 cA x (bI w) (nI t) u (nI y) v MC MS Post (0) v V 0 0))))) := by
          intro lo hlo
          refine p1_in (bz (fun g => ?_) (fun g => ?_))
          · rw [Bool.and_eq_false_iff, decide_eq_false_iff_not, decide_eq_false_iff_not] at g
            rw [if_neg (fun q => g.elim (fun g => g (hlo.mpr ⟨q.1.1, q.1.2.2⟩)) (fun g => g q.1.2.1))] at h
            exact h a V rfl hH
          · rw [Bool.and_eq_true_iff, decide_eq_true_iff, decide_eq_true_iff, hlo] at g
            have c77 : ∀ t0 : Int32, (if w then (0 : Int32) else -1) = t0 → vX1_say_c77 cA x (bI w) (nI t) u (nI y) v MC MS Post t0 v V 0 0 := by
              intro t0 e0
              unfold vX1_say_c77
              simp (disch := first | assumption | omega) only [nI_lt0, nI_clamp, vp_inT, nI_eq, imp_FT, imp_TF, true_and, and_true, bO_s, hH.x0, hH.x1, hH.x2, hH.x3, hH.x4, hH.x5, hH.x6, hH.x7, hH.x8, hH.x9, hH.x10, hH.x11, hH.x12, hH.x15, hH.x16, hH.x18, hH.x19, hH.x20, hH.vx, hH.c0, hH.c1, hH.c2, hH.c3, hH.c4, hH.c6, hH.vc, hH.vT, hH.vL, hH.vP, hH.vK, hH.t0, hH.t1, hH.t2, hH.t3, hH.t4, hH.vt, hH.l0, hH.l1, hH.l2, hH.l3, hH.l4, hH.vl, hH.p0, hH.p1, hH.p2, hH.vp, hH.k0, hH.w0, hH.k1, hH.w1, hH.k2, hH.w2, hH.k3, hH.w3, hH.k4, hH.w4, hH.k5, hH.w5, hH.q5, hH.vk, hH.vw, hH.sT, hH.sL, hH.sP, hH.sK, hH.gT, hH.gL, hH.gP, hH.gK]
              refine p1_in (bz (fun j => ?_) (fun j => ?_))
              · rw [Bool.and_eq_false_iff, decide_eq_false_iff_not, decide_eq_false_iff_not] at j
                rw [if_neg (fun q => j.elim (fun j => j (by rw [← e0]; exact q.2.1)) (fun j => j ((le_m1' (hO.ways y hy).1).mpr q.2.2)))] at h
                exact h a V rfl hH
              · rw [Bool.and_eq_true_iff, decide_eq_true_iff, decide_eq_true_iff] at j
                have hv : v < K.ways y := (le_m1' (hO.ways y hy).1).mp j.2
                rw [if_pos ⟨⟨g.1.1, g.2, g.1.2⟩, by rw [e0]; exact j.1, hv⟩] at h
                have c153 : ∀ q, V q = none → vX1_say_c153 cA x (bI w) (nI t) u (nI y) v MC MS Post q (some a.lK) (vU V q (.inr (if w then 7 else 8, [.ref (a.l t), .ref (a.t y), .int (nI t), .int (nI y), .int u, .int v]))) 1 6 := by
                  intro q hq
                  have hN := hH.new hq (.inr (if w then 7 else 8, [.ref (a.l t), .ref (a.t y), .int (nI t), .int (nI y), .int u, .int v]))
                  obtain ⟨fo, ag, nu, hx⟩ := hN.obj
                  obtain ⟨m, hu⟩ := hN.hl.liK
                  obtain ⟨f, hw, hf⟩ := hN.hl.arK
                  have hl := hN.hl.line
                  have hx1 : x ≠ a.lK := va_ne hx hu (tg rfl)
                  have hx2 : x ≠ a.eK := va_ne hx hw (tg rfl)
                  have hle : a.eK ≠ a.lK := va_ne hw hu (tg rfl)
                  have hq0 := vU_s V q (.inr (if w then 7 else 8, [.ref (a.l t), .ref (a.t y), .int (nI t), .int (nI y), .int u, .int v]))
                  have hqk : ∀ {c : Nat} {l : List Value} {z : Nat}, c ≠ 7 → c ≠ 8 → (vU V q (.inr (if w then 7 else 8, [.ref (a.l t), .ref (a.t y), .int (nI t), .int (nI y), .int u, .int v]))) z = some (.inr (c, l)) → q ≠ z := fun {c l z} h7 h8 hz => va_ne hq0 hz (by
                    cases w
                    · exact inr_k (fun e => h8 e.symm)
                    · exact inr_k (fun e => h7 e.symm))
                  have q1 : q ≠ a.lK := hqk (by decide) (by decide) hu
                  have q2 : q ≠ a.eK := va_ne hq0 hw inr_inl
                  have q3 : q ≠ x := hqk (by decide) (by decide) hx
                  unfold vX1_say_c153
                  rw [bO_s, hN.vK]
                  refine p1_add (o := (if w then 7 else 8, [.ref (a.l t), .ref (a.t y), .int (nI t), .int (nI y), .int u, .int v])) hu hw (by omega) (by decide) hq0 (by cases w <;> rfl) ?_
                  refine bO_of (gI_of (v := nI K.told) (by rw [vU_n _ _ hx2, vU_n _ _ hx1]; exact hx) rfl rfl) (bO_of (pF_of (l := oX a K fo ag nu) _ (by rw [vU_n _ _ hx2, vU_n _ _ hx1]; exact hx) rfl (by decide : 6 < 21)) ?_)
                  rw [nI_1]
                  have hF : HK cA x (a.add K.nK q) (vU (vU (vU (vU V q (.inr (if w then 7 else 8, [.ref (a.l t), .ref (a.t y), .int (nI t), .int (nI y), .int u, .int v]))) a.lK (.inr (14, oLi (m + 1) a.eK (K.nK + 1)))) a.eK (eO cA 60 (va_up f K.nK (some q)))) x (.inr (1, (oX a K fo ag nu).set 6 (.int (nI (K.told + 1)))))) (K.add w t y u v) := by
                    refine hN.lines (a' := a.add K.nK q) ⟨rfl, rfl, rfl, rfl⟩ (fun b e g1 g2 g3 g4 => by rw [vU_n _ _ g4, vU_n _ _ g3, vU_n _ _ g2]; exact g1) ⟨fo, ag, nu, vU_s _ _ _⟩ ⟨⟨m + 1, ?_⟩, ⟨va_up f K.nK (some q), ?_, ?_⟩, ?_⟩ rfl rfl ⟨rfl, rfl, rfl, rfl, rfl, rfl, rfl, rfl, rfl, rfl, rfl, rfl, rfl⟩
                    · show (vU _ x _) a.lK = _
                      rw [vU_n _ _ (Ne.symm hx1), vU_n _ _ (Ne.symm hle), vU_s]
                      rfl
                    · show (vU _ x _) a.eK = _
                      rw [vU_n _ _ (Ne.symm hx2), vU_s]
                    · intro i hi
                      have hi : i < K.nK + 1 := hi
                      show va_up f K.nK (some q) i = some (va_up a.k K.nK q i)
                      unfold va_up
                      by_cases z : i = K.nK
                      · rw [if_pos z, if_pos z]
                      · rw [if_neg z, if_neg z]; exact hf i (by omega)
                    · intro i hi
                      have hi : i < K.nK + 1 := hi
                      show vU _ x _ (va_up a.k K.nK q i) = some (.inr (if (va_up K.wd K.nK (if w then 1 else 0) i == 1) then 7 else 8, [.ref (a.l (va_up K.who K.nK t i)), .ref (a.t (va_up K.thing K.nK y i)), .int (nI (va_up K.who K.nK t i)), .int (nI (va_up K.thing K.nK y i)), .int (va_up K.hour K.nK u i), .int (va_up K.value K.nK v i)]))
                      unfold va_up
                      by_cases z : i = K.nK
                      · simp only [if_pos z]
                        rw [vU_n _ _ q3, vU_n _ _ q2, vU_n _ _ q1, hq0]
                        cases w <;> rfl
                      · simp only [if_neg z]
                        have g := hl i (by omega)
                        have kd : ∀ {c : Nat} {l : List Value} {z : Nat}, c ≠ 7 → c ≠ 8 → (vU V q (.inr (if w then 7 else 8, [.ref (a.l t), .ref (a.t y), .int (nI t), .int (nI y), .int u, .int v]))) z = some (.inr (c, l)) → a.k i ≠ z := fun {c l z} h7 h8 hz => va_ne g hz (by
                          cases K.isW i
                          · exact inr_k (fun e => h8 e.symm)
                          · exact inr_k (fun e => h7 e.symm))
                        rw [vU_n _ _ (kd (by decide) (by decide) hx), vU_n _ _ (va_ne g hw inr_inl), vU_n _ _ (kd (by decide) (by decide) hu)]
                        exact g
                  refine bO_of hF.x11 (bO_of rfl (bO_of hF.c2 (bO_of rfl ?_)))
                  rw [hF.vK, hF.sK]
                  show Post (nI (K.nK + 1) - 1) _
                  rw [nI_pred]
                  exact h (a.add K.nK q) _ rfl hF
                cases w
                · refine br_t rfl ⟨by omega, by omega, fun q V1 g1 g2 => ?_⟩
                  subst g2
                  refine bO_of (hH.new g1 _).x11 (bO_of rfl ?_)
                  exact p1_newLine hO hH g1 rfl ht hy (c153 q g1)
                · refine br_f (by decide) ⟨by omega, by omega, fun q V1 g1 g2 => ?_⟩
                  subst g2
                  refine bO_of (hH.new g1 _).x11 (bO_of rfl ?_)
                  exact p1_newLine hO hH g1 rfl ht hy (c153 q g1)
            cases w
            · exact br_t rfl (c77 (-1) rfl)
            · exact br_f (by decide) (c77 0 rfl)
        refine p1_latestL hO hH ht (fun g => ?_) (fun g => ?_)
        · simp (disch := first | assumption | omega) only [nI_lt0, nI_clamp, vp_inT, nI_eq, imp_FT, imp_TF, true_and, and_true, bO_s, hH.x0, hH.x1, hH.x2, hH.x3, hH.x4, hH.x5, hH.x6, hH.x7, hH.x8, hH.x9, hH.x10, hH.x11, hH.x12, hH.x15, hH.x16, hH.x18, hH.x19, hH.x20, hH.vx, hH.c0, hH.c1, hH.c2, hH.c3, hH.c4, hH.c6, hH.vc, hH.vT, hH.vL, hH.vP, hH.vK, hH.t0, hH.t1, hH.t2, hH.t3, hH.t4, hH.vt, hH.l0, hH.l1, hH.l2, hH.l3, hH.l4, hH.vl, hH.p0, hH.p1, hH.p2, hH.vp, hH.k0, hH.w0, hH.k1, hH.w1, hH.k2, hH.w2, hH.k3, hH.w3, hH.k4, hH.w4, hH.k5, hH.w5, hH.q5, hH.vk, hH.vw, hH.sT, hH.sL, hH.sP, hH.sK, hH.gT, hH.gL, hH.gP, hH.gK]
          exact key _ ⟨fun z => ⟨Int32.le_trans (latH_ge hO ht g) z, z⟩, fun z => z.2⟩
        · simp (disch := first | assumption | omega) only [nI_lt0, nI_clamp, vp_inT, nI_eq, imp_FT, imp_TF, true_and, and_true, bO_s, hH.x0, hH.x1, hH.x2, hH.x3, hH.x4, hH.x5, hH.x6, hH.x7, hH.x8, hH.x9, hH.x10, hH.x11, hH.x12, hH.x15, hH.x16, hH.x18, hH.x19, hH.x20, hH.vx, hH.c0, hH.c1, hH.c2, hH.c3, hH.c4, hH.c6, hH.vc, hH.vT, hH.vL, hH.vP, hH.vK, hH.t0, hH.t1, hH.t2, hH.t3, hH.t4, hH.vt, hH.l0, hH.l1, hH.l2, hH.l3, hH.l4, hH.vl, hH.p0, hH.p1, hH.p2, hH.vp, hH.k0, hH.w0, hH.k1, hH.w1, hH.k2, hH.w2, hH.k3, hH.w3, hH.k4, hH.w4, hH.k5, hH.w5, hH.q5, hH.vk, hH.vw, hH.sT, hH.sL, hH.sP, hH.sK, hH.gT, hH.gL, hH.gP, hH.gK]
          refine key _ ⟨fun z => ⟨z, ?_⟩, fun z => z.1⟩
          unfold latH
          rw [lastV_no g]
          exact Int32.le_trans (by decide) (Int32.le_trans (hO.begins t ht).1 z)
    · rw [e, e2] at h
      have : ¬ K.nK = 60 → Post (-1) V := fun c => by rw [if_neg c] at h; exact h a V rfl hH
      by_cases c : K.nK = 60
      · rw [if_pos c] at h; exact h a V rfl hH
      · exact this c
  · rw [e] at h
    by_cases c : K.nK = 60
    · rw [if_pos c] at h; exact h a V rfl hH
    · rw [if_neg c] at h; exact h a V rfl hH
