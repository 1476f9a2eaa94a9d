/-! what changes the case: hear, truth, begin, there, undo, say, feed -/
theorem HT.kn {P : Nat → va_E → Prop} {K K' : Ka} (e1 : K'.knot = K.knot) (e2 : K'.kP = K.kP) (e3 : K'.kA = K.kA) (e4 : K'.kB = K.kB) : ∀ {f k q : Nat}, HT P K f k q → HT P K' f k q
  | 0, _, _, g => g
  | f + 1, k, q, g => by
    unfold HT at g ⊢
    rw [e1, e2, e3, e4]
    by_cases c0 : K.knot k = 0
    · rw [if_pos c0] at g ⊢; exact g
    rw [if_neg c0] at g ⊢
    by_cases c1 : K.knot k = 1
    · rw [if_pos c1] at g ⊢; exact g
    rw [if_neg c1] at g ⊢
    by_cases c2 : K.knot k = 2
    · rw [if_pos c2] at g ⊢
      obtain ⟨u, g1, g2⟩ := g
      exact ⟨u, g1, HT.kn e1 e2 e3 e4 g2⟩
    rw [if_neg c2] at g ⊢
    obtain ⟨u, v, g1, g2, g3⟩ := g
    exact ⟨u, v, g1, HT.kn e1 e2 e3 e4 g2, HT.kn e1 e2 e3 e4 g3⟩
def HRe (K K' : Ka) : Prop := (K'.nT = K.nT) ∧ (K'.nL = K.nL) ∧ (K'.nP = K.nP) ∧ (K'.knots = K.knots) ∧ (oT K' = oT K) ∧ (oE K' = oE K) ∧ (oG K' = oG K) ∧ (K'.first = K.first) ∧ (K'.last = K.last) ∧ (K'.knot = K.knot) ∧ (K'.kP = K.kP) ∧ (K'.kA = K.kA) ∧ (K'.kB = K.kB)
theorem HRe.e1 {K K' : Ka} (h : HRe K K') : K'.nT = K.nT := h.1
theorem HRe.e2 {K K' : Ka} (h : HRe K K') : K'.nL = K.nL := h.2.1
theorem HRe.e3 {K K' : Ka} (h : HRe K K') : K'.nP = K.nP := h.2.2.1
theorem HRe.e4 {K K' : Ka} (h : HRe K K') : K'.knots = K.knots := h.2.2.2.1
theorem HRe.e5 {K K' : Ka} (h : HRe K K') : oT K' = oT K := h.2.2.2.2.1
theorem HRe.e6 {K K' : Ka} (h : HRe K K') : oE K' = oE K := h.2.2.2.2.2.1
theorem HRe.e7 {K K' : Ka} (h : HRe K K') : oG K' = oG K := h.2.2.2.2.2.2.1
theorem HRe.e8 {K K' : Ka} (h : HRe K K') : K'.first = K.first := h.2.2.2.2.2.2.2.1
theorem HRe.e9 {K K' : Ka} (h : HRe K K') : K'.last = K.last := h.2.2.2.2.2.2.2.2.1
theorem HRe.ea {K K' : Ka} (h : HRe K K') : K'.knot = K.knot := h.2.2.2.2.2.2.2.2.2.1
theorem HRe.eb {K K' : Ka} (h : HRe K K') : K'.kP = K.kP := h.2.2.2.2.2.2.2.2.2.2.1
theorem HRe.ec {K K' : Ka} (h : HRe K K') : K'.kA = K.kA := h.2.2.2.2.2.2.2.2.2.2.2.1
theorem HRe.ed {K K' : Ka} (h : HRe K K') : K'.kB = K.kB := h.2.2.2.2.2.2.2.2.2.2.2.2
theorem HR.kn {cA : Nat → ClassId} {a : Ad} {P : Nat → va_E → Prop} {K K' : Ka} (e : HRe K K') (g : HR cA a P K) : HR cA a P K' := by
  obtain ⟨a0, a1, a2, a3, a4, a5, a6, d1, d2, d3, f4, b4, c4⟩ := g
  refine ⟨by rw [e.e4]; exact a0, by rw [e.e1]; exact a1, by rw [e.e2]; exact a2, by rw [e.e3]; exact a3, by rw [e.e1]; exact a4, by rw [e.e2]; exact a5, by rw [e.e3]; exact a6, by rw [e.e1, e.e5]; exact d1, by rw [e.e2, e.e6]; exact d2, by rw [e.e3, e.e7]; exact d3, f4, b4, fun i hi => ?_⟩
  rw [e.e8, e.e9]
  refine ⟨(c4 i hi).1, fun hl => ?_⟩
  obtain ⟨q, q1, q2⟩ := (c4 i hi).2 hl
  exact ⟨q, q1, q2.kn e.ea e.eb e.ec e.ed⟩
theorem HL.kn {cA : Nat → ClassId} {a : Ad} {P : Nat → va_E → Prop} {K K' : Ka} (e1 : K'.nK = K.nK) (e2 : K'.isW = K.isW) (e3 : oK a K' = oK a K) (g : HL cA a P K) : HL cA a P K' := by
  obtain ⟨a0, a1, d1⟩ := g
  exact ⟨by rw [e1]; exact a0, by rw [e1]; exact a1, by rw [e1, e2, e3]; exact d1⟩
theorem p1_setX {cA : Nat → ClassId} {x : Nat} {a : Ad} {V : VS} {K : Ka} {Post : Int32 → VS → Prop} (hO : KO K) (hH : HK cA x a V K) {k : Nat} {v : Int32} {K' : Ka} {Q : VS → Prop} (hs : ∀ fo ag nu, (oX a K fo ag nu).set k (.int v) = oX a K' fo ag nu) (hk : k < 21) (e1 : K'.fed = K.fed) (e2 : K'.byte = K.byte) (e3 : HRe K K') (e4 : ∀ P, HL cA a P K → HL cA a P K') (h : ∀ V', HK cA x a V' K' → Q V') : bO (pF V [1] x k (.int v)) Q := by
  obtain ⟨fo, ag, nu, hx⟩ := hH.obj
  rw [pF_of _ hx rfl hk, bO_s, hs]
  exact h _ (hH.setX e1 e2 (fun P g => g.kn e3) e4)
theorem p1_hear {cA : Nat → ClassId} {x : Nat} {a : Ad} {V : VS} {K : Ka} {Post : Int32 → VS → Prop} (hO : KO K) (hH : HK cA x a V K) {b : Int32} (h : ∀ V', HK cA x a V' (aHear K b).2 → Post (aHear K b).1 V') : vX1_hear cA x b V Post := by
  unfold vX1_hear
  unfold aHear at h
  refine p1_in (bz (fun c => ?_) (fun c => ?_))
  · rw [Bool.and_eq_false_iff, decide_eq_false_iff_not, decide_eq_false_iff_not] at c
    rw [if_neg (fun q => c.elim (fun c => c q.1) (fun c => c q.2))] at h
    exact h _ hH
  · rw [Bool.and_eq_true_iff, decide_eq_true_iff, decide_eq_true_iff] at c
    rw [if_pos c] at h
    refine p1_setX (Post := Post) (K' := K.setHeard b) hO hH (fun _ _ _ => rfl) (by decide) rfl rfl ⟨rfl, rfl, rfl, rfl, rfl, rfl, rfl, rfl, rfl, rfl, rfl, rfl, rfl⟩ (fun P g => g.kn rfl rfl rfl) (fun V' hH' => ?_)
    replace h := h V' hH'
    clear hH
    have hH := hH'
    simp (disch := first | assumption | omega) only [nI_lt0, nI_clamp, vp_inT, nI_eq, imp_FT, imp_TF, true_and, and_true, bO_s, hH.x0, hH.x1, hH.x2, hH.x3, hH.x4, hH.x5, hH.x6, hH.x7, hH.x8, hH.x9, hH.x10, hH.x11, hH.x12, hH.x15, hH.x16, hH.x18, hH.x19, hH.x20, hH.vx, hH.c0, hH.c1, hH.c2, hH.c3, hH.c4, hH.c6, hH.vc, hH.vT, hH.vL, hH.vP, hH.vK, hH.t0, hH.t1, hH.t2, hH.t3, hH.t4, hH.vt, hH.l0, hH.l1, hH.l2, hH.l3, hH.l4, hH.vl, hH.p0, hH.p1, hH.p2, hH.vp, hH.k0, hH.w0, hH.k1, hH.w1, hH.k2, hH.w2, hH.k3, hH.w3, hH.k4, hH.w4, hH.k5, hH.w5, hH.q5, hH.vk, hH.vw, hH.sT, hH.sL, hH.sP, hH.sK, hH.gT, hH.gL, hH.gP, hH.gK]
    unfold vX1_count
    refine br_f (by decide) (br_f (by decide) (br_f (by decide) (br_t rfl (p1_heardMany (hO.setHeard c.1 c.2) hH h))))
theorem p1_truth {cA : Nat → ClassId} {x : Nat} {a : Ad} {V : VS} {K : Ka} {Post : Int32 → VS → Prop} (hO : KO K) (hH : HK cA x a V K) {b : Int32} (h : ∀ V', HK cA x a V' (aTruth K b).2 → Post (aTruth K b).1 V') : vX1_truth cA x b V Post := by
  unfold vX1_truth
  unfold aTruth at h
  refine p1_in (bz (fun c => ?_) (fun c => ?_))
  · rw [Bool.and_eq_false_iff, decide_eq_false_iff_not, decide_eq_false_iff_not] at c
    rw [if_neg (fun q => c.elim (fun c => c q.1) (fun c => c q.2))] at h
    exact h _ hH
  · rw [Bool.and_eq_true_iff, decide_eq_true_iff, decide_eq_true_iff] at c
    rw [if_pos c] at h
    exact p1_setX (Post := Post) (K' := K.setTruth b) hO hH (fun _ _ _ => rfl) (by decide) rfl rfl ⟨rfl, rfl, rfl, rfl, rfl, rfl, rfl, rfl, rfl, rfl, rfl, rfl, rfl⟩ (fun P g => g.kn rfl rfl rfl) (fun V' hH' => h V' hH')
theorem p1_begin {cA : Nat → ClassId} {x : Nat} {a : Ad} {V : VS} {K : Ka} {Post : Int32 → VS → Prop} (hO : KO K) (hH : HK cA x a V K) {b d : Int32} (h : ∀ V', HK cA x a V' (aBegin K b d).2 → Post (aBegin K b d).1 V') : vX1_begin cA x b d V Post := by
  unfold vX1_begin
  unfold aBegin at h
  refine p1_in (bz (fun c => ?_) (fun c => p1_in (bz (fun g => ?_) (fun g => ?_))))
  · rw [Bool.and_eq_false_iff, decide_eq_false_iff_not, decide_eq_false_iff_not] at c
    rw [if_neg (fun q => c.elim (fun c => c q.1.1) (fun c => c q.1.2))] at h
    exact h _ hH
  · rw [Bool.and_eq_false_iff, decide_eq_false_iff_not, decide_eq_false_iff_not] at g
    rw [if_neg (fun q => g.elim (fun c => c q.2.1) (fun c => c q.2.2))] at h
    exact h _ hH
  · rw [Bool.and_eq_true_iff, decide_eq_true_iff, decide_eq_true_iff] at c g
    rw [if_pos ⟨c, g⟩] at h
    obtain ⟨fo, ag, nu, hx⟩ := hH.obj
    rw [pF_of _ hx rfl (show 8 < 21 by decide), bO_s, pF_of _ (vU_s _ _ _) rfl (show 9 < 21 by decide), bO_s, vU_vU]
    refine h _ ?_
    exact hH.setX (K' := K.setBegin b d) (fo := fo) (ag := ag) (nu := nu) rfl rfl (fun P g => HR.kn (K := K) (K' := K.setBegin b d) ⟨rfl, rfl, rfl, rfl, rfl, rfl, rfl, rfl, rfl, rfl, rfl, rfl, rfl⟩ g) (fun P g => HL.kn (K := K) (K' := K.setBegin b d) rfl rfl rfl g)
theorem p1_there {cA : Nat → ClassId} {x : Nat} {a : Ad} {V : VS} {K : Ka} {Post : Int32 → VS → Prop} (hO : KO K) (hH : HK cA x a V K) {b : Int32} (h : ∀ V', HK cA x a V' (aThere K b).2 → Post (aThere K b).1 V') : vX1_there cA x b V Post := by
  have h9T := hO.nT; have h9L := hO.nL; have h9K := hO.nK; have h9P := hO.nP; have h92 := two_n h9L
  unfold vX1_there
  simp (disch := first | assumption | omega) only [nI_lt0, nI_clamp, vp_inT, nI_eq, imp_FT, imp_TF, true_and, and_true, bO_s, hH.x0, hH.x1, hH.x2, hH.x3, hH.x4, hH.x5, hH.x6, hH.x7, hH.x8, hH.x9, hH.x10, hH.x11, hH.x12, hH.x15, hH.x16, hH.x18, hH.x19, hH.x20, hH.vx, hH.c0, hH.c1, hH.c2, hH.c3, hH.c4, hH.c6, hH.vc, hH.vT, hH.vL, hH.vP, hH.vK, hH.t0, hH.t1, hH.t2, hH.t3, hH.t4, hH.vt, hH.l0, hH.l1, hH.l2, hH.l3, hH.l4, hH.vl, hH.p0, hH.p1, hH.p2, hH.vp, hH.k0, hH.w0, hH.k1, hH.w1, hH.k2, hH.w2, hH.k3, hH.w3, hH.k4, hH.w4, hH.k5, hH.w5, hH.q5, hH.vk, hH.vw, hH.sT, hH.sL, hH.sP, hH.sK, hH.gT, hH.gL, hH.gP, hH.gK, shl_n h9L]
  unfold aThere at h
  refine p1_set (by omega) (fun e => ?_) (fun e => by rw [e] at h; exact ⟨h _ hH, h _ hH⟩)
  cases g : ix b (2 ^ K.nL) with
  | none => exact absurd g e
  | some t =>
    rw [g] at h
    obtain ⟨h1, h2⟩ := ix_lt (by omega) g
    refine p1_setX (Post := Post) (K' := K.setWere b) hO hH (fun _ _ _ => rfl) (by decide) rfl rfl ⟨rfl, rfl, rfl, rfl, rfl, rfl, rfl, rfl, rfl, rfl, rfl, rfl, rfl⟩ (fun P g => g.kn rfl rfl rfl) (fun V' hH' => ?_)
    replace h := h V' hH'
    subst h2
    exact p1_bits (by omega) h
/-- the rest lies elsewhere than the lines' list -/
theorem oLi_ne {m m' : Int32} {e e' n n' : Nat} (h : e ≠ e') : (Sum.inr (14, oLi m e n) : va_E) ≠ .inr (14, oLi m' e' n') := fun q => by
  have h1 := congrArg (fun z : va_E => match z with | .inr (_, [_, .ref y, _]) => y | _ => 0) q
  exact h h1
theorem HT.off {V : VS} {K : Ka} {u w : Nat} {m : Int32} {e n : Nat} {y : ClassId × vp_A} (hu : V u = some (.inr (14, oLi m e n))) (hw : V w = some (.inl y)) : ∀ {f k q : Nat}, HT (fun b e => V b = some e) K f k q → HT (fun b e => V b = some e ∧ b ≠ u ∧ b ≠ w) K f k q
  | 0, _, _, g => g.elim
  | f + 1, k, q, g => by
    unfold HT at g ⊢
    by_cases c0 : K.knot k = 0
    · rw [if_pos c0] at g ⊢; exact ⟨g, va_ne g hu (tg rfl), va_ne g hw inr_inl⟩
    rw [if_neg c0] at g ⊢
    by_cases c1 : K.knot k = 1
    · rw [if_pos c1] at g ⊢; exact ⟨g, va_ne g hu (tg rfl), va_ne g hw inr_inl⟩
    rw [if_neg c1] at g ⊢
    by_cases c2 : K.knot k = 2
    · rw [if_pos c2] at g ⊢
      obtain ⟨u, g1, g2⟩ := g
      exact ⟨u, ⟨g1, va_ne g1 hu (tg rfl), va_ne g1 hw inr_inl⟩, HT.off hu hw g2⟩
    rw [if_neg c2] at g ⊢
    obtain ⟨u, v, g1, g2, g3⟩ := g
    exact ⟨u, v, ⟨g1, va_ne g1 hu (tg rfl), va_ne g1 hw inr_inl⟩, HT.off hu hw g2, HT.off hu hw g3⟩
theorem HR.off {cA : Nat → ClassId} {a : Ad} {V : VS} {K : Ka} {m : Int32} {n : Nat} {f : Nat → Option Nat} (hu : V a.lK = some (.inr (14, oLi m a.eK n))) (hw : V a.eK = some (eO cA 60 f)) (g : HR cA a (fun b e => V b = some e) K) : HR cA a (fun b e => V b = some e ∧ b ≠ a.lK ∧ b ≠ a.eK) K := by
  obtain ⟨⟨m0, a0⟩, ⟨m1, a1⟩, ⟨m2, a2⟩, ⟨m3, a3⟩, ⟨f1, b1, c1⟩, ⟨f2, b2, c2⟩, ⟨f3, b3, c3⟩, d1, d2, d3, f4, b4, c4⟩ := g
  have n1 := va_ne b1 hw (tg rfl)
  have n2 := va_ne b2 hw (tg rfl)
  have n3 := va_ne b3 hw (tg rfl)
  exact ⟨⟨m0, a0, va_ne a0 hu (tg rfl), va_ne a0 hw inr_inl⟩, ⟨m1, a1, va_ne a1 hu (oLi_ne n1), va_ne a1 hw inr_inl⟩, ⟨m2, a2, va_ne a2 hu (oLi_ne n2), va_ne a2 hw inr_inl⟩, ⟨m3, a3, va_ne a3 hu (oLi_ne n3), va_ne a3 hw inr_inl⟩, ⟨f1, ⟨b1, va_ne b1 hu (tg rfl), n1⟩, c1⟩, ⟨f2, ⟨b2, va_ne b2 hu (tg rfl), n2⟩, c2⟩, ⟨f3, ⟨b3, va_ne b3 hu (tg rfl), n3⟩, c3⟩, fun i hi => ⟨d1 i hi, va_ne (d1 i hi) hu (tg rfl), va_ne (d1 i hi) hw inr_inl⟩, fun i hi => ⟨d2 i hi, va_ne (d2 i hi) hu (tg rfl), va_ne (d2 i hi) hw inr_inl⟩, fun i hi => ⟨d3 i hi, va_ne (d3 i hi) hu (tg rfl), va_ne (d3 i hi) hw inr_inl⟩, f4, ⟨b4, va_ne b4 hu (tg rfl), va_ne b4 hw (tg rfl)⟩, fun e he => ⟨(c4 e he).1, fun hl => by
    obtain ⟨q, q1, q2⟩ := (c4 e he).2 hl
    exact ⟨q, q1, q2.off hu hw⟩⟩⟩
theorem HS.off {cA : Nat → ClassId} {x : Nat} {a : Ad} {V V' : VS} {m : Int32} {n : Nat} {f : Nat → Option Nat} (hu : V a.lK = some (.inr (14, oLi m a.eK n))) (hw : V a.eK = some (eO cA 60 f)) (hf : ∀ b e, V b = some e → b ≠ a.lK → b ≠ a.eK → b ≠ x → V' b = some e) {l : List Value} (ho : V x = some (.inr (1, l))) (g : HS cA x a V) : HS cA x a V' := by
  obtain ⟨⟨r0, r1, r2, r3, r4, r5, mm, r⟩, ⟨g0, nn⟩, ⟨f1, s1⟩, ⟨f2, s2⟩, ⟨f3, s3⟩, ⟨f4, s4⟩, ⟨f5, s5⟩, ⟨f6, s6⟩, d⟩ := g
  have p : ∀ {b : Nat} {y : ClassId × vp_A}, V b = some (.inl y) → (∀ f', (Sum.inl y : va_E) ≠ eO cA 60 f') → V' b = some (.inl y) := fun {b y} h1 h2 => hf _ _ h1 (va_ne h1 hu (Ne.symm inr_inl)) (va_ne h1 hw (h2 f)) (va_ne h1 ho (Ne.symm inr_inl))
  exact ⟨⟨r0, r1, r2, r3, r4, r5, mm, hf _ _ r (va_ne r hu (tg rfl)) (va_ne r hw inr_inl) (va_ne r ho (tg rfl))⟩, ⟨g0, p nn (fun _ => tg rfl)⟩, ⟨f1, p s1 (fun _ => tg rfl)⟩, ⟨f2, p s2 (fun _ => tg rfl)⟩, ⟨f3, p s3 (fun _ => tg rfl)⟩, ⟨f4, p s4 (fun _ => tg rfl)⟩, ⟨f5, p s5 (fun _ => tg rfl)⟩, ⟨f6, p s6 (fun _ => tg rfl)⟩, d⟩
/-- the lines' list, its row and SaidSo change -/
theorem HK.lines {cA : Nat → ClassId} {x : Nat} {a a' : Ad} {V V' : VS} {K K' : Ka} (h : HK cA x a V K) (ea : a'.1 = a.1 ∧ a'.t = a.t ∧ a'.l = a.l ∧ a'.p = a.p) (hf : ∀ b e, V b = some e → b ≠ a.lK → b ≠ a.eK → b ≠ x → V' b = some e) (ho : ∃ fo ag nu, V' x = some (.inr (1, oX a K' fo ag nu))) (hl : HL cA a' (fun b e => V' b = some e) K') (e1 : K'.fed = K.fed) (e2 : K'.byte = K.byte) (e3 : HRe K K') : HK cA x a' V' K' := by
  obtain ⟨fo, ag, nu, hx⟩ := h.obj
  obtain ⟨m, hu⟩ := h.hl.liK
  obtain ⟨f, hw, -⟩ := h.hl.arK
  have e0 : ∀ K : Ka, oX a' K = oX a K := fun K => by
    funext p q r
    unfold oX Ad.b Ad.r Ad.c Ad.n Ad.ri Ad.ke Ad.fi Ad.la Ad.pu
    rw [ea.1]
  have eH : ∀ P, HR cA a P K' → HR cA a' P K' := fun P g => by
    obtain ⟨t1, t2⟩ := a'
    obtain ⟨s1, s2⟩ := a
    obtain ⟨q1, q2, q3, q4⟩ := ea
    cases q1
    obtain ⟨a0, a1, a2, a3, ⟨f1, b1, c1⟩, ⟨f2, b2, c2⟩, ⟨f3, b3, c3⟩, d1, d2, d3, f4, b4, c4⟩ := g
    exact ⟨a0, a1, a2, a3, ⟨f1, b1, by rw [q2]; exact c1⟩, ⟨f2, b2, by rw [q3]; exact c2⟩, ⟨f3, b3, by rw [q4]; exact c3⟩, by rw [q2]; exact d1, by rw [q3]; exact d2, by rw [q4]; exact d3, f4, b4, c4⟩
  have eS : HS cA x a V' → HS cA x a' V' := fun g => by
    obtain ⟨t1, t2⟩ := a'
    obtain ⟨s1, s2⟩ := a
    obtain ⟨q1, q2, q3, q4⟩ := ea
    cases q1
    exact g
  refine ⟨by rw [e0]; exact ho, ?_, eH _ (HR.kn e3 ((h.hr.off hu hw).kp.mono (fun b e g => hf b e g.1.1 g.1.2.1 g.1.2.2 (va_ne g.1.1 hx (fun q => by rw [q] at g; exact g.2.1 rfl))))), hl, eS (h.hs.off hu hw hf hx)⟩
  obtain ⟨fb, b1, b2⟩ := h.byt
  have eb : a'.b = a.b := by unfold Ad.b; rw [ea.1]
  rw [eb, e1, e2]
  exact ⟨fb, hf _ _ b1 (va_ne b1 hu (tg rfl)) (va_ne b1 hw (tg rfl)) (va_ne b1 hx (tg rfl)), b2⟩
