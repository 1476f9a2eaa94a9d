/-! SaidSo's feed, look -/
def Ka.fd (K : Ka) (a b c d e : Int32) (i : Nat) : Ka := (va_up K.1 6 (K.fed + i), K.2.1, K.2.2.1, va_up K.2.2.2 15 (fun j => if K.fed ≤ j ∧ j < K.fed + i then fb a b c d e (j - K.fed) else K.byte j))
theorem nar_b (v : Int32) : vp_nar .byte (v.toInt8.toInt32) = bnr (v &&& 255) := by
  have e1 : vp_nar .byte (v.toInt8.toInt32) = (v.toInt8.toInt32).toInt8.toInt32 := rfl
  rw [e1, Int8.toInt8_toInt32]
  unfold bnr
  congr 1
  apply Int8.toBitVec_inj.mp
  rw [Int32.toBitVec_toInt8, Int32.toBitVec_toInt8]
  apply BitVec.eq_of_getLsbD_eq
  intro i hi
  rw [BitVec.getLsbD_signExtend, BitVec.getLsbD_signExtend, if_pos (by omega), if_pos (by omega)]
  congr 1
  have e2 : ∀ i, i < 8 → gb 255 i = true := by decide +kernel
  show gb v i = gb (v &&& 255) i
  rw [gb_and, e2 i hi, Bool.and_true]
theorem p1_byte {cA : Nat → ClassId} {x : Nat} {a : Ad} {V : VS} {K : Ka} {b c d e f w s : Int32} {i : Nat} {Q : VS → Prop} (hH : HK cA x a V (K.fd b c d e f i)) (hi : K.fed + i < 800) (hv : fb b c d e f i = (w >>> s) &&& 255) (h : ∀ V', HK cA x a V' (K.fd b c d e f (i + 1)) → Q V') : bO (gR V [1] x 0) (fun p_2 => bO (gI V [1] x 1) (fun g_4 => bO (pF V [1] x 1 (.int (g_4 + (1)))) (fun V_6 => bO p_2 (fun n_8 => bO (tI V_6 (cA 3) n_8 g_4 (vp_nar .byte ((w >>> s).toInt8.toInt32))) Q)))) := by
  obtain ⟨fo, ag, nu, hx⟩ := hH.obj
  obtain ⟨f0, b1, b2⟩ := hH.byt
  have hxb : a.b ≠ x := va_ne b1 hx (tg rfl)
  refine bO_of hH.x0 (bO_of hH.x1 (bO_of (pF_of (l := oX a (K.fd b c d e f i) fo ag nu) _ hx rfl (show 1 < 21 by decide)) (bO_of rfl ?_)))
  have e1 : (K.fd b c d e f i).fed = K.fed + i := rfl
  have b3 : vU V x (.inr (1, (oX a (K.fd b c d e f i) fo ag nu).set 1 (.int (nI (K.fd b c d e f i).fed + 1)))) a.b = some (eB cA f0) := by rw [vU_n _ _ hxb]; exact b1
  refine bO_of (tI_of _ b3 (show K.fed + i < 800 from hi) (by decide)) (h _ ?_)
  rw [nI_1]
  have o : ∀ {q : Nat} {y : va_E}, V q = some y → eTag y ≠ eTag (eB cA f0) → (∀ l, y ≠ .inr (1, l)) → vU (vU V x (.inr (1, (oX a (K.fd b c d e f i) fo ag nu).set 1 (.int (nI (K.fed + i + 1)))))) a.b (.inl (cA 3, 800, .inl (upd f0 (K.fed + i) (vp_nar .byte ((w >>> s).toInt8.toInt32))))) q = some y := fun {q y} g1 g2 g3 => by
    rw [vU_n _ _ (va_ne g1 b1 (fun z => g2 (by rw [z]))), vU_n _ _ (va_ne g1 hx (g3 _))]
    exact g1
  obtain ⟨⟨r0, r1, r2, r3, r4, r5, m, r⟩, ⟨g, n⟩, ⟨f1, s1⟩, ⟨f2, s2⟩, ⟨f3, s3⟩, ⟨f4, s4⟩, ⟨f5, s5⟩, ⟨f6, s6⟩, dd⟩ := hH.hs
  have t1 : ∀ {n : Nat} {g : Nat → Int32}, n < 800 → eTag (eI cA n g) ≠ eTag (eB cA f0) := fun {n g} hn => by
    show 4 * n ≠ 4 * 800
    omega
  refine hH.scr (K' := K.fd b c d e f (i + 1)) (fun q y g1 g2 => o g1 ?_ (fun l z => by rw [z] at g2; exact g2.1 rfl)) ⟨_, vU_s _ _ _, ?_⟩ ⟨fo, ag, nu, by rw [vU_n _ _ (Ne.symm hxb), vU_s]; rfl⟩ ⟨⟨r0, r1, r2, r3, r4, r5, m, o r (by show ¬ 4 * 2 + 3 = 4 * 800; decide) (fun l => tg rfl)⟩, ⟨g, o n (by show ¬ 4 * 10 + 1 = 4 * 800; decide) (fun l => tg rfl)⟩, ⟨f1, o s1 (t1 (by decide)) (fun l => tg rfl)⟩, ⟨f2, o s2 (t1 (by decide)) (fun l => tg rfl)⟩, ⟨f3, o s3 (t1 (by decide)) (fun l => tg rfl)⟩, ⟨f4, o s4 (t1 (by decide)) (fun l => tg rfl)⟩, ⟨f5, o s5 (t1 (by decide)) (fun l => tg rfl)⟩, ⟨f6, o s6 (by show ¬ 4 * 1 + 1 = 4 * 800; decide) (fun l => tg rfl)⟩, dd⟩ (fun g => HR.kn (K := K.fd b c d e f i) (K' := K.fd b c d e f (i + 1)) ⟨rfl, rfl, rfl, rfl, rfl, rfl, rfl, rfl, rfl, rfl, rfl, rfl, rfl⟩ g) (fun g => HL.kn (K := K.fd b c d e f i) (K' := K.fd b c d e f (i + 1)) rfl rfl rfl g)
  · intro z
    match y, g2, z with
    | .inr o, _, z =>
      have z : 4 * o.1 + 3 = 4 * 800 := z
      omega
    | .inl (_, n, .inr (.inr _)), _, z =>
      have z : 4 * n + 2 = 4 * 800 := z
      omega
  · intro j hj
    have hj : j < K.fed + (i + 1) := hj
    show upd f0 (K.fed + i) (vp_nar .byte ((w >>> s).toInt8.toInt32)) j = bnr (if K.fed ≤ j ∧ j < K.fed + (i + 1) then fb b c d e f (j - K.fed) else K.byte j)
    by_cases q : j = K.fed + i
    · rw [q, pk_us, nar_b, if_pos ⟨by omega, by omega⟩, show K.fed + i - K.fed = i by omega, hv]
    · rw [pk_un q, b2 j (show j < K.fed + i by omega)]
      show bnr (if K.fed ≤ j ∧ j < K.fed + i then fb b c d e f (j - K.fed) else K.byte j) = _
      by_cases z : K.fed ≤ j
      · rw [if_pos ⟨z, by omega⟩, if_pos ⟨z, hj⟩]
      · rw [if_neg (fun y => z y.1), if_neg (fun y => z y.1)]
theorem p1_put {cA : Nat → ClassId} {x : Nat} {a : Ad} {V : VS} {K : Ka} {b c d e f w : Int32} {p : Nat} {Post : VS → Prop} (hH : HK cA x a V (K.fd b c d e f (4 * p))) (hi : K.fed + 4 * p + 4 ≤ 800) (hw : ∀ s, s < 4 → fbW b c d e f (4 * p + s) = w) (h : ∀ V', HK cA x a V' (K.fd b c d e f (4 * p + 4)) → Post V') : vX1_put cA x w V Post := by
  have hv : ∀ s, s < 4 → fb b c d e f (4 * p + s) = (w >>> (nI (24 - 8 * s) &&& 31)) &&& 255 := fun s hs => by
    unfold fb
    rw [hw s hs, show (4 * p + s) % 4 = s by omega]
  refine ⟨5, ?_⟩
  rw [vX1_put_l3]
  refine br_f (by decide) (p1_byte (i := 4 * p + 0) hH (by omega) (hv 0 (by decide)) (fun V1 hH1 v e1 => ?_))
  rw [e1, show (24 : Int32) + -8 = 16 from by decide, vX1_put_l3]
  refine br_f (by decide) (p1_byte (i := 4 * p + 1) hH1 (by omega) (hv 1 (by decide)) (fun V2 hH2 v e2 => ?_))
  rw [e2, show (16 : Int32) + -8 = 8 from by decide, vX1_put_l3]
  refine br_f (by decide) (p1_byte (i := 4 * p + 2) hH2 (by omega) (hv 2 (by decide)) (fun V3 hH3 v e3 => ?_))
  rw [e3, show (8 : Int32) + -8 = 0 from by decide, vX1_put_l3]
  refine br_f (by decide) (p1_byte (i := 4 * p + 3) hH3 (by omega) (hv 3 (by decide)) (fun V4 hH4 v e4 => ?_))
  rw [e4, show (0 : Int32) + -8 = -8 from by decide, vX1_put_l3]
  exact br_t (by decide) (h V4 hH4)
theorem fd_0 {K : Ka} {a b c d e : Int32} : (K.fd a b c d e 0).fed = K.fed ∧ (K.fd a b c d e 0).byte = K.byte := by
  refine ⟨rfl, ?_⟩
  funext j
  show (if K.fed ≤ j ∧ j < K.fed + 0 then fb a b c d e (j - K.fed) else K.byte j) = _
  rw [if_neg (by omega)]
theorem p1_feed {cA : Nat → ClassId} {x : Nat} {a : Ad} {V : VS} {K : Ka} {Post : Int32 → VS → Prop} (hO : KO K) (hH : HK cA x a V K) {b c d e f : Int32} (h : ∀ V', HK cA x a V' (aFeed K b c d e f).2 → Post (aFeed K b c d e f).1 V') : vX1_feed cA x b c d e f V Post := by
  have h9f := hO.fed
  unfold vX1_feed
  simp (disch := first | assumption | omega) only [nI_lt0, nI_clamp, vp_inT, nI_eq, imp_FT, imp_TF, true_and, and_true, bO_s, hH.x0, hH.x1, hH.x2, hH.x3, hH.x4, hH.x5, hH.x6, hH.x7, hH.x8, hH.x9, hH.x10, hH.x11, hH.x12, hH.x15, hH.x16, hH.x18, hH.x19, hH.x20, hH.vx, hH.c0, hH.c1, hH.c2, hH.c3, hH.c4, hH.c6, hH.vc, hH.vT, hH.vL, hH.vP, hH.vK, hH.t0, hH.t1, hH.t2, hH.t3, hH.t4, hH.vt, hH.l0, hH.l1, hH.l2, hH.l3, hH.l4, hH.vl, hH.p0, hH.p1, hH.p2, hH.vp, hH.k0, hH.w0, hH.k1, hH.w1, hH.k2, hH.w2, hH.k3, hH.w3, hH.k4, hH.w4, hH.k5, hH.w5, hH.q5, hH.vk, hH.vw, hH.sT, hH.sL, hH.sP, hH.sK, hH.gT, hH.gL, hH.gP, hH.gK]
  unfold aFeed at h
  rw [show (20 : Int32) = nI 20 from rfl, nI_add, show (800 : Int32) = nI 800 from rfl]
  refine br_c (fun q => ?_) (fun q => ?_)
  · rw [nI_leI (by omega) (by omega)] at q
    rw [if_pos q] at h
    have hH0 : HK cA x a V (K.fd b c d e f (4 * 0)) := by
      obtain ⟨fo, ag, nu, hx⟩ := hH.obj
      obtain ⟨f0, b1, b2⟩ := hH.byt
      refine ⟨⟨fo, ag, nu, hx⟩, ⟨f0, b1, fun j hj => ?_⟩, HR.kn (K := K) (K' := K.fd b c d e f 0) ⟨rfl, rfl, rfl, rfl, rfl, rfl, rfl, rfl, rfl, rfl, rfl, rfl, rfl⟩ hH.hr, HL.kn (K := K) (K' := K.fd b c d e f 0) rfl rfl rfl hH.hl, hH.hs⟩
      rw [show (K.fd b c d e f (4 * 0)).byte = K.byte from fd_0.2]
      exact b2 j hj
    refine p1_put (p := 0) hH0 (by omega) (fun s hs => by unfold fbW; rw [if_pos (by omega)]) (fun V1 h1 => ?_)
    rw [h1.vx]
    refine p1_put (p := 1) h1 (by omega) (fun s hs => by unfold fbW; rw [if_neg (by omega), if_pos (by omega)]) (fun V2 h2 => ?_)
    rw [h2.vx]
    refine p1_put (p := 2) h2 (by omega) (fun s hs => by unfold fbW; rw [if_neg (by omega), if_neg (by omega), if_pos (by omega)]) (fun V3 h3 => ?_)
    rw [h3.vx]
    refine p1_put (p := 3) h3 (by omega) (fun s hs => by unfold fbW; rw [if_neg (by omega), if_neg (by omega), if_neg (by omega), if_pos (by omega)]) (fun V4 h4 => ?_)
    rw [h4.vx]
    refine p1_put (p := 4) h4 (by omega) (fun s hs => by unfold fbW; rw [if_neg (by omega), if_neg (by omega), if_neg (by omega), if_neg (by omega)]) (fun V5 h5 => ?_)
    exact bO_of h5.x1 (h V5 h5)
  · rw [nI_leI (by omega) (by omega)] at q
    rw [if_neg q] at h
    exact h _ hH
/-- the law's own row changes -/
theorem HK.outw {cA : Nat → ClassId} {x : Nat} {a : Ad} {V : VS} {K : Ka} (h : HK cA x a V K) (g : Nat → Int64) : HK cA x a (vU V a.o (eW cA g)) K := by
  obtain ⟨fo0, ag0, nu0, hx⟩ := h.obj
  obtain ⟨f, b1, b2⟩ := h.byt
  obtain ⟨⟨r0, r1, r2, r3, r4, r5, m, r⟩, ⟨g0, n⟩, ⟨f1, s1⟩, ⟨f2, s2⟩, ⟨f3, s3⟩, ⟨f4, s4⟩, ⟨f5, s5⟩, ⟨f6, s6⟩, d⟩ := h.hs
  have o : ∀ {b : Nat} {e : va_E}, V b = some e → (∀ g, e ≠ eW cA g) → vU V a.o (eW cA g) b = some e := fun {b e} g1 g2 => by
    rw [vU_n _ _ (va_ne g1 s6 (g2 _))]; exact g1
  refine h.scr (fun b e g1 g2 => o g1 (fun l q => ?_)) ⟨f, o b1 (fun l => tg rfl), b2⟩ ⟨_, _, _, o hx (fun l => tg rfl)⟩ ⟨⟨r0, r1, r2, r3, r4, r5, m, o r (fun l => tg rfl)⟩, ⟨g0, o n (fun l => tg rfl)⟩, ⟨f1, o s1 (fun l => tg rfl)⟩, ⟨f2, o s2 (fun l => tg rfl)⟩, ⟨f3, o s3 (fun l => tg rfl)⟩, ⟨f4, o s4 (fun l => tg rfl)⟩, ⟨f5, o s5 (fun l => tg rfl)⟩, ⟨g, vU_s _ _ _⟩, d⟩ id id
  rw [q] at g2
  exact g2
theorem p1_look {cA : Nat → ClassId} {x : Nat} {a : Ad} {V : VS} {K : Ka} {Post : Int32 → VS → Prop} (hO : KO K) (hH : HK cA x a V K) {b d : Int32} {MC MS : Nat} {PX : Nat → Nat → VS → Prop} (hC : 1 ≤ MC) (hS : 6 ≤ MS) (h : ∀ V', HK cA x a V' K → ((aLook K b d).1 = 0 → lJ V' (cA 2) a.o 0 = some (aLook K b d).2.toInt64) → Post (aLook K b d).1 V') : vX0_look cA x b d a.o V MC MS Post PX := by
  have h9T := hO.nT; have h9L := hO.nL; have h9K := hO.nK; have h9P := hO.nP
  refine ⟨1, 6, by omega, by omega, ?_⟩
  unfold vX1_look
  simp (disch := first | assumption | omega) only [nI_lt0, nI_clamp, vp_inT, nI_eq, imp_FT, imp_TF, true_and, and_true, bO_s, hH.x0, hH.x1, hH.x2, hH.x3, hH.x4, hH.x5, hH.x6, hH.x7, hH.x8, hH.x9, hH.x10, hH.x11, hH.x12, hH.x15, hH.x16, hH.x18, hH.x19, hH.x20, hH.vx, hH.c0, hH.c1, hH.c2, hH.c3, hH.c4, hH.c6, hH.vc, hH.vT, hH.vL, hH.vP, hH.vK, hH.t0, hH.t1, hH.t2, hH.t3, hH.t4, hH.vt, hH.l0, hH.l1, hH.l2, hH.l3, hH.l4, hH.vl, hH.p0, hH.p1, hH.p2, hH.vp, hH.k0, hH.w0, hH.k1, hH.w1, hH.k2, hH.w2, hH.k3, hH.w3, hH.k4, hH.w4, hH.k5, hH.w5, hH.q5, hH.vk, hH.vw, hH.sT, hH.sL, hH.sP, hH.sK, hH.gT, hH.gL, hH.gP, hH.gK]
  unfold aLook at h
  have ok : ∀ v : Int32, (∀ V', HK cA x a V' K → (lJ V' (cA 2) a.o 0 = some v.toInt64) → Post 0 V') → bO (tJ V (cA 2) a.o 0 v.toInt64) (fun V_9 => Post 0 V_9) := fun v hp => by
    obtain ⟨g, h1⟩ := hH.hs.out
    refine bO_of (tJ_of (k := 0) v.toInt64 h1 (by decide) (by decide)) (hp _ (hH.outw _) ?_)
    exact lJ_of (k := 0) (vU_s _ _ _) (by decide) (by decide)
  refine p1_isThing (Post := fun r_1 V_2 => _) hO hH (fun y e hy hb => br_f (by decide) ?_) (fun e => br_t rfl ?_)
  · rw [e] at h
    dsimp only at h
    subst hb
    simp (disch := first | assumption | omega) only [nI_lt0, nI_clamp, vp_inT, nI_eq, imp_FT, imp_TF, true_and, and_true, bO_s, hH.x0, hH.x1, hH.x2, hH.x3, hH.x4, hH.x5, hH.x6, hH.x7, hH.x8, hH.x9, hH.x10, hH.x11, hH.x12, hH.x15, hH.x16, hH.x18, hH.x19, hH.x20, hH.vx, hH.c0, hH.c1, hH.c2, hH.c3, hH.c4, hH.c6, hH.vc, hH.vT, hH.vL, hH.vP, hH.vK, hH.t0, hH.t1, hH.t2, hH.t3, hH.t4, hH.vt, hH.l0, hH.l1, hH.l2, hH.l3, hH.l4, hH.vl, hH.p0, hH.p1, hH.p2, hH.vp, hH.k0, hH.w0, hH.k1, hH.w1, hH.k2, hH.w2, hH.k3, hH.w3, hH.k4, hH.w4, hH.k5, hH.w5, hH.q5, hH.vk, hH.vw, hH.sT, hH.sL, hH.sP, hH.sK, hH.gT, hH.gL, hH.gP, hH.gK]
    refine br_c (fun c => ?_) (fun c => br_c (fun c1 => ?_) (fun c1 => br_c (fun c2 => ?_) (fun c2 => br_c (fun c3 => ?_) (fun c3 => ?_))))
    · rw [if_pos c] at h; exact ok _ (fun V' g1 g2 => h V' g1 (fun _ => g2))
    · rw [if_neg c, if_pos c1] at h; exact ok _ (fun V' g1 g2 => h V' g1 (fun _ => g2))
    · rw [if_neg c, if_neg c1, if_pos c2] at h; exact ok _ (fun V' g1 g2 => h V' g1 (fun _ => g2))
    · rw [if_neg c, if_neg c1, if_neg c2, if_pos c3] at h; exact ok _ (fun V' g1 g2 => h V' g1 (fun _ => g2))
    · rw [if_neg c, if_neg c1, if_neg c2, if_neg c3] at h
      exact ⟨by omega, by omega, fun q => Or.inr (h V hH (fun z => absurd z (show ¬ (2 : Int32) = 0 by decide)))⟩
  · rw [e] at h
    dsimp only at h
    exact ⟨by omega, by omega, fun q => Or.inl (h V hH (fun z => absurd z (by decide)))⟩
