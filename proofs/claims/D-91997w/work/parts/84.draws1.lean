theorem gb_nI (n : Nat) {i : Nat} (hi : i < 32) : gb (nI n) i = n.testBit i := by
  show (BitVec.ofNat 32 n).getLsbD i = _
  rw [BitVec.getLsbD_ofNat]
  simp [hi]
theorem nI_shr16 {n : Nat} (h : n < 2 ^ 31) : nI n >>> ((16 : Int32) &&& 31) = nI (n / 65536) := by
  refine gb_ext (fun i hi => ?_)
  rw [show (16 : Int32) = nI 16 from rfl, gb_sshr 16 (by decide) _ hi, gb_nI _ hi, show (65536 : Nat) = 2 ^ 16 from rfl, Nat.testBit_div_two_pow]
  by_cases c : 16 + i < 32
  · rw [if_pos c, gb_nI _ c, Nat.add_comm]
  · rw [if_neg c, gb_nI _ (by decide), Nat.testBit_lt_two_pow h]
    symm
    exact Nat.testBit_lt_two_pow (Nat.lt_of_lt_of_le h (Nat.pow_le_pow_right (by decide) (by omega)))
theorem p1_next {cA : Nat → ClassId} {x : Nat} {a : Ad} {V : VS} {K : Ka} {Post : Int32 → VS → Prop} {fo ag : Int64} {s b : Nat} (hx : V x = some (.inr (1, oX a K fo ag (nI s)))) (hb0 : 0 < b) (hb : b < 2 ^ 31) (h : Post (nI (dv (nxt s) b)) (vU V x (.inr (1, oX a K fo ag (nI (nxt s)))))) : vX1_next cA x (nI b) V Post := by
  unfold vX1_next
  have h1 := nxt_lt s
  have e1 : ((nI s * (1103515245 : Int32)) + (12345 : Int32)) &&& (2147483647 : Int32) = nI (nxt s) := by
    rw [show (1103515245 : Int32) = nI 1103515245 from rfl, show (12345 : Int32) = nI 12345 from rfl, nI_mul, nI_add, nI_and]
    rfl
  refine bO_of (gI_of (v := nI s) hx rfl rfl) (bO_of (pF_of (l := oX a K fo ag (nI s)) _ hx rfl (show 17 < 21 by decide)) ?_)
  rw [e1]
  refine bO_of (gI_of (v := nI (nxt s)) (vU_s _ _ _) rfl rfl) ⟨nI_ne0 hb0 hb, ?_⟩
  have h2 : nxt s / 65536 < 2 ^ 31 := Nat.lt_of_le_of_lt (Nat.div_le_self _ _) h1
  rw [nI_shr16 h1, nI_mod h2 hb]
  exact h
theorem p1_putAhead {cA : Nat → ClassId} {x : Nat} {a : Ad} {V : VS} {K : Ka} {Post : Int32 → VS → Prop} (hO : KO K) (hH : HK cA x a V K) {k : Nat} (hk : k < K.nK) (h : Post (pa K k) V) : vX1_putAhead cA x (nI k) V Post := by
  have h9T := hO.nT; have h9L := hO.nL; have h9K := hO.nK; have h9P := hO.nP; have h9w := hO.who k hk; have h9t := hO.thing k hk
  unfold vX1_putAhead
  simp (disch := first | assumption | omega) only [nI_lt0, nI_clamp, vp_inT, nI_eq, imp_FT, imp_TF, true_and, and_true, bO_s, hH.x0, hH.x1, hH.x2, hH.x3, hH.x4, hH.x5, hH.x6, hH.x7, hH.x8, hH.x9, hH.x10, hH.x11, hH.x12, hH.x15, hH.x16, hH.x18, hH.x19, hH.x20, hH.vx, hH.c0, hH.c1, hH.c2, hH.c3, hH.c4, hH.c6, hH.vc, hH.vT, hH.vL, hH.vP, hH.vK, hH.t0, hH.t1, hH.t2, hH.t3, hH.t4, hH.vt, hH.l0, hH.l1, hH.l2, hH.l3, hH.l4, hH.vl, hH.p0, hH.p1, hH.p2, hH.vp, hH.k0, hH.w0, hH.k1, hH.w1, hH.k2, hH.w2, hH.k3, hH.w3, hH.k4, hH.w4, hH.k5, hH.w5, hH.q5, hH.vk, hH.vw, hH.sT, hH.sL, hH.sP, hH.sK, hH.gT, hH.gL, hH.gP, hH.gK, forall_eq]
  unfold pa at h
  refine dnL (W := fun f i => lastV (paB K k) K.value k = lastV (paB K k) K.value i → vX1_putAhead_l19 cA x (nI k) Post f (a.k k) (nI i - 1) V) (e := k) ?_ ?_ |>.imp (fun f h => h rfl)
  · intro n e
    rw [vX1_putAhead_l19]
    refine br_t (by decide) ?_
    rw [e] at h
    exact h
  · intro n i hi ih e
    have h9i : i < K.nK := by omega
    rw [vX1_putAhead_l19, nI_pred]
    refine br_f (nI_pos (by omega)) ?_
    simp only [vX1_putAhead_c57, forall_eq]
    rw [show nI i + -1 = nI i - 1 from (Int32.sub_eq_add_neg _ _).symm]
    have no : paB K k i = false → vX1_putAhead_l19 cA x (nI k) Post n (a.k k) (nI i - 1) V := fun z => ih (by rw [e, lastV, z]; rfl)
    simp (disch := first | assumption | omega) only [nI_lt0, nI_clamp, vp_inT, nI_eq, imp_FT, imp_TF, true_and, and_true, bO_s, hH.x0, hH.x1, hH.x2, hH.x3, hH.x4, hH.x5, hH.x6, hH.x7, hH.x8, hH.x9, hH.x10, hH.x11, hH.x12, hH.x15, hH.x16, hH.x18, hH.x19, hH.x20, hH.vx, hH.c0, hH.c1, hH.c2, hH.c3, hH.c4, hH.c6, hH.vc, hH.vT, hH.vL, hH.vP, hH.vK, hH.t0, hH.t1, hH.t2, hH.t3, hH.t4, hH.vt, hH.l0, hH.l1, hH.l2, hH.l3, hH.l4, hH.vl, hH.p0, hH.p1, hH.p2, hH.vp, hH.k0, hH.w0, hH.k1, hH.w1, hH.k2, hH.w2, hH.k3, hH.w3, hH.k4, hH.w4, hH.k5, hH.w5, hH.q5, hH.vk, hH.vw, hH.sT, hH.sL, hH.sP, hH.sK, hH.gT, hH.gL, hH.gP, hH.gK]
    refine p1_heardT hO hH h9i h9w h9t (bo (fun c => no ?_) (fun c => ?_))
    · unfold paB ak
      unfold hl2 at c
      cases e1 : hh K i <;> cases e2 : K.who i == K.who k <;> simp_all
    · simp only [hl2, Bool.and_eq_true] at c
      refine p1_isPut hO hH h9i (bz (fun d => no ?_) (fun d => ?_))
      · unfold paB ak
        rw [c.1, c.2.1, c.2.2]
        cases e1 : K.isW i
        · rw [e1] at d
          simpa using d
        · rfl
      · simp only [Bool.and_eq_true, Bool.not_eq_true'] at d
        simp (disch := first | assumption | omega) only [nI_lt0, nI_clamp, vp_inT, nI_eq, imp_FT, imp_TF, true_and, and_true, bO_s, hH.x0, hH.x1, hH.x2, hH.x3, hH.x4, hH.x5, hH.x6, hH.x7, hH.x8, hH.x9, hH.x10, hH.x11, hH.x12, hH.x15, hH.x16, hH.x18, hH.x19, hH.x20, hH.vx, hH.c0, hH.c1, hH.c2, hH.c3, hH.c4, hH.c6, hH.vc, hH.vT, hH.vL, hH.vP, hH.vK, hH.t0, hH.t1, hH.t2, hH.t3, hH.t4, hH.vt, hH.l0, hH.l1, hH.l2, hH.l3, hH.l4, hH.vl, hH.p0, hH.p1, hH.p2, hH.vp, hH.k0, hH.w0, hH.k1, hH.w1, hH.k2, hH.w2, hH.k3, hH.w3, hH.k4, hH.w4, hH.k5, hH.w5, hH.q5, hH.vk, hH.vw, hH.sT, hH.sL, hH.sP, hH.sK, hH.gT, hH.gL, hH.gP, hH.gK]
        rw [e, lastV] at h
        simp only [paB, ak, c.1, c.2.1, c.2.2, d.1, d.2, Bool.not_false, Bool.and_true, if_true] at h
        exact h
theorem frB_thing {K : Ka} {t i k : Nat} (h : i < k) (h1 : frB K t i = true) (h2 : frB K t k = true) : K.thing i ≠ K.thing k := by
  intro e
  simp only [frB, hw, fs, Bool.and_eq_true, beq_iff_eq, Bool.not_eq_true'] at h1 h2
  have := anyB_f h2.2.2 i h
  simp only [sy, hw, h1.1.1, h1.1.2, h1.2.1, h2.2.1, e, Bool.and_true, beq_self_eq_true, Bool.true_eq_false] at this
theorem frB_cnt {K : Ka} (hO : KO K) (t : Nat) : cnt (frB K t) K.nK ≤ 8 :=
  Nat.le_trans (cnt_first (f := K.thing) (fun k hk _ => hO.thing k hk) (fun _ _ h _ h1 h2 => frB_thing h h1 h2)) hO.nT
/-- the three rows of first words -/
def DR (cA : Nat → ClassId) (x : Nat) (a : Ad) (V : VS) (K : Ka) (t k : Nat) (ff lf pf : Nat → Int32) : Prop := (HK cA x a V K) ∧ (V a.fi = some (eI cA 8 ff)) ∧ (V a.la = some (eI cA 8 lf)) ∧ (V a.pu = some (eI cA 8 pf)) ∧ (∀ i, i < k → frB K t i = true → ff (cnt (frB K t) i) = nI i ∧ lf (cnt (frB K t) i) = lawI K i ∧ pf (cnt (frB K t) i) = pa K i)
theorem DR.hk {cA : Nat → ClassId} {x : Nat} {a : Ad} {V : VS} {K : Ka} {t k : Nat} {ff lf pf : Nat → Int32} (h : DR cA x a V K t k ff lf pf) : HK cA x a V K := h.1
theorem DR.fi {cA : Nat → ClassId} {x : Nat} {a : Ad} {V : VS} {K : Ka} {t k : Nat} {ff lf pf : Nat → Int32} (h : DR cA x a V K t k ff lf pf) : V a.fi = some (eI cA 8 ff) := h.2.1
theorem DR.la {cA : Nat → ClassId} {x : Nat} {a : Ad} {V : VS} {K : Ka} {t k : Nat} {ff lf pf : Nat → Int32} (h : DR cA x a V K t k ff lf pf) : V a.la = some (eI cA 8 lf) := h.2.2.1
theorem DR.pu {cA : Nat → ClassId} {x : Nat} {a : Ad} {V : VS} {K : Ka} {t k : Nat} {ff lf pf : Nat → Int32} (h : DR cA x a V K t k ff lf pf) : V a.pu = some (eI cA 8 pf) := h.2.2.2.1
theorem DR.all {cA : Nat → ClassId} {x : Nat} {a : Ad} {V : VS} {K : Ka} {t k : Nat} {ff lf pf : Nat → Int32} (h : DR cA x a V K t k ff lf pf) : ∀ i, i < k → frB K t i = true → ff (cnt (frB K t) i) = nI i ∧ lf (cnt (frB K t) i) = lawI K i ∧ pf (cnt (frB K t) i) = pa K i := h.2.2.2.2
theorem cnt_s {p : Nat → Bool} {k : Nat} (h : p k = true) : cnt p (k + 1) = cnt p k + 1 := by
  show cnt p k + (if p k = true then 1 else 0) = _
  rw [h, if_pos rfl]
theorem cnt_n {p : Nat → Bool} {k : Nat} (h : p k = false) : cnt p (k + 1) = cnt p k := by
  show cnt p k + (if p k = true then 1 else 0) = _
  rw [h, if_neg (by simp), Nat.add_zero]
theorem cnt_lt {p : Nat → Bool} {i k : Nat} (h : i < k) (hp : p i = true) : cnt p i < cnt p k := by
  have h1 := cnt_s hp
  have h2 : cnt p (i + 1) ≤ cnt p k := cnt_mono (by omega)
  omega
theorem p1_drawOne {cA : Nat → ClassId} {x : Nat} {a : Ad} {K : Ka} {t n : Nat} {d0 : Int32} {k149 : Int32 → Int32 → Int32 → Int32 → VS → Prop} {Post : Int32 → VS → Prop} {ff lf pf : Nat → Int32} {x5 x6 x7 b1 : Int32} {s0 : Nat} (hO : KO K) (ht : t < K.nL) (hx5 : x5 = nI (cnt (owB K t) K.nK))
    (hout : ∀ V2 fo ag, DR cA x a V2 K t K.nK ff lf pf → V2 x = some (.inr (1, oX a K fo ag (nI (drL K t s0 K.nK).2))) → k149 (nI (cnt (frB K t) K.nK)) x5 (x6 + (if cnt (owB K t) K.nK ≤ (drL K t s0 K.nK).1 then 1 else 0)) (x7 + 1) V2) :
    ∀ d k, k + d = K.nK → ∀ V2 fo ag, DR cA x a V2 K t K.nK ff lf pf → V2 x = some (.inr (1, oX a K fo ag (nI (drL K t s0 k).2))) → ∃ f, vX1_draws_l161 cA x (nI t) b1 d0 k149 Post f (nI (cnt (frB K t) K.nK)) x5 x6 x7 (nI (drL K t s0 k).1) (nI (cnt (frB K t) k)) V2 := by
  have h9T := hO.nT; have h9L := hO.nL; have h9K := hO.nK; have h9P := hO.nP
  have hc8 := frB_cnt hO t
  intro d
  induction d with
  | zero =>
    intro k hk V2 fo ag hD hx
    have : k = K.nK := by omega
    subst this
    have h1 := drL_le K t s0 K.nK
    have h2 := cnt_le (owB K t) K.nK
    refine ⟨1, ?_⟩
    rw [vX1_draws_l161]
    refine br_t (Int32.le_refl _) ?_
    have h := hout V2 fo ag hD hx
    simp only [vX1_draws_c281, forall_eq, Int32.add_zero]
    subst hx5
    simp (disch := omega) only [nI_ltI]
    refine br_c (fun c => ?_) (fun c => ?_)
    · rw [if_neg (Nat.not_le.mpr c), Int32.add_zero] at h; exact h
    · rw [if_pos (Nat.not_lt.mp c)] at h; exact h
  | succ d ih =>
    intro k hk V2 fo ag hD hx
    cases e : frB K t k with
    | false =>
      have e1 : drL K t s0 (k + 1) = drL K t s0 k := by simp only [drL, e, if_false, Bool.false_eq_true]
      have h := ih (k + 1) (by omega) V2 fo ag hD (by rw [e1]; exact hx)
      rw [e1, cnt_n e] at h
      exact h
    | true =>
      have hkK : k < K.nK := by omega
      have h9x := hO.thing k hkK
      obtain ⟨w, w1, w2, w3, w4⟩ := hO.wN h9x
      have hH := hD.hk
      obtain ⟨a1, a2, a3⟩ := hD.all k hkK e
      have hlt : cnt (frB K t) k < cnt (frB K t) K.nK := cnt_lt hkK e
      have hdl := drL_le K t s0 k
      have mv : ∀ s', DR cA x a (vU V2 x (.inr (1, oX a K fo ag (nI s')))) K t K.nK ff lf pf := fun s' => by
        have o : ∀ {b : Nat} {f : Nat → Int32}, V2 b = some (eI cA 8 f) → vU V2 x (.inr (1, oX a K fo ag (nI s'))) b = some (eI cA 8 f) := fun {b f} g => by
          rw [vU_n _ _ (va_ne g hx (tg rfl))]; exact g
        exact ⟨hH.setX rfl rfl (fun P g => g) (fun P g => g), o hD.fi, o hD.la, o hD.pu, hD.all⟩
      -- behind a draw: right or not, on to the next line
      have c239 : ∀ (v : Int32) (s' : Nat) (V3 : VS), drL K t s0 (k + 1) = ((drL K t s0 k).1 + (if v = K.isSo (K.thing k) then 1 else 0), s') → DR cA x a V3 K t K.nK ff lf pf → V3 x = some (.inr (1, oX a K fo ag (nI s'))) → ∃ f, vX1_draws_c239 cA x (nI t) b1 d0 k149 (vX1_draws_l161 cA x (nI t) b1 d0 k149 Post f) Post (nI (cnt (frB K t) K.nK)) x5 x6 x7 (nI (drL K t s0 k).1) (nI (cnt (frB K t) k)) (a.t (K.thing k)) v V3 := by
        intro v s' V3 er hD3 hx3
        obtain ⟨f, hf⟩ := ih (k + 1) (by omega) V3 fo ag hD3 (by rw [er]; exact hx3)
        refine ⟨f, ?_⟩
        rw [er, cnt_s e] at hf
        dsimp only at hf
        have hH := hD3.hk
        simp only [vX1_draws_c239, vX1_draws_c258, forall_eq, nI_1, Int32.add_zero]
        simp (disch := first | assumption | omega) only [nI_lt0, nI_clamp, vp_inT, nI_eq, imp_FT, imp_TF, true_and, and_true, bO_s, hH.x0, hH.x1, hH.x2, hH.x3, hH.x4, hH.x5, hH.x6, hH.x7, hH.x8, hH.x9, hH.x10, hH.x11, hH.x12, hH.x15, hH.x16, hH.x18, hH.x19, hH.x20, hH.vx, hH.c0, hH.c1, hH.c2, hH.c3, hH.c4, hH.c6, hH.vc, hH.vT, hH.vL, hH.vP, hH.vK, hH.t0, hH.t1, hH.t2, hH.t3, hH.t4, hH.vt, hH.l0, hH.l1, hH.l2, hH.l3, hH.l4, hH.vl, hH.p0, hH.p1, hH.p2, hH.vp, hH.k0, hH.w0, hH.k1, hH.w1, hH.k2, hH.w2, hH.k3, hH.w3, hH.k4, hH.w4, hH.k5, hH.w5, hH.q5, hH.vk, hH.vw, hH.sT, hH.sL, hH.sP, hH.sK, hH.gT, hH.gL, hH.gP, hH.gK]
        refine br_c (fun g => ?_) (fun g => ?_)
        · rw [if_pos g] at hf; exact hf
        · rw [if_neg g] at hf; exact hf
      have c230 : ∀ (s' : Nat) (V3 : VS), drL K t s0 (k + 1) = ((drL K t s0 k).1 + (if nI (dv (nxt s') w) = K.isSo (K.thing k) then 1 else 0), nxt s') → DR cA x a V3 K t K.nK ff lf pf → V3 x = some (.inr (1, oX a K fo ag (nI s'))) → ∃ f, vX1_draws_c230 cA x (nI t) b1 d0 k149 (vX1_draws_l161 cA x (nI t) b1 d0 k149 Post f) Post (nI (cnt (frB K t) K.nK)) x5 x6 x7 (nI (drL K t s0 k).1) (nI (cnt (frB K t) k)) (some (a.t (K.thing k))) V3 := by
        intro s' V3 er hD3 hx3
        have hH := hD3.hk
        have mv3 : DR cA x a (vU V3 x (.inr (1, oX a K fo ag (nI (nxt s'))))) K t K.nK ff lf pf := by
          have o : ∀ {b : Nat} {f : Nat → Int32}, V3 b = some (eI cA 8 f) → vU V3 x (.inr (1, oX a K fo ag (nI (nxt s')))) b = some (eI cA 8 f) := fun {b f} g => by
            rw [vU_n _ _ (va_ne g hx3 (tg rfl))]; exact g
          exact ⟨hH.setX rfl rfl (fun P g => g) (fun P g => g), o hD3.fi, o hD3.la, o hD3.pu, hD3.all⟩
        obtain ⟨f, hf⟩ := c239 _ _ _ er mv3 (vU_s _ _ _)
        refine ⟨f, ?_⟩
        unfold vX1_draws_c230
        simp (disch := first | assumption | omega) only [nI_lt0, nI_clamp, vp_inT, nI_eq, imp_FT, imp_TF, true_and, and_true, bO_s, hH.x0, hH.x1, hH.x2, hH.x3, hH.x4, hH.x5, hH.x6, hH.x7, hH.x8, hH.x9, hH.x10, hH.x11, hH.x12, hH.x15, hH.x16, hH.x18, hH.x19, hH.x20, hH.vx, hH.c0, hH.c1, hH.c2, hH.c3, hH.c4, hH.c6, hH.vc, hH.vT, hH.vL, hH.vP, hH.vK, hH.t0, hH.t1, hH.t2, hH.t3, hH.t4, hH.vt, hH.l0, hH.l1, hH.l2, hH.l3, hH.l4, hH.vl, hH.p0, hH.p1, hH.p2, hH.vp, hH.k0, hH.w0, hH.k1, hH.w1, hH.k2, hH.w2, hH.k3, hH.w3, hH.k4, hH.w4, hH.k5, hH.w5, hH.q5, hH.vk, hH.vw, hH.sT, hH.sL, hH.sP, hH.sK, hH.gT, hH.gL, hH.gP, hH.gK]
        rw [w2]
        exact p1_next hx3 (by omega) (by omega) hf
      have go : ∀ {Q : (Nat → Prop)}, (∃ f, Q f) → (∀ f, Q f → vX1_draws_l161 cA x (nI t) b1 d0 k149 Post (f + 1) (nI (cnt (frB K t) K.nK)) x5 x6 x7 (nI (drL K t s0 k).1) (nI (cnt (frB K t) k)) V2) → ∃ f, vX1_draws_l161 cA x (nI t) b1 d0 k149 Post f (nI (cnt (frB K t) K.nK)) x5 x6 x7 (nI (drL K t s0 k).1) (nI (cnt (frB K t) k)) V2 := fun {Q} hQ hs => by
        obtain ⟨f, hf⟩ := hQ
        exact ⟨f + 1, hs f hf⟩
      have pm : ¬ 0 ≤ pa K k ↔ pa K k = -1 := by
        cases z : anyB (paB K k) k with
        | true =>
          obtain ⟨i, i1, i2, i3, i4⟩ := lastI_V K.value z
          have : pa K k = K.value i := i4
          rw [this]
          exact (Iff.of_eq (m1_ge (hO.value i (by omega)).1.1)).symm
        | false =>
          have : pa K k = -1 := lastV_no z
          rw [this]
          decide
      by_cases p : 0 ≤ pa K k
      · have mv1 := mv (nxt (drL K t s0 k).2)
        have hH1 := mv1.hk
        by_cases l : nI (dv (nxt (drL K t s0 k).2) 100) < lawI K k
        · refine go (c239 (pa K k) _ _ (by simp only [drL, e, if_true, if_pos p, if_pos l]) mv1 (vU_s _ _ _)) (fun f hf => ?_)
          rw [vX1_draws_l161]
          refine br_f (nI_ge hlt (by omega)) ?_
          rw [hH.x11, bO_s, bO_s, hH.c2, bO_s, hH.x18, bO_s, bO_s, ke_l hD.fi (by omega) (by decide), bO_s, bO_s, a1, hH.vK, hH.gK hkK (by omega), bO_s, hH.vk hkK, hH.k1 hkK, bO_s, hH.x20, bO_s, bO_s, ke_l hD.pu (by omega) (by decide), bO_s, a3, hH.vx]
          refine br_f (fun z => pm.mpr z p) (p1_next (b := 100) hx (by decide) (by decide) ?_)
          rw [hH1.x19, bO_s, bO_s, ke_l mv1.la (by omega) (by decide), bO_s, a2]
          refine br_f (Int32.not_le.mpr l) ?_
          rw [hH1.x20, bO_s, bO_s, ke_l mv1.pu (by omega) (by decide), bO_s, bO_s, a3]
          exact hf
        · refine go (c230 _ _ (by simp only [drL, e, if_true, if_pos p, if_neg l, w1]) mv1 (vU_s _ _ _)) (fun f hf => ?_)
          rw [vX1_draws_l161]
          refine br_f (nI_ge hlt (by omega)) ?_
          rw [hH.x11, bO_s, bO_s, hH.c2, bO_s, hH.x18, bO_s, bO_s, ke_l hD.fi (by omega) (by decide), bO_s, bO_s, a1, hH.vK, hH.gK hkK (by omega), bO_s, hH.vk hkK, hH.k1 hkK, bO_s, hH.x20, bO_s, bO_s, ke_l hD.pu (by omega) (by decide), bO_s, a3, hH.vx]
          refine br_f (fun z => pm.mpr z p) (p1_next (b := 100) hx (by decide) (by decide) ?_)
          rw [hH1.x19, bO_s, bO_s, ke_l mv1.la (by omega) (by decide), bO_s, a2]
          exact br_t (Int32.not_lt.mp l) hf
      · refine go (c230 _ _ (by simp only [drL, e, if_true, if_neg p, w1]) hD hx) (fun f hf => ?_)
        rw [vX1_draws_l161]
        refine br_f (nI_ge hlt (by omega)) ?_
        rw [hH.x11, bO_s, bO_s, hH.c2, bO_s, hH.x18, bO_s, bO_s, ke_l hD.fi (by omega) (by decide), bO_s, bO_s, a1, hH.vK, hH.gK hkK (by omega), bO_s, hH.vk hkK, hH.k1 hkK, bO_s, hH.x20, bO_s, bO_s, ke_l hD.pu (by omega) (by decide), bO_s, a3]
        exact br_t (pm.mp p) hf
