/-! names and laws -/
theorem vU_id {V : VS} {q : Nat} {e : va_E} (h : V q = some e) : vU V q e = V := by
  funext b
  unfold vU
  by_cases c : b = q
  · rw [if_pos c, c, h]
  · rw [if_neg c]
theorem nm_A (cA : Nat → ClassId) (V : VS) (n : Nat) (g : Nat → Int64) : nA (vU V n (eN cA g)) (cA 2) n = some 10 := nA_of (vU_s _ _ _)
theorem nm_l (cA : Nat → ClassId) (V : VS) (n : Nat) (g : Nat → Int64) {j : Nat} (hj : j < 10) : lJ (vU V n (eN cA g)) (cA 2) n (nI j) = some (g j) := lJ_of (vU_s _ _ _) hj (by decide)
theorem nm_t (cA : Nat → ClassId) (V : VS) (n : Nat) (g : Nat → Int64) (v : Int64) {j : Nat} (hj : j < 10) : tJ (vU V n (eN cA g)) (cA 2) n (nI j) v = some (vU V n (eN cA (vp_updL g j v))) := by
  have h := tJ_of (f := g) (n := 10) v (show vU V n (eN cA g) n = some (.inl (cA 2, 10, .inr (.inl g))) from vU_s _ _ _) hj (by decide)
  rw [h, vU_vU]
  rfl
theorem nl_0 (cA : Nat → ClassId) (V : VS) (n : Nat) (g : Nat → Int64) : lJ (vU V n (eN cA g)) (cA 2) n (0 : Int32) = some (g 0) := nm_l cA V n g (j := 0) (by decide)
theorem nt_0 (cA : Nat → ClassId) (V : VS) (n : Nat) (g : Nat → Int64) (v : Int64) : tJ (vU V n (eN cA g)) (cA 2) n (0 : Int32) v = some (vU V n (eN cA (vp_updL g 0 v))) := nm_t cA V n g v (j := 0) (by decide)
theorem nl_1 (cA : Nat → ClassId) (V : VS) (n : Nat) (g : Nat → Int64) : lJ (vU V n (eN cA g)) (cA 2) n (1 : Int32) = some (g 1) := nm_l cA V n g (j := 1) (by decide)
theorem nt_1 (cA : Nat → ClassId) (V : VS) (n : Nat) (g : Nat → Int64) (v : Int64) : tJ (vU V n (eN cA g)) (cA 2) n (1 : Int32) v = some (vU V n (eN cA (vp_updL g 1 v))) := nm_t cA V n g v (j := 1) (by decide)
theorem nl_2 (cA : Nat → ClassId) (V : VS) (n : Nat) (g : Nat → Int64) : lJ (vU V n (eN cA g)) (cA 2) n (2 : Int32) = some (g 2) := nm_l cA V n g (j := 2) (by decide)
theorem nt_2 (cA : Nat → ClassId) (V : VS) (n : Nat) (g : Nat → Int64) (v : Int64) : tJ (vU V n (eN cA g)) (cA 2) n (2 : Int32) v = some (vU V n (eN cA (vp_updL g 2 v))) := nm_t cA V n g v (j := 2) (by decide)
theorem nl_3 (cA : Nat → ClassId) (V : VS) (n : Nat) (g : Nat → Int64) : lJ (vU V n (eN cA g)) (cA 2) n (3 : Int32) = some (g 3) := nm_l cA V n g (j := 3) (by decide)
theorem nt_3 (cA : Nat → ClassId) (V : VS) (n : Nat) (g : Nat → Int64) (v : Int64) : tJ (vU V n (eN cA g)) (cA 2) n (3 : Int32) v = some (vU V n (eN cA (vp_updL g 3 v))) := nm_t cA V n g v (j := 3) (by decide)
theorem nl_4 (cA : Nat → ClassId) (V : VS) (n : Nat) (g : Nat → Int64) : lJ (vU V n (eN cA g)) (cA 2) n (4 : Int32) = some (g 4) := nm_l cA V n g (j := 4) (by decide)
theorem nt_4 (cA : Nat → ClassId) (V : VS) (n : Nat) (g : Nat → Int64) (v : Int64) : tJ (vU V n (eN cA g)) (cA 2) n (4 : Int32) v = some (vU V n (eN cA (vp_updL g 4 v))) := nm_t cA V n g v (j := 4) (by decide)
theorem nl_5 (cA : Nat → ClassId) (V : VS) (n : Nat) (g : Nat → Int64) : lJ (vU V n (eN cA g)) (cA 2) n (5 : Int32) = some (g 5) := nm_l cA V n g (j := 5) (by decide)
theorem nt_5 (cA : Nat → ClassId) (V : VS) (n : Nat) (g : Nat → Int64) (v : Int64) : tJ (vU V n (eN cA g)) (cA 2) n (5 : Int32) v = some (vU V n (eN cA (vp_updL g 5 v))) := nm_t cA V n g v (j := 5) (by decide)
theorem nl_6 (cA : Nat → ClassId) (V : VS) (n : Nat) (g : Nat → Int64) : lJ (vU V n (eN cA g)) (cA 2) n (6 : Int32) = some (g 6) := nm_l cA V n g (j := 6) (by decide)
theorem nt_6 (cA : Nat → ClassId) (V : VS) (n : Nat) (g : Nat → Int64) (v : Int64) : tJ (vU V n (eN cA g)) (cA 2) n (6 : Int32) v = some (vU V n (eN cA (vp_updL g 6 v))) := nm_t cA V n g v (j := 6) (by decide)
theorem nl_7 (cA : Nat → ClassId) (V : VS) (n : Nat) (g : Nat → Int64) : lJ (vU V n (eN cA g)) (cA 2) n (7 : Int32) = some (g 7) := nm_l cA V n g (j := 7) (by decide)
theorem nt_7 (cA : Nat → ClassId) (V : VS) (n : Nat) (g : Nat → Int64) (v : Int64) : tJ (vU V n (eN cA g)) (cA 2) n (7 : Int32) v = some (vU V n (eN cA (vp_updL g 7 v))) := nm_t cA V n g v (j := 7) (by decide)
theorem nl_8 (cA : Nat → ClassId) (V : VS) (n : Nat) (g : Nat → Int64) : lJ (vU V n (eN cA g)) (cA 2) n (8 : Int32) = some (g 8) := nm_l cA V n g (j := 8) (by decide)
theorem nt_8 (cA : Nat → ClassId) (V : VS) (n : Nat) (g : Nat → Int64) (v : Int64) : tJ (vU V n (eN cA g)) (cA 2) n (8 : Int32) v = some (vU V n (eN cA (vp_updL g 8 v))) := nm_t cA V n g v (j := 8) (by decide)
theorem nl_9 (cA : Nat → ClassId) (V : VS) (n : Nat) (g : Nat → Int64) : lJ (vU V n (eN cA g)) (cA 2) n (9 : Int32) = some (g 9) := nm_l cA V n g (j := 9) (by decide)
theorem nt_9 (cA : Nat → ClassId) (V : VS) (n : Nat) (g : Nat → Int64) (v : Int64) : tJ (vU V n (eN cA g)) (cA 2) n (9 : Int32) v = some (vU V n (eN cA (vp_updL g 9 v))) := nm_t cA V n g v (j := 9) (by decide)
/-- the row of names, by what it holds -/
theorem HK.nm0 {cA : Nat → ClassId} {x : Nat} {a : Ad} {V : VS} {K : Ka} (h : HK cA x a V K) : ∃ g, V = vU V a.n (eN cA g) := by
  obtain ⟨g, h1⟩ := h.hs.nam
  exact ⟨g, (vU_id h1).symm⟩
theorem p1_nothing {cA : Nat → ClassId} {x : Nat} {a : Ad} {V : VS} {K : Ka} {Post : VS → Prop} (hO : KO K) (hH : HK cA x a V K) {t : Nat} (ht : t < K.nL) (h : ∀ g, (∀ j, j < 10 → g j = nm0 K t j) → Post (vU V a.n (eN cA g))) : vX1_nothing cA x (a.l t) V Post := by
  have hH0 := hH
  obtain ⟨g0, e0⟩ := hH.nm0
  unfold vX1_nothing
  refine upL (W := fun f i => ∀ g : Nat → Int64, (∀ j, j < i → g j = 0) → vX1_nothing_l2 cA x (a.l t) Post f (nI i) (vU V a.n (eN cA g))) (e := 10) ?_ ?_ |>.imp (fun f h => by
    have h1 := h g0 (fun j hj => absurd hj (Nat.not_lt_zero _))
    rw [← e0] at h1
    exact h1)
  · intro n g hg
    rw [vX1_nothing_l2]
    replace hH := hH0.nam g
    simp (disch := first | assumption | omega) only [nI_lt0, nI_clamp, vp_inT, nI_eq, imp_FT, imp_TF, true_and, and_true, bO_s, hH.x0, hH.x1, hH.x2, hH.x3, hH.x4, hH.x5, hH.x6, hH.x7, hH.x8, hH.x9, hH.x10, hH.x11, hH.x12, hH.x15, hH.x16, hH.x18, hH.x19, hH.x20, hH.vx, hH.c0, hH.c1, hH.c2, hH.c3, hH.c4, hH.c6, hH.vc, hH.vT, hH.vL, hH.vP, hH.vK, hH.t0, hH.t1, hH.t2, hH.t3, hH.t4, hH.vt, hH.l0, hH.l1, hH.l2, hH.l3, hH.l4, hH.vl, hH.p0, hH.p1, hH.p2, hH.vp, hH.k0, hH.w0, hH.k1, hH.w1, hH.k2, hH.w2, hH.k3, hH.w3, hH.k4, hH.w4, hH.k5, hH.w5, hH.q5, hH.vk, hH.vw, hH.sT, hH.sL, hH.sP, hH.sK, hH.gT, hH.gL, hH.gP, hH.gK, nm_A, nt_0]
    refine br_t (Int32.le_refl _) (h _ (fun j hj => ?_))
    rw [uL_if, nm0]
    by_cases c : j = 0
    · rw [if_pos c, if_pos c]
    · rw [if_neg c, if_neg c]; exact hg j hj
  · intro n i hi ih g hg
    rw [vX1_nothing_l2]
    replace hH := hH0.nam g
    simp (disch := first | assumption | omega) only [nI_lt0, nI_clamp, vp_inT, nI_eq, imp_FT, imp_TF, true_and, and_true, bO_s, hH.x0, hH.x1, hH.x2, hH.x3, hH.x4, hH.x5, hH.x6, hH.x7, hH.x8, hH.x9, hH.x10, hH.x11, hH.x12, hH.x15, hH.x16, hH.x18, hH.x19, hH.x20, hH.vx, hH.c0, hH.c1, hH.c2, hH.c3, hH.c4, hH.c6, hH.vc, hH.vT, hH.vL, hH.vP, hH.vK, hH.t0, hH.t1, hH.t2, hH.t3, hH.t4, hH.vt, hH.l0, hH.l1, hH.l2, hH.l3, hH.l4, hH.vl, hH.p0, hH.p1, hH.p2, hH.vp, hH.k0, hH.w0, hH.k1, hH.w1, hH.k2, hH.w2, hH.k3, hH.w3, hH.k4, hH.w4, hH.k5, hH.w5, hH.q5, hH.vk, hH.vw, hH.sT, hH.sL, hH.sP, hH.sK, hH.gT, hH.gL, hH.gP, hH.gK, nm_A, nm_t, forall_eq, nI_1]
    refine br_f (nI_ge (b := 10) hi (by omega)) (ih _ (fun j hj => ?_))
    rw [uL_if]
    by_cases c : j = i
    · rw [if_pos c]
    · rw [if_neg c]; exact hg j (by omega)
theorem p1_countAsks {cA : Nat → ClassId} {x : Nat} {a : Ad} {V : VS} {K : Ka} {Post : VS → Prop} (hO : KO K) (hH : HK cA x a V K) {t m : Nat} {b : Bool} {g : Nat → Int64} (ht : t < K.nL) (hm : m ≤ K.nK) (h : ∀ g', g' 3 = g 3 + lN (cnt (iA K t b) m) → g' 4 = g 4 + lN (cnt (iP K t b) m) → (∀ j, j ≠ 3 → j ≠ 4 → g' j = g j) → Post (vU V a.n (eN cA g'))) : vX1_countAsks cA x (nI t) (nI m) (bI b) (vU V a.n (eN cA g)) Post := by
  have h9T := hO.nT; have h9L := hO.nL; have h9K := hO.nK; have h9P := hO.nP
  have hH0 := hH
  unfold vX1_countAsks
  refine upL (W := fun f i => ∀ g' : Nat → Int64, g' 3 = g 3 + lN (cnt (iA K t b) i) → g' 4 = g 4 + lN (cnt (iP K t b) i) → (∀ j, j ≠ 3 → j ≠ 4 → g' j = g j) → vX1_countAsks_l3 cA x (nI t) (nI m) (bI b) Post f (nI i) (vU V a.n (eN cA g'))) (e := m) ?_ ?_ |>.imp (fun f h => h g (by simp [cnt, lN_0]) (by simp [cnt, lN_0]) (fun _ _ _ => rfl))
  · intro n g' q3 q4 qo
    rw [vX1_countAsks_l3]
    exact br_t (Int32.le_refl _) (h g' q3 q4 qo)
  · intro n i hi ih g' q3 q4 qo
    have h9i : i < K.nK := by omega
    rw [vX1_countAsks_l3]
    replace hH := hH0.nam g'
    simp only [vX1_countAsks_c77, vX1_countAsks_c75, forall_eq, nI_1]
    have no : iA K t b i = false → iP K t b i = false → vX1_countAsks_l3 cA x (nI t) (nI m) (bI b) Post n (nI (i + 1)) (vU V a.n (eN cA g')) := fun z1 z2 => ih g' (by rw [q3]; simp only [cnt, z1, if_false, Bool.false_eq_true, Nat.add_zero]) (by rw [q4]; simp only [cnt, z2, if_false, Bool.false_eq_true, Nat.add_zero]) qo
    simp (disch := first | assumption | omega) only [nI_lt0, nI_clamp, vp_inT, nI_eq, imp_FT, imp_TF, true_and, and_true, bO_s, hH.x0, hH.x1, hH.x2, hH.x3, hH.x4, hH.x5, hH.x6, hH.x7, hH.x8, hH.x9, hH.x10, hH.x11, hH.x12, hH.x15, hH.x16, hH.x18, hH.x19, hH.x20, hH.vx, hH.c0, hH.c1, hH.c2, hH.c3, hH.c4, hH.c6, hH.vc, hH.vT, hH.vL, hH.vP, hH.vK, hH.t0, hH.t1, hH.t2, hH.t3, hH.t4, hH.vt, hH.l0, hH.l1, hH.l2, hH.l3, hH.l4, hH.vl, hH.p0, hH.p1, hH.p2, hH.vp, hH.k0, hH.w0, hH.k1, hH.w1, hH.k2, hH.w2, hH.k3, hH.w3, hH.k4, hH.w4, hH.k5, hH.w5, hH.q5, hH.vk, hH.vw, hH.sT, hH.sL, hH.sP, hH.sK, hH.gT, hH.gL, hH.gP, hH.gK]
    refine br_f (nI_ge hi (by omega)) (p1_heard hO hH h9i ht (bo (fun c => no ?_ ?_) (fun c => ?_)))
    · unfold iA in1; unfold hl1 at c
      cases e1 : hh K i <;> cases e2 : K.who i == t <;> simp_all
    · unfold iP in1; unfold hl1 at c
      cases e1 : hh K i <;> cases e2 : K.who i == t <;> simp_all
    · unfold hl1 at c
      simp only [Bool.and_eq_true] at c
      refine p1_isWord hH h9i (bz (fun d => ?_) (fun d => no ?_ ?_))
      · simp (disch := first | assumption | omega) only [nI_lt0, nI_clamp, vp_inT, nI_eq, imp_FT, imp_TF, true_and, and_true, bO_s, hH.x0, hH.x1, hH.x2, hH.x3, hH.x4, hH.x5, hH.x6, hH.x7, hH.x8, hH.x9, hH.x10, hH.x11, hH.x12, hH.x15, hH.x16, hH.x18, hH.x19, hH.x20, hH.vx, hH.c0, hH.c1, hH.c2, hH.c3, hH.c4, hH.c6, hH.vc, hH.vT, hH.vL, hH.vP, hH.vK, hH.t0, hH.t1, hH.t2, hH.t3, hH.t4, hH.vt, hH.l0, hH.l1, hH.l2, hH.l3, hH.l4, hH.vl, hH.p0, hH.p1, hH.p2, hH.vp, hH.k0, hH.w0, hH.k1, hH.w1, hH.k2, hH.w2, hH.k3, hH.w3, hH.k4, hH.w4, hH.k5, hH.w5, hH.q5, hH.vk, hH.vw, hH.sT, hH.sL, hH.sP, hH.sK, hH.gT, hH.gL, hH.gP, hH.gK]
        refine p1_counts hO hH h9i (bz (fun l => no ?_ ?_) (fun l => ?_))
        · unfold iA in1; rw [l]; simp
        · unfold iP in1; rw [l]; simp
        · simp (disch := first | assumption | omega) only [nI_lt0, nI_clamp, vp_inT, nI_eq, imp_FT, imp_TF, true_and, and_true, bO_s, hH.x0, hH.x1, hH.x2, hH.x3, hH.x4, hH.x5, hH.x6, hH.x7, hH.x8, hH.x9, hH.x10, hH.x11, hH.x12, hH.x15, hH.x16, hH.x18, hH.x19, hH.x20, hH.vx, hH.c0, hH.c1, hH.c2, hH.c3, hH.c4, hH.c6, hH.vc, hH.vT, hH.vL, hH.vP, hH.vK, hH.t0, hH.t1, hH.t2, hH.t3, hH.t4, hH.vt, hH.l0, hH.l1, hH.l2, hH.l3, hH.l4, hH.vl, hH.p0, hH.p1, hH.p2, hH.vp, hH.k0, hH.w0, hH.k1, hH.w1, hH.k2, hH.w2, hH.k3, hH.w3, hH.k4, hH.w4, hH.k5, hH.w5, hH.q5, hH.vk, hH.vw, hH.sT, hH.sL, hH.sP, hH.sK, hH.gT, hH.gL, hH.gP, hH.gK, nl_3, nt_3, nl_4]
          have hH1 := hH0.nam (vp_updL g' 3 (g' 3 + 1))
          rw [hH1.x12, bO_s, bO_s, nl_4, bO_s]
          refine p1_isPut hO hH1 h9i ?_
          rw [d, Bool.not_false, Bool.true_and]
          have a1 : iA K t b i = true := by unfold iA in1; rw [c.1, c.2, l, d]; rfl
          have st : ∀ z : Bool, decide (0 ≤ K.value i) = z → vX1_countAsks_l3 cA x (nI t) (nI m) (bI b) Post n (nI (i + 1)) (vU V a.n (eN cA (vp_updL (vp_updL g' 3 (g' 3 + 1)) 4 (g' 4 + (if z then 1 else 0))))) := fun z hz => by
            have a2 : iP K t b i = z := by unfold iP in1; rw [c.1, c.2, l, d, hz]; rfl
            refine ih _ ?_ ?_ (fun j j3 j4 => ?_)
            · rw [uL_if, if_neg (by decide), uL_if, if_pos rfl, q3, Int64.add_assoc, lN_1]
              simp only [cnt, a1, if_true]
            · rw [uL_if, if_pos rfl, q4]
              cases z
              · simp only [cnt, a2, if_false, Bool.false_eq_true, Nat.add_zero, Int64.add_zero]
              · simp only [cnt, a2, if_true, Int64.add_assoc, lN_1]
            · rw [uL_if, if_neg j4, uL_if, if_neg j3]; exact qo j j3 j4
          have e4 : vp_updL g' 3 (g' 3 + 1) 4 = g' 4 := by rw [uL_if, if_neg (by decide)]
          simp only [nt_4, bO_s, e4]
          refine bz (fun z => ?_) (fun z => ?_)
          · have := st false z
            simp only [if_false, Bool.false_eq_true] at this
            exact this
          · have := st true z
            simp only [if_true] at this
            exact this
      · unfold iA; rw [d]; simp
      · unfold iP; rw [d]; simp
theorem wv_eq {K : Ka} {nm : Nat → Int64} (hO : KO K) {e k : Nat} (he : e < 3) (h1 : K.first e ≤ k) (h2 : k < K.last e) : wv K nm k = if K.knot k = 0 then some (K.kP k).toInt64 else if K.knot k = 1 then some (nm (K.kA k)) else match wv K nm (K.kA k) with
      | none => none
      | some a => if K.knot k = 2 then some (bJ (decide (a = 0))) else match wv K nm (K.kB k) with
        | none => none
        | some b => op2 (K.knot k) a b := by
  obtain ⟨n1, n2, n3, n4⟩ := hO.knot e k he h1 h2
  conv => lhs; unfold wv ev
  by_cases c0 : K.knot k = 0
  · rw [if_pos c0, if_pos c0]
  · rw [if_neg c0, if_neg c0]
    by_cases c1 : K.knot k = 1
    · rw [if_pos c1, if_pos c1]
    · rw [if_neg c1, if_neg c1]
      obtain ⟨-, a1, a2⟩ := n3 (by omega)
      rw [show ev K nm k (K.kA k) = wv K nm (K.kA k) from ev_fuel hO he (K.kA k + 1) (K.kA k) k (K.kA k + 1) (by omega) a1 (by omega) a2 (by omega)]
      by_cases c2 : K.knot k = 2
      · simp only [c2, if_true]
        generalize wv K nm (K.kA k) = u
        cases u <;> rfl
      · obtain ⟨-, b1, b2⟩ := n4 (by omega)
        rw [show ev K nm k (K.kB k) = wv K nm (K.kB k) from ev_fuel hO he (K.kB k + 1) (K.kB k) k (K.kB k + 1) (by omega) b1 (by omega) b2 (by omega)]
        generalize wv K nm (K.kA k) = u
        generalize wv K nm (K.kB k) = w
        cases u <;> cases w <;> rfl
theorem dv_ge (a : Int64) : (0 : Int64) ≤ (1000000000000 : Int64) / abs64 a := by
  rw [Int64.le_iff_toInt_le, Int64.toInt_div_of_ne_left _ _ (by decide)]
  have e0 : (0 : Int64).toInt = 0 := by decide
  have e1 : (1000000000000 : Int64).toInt = 1000000000000 := by decide
  rw [e0, e1]
  by_cases c : 0 ≤ (abs64 a).toInt
  · exact Int.tdiv_nonneg (by omega) c
  · have h1 := a.le_toInt
    have h2 := a.toInt_lt
    have h3 : (abs64 a).toInt = -9223372036854775808 := by
      unfold abs64 at c ⊢
      by_cases d : 0 ≤ a
      · rw [if_pos d] at c
        rw [Int64.le_iff_toInt_le, e0] at d
        omega
      · rw [if_neg d] at c ⊢
        rw [Int64.le_iff_toInt_le, e0] at d
        rw [Int64.toInt_neg] at c ⊢
        by_cases z : a.toInt = -9223372036854775808
        · rw [z]; decide
        · rw [Int.bmod_eq_of_le (by omega) (by omega)] at c
          omega
    rw [h3]
    decide
theorem p1_times {cA : Nat → ClassId} {V : VS} {u w : Int64} {Post : Int64 → VS → Prop} {PX : Nat → Nat → VS → Prop} (h1 : ∀ v, tms u w = some v → Post v V) (h0 : tms u w = none → ∀ q, PX 1 q V) : vX16_times cA u w V Post PX := by
  unfold vX16_times
  refine br_c (fun c => h1 _ (by unfold tms; rw [if_neg (fun q => q.1 c)])) (fun c => ?_)
  have ab : ∀ v : Int64, (if 0 < v then v else -v) = abs64 v := fun v => by
    unfold abs64
    by_cases d : 0 < v
    · rw [if_pos d, if_pos (Int64.le_of_lt d)]
    · rw [if_neg d]
      by_cases d2 : 0 ≤ v
      · rw [if_pos d2]
        rw [Int64.le_antisymm (Int64.not_lt.mp d) d2]
        rfl
      · rw [if_neg d2]
  intro v2 e2 v3 e3
  rw [ab] at e2 e3
  subst e2 e3
  refine ⟨?_, br_c (fun d => h1 _ (by unfold tms; rw [if_neg (fun q => q.2.2 d)])) (fun d => h0 ?_)⟩
  · unfold abs64
    split
    · exact c
    · intro q
      exact c (by rw [← Int64.neg_neg (a := u), q]; rfl)
  · unfold tms
    refine if_pos ⟨c, fun q => d ?_, d⟩
    rw [q]
    exact dv_ge u
theorem p1_sure {cA : Nat → ClassId} {V : VS} {u : Int64} {Post : Int64 → VS → Prop} {PX : Nat → Nat → VS → Prop} (h1 : ∀ v, bnd u = some v → Post v V) (h0 : bnd u = none → ∀ q, PX 1 q V) : vX1_sure cA u V Post PX := by
  unfold vX1_sure vX1_sure_c16
  refine br_c (fun c => h0 (by unfold bnd; rw [if_pos (Or.inl c)])) (fun c => br_c (fun d => h1 _ (by unfold bnd; rw [if_neg (fun q => q.elim c (fun q => q d))])) (fun d => h0 (by unfold bnd; rw [if_pos (Or.inr d)])))
theorem p1_is {r : Bool} {Post : Int64 → Prop} (h : Post (bJ r)) : w16_is (bI r) Post := by
  unfold w16_is
  exact bz (fun c => by rw [c] at h; exact h) (fun c => by rw [c] at h; exact h)
/-- two parts and a sign -/
theorem p1_op {cA : Nat → ClassId} {rec : RTP} {q n s : Nat} {V : VS} {u w : Int64} {Post : Int64 → VS → Prop} {PX : Nat → Nat → VS → Prop} (hs : 3 ≤ s ∧ s ≤ 14) (h1 : ∀ v, op2 s u w = some v → Post v V) (h0 : op2 s u w = none → ∀ q, PX 1 q V) : (sgC s = 15 → ((u = (0 : Int64) → (vX16_of_c272 cA rec q n Post PX V)) ∧ (¬ (u = (0 : Int64)) → ((w = (0 : Int64) → (vX16_of_c272 cA rec q n Post PX V)) ∧ (¬ (w = (0 : Int64)) → (vX16_of_c273 cA rec q n Post PX (1) V)))))) ∧ (¬ sgC s = 15 → (sgC s = 42 → (vX16_times cA u w V (fun r_18 V_19 => Post r_18 V_19) PX)) ∧ (¬ sgC s = 42 → (sgC s = 43 → (vX1_sure cA (u + w) V (fun r_21 V_22 => Post r_21 V_22) PX)) ∧ (¬ sgC s = 43 → (sgC s = 45 → (vX1_sure cA (u - w) V (fun r_24 V_25 => Post r_24 V_25) PX)) ∧ (¬ sgC s = 45 → (sgC s = 47 → ((w = (0 : Int64) → (∀ q_28 : Nat, PX 1 q_28 V)) ∧ (¬ (w = (0 : Int64)) → ((¬ w = 0 ∧ Post (u / w) V))))) ∧ (¬ sgC s = 47 → (sgC s = 60 → ((w ≤ u → (vX16_of_c171 cA rec q n Post PX (0) V)) ∧ (¬ (w ≤ u) → (vX16_of_c171 cA rec q n Post PX (1) V)))) ∧ (¬ sgC s = 60 → (sgC s = 61 → ((u = w → (vX16_of_c203 cA rec q n Post PX (1) V)) ∧ (¬ (u = w) → (vX16_of_c203 cA rec q n Post PX (0) V)))) ∧ (¬ sgC s = 61 → (sgC s = 62 → ((u ≤ w → (vX16_of_c187 cA rec q n Post PX (0) V)) ∧ (¬ (u ≤ w) → (vX16_of_c187 cA rec q n Post PX (1) V)))) ∧ (¬ sgC s = 62 → (sgC s = 256 → ((w < u → (vX16_of_c219 cA rec q n Post PX (0) V)) ∧ (¬ (w < u) → (vX16_of_c219 cA rec q n Post PX (1) V)))) ∧ (¬ sgC s = 256 → (sgC s = 257 → ((u < w → (vX16_of_c235 cA rec q n Post PX (0) V)) ∧ (¬ (u < w) → (vX16_of_c235 cA rec q n Post PX (1) V)))) ∧ (¬ sgC s = 257 → (sgC s = 258 → ((u = w → (vX16_of_c251 cA rec q n Post PX (0) V)) ∧ (¬ (u = w) → (vX16_of_c251 cA rec q n Post PX (1) V)))) ∧ (¬ sgC s = 258 → (u = (0 : Int64) → ((w = (0 : Int64) → (vX16_of_c295 cA rec q n Post PX (0) V)) ∧ (¬ (w = (0 : Int64)) → (vX16_of_c290 cA rec q n Post PX V)))) ∧ (¬ (u = (0 : Int64)) → (vX16_of_c290 cA rec q n Post PX V))))))))))))) := by
  have e : s = 3 ∨ s = 4 ∨ s = 5 ∨ s = 6 ∨ s = 7 ∨ s = 8 ∨ s = 9 ∨ s = 10 ∨ s = 11 ∨ s = 12 ∨ s = 13 ∨ s = 14 := by omega
  have go : ∀ r : Bool, op2 s u w = some (bJ r) → w16_is (bI r) (fun r_15 => Post r_15 V) := fun r z => p1_is (h1 _ z)
  rcases e with rfl | rfl | rfl | rfl | rfl | rfl | rfl | rfl | rfl | rfl | rfl | rfl
  · exact br_t rfl (br_c (fun x => go false (by simp [op2, x])) (fun x => br_c (fun y => go false (by simp [op2, y])) (fun y => go true (by simp [op2, x, y]))))
  · exact br_f (by decide) (br_f (by decide) (br_f (by decide) (br_f (by decide) (br_f (by decide) (br_f (by decide) (br_f (by decide) (br_f (by decide) (br_f (by decide) (br_f (by decide) (br_f (by decide) (br_c (fun x => br_c (fun y => go false (by simp [op2, x, y])) (fun y => go true (by simp [op2, y]))) (fun x => go true (by simp [op2, x])))))))))))))
  · exact br_f (by decide) (br_f (by decide) (br_f (by decide) (br_f (by decide) (br_f (by decide) (br_t rfl (br_c (fun x => go false (by simp [op2, x])) (fun x => go true (by simp [op2, x]))))))))
  · exact br_f (by decide) (br_f (by decide) (br_f (by decide) (br_f (by decide) (br_f (by decide) (br_f (by decide) (br_f (by decide) (br_f (by decide) (br_t rfl (br_c (fun x => go false (by simp [op2, x])) (fun x => go true (by simp [op2, x])))))))))))
  · exact br_f (by decide) (br_f (by decide) (br_f (by decide) (br_f (by decide) (br_f (by decide) (br_f (by decide) (br_t rfl (br_c (fun x => go true (by simp [op2, x])) (fun x => go false (by simp [op2, x])))))))))
  · exact br_f (by decide) (br_f (by decide) (br_f (by decide) (br_f (by decide) (br_f (by decide) (br_f (by decide) (br_f (by decide) (br_f (by decide) (br_f (by decide) (br_f (by decide) (br_t rfl (br_c (fun x => go false (by simp [op2, x])) (fun x => go true (by simp [op2, x])))))))))))))
  · exact br_f (by decide) (br_f (by decide) (br_f (by decide) (br_f (by decide) (br_f (by decide) (br_f (by decide) (br_f (by decide) (br_f (by decide) (br_f (by decide) (br_t rfl (br_c (fun x => go false (by simp [op2, x])) (fun x => go true (by simp [op2, x]))))))))))))
  · exact br_f (by decide) (br_f (by decide) (br_f (by decide) (br_f (by decide) (br_f (by decide) (br_f (by decide) (br_f (by decide) (br_t rfl (br_c (fun x => go false (by simp [op2, x])) (fun x => go true (by simp [op2, x]))))))))))
  · exact br_f (by decide) (br_f (by decide) (br_t rfl (p1_sure (fun v z => h1 v (by simp [op2, z])) (fun z => h0 (by simp [op2, z])))))
  · exact br_f (by decide) (br_f (by decide) (br_f (by decide) (br_t rfl (p1_sure (fun v z => h1 v (by simp [op2, z])) (fun z => h0 (by simp [op2, z]))))))
  · exact br_f (by decide) (br_t rfl (p1_times (fun v z => h1 v (by simp [op2, z])) (fun z => h0 (by simp [op2, z]))))
  · exact br_f (by decide) (br_f (by decide) (br_f (by decide) (br_f (by decide) (br_t rfl (br_c (fun x => h0 (by simp [op2, x])) (fun x => ⟨x, h1 _ (by simp [op2, x])⟩))))))
theorem p1_of {cA : Nat → ClassId} {V : VS} {K : Ka} {n e : Nat} {g : Nat → Int64} (hO : KO K) (hn : V n = some (eN cA g)) (he : e < 3) : ∀ (f F k q : Nat) (Post : Int64 → VS → Prop) (PX : Nat → Nat → VS → Prop), f ≤ F → K.first e ≤ k → k < K.last e → HT (fun b e => V b = some e) K f k q → (∀ v, wv K g k = some v → Post v V) → (wv K g k = none → ∀ q, PX 1 q V) → vP_G cA F q n V Post PX := by
  intro f
  induction f with
  | zero => intro F k q Post PX _ _ _ h; exact h.elim
  | succ f ih =>
    intro F k q Post PX hF h1 h2 h hP hX
    obtain ⟨F, rfl⟩ : ∃ F', F = F' + 1 := ⟨F - 1, by omega⟩
    obtain ⟨n1, n2, n3, n4⟩ := hO.knot e k he h1 h2
    rw [wv_eq hO he h1 h2] at hP hX
    unfold HT at h
    rw [vP_G]
    by_cases c0 : K.knot k = 0
    · rw [if_pos c0] at h hP
      refine bO_of (vO_of h rfl) (br_t rfl ?_)
      unfold vX13_of
      exact bO_of (gI_of (v := K.kP k) h rfl rfl) (hP _ rfl)
    rw [if_neg c0] at h hP hX
    by_cases c1 : K.knot k = 1
    · rw [if_pos c1] at h hP
      refine bO_of (vO_of h rfl) (br_f (show ¬ (11 : Nat) = 10 by decide) (br_t rfl ?_))
      unfold vX14_of
      exact bO_of (gI_of (v := nI (K.kA k)) h rfl rfl) (bO_of (lJ_of hn (n2 c1).2 (by decide)) (hP _ rfl))
    rw [if_neg c1] at h hP hX
    obtain ⟨-, a1, a2⟩ := n3 (by omega)
    by_cases c2 : K.knot k = 2
    · rw [if_pos c2] at h
      obtain ⟨u, g1, g2⟩ := h
      refine bO_of (vO_of g1 rfl) (br_f (show ¬ (12 : Nat) = 10 by decide) (br_f (show ¬ (12 : Nat) = 11 by decide) (br_t rfl ?_)))
      unfold vX15_of
      refine bO_of (gR_of (v := u) g1 rfl rfl) (bO_of rfl (ih F (K.kA k) u _ _ (by omega) a1 (by omega) g2 (fun v hv => ?_) (fun hv => hX (by rw [hv]))))
      rw [hv] at hP
      simp only [c2, if_true] at hP
      refine br_c (fun z => hP _ (by rw [z]; rfl)) (fun z => hP _ (by rw [decide_eq_false z]; rfl))
    rw [if_neg c2] at h
    obtain ⟨u, w, g1, g2, g3⟩ := h
    obtain ⟨-, b1, b2⟩ := n4 (by omega)
    refine bO_of (vO_of g1 rfl) (br_f (show ¬ (13 : Nat) = 10 by decide) (br_f (show ¬ (13 : Nat) = 11 by decide) (br_f (show ¬ (13 : Nat) = 12 by decide) ?_)))
    unfold vX16_of
    refine bO_of (gR_of (v := u) g1 rfl rfl) (bO_of rfl (ih F (K.kA k) u _ _ (by omega) a1 (by omega) g2 (fun v1 hv1 => ?_) (fun hv => hX (by rw [hv]))))
    rw [hv1] at hP hX
    simp only [c2, if_false] at hP hX
    refine bO_of (gR_of (v := w) g1 rfl rfl) (bO_of rfl (ih F (K.kB k) w _ _ (by omega) b1 (by omega) g3 (fun v2 hv2 => ?_) (fun hv => hX (by rw [hv]))))
    rw [hv2] at hP hX
    refine bO_of (gI_of (v := sgC (K.knot k)) g1 rfl rfl) ?_
    exact p1_op ⟨by omega, n1⟩ hP hX
