theorem p1_bits {j : Nat} (hj : j < 32) {Post : Int32 → Prop} (h : Post (mn (nI j) 16)) : wJ18_bitCount (nI j) Post := by
  have key : ∀ j : Nat, j < 32 → (fun a0 : Int32 => (fun v1 : Int32 => (fun v2 : Int32 => (fun v3 : Int32 => (fun v4 : Int32 => (fun v5 : Int32 => v5 &&& (63 : Int32)) (v4 + ((v4.toUInt32 >>> ((16 : Int32).toUInt32 &&& Int32.toUInt32 31)).toInt32))) (v3 + ((v3.toUInt32 >>> ((8 : Int32).toUInt32 &&& Int32.toUInt32 31)).toInt32))) ((v2 + ((v2.toUInt32 >>> ((4 : Int32).toUInt32 &&& Int32.toUInt32 31)).toInt32)) &&& (252645135 : Int32))) ((v1 &&& (858993459 : Int32)) + (((v1.toUInt32 >>> ((2 : Int32).toUInt32 &&& Int32.toUInt32 31)).toInt32) &&& (858993459 : Int32)))) (a0 - (((a0.toUInt32 >>> ((1 : Int32).toUInt32 &&& Int32.toUInt32 31)).toInt32) &&& (1431655765 : Int32)))) (nI j) = mn (nI j) 16 := by decide +kernel
  rw [← key j hj] at h
  intro v1 e1 v2 e2 v3 e3 v4 e4 v5 e5
  rw [e5, e4, e3, e2, e1]
  exact h
/-- a bit is 0 or 1 -/
theorem bt_iff (s : Int32) (k : Nat) : ((s >>> (nI k &&& 31)) &&& 1 = 0) ↔ bt s k = false := by
  unfold bt
  generalize s >>> (nI k &&& 31) = v
  rw [decide_eq_false_iff_not]
  have h : v &&& 1 = 0 ∨ v &&& 1 = 1 := by
    have h2 : (v &&& 1).toBitVec = (v.toBitVec &&& 1#32) := rfl
    have h3 : v.toBitVec &&& 1#32 = 0#32 ∨ v.toBitVec &&& 1#32 = 1#32 := by
      generalize v.toBitVec = w
      have h4 : (w &&& 1#32).toNat = w.toNat % 2 := by
        rw [BitVec.toNat_and]
        exact Nat.and_one_is_mod _
      rcases Nat.mod_two_eq_zero_or_one w.toNat with e | e
      · left; apply BitVec.eq_of_toNat_eq; rw [h4, e]; rfl
      · right; apply BitVec.eq_of_toNat_eq; rw [h4, e]; rfl
    rcases h3 with h3 | h3
    · left; apply Int32.toBitVec_inj.mp; rw [h2, h3]; rfl
    · right; apply Int32.toBitVec_inj.mp; rw [h2, h3]; rfl
  constructor
  · intro e; rw [e]; decide
  · intro e; exact h.resolve_right e
theorem bI_and (b : Bool) : bI b &&& 1 = bI b := by cases b <;> decide
theorem bI_and0 (b : Bool) : bI b &&& 0 = bI false := by cases b <;> decide
theorem tog_lt (K : Ka) : ∀ n, n ≤ 32 → ∃ j, j < 32 ∧ tog K n = nI j
  | 0, _ => ⟨0, by decide, rfl⟩
  | n + 1, h => by
    unfold tog
    split
    · exact ⟨n, by omega, rfl⟩
    · exact tog_lt K n (by omega)
theorem p1_together {cA : Nat → ClassId} {x : Nat} {a : Ad} {V : VS} {K : Ka} {Post : Int32 → VS → Prop} (hO : KO K) (hH : HK cA x a V K) (h : Post (aTog K) V) : vX1_together cA x V Post := by
  have h9T := hO.nT; have h9L := hO.nL; have h9K := hO.nK; have h9P := hO.nP; have h92 := two_n h9L
  unfold vX1_together
  refine upL (W := fun f i => vX1_together_l4 cA x Post f (tog K i) (nI i) V) (e := 2 ^ K.nL) ?_ ?_
  · intro n
    rw [vX1_together_l4]
    simp (disch := first | assumption | omega) only [nI_lt0, nI_clamp, vp_inT, nI_eq, imp_FT, imp_TF, true_and, and_true, bO_s, hH.x0, hH.x1, hH.x2, hH.x3, hH.x4, hH.x5, hH.x6, hH.x7, hH.x8, hH.x9, hH.x10, hH.x11, hH.x12, hH.x15, hH.x16, hH.x18, hH.x19, hH.x20, hH.vx, hH.c0, hH.c1, hH.c2, hH.c3, hH.c4, hH.c6, hH.vc, hH.vT, hH.vL, hH.vP, hH.vK, hH.t0, hH.t1, hH.t2, hH.t3, hH.t4, hH.vt, hH.l0, hH.l1, hH.l2, hH.l3, hH.l4, hH.vl, hH.p0, hH.p1, hH.p2, hH.vp, hH.k0, hH.w0, hH.k1, hH.w1, hH.k2, hH.w2, hH.k3, hH.w3, hH.k4, hH.w4, hH.k5, hH.w5, hH.q5, hH.vk, hH.vw, hH.sT, hH.sL, hH.sP, hH.sK, hH.gT, hH.gL, hH.gP, hH.gK, shl_n h9L]
    exact br_t (Int32.le_refl _) h
  · intro n i hi ih
    rw [vX1_together_l4]
    obtain ⟨j, j1, j2⟩ := tog_lt K i (by omega)
    simp (disch := first | assumption | omega) only [nI_lt0, nI_clamp, vp_inT, nI_eq, imp_FT, imp_TF, true_and, and_true, bO_s, hH.x0, hH.x1, hH.x2, hH.x3, hH.x4, hH.x5, hH.x6, hH.x7, hH.x8, hH.x9, hH.x10, hH.x11, hH.x12, hH.x15, hH.x16, hH.x18, hH.x19, hH.x20, hH.vx, hH.c0, hH.c1, hH.c2, hH.c3, hH.c4, hH.c6, hH.vc, hH.vT, hH.vL, hH.vP, hH.vK, hH.t0, hH.t1, hH.t2, hH.t3, hH.t4, hH.vt, hH.l0, hH.l1, hH.l2, hH.l3, hH.l4, hH.vl, hH.p0, hH.p1, hH.p2, hH.vp, hH.k0, hH.w0, hH.k1, hH.w1, hH.k2, hH.w2, hH.k3, hH.w3, hH.k4, hH.w4, hH.k5, hH.w5, hH.q5, hH.vk, hH.vw, hH.sT, hH.sL, hH.sP, hH.sK, hH.gT, hH.gL, hH.gP, hH.gK, shl_n h9L]
    refine br_f (nI_ge hi (by omega)) (p1_bits (by omega) ?_)
    rw [j2]
    refine p1_bits j1 ?_
    rw [← j2]
    have c36 : ∀ r : Bool, decide (mn (tog K i) 16 < mn (nI i) 16) = r → vX1_together_c36 cA x (vX1_together_l4 cA x Post n) Post (tog K i) (nI i) (bI r) V := by
      intro r hr
      have c118 : ∀ z : Bool, (r && !anyB (okA K (nI i)) K.nL) = z → vX1_together_c118 cA x (vX1_together_l4 cA x Post n) Post (tog K i) (nI i) (bI z) V := by
        intro z hz
        simp only [vX1_together_c118, vX1_together_c124, forall_eq, nI_1]
        refine bz (fun g => ?_) (fun g => ?_)
        · have : tog K (i + 1) = tog K i := by
            show (if !anyB (okA K (nI i)) K.nL && decide (mn (tog K i) 16 < mn (nI i) 16) then nI i else tog K i) = _
            rw [hr, Bool.and_comm, hz, g, if_neg (by simp)]
          rw [this] at ih
          exact ih
        · have : tog K (i + 1) = nI i := by
            show (if !anyB (okA K (nI i)) K.nL && decide (mn (tog K i) 16 < mn (nI i) 16) then nI i else tog K i) = _
            rw [hr, Bool.and_comm, hz, g, if_pos rfl]
          rw [this] at ih
          exact ih
      unfold vX1_together_c36
      refine upL (W := fun f a' => vX1_together_l40 cA x (vX1_together_l4 cA x Post n) Post f (tog K i) (nI i) (bI (r && !anyB (okA K (nI i)) a')) (nI a') V) (e := K.nL) ?_ ?_ |>.imp (fun f h => by simpa only [anyB, Bool.not_false, Bool.and_true, nI_0] using h)
      · intro n2
        rw [vX1_together_l40]
        simp (disch := first | assumption | omega) only [nI_lt0, nI_clamp, vp_inT, nI_eq, imp_FT, imp_TF, true_and, and_true, bO_s, hH.x0, hH.x1, hH.x2, hH.x3, hH.x4, hH.x5, hH.x6, hH.x7, hH.x8, hH.x9, hH.x10, hH.x11, hH.x12, hH.x15, hH.x16, hH.x18, hH.x19, hH.x20, hH.vx, hH.c0, hH.c1, hH.c2, hH.c3, hH.c4, hH.c6, hH.vc, hH.vT, hH.vL, hH.vP, hH.vK, hH.t0, hH.t1, hH.t2, hH.t3, hH.t4, hH.vt, hH.l0, hH.l1, hH.l2, hH.l3, hH.l4, hH.vl, hH.p0, hH.p1, hH.p2, hH.vp, hH.k0, hH.w0, hH.k1, hH.w1, hH.k2, hH.w2, hH.k3, hH.w3, hH.k4, hH.w4, hH.k5, hH.w5, hH.q5, hH.vk, hH.vw, hH.sT, hH.sL, hH.sP, hH.sK, hH.gT, hH.gL, hH.gP, hH.gK]
        exact br_t (Int32.le_refl _) (c118 _ rfl)
      · intro n2 u hu ih2
        rw [vX1_together_l40]
        simp (disch := first | assumption | omega) only [nI_lt0, nI_clamp, vp_inT, nI_eq, imp_FT, imp_TF, true_and, and_true, bO_s, hH.x0, hH.x1, hH.x2, hH.x3, hH.x4, hH.x5, hH.x6, hH.x7, hH.x8, hH.x9, hH.x10, hH.x11, hH.x12, hH.x15, hH.x16, hH.x18, hH.x19, hH.x20, hH.vx, hH.c0, hH.c1, hH.c2, hH.c3, hH.c4, hH.c6, hH.vc, hH.vT, hH.vL, hH.vP, hH.vK, hH.t0, hH.t1, hH.t2, hH.t3, hH.t4, hH.vt, hH.l0, hH.l1, hH.l2, hH.l3, hH.l4, hH.vl, hH.p0, hH.p1, hH.p2, hH.vp, hH.k0, hH.w0, hH.k1, hH.w1, hH.k2, hH.w2, hH.k3, hH.w3, hH.k4, hH.w4, hH.k5, hH.w5, hH.q5, hH.vk, hH.vw, hH.sT, hH.sL, hH.sP, hH.sK, hH.gT, hH.gL, hH.gP, hH.gK]
        refine br_f (nI_ge hu (by omega)) (bz (fun g => ?_) (fun g => ?_))
        · refine c118 _ ?_
          rw [g]
          rw [Bool.and_eq_false_iff] at g ⊢
          rcases g with g | g
          · exact Or.inl g
          · refine Or.inr ?_
            rw [Bool.not_eq_false'] at g ⊢
            obtain ⟨w, w1, w2⟩ := anyB_ex g
            exact anyB_t w (by omega) w2
        · refine upL (W := fun f b => vX1_together_l62 cA x (vX1_together_l4 cA x Post n) (vX1_together_l40 cA x (vX1_together_l4 cA x Post n) Post n2) Post f (tog K i) (nI i) (bI (r && !(anyB (okA K (nI i)) u || anyB (okB K (nI i) u) b))) (nI u) (nI b) V) (e := u) ?_ ?_ |>.imp (fun f h => by simpa only [anyB, Bool.or_false, nI_0, g] using h)
          · intro n3
            rw [vX1_together_l62]
            refine br_t (Int32.le_refl _) ?_
            simp only [forall_eq, nI_1]
            exact ih2
          · intro n3 b hb ih3
            rw [vX1_together_l62]
            refine br_f (nI_ge hb (by omega)) ?_
            simp only [vX1_together_c104, vX1_together_c99, forall_eq, nI_1, bI_and, bI_and0]
            have no : okB K (nI i) u b = false → vX1_together_l62 cA x (vX1_together_l4 cA x Post n) (vX1_together_l40 cA x (vX1_together_l4 cA x Post n) Post n2) Post n3 (tog K i) (nI i) (bI (r && !(anyB (okA K (nI i)) u || anyB (okB K (nI i) u) b))) (nI u) (nI (b + 1)) V := fun z => by
              simp only [anyB, z, Bool.or_false] at ih3
              exact ih3
            refine ek_if (bt_iff (nI i) u) (fun c => no (by simp only [okB, c, Bool.false_and])) (fun c => ek_if (bt_iff (nI i) b) (fun d => no (by simp only [okB, d, Bool.false_and, Bool.and_false])) (fun d => ?_))
            rw [Bool.not_eq_false] at c d
            simp (disch := first | assumption | omega) only [nI_lt0, nI_clamp, vp_inT, nI_eq, imp_FT, imp_TF, true_and, and_true, bO_s, hH.x0, hH.x1, hH.x2, hH.x3, hH.x4, hH.x5, hH.x6, hH.x7, hH.x8, hH.x9, hH.x10, hH.x11, hH.x12, hH.x15, hH.x16, hH.x18, hH.x19, hH.x20, hH.vx, hH.c0, hH.c1, hH.c2, hH.c3, hH.c4, hH.c6, hH.vc, hH.vT, hH.vL, hH.vP, hH.vK, hH.t0, hH.t1, hH.t2, hH.t3, hH.t4, hH.vt, hH.l0, hH.l1, hH.l2, hH.l3, hH.l4, hH.vl, hH.p0, hH.p1, hH.p2, hH.vp, hH.k0, hH.w0, hH.k1, hH.w1, hH.k2, hH.w2, hH.k3, hH.w3, hH.k4, hH.w4, hH.k5, hH.w5, hH.q5, hH.vk, hH.vw, hH.sT, hH.sL, hH.sP, hH.sK, hH.gT, hH.gL, hH.gP, hH.gK]
            have hcn : cnt (clB K u b) K.nT ≤ K.nT := cnt_le _ _
            refine p1_clashes hO hH hu (by omega) (br_c (fun j => no ?_) (fun j => ?_))
            · rw [nI_z (by omega)] at j
              simp only [okB, clN, j, decide_true, Bool.not_true, Bool.and_false]
            · rw [nI_z (by omega)] at j
              have h1 : okB K (nI i) u b = true := by simp only [okB, clN, c, d, j, decide_false, Bool.not_false, Bool.and_true]
              simp only [anyB, h1, Bool.or_true, Bool.not_true, Bool.and_false] at ih3
              exact ih3
    refine br_c (fun c => ?_) (fun c => ?_)
    · exact c36 false (decide_eq_false (Int32.not_lt.mpr c))
    · exact c36 true (decide_eq_true (Int32.not_le.mp c))
theorem ix_two {b : Int32} {n : Nat} (hn : n < 2 ^ 31) : (b < nI n) = (b < 0 ∨ ix b n ≠ none) := by
  cases e : ix b n with
  | some t =>
    obtain ⟨h1, h2⟩ := ix_lt hn e
    subst h2
    exact propext ⟨fun _ => Or.inr (by simp), fun _ => nI_lt h1 hn⟩
  | none =>
    refine propext ⟨fun h => Or.inl ?_, fun h => ?_⟩
    · exact (ix_none e).resolve_right (fun q => Int32.not_lt.mpr q h)
    · rcases h with h | h
      · exact Int32.lt_of_lt_of_le h (nI_pos' hn)
      · exact absurd rfl h
theorem p1_set {b : Int32} {n : Nat} {A B C : Prop} (hn : n < 2 ^ 31) (hs : ix b n ≠ none → B) (h0 : ix b n = none → A ∧ C) : (b < 0 → A) ∧ (¬ b < 0 → (b < nI n → B) ∧ (¬ b < nI n → C)) := by
  refine br_c (fun c => (h0 (ix_ge (Or.inl c))).1) (fun c => ?_)
  rw [ix_two hn]
  refine br_c (fun d => hs (d.resolve_left c)) (fun d => (h0 ?_).2)
  cases e : ix b n with
  | none => rfl
  | some t => exact absurd (Or.inr (by rw [e]; simp)) d
theorem p1_lies {cA : Nat → ClassId} {x : Nat} {a : Ad} {V : VS} {K : Ka} {Post : Int32 → VS → Prop} (hO : KO K) (hH : HK cA x a V K) {b : Int32} (h : Post (aLies K b) V) : vX1_lies cA x b V Post := by
  have h9T := hO.nT; have h9L := hO.nL; have h9K := hO.nK; have h9P := hO.nP; have h92 := two_n h9L
  unfold vX1_lies
  simp (disch := first | assumption | omega) only [nI_lt0, nI_clamp, vp_inT, nI_eq, imp_FT, imp_TF, true_and, and_true, bO_s, hH.x0, hH.x1, hH.x2, hH.x3, hH.x4, hH.x5, hH.x6, hH.x7, hH.x8, hH.x9, hH.x10, hH.x11, hH.x12, hH.x15, hH.x16, hH.x18, hH.x19, hH.x20, hH.vx, hH.c0, hH.c1, hH.c2, hH.c3, hH.c4, hH.c6, hH.vc, hH.vT, hH.vL, hH.vP, hH.vK, hH.t0, hH.t1, hH.t2, hH.t3, hH.t4, hH.vt, hH.l0, hH.l1, hH.l2, hH.l3, hH.l4, hH.vl, hH.p0, hH.p1, hH.p2, hH.vp, hH.k0, hH.w0, hH.k1, hH.w1, hH.k2, hH.w2, hH.k3, hH.w3, hH.k4, hH.w4, hH.k5, hH.w5, hH.q5, hH.vk, hH.vw, hH.sT, hH.sL, hH.sP, hH.sK, hH.gT, hH.gL, hH.gP, hH.gK, shl_n h9L]
  unfold aLies at h
  refine p1_set (by omega) (fun e => ?_) (fun e => by rw [e] at h; exact ⟨h, h⟩)
  have h2 : Post (lsI K b K.nT) V := by
    cases g : ix b (2 ^ K.nL) with
    | none => exact absurd g e
    | some t => rw [g] at h; exact h
  clear h
  refine upL (W := fun f i => vX1_lies_l26 cA x b Post f (lsI K b i) (nI i) V) (e := K.nT) ?_ ?_
  · intro n
    rw [vX1_lies_l26]
    simp (disch := first | assumption | omega) only [nI_lt0, nI_clamp, vp_inT, nI_eq, imp_FT, imp_TF, true_and, and_true, bO_s, hH.x0, hH.x1, hH.x2, hH.x3, hH.x4, hH.x5, hH.x6, hH.x7, hH.x8, hH.x9, hH.x10, hH.x11, hH.x12, hH.x15, hH.x16, hH.x18, hH.x19, hH.x20, hH.vx, hH.c0, hH.c1, hH.c2, hH.c3, hH.c4, hH.c6, hH.vc, hH.vT, hH.vL, hH.vP, hH.vK, hH.t0, hH.t1, hH.t2, hH.t3, hH.t4, hH.vt, hH.l0, hH.l1, hH.l2, hH.l3, hH.l4, hH.vl, hH.p0, hH.p1, hH.p2, hH.vp, hH.k0, hH.w0, hH.k1, hH.w1, hH.k2, hH.w2, hH.k3, hH.w3, hH.k4, hH.w4, hH.k5, hH.w5, hH.q5, hH.vk, hH.vw, hH.sT, hH.sL, hH.sP, hH.sK, hH.gT, hH.gL, hH.gP, hH.gK]
    exact br_t (Int32.le_refl _) h2
  · intro n y hy ih
    rw [vX1_lies_l26]
    simp (disch := first | assumption | omega) only [nI_lt0, nI_clamp, vp_inT, nI_eq, imp_FT, imp_TF, true_and, and_true, bO_s, hH.x0, hH.x1, hH.x2, hH.x3, hH.x4, hH.x5, hH.x6, hH.x7, hH.x8, hH.x9, hH.x10, hH.x11, hH.x12, hH.x15, hH.x16, hH.x18, hH.x19, hH.x20, hH.vx, hH.c0, hH.c1, hH.c2, hH.c3, hH.c4, hH.c6, hH.vc, hH.vT, hH.vL, hH.vP, hH.vK, hH.t0, hH.t1, hH.t2, hH.t3, hH.t4, hH.vt, hH.l0, hH.l1, hH.l2, hH.l3, hH.l4, hH.vl, hH.p0, hH.p1, hH.p2, hH.vp, hH.k0, hH.w0, hH.k1, hH.w1, hH.k2, hH.w2, hH.k3, hH.w3, hH.k4, hH.w4, hH.k5, hH.w5, hH.q5, hH.vk, hH.vw, hH.sT, hH.sL, hH.sP, hH.sK, hH.gT, hH.gL, hH.gP, hH.gK]
    refine br_f (nI_ge hy (by omega)) ?_
    obtain ⟨w, w1, w2, w3, w4⟩ := hO.wN hy
    refine upL (W := fun f v => vX1_lies_l49 cA x b (vX1_lies_l26 cA x b Post n) Post f (lsI K b y) (nI y) (nI (al K b y v)) (nI (mx K b y v)) (nI v) V) (e := w) ?_ ?_
    · intro n2
      rw [vX1_lies_l49]
      simp (disch := first | assumption | omega) only [nI_lt0, nI_clamp, vp_inT, nI_eq, imp_FT, imp_TF, true_and, and_true, bO_s, hH.x0, hH.x1, hH.x2, hH.x3, hH.x4, hH.x5, hH.x6, hH.x7, hH.x8, hH.x9, hH.x10, hH.x11, hH.x12, hH.x15, hH.x16, hH.x18, hH.x19, hH.x20, hH.vx, hH.c0, hH.c1, hH.c2, hH.c3, hH.c4, hH.c6, hH.vc, hH.vT, hH.vL, hH.vP, hH.vK, hH.t0, hH.t1, hH.t2, hH.t3, hH.t4, hH.vt, hH.l0, hH.l1, hH.l2, hH.l3, hH.l4, hH.vl, hH.p0, hH.p1, hH.p2, hH.vp, hH.k0, hH.w0, hH.k1, hH.w1, hH.k2, hH.w2, hH.k3, hH.w3, hH.k4, hH.w4, hH.k5, hH.w5, hH.q5, hH.vk, hH.vw, hH.sT, hH.sL, hH.sP, hH.sK, hH.gT, hH.gL, hH.gP, hH.gK, w2]
      refine br_t (Int32.le_refl _) ?_
      simp only [forall_eq, nI_1]
      simp only [lsI, w1] at ih
      exact ih
    · intro n2 v hv ih2
      rw [vX1_lies_l49]
      simp (disch := first | assumption | omega) only [nI_lt0, nI_clamp, vp_inT, nI_eq, imp_FT, imp_TF, true_and, and_true, bO_s, hH.x0, hH.x1, hH.x2, hH.x3, hH.x4, hH.x5, hH.x6, hH.x7, hH.x8, hH.x9, hH.x10, hH.x11, hH.x12, hH.x15, hH.x16, hH.x18, hH.x19, hH.x20, hH.vx, hH.c0, hH.c1, hH.c2, hH.c3, hH.c4, hH.c6, hH.vc, hH.vT, hH.vL, hH.vP, hH.vK, hH.t0, hH.t1, hH.t2, hH.t3, hH.t4, hH.vt, hH.l0, hH.l1, hH.l2, hH.l3, hH.l4, hH.vl, hH.p0, hH.p1, hH.p2, hH.vp, hH.k0, hH.w0, hH.k1, hH.w1, hH.k2, hH.w2, hH.k3, hH.w3, hH.k4, hH.w4, hH.k5, hH.w5, hH.q5, hH.vk, hH.vw, hH.sT, hH.sL, hH.sP, hH.sK, hH.gT, hH.gL, hH.gP, hH.gK, w2]
      refine br_f (nI_ge hv (by omega)) ?_
      refine upL (W := fun f t => vX1_lies_l77 cA x b (vX1_lies_l26 cA x b Post n) (vX1_lies_l49 cA x b (vX1_lies_l26 cA x b Post n) Post n2) Post f (lsI K b y) (nI y) (nI (al K b y v)) (nI (mx K b y v)) (nI v) (nI (cnt (fun t => bt b t && decide (sto K t y = nI v)) t)) (nI t) V) (e := K.nL) ?_ ?_
      · intro n3
        rw [vX1_lies_l77]
        have hs : sm K b y v ≤ K.nL := cnt_le _ _
        have hm : ∀ v, mx K b y v ≤ K.nL := by
          intro v
          induction v with
          | zero => exact Nat.zero_le _
          | succ v ihv =>
            have : sm K b y v ≤ K.nL := cnt_le _ _
            unfold mx
            split <;> omega
        have hmv := hm v
        simp (disch := first | assumption | omega) only [nI_lt0, nI_clamp, vp_inT, nI_eq, imp_FT, imp_TF, true_and, and_true, bO_s, hH.x0, hH.x1, hH.x2, hH.x3, hH.x4, hH.x5, hH.x6, hH.x7, hH.x8, hH.x9, hH.x10, hH.x11, hH.x12, hH.x15, hH.x16, hH.x18, hH.x19, hH.x20, hH.vx, hH.c0, hH.c1, hH.c2, hH.c3, hH.c4, hH.c6, hH.vc, hH.vT, hH.vL, hH.vP, hH.vK, hH.t0, hH.t1, hH.t2, hH.t3, hH.t4, hH.vt, hH.l0, hH.l1, hH.l2, hH.l3, hH.l4, hH.vl, hH.p0, hH.p1, hH.p2, hH.vp, hH.k0, hH.w0, hH.k1, hH.w1, hH.k2, hH.w2, hH.k3, hH.w3, hH.k4, hH.w4, hH.k5, hH.w5, hH.q5, hH.vk, hH.vw, hH.sT, hH.sL, hH.sP, hH.sK, hH.gT, hH.gL, hH.gP, hH.gK]
        refine br_t (Int32.le_refl _) ?_
        simp only [forall_eq, nI_1, nI_add]
        rw [show cnt (fun t => bt b t && decide (sto K t y = nI v)) K.nL = sm K b y v from rfl]
        by_cases c : mx K b y v < sm K b y v
        · rw [if_pos (nI_lt c (by omega))]
          simp only [al, mx, if_pos c] at ih2
          exact ih2
        · rw [if_neg (nI_nlt (Nat.not_lt.mp c) (by omega))]
          simp only [al, mx, if_neg c] at ih2
          exact ih2
      · intro n3 t ht ih3
        rw [vX1_lies_l77]
        simp only [vX1_lies_c120, vX1_lies_c121, forall_eq, nI_1, Int32.add_zero]
        simp (disch := first | assumption | omega) only [nI_lt0, nI_clamp, vp_inT, nI_eq, imp_FT, imp_TF, true_and, and_true, bO_s, hH.x0, hH.x1, hH.x2, hH.x3, hH.x4, hH.x5, hH.x6, hH.x7, hH.x8, hH.x9, hH.x10, hH.x11, hH.x12, hH.x15, hH.x16, hH.x18, hH.x19, hH.x20, hH.vx, hH.c0, hH.c1, hH.c2, hH.c3, hH.c4, hH.c6, hH.vc, hH.vT, hH.vL, hH.vP, hH.vK, hH.t0, hH.t1, hH.t2, hH.t3, hH.t4, hH.vt, hH.l0, hH.l1, hH.l2, hH.l3, hH.l4, hH.vl, hH.p0, hH.p1, hH.p2, hH.vp, hH.k0, hH.w0, hH.k1, hH.w1, hH.k2, hH.w2, hH.k3, hH.w3, hH.k4, hH.w4, hH.k5, hH.w5, hH.q5, hH.vk, hH.vw, hH.sT, hH.sL, hH.sP, hH.sK, hH.gT, hH.gL, hH.gP, hH.gK]
        refine br_f (nI_ge ht (by omega)) (br_c (fun c => ?_) (fun c => ?_))
        · have c' : bt b t = true := by simp only [bt, c, decide_true]
          refine p1_storyOf hO hH ht hy (br_c (fun d => ?_) (fun d => ?_))
          · (simp only [Bool.false_and, Bool.true_and, Bool.and_false, Bool.and_true, Bool.false_or, Bool.true_or, Bool.or_false, Bool.or_true, Bool.not_true, Bool.not_false, bI_t, bI_f, if_true, if_false, beq_self_eq_true, decide_true, decide_false, reduceCtorEq, Bool.false_eq_true, cnt, c', d] at ih3; exact ih3)
          · (simp only [Bool.false_and, Bool.true_and, Bool.and_false, Bool.and_true, Bool.false_or, Bool.true_or, Bool.or_false, Bool.or_true, Bool.not_true, Bool.not_false, bI_t, bI_f, if_true, if_false, beq_self_eq_true, decide_true, decide_false, reduceCtorEq, Bool.false_eq_true, cnt, c', d] at ih3; exact ih3)
        · have c' : bt b t = false := by simp only [bt, c, decide_false]
          (simp only [Bool.false_and, Bool.true_and, Bool.and_false, Bool.and_true, Bool.false_or, Bool.true_or, Bool.or_false, Bool.or_true, Bool.not_true, Bool.not_false, bI_t, bI_f, if_true, if_false, beq_self_eq_true, decide_true, decide_false, reduceCtorEq, Bool.false_eq_true, cnt, c'] at ih3; exact ih3)
