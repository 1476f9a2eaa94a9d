/-! bits of a number (rows of laws/BITS.to-paste, their names changed) -/
def gb (x : Int32) (i : Nat) : Bool := x.toBitVec.getLsbD i
theorem gb_or (x y : Int32) (i : Nat) : gb (x ||| y) i = (gb x i || gb y i) := by unfold gb; rw [Int32.toBitVec_or, BitVec.getLsbD_or]
theorem gb_and (x y : Int32) (i : Nat) : gb (x &&& y) i = (gb x i && gb y i) := by unfold gb; rw [Int32.toBitVec_and, BitVec.getLsbD_and]
theorem gb_ext {x y : Int32} (h : ∀ i, i < 32 → gb x i = gb y i) : x = y := Int32.toBitVec_inj.mp (BitVec.eq_of_getLsbD_eq (fun i hi => h i hi))
theorem gb_sl : ∀ n, n < 32 → ((nI n &&& 31).toBitVec.smod 32).toNat = n := by decide +kernel
theorem gb_shl (n : Nat) (hn : n < 32) (x : Int32) {i : Nat} (hi : i < 32) : gb (x <<< (nI n &&& 31)) i = (decide (n ≤ i) && gb x (i - n)) := by
  unfold gb
  rw [Int32.toBitVec_shiftLeft]
  show (x.toBitVec <<< ((nI n &&& 31).toBitVec.smod 32).toNat).getLsbD i = _
  rw [gb_sl n hn, BitVec.getLsbD_shiftLeft]
  rcases Nat.lt_or_ge i n with h | h
  · simp [h, Nat.not_le.mpr h]
  · simp [hi, h, Nat.not_lt.mpr h]
theorem gb_sshr (n : Nat) (hn : n < 32) (x : Int32) {i : Nat} (hi : i < 32) : gb (x >>> (nI n &&& 31)) i = if n + i < 32 then gb x (n + i) else gb x 31 := by
  unfold gb
  rw [Int32.toBitVec_shiftRight]
  show (x.toBitVec.sshiftRight ((nI n &&& 31).toBitVec.smod 32).toNat).getLsbD i = _
  rw [gb_sl n hn, BitVec.getLsbD_sshiftRight, BitVec.msb_eq_getLsbD_last]
  simp [hi]
theorem gb_1 : ∀ i, i < 32 → gb 1 i = decide (i = 0) := by decide +kernel
theorem gb_0 (i : Nat) : gb 0 i = false := BitVec.getLsbD_zero
theorem bt_gb (s : Int32) (k : Nat) (hk : k < 32) : bt s k = gb s k := by
  have h0 : gb ((s >>> (nI k &&& 31)) &&& 1) 0 = gb s k := by
    rw [gb_and, gb_sshr k hk s (by decide), gb_1 0 (by decide), if_pos (by omega)]
    simp
  have h1 : ((s >>> (nI k &&& 31)) &&& 1 = 1) ↔ gb s k = true := by
    rw [← h0]
    constructor
    · intro e; rw [e]; decide
    · intro e
      refine gb_ext (fun i hi => ?_)
      by_cases c : i = 0
      · subst c; rw [e]; decide
      · rw [gb_and, gb_1 i hi, decide_eq_false c, Bool.and_false]
  unfold bt
  cases e : gb s k with
  | true => exact decide_eq_true (h1.mpr e)
  | false => exact decide_eq_false (fun q => by rw [h1.mp q] at e; cases e)
theorem bt_or {s : Int32} {j k : Nat} (hj : j < 32) (hk : k < 32) : bt (s ||| ((1 : Int32) <<< (nI j &&& 31))) k = (bt s k || j == k) := by
  rw [bt_gb _ _ hk, bt_gb _ _ hk, gb_or, gb_shl j hj 1 hk]
  congr 1
  by_cases c : j ≤ k
  · rw [decide_eq_true c, Bool.true_and, gb_1 _ (by omega)]
    by_cases d : j = k
    · rw [d]; simp
    · rw [decide_eq_false (by omega), beq_eq_false_iff_ne.mpr d]
  · rw [decide_eq_false c, Bool.false_and, beq_eq_false_iff_ne.mpr (by omega)]
/-- what was asked of on tape, as bits -/
def asB (K : Ka) (t : Nat) : Nat → Int32
  | 0 => 0
  | n + 1 => if hl1 K t n && (tp K n && !K.isW n) then asB K t n ||| ((1 : Int32) <<< (nI (K.thing n) &&& 31)) else asB K t n
theorem asB_bt {K : Ka} (hO : KO K) {t y : Nat} (hy : y < 8) : ∀ n, n ≤ K.nK → bt (asB K t n) y = anyB (fun i => hl1 K t i && (tp K i && !K.isW i) && K.thing i == y) n
  | 0, _ => by unfold asB anyB; rw [bt_gb _ _ (by omega), gb_0]
  | n + 1, h => by
    have ih := asB_bt (t := t) hO hy n (by omega)
    have h1 := hO.thing n (by omega)
    have h2 := hO.nT
    unfold asB anyB
    cases e : (hl1 K t n && (tp K n && !K.isW n)) with
    | false => simp only [Bool.false_and, Bool.or_false, if_false, Bool.false_eq_true]; exact ih
    | true => rw [if_pos rfl, bt_or (by omega) (by omega), ih, Bool.true_and]
theorem p1_supposed {cA : Nat → ClassId} {x : Nat} {a : Ad} {V : VS} {K : Ka} {Post : Int32 → VS → Prop} (hO : KO K) (hH : HK cA x a V K) {b : Int32} (h : Post (aSup K b) V) : vX1_supposed cA x b V Post := by
  have h9T := hO.nT; have h9L := hO.nL; have h9K := hO.nK; have h9P := hO.nP
  unfold vX1_supposed
  simp (disch := first | assumption | omega) only [nI_lt0, nI_clamp, vp_inT, nI_eq, imp_FT, imp_TF, true_and, and_true, bO_s, hH.x0, hH.x1, hH.x2, hH.x3, hH.x4, hH.x5, hH.x6, hH.x7, hH.x8, hH.x9, hH.x10, hH.x11, hH.x12, hH.x15, hH.x16, hH.x18, hH.x19, hH.x20, hH.vx, hH.c0, hH.c1, hH.c2, hH.c3, hH.c4, hH.c6, hH.vc, hH.vT, hH.vL, hH.vP, hH.vK, hH.t0, hH.t1, hH.t2, hH.t3, hH.t4, hH.vt, hH.l0, hH.l1, hH.l2, hH.l3, hH.l4, hH.vl, hH.p0, hH.p1, hH.p2, hH.vp, hH.k0, hH.w0, hH.k1, hH.w1, hH.k2, hH.w2, hH.k3, hH.w3, hH.k4, hH.w4, hH.k5, hH.w5, hH.q5, hH.vk, hH.vw, hH.sT, hH.sL, hH.sP, hH.sK, hH.gT, hH.gL, hH.gP, hH.gK]
  unfold aSup at h
  refine p1_isTeller hO hH (fun t e ht hb => br_f (by decide) ?_) (fun e => br_t rfl ?_)
  · rw [e] at h
    dsimp only at h
    subst hb
    simp (disch := first | assumption | omega) only [nI_lt0, nI_clamp, vp_inT, nI_eq, imp_FT, imp_TF, true_and, and_true, bO_s, hH.x0, hH.x1, hH.x2, hH.x3, hH.x4, hH.x5, hH.x6, hH.x7, hH.x8, hH.x9, hH.x10, hH.x11, hH.x12, hH.x15, hH.x16, hH.x18, hH.x19, hH.x20, hH.vx, hH.c0, hH.c1, hH.c2, hH.c3, hH.c4, hH.c6, hH.vc, hH.vT, hH.vL, hH.vP, hH.vK, hH.t0, hH.t1, hH.t2, hH.t3, hH.t4, hH.vt, hH.l0, hH.l1, hH.l2, hH.l3, hH.l4, hH.vl, hH.p0, hH.p1, hH.p2, hH.vp, hH.k0, hH.w0, hH.k1, hH.w1, hH.k2, hH.w2, hH.k3, hH.w3, hH.k4, hH.w4, hH.k5, hH.w5, hH.q5, hH.vk, hH.vw, hH.sT, hH.sL, hH.sP, hH.sK, hH.gT, hH.gL, hH.gP, hH.gK]
    refine upL (W := fun f i => vX1_supposed_l33 cA x (nI t) Post f (a.l t) (if K.begins t < K.taped t then sup K t i else 0) (asB K t i) (nI i) V) (e := K.nK) ?_ ?_ |>.imp (fun f h => by simpa only [sup, asB, ite_self, nI_0] using h)
    · intro n
      rw [vX1_supposed_l33]
      simp (disch := first | assumption | omega) only [nI_lt0, nI_clamp, vp_inT, nI_eq, imp_FT, imp_TF, true_and, and_true, bO_s, hH.x0, hH.x1, hH.x2, hH.x3, hH.x4, hH.x5, hH.x6, hH.x7, hH.x8, hH.x9, hH.x10, hH.x11, hH.x12, hH.x15, hH.x16, hH.x18, hH.x19, hH.x20, hH.vx, hH.c0, hH.c1, hH.c2, hH.c3, hH.c4, hH.c6, hH.vc, hH.vT, hH.vL, hH.vP, hH.vK, hH.t0, hH.t1, hH.t2, hH.t3, hH.t4, hH.vt, hH.l0, hH.l1, hH.l2, hH.l3, hH.l4, hH.vl, hH.p0, hH.p1, hH.p2, hH.vp, hH.k0, hH.w0, hH.k1, hH.w1, hH.k2, hH.w2, hH.k3, hH.w3, hH.k4, hH.w4, hH.k5, hH.w5, hH.q5, hH.vk, hH.vw, hH.sT, hH.sL, hH.sP, hH.sK, hH.gT, hH.gL, hH.gP, hH.gK]
      exact br_t (Int32.le_refl _) h
    · intro n i hi ih
      rw [vX1_supposed_l33]
      have h9w := hO.who i hi; have h9t := hO.thing i hi
      simp only [vX1_supposed_c161, forall_eq, nI_1]
      simp (disch := first | assumption | omega) only [nI_lt0, nI_clamp, vp_inT, nI_eq, imp_FT, imp_TF, true_and, and_true, bO_s, hH.x0, hH.x1, hH.x2, hH.x3, hH.x4, hH.x5, hH.x6, hH.x7, hH.x8, hH.x9, hH.x10, hH.x11, hH.x12, hH.x15, hH.x16, hH.x18, hH.x19, hH.x20, hH.vx, hH.c0, hH.c1, hH.c2, hH.c3, hH.c4, hH.c6, hH.vc, hH.vT, hH.vL, hH.vP, hH.vK, hH.t0, hH.t1, hH.t2, hH.t3, hH.t4, hH.vt, hH.l0, hH.l1, hH.l2, hH.l3, hH.l4, hH.vl, hH.p0, hH.p1, hH.p2, hH.vp, hH.k0, hH.w0, hH.k1, hH.w1, hH.k2, hH.w2, hH.k3, hH.w3, hH.k4, hH.w4, hH.k5, hH.w5, hH.q5, hH.vk, hH.vw, hH.sT, hH.sL, hH.sP, hH.sK, hH.gT, hH.gL, hH.gP, hH.gK]
      refine br_f (nI_ge hi (by omega)) (br_c (fun c => ?_) (fun c => ?_))
      · rw [if_neg (Int32.not_lt.mpr c)] at h ⊢
        exact h
      · have c' : K.begins t < K.taped t := Int32.not_le.mp c
        simp only [c', if_true] at ih ⊢
        refine p1_heard hO hH hi ht (bo (fun g => ?_) (fun g => ?_))
        · have e1 : suB K t i = false := by
            unfold suB hw
            unfold hl1 at g
            cases e1 : hh K i <;> cases e2 : K.who i == t <;> simp_all
          (simp only [Bool.false_and, Bool.true_and, Bool.and_false, Bool.and_true, Bool.false_or, Bool.true_or, Bool.or_false, Bool.or_true, Bool.not_true, Bool.not_false, bI_t, bI_f, if_true, if_false, beq_self_eq_true, decide_true, decide_false, reduceCtorEq, Bool.false_eq_true, sup, asB, e1, g] at ih; exact ih)
        · have g' := g
          simp only [hl1, Bool.and_eq_true, beq_iff_eq] at g'
          simp (disch := first | assumption | omega) only [nI_lt0, nI_clamp, vp_inT, nI_eq, imp_FT, imp_TF, true_and, and_true, bO_s, hH.x0, hH.x1, hH.x2, hH.x3, hH.x4, hH.x5, hH.x6, hH.x7, hH.x8, hH.x9, hH.x10, hH.x11, hH.x12, hH.x15, hH.x16, hH.x18, hH.x19, hH.x20, hH.vx, hH.c0, hH.c1, hH.c2, hH.c3, hH.c4, hH.c6, hH.vc, hH.vT, hH.vL, hH.vP, hH.vK, hH.t0, hH.t1, hH.t2, hH.t3, hH.t4, hH.vt, hH.l0, hH.l1, hH.l2, hH.l3, hH.l4, hH.vl, hH.p0, hH.p1, hH.p2, hH.vp, hH.k0, hH.w0, hH.k1, hH.w1, hH.k2, hH.w2, hH.k3, hH.w3, hH.k4, hH.w4, hH.k5, hH.w5, hH.q5, hH.vk, hH.vw, hH.sT, hH.sL, hH.sP, hH.sK, hH.gT, hH.gL, hH.gP, hH.gK]
          refine p1_isTaped hO hH ht ?_
          have etp : (decide (0 ≤ K.taped t) && decide (K.taped t ≤ K.hour i)) = tp K i := by unfold tp; rw [g'.2]
          rw [etp]
          refine bz (fun d => ?_) (fun d => ?_)
          · have e1 : suB K t i = false := by unfold suB; rw [d]; simp
            (simp only [Bool.false_and, Bool.true_and, Bool.and_false, Bool.and_true, Bool.false_or, Bool.true_or, Bool.or_false, Bool.or_true, Bool.not_true, Bool.not_false, bI_t, bI_f, if_true, if_false, beq_self_eq_true, decide_true, decide_false, reduceCtorEq, Bool.false_eq_true, sup, asB, e1, d] at ih; exact ih)
          · refine p1_isWord hH hi ?_
            refine bz (fun j => ?_) (fun j => ?_)
            · have e1 : suB K t i = false := by unfold suB hw; rw [j]; simp
              simp (disch := first | assumption | omega) only [nI_lt0, nI_clamp, vp_inT, nI_eq, imp_FT, imp_TF, true_and, and_true, bO_s, hH.x0, hH.x1, hH.x2, hH.x3, hH.x4, hH.x5, hH.x6, hH.x7, hH.x8, hH.x9, hH.x10, hH.x11, hH.x12, hH.x15, hH.x16, hH.x18, hH.x19, hH.x20, hH.vx, hH.c0, hH.c1, hH.c2, hH.c3, hH.c4, hH.c6, hH.vc, hH.vT, hH.vL, hH.vP, hH.vK, hH.t0, hH.t1, hH.t2, hH.t3, hH.t4, hH.vt, hH.l0, hH.l1, hH.l2, hH.l3, hH.l4, hH.vl, hH.p0, hH.p1, hH.p2, hH.vp, hH.k0, hH.w0, hH.k1, hH.w1, hH.k2, hH.w2, hH.k3, hH.w3, hH.k4, hH.w4, hH.k5, hH.w5, hH.q5, hH.vk, hH.vw, hH.sT, hH.sL, hH.sP, hH.sK, hH.gT, hH.gL, hH.gP, hH.gK]
              (simp only [Bool.false_and, Bool.true_and, Bool.and_false, Bool.and_true, Bool.false_or, Bool.true_or, Bool.or_false, Bool.or_true, Bool.not_true, Bool.not_false, bI_t, bI_f, if_true, if_false, beq_self_eq_true, decide_true, decide_false, reduceCtorEq, Bool.false_eq_true, sup, asB, e1, d, g, j] at ih; exact ih)
            · have e0 : asB K t (i + 1) = asB K t i := by simp only [asB, j, Bool.not_true, Bool.and_false, if_false, Bool.false_eq_true]
              rw [e0] at ih
              have hW : hw K i = true := by unfold hw; rw [g'.1, j]; rfl
              have no : suB K t i = false → vX1_supposed_l33 cA x (nI t) Post n (a.l t) (sup K t i) (asB K t i) (nI (i + 1)) V := fun z => by
                (simp only [Bool.false_and, Bool.true_and, Bool.and_false, Bool.and_true, Bool.false_or, Bool.true_or, Bool.or_false, Bool.or_true, Bool.not_true, Bool.not_false, bI_t, bI_f, if_true, if_false, beq_self_eq_true, decide_true, decide_false, reduceCtorEq, Bool.false_eq_true, sup, z] at ih; exact ih)
              simp (disch := first | assumption | omega) only [nI_lt0, nI_clamp, vp_inT, nI_eq, imp_FT, imp_TF, true_and, and_true, bO_s, hH.x0, hH.x1, hH.x2, hH.x3, hH.x4, hH.x5, hH.x6, hH.x7, hH.x8, hH.x9, hH.x10, hH.x11, hH.x12, hH.x15, hH.x16, hH.x18, hH.x19, hH.x20, hH.vx, hH.c0, hH.c1, hH.c2, hH.c3, hH.c4, hH.c6, hH.vc, hH.vT, hH.vL, hH.vP, hH.vK, hH.t0, hH.t1, hH.t2, hH.t3, hH.t4, hH.vt, hH.l0, hH.l1, hH.l2, hH.l3, hH.l4, hH.vl, hH.p0, hH.p1, hH.p2, hH.vp, hH.k0, hH.w0, hH.k1, hH.w1, hH.k2, hH.w2, hH.k3, hH.w3, hH.k4, hH.w4, hH.k5, hH.w5, hH.q5, hH.vk, hH.vw, hH.sT, hH.sL, hH.sP, hH.sK, hH.gT, hH.gL, hH.gP, hH.gK]
              refine p1_isRight hO hH hi j (bz (fun l => no ?_) (fun l => ?_))
              · unfold suB; rw [l]; simp
              · simp (disch := first | assumption | omega) only [nI_lt0, nI_clamp, vp_inT, nI_eq, imp_FT, imp_TF, true_and, and_true, bO_s, hH.x0, hH.x1, hH.x2, hH.x3, hH.x4, hH.x5, hH.x6, hH.x7, hH.x8, hH.x9, hH.x10, hH.x11, hH.x12, hH.x15, hH.x16, hH.x18, hH.x19, hH.x20, hH.vx, hH.c0, hH.c1, hH.c2, hH.c3, hH.c4, hH.c6, hH.vc, hH.vT, hH.vL, hH.vP, hH.vK, hH.t0, hH.t1, hH.t2, hH.t3, hH.t4, hH.vt, hH.l0, hH.l1, hH.l2, hH.l3, hH.l4, hH.vl, hH.p0, hH.p1, hH.p2, hH.vp, hH.k0, hH.w0, hH.k1, hH.w1, hH.k2, hH.w2, hH.k3, hH.w3, hH.k4, hH.w4, hH.k5, hH.w5, hH.q5, hH.vk, hH.vw, hH.sT, hH.sL, hH.sP, hH.sK, hH.gT, hH.gL, hH.gP, hH.gK]
                refine ek_if (bt_iff _ _) (fun q => ?_) (fun q => no ?_)
                · refine p1_hdO hO hH h9t (bz (fun z => no ?_) (fun z => ?_))
                  · unfold suB; rw [z]; simp
                  · simp (disch := first | assumption | omega) only [nI_lt0, nI_clamp, vp_inT, nI_eq, imp_FT, imp_TF, true_and, and_true, bO_s, hH.x0, hH.x1, hH.x2, hH.x3, hH.x4, hH.x5, hH.x6, hH.x7, hH.x8, hH.x9, hH.x10, hH.x11, hH.x12, hH.x15, hH.x16, hH.x18, hH.x19, hH.x20, hH.vx, hH.c0, hH.c1, hH.c2, hH.c3, hH.c4, hH.c6, hH.vc, hH.vT, hH.vL, hH.vP, hH.vK, hH.t0, hH.t1, hH.t2, hH.t3, hH.t4, hH.vt, hH.l0, hH.l1, hH.l2, hH.l3, hH.l4, hH.vl, hH.p0, hH.p1, hH.p2, hH.vp, hH.k0, hH.w0, hH.k1, hH.w1, hH.k2, hH.w2, hH.k3, hH.w3, hH.k4, hH.w4, hH.k5, hH.w5, hH.q5, hH.vk, hH.vw, hH.sT, hH.sL, hH.sP, hH.sK, hH.gT, hH.gL, hH.gP, hH.gK]
                    have e1 : suB K t i = true := by
                      unfold suB
                      rw [hW, g'.2, d, l, z]
                      rw [asB_bt hO (by omega) i (by omega)] at q
                      have : wa K i = false := by
                        unfold wa
                        rw [← q]
                        refine anyB_congr (fun m hm => ?_)
                        unfold ak hl1
                        rw [g'.2]
                        cases hh K m <;> cases K.isW m <;> cases (K.who m == t) <;> cases tp K m <;> simp
                      rw [this]
                      simp
                    (simp only [Bool.false_and, Bool.true_and, Bool.and_false, Bool.and_true, Bool.false_or, Bool.true_or, Bool.or_false, Bool.or_true, Bool.not_true, Bool.not_false, bI_t, bI_f, if_true, if_false, beq_self_eq_true, decide_true, decide_false, reduceCtorEq, Bool.false_eq_true, sup, e1] at ih; exact ih)
                · rw [Bool.not_eq_false, asB_bt hO (by omega) i (by omega)] at q
                  have : wa K i = true := by
                    unfold wa
                    rw [← q]
                    refine anyB_congr (fun m hm => ?_)
                    unfold ak hl1
                    rw [g'.2]
                    cases hh K m <;> cases K.isW m <;> cases (K.who m == t) <;> cases tp K m <;> simp
                  unfold suB
                  rw [this]
                  simp
  · rw [e] at h
    exact h
