/-! whole numbers as Int64 and Int32: products, quotients, rests -/
theorem lN_t {n : Nat} (h : n < 2 ^ 63) : (lN n).toInt = (n : Int) := lg_ofNat_toInt h
theorem lN_0 : lN 0 = 0 := rfl
theorem lN_inj {a b : Nat} (ha : a < 2 ^ 63) (hb : b < 2 ^ 63) : lN a = lN b ↔ a = b := by
  constructor
  · intro h
    have := congrArg Int64.toInt h
    rw [lN_t ha, lN_t hb] at this
    omega
  · intro h; rw [h]
theorem lN_div {a b : Nat} (ha : a < 2 ^ 63) (hb : b < 2 ^ 63) : lN a / lN b = lN (a / b) := by
  apply Int64.toInt_inj.mp
  have h1 : a / b ≤ a := Nat.div_le_self _ _
  have h2 : ((a : Int).tdiv (b : Int)) = ((a / b : Nat) : Int) := (Int.ofNat_tdiv a b).symm
  rw [Int64.toInt_div, lN_t ha, lN_t hb, lN_t (by omega), h2]
  clear h2
  generalize a / b = q at h1 ⊢
  exact Int.bmod_eq_of_le (by omega) (by omega)
theorem lN_mod {a b : Nat} (ha : a < 2 ^ 63) (hb : b < 2 ^ 63) : lN a - lN a / lN b * lN b = lN (a % b) := by
  rw [lN_div ha hb, lN_mul, lN_sub (by rw [Nat.mul_comm]; exact Nat.mul_div_le _ _)]
  congr 1
  have := Nat.div_add_mod a b
  rw [Nat.mul_comm] at this
  omega
theorem lN_and {n : Nat} : lN n &&& (2147483647 : Int64) = lN (n % 2 ^ 31) := by
  apply Int64.toBitVec_inj.mp
  rw [Int64.toBitVec_and]
  apply BitVec.eq_of_toNat_eq
  show ((BitVec.ofNat 64 n).toNat &&& (2 ^ 31 - 1)) = (BitVec.ofNat 64 (n % 2 ^ 31)).toNat
  rw [Nat.and_two_pow_sub_one_eq_mod, BitVec.toNat_ofNat, BitVec.toNat_ofNat]
  omega
theorem nI_mul (a b : Nat) : nI a * nI b = nI (a * b) := (Int32.ofNat_mul a b).symm
theorem nI_and {n : Nat} : nI n &&& (2147483647 : Int32) = nI (n % 2 ^ 31) := by
  apply Int32.toBitVec_inj.mp
  rw [Int32.toBitVec_and]
  apply BitVec.eq_of_toNat_eq
  show ((BitVec.ofNat 32 n).toNat &&& (2 ^ 31 - 1)) = (BitVec.ofNat 32 (n % 2 ^ 31)).toNat
  rw [Nat.and_two_pow_sub_one_eq_mod, BitVec.toNat_ofNat, BitVec.toNat_ofNat]
  omega
theorem nI_div {a b : Nat} (ha : a < 2 ^ 31) (hb : b < 2 ^ 31) : nI a / nI b = nI (a / b) := by
  apply Int32.toInt_inj.mp
  have h1 : a / b ≤ a := Nat.div_le_self _ _
  have h2 : ((a : Int).tdiv (b : Int)) = ((a / b : Nat) : Int) := (Int.ofNat_tdiv a b).symm
  rw [Int32.toInt_div, nI_toInt ha, nI_toInt hb, nI_toInt (by omega), h2]
  clear h2
  generalize a / b = q at h1 ⊢
  exact Int.bmod_eq_of_le (by omega) (by omega)
theorem nI_sub {a b : Nat} (h : b ≤ a) : nI a - nI b = nI (a - b) := by
  have : nI (a - b) + nI b = nI a := by rw [nI_add]; congr 1; omega
  rw [← this, Int32.add_sub_cancel]
theorem nI_mod {a b : Nat} (ha : a < 2 ^ 31) (hb : b < 2 ^ 31) : nI a - nI a / nI b * nI b = nI (a % b) := by
  rw [nI_div ha hb, nI_mul, nI_sub (by rw [Nat.mul_comm]; exact Nat.mul_div_le _ _)]
  congr 1
  have := Nat.div_add_mod a b
  rw [Nat.mul_comm] at this
  omega
/-- the next of the seeds, a number below -/
def nxt (s : Nat) : Nat := (s * 1103515245 + 12345) % 2 ^ 31
theorem nxt_lt (s : Nat) : nxt s < 2 ^ 31 := Nat.mod_lt _ (by decide)
def dv (s b : Nat) : Nat := s / 65536 % b
theorem p4_drawn {M : MS} {K : Ka} {Post : Int32 → MS → Prop} {s b : Nat} (hM : MK M K) (hs : ml M 65 = lN s) (hb0 : 0 < b) (hb : b < 2 ^ 31) (h : ∀ M', MK M' K → ml M' 65 = lN (nxt s) → Post (nI (dv (nxt s) b)) M') : w4_drawn (nI b) M Post := by
  intro M1 e1
  have e2 : ml M1 65 = lN (nxt s) := by
    rw [e1, ml_sl, if_pos rfl, hs, show (1103515245 : Int64) = lN 1103515245 from rfl, show (12345 : Int64) = lN 12345 from rfl, lN_mul, lN_add, lN_and]
    rfl
  have h1 := nxt_lt s
  have h2 : nxt s / 65536 < 2 ^ 31 := Nat.lt_of_le_of_lt (Nat.div_le_self _ _) h1
  refine ⟨?_, ?_⟩
  · rw [nI_l hb]
    intro q
    have := (lN_inj (a := b) (b := 0) (by omega) (by omega)).mp q
    omega
  · rw [e2, show (65536 : Int64) = lN 65536 from rfl, lN_div (by omega) (by omega), nI_l hb, lN_mod (by omega) (by omega), lN_i]
    exact h M1 (by rw [e1]; exact hM) e2
def paB (K : Ka) (k i : Nat) : Bool := ak K (K.who k) i && (K.thing i == K.thing k && decide (0 ≤ K.value i))
def pa (K : Ka) (k : Nat) : Int32 := lastV (paB K k) K.value k
theorem p4_putAhead {M : MS} {K : Ka} {Post : Int32 → MS → Prop} (hO : KO K) (hM : MK M K) {k : Nat} (hk : k < K.nK) (h : Post (pa K k) M) : w4_putAhead (nI k) M Post := by
  have h9T := hO.nT; have h9L := hO.nL; have h9K := hO.nK; have h9P := hO.nP; have h9w := hO.who k hk; have h9t := hO.thing k hk
  refine upL (W := fun f i => w4_putAhead_l4 (nI k) Post f (lastV (paB K k) K.value i) (nI i) M) (e := k) ?_ ?_
  · intro n
    rw [w4_putAhead_l4]
    exact br_t (Int32.le_refl _) h
  · intro n i hi ih
    rw [w4_putAhead_l4]
    refine br_f (nI_ge hi (by omega)) ?_
    have h9u := hO.thing i (by omega)
    simp (disch := omega) only [nI_lt0, nI_clamp, vp_inT, nI_eq, imp_FT, imp_TF, true_and, and_true, mN_0, mN_3, mN_21, mN_22, mN_23, mN_24, mN_25, mN_26, mN_27, mN_28, mN_29, mN_30, mN_31, mN_32, mN_33, mN_34, mN_35, mN_36, mN_37, mN_38, mN_39, mN_40, mN_41, mN_42, mN_43, mN_50, mN_51, mN_60, mN_61, mN_62, mN_63, hM.nT, hM.nL, hM.nK, hM.nP, hM.knots, hM.told, hM.heard, hM.were, hM.truth, hM.isThere, hM.isNot, hM.fed, hM.fKind, hM.fPlace, hM.tName, hM.ways, hM.isSo, hM.paper, hM.police, hM.lName, hM.age, hM.begins, hM.ends, hM.taped, hM.isW, hM.who, hM.hour, hM.thing, hM.value, hM.pWho, hM.pThing, hM.pValue, hM.first, hM.last, hM.knot, hM.kP, hM.kO, hM.byte, forall_eq, nI_1, w4_putAhead_c57, w4_putAhead_c56]
    refine p4_asks hO hM (by omega) h9w ?_
    simp (disch := omega) only [nI_lt0, nI_clamp, vp_inT, nI_eq, imp_FT, imp_TF, true_and, and_true, mN_0, mN_3, mN_21, mN_22, mN_23, mN_24, mN_25, mN_26, mN_27, mN_28, mN_29, mN_30, mN_31, mN_32, mN_33, mN_34, mN_35, mN_36, mN_37, mN_38, mN_39, mN_40, mN_41, mN_42, mN_43, mN_50, mN_51, mN_60, mN_61, mN_62, mN_63, hM.nT, hM.nL, hM.nK, hM.nP, hM.knots, hM.told, hM.heard, hM.were, hM.truth, hM.isThere, hM.isNot, hM.fed, hM.fKind, hM.fPlace, hM.tName, hM.ways, hM.isSo, hM.paper, hM.police, hM.lName, hM.age, hM.begins, hM.ends, hM.taped, hM.isW, hM.who, hM.hour, hM.thing, hM.value, hM.pWho, hM.pThing, hM.pValue, hM.first, hM.last, hM.knot, hM.kP, hM.kO, hM.byte]
    refine bz (fun b => ?_) (fun b => br_c (fun c => br_c (fun d => ?_) (fun d => ?_)) (fun c => ?_))
    · (simp only [Bool.false_and, Bool.true_and, Bool.and_false, Bool.and_true, Bool.false_or, Bool.true_or, Bool.or_false, Bool.or_true, Bool.not_true, Bool.not_false, bI_t, bI_f, if_true, if_false, beq_self_eq_true, decide_true, decide_false, reduceCtorEq, Bool.false_eq_true, lastV, paB, b] at ih; exact ih)
    · (simp only [Bool.false_and, Bool.true_and, Bool.and_false, Bool.and_true, Bool.false_or, Bool.true_or, Bool.or_false, Bool.or_true, Bool.not_true, Bool.not_false, bI_t, bI_f, if_true, if_false, beq_self_eq_true, decide_true, decide_false, reduceCtorEq, Bool.false_eq_true, lastV, paB, b, c, Int32.not_le.mpr d] at ih; exact ih)
    · (simp only [Bool.false_and, Bool.true_and, Bool.and_false, Bool.and_true, Bool.false_or, Bool.true_or, Bool.or_false, Bool.or_true, Bool.not_true, Bool.not_false, bI_t, bI_f, if_true, if_false, beq_self_eq_true, decide_true, decide_false, reduceCtorEq, Bool.false_eq_true, lastV, paB, b, c, Int32.not_lt.mp d] at ih; exact ih)
    · (simp only [Bool.false_and, Bool.true_and, Bool.and_false, Bool.and_true, Bool.false_or, Bool.true_or, Bool.or_false, Bool.or_true, Bool.not_true, Bool.not_false, bI_t, bI_f, if_true, if_false, beq_self_eq_true, decide_true, decide_false, reduceCtorEq, Bool.false_eq_true, lastV, paB, b, beq_eq_false_iff_ne.mpr c] at ih; exact ih)
def frB (K : Ka) (t k : Nat) : Bool := hw K k && (K.who k == t && fs K k)
theorem p4_isFirstOf {M : MS} {K : Ka} {Post : Int32 → MS → Prop} (hO : KO K) (hM : MK M K) {k t : Nat} (hk : k < K.nK) (ht : t < K.nL) (h : Post (bI (frB K t k)) M) : w4_isFirstOf (nI k) (nI t) M Post := by
  have h9T := hO.nT; have h9L := hO.nL; have h9K := hO.nK; have h9P := hO.nP; have h9w := hO.who k hk
  refine p4_isHeardWord hO hM hk (bz (fun c => ?_) (fun c => ?_))
  · (simp only [Bool.false_and, Bool.true_and, Bool.and_false, Bool.and_true, Bool.false_or, Bool.true_or, Bool.or_false, Bool.or_true, Bool.not_true, Bool.not_false, bI_t, bI_f, if_true, if_false, beq_self_eq_true, decide_true, decide_false, reduceCtorEq, Bool.false_eq_true, frB, c] at h; exact h)
  · simp (disch := omega) only [nI_lt0, nI_clamp, vp_inT, nI_eq, imp_FT, imp_TF, true_and, and_true, mN_0, mN_3, mN_21, mN_22, mN_23, mN_24, mN_25, mN_26, mN_27, mN_28, mN_29, mN_30, mN_31, mN_32, mN_33, mN_34, mN_35, mN_36, mN_37, mN_38, mN_39, mN_40, mN_41, mN_42, mN_43, mN_50, mN_51, mN_60, mN_61, mN_62, mN_63, hM.nT, hM.nL, hM.nK, hM.nP, hM.knots, hM.told, hM.heard, hM.were, hM.truth, hM.isThere, hM.isNot, hM.fed, hM.fKind, hM.fPlace, hM.tName, hM.ways, hM.isSo, hM.paper, hM.police, hM.lName, hM.age, hM.begins, hM.ends, hM.taped, hM.isW, hM.who, hM.hour, hM.thing, hM.value, hM.pWho, hM.pThing, hM.pValue, hM.first, hM.last, hM.knot, hM.kP, hM.kO, hM.byte]
    refine br_c (fun d => p4_isFirst hO hM hk (bz (fun g => ?_) (fun g => ?_))) (fun d => ?_)
    · (simp only [Bool.false_and, Bool.true_and, Bool.and_false, Bool.and_true, Bool.false_or, Bool.true_or, Bool.or_false, Bool.or_true, Bool.not_true, Bool.not_false, bI_t, bI_f, if_true, if_false, beq_self_eq_true, decide_true, decide_false, reduceCtorEq, Bool.false_eq_true, frB, c, d, g] at h; exact h)
    · (simp only [Bool.false_and, Bool.true_and, Bool.and_false, Bool.and_true, Bool.false_or, Bool.true_or, Bool.or_false, Bool.or_true, Bool.not_true, Bool.not_false, bI_t, bI_f, if_true, if_false, beq_self_eq_true, decide_true, decide_false, reduceCtorEq, Bool.false_eq_true, frB, c, d, g] at h; exact h)
    · (simp only [Bool.false_and, Bool.true_and, Bool.and_false, Bool.and_true, Bool.false_or, Bool.true_or, Bool.or_false, Bool.or_true, Bool.not_true, Bool.not_false, bI_t, bI_f, if_true, if_false, beq_self_eq_true, decide_true, decide_false, reduceCtorEq, Bool.false_eq_true, frB, c, beq_eq_false_iff_ne.mpr d] at h; exact h)
/-- one draw over the lines: how many right, the seed -/
def drL (K : Ka) (t s : Nat) : Nat → Nat × Nat
  | 0 => (0, s)
  | k + 1 => let q := drL K t s k
    if frB K t k then
      (if 0 ≤ pa K k then
        (if nI (dv (nxt q.2) 100) < lawI K k then (q.1 + (if pa K k = K.isSo (K.thing k) then 1 else 0), nxt q.2)
        else (q.1 + (if nI (dv (nxt (nxt q.2)) (wN K (K.thing k))) = K.isSo (K.thing k) then 1 else 0), nxt (nxt q.2)))
      else (q.1 + (if nI (dv (nxt q.2) (wN K (K.thing k))) = K.isSo (K.thing k) then 1 else 0), nxt q.2))
    else q
theorem drL_le (K : Ka) (t s : Nat) : ∀ k, (drL K t s k).1 ≤ k
  | 0 => Nat.le_refl _
  | k + 1 => by
    have := drL_le K t s k
    unfold drL
    dsimp only
    repeat' split
    all_goals first | omega | (dsimp only; omega)
def owB (K : Ka) (t k : Nat) : Bool := frB K t k && rt K k
def drD (K : Ka) (t s : Nat) : Nat → Nat × Nat
  | 0 => (0, s)
  | d + 1 => let q := drL K t (drD K t s d).2 K.nK
    ((drD K t s d).1 + (if cnt (owB K t) K.nK ≤ q.1 then 1 else 0), q.2)
def aDraws (K : Ka) (a b c : Int32) : Int32 := match ix a K.nL with | none => -1 | some t => if 0 ≤ b ∧ (1 ≤ c ∧ c ≤ 99) then nI (drD K t b.toNatClampNeg c.toNatClampNeg).1 else -1
theorem p4_draws {M : MS} {K : Ka} {Post : Int32 → MS → Prop} (hO : KO K) (hM : MK M K) {a b c : Int32} (h : ∀ M', MK M' K → Post (aDraws K a b c) M') : w4_draws a b c M Post := by
  have h9T := hO.nT; have h9L := hO.nL; have h9K := hO.nK; have h9P := hO.nP
  intro M1 e1
  replace hM : MK M1 K := by rw [e1]; exact hM.si2
  unfold aDraws at h
  refine p4_isTeller hO hM (fun t e ht ha => br_f (by decide) ?_) (fun e => br_t rfl ?_)
  · rw [e] at h
    subst ha
    dsimp only at h
    refine br_c (fun c1 => ?_) (fun c1 => p4_isIn (bz (fun c2 => ?_) (fun c2 => ?_)))
    · rw [if_neg (fun q => Int32.not_le.mpr c1 q.1)] at h
      exact h _ hM
    · rw [Bool.and_eq_false_iff, decide_eq_false_iff_not, decide_eq_false_iff_not] at c2
      rw [if_neg (fun q => c2.elim (fun c => c q.2.1) (fun c => c q.2.2))] at h
      exact h _ hM
    · rw [Bool.and_eq_true_iff, decide_eq_true_iff, decide_eq_true_iff] at c2
      rw [if_pos ⟨Int32.not_lt.mp c1, c2⟩] at h
      obtain ⟨s, hs, rfl⟩ := nI_of c1
      obtain ⟨d, hd, rfl⟩ := nI_of2 (x := c) (M := 99) (n := 99) (by decide) (Int32.not_lt.mpr (Int32.le_trans (by decide) c2.1)) c2.2
      rw [nI_clamp hs, nI_clamp (by omega)] at h
      have fin : ∀ M2 : MS, MK M2 K → ml M2 65 = lN s → ∃ f, w4_draws_l91 (nI t) (nI s) (nI d) Post f (nI (cnt (owB K t) K.nK)) 0 0 M2 := by
        intro M2 q1 q2
        refine upL (W := fun f i => ∀ M3 : MS, MK M3 K → ml M3 65 = lN (drD K t s i).2 → w4_draws_l91 (nI t) (nI s) (nI d) Post f (nI (cnt (owB K t) K.nK)) (nI (drD K t s i).1) (nI i) M3) (e := d) ?_ ?_ |>.imp (fun f h => h M2 q1 q2)
        · intro n M3 r1 r2
          rw [w4_draws_l91]
          exact br_t (Int32.le_refl _) (h M3 r1)
        · intro n i hi ih M3 r1 r2
          rw [w4_draws_l91]
          refine br_f (nI_ge hi (by omega)) ?_
          refine upL (W := fun f k => ∀ M4 : MS, MK M4 K → ml M4 65 = lN (drL K t (drD K t s i).2 k).2 → w4_draws_l103 (nI t) (nI s) (nI d) (w4_draws_l91 (nI t) (nI s) (nI d) Post n) Post f (nI (cnt (owB K t) K.nK)) (nI (drD K t s i).1) (nI i) (nI (drL K t (drD K t s i).2 k).1) (nI k) M4) (e := K.nK) ?_ ?_ |>.imp (fun f h => h M3 r1 r2)
          · intro n2 M4 s1 s2
            have b1 := drL_le K t (drD K t s i).2 K.nK
            have b2 := cnt_le (owB K t) K.nK
            have ih := ih M4 s1 s2
            rw [w4_draws_l103]
            refine br_t (by rw [s1.nK]; exact Int32.le_refl _) ?_
            simp only [w4_draws_c223, forall_eq, nI_1, Int32.add_zero]
            simp (disch := omega) only [nI_ltI]
            refine br_c (fun g => ?_) (fun g => ?_)
            · simp only [drD, if_neg (Nat.not_le.mpr g), Nat.add_zero] at ih
              exact ih
            · simp only [drD, if_pos (Nat.not_lt.mp g)] at ih
              exact ih
          · intro n2 k hk ih2 M4 s1 s2
            have b1 := drL_le K t (drD K t s i).2 k
            have h9x := hO.thing k hk
            replace hM := s1
            obtain ⟨w, w1, w2, w3, w4⟩ := hO.wN h9x
            rw [w4_draws_l103]
            refine br_f (by rw [s1.nK]; exact nI_ge hk (by omega)) ?_
            have st : ∀ (r : Nat × Nat), drL K t (drD K t s i).2 (k + 1) = r → ∀ M5 : MS, MK M5 K → ml M5 65 = lN r.2 → w4_draws_l103 (nI t) (nI s) (nI d) (w4_draws_l91 (nI t) (nI s) (nI d) Post n) Post n2 (nI (cnt (owB K t) K.nK)) (nI (drD K t s i).1) (nI i) (nI r.1) (nI (k + 1)) M5 := by
              intro r er M5 t1 t2
              rw [← er] at t2 ⊢
              exact ih2 M5 t1 t2
            have c174 : ∀ (v : Int32) (sd : Nat) (M5 : MS), drL K t (drD K t s i).2 (k + 1) = ((drL K t (drD K t s i).2 k).1 + (if v = K.isSo (K.thing k) then 1 else 0), sd) → MK M5 K → ml M5 65 = lN sd → w4_draws_c174 (nI t) (nI s) (nI d) (w4_draws_l91 (nI t) (nI s) (nI d) Post n) (w4_draws_l103 (nI t) (nI s) (nI d) (w4_draws_l91 (nI t) (nI s) (nI d) Post n) Post n2) Post (nI (cnt (owB K t) K.nK)) (nI (drD K t s i).1) (nI i) (nI (drL K t (drD K t s i).2 k).1) (nI k) v M5 := by
              intro v sd M5 er t1 t2
              have st := st _ er M5 t1 t2
              dsimp only at st
              replace hM := t1
              simp only [w4_draws_c174, w4_draws_c200, w4_draws_c203, forall_eq, nI_1]
              simp (disch := omega) only [nI_lt0, nI_clamp, vp_inT, nI_eq, imp_FT, imp_TF, true_and, and_true, mN_0, mN_3, mN_21, mN_22, mN_23, mN_24, mN_25, mN_26, mN_27, mN_28, mN_29, mN_30, mN_31, mN_32, mN_33, mN_34, mN_35, mN_36, mN_37, mN_38, mN_39, mN_40, mN_41, mN_42, mN_43, mN_50, mN_51, mN_60, mN_61, mN_62, mN_63, hM.nT, hM.nL, hM.nK, hM.nP, hM.knots, hM.told, hM.heard, hM.were, hM.truth, hM.isThere, hM.isNot, hM.fed, hM.fKind, hM.fPlace, hM.tName, hM.ways, hM.isSo, hM.paper, hM.police, hM.lName, hM.age, hM.begins, hM.ends, hM.taped, hM.isW, hM.who, hM.hour, hM.thing, hM.value, hM.pWho, hM.pThing, hM.pValue, hM.first, hM.last, hM.knot, hM.kP, hM.kO, hM.byte, Int32.add_zero]
              refine br_c (fun g => ?_) (fun g => ?_)
              · rw [if_pos g] at st; exact st
              · rw [if_neg g] at st; exact st
            have c158 : ∀ (sd : Nat) (M5 : MS), drL K t (drD K t s i).2 (k + 1) = ((drL K t (drD K t s i).2 k).1 + (if nI (dv (nxt sd) w) = K.isSo (K.thing k) then 1 else 0), nxt sd) → MK M5 K → ml M5 65 = lN sd → w4_draws_c158 (nI t) (nI s) (nI d) (w4_draws_l91 (nI t) (nI s) (nI d) Post n) (w4_draws_l103 (nI t) (nI s) (nI d) (w4_draws_l91 (nI t) (nI s) (nI d) Post n) Post n2) Post (nI (cnt (owB K t) K.nK)) (nI (drD K t s i).1) (nI i) (nI (drL K t (drD K t s i).2 k).1) (nI k) M5 := by
              intro sd M5 er t1 t2
              replace hM := t1
              unfold w4_draws_c158
              simp (disch := omega) only [nI_lt0, nI_clamp, vp_inT, nI_eq, imp_FT, imp_TF, true_and, and_true, mN_0, mN_3, mN_21, mN_22, mN_23, mN_24, mN_25, mN_26, mN_27, mN_28, mN_29, mN_30, mN_31, mN_32, mN_33, mN_34, mN_35, mN_36, mN_37, mN_38, mN_39, mN_40, mN_41, mN_42, mN_43, mN_50, mN_51, mN_60, mN_61, mN_62, mN_63, hM.nT, hM.nL, hM.nK, hM.nP, hM.knots, hM.told, hM.heard, hM.were, hM.truth, hM.isThere, hM.isNot, hM.fed, hM.fKind, hM.fPlace, hM.tName, hM.ways, hM.isSo, hM.paper, hM.police, hM.lName, hM.age, hM.begins, hM.ends, hM.taped, hM.isW, hM.who, hM.hour, hM.thing, hM.value, hM.pWho, hM.pThing, hM.pValue, hM.first, hM.last, hM.knot, hM.kP, hM.kO, hM.byte]
              rw [w2]
              exact p4_drawn t1 t2 (by omega) (by omega) (fun M6 u1 u2 => c174 _ _ M6 er u1 u2)
            refine p4_isFirstOf hO s1 hk ht (bz (fun g => ?_) (fun g => p4_putAhead hO s1 hk (br_c (fun j => ?_) (fun j => ?_))))
            · simp only [w4_draws_c203, forall_eq, nI_1]
              exact st _ (by simp only [drL, g, if_false, Bool.false_eq_true]) M4 s1 s2
            · refine c158 _ M4 ?_ s1 s2
              simp only [drL, g, if_true, if_neg (Int32.not_le.mpr j), w1]
            · refine p4_drawn (b := 100) s1 s2 (by decide) (by decide) (fun M5 t1 t2 => p4_lawAt hO t1 hk (fun M6 u1 u2 => br_c (fun l => ?_) (fun l => ?_)))
              · refine c158 _ M6 ?_ u1 (by rw [u2]; exact t2)
                simp only [drL, g, if_true, if_pos (Int32.not_lt.mp j), if_neg (Int32.not_lt.mpr l), w1]
              · refine c174 _ _ M6 ?_ u1 (by rw [u2]; exact t2)
                simp only [drL, g, if_true, if_pos (Int32.not_lt.mp j), if_pos (Int32.not_le.mp l)]
      refine upL (W := fun f i => w4_draws_l35 (nI t) (nI s) (nI d) Post f (nI (cnt (owB K t) i)) (nI i) M1) (e := K.nK) ?_ ?_
      · intro n
        rw [w4_draws_l35]
        refine br_t (by rw [hM.nK]; exact Int32.le_refl _) (fun M9 e9 => fin M9 (by rw [e9]; exact hM) ?_)
        rw [e9, ml_sl, if_pos rfl, nI_l hs]
      · intro n i hi ih
        rw [w4_draws_l35]
        refine br_f (by rw [hM.nK]; exact nI_ge hi (by omega)) ?_
        simp only [w4_draws_c69, w4_draws_c70, forall_eq, nI_1, Int32.add_zero]
        refine p4_isFirstOf hO hM hi ht (bz (fun g => ?_) (fun g => p4_isRight hO hM hi (bz (fun j => ?_) (fun j => ?_))))
        · (simp only [Bool.false_and, Bool.true_and, Bool.and_false, Bool.and_true, Bool.false_or, Bool.true_or, Bool.or_false, Bool.or_true, Bool.not_true, Bool.not_false, bI_t, bI_f, if_true, if_false, beq_self_eq_true, decide_true, decide_false, reduceCtorEq, Bool.false_eq_true, cnt, owB, g] at ih; exact ih)
        · (simp only [Bool.false_and, Bool.true_and, Bool.and_false, Bool.and_true, Bool.false_or, Bool.true_or, Bool.or_false, Bool.or_true, Bool.not_true, Bool.not_false, bI_t, bI_f, if_true, if_false, beq_self_eq_true, decide_true, decide_false, reduceCtorEq, Bool.false_eq_true, cnt, owB, g, j] at ih; exact ih)
        · (simp only [Bool.false_and, Bool.true_and, Bool.and_false, Bool.and_true, Bool.false_or, Bool.true_or, Bool.or_false, Bool.or_true, Bool.not_true, Bool.not_false, bI_t, bI_f, if_true, if_false, beq_self_eq_true, decide_true, decide_false, reduceCtorEq, Bool.false_eq_true, cnt, owB, g, j] at ih; exact ih)
  · rw [e] at h
    exact h _ hM
