/-! odds: raw products of whole numbers; the fields hold them in least terms -/
theorem p4_common {a b : Nat} {Post : Int64 → Prop} (ha : a < 2 ^ 63) (hb : b < 2 ^ 63) (h : Post (lN (Nat.gcd a b))) : w4_common (lN a) (lN b) Post := by
  have key : ∀ (d x y : Nat), y < d → x < 2 ^ 63 → y < 2 ^ 63 → Nat.gcd x y = Nat.gcd a b → ∃ f, w4_common_l6 (lN a) (lN b) Post f (lN x) (lN y) := by
    intro d
    induction d with
    | zero => intro x y h; omega
    | succ d ih =>
      intro x y hd hx hy hg
      by_cases c : y = 0
      · refine ⟨1, ?_⟩
        rw [w4_common_l6]
        subst c
        rw [Nat.gcd_zero_right] at hg
        rw [hg]
        exact br_t rfl h
      · have h1 : x % y < y := Nat.mod_lt _ (by omega)
        obtain ⟨f, hf⟩ := ih y (x % y) (by omega) hy (by omega) (by rw [← hg, Nat.gcd_comm x y, Nat.gcd_rec y x, Nat.gcd_comm])
        have h2 : ¬ lN y = 0 := fun q => c ((lN_inj hy (by decide)).mp (q.trans lN_0.symm))
        refine ⟨f + 1, ?_⟩
        rw [w4_common_l6]
        refine br_f h2 ⟨h2, fun v hv => ?_⟩
        rw [hv, lN_mod hx hy]
        exact hf
  exact key (b + 1) a b (by omega) ha hb rfl
/-- the fields hold P : Q in least terms -/
def OD (M : MS) (p : Nat × Nat) : Prop := ml M 58 = lN (p.1 / Nat.gcd p.1 p.2) ∧ ml M 59 = lN (p.2 / Nat.gcd p.1 p.2)
def mulP (p q : Nat × Nat) : Nat × Nat := (p.1 * q.1, p.2 * q.2)
/-- what was in least terms, multiplied and in least terms again, is the raw product in least terms -/
theorem lst_mul {P Q a b : Nat} (hP : 0 < P) : P / Nat.gcd P Q * a / Nat.gcd (P / Nat.gcd P Q * a) (Q / Nat.gcd P Q * b) = P * a / Nat.gcd (P * a) (Q * b) ∧ Q / Nat.gcd P Q * b / Nat.gcd (P / Nat.gcd P Q * a) (Q / Nat.gcd P Q * b) = Q * b / Nat.gcd (P * a) (Q * b) := by
  have hg : 0 < Nat.gcd P Q := Nat.gcd_pos_of_pos_left _ hP
  obtain ⟨u, hu⟩ := Nat.gcd_dvd_left P Q
  obtain ⟨v, hv⟩ := Nat.gcd_dvd_right P Q
  generalize Nat.gcd P Q = g at *
  have e1 : P / g = u := by rw [hu]; exact Nat.mul_div_cancel_left _ hg
  have e2 : Q / g = v := by rw [hv]; exact Nat.mul_div_cancel_left _ hg
  rw [e1, e2, hu, hv, Nat.mul_assoc, Nat.mul_assoc, Nat.gcd_mul_left, Nat.mul_div_mul_left _ _ hg, Nat.mul_div_mul_left _ _ hg]
  exact ⟨rfl, rfl⟩
theorem p4_least {M : MS} {K : Ka} {Post : MS → Prop} {P Q : Nat} (hM : MK M K) (hP : 0 < P) (hP2 : P < 2 ^ 63) (hQ2 : Q < 2 ^ 63) (h1 : ml M 58 = lN P) (h2 : ml M 59 = lN Q) (h : ∀ M', MK M' K → ml M' 58 = lN (P / Nat.gcd P Q) → ml M' 59 = lN (Q / Nat.gcd P Q) → Post M') : w4_least M Post := by
  unfold w4_least
  rw [h1, h2]
  have hg : 0 < Nat.gcd P Q := Nat.gcd_pos_of_pos_left _ hP
  have hg2 : Nat.gcd P Q ≤ P := Nat.gcd_le_left _ hP
  have h3 : ¬ lN (Nat.gcd P Q) = 0 := fun q => by
    have := (lN_inj (a := Nat.gcd P Q) (b := 0) (by omega) (by decide)).mp (q.trans lN_0.symm)
    omega
  refine p4_common hP2 hQ2 ⟨h3, fun M2 e2 => ⟨h3, fun M3 e3 => ?_⟩⟩
  have e4 : ml M2 59 = lN Q := by rw [e2, ml_sl, if_neg (by decide)]; exact h2
  rw [e4, lN_div hQ2 (by omega)] at e3
  rw [lN_div hP2 (by omega)] at e2
  refine h M3 (by rw [e3, e2]; exact hM) ?_ ?_
  · rw [e3, ml_sl, if_neg (by decide), e2, ml_sl, if_pos rfl]
  · rw [e3, ml_sl, if_pos rfl]
def trN (K : Ka) : Nat := K.truth.toNatClampNeg
theorem KO.trE {K : Ka} (h : KO K) : ∃ j : Nat, trN K = j ∧ K.truth = nI j ∧ 1 ≤ j ∧ j ≤ 9 := by
  obtain ⟨j, hj, e⟩ := nI_of2 (x := K.truth) (M := 9) (n := 9) (by decide) (Int32.not_lt.mpr (Int32.le_trans (by decide) h.truth.1)) h.truth.2
  have h1 := h.truth.1
  rw [e, show (1 : Int32) = nI 1 from rfl, nI_leI (by decide) (by omega)] at h1
  exact ⟨j, by show K.truth.toNatClampNeg = j; rw [e, nI_clamp (by omega)], e, h1, hj⟩
/-- a word's factors -/
def oF (K : Ka) (x : Nat) (r : Bool) : Nat × Nat := if r then (trN K * wN K x, 10) else ((10 - trN K) * wN K x, 10 * (wN K x - 1))
theorem oF_le {K : Ka} (hO : KO K) {x : Nat} (hx : x < K.nT) (r : Bool) : (0 < (oF K x r).1 ∧ (oF K x r).1 ≤ 81) ∧ (0 < (oF K x r).2 ∧ (oF K x r).2 ≤ 81) := by
  obtain ⟨w, w1, w2, w3, w4⟩ := hO.wN hx
  obtain ⟨j, j1, j2, j3, j4⟩ := hO.trE
  have m1 : j * w ≤ 9 * 9 := Nat.mul_le_mul j4 w4
  have m2 : (10 - j) * w ≤ 9 * 9 := Nat.mul_le_mul (by omega) w4
  have m3 : 0 < j * w := Nat.mul_pos (by omega) (by omega)
  have m4 : 0 < (10 - j) * w := Nat.mul_pos (by omega) (by omega)
  unfold oF
  rw [w1, j1]
  cases r <;> simp <;> omega
/-- raw products stay small: at most 99 * 81 ^ n -/
def oOK (p : Nat × Nat) (n : Nat) : Prop := (0 < p.1 ∧ p.1 ≤ 99 * 81 ^ n) ∧ (0 < p.2 ∧ p.2 ≤ 99 * 81 ^ n)
theorem oOK.mul {p q : Nat × Nat} {n : Nat} (h : oOK p n) (h1 : (0 < q.1 ∧ q.1 ≤ 81) ∧ (0 < q.2 ∧ q.2 ≤ 81)) : oOK (mulP p q) (n + 1) := by
  obtain ⟨⟨a1, a2⟩, a3, a4⟩ := h
  obtain ⟨⟨b1, b2⟩, b3, b4⟩ := h1
  have e : 99 * 81 ^ (n + 1) = 99 * 81 ^ n * 81 := by rw [Nat.pow_succ, Nat.mul_assoc]
  unfold oOK mulP
  rw [e]
  exact ⟨⟨Nat.mul_pos a1 b1, Nat.mul_le_mul a2 b2⟩, Nat.mul_pos a3 b3, Nat.mul_le_mul a4 b4⟩
theorem oOK.lt {p : Nat × Nat} {n : Nat} (h : oOK p n) (hn : n ≤ 8) : p.1 < 2 ^ 63 ∧ p.2 < 2 ^ 63 := by
  obtain ⟨⟨a1, a2⟩, a3, a4⟩ := h
  have e : 99 * 81 ^ n ≤ 99 * 81 ^ 8 := Nat.mul_le_mul_left _ (Nat.pow_le_pow_right (by decide) hn)
  have e2 : 99 * 81 ^ 8 < 2 ^ 63 := by decide
  omega
theorem p4_weighs {M : MS} {K : Ka} {Post : MS → Prop} {x n : Nat} {r : Bool} {p : Nat × Nat} (hO : KO K) (hM : MK M K) (hx : x < K.nT) (hp : OD M p) (hq : oOK p n) (hn : n < 8) (h : ∀ M', MK M' K → OD M' (mulP p (oF K x r)) → Post M') : w4_weighs (nI x) (bI r) M Post := by
  have h9T := hO.nT; have h9L := hO.nL; have h9K := hO.nK; have h9P := hO.nP
  obtain ⟨w, w1, w2, w3, w4⟩ := hO.wN hx
  obtain ⟨j, j1, j2, j3, j4⟩ := hO.trE
  have hF := oF_le hO hx r
  have hm := hq.mul hF
  obtain ⟨l1, l2⟩ := hm.lt (by omega)
  obtain ⟨o1, o2⟩ := hp
  have g1 : 0 < Nat.gcd p.1 p.2 := Nat.gcd_pos_of_pos_left _ hq.1.1
  have q1 : p.1 / Nat.gcd p.1 p.2 ≤ p.1 := Nat.div_le_self _ _
  have q2 : p.2 / Nat.gcd p.1 p.2 ≤ p.2 := Nat.div_le_self _ _
  have q3 : 0 < p.1 / Nat.gcd p.1 p.2 := Nat.div_pos (Nat.gcd_le_left _ hq.1.1) g1
  have fin : ∀ M1 : MS, MK M1 K → ml M1 58 = lN (p.1 / Nat.gcd p.1 p.2 * (oF K x r).1) → ml M1 59 = lN (p.2 / Nat.gcd p.1 p.2 * (oF K x r).2) → w4_weighs_c86 (nI x) (bI r) Post M1 := by
    intro M1 m1 m2 m3
    have k1 : p.1 / Nat.gcd p.1 p.2 * (oF K x r).1 ≤ p.1 * (oF K x r).1 := Nat.mul_le_mul_right _ q1
    have k2 : p.2 / Nat.gcd p.1 p.2 * (oF K x r).2 ≤ p.2 * (oF K x r).2 := Nat.mul_le_mul_right _ q2
    refine p4_least m1 (Nat.mul_pos q3 hF.1.1) (Nat.lt_of_le_of_lt k1 l1) (Nat.lt_of_le_of_lt k2 l2) m2 m3 (fun M' n1 n2 n3 => h M' n1 ⟨?_, ?_⟩)
    · rw [n2, (lst_mul hq.1.1).1]; rfl
    · rw [n3, (lst_mul hq.1.1).2]; rfl
  unfold w4_weighs
  rw [hM.truth, j2, show (10 : Int32) = nI 10 from rfl, show (10 : Int64) = lN 10 from rfl, show (1 : Int32) = nI 1 from rfl, nI_sub (by omega)]
  refine bz (fun c => ?_) (fun c => ?_)
  · simp (disch := omega) only [nI_lt0, nI_clamp, vp_inT, nI_eq, imp_FT, imp_TF, true_and, and_true, mN_0, mN_3, mN_21, mN_22, mN_23, mN_24, mN_25, mN_26, mN_27, mN_28, mN_29, mN_30, mN_31, mN_32, mN_33, mN_34, mN_35, mN_36, mN_37, mN_38, mN_39, mN_40, mN_41, mN_42, mN_43, mN_50, mN_51, mN_60, mN_61, mN_62, mN_63, hM.nT, hM.nL, hM.nK, hM.nP, hM.knots, hM.told, hM.heard, hM.were, hM.truth, hM.isThere, hM.isNot, hM.fed, hM.fKind, hM.fPlace, hM.tName, hM.ways, hM.isSo, hM.paper, hM.police, hM.lName, hM.age, hM.begins, hM.ends, hM.taped, hM.isW, hM.who, hM.hour, hM.thing, hM.value, hM.pWho, hM.pThing, hM.pValue, hM.first, hM.last, hM.knot, hM.kP, hM.kO, hM.byte, forall_eq, ma_sl, w2]
    refine fin _ hM ?_ ?_
    · rw [ml_sl, if_neg (by decide), ml_sl, if_pos rfl, o1, nI_mul, nI_l (Nat.lt_of_le_of_lt (Nat.mul_le_mul (show 10 - j ≤ 9 by omega) w4) (by decide)), lN_mul, oF, c, j1, w1]
      rfl
    · rw [ml_sl, if_pos rfl, ml_sl, if_neg (by decide), o2, nI_sub (by omega), nI_l (by omega), lN_mul, lN_mul, oF, c, j1, w1]
      rfl
  · simp (disch := omega) only [nI_lt0, nI_clamp, vp_inT, nI_eq, imp_FT, imp_TF, true_and, and_true, mN_0, mN_3, mN_21, mN_22, mN_23, mN_24, mN_25, mN_26, mN_27, mN_28, mN_29, mN_30, mN_31, mN_32, mN_33, mN_34, mN_35, mN_36, mN_37, mN_38, mN_39, mN_40, mN_41, mN_42, mN_43, mN_50, mN_51, mN_60, mN_61, mN_62, mN_63, hM.nT, hM.nL, hM.nK, hM.nP, hM.knots, hM.told, hM.heard, hM.were, hM.truth, hM.isThere, hM.isNot, hM.fed, hM.fKind, hM.fPlace, hM.tName, hM.ways, hM.isSo, hM.paper, hM.police, hM.lName, hM.age, hM.begins, hM.ends, hM.taped, hM.isW, hM.who, hM.hour, hM.thing, hM.value, hM.pWho, hM.pThing, hM.pValue, hM.first, hM.last, hM.knot, hM.kP, hM.kO, hM.byte, forall_eq, ma_sl, w2]
    refine fin _ hM ?_ ?_
    · rw [ml_sl, if_neg (by decide), ml_sl, if_pos rfl, o1, nI_mul, nI_l (Nat.lt_of_le_of_lt (Nat.mul_le_mul j4 w4) (by decide)), lN_mul, oF, c, j1, w1]
      rfl
    · rw [ml_sl, if_pos rfl, ml_sl, if_neg (by decide), o2, lN_mul, oF, c]
      rfl
/-- as many as are first of their things: at most so many as things -/
theorem cnt_upd {p q : Nat → Bool} {x0 : Nat} : ∀ {N : Nat}, x0 < N → (∀ x, x < N → x ≠ x0 → q x = p x) → p x0 = false → q x0 = true → cnt q N = cnt p N + 1
  | 0, h, _, _, _ => absurd h (Nat.not_lt_zero _)
  | N + 1, h, h1, h2, h3 => by
    unfold cnt
    by_cases e : x0 = N
    · subst e
      have e1 : ∀ {n : Nat}, n ≤ x0 → cnt q n = cnt p n := by
        intro n
        induction n with
        | zero => intro _; rfl
        | succ n ih => intro hn; unfold cnt; rw [ih (by omega), h1 n (by omega) (by omega)]
      rw [e1 (Nat.le_refl _), h2, h3]
      rfl
    · rw [cnt_upd (show x0 < N by omega) (fun x hx => h1 x (by omega)) h2 h3, h1 N (by omega) (fun q => e q.symm)]
      omega
theorem cnt_congr {p q : Nat → Bool} : ∀ {n : Nat}, (∀ i, i < n → p i = q i) → cnt p n = cnt q n
  | 0, _ => rfl
  | n + 1, h => by
    unfold cnt
    rw [cnt_congr (fun i hi => h i (by omega)), h n (by omega)]
/-- as many k as x: where each x has at most one k -/
theorem cnt_swap {p : Nat → Bool} {f : Nat → Nat} {N : Nat} : ∀ {n : Nat}, (∀ k, k < n → p k = true → f k < N) → (∀ i k, i < k → k < n → p i = true → p k = true → f i ≠ f k) → cnt p n = cnt (fun x => anyB (fun k => p k && f k == x) n) N
  | 0, _, _ => by
    have : ∀ n, cnt (fun x => anyB (fun k => p k && f k == x) 0) n = 0 := by
      intro n
      induction n with
      | zero => rfl
      | succ n ih => unfold cnt; rw [ih]; rfl
    rw [this]
    rfl
  | n + 1, h1, h2 => by
    have ih := cnt_swap (p := p) (f := f) (N := N) (n := n) (fun k hk => h1 k (by omega)) (fun i k hi hk => h2 i k hi (by omega))
    cases e : p n with
    | false =>
      show cnt p n + (if p n = true then 1 else 0) = cnt (fun x => anyB (fun k => p k && f k == x) n || (p n && f n == x)) N
      rw [e, ih]
      simp only [Bool.false_and, Bool.or_false, Nat.add_zero, if_false, Bool.false_eq_true]
    | true =>
      have e1 : cnt (fun x => anyB (fun k => p k && f k == x) (n + 1)) N = cnt (fun x => anyB (fun k => p k && f k == x) n) N + 1 := by
        refine cnt_upd (x0 := f n) (h1 n (by omega) e) (fun x _ hx => ?_) ?_ ?_
        · show (anyB (fun k => p k && f k == x) n || (p n && f n == x)) = _
          rw [beq_eq_false_iff_ne.mpr (fun q => hx q.symm), Bool.and_false, Bool.or_false]
        · refine anyB_of (fun i hi => ?_)
          cases e2 : p i with
          | false => rfl
          | true =>
            rw [Bool.true_and, beq_eq_false_iff_ne]
            exact h2 i n hi (by omega) e2 e
        · exact anyB_t n (by omega) (by simp only [e, beq_self_eq_true, Bool.and_true])
      rw [e1, ← ih]
      show cnt p n + (if p n = true then 1 else 0) = _
      rw [e, if_pos rfl]
theorem cnt_first {p : Nat → Bool} {f : Nat → Nat} {N n : Nat} (h1 : ∀ k, k < n → p k = true → f k < N) (h2 : ∀ i k, i < k → k < n → p i = true → p k = true → f i ≠ f k) : cnt p n ≤ N := by
  rw [cnt_swap h1 h2]
  exact cnt_le _ _
theorem cnt_mono {p : Nat → Bool} : ∀ {m n : Nat}, m ≤ n → cnt p m ≤ cnt p n
  | m, 0, h => by rw [Nat.le_zero.mp h]; exact Nat.le_refl _
  | m, n + 1, h => by
    by_cases e : m = n + 1
    · rw [e]; exact Nat.le_refl _
    · have := cnt_mono (p := p) (show m ≤ n by omega)
      show cnt p m ≤ cnt p n + _
      omega
def oB (K : Ka) (t : Nat) (b : Int32) (k : Nat) : Bool := hw K k && (K.who k == t && ((fs K k && (!decide (0 ≤ lb K k) && !isPub K k)) && (decide (b = 1) || !isOf K k)))
def oL (K : Ka) (t : Nat) (b : Int32) : Nat → Nat × Nat
  | 0 => (K.isThere.toNatClampNeg, K.isNot.toNatClampNeg)
  | k + 1 => if oB K t b k then mulP (oL K t b k) (oF K (K.thing k) (rt K k)) else oL K t b k
def oP (K : Ka) (t : Nat) : Nat → Nat × Nat
  | 0 => (K.isThere.toNatClampNeg, K.isNot.toNatClampNeg)
  | k + 1 => if pgF K t k then mulP (oP K t k) (oF K (K.pThing k) (decide (K.pValue k = K.isSo (K.pThing k)))) else oP K t k
def oR (K : Ka) (t : Nat) (b : Int32) : Nat × Nat := if b = 2 then oP K t K.nP else oL K t b K.nK
def aOdds (K : Ka) (a b c : Int32) : Int64 := match ix a K.nL with | none => -1 | some t => if (0 ≤ b ∧ b ≤ 2) ∧ (0 ≤ c ∧ c ≤ 1) then (if c = 0 then lN ((oR K t b).1 / Nat.gcd (oR K t b).1 (oR K t b).2) else lN ((oR K t b).2 / Nat.gcd (oR K t b).1 (oR K t b).2)) else -1
theorem KO.base {K : Ka} (h : KO K) : ∃ a b : Nat, K.isThere = nI a ∧ K.isNot = nI b ∧ (1 ≤ a ∧ a ≤ 99) ∧ (1 ≤ b ∧ b ≤ 99) := by
  obtain ⟨a, ha, e⟩ := nI_of2 (x := K.isThere) (M := 99) (n := 99) (by decide) (Int32.not_lt.mpr (Int32.le_trans (by decide) h.isThere.1)) h.isThere.2
  obtain ⟨b, hb, e2⟩ := nI_of2 (x := K.isNot) (M := 99) (n := 99) (by decide) (Int32.not_lt.mpr (Int32.le_trans (by decide) h.isNot.1)) h.isNot.2
  have h1 := h.isThere.1
  have h2 := h.isNot.1
  rw [e, show (1 : Int32) = nI 1 from rfl, nI_leI (by decide) (by omega)] at h1
  rw [e2, show (1 : Int32) = nI 1 from rfl, nI_leI (by decide) (by omega)] at h2
  exact ⟨a, b, e, e2, ⟨h1, ha⟩, h2, hb⟩
theorem oB_thing {K : Ka} {t : Nat} {b : Int32} {i k : Nat} (h : i < k) (h1 : oB K t b i = true) (h2 : oB K t b k = true) : K.thing i ≠ K.thing k := by
  intro e
  simp only [oB, hw, fs, Bool.and_eq_true, beq_iff_eq, Bool.not_eq_true'] at h1 h2
  have := anyB_f h2.2.2.1.1 i h
  simp only [sy, hw, h1.1.1, h1.1.2, h1.2.1, h2.2.1, e, Bool.and_true, beq_self_eq_true, Bool.true_eq_false] at this
theorem oB_cnt {K : Ka} (hO : KO K) (t : Nat) (b : Int32) : cnt (oB K t b) K.nK ≤ 8 :=
  Nat.le_trans (cnt_first (f := K.thing) (fun k hk _ => hO.thing k hk) (fun _ _ h _ h1 h2 => oB_thing h h1 h2)) hO.nT
theorem pgF_thing {K : Ka} {t i k : Nat} (h : i < k) (h1 : pgF K t i = true) (h2 : pgF K t k = true) : K.pThing i ≠ K.pThing k := by
  intro e
  simp only [pgF, fpg, Bool.and_eq_true, beq_iff_eq, Bool.not_eq_true'] at h1 h2
  have := anyB_f h2.2 i h
  simp only [f1B, h1.1, h2.1, e, Bool.and_true, beq_self_eq_true, Bool.true_eq_false] at this
theorem pgF_cnt {K : Ka} (hO : KO K) (t : Nat) : cnt (pgF K t) K.nP ≤ 8 :=
  Nat.le_trans (cnt_first (f := K.pThing) (fun k hk _ => hO.pThing k hk) (fun _ _ h _ h1 h2 => pgF_thing h h1 h2)) hO.nT
theorem oL_OK {K : Ka} (hO : KO K) (t : Nat) (b : Int32) : ∀ k, k ≤ K.nK → oOK (oL K t b k) (cnt (oB K t b) k)
  | 0, _ => by
    obtain ⟨x, y, e1, e2, e3, e4⟩ := hO.base
    unfold oL oOK
    rw [e1, e2, nI_clamp (by omega), nI_clamp (by omega)]
    simp only [cnt, Nat.pow_zero, Nat.mul_one]
    omega
  | k + 1, hk => by
    have ih := oL_OK hO t b k (by omega)
    unfold oL cnt
    cases e : oB K t b k with
    | false => exact ih
    | true => exact ih.mul (oF_le hO (hO.thing k (by omega)) _)
theorem oP_OK {K : Ka} (hO : KO K) (t : Nat) : ∀ k, k ≤ K.nP → oOK (oP K t k) (cnt (pgF K t) k)
  | 0, _ => by
    obtain ⟨x, y, e1, e2, e3, e4⟩ := hO.base
    unfold oP oOK
    rw [e1, e2, nI_clamp (by omega), nI_clamp (by omega)]
    simp only [cnt, Nat.pow_zero, Nat.mul_one]
    omega
  | k + 1, hk => by
    have ih := oP_OK hO t k (by omega)
    unfold oP cnt
    cases e : pgF K t k with
    | false => exact ih
    | true => exact ih.mul (oF_le hO (hO.pThing k (by omega)) _)
theorem p4_odds {M : MS} {K : Ka} {Post : Int64 → MS → Prop} (hO : KO K) (hM : MK M K) {a b c : Int32} (h : ∀ M', MK M' K → Post (aOdds K a b c) M') : w4_odds a b c M Post := by
  have h9T := hO.nT; have h9L := hO.nL; have h9K := hO.nK; have h9P := hO.nP
  intro M1 e1
  replace hM : MK M1 K := by rw [e1]; exact hM.si2
  unfold aOdds at h
  refine p4_isTeller hO hM (fun t e ht ha => br_f (by decide) ?_) (fun e => br_t rfl ?_)
  · rw [e] at h
    subst ha
    dsimp only at h
    refine p4_isIn (bz (fun c1 => ?_) (fun c1 => p4_isIn (bz (fun c2 => ?_) (fun c2 => ?_))))
    · rw [Bool.and_eq_false_iff, decide_eq_false_iff_not, decide_eq_false_iff_not] at c1
      rw [if_neg (fun q => c1.elim (fun c => c q.1.1) (fun c => c q.1.2))] at h
      exact h _ hM
    · rw [Bool.and_eq_false_iff, decide_eq_false_iff_not, decide_eq_false_iff_not] at c2
      rw [if_neg (fun q => c2.elim (fun c => c q.2.1) (fun c => c q.2.2))] at h
      exact h _ hM
    · rw [Bool.and_eq_true_iff, decide_eq_true_iff, decide_eq_true_iff] at c1 c2
      rw [if_pos ⟨c1, c2⟩] at h
      obtain ⟨x, y, b1, b2, b3, b4⟩ := hO.base
      have k229 : ∀ M2 : MS, MK M2 K → OD M2 (oR K t b) → w4_odds_c229 (nI t) b c Post M2 := by
        intro M2 m1 m2
        have h := h M2 m1
        unfold w4_odds_c229
        rw [m2.1, m2.2]
        refine br_c (fun g => ?_) (fun g => ?_)
        · rw [if_pos g] at h; exact h
        · rw [if_neg g] at h; exact h
      intro M9 e9 M10 e10
      have e11 : mi M9 49 = K.isNot := by rw [e9]; exact hM.isNot
      rw [e11, b2, nI_l (by omega)] at e10
      rw [hM.isThere, b1, nI_l (by omega)] at e9
      refine p4_least (K := K) (P := x) (Q := y) (by rw [e10, e9]; exact hM) (by omega) (by omega) (by omega) (by rw [e10, ml_sl, if_neg (by decide), e9, ml_sl, if_pos rfl]) (by rw [e10, ml_sl, if_pos rfl]) (fun M11 m1 m2 m3 => ?_)
      have m0 : OD M11 (x, y) := ⟨m2, m3⟩
      refine br_c (fun g => ?_) (fun g => ?_)
      · refine upL (W := fun f i => ∀ M2 : MS, MK M2 K → OD M2 (oP K t i) → w4_odds_l65 (nI t) b c Post f (nI i) M2) (e := K.nP) ?_ ?_ |>.imp (fun f h => h M11 m1 (by unfold oP; rw [b1, b2, nI_clamp (by omega), nI_clamp (by omega)]; exact m0))
        · intro n M2 p1 p2
          rw [w4_odds_l65]
          exact br_t (by rw [p1.nP]; exact Int32.le_refl _) (k229 M2 p1 (by unfold oR; rw [if_pos g]; exact p2))
        · intro n i hi ih M2 p1 p2
          replace hM := p1
          rw [w4_odds_l65]
          have h9w := hO.pWho i hi; have h9t := hO.pThing i hi
          refine br_f (by rw [p1.nP]; exact nI_ge hi (by omega)) ?_
          simp only [w4_odds_c132, w4_odds_c129, forall_eq, nI_1]
          simp (disch := omega) only [nI_lt0, nI_clamp, vp_inT, nI_eq, imp_FT, imp_TF, true_and, and_true, mN_0, mN_3, mN_21, mN_22, mN_23, mN_24, mN_25, mN_26, mN_27, mN_28, mN_29, mN_30, mN_31, mN_32, mN_33, mN_34, mN_35, mN_36, mN_37, mN_38, mN_39, mN_40, mN_41, mN_42, mN_43, mN_50, mN_51, mN_60, mN_61, mN_62, mN_63, hM.nT, hM.nL, hM.nK, hM.nP, hM.knots, hM.told, hM.heard, hM.were, hM.truth, hM.isThere, hM.isNot, hM.fed, hM.fKind, hM.fPlace, hM.tName, hM.ways, hM.isSo, hM.paper, hM.police, hM.lName, hM.age, hM.begins, hM.ends, hM.taped, hM.isW, hM.who, hM.hour, hM.thing, hM.value, hM.pWho, hM.pThing, hM.pValue, hM.first, hM.last, hM.knot, hM.kP, hM.kO, hM.byte]
          have hc := pgF_cnt hO t
          have hcm : cnt (pgF K t) (i + 1) ≤ cnt (pgF K t) K.nP := cnt_mono (by omega)
          refine br_c (fun d => p4_isFirstLine hO p1 hi (bz (fun l => ?_) (fun l => ?_))) (fun d => ?_)
          · exact ih M2 p1 (by simp only [oP, pgF, d, l, Bool.and_false, if_false, Bool.false_eq_true]; exact p2)
          · have hf : pgF K t i = true := by simp only [pgF, d, l, beq_self_eq_true, Bool.and_true]
            have hcs : cnt (pgF K t) (i + 1) = cnt (pgF K t) i + 1 := by show cnt (pgF K t) i + (if pgF K t i = true then 1 else 0) = _; rw [hf, if_pos rfl]
            simp (disch := omega) only [nI_lt0, nI_clamp, vp_inT, nI_eq, imp_FT, imp_TF, true_and, and_true, mN_0, mN_3, mN_21, mN_22, mN_23, mN_24, mN_25, mN_26, mN_27, mN_28, mN_29, mN_30, mN_31, mN_32, mN_33, mN_34, mN_35, mN_36, mN_37, mN_38, mN_39, mN_40, mN_41, mN_42, mN_43, mN_50, mN_51, mN_60, mN_61, mN_62, mN_63, hM.nT, hM.nL, hM.nK, hM.nP, hM.knots, hM.told, hM.heard, hM.were, hM.truth, hM.isThere, hM.isNot, hM.fed, hM.fKind, hM.fPlace, hM.tName, hM.ways, hM.isSo, hM.paper, hM.police, hM.lName, hM.age, hM.begins, hM.ends, hM.taped, hM.isW, hM.who, hM.hour, hM.thing, hM.value, hM.pWho, hM.pThing, hM.pValue, hM.first, hM.last, hM.knot, hM.kP, hM.kO, hM.byte]
            have st : ∀ r : Bool, decide (K.pValue i = K.isSo (K.pThing i)) = r → w4_weighs (nI (K.pThing i)) (bI r) M2 (fun M_35 => w4_odds_l65 (nI t) b c Post n (nI (i + 1)) M_35) := by
              intro r hr
              refine p4_weighs (n := cnt (pgF K t) i) hO p1 h9t p2 (oP_OK hO t i (by omega)) (by omega) (fun M' n1 n2 => ih M' n1 ?_)
              simp only [oP, hf, if_true, hr]
              exact n2
            refine br_c (fun q => ?_) (fun q => ?_)
            · exact st true (decide_eq_true q)
            · exact st false (decide_eq_false q)
          · exact ih M2 p1 (by simp only [oP, pgF, beq_eq_false_iff_ne.mpr d, Bool.false_and, if_false, Bool.false_eq_true]; exact p2)
      · refine upL (W := fun f i => ∀ M2 : MS, MK M2 K → OD M2 (oL K t b i) → w4_odds_l144 (nI t) b c Post f (nI i) M2) (e := K.nK) ?_ ?_ |>.imp (fun f h => h M11 m1 (by unfold oL; rw [b1, b2, nI_clamp (by omega), nI_clamp (by omega)]; exact m0))
        · intro n M2 p1 p2
          rw [w4_odds_l144]
          exact br_t (by rw [p1.nK]; exact Int32.le_refl _) (k229 M2 p1 (by unfold oR; rw [if_neg g]; exact p2))
        · intro n i hi ih M2 p1 p2
          replace hM := p1
          rw [w4_odds_l144]
          have h9w := hO.who i hi; have h9t := hO.thing i hi
          refine br_f (by rw [p1.nK]; exact nI_ge hi (by omega)) ?_
          have hc := oB_cnt hO t b
          have hcm : cnt (oB K t b) (i + 1) ≤ cnt (oB K t b) K.nK := cnt_mono (by omega)
          have no : oB K t b i = false → w4_odds_c223 (nI t) b c (w4_odds_l144 (nI t) b c Post n) Post (nI i) M2 := by
            intro z
            unfold w4_odds_c223
            simp only [forall_eq, nI_1]
            exact ih M2 p1 (by simp only [oL, z, if_false, Bool.false_eq_true]; exact p2)
          have yes : oB K t b i = true → w4_odds_c206 (nI t) b c (w4_odds_l144 (nI t) b c Post n) Post (nI i) M2 := by
            intro z
            have hcs : cnt (oB K t b) (i + 1) = cnt (oB K t b) i + 1 := by show cnt (oB K t b) i + (if oB K t b i = true then 1 else 0) = _; rw [z, if_pos rfl]
            unfold w4_odds_c206
            simp (disch := omega) only [nI_lt0, nI_clamp, vp_inT, nI_eq, imp_FT, imp_TF, true_and, and_true, mN_0, mN_3, mN_21, mN_22, mN_23, mN_24, mN_25, mN_26, mN_27, mN_28, mN_29, mN_30, mN_31, mN_32, mN_33, mN_34, mN_35, mN_36, mN_37, mN_38, mN_39, mN_40, mN_41, mN_42, mN_43, mN_50, mN_51, mN_60, mN_61, mN_62, mN_63, hM.nT, hM.nL, hM.nK, hM.nP, hM.knots, hM.told, hM.heard, hM.were, hM.truth, hM.isThere, hM.isNot, hM.fed, hM.fKind, hM.fPlace, hM.tName, hM.ways, hM.isSo, hM.paper, hM.police, hM.lName, hM.age, hM.begins, hM.ends, hM.taped, hM.isW, hM.who, hM.hour, hM.thing, hM.value, hM.pWho, hM.pThing, hM.pValue, hM.first, hM.last, hM.knot, hM.kP, hM.kO, hM.byte]
            refine p4_isRight hO p1 hi (p4_weighs (n := cnt (oB K t b) i) hO p1 h9t p2 (oL_OK hO t b i (by omega)) (by omega) (fun M' n1 n2 => ?_))
            unfold w4_odds_c223
            simp only [forall_eq, nI_1]
            refine ih M' n1 ?_
            simp only [oL, z, if_true]
            exact n2
          refine p4_isHeardWord hO p1 hi (bz (fun d => no ?_) (fun d => ?_))
          · simp only [oB, d, Bool.false_and]
          · simp (disch := omega) only [nI_lt0, nI_clamp, vp_inT, nI_eq, imp_FT, imp_TF, true_and, and_true, mN_0, mN_3, mN_21, mN_22, mN_23, mN_24, mN_25, mN_26, mN_27, mN_28, mN_29, mN_30, mN_31, mN_32, mN_33, mN_34, mN_35, mN_36, mN_37, mN_38, mN_39, mN_40, mN_41, mN_42, mN_43, mN_50, mN_51, mN_60, mN_61, mN_62, mN_63, hM.nT, hM.nL, hM.nK, hM.nP, hM.knots, hM.told, hM.heard, hM.were, hM.truth, hM.isThere, hM.isNot, hM.fed, hM.fKind, hM.fPlace, hM.tName, hM.ways, hM.isSo, hM.paper, hM.police, hM.lName, hM.age, hM.begins, hM.ends, hM.taped, hM.isW, hM.who, hM.hour, hM.thing, hM.value, hM.pWho, hM.pThing, hM.pValue, hM.first, hM.last, hM.knot, hM.kP, hM.kO, hM.byte]
            refine br_c (fun l => p4_whatIs hO p1 hi ?_) (fun l => no ?_)
            · unfold wb
              refine ek_if (wo_14 _ _ _ _ _ _) (fun z => br_c (fun j => yes ?_) (fun j => ek_if (wo_16 _ _ _ _ _ _) (fun z2 => yes ?_) (fun z2 => no ?_))) (fun z => no ?_)
              · simp only [oB, d, l, z, j, decide_true, Bool.true_or, beq_self_eq_true, Bool.and_true]
              · simp only [oB, d, l, z, z2, Bool.or_true, Bool.not_false, beq_self_eq_true, Bool.and_true]
              · simp only [oB, d, l, z, z2, j, Bool.or_false, Bool.not_true, decide_false, beq_self_eq_true, Bool.and_false]
              · rw [Bool.not_eq_true] at z
                simp only [oB, d, l, z, Bool.false_and, Bool.and_false]
            · simp only [oB, d, beq_eq_false_iff_ne.mpr l, Bool.false_and, Bool.and_false]
  · rw [e] at h
    exact h _ hM
