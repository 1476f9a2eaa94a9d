/-! SaidSo's odds -/
def fbG : Nat → Nat × Nat
  | 0 => (1, 1)
  | n + 1 => ((fbG n).2, (fbG n).1 + (fbG n).2)
theorem p1_common {Post : Int64 → Prop} {a b : Nat} (h : Post (lN (Nat.gcd a b))) : ∀ (n x y : Nat), y < (fbG n).1 → x < 2 ^ 63 → y < 2 ^ 63 → Nat.gcd x y = Nat.gcd a b → w1_common (n + 1) (lN x) (lN y) Post := by
  have z0 : ∀ (n x : Nat), Nat.gcd x 0 = Nat.gcd a b → w1_common (n + 1) (lN x) (lN 0) Post := fun n x hg => by
    rw [w1_common]
    rw [Nat.gcd_zero_right] at hg
    rw [hg]
    exact br_t rfl h
  intro n
  induction n using Nat.strongRecOn with
  | ind n ih =>
    intro x y hy hx hy2 hg
    by_cases c : y = 0
    · subst c; exact z0 n x hg
    · have h2 : ¬ lN y = 0 := fun q => c ((lN_inj hy2 (by decide)).mp (q.trans lN_0.symm))
      have h1 : x % y < y := Nat.mod_lt _ (by omega)
      have hg2 : Nat.gcd y (x % y) = Nat.gcd a b := by rw [← hg, Nat.gcd_comm x y, Nat.gcd_rec y x, Nat.gcd_comm]
      match n, ih, hy with
      | 0, _, hy => exact absurd hy (by show ¬ y < 1; omega)
      | 1, _, hy => exact absurd hy (by show ¬ y < 1; omega)
      | n + 2, ih, hy =>
        rw [w1_common]
        refine br_f h2 ⟨h2, ?_⟩
        rw [lN_mod hx hy2]
        by_cases d : x % y < (fbG (n + 1)).1
        · exact ih (n + 1) (by omega) y (x % y) d hy2 (by omega) hg2
        · by_cases e : x % y = 0
          · rw [e] at hg2 ⊢
            exact z0 (n + 1) y hg2
          · have h4 : ¬ lN (x % y) = 0 := fun q => e ((lN_inj (by omega) (by decide)).mp (q.trans lN_0.symm))
            rw [w1_common]
            refine br_f h4 ⟨h4, ?_⟩
            rw [lN_mod hy2 (by omega)]
            have h5 : y % (x % y) < x % y := Nat.mod_lt _ (by omega)
            have h6 : y % (x % y) + (x % y) ≤ y := by
              have e1 := Nat.div_add_mod y (x % y)
              have e2 : 1 ≤ y / (x % y) := Nat.div_pos (by omega) (by omega)
              have e3 : (x % y) * 1 ≤ (x % y) * (y / (x % y)) := Nat.mul_le_mul_left _ e2
              omega
            have h7 : (fbG (n + 2)).1 = (fbG n).1 + (fbG (n + 1)).1 := rfl
            exact ih n (by omega) (x % y) (y % (x % y)) (by omega) (by omega) (by omega) (by rw [← hg2, Nat.gcd_comm y, Nat.gcd_rec (x % y) y, Nat.gcd_comm])
theorem fb_big : 2 ^ 63 ≤ (fbG 99).1 := by decide +kernel
theorem p1_weigh {cA : Nat → ClassId} {x : Nat} {a : Ad} {V : VS} {K : Ka} {Post : VS → Prop} {P Q u w : Nat} {nu : Int32} (hx : V x = some (.inr (1, oX a K (lN P) (lN Q) nu))) (h0 : 0 < P * u) (h1 : P * u < 2 ^ 63) (h2 : Q * w < 2 ^ 63) (h : Post (vU V x (.inr (1, oX a K (lN (P * u / Nat.gcd (P * u) (Q * w))) (lN (Q * w / Nat.gcd (P * u) (Q * w))) nu)))) : vX1_weigh cA x (lN u) (lN w) V Post := by
  have hg : 0 < Nat.gcd (P * u) (Q * w) := Nat.gcd_pos_of_pos_left _ h0
  have hg2 : Nat.gcd (P * u) (Q * w) ≤ P * u := Nat.gcd_le_left _ h0
  have h3 : ¬ lN (Nat.gcd (P * u) (Q * w)) = 0 := fun q => by
    have := (lN_inj (a := Nat.gcd (P * u) (Q * w)) (b := 0) (by omega) (by decide)).mp (q.trans lN_0.symm)
    omega
  unfold vX1_weigh
  refine bO_of (gJ_of (v := lN P) hx rfl rfl) (bO_of (pF_of (l := oX a K (lN P) (lN Q) nu) _ hx rfl (show 13 < 21 by decide)) (bO_of (gJ_of (v := lN Q) (vU_s _ _ _) rfl rfl) (bO_of (pF_of _ (vU_s _ _ _) rfl (show 14 < 21 by decide)) ?_)))
  rw [vU_vU, lN_mul, lN_mul]
  refine bO_of (gJ_of (v := lN (P * u)) (vU_s _ _ _) rfl rfl) (bO_of (gJ_of (v := lN (Q * w)) (vU_s _ _ _) rfl rfl) ?_)
  refine p1_common (a := P * u) (b := Q * w) ?_ 99 _ _ (Nat.lt_of_lt_of_le h2 fb_big) h1 h2 rfl
  refine bO_of (gJ_of (v := lN (P * u)) (vU_s _ _ _) rfl rfl) ⟨h3, bO_of (pF_of _ (vU_s _ _ _) rfl (show 13 < 21 by decide)) (bO_of (gJ_of (v := lN (Q * w)) (vU_s _ _ _) rfl rfl) ⟨h3, bO_of (pF_of _ (vU_s _ _ _) rfl (show 14 < 21 by decide)) ?_⟩)⟩
  rw [vU_vU, vU_vU, lN_div h1 (by omega), lN_div h2 (by omega)]
  exact h
/-- SaidSo's fields hold P : Q in least terms -/
def OX (x : Nat) (a : Ad) (V : VS) (K : Ka) (p : Nat × Nat) : Prop := ∃ nu, V x = some (.inr (1, oX a K (lN (p.1 / Nat.gcd p.1 p.2)) (lN (p.2 / Nat.gcd p.1 p.2)) nu))
theorem p1_weigh_2 {cA : Nat → ClassId} {x : Nat} {a : Ad} {V : VS} {K : Ka} {Post : VS → Prop} (hO : KO K) (hH : HK cA x a V K) {y n : Nat} {r : Bool} {p : Nat × Nat} (hy : y < K.nT) (hp : OX x a V K p) (hq : oOK p n) (hn : n < 8) (h : ∀ V', HK cA x a V' K → OX x a V' K (mulP p (oF K y r)) → Post V') : vX1_weigh_2 cA x (a.t y) (bI r) V Post := by
  obtain ⟨w, w1, w2, w3, w4⟩ := hO.wN hy
  obtain ⟨j, j1, j2, j3, j4⟩ := hO.trE
  have hF := oF_le hO hy r
  have hm := hq.mul hF
  obtain ⟨l1, l2⟩ := hm.lt (by omega)
  obtain ⟨nu, hx⟩ := hp
  have g1 : 0 < Nat.gcd p.1 p.2 := Nat.gcd_pos_of_pos_left _ hq.1.1
  have q1 : p.1 / Nat.gcd p.1 p.2 ≤ p.1 := Nat.div_le_self _ _
  have q2 : p.2 / Nat.gcd p.1 p.2 ≤ p.2 := Nat.div_le_self _ _
  have q3 : 0 < p.1 / Nat.gcd p.1 p.2 := Nat.div_pos (Nat.gcd_le_left _ hq.1.1) g1
  have fin : vX1_weigh cA x (lN (oF K y r).1) (lN (oF K y r).2) V (fun V_9 => Post V_9) := by
    have k1 : p.1 / Nat.gcd p.1 p.2 * (oF K y r).1 ≤ p.1 * (oF K y r).1 := Nat.mul_le_mul_right _ q1
    have k2 : p.2 / Nat.gcd p.1 p.2 * (oF K y r).2 ≤ p.2 * (oF K y r).2 := Nat.mul_le_mul_right _ q2
    refine p1_weigh hx (Nat.mul_pos q3 hF.1.1) (Nat.lt_of_le_of_lt k1 l1) (Nat.lt_of_le_of_lt k2 l2) (h _ (hH.setX rfl rfl (fun P g => g) (fun P g => g)) ⟨nu, ?_⟩)
    rw [vU_s, (lst_mul hq.1.1).1, (lst_mul hq.1.1).2]
    rfl
  unfold vX1_weigh_2
  simp (disch := first | assumption | omega) only [nI_lt0, nI_clamp, vp_inT, nI_eq, imp_FT, imp_TF, true_and, and_true, bO_s, hH.x0, hH.x1, hH.x2, hH.x3, hH.x4, hH.x5, hH.x6, hH.x7, hH.x8, hH.x9, hH.x10, hH.x11, hH.x12, hH.x15, hH.x16, hH.x18, hH.x19, hH.x20, hH.vx, hH.c0, hH.c1, hH.c2, hH.c3, hH.c4, hH.c6, hH.vc, hH.vT, hH.vL, hH.vP, hH.vK, hH.t0, hH.t1, hH.t2, hH.t3, hH.t4, hH.vt, hH.l0, hH.l1, hH.l2, hH.l3, hH.l4, hH.vl, hH.p0, hH.p1, hH.p2, hH.vp, hH.k0, hH.w0, hH.k1, hH.w1, hH.k2, hH.w2, hH.k3, hH.w3, hH.k4, hH.w4, hH.k5, hH.w5, hH.q5, hH.vk, hH.vw, hH.sT, hH.sL, hH.sP, hH.sK, hH.gT, hH.gL, hH.gP, hH.gK, w2, j2]
  rw [show (10 : Int32) = nI 10 from rfl, show (10 : Int64) = lN 10 from rfl, show (1 : Int32) = nI 1 from rfl, nI_sub (by omega), nI_sub (by omega), nI_l (by omega), nI_l (by omega), nI_l (by omega), nI_l (by omega), lN_mul, lN_mul, lN_mul]
  refine bz (fun c => ?_) (fun c => ?_)
  · subst c
    unfold oF at fin
    simp only [if_false, Bool.false_eq_true, w1, j1] at fin
    exact fin
  · subst c
    unfold oF at fin
    simp only [if_true, w1, j1] at fin
    exact fin
/-! the product by pages is the product by things -/
theorem mulP_c (p q : Nat × Nat) : mulP p q = mulP q p := by unfold mulP; rw [Nat.mul_comm, Nat.mul_comm p.2]
theorem mulP_a (p q r : Nat × Nat) : mulP (mulP p q) r = mulP p (mulP q r) := by unfold mulP; rw [Nat.mul_assoc, Nat.mul_assoc]
theorem mulP_1 (p : Nat × Nat) : mulP p (1, 1) = p := by unfold mulP; rw [Nat.mul_one, Nat.mul_one]
def prB (p : Nat → Bool) (f : Nat → Nat × Nat) : Nat → Nat × Nat
  | 0 => (1, 1)
  | n + 1 => if p n then mulP (prB p f n) (f n) else prB p f n
theorem prB_congr {p q : Nat → Bool} {f : Nat → Nat × Nat} : ∀ {n : Nat}, (∀ i, i < n → p i = q i) → prB p f n = prB q f n
  | 0, _ => rfl
  | n + 1, h => by
    unfold prB
    rw [prB_congr (fun i hi => h i (by omega)), h n (by omega)]
theorem prB_upd {p q : Nat → Bool} {f : Nat → Nat × Nat} {x0 : Nat} : ∀ {N : Nat}, x0 < N → (∀ x, x < N → x ≠ x0 → q x = p x) → p x0 = false → q x0 = true → prB q f N = mulP (prB p f N) (f x0)
  | 0, h, _, _, _ => absurd h (Nat.not_lt_zero _)
  | N + 1, h, h1, h2, h3 => by
    unfold prB
    by_cases e : x0 = N
    · subst e
      rw [prB_congr (q := p) (fun i hi => h1 i (by omega) (by omega)), h2, h3]
      simp
    · rw [prB_upd (show x0 < N by omega) (fun x hx => h1 x (by omega)) h2 h3, h1 N (by omega) (fun q => e q.symm)]
      by_cases c : p N = true
      · rw [if_pos c, if_pos c, mulP_a, mulP_c (f x0), ← mulP_a]
      · rw [if_neg c, if_neg c]
theorem prB_swap {p : Nat → Bool} {f : Nat → Nat} {G : Nat → Nat × Nat} {N : Nat} : ∀ {n : Nat}, (∀ k, k < n → p k = true → f k < N) → (∀ i k, i < k → k < n → p i = true → p k = true → f i ≠ f k) → prB p (fun k => G (f k)) n = prB (fun x => anyB (fun k => p k && f k == x) n) G N
  | 0, _, _ => by
    have : ∀ n, prB (fun x => anyB (fun k => p k && f k == x) 0) G n = (1, 1) := by
      intro n
      induction n with
      | zero => rfl
      | succ n ih => unfold prB; rw [ih]; rfl
    rw [this]
    rfl
  | n + 1, h1, h2 => by
    have ih := prB_swap (p := p) (f := f) (G := G) (N := N) (n := n) (fun k hk => h1 k (by omega)) (fun i k hi hk => h2 i k hi (by omega))
    cases e : p n with
    | false =>
      show (if p n = true then mulP (prB p (fun k => G (f k)) n) (G (f n)) else prB p (fun k => G (f k)) n) = prB (fun x => anyB (fun k => p k && f k == x) n || (p n && f n == x)) G N
      rw [e, ih]
      simp only [Bool.false_and, Bool.or_false, if_false, Bool.false_eq_true]
    | true =>
      have e1 : prB (fun x => anyB (fun k => p k && f k == x) (n + 1)) G N = mulP (prB (fun x => anyB (fun k => p k && f k == x) n) G N) (G (f n)) := by
        refine prB_upd (x0 := f n) (h1 n (by omega) e) (fun x _ hx => ?_) ?_ ?_
        · show (anyB (fun k => p k && f k == x) n || (p n && f n == x)) = _
          rw [beq_eq_false_iff_ne.mpr (fun q => hx q.symm), Bool.and_false, Bool.or_false]
        · refine anyB_of (fun i hi => ?_)
          cases e2 : p i with
          | false => rfl
          | true =>
            rw [Bool.true_and, beq_eq_false_iff_ne]
            exact h2 i n hi (by omega) e2 e
        · exact anyB_t n (by omega) (by simp only [e, beq_self_eq_true, Bool.and_true])
      rw [e1, ← ih]
      show (if p n = true then mulP (prB p (fun k => G (f k)) n) (G (f n)) else prB p (fun k => G (f k)) n) = _
      rw [e, if_pos rfl]
def oY (K : Ka) (t : Nat) : Nat → Nat × Nat
  | 0 => (K.isThere.toNatClampNeg, K.isNot.toNatClampNeg)
  | y + 1 => if pyR K t y then mulP (oY K t y) (oF K y true) else if pyQ K t y then mulP (oY K t y) (oF K y false) else oY K t y
theorem oP_pr (K : Ka) (t : Nat) : ∀ k, oP K t k = mulP (K.isThere.toNatClampNeg, K.isNot.toNatClampNeg) (mulP (prB (pgR K t) (fun k => oF K (K.pThing k) true) k) (prB (pgQ K t) (fun k => oF K (K.pThing k) false) k))
  | 0 => by unfold oP prB; rw [mulP_1, mulP_1]
  | k + 1 => by
    unfold oP prB
    rw [oP_pr K t k]
    unfold pgR pgQ
    cases e : pgF K t k with
    | false => rfl
    | true =>
      cases d : decide (K.pValue k = K.isSo (K.pThing k)) with
      | true =>
        simp only [Bool.true_and, if_true, Bool.not_true, if_false, Bool.false_eq_true]
        rw [mulP_a, mulP_a, mulP_c _ (oF K (K.pThing k) true), ← mulP_a (prB _ _ k)]
      | false =>
        simp only [Bool.true_and, if_true, Bool.not_false, if_false, Bool.false_eq_true]
        rw [mulP_a, mulP_a]
theorem py_not {K : Ka} {t y : Nat} (h1 : pyR K t y = true) (h2 : pyQ K t y = true) : False := by
  obtain ⟨k, -, k2⟩ := anyB_ex h1
  obtain ⟨i, -, i2⟩ := anyB_ex h2
  unfold pgR at k2
  unfold pgQ at i2
  simp only [Bool.and_eq_true, beq_iff_eq, Bool.not_eq_true'] at k2 i2
  have hw : (K.pWho k == t && K.pThing k == y) = true := by
    have := k2.1.1
    unfold pgF at this
    simp only [Bool.and_eq_true] at this
    rw [this.1, k2.2]
    simp
  have e := pgF_only hw k2.1.1 i2.1.1 i2.2
  subst e
  rw [k2.1.2] at i2
  exact absurd i2.1.2 (by decide)
theorem oY_pr (K : Ka) (t : Nat) : ∀ y, oY K t y = mulP (K.isThere.toNatClampNeg, K.isNot.toNatClampNeg) (mulP (prB (pyR K t) (fun y => oF K y true) y) (prB (pyQ K t) (fun y => oF K y false) y))
  | 0 => by unfold oY prB; rw [mulP_1, mulP_1]
  | y + 1 => by
    unfold oY prB
    rw [oY_pr K t y]
    cases e : pyR K t y with
    | true =>
      have d : pyQ K t y = false := by
        cases d : pyQ K t y with
        | false => rfl
        | true => exact (py_not e d).elim
      rw [d]
      simp only [if_true, if_false, Bool.false_eq_true]
      rw [mulP_a, mulP_a, mulP_c _ (oF K y true), ← mulP_a (prB _ _ y)]
    | false =>
      cases d : pyQ K t y with
      | true =>
        simp only [if_true, if_false, Bool.false_eq_true]
        rw [mulP_a, mulP_a]
      | false => rfl
theorem oY_P {K : Ka} (hO : KO K) (t : Nat) : oY K t K.nT = oP K t K.nP := by
  rw [oY_pr, oP_pr]
  have e1 : prB (pgR K t) (fun k => oF K (K.pThing k) true) K.nP = prB (pyR K t) (fun y => oF K y true) K.nT :=
    prB_swap (p := pgR K t) (f := K.pThing) (G := fun y => oF K y true) (fun k hk _ => hO.pThing k hk) (fun i k hik _ h1 h2 => pgF_thing hik (by unfold pgR at h1; simp only [Bool.and_eq_true] at h1; exact h1.1) (by unfold pgR at h2; simp only [Bool.and_eq_true] at h2; exact h2.1))
  have e2 : prB (pgQ K t) (fun k => oF K (K.pThing k) false) K.nP = prB (pyQ K t) (fun y => oF K y false) K.nT :=
    prB_swap (p := pgQ K t) (f := K.pThing) (G := fun y => oF K y false) (fun k hk _ => hO.pThing k hk) (fun i k hik _ h1 h2 => pgF_thing hik (by unfold pgQ at h1; simp only [Bool.and_eq_true] at h1; exact h1.1) (by unfold pgQ at h2; simp only [Bool.and_eq_true] at h2; exact h2.1))
  rw [e1, e2]
theorem oY_OK {K : Ka} (hO : KO K) (t : Nat) : ∀ y, y ≤ K.nT → oOK (oY K t y) y
  | 0, _ => by
    obtain ⟨u, w, e1, e2, e3, e4⟩ := hO.base
    unfold oY oOK
    rw [e1, e2, nI_clamp (by omega), nI_clamp (by omega)]
    simp only [Nat.pow_zero, Nat.mul_one]
    omega
  | y + 1, hy => by
    have ih := oY_OK hO t y (by omega)
    unfold oY
    split
    · exact ih.mul (oF_le hO (by omega) _)
    · split
      · exact ih.mul (oF_le hO (by omega) _)
      · obtain ⟨⟨a1, a2⟩, a3, a4⟩ := ih
        have e : 99 * 81 ^ y ≤ 99 * 81 ^ (y + 1) := Nat.mul_le_mul_left _ (Nat.pow_le_pow_right (by decide) (by omega))
        exact ⟨⟨a1, by omega⟩, a3, by omega⟩
