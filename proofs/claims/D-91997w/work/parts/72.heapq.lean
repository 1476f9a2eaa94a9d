/-! SaidSo's queries: what each answers, by the case -/
theorem p1_in {b lo hi : Int32} {Post : Int32 → Prop} (h : Post (bI (decide (lo ≤ b) && decide (b ≤ hi)))) : w1_in b lo hi Post := by
  refine br_c (fun c => ?_) (fun c => br_c (fun d => ?_) (fun d => ?_))
  · (simp only [Bool.false_and, Bool.true_and, Bool.and_false, Bool.and_true, Bool.false_or, Bool.true_or, Bool.or_false, Bool.or_true, Bool.not_true, Bool.not_false, bI_t, bI_f, if_true, if_false, beq_self_eq_true, decide_true, decide_false, reduceCtorEq, Bool.false_eq_true, decide_eq_false (Int32.not_le.mpr c)] at h; exact h)
  · (simp only [Bool.false_and, Bool.true_and, Bool.and_false, Bool.and_true, Bool.false_or, Bool.true_or, Bool.or_false, Bool.or_true, Bool.not_true, Bool.not_false, bI_t, bI_f, if_true, if_false, beq_self_eq_true, decide_true, decide_false, reduceCtorEq, Bool.false_eq_true, decide_eq_false (Int32.not_le.mpr d)] at h; exact h)
  · (simp only [Bool.false_and, Bool.true_and, Bool.and_false, Bool.and_true, Bool.false_or, Bool.true_or, Bool.or_false, Bool.or_true, Bool.not_true, Bool.not_false, bI_t, bI_f, if_true, if_false, beq_self_eq_true, decide_true, decide_false, reduceCtorEq, Bool.false_eq_true, decide_eq_true (Int32.not_lt.mp c), decide_eq_true (Int32.not_lt.mp d)] at h; exact h)
theorem m1_lt {j n : Nat} (hj : j < 2 ^ 31) (h : n ≤ j) : nI n - 1 < nI j := by
  cases n with
  | zero =>
    refine Int32.lt_iff_toInt_lt.mpr ?_
    rw [nI_toInt hj]
    have : (nI 0 - 1).toInt = -1 := by decide
    omega
  | succ n => rw [nI_pred]; exact nI_lt (by omega) hj
theorem p1_ix {b : Int32} {n : Nat} {Post : Int32 → Prop} (hn : n < 2 ^ 31) (hs : ∀ t, ix b n = some t → t < n → b = nI t → Post 1) (h0 : ix b n = none → Post 0) : w1_in b 0 (nI n - 1) Post := by
  cases e : ix b n with
  | some t =>
    obtain ⟨h1, h2⟩ := ix_lt hn e
    subst h2
    refine br_f (nI_pos (by omega)) (br_f ?_ (hs t e h1 rfl))
    obtain ⟨m, rfl⟩ : ∃ m, n = m + 1 := ⟨n - 1, by omega⟩
    rw [nI_pred]
    exact nI_nlt (by omega) (by omega)
  | none =>
    refine br_c (fun _ => h0 e) (fun c => br_t ?_ (h0 e))
    obtain ⟨j, hj, rfl⟩ := nI_of c
    have h1 := (ix_none e).resolve_left c
    rw [nI_leI hn hj] at h1
    exact m1_lt hj h1
theorem dnL {W : Nat → Nat → Prop} {e : Nat} (hx : ∀ n, W (n + 1) 0) (hs : ∀ n k, k < e → W n k → W (n + 1) (k + 1)) : ∃ f, W f e := by
  have key : ∀ k, k ≤ e → W (k + 1) k := by
    intro k
    induction k with
    | zero => intro _; exact hx 0
    | succ k ih => intro hk; exact hs _ k (by omega) (ih (by omega))
  exact ⟨e + 1, key e (Nat.le_refl _)⟩
theorem bo {b : Bool} {q : Nat} {A : Prop} {B : Nat → Prop} (hf : b = false → A) (ht : b = true → B q) : ((if b then some q else none) = none → A) ∧ (∀ n, (if b then some q else none) = some n → B n) := by
  cases b
  · exact ⟨fun _ => hf rfl, fun n h => (by cases h)⟩
  · exact ⟨fun h => (by cases h), fun n h => (by cases h; exact ht rfl)⟩
theorem m1_or {s : Int32} (h : -1 ≤ s) : s = -1 ∨ 0 ≤ s := by
  by_cases c : 0 ≤ s
  · exact Or.inr c
  · left
    apply Int32.toInt_inj.mp
    have h1 := Int32.le_iff_toInt_le.mp h
    have h2 := Int32.lt_iff_toInt_lt.mp (Int32.not_le.mp c)
    have e1 : (-1 : Int32).toInt = -1 := by decide
    have e0 : (0 : Int32).toInt = 0 := by decide
    omega
theorem m1_ge {s : Int32} (h : -1 ≤ s) : (s = -1) = ¬ 0 ≤ s := by
  rcases m1_or h with rfl | h1
  · exact propext ⟨fun _ => by decide, fun _ => rfl⟩
  · exact propext ⟨fun e => by subst e; exact absurd h1 (by decide), fun e => absurd h1 e⟩
theorem KO.tpm {K : Ka} (h : KO K) {t : Nat} (ht : t < K.nL) : -1 ≤ K.taped t := by
  rcases h.taped t ht with e | e
  · rw [e]; exact Int32.le_refl _
  · exact Int32.le_trans (by decide) (Int32.le_trans (h.begins t ht).1 e.1)
theorem p1_isHeardX {cA : Nat → ClassId} {x : Nat} {a : Ad} {V : VS} {K : Ka} {Post : Int32 → VS → Prop} (hO : KO K) (hH : HK cA x a V K) {b : Int32} (hs : ∀ k, ix b K.nK = some k → k < K.nK → b = nI k → Post (bI (hh K k)) V) (hn : ix b K.nK = none → Post 0 V) : vX1_isHeard cA x b V Post := by
  have h9T := hO.nT; have h9L := hO.nL; have h9K := hO.nK; have h9P := hO.nP
  unfold vX1_isHeard
  simp (disch := first | assumption | omega) only [nI_lt0, nI_clamp, vp_inT, nI_eq, imp_FT, imp_TF, true_and, and_true, bO_s, hH.x0, hH.x1, hH.x2, hH.x3, hH.x4, hH.x5, hH.x6, hH.x7, hH.x8, hH.x9, hH.x10, hH.x11, hH.x12, hH.x15, hH.x16, hH.x18, hH.x19, hH.x20, hH.vx, hH.c0, hH.c1, hH.c2, hH.c3, hH.c4, hH.c6, hH.vc, hH.vT, hH.vL, hH.vP, hH.vK, hH.t0, hH.t1, hH.t2, hH.t3, hH.t4, hH.vt, hH.l0, hH.l1, hH.l2, hH.l3, hH.l4, hH.vl, hH.p0, hH.p1, hH.p2, hH.vp, hH.k0, hH.w0, hH.k1, hH.w1, hH.k2, hH.w2, hH.k3, hH.w3, hH.k4, hH.w4, hH.k5, hH.w5, hH.q5, hH.vk, hH.vw, hH.sT, hH.sL, hH.sP, hH.sK, hH.gT, hH.gL, hH.gP, hH.gK]
  refine p1_ix (by omega) (fun k e hk hb => br_f (by decide) ?_) (fun e => br_t rfl (hn e))
  have h := hs k e hk hb
  subst hb
  simp (disch := first | assumption | omega) only [nI_lt0, nI_clamp, vp_inT, nI_eq, imp_FT, imp_TF, true_and, and_true, bO_s, hH.x0, hH.x1, hH.x2, hH.x3, hH.x4, hH.x5, hH.x6, hH.x7, hH.x8, hH.x9, hH.x10, hH.x11, hH.x12, hH.x15, hH.x16, hH.x18, hH.x19, hH.x20, hH.vx, hH.c0, hH.c1, hH.c2, hH.c3, hH.c4, hH.c6, hH.vc, hH.vT, hH.vL, hH.vP, hH.vK, hH.t0, hH.t1, hH.t2, hH.t3, hH.t4, hH.vt, hH.l0, hH.l1, hH.l2, hH.l3, hH.l4, hH.vl, hH.p0, hH.p1, hH.p2, hH.vp, hH.k0, hH.w0, hH.k1, hH.w1, hH.k2, hH.w2, hH.k3, hH.w3, hH.k4, hH.w4, hH.k5, hH.w5, hH.q5, hH.vk, hH.vw, hH.sT, hH.sL, hH.sP, hH.sK, hH.gT, hH.gL, hH.gP, hH.gK]
  refine br_c (fun c => ?_) (fun c => ?_)
  · (simp only [Bool.false_and, Bool.true_and, Bool.and_false, Bool.and_true, Bool.false_or, Bool.true_or, Bool.or_false, Bool.or_true, Bool.not_true, Bool.not_false, bI_t, bI_f, if_true, if_false, beq_self_eq_true, decide_true, decide_false, reduceCtorEq, Bool.false_eq_true, hh, Int32.not_le.mpr c] at h; exact h)
  · (simp only [Bool.false_and, Bool.true_and, Bool.and_false, Bool.and_true, Bool.false_or, Bool.true_or, Bool.or_false, Bool.or_true, Bool.not_true, Bool.not_false, bI_t, bI_f, if_true, if_false, beq_self_eq_true, decide_true, decide_false, reduceCtorEq, Bool.false_eq_true, hh, Int32.not_lt.mp c] at h; exact h)
theorem p1_isTeller {cA : Nat → ClassId} {x : Nat} {a : Ad} {V : VS} {K : Ka} {Post : Int32 → VS → Prop} (hO : KO K) (hH : HK cA x a V K) {b : Int32} (hs : ∀ t, ix b K.nL = some t → t < K.nL → b = nI t → Post 1 V) (hn : ix b K.nL = none → Post 0 V) : vX1_isTeller cA x b V Post := by
  have h9T := hO.nT; have h9L := hO.nL; have h9K := hO.nK; have h9P := hO.nP
  unfold vX1_isTeller
  simp (disch := first | assumption | omega) only [nI_lt0, nI_clamp, vp_inT, nI_eq, imp_FT, imp_TF, true_and, and_true, bO_s, hH.x0, hH.x1, hH.x2, hH.x3, hH.x4, hH.x5, hH.x6, hH.x7, hH.x8, hH.x9, hH.x10, hH.x11, hH.x12, hH.x15, hH.x16, hH.x18, hH.x19, hH.x20, hH.vx, hH.c0, hH.c1, hH.c2, hH.c3, hH.c4, hH.c6, hH.vc, hH.vT, hH.vL, hH.vP, hH.vK, hH.t0, hH.t1, hH.t2, hH.t3, hH.t4, hH.vt, hH.l0, hH.l1, hH.l2, hH.l3, hH.l4, hH.vl, hH.p0, hH.p1, hH.p2, hH.vp, hH.k0, hH.w0, hH.k1, hH.w1, hH.k2, hH.w2, hH.k3, hH.w3, hH.k4, hH.w4, hH.k5, hH.w5, hH.q5, hH.vk, hH.vw, hH.sT, hH.sL, hH.sP, hH.sK, hH.gT, hH.gL, hH.gP, hH.gK]
  exact p1_ix (by omega) (fun t e ht hb => ⟨Or.inr rfl, hs t e ht hb⟩) (fun e => ⟨Or.inl rfl, hn e⟩)
theorem p1_isThing {cA : Nat → ClassId} {x : Nat} {a : Ad} {V : VS} {K : Ka} {Post : Int32 → VS → Prop} (hO : KO K) (hH : HK cA x a V K) {b : Int32} (hs : ∀ t, ix b K.nT = some t → t < K.nT → b = nI t → Post 1 V) (hn : ix b K.nT = none → Post 0 V) : vX1_isThing cA x b V Post := by
  have h9T := hO.nT; have h9L := hO.nL; have h9K := hO.nK; have h9P := hO.nP
  unfold vX1_isThing
  simp (disch := first | assumption | omega) only [nI_lt0, nI_clamp, vp_inT, nI_eq, imp_FT, imp_TF, true_and, and_true, bO_s, hH.x0, hH.x1, hH.x2, hH.x3, hH.x4, hH.x5, hH.x6, hH.x7, hH.x8, hH.x9, hH.x10, hH.x11, hH.x12, hH.x15, hH.x16, hH.x18, hH.x19, hH.x20, hH.vx, hH.c0, hH.c1, hH.c2, hH.c3, hH.c4, hH.c6, hH.vc, hH.vT, hH.vL, hH.vP, hH.vK, hH.t0, hH.t1, hH.t2, hH.t3, hH.t4, hH.vt, hH.l0, hH.l1, hH.l2, hH.l3, hH.l4, hH.vl, hH.p0, hH.p1, hH.p2, hH.vp, hH.k0, hH.w0, hH.k1, hH.w1, hH.k2, hH.w2, hH.k3, hH.w3, hH.k4, hH.w4, hH.k5, hH.w5, hH.q5, hH.vk, hH.vw, hH.sT, hH.sL, hH.sP, hH.sK, hH.gT, hH.gL, hH.gP, hH.gK]
  exact p1_ix (by omega) (fun t e ht hb => ⟨Or.inr rfl, hs t e ht hb⟩) (fun e => ⟨Or.inl rfl, hn e⟩)
/-- a heard line of a teller -/
def hl1 (K : Ka) (t k : Nat) : Bool := hh K k && K.who k == t
def hl2 (K : Ka) (t y k : Nat) : Bool := hh K k && (K.who k == t && K.thing k == y)
def hw1 (K : Ka) (t k : Nat) : Bool := hw K k && K.who k == t
theorem p1_heard {cA : Nat → ClassId} {x : Nat} {a : Ad} {V : VS} {K : Ka} {Post : Option Nat → VS → Prop} (hO : KO K) (hH : HK cA x a V K) {t k : Nat} (hk : k < K.nK) (ht : t < K.nL) (h : Post (if hl1 K t k then some (a.k k) else none) V) : vX1_heard cA x (nI k) (nI t) (-1) V Post := by
  have h9T := hO.nT; have h9L := hO.nL; have h9K := hO.nK; have h9P := hO.nP; have h9w := hO.who k hk
  unfold vX1_heard
  simp (disch := first | assumption | omega) only [nI_lt0, nI_clamp, vp_inT, nI_eq, imp_FT, imp_TF, true_and, and_true, bO_s, hH.x0, hH.x1, hH.x2, hH.x3, hH.x4, hH.x5, hH.x6, hH.x7, hH.x8, hH.x9, hH.x10, hH.x11, hH.x12, hH.x15, hH.x16, hH.x18, hH.x19, hH.x20, hH.vx, hH.c0, hH.c1, hH.c2, hH.c3, hH.c4, hH.c6, hH.vc, hH.vT, hH.vL, hH.vP, hH.vK, hH.t0, hH.t1, hH.t2, hH.t3, hH.t4, hH.vt, hH.l0, hH.l1, hH.l2, hH.l3, hH.l4, hH.vl, hH.p0, hH.p1, hH.p2, hH.vp, hH.k0, hH.w0, hH.k1, hH.w1, hH.k2, hH.w2, hH.k3, hH.w3, hH.k4, hH.w4, hH.k5, hH.w5, hH.q5, hH.vk, hH.vw, hH.sT, hH.sL, hH.sP, hH.sK, hH.gT, hH.gL, hH.gP, hH.gK]
  refine br_c (fun c => ?_) (fun c => br_c (fun d => ?_) (fun d => ?_))
  · (simp only [Bool.false_and, Bool.true_and, Bool.and_false, Bool.and_true, Bool.false_or, Bool.true_or, Bool.or_false, Bool.or_true, Bool.not_true, Bool.not_false, bI_t, bI_f, if_true, if_false, beq_self_eq_true, decide_true, decide_false, reduceCtorEq, Bool.false_eq_true, hl1, hh, Int32.not_le.mpr c] at h; exact h)
  · (simp only [Bool.false_and, Bool.true_and, Bool.and_false, Bool.and_true, Bool.false_or, Bool.true_or, Bool.or_false, Bool.or_true, Bool.not_true, Bool.not_false, bI_t, bI_f, if_true, if_false, beq_self_eq_true, decide_true, decide_false, reduceCtorEq, Bool.false_eq_true, hl1, hh, Int32.not_lt.mp c, d] at h; exact h)
  · (simp only [Bool.false_and, Bool.true_and, Bool.and_false, Bool.and_true, Bool.false_or, Bool.true_or, Bool.or_false, Bool.or_true, Bool.not_true, Bool.not_false, bI_t, bI_f, if_true, if_false, beq_self_eq_true, decide_true, decide_false, reduceCtorEq, Bool.false_eq_true, hl1, hh, Int32.not_lt.mp c, beq_eq_false_iff_ne.mpr d] at h; exact h)
theorem nI_nm1 {n : Nat} (h : n < 2 ^ 31) : ¬ nI n = -1 := fun e => nI_pos h (by rw [e]; decide)
theorem p1_heardT {cA : Nat → ClassId} {x : Nat} {a : Ad} {V : VS} {K : Ka} {Post : Option Nat → VS → Prop} (hO : KO K) (hH : HK cA x a V K) {t y k : Nat} (hk : k < K.nK) (ht : t < K.nL) (hy : y < K.nT) (h : Post (if hl2 K t y k then some (a.k k) else none) V) : vX1_heard cA x (nI k) (nI t) (nI y) V Post := by
  have h9T := hO.nT; have h9L := hO.nL; have h9K := hO.nK; have h9P := hO.nP; have h9w := hO.who k hk; have h9t := hO.thing k hk
  unfold vX1_heard
  simp (disch := first | assumption | omega) only [nI_lt0, nI_clamp, vp_inT, nI_eq, imp_FT, imp_TF, true_and, and_true, bO_s, hH.x0, hH.x1, hH.x2, hH.x3, hH.x4, hH.x5, hH.x6, hH.x7, hH.x8, hH.x9, hH.x10, hH.x11, hH.x12, hH.x15, hH.x16, hH.x18, hH.x19, hH.x20, hH.vx, hH.c0, hH.c1, hH.c2, hH.c3, hH.c4, hH.c6, hH.vc, hH.vT, hH.vL, hH.vP, hH.vK, hH.t0, hH.t1, hH.t2, hH.t3, hH.t4, hH.vt, hH.l0, hH.l1, hH.l2, hH.l3, hH.l4, hH.vl, hH.p0, hH.p1, hH.p2, hH.vp, hH.k0, hH.w0, hH.k1, hH.w1, hH.k2, hH.w2, hH.k3, hH.w3, hH.k4, hH.w4, hH.k5, hH.w5, hH.q5, hH.vk, hH.vw, hH.sT, hH.sL, hH.sP, hH.sK, hH.gT, hH.gL, hH.gP, hH.gK]
  refine br_c (fun c => ?_) (fun c => br_c (fun d => br_f (nI_nm1 (by omega)) (br_c (fun g => ?_) (fun g => ?_))) (fun d => ?_))
  · (simp only [Bool.false_and, Bool.true_and, Bool.and_false, Bool.and_true, Bool.false_or, Bool.true_or, Bool.or_false, Bool.or_true, Bool.not_true, Bool.not_false, bI_t, bI_f, if_true, if_false, beq_self_eq_true, decide_true, decide_false, reduceCtorEq, Bool.false_eq_true, hl2, hh, Int32.not_le.mpr c] at h; exact h)
  · (simp only [Bool.false_and, Bool.true_and, Bool.and_false, Bool.and_true, Bool.false_or, Bool.true_or, Bool.or_false, Bool.or_true, Bool.not_true, Bool.not_false, bI_t, bI_f, if_true, if_false, beq_self_eq_true, decide_true, decide_false, reduceCtorEq, Bool.false_eq_true, hl2, hh, Int32.not_lt.mp c, d, g] at h; exact h)
  · (simp only [Bool.false_and, Bool.true_and, Bool.and_false, Bool.and_true, Bool.false_or, Bool.true_or, Bool.or_false, Bool.or_true, Bool.not_true, Bool.not_false, bI_t, bI_f, if_true, if_false, beq_self_eq_true, decide_true, decide_false, reduceCtorEq, Bool.false_eq_true, hl2, hh, Int32.not_lt.mp c, d, beq_eq_false_iff_ne.mpr g] at h; exact h)
  · (simp only [Bool.false_and, Bool.true_and, Bool.and_false, Bool.and_true, Bool.false_or, Bool.true_or, Bool.or_false, Bool.or_true, Bool.not_true, Bool.not_false, bI_t, bI_f, if_true, if_false, beq_self_eq_true, decide_true, decide_false, reduceCtorEq, Bool.false_eq_true, hl2, hh, Int32.not_lt.mp c, beq_eq_false_iff_ne.mpr d] at h; exact h)
/-- which of the kinds' own methods -/
theorem p1_kind {cA : Nat → ClassId} {x : Nat} {a : Ad} {V : VS} {K : Ka} (hH : HK cA x a V K) {k : Nat} (hk : k < K.nK) {A B : Prop} (hw : K.isW k = true → A) (hn : K.isW k = false → B) : bO (vO V [7, 8] (a.k k)) (fun o => (o.1 = 7 → A) ∧ (¬ o.1 = 7 → B)) := by
  rw [vO78 hH hk]
  show ((if K.isW k then 7 else 8 : Nat) = 7 → A) ∧ (¬ (if K.isW k then 7 else 8 : Nat) = 7 → B)
  cases e : K.isW k
  · exact br_f (by decide) (hn e)
  · exact br_t (by decide) (hw e)
theorem p1_isWord {cA : Nat → ClassId} {x : Nat} {a : Ad} {V : VS} {K : Ka} (hH : HK cA x a V K) {k : Nat} (hk : k < K.nK) {Kc : Int32 → VS → Prop} (h : Kc (bI (K.isW k)) V) : bO (vO V [7, 8] (a.k k)) (fun o => (o.1 = 7 → vX9_isWord cA (a.k k) V Kc) ∧ (¬ o.1 = 7 → vX8_isWord cA (a.k k) V Kc)) :=
  p1_kind hH hk (fun e => by rw [e] at h; exact h) (fun e => by rw [e] at h; exact h)
theorem p1_isPut {cA : Nat → ClassId} {x : Nat} {a : Ad} {V : VS} {K : Ka} (hO : KO K) (hH : HK cA x a V K) {k : Nat} (hk : k < K.nK) {Kc : Int32 → VS → Prop} (h : Kc (bI (!K.isW k && decide (0 ≤ K.value k))) V) : bO (vO V [7, 8] (a.k k)) (fun o => (o.1 = 7 → vX8_isPut cA (a.k k) V Kc) ∧ (¬ o.1 = 7 → vX10_isPut cA (a.k k) V Kc)) := by
  refine p1_kind hH hk (fun e => by rw [e] at h; exact h) (fun e => ?_)
  unfold vX10_isPut
  simp (disch := first | assumption | omega) only [nI_lt0, nI_clamp, vp_inT, nI_eq, imp_FT, imp_TF, true_and, and_true, bO_s, hH.x0, hH.x1, hH.x2, hH.x3, hH.x4, hH.x5, hH.x6, hH.x7, hH.x8, hH.x9, hH.x10, hH.x11, hH.x12, hH.x15, hH.x16, hH.x18, hH.x19, hH.x20, hH.vx, hH.c0, hH.c1, hH.c2, hH.c3, hH.c4, hH.c6, hH.vc, hH.vT, hH.vL, hH.vP, hH.vK, hH.t0, hH.t1, hH.t2, hH.t3, hH.t4, hH.vt, hH.l0, hH.l1, hH.l2, hH.l3, hH.l4, hH.vl, hH.p0, hH.p1, hH.p2, hH.vp, hH.k0, hH.w0, hH.k1, hH.w1, hH.k2, hH.w2, hH.k3, hH.w3, hH.k4, hH.w4, hH.k5, hH.w5, hH.q5, hH.vk, hH.vw, hH.sT, hH.sL, hH.sP, hH.sK, hH.gT, hH.gL, hH.gP, hH.gK]
  have h1 := m1_ge (hO.value k hk).1.1
  refine br_c (fun c => ?_) (fun c => ?_)
  · rw [h1] at c
    rw [e, decide_eq_false c] at h
    exact h
  · rw [h1, Classical.not_not] at c
    rw [e, decide_eq_true c] at h
    exact h
theorem p1_word_2 {cA : Nat → ClassId} {x : Nat} {a : Ad} {V : VS} {K : Ka} {Post : Option Nat → VS → Prop} (hO : KO K) (hH : HK cA x a V K) {t k : Nat} (hk : k < K.nK) (ht : t < K.nL) (h : Post (if hw1 K t k then some (a.k k) else none) V) : vX1_word_2 cA x (nI k) (nI t) (-1) V Post := by
  unfold vX1_word_2
  simp (disch := first | assumption | omega) only [nI_lt0, nI_clamp, vp_inT, nI_eq, imp_FT, imp_TF, true_and, and_true, bO_s, hH.x0, hH.x1, hH.x2, hH.x3, hH.x4, hH.x5, hH.x6, hH.x7, hH.x8, hH.x9, hH.x10, hH.x11, hH.x12, hH.x15, hH.x16, hH.x18, hH.x19, hH.x20, hH.vx, hH.c0, hH.c1, hH.c2, hH.c3, hH.c4, hH.c6, hH.vc, hH.vT, hH.vL, hH.vP, hH.vK, hH.t0, hH.t1, hH.t2, hH.t3, hH.t4, hH.vt, hH.l0, hH.l1, hH.l2, hH.l3, hH.l4, hH.vl, hH.p0, hH.p1, hH.p2, hH.vp, hH.k0, hH.w0, hH.k1, hH.w1, hH.k2, hH.w2, hH.k3, hH.w3, hH.k4, hH.w4, hH.k5, hH.w5, hH.q5, hH.vk, hH.vw, hH.sT, hH.sL, hH.sP, hH.sK, hH.gT, hH.gL, hH.gP, hH.gK]
  refine p1_heard hO hH hk ht (bo (fun c => ?_) (fun c => ?_))
  · rw [show hw1 K t k = false by
      unfold hw1 hw
      unfold hl1 at c
      cases e : hh K k <;> cases e2 : K.who k == t <;> simp_all] at h
    exact h
  · intro K8 e8
    refine p1_isWord hH hk ?_
    have e : hw1 K t k = K.isW k := by
      unfold hw1 hw
      simp only [hl1, Bool.and_eq_true] at c
      rw [c.1, c.2, Bool.true_and, Bool.and_true]
    rw [e] at h
    rw [e8]
    refine bz (fun g => ?_) (fun g => ?_)
    · rw [g] at h; exact h
    · rw [g] at h
      simp (disch := first | assumption | omega) only [nI_lt0, nI_clamp, vp_inT, nI_eq, imp_FT, imp_TF, true_and, and_true, bO_s, hH.x0, hH.x1, hH.x2, hH.x3, hH.x4, hH.x5, hH.x6, hH.x7, hH.x8, hH.x9, hH.x10, hH.x11, hH.x12, hH.x15, hH.x16, hH.x18, hH.x19, hH.x20, hH.vx, hH.c0, hH.c1, hH.c2, hH.c3, hH.c4, hH.c6, hH.vc, hH.vT, hH.vL, hH.vP, hH.vK, hH.t0, hH.t1, hH.t2, hH.t3, hH.t4, hH.vt, hH.l0, hH.l1, hH.l2, hH.l3, hH.l4, hH.vl, hH.p0, hH.p1, hH.p2, hH.vp, hH.k0, hH.w0, hH.k1, hH.w1, hH.k2, hH.w2, hH.k3, hH.w3, hH.k4, hH.w4, hH.k5, hH.w5, hH.q5, hH.vk, hH.vw, hH.sT, hH.sL, hH.sP, hH.sK, hH.gT, hH.gL, hH.gP, hH.gK]
      exact h
theorem p1_word_2T {cA : Nat → ClassId} {x : Nat} {a : Ad} {V : VS} {K : Ka} {Post : Option Nat → VS → Prop} (hO : KO K) (hH : HK cA x a V K) {t y k : Nat} (hk : k < K.nK) (ht : t < K.nL) (hy : y < K.nT) (h : Post (if sy K t y k then some (a.k k) else none) V) : vX1_word_2 cA x (nI k) (nI t) (nI y) V Post := by
  unfold vX1_word_2
  simp (disch := first | assumption | omega) only [nI_lt0, nI_clamp, vp_inT, nI_eq, imp_FT, imp_TF, true_and, and_true, bO_s, hH.x0, hH.x1, hH.x2, hH.x3, hH.x4, hH.x5, hH.x6, hH.x7, hH.x8, hH.x9, hH.x10, hH.x11, hH.x12, hH.x15, hH.x16, hH.x18, hH.x19, hH.x20, hH.vx, hH.c0, hH.c1, hH.c2, hH.c3, hH.c4, hH.c6, hH.vc, hH.vT, hH.vL, hH.vP, hH.vK, hH.t0, hH.t1, hH.t2, hH.t3, hH.t4, hH.vt, hH.l0, hH.l1, hH.l2, hH.l3, hH.l4, hH.vl, hH.p0, hH.p1, hH.p2, hH.vp, hH.k0, hH.w0, hH.k1, hH.w1, hH.k2, hH.w2, hH.k3, hH.w3, hH.k4, hH.w4, hH.k5, hH.w5, hH.q5, hH.vk, hH.vw, hH.sT, hH.sL, hH.sP, hH.sK, hH.gT, hH.gL, hH.gP, hH.gK]
  refine p1_heardT hO hH hk ht hy (bo (fun c => ?_) (fun c => ?_))
  · rw [show sy K t y k = false by
      unfold sy hw
      unfold hl2 at c
      cases e : hh K k <;> cases e2 : K.who k == t <;> simp_all] at h
    exact h
  · intro K8 e8
    refine p1_isWord hH hk ?_
    have e : sy K t y k = K.isW k := by
      unfold sy hw
      simp only [hl2, Bool.and_eq_true] at c
      rw [c.1, c.2.1, c.2.2, Bool.true_and, Bool.and_true, Bool.and_true]
    rw [e] at h
    rw [e8]
    refine bz (fun g => ?_) (fun g => ?_)
    · rw [g] at h; exact h
    · rw [g] at h
      simp (disch := first | assumption | omega) only [nI_lt0, nI_clamp, vp_inT, nI_eq, imp_FT, imp_TF, true_and, and_true, bO_s, hH.x0, hH.x1, hH.x2, hH.x3, hH.x4, hH.x5, hH.x6, hH.x7, hH.x8, hH.x9, hH.x10, hH.x11, hH.x12, hH.x15, hH.x16, hH.x18, hH.x19, hH.x20, hH.vx, hH.c0, hH.c1, hH.c2, hH.c3, hH.c4, hH.c6, hH.vc, hH.vT, hH.vL, hH.vP, hH.vK, hH.t0, hH.t1, hH.t2, hH.t3, hH.t4, hH.vt, hH.l0, hH.l1, hH.l2, hH.l3, hH.l4, hH.vl, hH.p0, hH.p1, hH.p2, hH.vp, hH.k0, hH.w0, hH.k1, hH.w1, hH.k2, hH.w2, hH.k3, hH.w3, hH.k4, hH.w4, hH.k5, hH.w5, hH.q5, hH.vk, hH.vw, hH.sT, hH.sL, hH.sP, hH.sK, hH.gT, hH.gL, hH.gP, hH.gK]
      exact h
theorem p1_aWord {cA : Nat → ClassId} {x : Nat} {a : Ad} {V : VS} {K : Ka} {Post : Option Nat → VS → Prop} (hO : KO K) (hH : HK cA x a V K) {b : Int32} (hs : ∀ k, ix b K.nK = some k → k < K.nK → b = nI k → Post (if hw K k then some (a.k k) else none) V) (hn : ix b K.nK = none → Post none V) : vX1_aWord cA x b V Post := by
  have h9T := hO.nT; have h9L := hO.nL; have h9K := hO.nK; have h9P := hO.nP
  unfold vX1_aWord
  simp (disch := first | assumption | omega) only [nI_lt0, nI_clamp, vp_inT, nI_eq, imp_FT, imp_TF, true_and, and_true, bO_s, hH.x0, hH.x1, hH.x2, hH.x3, hH.x4, hH.x5, hH.x6, hH.x7, hH.x8, hH.x9, hH.x10, hH.x11, hH.x12, hH.x15, hH.x16, hH.x18, hH.x19, hH.x20, hH.vx, hH.c0, hH.c1, hH.c2, hH.c3, hH.c4, hH.c6, hH.vc, hH.vT, hH.vL, hH.vP, hH.vK, hH.t0, hH.t1, hH.t2, hH.t3, hH.t4, hH.vt, hH.l0, hH.l1, hH.l2, hH.l3, hH.l4, hH.vl, hH.p0, hH.p1, hH.p2, hH.vp, hH.k0, hH.w0, hH.k1, hH.w1, hH.k2, hH.w2, hH.k3, hH.w3, hH.k4, hH.w4, hH.k5, hH.w5, hH.q5, hH.vk, hH.vw, hH.sT, hH.sL, hH.sP, hH.sK, hH.gT, hH.gL, hH.gP, hH.gK]
  refine p1_isHeardX hO hH (fun k e hk hb => bz (fun c => ?_) (fun c => ?_)) (fun e => br_t rfl (hn e))
  · have h := hs k e hk hb
    (simp only [Bool.false_and, Bool.true_and, Bool.and_false, Bool.and_true, Bool.false_or, Bool.true_or, Bool.or_false, Bool.or_true, Bool.not_true, Bool.not_false, bI_t, bI_f, if_true, if_false, beq_self_eq_true, decide_true, decide_false, reduceCtorEq, Bool.false_eq_true, hw, c] at h; exact h)
  · have h := hs k e hk hb
    subst hb
    simp (disch := first | assumption | omega) only [nI_lt0, nI_clamp, vp_inT, nI_eq, imp_FT, imp_TF, true_and, and_true, bO_s, hH.x0, hH.x1, hH.x2, hH.x3, hH.x4, hH.x5, hH.x6, hH.x7, hH.x8, hH.x9, hH.x10, hH.x11, hH.x12, hH.x15, hH.x16, hH.x18, hH.x19, hH.x20, hH.vx, hH.c0, hH.c1, hH.c2, hH.c3, hH.c4, hH.c6, hH.vc, hH.vT, hH.vL, hH.vP, hH.vK, hH.t0, hH.t1, hH.t2, hH.t3, hH.t4, hH.vt, hH.l0, hH.l1, hH.l2, hH.l3, hH.l4, hH.vl, hH.p0, hH.p1, hH.p2, hH.vp, hH.k0, hH.w0, hH.k1, hH.w1, hH.k2, hH.w2, hH.k3, hH.w3, hH.k4, hH.w4, hH.k5, hH.w5, hH.q5, hH.vk, hH.vw, hH.sT, hH.sL, hH.sP, hH.sK, hH.gT, hH.gL, hH.gP, hH.gK]
    intro K8 e8
    refine p1_isWord hH hk ?_
    rw [hw, c, Bool.true_and] at h
    rw [e8]
    refine bz (fun g => ?_) (fun g => ?_)
    · rw [g] at h; exact h
    · rw [g] at h
      simp (disch := first | assumption | omega) only [nI_lt0, nI_clamp, vp_inT, nI_eq, imp_FT, imp_TF, true_and, and_true, bO_s, hH.x0, hH.x1, hH.x2, hH.x3, hH.x4, hH.x5, hH.x6, hH.x7, hH.x8, hH.x9, hH.x10, hH.x11, hH.x12, hH.x15, hH.x16, hH.x18, hH.x19, hH.x20, hH.vx, hH.c0, hH.c1, hH.c2, hH.c3, hH.c4, hH.c6, hH.vc, hH.vT, hH.vL, hH.vP, hH.vK, hH.t0, hH.t1, hH.t2, hH.t3, hH.t4, hH.vt, hH.l0, hH.l1, hH.l2, hH.l3, hH.l4, hH.vl, hH.p0, hH.p1, hH.p2, hH.vp, hH.k0, hH.w0, hH.k1, hH.w1, hH.k2, hH.w2, hH.k3, hH.w3, hH.k4, hH.w4, hH.k5, hH.w5, hH.q5, hH.vk, hH.vw, hH.sT, hH.sL, hH.sP, hH.sK, hH.gT, hH.gL, hH.gP, hH.gK]
      exact h
theorem p1_isTaped {cA : Nat → ClassId} {x : Nat} {a : Ad} {V : VS} {K : Ka} {Post : Int32 → VS → Prop} (hO : KO K) (hH : HK cA x a V K) {t : Nat} {u : Int32} (ht : t < K.nL) (h : Post (bI (decide (0 ≤ K.taped t) && decide (K.taped t ≤ u))) V) : vX7_isTaped cA (a.l t) u V Post := by
  unfold vX7_isTaped
  simp (disch := first | assumption | omega) only [nI_lt0, nI_clamp, vp_inT, nI_eq, imp_FT, imp_TF, true_and, and_true, bO_s, hH.x0, hH.x1, hH.x2, hH.x3, hH.x4, hH.x5, hH.x6, hH.x7, hH.x8, hH.x9, hH.x10, hH.x11, hH.x12, hH.x15, hH.x16, hH.x18, hH.x19, hH.x20, hH.vx, hH.c0, hH.c1, hH.c2, hH.c3, hH.c4, hH.c6, hH.vc, hH.vT, hH.vL, hH.vP, hH.vK, hH.t0, hH.t1, hH.t2, hH.t3, hH.t4, hH.vt, hH.l0, hH.l1, hH.l2, hH.l3, hH.l4, hH.vl, hH.p0, hH.p1, hH.p2, hH.vp, hH.k0, hH.w0, hH.k1, hH.w1, hH.k2, hH.w2, hH.k3, hH.w3, hH.k4, hH.w4, hH.k5, hH.w5, hH.q5, hH.vk, hH.vw, hH.sT, hH.sL, hH.sP, hH.sK, hH.gT, hH.gL, hH.gP, hH.gK]
  rw [m1_ge (hO.tpm ht)]
  refine br_c (fun c => ?_) (fun c => br_c (fun d => ?_) (fun d => ?_))
  · (simp only [Bool.false_and, Bool.true_and, Bool.and_false, Bool.and_true, Bool.false_or, Bool.true_or, Bool.or_false, Bool.or_true, Bool.not_true, Bool.not_false, bI_t, bI_f, if_true, if_false, beq_self_eq_true, decide_true, decide_false, reduceCtorEq, Bool.false_eq_true, c] at h; exact h)
  · (simp only [Bool.false_and, Bool.true_and, Bool.and_false, Bool.and_true, Bool.false_or, Bool.true_or, Bool.or_false, Bool.or_true, Bool.not_true, Bool.not_false, bI_t, bI_f, if_true, if_false, beq_self_eq_true, decide_true, decide_false, reduceCtorEq, Bool.false_eq_true, Int32.not_le.mpr d] at h; exact h)
  · rw [Classical.not_not] at c
    (simp only [Bool.false_and, Bool.true_and, Bool.and_false, Bool.and_true, Bool.false_or, Bool.true_or, Bool.or_false, Bool.or_true, Bool.not_true, Bool.not_false, bI_t, bI_f, if_true, if_false, beq_self_eq_true, decide_true, decide_false, reduceCtorEq, Bool.false_eq_true, c, Int32.not_lt.mp d] at h; exact h)
theorem p1_lastOff {cA : Nat → ClassId} {x : Nat} {a : Ad} {V : VS} {K : Ka} {Post : Int32 → VS → Prop} (hO : KO K) (hH : HK cA x a V K) {t : Nat} {u : Int32} (ht : t < K.nL) (h : Post (loff K t u) V) : vX7_lastOff cA (a.l t) u V Post := by
  unfold vX7_lastOff
  simp (disch := first | assumption | omega) only [nI_lt0, nI_clamp, vp_inT, nI_eq, imp_FT, imp_TF, true_and, and_true, bO_s, hH.x0, hH.x1, hH.x2, hH.x3, hH.x4, hH.x5, hH.x6, hH.x7, hH.x8, hH.x9, hH.x10, hH.x11, hH.x12, hH.x15, hH.x16, hH.x18, hH.x19, hH.x20, hH.vx, hH.c0, hH.c1, hH.c2, hH.c3, hH.c4, hH.c6, hH.vc, hH.vT, hH.vL, hH.vP, hH.vK, hH.t0, hH.t1, hH.t2, hH.t3, hH.t4, hH.vt, hH.l0, hH.l1, hH.l2, hH.l3, hH.l4, hH.vl, hH.p0, hH.p1, hH.p2, hH.vp, hH.k0, hH.w0, hH.k1, hH.w1, hH.k2, hH.w2, hH.k3, hH.w3, hH.k4, hH.w4, hH.k5, hH.w5, hH.q5, hH.vk, hH.vw, hH.sT, hH.sL, hH.sP, hH.sK, hH.gT, hH.gL, hH.gP, hH.gK, forall_eq]
  rw [m1_ge (hO.tpm ht)]
  refine br_c (fun c => ?_) (fun c => ?_)
  · simp only [loff, c, false_and, if_false] at h; exact h
  · rw [Classical.not_not] at c
    simp only [loff, c, true_and] at h
    exact h
theorem p1_off {cA : Nat → ClassId} {x : Nat} {a : Ad} {V : VS} {K : Ka} {Post : Int32 → VS → Prop} (hO : KO K) (hH : HK cA x a V K) {t : Nat} {u : Int32} (ht : t < K.nL) (h : Post (offN K t u) V) : vX7_off cA (a.l t) u V Post := by
  unfold vX7_off
  simp (disch := first | assumption | omega) only [nI_lt0, nI_clamp, vp_inT, nI_eq, imp_FT, imp_TF, true_and, and_true, bO_s, hH.x0, hH.x1, hH.x2, hH.x3, hH.x4, hH.x5, hH.x6, hH.x7, hH.x8, hH.x9, hH.x10, hH.x11, hH.x12, hH.x15, hH.x16, hH.x18, hH.x19, hH.x20, hH.vx, hH.c0, hH.c1, hH.c2, hH.c3, hH.c4, hH.c6, hH.vc, hH.vT, hH.vL, hH.vP, hH.vK, hH.t0, hH.t1, hH.t2, hH.t3, hH.t4, hH.vt, hH.l0, hH.l1, hH.l2, hH.l3, hH.l4, hH.vl, hH.p0, hH.p1, hH.p2, hH.vp, hH.k0, hH.w0, hH.k1, hH.w1, hH.k2, hH.w2, hH.k3, hH.w3, hH.k4, hH.w4, hH.k5, hH.w5, hH.q5, hH.vk, hH.vw, hH.sT, hH.sL, hH.sP, hH.sK, hH.gT, hH.gL, hH.gP, hH.gK]
  refine p1_lastOff hO hH ht ?_
  simp (disch := first | assumption | omega) only [nI_lt0, nI_clamp, vp_inT, nI_eq, imp_FT, imp_TF, true_and, and_true, bO_s, hH.x0, hH.x1, hH.x2, hH.x3, hH.x4, hH.x5, hH.x6, hH.x7, hH.x8, hH.x9, hH.x10, hH.x11, hH.x12, hH.x15, hH.x16, hH.x18, hH.x19, hH.x20, hH.vx, hH.c0, hH.c1, hH.c2, hH.c3, hH.c4, hH.c6, hH.vc, hH.vT, hH.vL, hH.vP, hH.vK, hH.t0, hH.t1, hH.t2, hH.t3, hH.t4, hH.vt, hH.l0, hH.l1, hH.l2, hH.l3, hH.l4, hH.vl, hH.p0, hH.p1, hH.p2, hH.vp, hH.k0, hH.w0, hH.k1, hH.w1, hH.k2, hH.w2, hH.k3, hH.w3, hH.k4, hH.w4, hH.k5, hH.w5, hH.q5, hH.vk, hH.vw, hH.sT, hH.sL, hH.sP, hH.sK, hH.gT, hH.gL, hH.gP, hH.gK, forall_eq]
  unfold offN at h
  by_cases c : 0 ≤ loff K t u - K.begins t + 1
  · rw [if_pos c] at h
    by_cases d : 0 < loff K t u - K.begins t + 1
    · rw [if_pos d]; exact h
    · rw [if_neg d]
      rw [Int32.le_antisymm (Int32.not_lt.mp d) c] at h
      exact h
  · rw [if_neg c] at h
    rw [if_neg (fun d => c (Int32.le_of_lt d))]
    exact h
theorem p1_counts {cA : Nat → ClassId} {x : Nat} {a : Ad} {V : VS} {K : Ka} {Post : Int32 → VS → Prop} (hO : KO K) (hH : HK cA x a V K) {k : Nat} {b : Bool} (hk : k < K.nK) (h : Post (bI (!b || tp K k)) V) : vX1_counts cA x (a.k k) (bI b) V Post := by
  have h9w := hO.who k hk
  unfold vX1_counts
  refine bz (fun c => ?_) (fun c => ?_)
  · rw [c] at h; exact h
  · rw [c] at h
    simp (disch := first | assumption | omega) only [nI_lt0, nI_clamp, vp_inT, nI_eq, imp_FT, imp_TF, true_and, and_true, bO_s, hH.x0, hH.x1, hH.x2, hH.x3, hH.x4, hH.x5, hH.x6, hH.x7, hH.x8, hH.x9, hH.x10, hH.x11, hH.x12, hH.x15, hH.x16, hH.x18, hH.x19, hH.x20, hH.vx, hH.c0, hH.c1, hH.c2, hH.c3, hH.c4, hH.c6, hH.vc, hH.vT, hH.vL, hH.vP, hH.vK, hH.t0, hH.t1, hH.t2, hH.t3, hH.t4, hH.vt, hH.l0, hH.l1, hH.l2, hH.l3, hH.l4, hH.vl, hH.p0, hH.p1, hH.p2, hH.vp, hH.k0, hH.w0, hH.k1, hH.w1, hH.k2, hH.w2, hH.k3, hH.w3, hH.k4, hH.w4, hH.k5, hH.w5, hH.q5, hH.vk, hH.vw, hH.sT, hH.sL, hH.sP, hH.sK, hH.gT, hH.gL, hH.gP, hH.gK]
    refine p1_isTaped hO hH h9w ?_
    exact bz (fun d => by simp only [tp, d, Bool.not_true, Bool.false_or] at h; exact h) (fun d => by simp only [tp, d, Bool.not_true, Bool.false_or] at h; exact h)
def f2B (K : Ka) (b : Bool) (k i : Nat) : Bool := sy K (K.who k) (K.thing k) i && (!b || tp K i)
def f2 (K : Ka) (b : Bool) (k : Nat) : Bool := !anyB (f2B K b k) k
theorem f2_f (K : Ka) (k : Nat) : f2 K false k = fs K k := by
  unfold f2 fs
  congr 1
  refine anyB_congr (fun i _ => ?_)
  simp only [f2B, Bool.not_false, Bool.true_or, Bool.and_true]
theorem p1_isFirst {cA : Nat → ClassId} {x : Nat} {a : Ad} {V : VS} {K : Ka} {Post : Int32 → VS → Prop} (hO : KO K) (hH : HK cA x a V K) {k : Nat} {b : Bool} (hk : k < K.nK) (h : Post (bI (f2 K b k)) V) : vX1_isFirst cA x (nI k) (bI b) V Post := by
  have h9T := hO.nT; have h9L := hO.nL; have h9K := hO.nK; have h9P := hO.nP; have h9w := hO.who k hk; have h9t := hO.thing k hk
  unfold vX1_isFirst
  simp (disch := first | assumption | omega) only [nI_lt0, nI_clamp, vp_inT, nI_eq, imp_FT, imp_TF, true_and, and_true, bO_s, hH.x0, hH.x1, hH.x2, hH.x3, hH.x4, hH.x5, hH.x6, hH.x7, hH.x8, hH.x9, hH.x10, hH.x11, hH.x12, hH.x15, hH.x16, hH.x18, hH.x19, hH.x20, hH.vx, hH.c0, hH.c1, hH.c2, hH.c3, hH.c4, hH.c6, hH.vc, hH.vT, hH.vL, hH.vP, hH.vK, hH.t0, hH.t1, hH.t2, hH.t3, hH.t4, hH.vt, hH.l0, hH.l1, hH.l2, hH.l3, hH.l4, hH.vl, hH.p0, hH.p1, hH.p2, hH.vp, hH.k0, hH.w0, hH.k1, hH.w1, hH.k2, hH.w2, hH.k3, hH.w3, hH.k4, hH.w4, hH.k5, hH.w5, hH.q5, hH.vk, hH.vw, hH.sT, hH.sL, hH.sP, hH.sK, hH.gT, hH.gL, hH.gP, hH.gK]
  refine upL (W := fun f i => anyB (f2B K b k) i = false → vX1_isFirst_l18 cA x (nI k) (bI b) Post f (a.k k) (nI i) V) (e := k) ?_ ?_ |>.imp (fun f h => h rfl)
  · intro n ha
    rw [vX1_isFirst_l18]
    refine br_t (Int32.le_refl _) ?_
    (simp only [Bool.false_and, Bool.true_and, Bool.and_false, Bool.and_true, Bool.false_or, Bool.true_or, Bool.or_false, Bool.or_true, Bool.not_true, Bool.not_false, bI_t, bI_f, if_true, if_false, beq_self_eq_true, decide_true, decide_false, reduceCtorEq, Bool.false_eq_true, f2, ha] at h; exact h)
  · intro n i hi ih ha
    rw [vX1_isFirst_l18]
    refine br_f (nI_ge hi (by omega)) ?_
    have h9i : i < K.nK := by omega
    simp only [vX1_isFirst_c66, forall_eq, nI_1]
    simp (disch := first | assumption | omega) only [nI_lt0, nI_clamp, vp_inT, nI_eq, imp_FT, imp_TF, true_and, and_true, bO_s, hH.x0, hH.x1, hH.x2, hH.x3, hH.x4, hH.x5, hH.x6, hH.x7, hH.x8, hH.x9, hH.x10, hH.x11, hH.x12, hH.x15, hH.x16, hH.x18, hH.x19, hH.x20, hH.vx, hH.c0, hH.c1, hH.c2, hH.c3, hH.c4, hH.c6, hH.vc, hH.vT, hH.vL, hH.vP, hH.vK, hH.t0, hH.t1, hH.t2, hH.t3, hH.t4, hH.vt, hH.l0, hH.l1, hH.l2, hH.l3, hH.l4, hH.vl, hH.p0, hH.p1, hH.p2, hH.vp, hH.k0, hH.w0, hH.k1, hH.w1, hH.k2, hH.w2, hH.k3, hH.w3, hH.k4, hH.w4, hH.k5, hH.w5, hH.q5, hH.vk, hH.vw, hH.sT, hH.sL, hH.sP, hH.sK, hH.gT, hH.gL, hH.gP, hH.gK]
    refine p1_word_2T hO hH h9i h9w h9t (bo (fun c => ?_) (fun c => ?_))
    · exact ih (by simp only [anyB, ha, f2B, c, Bool.false_and, Bool.or_false])
    · simp (disch := first | assumption | omega) only [nI_lt0, nI_clamp, vp_inT, nI_eq, imp_FT, imp_TF, true_and, and_true, bO_s, hH.x0, hH.x1, hH.x2, hH.x3, hH.x4, hH.x5, hH.x6, hH.x7, hH.x8, hH.x9, hH.x10, hH.x11, hH.x12, hH.x15, hH.x16, hH.x18, hH.x19, hH.x20, hH.vx, hH.c0, hH.c1, hH.c2, hH.c3, hH.c4, hH.c6, hH.vc, hH.vT, hH.vL, hH.vP, hH.vK, hH.t0, hH.t1, hH.t2, hH.t3, hH.t4, hH.vt, hH.l0, hH.l1, hH.l2, hH.l3, hH.l4, hH.vl, hH.p0, hH.p1, hH.p2, hH.vp, hH.k0, hH.w0, hH.k1, hH.w1, hH.k2, hH.w2, hH.k3, hH.w3, hH.k4, hH.w4, hH.k5, hH.w5, hH.q5, hH.vk, hH.vw, hH.sT, hH.sL, hH.sP, hH.sK, hH.gT, hH.gL, hH.gP, hH.gK]
      refine p1_counts hO hH h9i (bz (fun d => ?_) (fun d => ?_))
      · exact ih (by simp only [anyB, ha, f2B, d, Bool.and_false, Bool.or_false])
      · rw [f2, anyB_t i hi (by simp only [f2B, c, d, Bool.and_true])] at h
        exact h
theorem p1_ledBy {cA : Nat → ClassId} {x : Nat} {a : Ad} {V : VS} {K : Ka} {Post : Int32 → VS → Prop} (hO : KO K) (hH : HK cA x a V K) {k : Nat} (hk : k < K.nK) (hw : K.isW k = true) (h : Post (lb K k) V) : vX1_ledBy cA x (nI k) V Post := by
  have h9T := hO.nT; have h9L := hO.nL; have h9K := hO.nK; have h9P := hO.nP; have h9w := hO.who k hk; have h9t := hO.thing k hk
  unfold vX1_ledBy
  simp (disch := first | assumption | omega) only [nI_lt0, nI_clamp, vp_inT, nI_eq, imp_FT, imp_TF, true_and, and_true, bO_s, hH.x0, hH.x1, hH.x2, hH.x3, hH.x4, hH.x5, hH.x6, hH.x7, hH.x8, hH.x9, hH.x10, hH.x11, hH.x12, hH.x15, hH.x16, hH.x18, hH.x19, hH.x20, hH.vx, hH.c0, hH.c1, hH.c2, hH.c3, hH.c4, hH.c6, hH.vc, hH.vT, hH.vL, hH.vP, hH.vK, hH.t0, hH.t1, hH.t2, hH.t3, hH.t4, hH.vt, hH.l0, hH.l1, hH.l2, hH.l3, hH.l4, hH.vl, hH.p0, hH.p1, hH.p2, hH.vp, hH.k0, hH.w0, hH.k1, hH.w1, hH.k2, hH.w2, hH.k3, hH.w3, hH.k4, hH.w4, hH.k5, hH.w5, hH.q5, hH.vk, hH.vw, hH.sT, hH.sL, hH.sP, hH.sK, hH.gT, hH.gL, hH.gP, hH.gK, forall_eq]
  have hv := (hO.value k hk).2 hw
  unfold lb at h
  generalize hp : (fun i => ak K (K.who k) i && (K.thing i == K.thing k && decide (K.value i = K.value k))) = p at h
  refine dnL (W := fun f i => lastI p k = lastI p i → vX1_ledBy_l19 cA x (nI k) Post f (a.k k) (nI i - 1) V) (e := k) ?_ ?_ |>.imp (fun f h => h rfl)
  · intro n e
    rw [vX1_ledBy_l19]
    refine br_t (by decide) ?_
    rw [e] at h
    exact h
  · intro n i hi ih e
    have h9i : i < K.nK := by omega
    rw [vX1_ledBy_l19, nI_pred]
    refine br_f (nI_pos (by omega)) ?_
    simp only [vX1_ledBy_c65, forall_eq]
    rw [show nI i + -1 = nI i - 1 from (Int32.sub_eq_add_neg _ _).symm]
    have no : p i = false → vX1_ledBy_l19 cA x (nI k) Post n (a.k k) (nI i - 1) V := fun z => ih (by rw [e, lastI, z]; rfl)
    simp (disch := first | assumption | omega) only [nI_lt0, nI_clamp, vp_inT, nI_eq, imp_FT, imp_TF, true_and, and_true, bO_s, hH.x0, hH.x1, hH.x2, hH.x3, hH.x4, hH.x5, hH.x6, hH.x7, hH.x8, hH.x9, hH.x10, hH.x11, hH.x12, hH.x15, hH.x16, hH.x18, hH.x19, hH.x20, hH.vx, hH.c0, hH.c1, hH.c2, hH.c3, hH.c4, hH.c6, hH.vc, hH.vT, hH.vL, hH.vP, hH.vK, hH.t0, hH.t1, hH.t2, hH.t3, hH.t4, hH.vt, hH.l0, hH.l1, hH.l2, hH.l3, hH.l4, hH.vl, hH.p0, hH.p1, hH.p2, hH.vp, hH.k0, hH.w0, hH.k1, hH.w1, hH.k2, hH.w2, hH.k3, hH.w3, hH.k4, hH.w4, hH.k5, hH.w5, hH.q5, hH.vk, hH.vw, hH.sT, hH.sL, hH.sP, hH.sK, hH.gT, hH.gL, hH.gP, hH.gK]
    refine p1_heardT hO hH h9i h9w h9t (bo (fun c => no ?_) (fun c => ?_))
    · rw [← hp]
      dsimp only
      unfold ak
      unfold hl2 at c
      cases e1 : hh K i <;> cases e2 : K.who i == K.who k <;> simp_all
    · simp only [hl2, Bool.and_eq_true] at c
      refine p1_isPut hO hH h9i (bz (fun d => no ?_) (fun d => ?_))
      · rw [← hp]
        dsimp only
        unfold ak
        rw [c.1, c.2.1, c.2.2]
        cases e1 : K.isW i
        · rw [e1] at d
          have d2 : ¬ 0 ≤ K.value i := by simpa using d
          rw [decide_eq_false (fun q => d2 (by rw [q]; exact hv))]
          rfl
        · rfl
      · simp only [Bool.and_eq_true, Bool.not_eq_true'] at d
        simp (disch := first | assumption | omega) only [nI_lt0, nI_clamp, vp_inT, nI_eq, imp_FT, imp_TF, true_and, and_true, bO_s, hH.x0, hH.x1, hH.x2, hH.x3, hH.x4, hH.x5, hH.x6, hH.x7, hH.x8, hH.x9, hH.x10, hH.x11, hH.x12, hH.x15, hH.x16, hH.x18, hH.x19, hH.x20, hH.vx, hH.c0, hH.c1, hH.c2, hH.c3, hH.c4, hH.c6, hH.vc, hH.vT, hH.vL, hH.vP, hH.vK, hH.t0, hH.t1, hH.t2, hH.t3, hH.t4, hH.vt, hH.l0, hH.l1, hH.l2, hH.l3, hH.l4, hH.vl, hH.p0, hH.p1, hH.p2, hH.vp, hH.k0, hH.w0, hH.k1, hH.w1, hH.k2, hH.w2, hH.k3, hH.w3, hH.k4, hH.w4, hH.k5, hH.w5, hH.q5, hH.vk, hH.vw, hH.sT, hH.sL, hH.sP, hH.sK, hH.gT, hH.gL, hH.gP, hH.gK]
        refine br_c (fun g => ?_) (fun g => no ?_)
        · rw [e, lastI, ← hp] at h
          simp only [ak, c.1, c.2.1, c.2.2, d.1, g, decide_true, Bool.not_false, Bool.and_true, if_true] at h
          exact h
        · rw [← hp]
          dsimp only
          rw [decide_eq_false g, Bool.and_false, Bool.and_false]
