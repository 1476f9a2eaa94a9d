/-! the record's tokens: the same, with codes of their own -/
def cmB (v : Int32) : Bool := decide (v = 60) || (decide (v = 61) || (decide (v = 62) || (decide (v = 256) || (decide (v = 257) || decide (v = 258)))))
def swI (v : Int32) : Int32 := if v = 14 then 15 else if v = 15 then 14 else v
def cmC (v : Int32) : Int32 := if v = 60 then 0 else if v = 256 then 1 else if v = 61 then 2 else if v = 258 then 3 else if v = 257 then 4 else 5
def rK (s : Nat) (v : Int32) : Int32 := if s = 0 then 1 else if s = 1 then 2 else if s = 2 then 3 else if s = 3 then (if cmB v then 5 else 4) else if s = 4 then 0 else 6
def rW (s : Nat) (v : Int32) : Int32 := if s = 0 then swI v else if s = 3 then (if cmB v then cmC v else v) else v
/-- the text in the record -/
def TM (B : Nat → Int32) (n : Nat) (M : MS) : Prop := (mi M 6 = nI n) ∧ (∀ j, j < n → ma M 0 j = B j) ∧ (∀ j, j < 132 → ma M 3 j = wdC j) ∧ (∀ j, j < n → byt (B j)) ∧ (n ≤ 800)
theorem TM.stop {B : Nat → Int32} {n : Nat} {M : MS} (h : TM B n M) : mi M 6 = nI n := h.1
theorem TM.tape {B : Nat → Int32} {n : Nat} {M : MS} (h : TM B n M) : ∀ j, j < n → ma M 0 j = B j := h.2.1
theorem TM.words {B : Nat → Int32} {n : Nat} {M : MS} (h : TM B n M) : ∀ j, j < 132 → ma M 3 j = wdC j := h.2.2.1
theorem TM.bt {B : Nat → Int32} {n : Nat} {M : MS} (h : TM B n M) : ∀ j, j < n → byt (B j) := h.2.2.2.1
theorem TM.n8 {B : Nat → Int32} {n : Nat} {M : MS} (h : TM B n M) : n ≤ 800 := h.2.2.2.2
/-- the token's fields alone change -/
def FR (M M' : MS) : Prop := (∀ k, k ≠ 7 → k ≠ 8 → k ≠ 9 → k ≠ 10 → mi M' k = mi M k) ∧ (M'.2 = M.2)
theorem FR.i {M M' : MS} (h : FR M M') : ∀ k, k ≠ 7 → k ≠ 8 → k ≠ 9 → k ≠ 10 → mi M' k = mi M k := h.1
theorem FR.r {M M' : MS} (h : FR M M') : M'.2 = M.2 := h.2
theorem FR.rf (M : MS) : FR M M := ⟨fun _ _ _ _ _ => rfl, rfl⟩
theorem FR.tr {M M' M2 : MS} (h : FR M M') (g : FR M' M2) : FR M M2 := ⟨fun k a b c d => (g.i k a b c d).trans (h.i k a b c d), g.r.trans h.r⟩
theorem FR.si {M M' : MS} (h : FR M M') {k : Nat} (hk : k = 7 ∨ k = 8 ∨ k = 9 ∨ k = 10) (v : Int32) : FR M (si M' k v) := by
  refine ⟨fun j a b c d => ?_, h.r⟩
  rw [mi_si, if_neg (by rcases hk with rfl | rfl | rfl | rfl <;> assumption)]
  exact h.i j a b c d
theorem FR.a {M M' : MS} (h : FR M M') : ma M' = ma M := by show M'.2.2.1 = M.2.2.1; rw [h.r]
theorem TM.fr {B : Nat → Int32} {n : Nat} {M M' : MS} (h : TM B n M) (g : FR M M') : TM B n M' := by
  obtain ⟨h1, h2, h3⟩ := h
  exact ⟨(g.i 6 (by decide) (by decide) (by decide) (by decide)).trans h1, by rw [g.a]; exact h2, by rw [g.a]; exact h3.1, h3.2⟩
theorem p4_isSmallT {B : Nat → Int32} {n q : Nat} {M : MS} {Post : Int32 → MS → Prop} (hT : TM B n M) (hq : q ≤ n) (h : Post (bI (decide (q < n) && smB (B q))) M) : w4_isSmall (nI q) M Post := by
  have h8 := hT.n8
  unfold w4_isSmall
  rw [hT.stop]
  refine br_c (fun c => ?_) (fun c => ?_)
  · rw [nI_leI (by omega) (by omega)] at c
    rw [decide_eq_false (by omega), Bool.false_and] at h
    exact h
  · rw [nI_leI (by omega) (by omega)] at c
    have hq2 : q < n := by omega
    rw [nI_clamp (by omega), hT.tape q hq2]
    rw [decide_eq_true hq2, Bool.true_and, smB] at h
    refine ⟨by rw [mN_0]; exact vp_in_nI (by omega) (by omega), br_c (fun d => ?_) (fun d => ⟨by rw [mN_0]; exact vp_in_nI (by omega) (by omega), br_c (fun e => ?_) (fun e => ?_)⟩)⟩
    · rw [decide_eq_false (Int32.not_le.mpr d), Bool.false_and] at h; exact h
    · rw [decide_eq_false (Int32.not_le.mpr e), Bool.and_false] at h; exact h
    · rw [decide_eq_true (Int32.not_lt.mp d), decide_eq_true (Int32.not_lt.mp e)] at h; exact h
theorem p4_isDigitT {B : Nat → Int32} {n q : Nat} {M : MS} {Post : Int32 → MS → Prop} (hT : TM B n M) (hq : q ≤ n) (h : Post (bI (decide (q < n) && dgB (B q))) M) : w4_isDigit (nI q) M Post := by
  have h8 := hT.n8
  unfold w4_isDigit
  rw [hT.stop]
  refine br_c (fun c => ?_) (fun c => ?_)
  · rw [nI_leI (by omega) (by omega)] at c
    rw [decide_eq_false (by omega), Bool.false_and] at h
    exact h
  · rw [nI_leI (by omega) (by omega)] at c
    have hq2 : q < n := by omega
    rw [nI_clamp (by omega), hT.tape q hq2]
    rw [decide_eq_true hq2, Bool.true_and, dgB] at h
    refine ⟨by rw [mN_0]; exact vp_in_nI (by omega) (by omega), br_c (fun d => ?_) (fun d => ⟨by rw [mN_0]; exact vp_in_nI (by omega) (by omega), br_c (fun e => ?_) (fun e => ?_)⟩)⟩
    · rw [decide_eq_false (Int32.not_le.mpr d), Bool.false_and] at h; exact h
    · rw [decide_eq_false (Int32.not_le.mpr e), Bool.and_false] at h; exact h
    · rw [decide_eq_true (Int32.not_lt.mp d), decide_eq_true (Int32.not_lt.mp e)] at h; exact h
theorem p4_packed {B : Nat → Int32} {n q e : Nat} {M : MS} {Post : Int32 → MS → Prop} (hT : TM B n M) (hq : q ≤ e) (he : e ≤ n) (h : Post (pkN B q e 6) M) : w4_packed (nI q) (nI e) M Post := by
  have h8 := hT.n8
  unfold w4_packed
  refine upL (W := fun f i => w4_packed_l5 (nI q) (nI e) Post f (pkN B q e i) (nI (q + i)) M) (e := 6) ?_ ?_
  · intro k
    rw [w4_packed_l5, show (6 : Int32) = nI 6 from rfl, nI_add]
    exact br_t (Int32.le_refl _) h
  · intro k i hi ih
    rw [w4_packed_l5, show (6 : Int32) = nI 6 from rfl, nI_add]
    simp only [w4_packed_c37, forall_eq, nI_1]
    refine br_f (nI_ge (by omega) (by omega)) (br_c (fun c => ?_) (fun c => ?_))
    · rw [nI_leI (by omega) (by omega)] at c
      rw [pkN, if_neg (by omega)] at ih
      exact ih
    · rw [nI_leI (by omega) (by omega)] at c
      rw [nI_clamp (by omega), hT.tape _ (by omega)]
      rw [pkN, if_pos (by omega)] at ih
      exact ⟨by rw [mN_0]; exact vp_in_nI (by omega) (by omega), ih⟩
/-- the record's order of words -/
def rx (k : Nat) : Nat := if k = 14 then 15 else if k = 15 then 14 else k
def rOf : Nat → Nat
  | 0 => 0
  | k + 1 => rOf k + (nmLen (rx k) + 1)
theorem rx_27 {k : Nat} (h : k < 27) : rx k < 27 := by unfold rx; split; omega; split <;> omega
theorem rx_sw {k : Nat} (h : k < 27) : swI (nI (rx k)) = nI k := by
  have : ∀ k, k < 27 → swI (nI (rx k)) = nI k := by decide +kernel
  exact this k h
theorem rx_rx {k : Nat} (h : k < 27) : rx (rx k) = k := by
  have : ∀ k, k < 27 → rx (rx k) = k := by decide +kernel
  exact this k h
theorem rOf_27 : rOf 27 = 132 := by decide +kernel
theorem rOf_le : ∀ k, k < 27 → rOf k + (nmLen (rx k) + 1) ≤ 132 := by decide +kernel
theorem wdC_in : ∀ k, k < 27 → ∀ i, i < nmLen (rx k) → wdC (rOf k + i) = nmB (rx k) i ∧ ¬ nmB (rx k) i = 32 := by decide +kernel
theorem wdC_32 : ∀ k, k < 27 → wdC (rOf k + nmLen (rx k)) = 32 := by decide +kernel
theorem nm_one : ∀ w, w < 27 → ∀ v, v < 27 → nmLen w = nmLen v → (∀ i, i < nmLen w → nmB w i = nmB v i) → w = v := by decide +kernel
theorem wdB_one {B : Nat → Int32} {q e w v : Nat} (hw : w < 27) (hv : v < 27) (h1 : wdB B q e w = true) (h2 : wdB B q e v = true) : w = v := by
  unfold wdB at h1 h2
  simp only [Bool.and_eq_true, decide_eq_true_iff, Bool.not_eq_true'] at h1 h2
  refine nm_one w hw v hv (h1.1.trans h2.1.symm) (fun i hi => ?_)
  have a1 := anyB_f h1.2 i (by omega)
  have a2 := anyB_f h2.2 i (by omega)
  simp only [Bool.not_eq_false', decide_eq_true_iff] at a1 a2
  rw [a1, a2]
theorem wdI_at {B : Nat → Int32} {q e w : Nat} (hw : w < 27) (h : wdB B q e w = true) : wdI B q e = nI w := by
  unfold wdI
  refine firstI_at hw h (anyB_of (fun i hi => ?_))
  cases c : wdB B q e i with
  | false => rfl
  | true => exact absurd (wdB_one (by omega) hw c h) (by omega)
theorem p4_wordAt {B : Nat → Int32} {n q e : Nat} {M : MS} {Post : Int32 → MS → Prop} (hT : TM B n M) (hq : q ≤ e) (he : e ≤ n) (h : Post (swI (wdI B q e)) M) : w4_wordAt (nI q) (nI e) M Post := by
  have h8 := hT.n8
  unfold w4_wordAt
  refine upL (W := fun f k => anyB (fun k => wdB B q e (rx k)) k = false → w4_wordAt_l5 (nI q) (nI e) Post f (nI k) (nI (rOf k)) M) (e := 27) ?_ ?_ |>.imp (fun f h => h rfl)
  · intro f ha
    rw [w4_wordAt_l5, mN_3, rOf_27]
    refine br_t (Int32.le_refl _) ?_
    have : wdI B q e = -1 := by
      unfold wdI
      refine firstI_no (anyB_of (fun i hi => ?_))
      have := anyB_f ha (rx i) (rx_27 hi)
      rw [rx_rx hi] at this
      exact this
    rw [this] at h
    exact h
  · intro f k hk ih ha
    have hl := nm_lt _ (rx_27 hk)
    have hof := rOf_le k hk
    rw [w4_wordAt_l5, mN_3]
    refine br_f (nI_ge (by omega) (by decide)) ?_
    have c104 : ∀ b : Bool, wdB B q e (rx k) = b → w4_wordAt_c104 (nI q) (nI e) (w4_wordAt_l5 (nI q) (nI e) Post f) Post (nI k) (nI (rOf k)) (nI (nmLen (rx k))) (bI b) M := by
      intro b hb
      unfold w4_wordAt_c104
      simp only [forall_eq, nI_1, nI_add]
      refine bz (fun c => ?_) (fun c => ?_)
      · subst c
        exact ih (by simp only [anyB, ha, hb, Bool.or_false])
      · subst c
        rw [wdI_at (rx_27 hk) hb, rx_sw hk] at h
        exact h
    have c52 : ∀ b : Bool, decide (nmLen (rx k) = e - q) = b → w4_wordAt_c52 (nI q) (nI e) (w4_wordAt_l5 (nI q) (nI e) Post f) Post (nI k) (nI (rOf k)) (nI (nmLen (rx k))) (bI b) M := by
      intro b hb
      unfold w4_wordAt_c52
      refine upL (W := fun f2 i => w4_wordAt_l57 (nI q) (nI e) (w4_wordAt_l5 (nI q) (nI e) Post f) Post f2 (nI k) (nI (rOf k)) (nI (nmLen (rx k))) (bI (b && !anyB (fun j => !decide (nmB (rx k) j = B (q + j))) i)) (nI i) M) (e := nmLen (rx k)) ?_ ?_ |>.imp (fun f2 h => by
        have h9 : (b && !anyB (fun j => !decide (nmB (rx k) j = B (q + j))) 0) = b := by simp only [anyB, Bool.not_false, Bool.and_true]
        rw [h9] at h; exact h)
      · intro f2
        rw [w4_wordAt_l57]
        refine br_t (Int32.le_refl _) (c104 _ ?_)
        unfold wdB
        cases b with
        | false => rw [hb, Bool.false_and, Bool.false_and]
        | true =>
          have := of_decide_eq_true hb
          rw [hb, Bool.true_and, Bool.true_and, this]
      · intro f2 i hi ih2
        rw [w4_wordAt_l57]
        refine br_f (nI_ge hi (by omega)) (bz (fun c => ?_) (fun c => ?_))
        · rw [c]
          refine c104 false ?_
          unfold wdB
          rw [Bool.and_eq_false_iff] at c ⊢
          rcases c with c | c
          · left; rw [hb]; exact c
          · cases hb2 : decide (nmLen (rx k) = e - q) with
            | false => left; rfl
            | true =>
              right
              rw [Bool.not_eq_false'] at c ⊢
              obtain ⟨j, j1, j2⟩ := anyB_ex c
              have := of_decide_eq_true hb2
              exact anyB_t j (by omega) j2
        · simp only [Bool.and_eq_true, Bool.not_eq_true'] at c
          have hb2 : nmLen (rx k) = e - q := of_decide_eq_true (hb.trans c.1)
          simp only [w4_wordAt_c96, forall_eq, nI_1, nI_add]
          rw [nI_clamp (by omega), nI_clamp (by omega), hT.tape _ (by omega), hT.words _ (by omega), (wdC_in k hk i hi).1]
          refine ⟨by rw [mN_3]; exact vp_in_nI (by omega) (by decide), by rw [mN_0]; exact vp_in_nI (by omega) (by decide), br_c (fun d => ?_) (fun d => ?_)⟩
          · rw [c.1, anyB, c.2, decide_eq_true d] at ih2
            exact ih2
          · rw [c.1, anyB, c.2, decide_eq_false d] at ih2
            exact ih2
    refine upL (W := fun f2 i => w4_wordAt_l18 (nI q) (nI e) (w4_wordAt_l5 (nI q) (nI e) Post f) Post f2 (nI k) (nI (rOf k)) (nI i) M) (e := nmLen (rx k)) ?_ ?_
    · intro f2
      rw [w4_wordAt_l18, nI_add, nI_clamp (by omega), hT.words _ (by omega), wdC_32 k hk]
      refine ⟨by rw [mN_3]; exact vp_in_nI (by omega) (by decide), br_t rfl ?_⟩
      rw [nI_sub hq, nI_eq (by omega) (by omega)]
      exact br_c (fun c => c52 true (decide_eq_true c)) (fun c => c52 false (decide_eq_false c))
    · intro f2 i hi ih2
      rw [w4_wordAt_l18, nI_add, nI_clamp (by omega), hT.words _ (by omega), (wdC_in k hk i hi).1]
      simp only [forall_eq, nI_1]
      exact ⟨by rw [mN_3]; exact vp_in_nI (by omega) (by decide), br_f (wdC_in k hk i hi).2 ih2⟩
