theorem nI_sub2 {a b : Nat} (h : b ≤ a) : nI a - nI b = nI (a - b) := nI_sub h
theorem p1_rword {cA : Nat → ClassId} {x u r : Nat} {f B : Nat → Int32} {n q e : Nat} {V : VS} {l : List Value} {b3 b4 b5 : Int32} {m : Value} {Post : Int32 → VS → Prop} (hT : TX cA x u f B n V) (hr : V r = some (.inr (2, l))) (hq : q ≤ e) (he : e ≤ n) (hs : ∀ j, q ≤ j → j < e → smB (B j) = true) (h : Post (wdI B q e) (vU V r (.inr (2, oRd (nI e) (nI n) (nI q) b3 b4 b5 m x)))) : vX2_word cA r (vU V r (.inr (2, oRd (nI e) (nI n) (nI q) b3 b4 b5 m x))) Post := by
  have h8 := hT.n8
  have hT' := hT.upd hr (oRd (nI e) (nI n) (nI q) b3 b4 b5 m x)
  unfold vX2_word
  refine upL (W := fun fu w => anyB (wdB B q e) w = false → vX2_word_l2 cA r Post fu (nI w) (vU V r (.inr (2, oRd (nI e) (nI n) (nI q) b3 b4 b5 m x)))) (e := 27) ?_ ?_ |>.imp (fun fu h => h rfl)
  · intro k ha
    rw [vX2_word_l2]
    refine br_t (Int32.le_refl _) ?_
    rw [wdI, firstI_no ha] at h
    exact h
  · intro k w hw ih ha
    rw [vX2_word_l2]
    have hl := nm_lt w hw
    refine br_f (nI_ge (b := 27) hw (by decide)) ⟨vp_in_nI hw (by decide), ?_⟩
    rw [nI_clamp (by omega)]
    have no : wdB B q e w = false → vX2_word_c95 cA r (vX2_word_l2 cA r Post k) Post (nI w) (vU V r (.inr (2, oRd (nI e) (nI n) (nI q) b3 b4 b5 m x))) := fun z => by
      unfold vX2_word_c95
      simp only [forall_eq, nI_1]
      exact ih (by simp only [anyB, ha, z, Bool.or_false])
    refine p1_length hw ?_
    simp (disch := first | assumption | omega) only [nI_lt0, nI_clamp, vp_inT, nI_eq, imp_FT, imp_TF, true_and, and_true, bO_s, rdv, rd0, rd1, rd2, rd3, rd4, rd5, rd6, rd7, pf0, pf1, pf2, pf3, pf4, pf5, nI_1]
    rw [nI_sub hq, nI_eq (by omega) (by omega)]
    refine br_c (fun c => ?_) (fun c => no (by unfold wdB; rw [decide_eq_false c, Bool.false_and]))
    refine upL (W := fun fu i => anyB (fun i => !decide (nmB w i = B (q + i))) i = false → vX2_word_l35 cA r (vX2_word_l2 cA r Post k) Post fu (nI w) (nI i) (vU V r (.inr (2, oRd (nI e) (nI n) (nI q) b3 b4 b5 m x)))) (e := e - q) ?_ ?_ |>.imp (fun fu h => h rfl)
    · intro k2 hb
      rw [vX2_word_l35]
      unfold vX2_word_c80
      simp (disch := first | assumption | omega) only [nI_lt0, nI_clamp, vp_inT, nI_eq, imp_FT, imp_TF, true_and, and_true, bO_s, rdv, rd0, rd1, rd2, rd3, rd4, rd5, rd6, rd7, pf0, pf1, pf2, pf3, pf4, pf5, nI_1, nI_add]
      rw [show q + (e - q) = e by omega]
      refine br_t (Int32.le_refl _) ?_
      have hw2 : wdB B q e w = true := by unfold wdB; rw [decide_eq_true c, hb]; rfl
      rw [wdI, firstI_at hw hw2 ha] at h
      exact br_t rfl h
    · intro k2 i hi ih2 hb
      rw [vX2_word_l35]
      unfold vX2_word_c80
      simp (disch := first | assumption | omega) only [nI_lt0, nI_clamp, vp_inT, nI_eq, imp_FT, imp_TF, true_and, and_true, bO_s, rdv, rd0, rd1, rd2, rd3, rd4, rd5, rd6, rd7, pf0, pf1, pf2, pf3, pf4, pf5, nI_1, nI_add, forall_eq]
      refine br_f (nI_ge (by omega) (by omega)) (p1_charAt (k := i) hw (by omega) ?_)
      have hsm := hs (q + i) (by omega) (by omega)
      rw [hT'.x0, bO_s, bO_s, hT'.at (by omega), bO_s, bnr_low (hT.bt _ (by omega)) (smB_low hsm)]
      refine br_c (fun d => ?_) (fun d => ?_)
      · exact ih2 (by simp only [anyB, hb, d, decide_true, Bool.not_true, Bool.or_false])
      · refine br_f (fun z => ?_) (no ?_)
        · omega
        · unfold wdB
          rw [anyB_t i hi (by rw [decide_eq_false d]; rfl)]
          simp
theorem p1_rname {cA : Nat → ClassId} {x u r : Nat} {f B : Nat → Int32} {n q e : Nat} {V : VS} {l : List Value} {b3 b4 b5 : Int32} {m : Value} {Post : VS → Prop} (hT : TX cA x u f B n V) (hr : V r = some (.inr (2, l))) (hq : q ≤ e) (he : e ≤ n) (hs : ∀ j, q ≤ j → j < e → smB (B j) = true) (h : Post (vU V r (.inr (2, oRd (nI e) (nI n) (nI q) b3 (pkN B q e 6) b5 m x)))) : vX2_name cA r (vU V r (.inr (2, oRd (nI e) (nI n) (nI q) b3 b4 b5 m x))) Post := by
  have h8 := hT.n8
  unfold vX2_name
  simp (disch := first | assumption | omega) only [nI_lt0, nI_clamp, vp_inT, nI_eq, imp_FT, imp_TF, true_and, and_true, bO_s, rdv, rd0, rd1, rd2, rd3, rd4, rd5, rd6, rd7, pf0, pf1, pf2, pf3, pf4, pf5, nI_1]
  refine upL (W := fun fu i => vX2_name_l7 cA r Post fu (nI i) (vU V r (.inr (2, oRd (nI e) (nI n) (nI q) b3 (pkN B q e i) b5 m x)))) (e := 6) ?_ ?_
  · intro k
    rw [vX2_name_l7]
    exact br_t (Int32.le_refl _) h
  · intro k i hi ih
    rw [vX2_name_l7]
    have hT' := hT.upd hr (oRd (nI e) (nI n) (nI q) b3 (pkN B q e i) b5 m x)
    simp only [vX2_name_c56, forall_eq]
    simp (disch := first | assumption | omega) only [nI_lt0, nI_clamp, vp_inT, nI_eq, imp_FT, imp_TF, true_and, and_true, bO_s, rdv, rd0, rd1, rd2, rd3, rd4, rd5, rd6, rd7, pf0, pf1, pf2, pf3, pf4, pf5, nI_1, nI_add]
    refine br_f (nI_ge (b := 6) hi (by decide)) (br_c (fun c => ?_) (fun c => ?_))
    · rw [nI_leI (by omega) (by omega)] at c
      rw [pkN, if_neg (by omega)] at ih
      exact ih
    · rw [nI_leI (by omega) (by omega)] at c
      have hsm := hs (q + i) (by omega) (by omega)
      rw [hT'.x0, bO_s, bO_s, hT'.at (by omega), bO_s, bnr_low (hT.bt _ (by omega)) (smB_low hsm)]
      rw [pkN, if_pos (by omega)] at ih
      rw [show B (q + i) - 97 + 1 = B (q + i) - 96 by rw [Int32.sub_eq_add_neg, Int32.add_assoc, Int32.sub_eq_add_neg]; congr 1]
      exact ih
theorem p1_rnum {cA : Nat → ClassId} {x u r : Nat} {f B : Nat → Int32} {n q : Nat} {V : VS} {l : List Value} {b3 b5 : Int32} {m : Value} {Post : VS → Prop} (hT : TX cA x u f B n V) (hr : V r = some (.inr (2, l))) (hq : q ≤ n) (h : Post (vU V r (.inr (2, oRd (nI (rE dgB B n q)) (nI n) (nI q) b3 (nuV B q (rE dgB B n q - q)) b5 m x)))) : ∃ fu, vX2_next_l181 cA r Post fu (vU V r (.inr (2, oRd (nI q) (nI n) (nI q) b3 0 b5 m x))) := by
  have h8 := hT.n8
  have he := rE_ge dgB B n q
  have hn := rE_le (f := dgB) (B := B) hq
  refine upF (W := fun fu j => vX2_next_l181 cA r Post fu (vU V r (.inr (2, oRd (nI j) (nI n) (nI q) b3 (nuV B q (j - q)) b5 m x)))) (e := rE dgB B n q) (s := q) he ?_ ?_ |>.imp (fun fu h => by rw [Nat.sub_self] at h; exact h)
  · intro k
    rw [vX2_next_l181]
    simp (disch := first | assumption | omega) only [nI_lt0, nI_clamp, vp_inT, nI_eq, imp_FT, imp_TF, true_and, and_true, bO_s, rdv, rd0, rd1, rd2, rd3, rd4, rd5, rd6, rd7, pf0, pf1, pf2, pf3, pf4, pf5, nI_1]
    refine p1_here hT hr hn (p1_in ?_)
    rw [hr_dg]
    have := rE_end dgB B n q
    rw [show (decide (rE dgB B n q < n) && dgB (B (rE dgB B n q))) = false by
      cases c : dgB (B (rE dgB B n q))
      · rw [Bool.and_false]
      · rw [decide_eq_false (fun z => this ⟨z, c⟩), Bool.false_and]]
    exact br_t rfl h
  · intro k j hj0 hj ih
    rw [vX2_next_l181]
    simp only [vX2_next_c228]
    simp (disch := first | assumption | omega) only [nI_lt0, nI_clamp, vp_inT, nI_eq, imp_FT, imp_TF, true_and, and_true, bO_s, rdv, rd0, rd1, rd2, rd3, rd4, rd5, rd6, rd7, pf0, pf1, pf2, pf3, pf4, pf5, nI_1]
    have hd := rE_in hj0 hj
    refine p1_here hT hr (by omega) (p1_in ?_)
    rw [hr_dg, decide_eq_true (show j < n by omega), hd]
    refine br_f (by decide) ?_
    rw [rd4, bO_s]
    rw [show j + 1 - q = (j - q) + 1 by omega, nuV, show q + (j - q) = j by omega] at ih
    refine br_c (fun c => ?_) (fun c => ?_)
    · rw [if_pos c] at ih
      rw [bO_s, rdv]
      refine p1_here hT hr (by omega) ?_
      simp (disch := first | assumption | omega) only [nI_lt0, nI_clamp, vp_inT, nI_eq, imp_FT, imp_TF, true_and, and_true, bO_s, rdv, rd0, rd1, rd2, rd3, rd4, rd5, rd6, rd7, pf0, pf1, pf2, pf3, pf4, pf5, nI_1]
      unfold hrV
      rw [if_pos (show j < n by omega)]
      exact ih
    · rw [if_neg c] at ih
      simp (disch := first | assumption | omega) only [nI_lt0, nI_clamp, vp_inT, nI_eq, imp_FT, imp_TF, true_and, and_true, bO_s, rdv, rd0, rd1, rd2, rd3, rd4, rd5, rd6, rd7, pf0, pf1, pf2, pf3, pf4, pf5, nI_1]
      exact ih
theorem sg_idx {j : Nat} (hj : j < 256) {Post : Int32 → Prop} (h1 : sgQ (nI j) = true → ∀ i, ¬ i < 0 → Post i) (h0 : sgQ (nI j) = false → Post (-1)) : wJ3_indexOf 10 sgB (nI j) Post := by
  have k1 : nI 10 >>> ((0 : Int32) &&& 31) = nI 10 := by decide +kernel
  have k2 : ∀ j, j < 256 → ∀ i, i < 10 → (sgB i = (nI j).toInt8.toInt32 ↔ sgB i = nI j) := by decide +kernel
  unfold wJ3_indexOf wJ3_indexOf_2 wJ3_isLatin1 wJ3_length wJ3_coder wJ4_indexOf wJ4_canEncode wJ4_indexOfChar
  refine br_f (by decide) ⟨rfl, ?_⟩
  dsimp only
  rw [k1]
  refine br_f (nI_pos (by omega)) (br_f (by rw [show (255 : Int32) = nI 255 from rfl]; exact nI_nlt (by omega) (by decide)) (br_f (by decide) ?_))
  intro v3 e3 v4 e4
  rw [if_neg (by decide)] at e3 e4
  subst e3 e4
  refine br_t (by decide) (fun v1 e1 => ?_)
  subst e1
  refine upL (W := fun fu i => anyB (fun k => decide (sgB k = nI j)) i = false → wJ4_indexOfChar_l7 10 sgB (nI j) 0 (nI 10) Post fu ((nI j).toInt8.toInt32) (nI i)) (e := 10) ?_ ?_ |>.imp (fun fu h => h rfl)
  · intro k ha
    rw [wJ4_indexOfChar_l7]
    exact br_t (Int32.le_refl _) (h0 ha)
  · intro k i hi ih ha
    rw [wJ4_indexOfChar_l7]
    simp only [forall_eq, nI_1]
    refine br_f (nI_ge (b := 10) hi (by decide)) ⟨vp_in_nI hi (by decide), ?_⟩
    rw [nI_clamp (by omega)]
    refine ek_if (k2 j hj i hi) (fun c => ?_) (fun c => ?_)
    · exact h1 (anyB_t i hi (decide_eq_true c)) _ (nI_pos (by omega))
    · exact ih (by simp only [anyB, ha, decide_eq_false c, Bool.or_false])
theorem p1_rsign {cA : Nat → ClassId} {x u r : Nat} {f B : Nat → Int32} {n q : Nat} {V : VS} {l : List Value} {b3 b4 b5 : Int32} {m : Value} {Post : VS → Prop} (hT : TX cA x u f B n V) (hr : V r = some (.inr (2, l))) (hq : q < n) (h : Post (vU V r (.inr (2, oRd (nI (sgE B n q)) (nI n) (nI q) (nI (if sgQ (B q) then 3 else 5)) (sgV B n q) b5 m x)))) : vX2_sign cA r (vU V r (.inr (2, oRd (nI q) (nI n) (nI q) b3 b4 b5 m x))) Post := by
  have h8 := hT.n8
  unfold vX2_sign
  simp (disch := first | assumption | omega) only [nI_lt0, nI_clamp, vp_inT, nI_eq, imp_FT, imp_TF, true_and, and_true, bO_s, rdv, rd0, rd1, rd2, rd3, rd4, rd5, rd6, rd7, pf0, pf1, pf2, pf3, pf4, pf5, nI_1]
  refine p1_here hT hr (by omega) ?_
  unfold hrV
  rw [if_pos hq]
  simp (disch := first | assumption | omega) only [nI_lt0, nI_clamp, vp_inT, nI_eq, imp_FT, imp_TF, true_and, and_true, bO_s, rdv, rd0, rd1, rd2, rd3, rd4, rd5, rd6, rd7, pf0, pf1, pf2, pf3, pf4, pf5, nI_1]
  have c110 : ∀ (s v : Int32) (a : Nat), a + 1 ≤ 801 → (¬ v < 256 → Post (vU V r (.inr (2, oRd (nI (a + 1)) (nI n) (nI q) s v b5 m x)))) → (v < 256 → Post (vU V r (.inr (2, oRd (nI a) (nI n) (nI q) s v b5 m x)))) → vX2_sign_c110 cA r Post (vU V r (.inr (2, oRd (nI a) (nI n) (nI q) s v b5 m x))) := fun s v a ha g1 g0 => by
    unfold vX2_sign_c110
    simp (disch := first | assumption | omega) only [nI_lt0, nI_clamp, vp_inT, nI_eq, imp_FT, imp_TF, true_and, and_true, bO_s, rdv, rd0, rd1, rd2, rd3, rd4, rd5, rd6, rd7, pf0, pf1, pf2, pf3, pf4, pf5, nI_1]
    exact br_c g0 g1
  obtain ⟨jb, hjb, ejb⟩ := hT.bt q hq
  have hlt : B q < 256 := by rw [ejb, show (256 : Int32) = nI 256 from rfl]; exact nI_lt (by omega) (by decide)
  have c30 : ∀ s : Int32, s = nI (if sgQ (B q) then 3 else 5) → vX2_sign_c30 cA r Post (B q) s (vU V r (.inr (2, oRd (nI (q + 1)) (nI n) (nI q) b3 b4 b5 m x))) := by
    intro s hs
    rw [← hs] at h
    unfold vX2_sign_c30 vX2_sign_c63 vX2_sign_c88
    simp (disch := first | assumption | omega) only [nI_lt0, nI_clamp, vp_inT, nI_eq, imp_FT, imp_TF, true_and, and_true, bO_s, rdv, rd0, rd1, rd2, rd3, rd4, rd5, rd6, rd7, pf0, pf1, pf2, pf3, pf4, pf5, nI_1]
    have d61 : hrV B n (q + 1) = 61 ↔ q + 1 < n ∧ B (q + 1) = 61 := hr_eq (by decide)
    have d62 : hrV B n (q + 1) = 62 ↔ q + 1 < n ∧ B (q + 1) = 62 := hr_eq (by decide)
    refine br_c (fun c60 => p1_here hT hr (by omega) (ek_if d61 (fun g => ?_) (fun g => ?_))) (fun c60 => br_f c60 (br_c (fun c62 => p1_here hT hr (by omega) (ek_if d61 (fun g => ?_) (fun g => ?_))) (fun c62 => ?_)))
    · simp (disch := first | assumption | omega) only [nI_lt0, nI_clamp, vp_inT, nI_eq, imp_FT, imp_TF, true_and, and_true, bO_s, rdv, rd0, rd1, rd2, rd3, rd4, rd5, rd6, rd7, pf0, pf1, pf2, pf3, pf4, pf5, nI_1]
      have hV9 : sgV B n q = 256 := by unfold sgV; rw [if_pos ⟨c60, g⟩]
      have hE9 : sgE B n q = q + 2 := by unfold sgE; rw [if_pos (Or.inl ⟨c60, g⟩)]
      rw [hV9, hE9] at h
      exact c110 _ _ _ (by omega) (fun _ => h) (fun z => absurd z (by decide))
    · refine br_t c60 ?_
      simp (disch := first | assumption | omega) only [nI_lt0, nI_clamp, vp_inT, nI_eq, imp_FT, imp_TF, true_and, and_true, bO_s, rdv, rd0, rd1, rd2, rd3, rd4, rd5, rd6, rd7, pf0, pf1, pf2, pf3, pf4, pf5, nI_1]
      refine p1_here hT hr (by omega) (ek_if d62 (fun g2 => ?_) (fun g2 => br_f (by rw [c60]; decide) ?_))
      · simp (disch := first | assumption | omega) only [nI_lt0, nI_clamp, vp_inT, nI_eq, imp_FT, imp_TF, true_and, and_true, bO_s, rdv, rd0, rd1, rd2, rd3, rd4, rd5, rd6, rd7, pf0, pf1, pf2, pf3, pf4, pf5, nI_1]
        have hV9 : sgV B n q = 258 := by unfold sgV; rw [if_neg (fun z => g z.2), if_pos ⟨c60, g2⟩]
        have hE9 : sgE B n q = q + 2 := by unfold sgE; rw [if_pos (Or.inr (Or.inl ⟨c60, g2⟩))]
        rw [hV9, hE9] at h
        exact c110 _ _ _ (by omega) (fun _ => h) (fun z => absurd z (by decide))
      · have hV9 : sgV B n q = B q := by unfold sgV; rw [if_neg (fun z => g z.2), if_neg (fun z => g2 z.2), if_neg (fun z => by rw [c60] at z; exact absurd z.1 (by decide))]
        have hE9 : sgE B n q = q + 1 := by unfold sgE; rw [if_neg (fun z => by
          rcases z with z | z | z
          · exact g z.2
          · exact g2 z.2
          · rw [c60] at z; exact absurd z.1 (by decide))]
        rw [hV9, hE9] at h
        exact c110 _ _ _ (by omega) (fun z => absurd hlt z) (fun _ => h)
    · simp (disch := first | assumption | omega) only [nI_lt0, nI_clamp, vp_inT, nI_eq, imp_FT, imp_TF, true_and, and_true, bO_s, rdv, rd0, rd1, rd2, rd3, rd4, rd5, rd6, rd7, pf0, pf1, pf2, pf3, pf4, pf5, nI_1]
      have hV9 : sgV B n q = 257 := by unfold sgV; rw [if_neg (fun z => c60 z.1), if_neg (fun z => c60 z.1), if_pos ⟨c62, g⟩]
      have hE9 : sgE B n q = q + 2 := by unfold sgE; rw [if_pos (Or.inr (Or.inr ⟨c62, g⟩))]
      rw [hV9, hE9] at h
      exact c110 _ _ _ (by omega) (fun _ => h) (fun z => absurd z (by decide))
    · have hV9 : sgV B n q = B q := by unfold sgV; rw [if_neg (fun z => c60 z.1), if_neg (fun z => c60 z.1), if_neg (fun z => g z.2)]
      have hE9 : sgE B n q = q + 1 := by unfold sgE; rw [if_neg (fun z => by
          rcases z with z | z | z
          · exact c60 z.1
          · exact c60 z.1
          · exact g z.2)]
      rw [hV9, hE9] at h
      exact c110 _ _ _ (by omega) (fun z => absurd hlt z) (fun _ => h)
    · have hV9 : sgV B n q = B q := by unfold sgV; rw [if_neg (fun z => c60 z.1), if_neg (fun z => c60 z.1), if_neg (fun z => c62 z.1)]
      have hE9 : sgE B n q = q + 1 := by unfold sgE; rw [if_neg (fun z => by
          rcases z with z | z | z
          · exact c60 z.1
          · exact c60 z.1
          · exact c62 z.1)]
      rw [hV9, hE9] at h
      exact c110 _ _ _ (by omega) (fun z => absurd hlt z) (fun _ => h)
  rw [ejb] at c30 ⊢
  refine sg_idx hjb (fun e i hi => br_f hi (c30 3 ?_)) (fun e => br_t (by decide) (c30 5 ?_))
  · rw [e]; rfl
  · rw [e]; rfl
