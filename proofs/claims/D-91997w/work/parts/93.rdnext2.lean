theorem p1_rnext {cA : Nat → ClassId} {x u r : Nat} {f B : Nat → Int32} {n p : Nat} {V : VS} {l : List Value} {b2 b3 b4 b5 : Int32} {m : Value} {Post : VS → Prop} (hT : TX cA x u f B n V) (hr : V r = some (.inr (2, l))) (hp : p ≤ n) (h : ∀ v, (tS B n p ≠ 4 → v = tV B n p) → Post (vU V r (.inr (2, oRd (nI (tE B n p)) (nI n) (nI (skp B n p)) (nI (tS B n p)) v b5 m x)))) : vX2_next cA r (vU V r (.inr (2, oRd (nI p) (nI n) b2 b3 b4 b5 m x))) Post := by
  have h8 := hT.n8
  unfold vX2_next
  have hq := skp_ge B n p
  have hqn : skp B n p ≤ n := skp_le hp
  unfold tS tV tE at h
  generalize hqe : skp B n p = q at *
  refine upF (W := fun fu j => vX2_next_l0 cA r Post fu (vU V r (.inr (2, oRd (nI j) (nI n) b2 b3 b4 b5 m x)))) (e := q) (s := p) hq ?_ ?_
  · intro k
    rw [vX2_next_l0]
    simp (disch := first | assumption | omega) only [nI_lt0, nI_clamp, vp_inT, nI_eq, imp_FT, imp_TF, true_and, and_true, bO_s, rdv, rd0, rd1, rd2, rd3, rd4, rd5, rd6, rd7, pf0, pf1, pf2, pf3, pf4, pf5, nI_1]
    have hend : ¬ (q < n ∧ wsB (B q) = true) := by
      have := rE_end wsB B n p
      unfold skp at hqe
      rw [hqe] at this
      exact this
    have e10 : ¬ hrV B n q = 10 := fun z => by
      obtain ⟨z1, z2⟩ := (hr_eq (by decide)).mp z
      exact hend ⟨z1, by unfold wsB; rw [z2]; rfl⟩
    have e32 : ¬ hrV B n q = 32 := fun z => by
      obtain ⟨z1, z2⟩ := (hr_eq (by decide)).mp z
      exact hend ⟨z1, by unfold wsB; rw [z2]; rfl⟩
    refine p1_here hT hr hqn (br_f e10 ?_)
    rw [rdv]
    refine p1_here hT hr hqn (br_f e32 ?_)
    simp (disch := first | assumption | omega) only [nI_lt0, nI_clamp, vp_inT, nI_eq, imp_FT, imp_TF, true_and, and_true, bO_s, rdv, rd0, rd1, rd2, rd3, rd4, rd5, rd6, rd7, pf0, pf1, pf2, pf3, pf4, pf5, nI_1]
    unfold tkA at h
    refine br_c (fun c => ?_) (fun c => ?_)
    · rw [if_neg (by omega)] at h
      exact h b4 (fun z => absurd rfl z)
    · have hqn2 : q < n := by omega
      rw [if_pos hqn2] at h
      refine p1_here hT hr hqn (p1_in ?_)
      rw [hr_sm, decide_eq_true hqn2, Bool.true_and]
      refine bz (fun d => ?_) (fun d => ?_)
      · rw [if_neg (by rw [d]; decide)] at h
        rw [rdv]
        refine p1_here hT hr hqn (p1_in ?_)
        rw [hr_dg, decide_eq_true hqn2, Bool.true_and]
        refine bz (fun e => ?_) (fun e => ?_)
        · rw [if_neg (by rw [e]; decide)] at h
          rw [rdv]
          exact p1_rsign hT hr hqn2 (h _ (fun _ => rfl))
        · rw [if_pos e] at h
          simp (disch := first | assumption | omega) only [nI_lt0, nI_clamp, vp_inT, nI_eq, imp_FT, imp_TF, true_and, and_true, bO_s, rdv, rd0, rd1, rd2, rd3, rd4, rd5, rd6, rd7, pf0, pf1, pf2, pf3, pf4, pf5, nI_1]
          exact p1_rnum hT hr hqn (h _ (fun _ => rfl))
      · rw [if_pos d] at h
        have he := rE_ge smB B n q
        have hn := rE_le (f := smB) (B := B) hqn
        have hin : ∀ j, q ≤ j → j < rE smB B n q → smB (B j) = true := fun j j1 j2 => rE_in j1 j2
        have hstop := rE_end smB B n q
        generalize rE smB B n q = e at *
        refine upF (W := fun fu j => vX2_next_l72 cA r Post fu (vU V r (.inr (2, oRd (nI j) (nI n) (nI q) b3 b4 b5 m x)))) (e := e) (s := q) he ?_ ?_
        · intro k2
          rw [vX2_next_l72]
          simp (disch := first | assumption | omega) only [nI_lt0, nI_clamp, vp_inT, nI_eq, imp_FT, imp_TF, true_and, and_true, bO_s, rdv, rd0, rd1, rd2, rd3, rd4, rd5, rd6, rd7, pf0, pf1, pf2, pf3, pf4, pf5, nI_1]
          refine p1_here hT hr hn (p1_in ?_)
          rw [hr_sm, show (decide (e < n) && smB (B e)) = false by
            cases c : smB (B e)
            · rw [Bool.and_false]
            · rw [decide_eq_false (fun z => hstop ⟨z, c⟩), Bool.false_and]]
          refine br_t rfl ?_
          rw [rdv]
          refine p1_rword hT hr he hn hin ?_
          simp (disch := first | assumption | omega) only [nI_lt0, nI_clamp, vp_inT, nI_eq, imp_FT, imp_TF, true_and, and_true, bO_s, rdv, rd0, rd1, rd2, rd3, rd4, rd5, rd6, rd7, pf0, pf1, pf2, pf3, pf4, pf5, nI_1]
          have c139 : ∀ s : Int32, (s = 1 → Post (vU V r (.inr (2, oRd (nI e) (nI n) (nI q) 1 (pkN B q e 6) b5 m x)))) → (¬ s = 1 → Post (vU V r (.inr (2, oRd (nI e) (nI n) (nI q) s (wdI B q e) b5 m x)))) → vX2_next_c139 cA r Post s (vU V r (.inr (2, oRd (nI e) (nI n) (nI q) b3 (wdI B q e) b5 m x))) := fun s g1 g2 => by
            unfold vX2_next_c139
            simp (disch := first | assumption | omega) only [nI_lt0, nI_clamp, vp_inT, nI_eq, imp_FT, imp_TF, true_and, and_true, bO_s, rdv, rd0, rd1, rd2, rd3, rd4, rd5, rd6, rd7, pf0, pf1, pf2, pf3, pf4, pf5, nI_1]
            refine br_c (fun z => ?_) g2
            subst z
            exact p1_rname hT hr he hn hin (g1 rfl)
          refine br_c (fun g => ?_) (fun g => ?_)
          · rw [if_pos g] at h
            rw [nI_sub he, show (6 : Int32) = nI 6 from rfl, nI_leI (by omega) (by decide)]
            refine br_c (fun g2 => ?_) (fun g2 => ?_)
            · rw [if_pos g2] at h
              exact c139 1 (fun _ => h _ (fun _ => rfl)) (fun z => absurd rfl z)
            · rw [if_neg g2] at h
              refine c139 5 (fun z => absurd z (by decide)) (fun _ => h _ (fun _ => g))
          · rw [if_neg g] at h
            exact c139 0 (fun z => absurd z (by decide)) (fun _ => h _ (fun _ => rfl))
        · intro k2 j hj0 hj ih
          rw [vX2_next_l72]
          simp (disch := first | assumption | omega) only [nI_lt0, nI_clamp, vp_inT, nI_eq, imp_FT, imp_TF, true_and, and_true, bO_s, rdv, rd0, rd1, rd2, rd3, rd4, rd5, rd6, rd7, pf0, pf1, pf2, pf3, pf4, pf5, nI_1]
          refine p1_here hT hr (by omega) (p1_in ?_)
          rw [hr_sm, decide_eq_true (show j < n by omega), hin j hj0 hj]
          refine br_f (by decide) ?_
          simp (disch := first | assumption | omega) only [nI_lt0, nI_clamp, vp_inT, nI_eq, imp_FT, imp_TF, true_and, and_true, bO_s, rdv, rd0, rd1, rd2, rd3, rd4, rd5, rd6, rd7, pf0, pf1, pf2, pf3, pf4, pf5, nI_1]
          exact ih
  · intro k j hj0 hj ih
    rw [vX2_next_l0]
    simp only [vX2_next_c18]
    simp (disch := first | assumption | omega) only [nI_lt0, nI_clamp, vp_inT, nI_eq, imp_FT, imp_TF, true_and, and_true, bO_s, rdv, rd0, rd1, rd2, rd3, rd4, rd5, rd6, rd7, pf0, pf1, pf2, pf3, pf4, pf5, nI_1]
    have hw : wsB (B j) = true := rE_in (f := wsB) (B := B) (n := n) (p := p) hj0 (by
      unfold skp at hqe
      rw [hqe]; exact hj)
    refine p1_here hT hr (by omega) (br_c (fun c => ?_) (fun c => ?_))
    · simp (disch := first | assumption | omega) only [nI_lt0, nI_clamp, vp_inT, nI_eq, imp_FT, imp_TF, true_and, and_true, bO_s, rdv, rd0, rd1, rd2, rd3, rd4, rd5, rd6, rd7, pf0, pf1, pf2, pf3, pf4, pf5, nI_1]
      exact ih
    · rw [rdv]
      refine p1_here hT hr (by omega) (br_t ?_ ?_)
      · unfold hrV at c ⊢
        rw [if_pos (show j < n by omega)] at c ⊢
        unfold wsB at hw
        rw [decide_eq_false c, Bool.false_or, decide_eq_true_iff] at hw
        exact hw
      · simp (disch := first | assumption | omega) only [nI_lt0, nI_clamp, vp_inT, nI_eq, imp_FT, imp_TF, true_and, and_true, bO_s, rdv, rd0, rd1, rd2, rd3, rd4, rd5, rd6, rd7, pf0, pf1, pf2, pf3, pf4, pf5, nI_1]
        exact ih
/-- the reader at p: its cell -/
def RD (B : Nat → Int32) (n x : Nat) (V : VS) (r : Nat) (p : Nat) (o : Int32) (m : Value) : Prop := ∃ v, (tS B n p ≠ 4 → v = tV B n p) ∧ V r = some (.inr (2, oRd (nI (tE B n p)) (nI n) (nI (skp B n p)) (nI (tS B n p)) v o m x))
theorem RD.vr {B : Nat → Int32} {n x : Nat} {V : VS} {r p : Nat} {o : Int32} {m : Value} (h : RD B n x V r p o m) (P : Prop) : bO (vO V [2] r) (fun _ => P) = P := by
  obtain ⟨v, -, h1⟩ := h
  exact bO_vO h1 rfl P
theorem RD.pl {B : Nat → Int32} {n x : Nat} {V : VS} {r p : Nat} {o : Int32} {m : Value} (h : RD B n x V r p o m) : gI V [2] r 2 = some (nI (skp B n p)) := by
  obtain ⟨v, -, h1⟩ := h
  exact gI_of h1 rfl rfl
theorem RD.so {B : Nat → Int32} {n x : Nat} {V : VS} {r p : Nat} {o : Int32} {m : Value} (h : RD B n x V r p o m) : gI V [2] r 3 = some (nI (tS B n p)) := by
  obtain ⟨v, -, h1⟩ := h
  exact gI_of h1 rfl rfl
theorem RD.va {B : Nat → Int32} {n x : Nat} {V : VS} {r p : Nat} {o : Int32} {m : Value} (h : RD B n x V r p o m) (h4 : tS B n p ≠ 4) : gI V [2] r 4 = some (tV B n p) := by
  obtain ⟨v, h0, h1⟩ := h
  rw [h0 h4] at h1
  exact gI_of h1 rfl rfl
theorem RD.op {B : Nat → Int32} {n x : Nat} {V : VS} {r p : Nat} {o : Int32} {m : Value} (h : RD B n x V r p o m) : gI V [2] r 5 = some o := by
  obtain ⟨v, -, h1⟩ := h
  exact gI_of h1 rfl rfl
theorem RD.ma {B : Nat → Int32} {n x : Nat} {V : VS} {r p c : Nat} {o : Int32} (h : RD B n x V r p o (.ref c)) : gR V [2] r 6 = some (some c) := by
  obtain ⟨v, -, h1⟩ := h
  exact gR_of h1 rfl rfl
/-- on to the next token: the reader's cell alone changes -/
theorem p1_go {cA : Nat → ClassId} {x u r : Nat} {f B : Nat → Int32} {n p : Nat} {V : VS} {o : Int32} {m : Value} {Post : VS → Prop} (hT : TX cA x u f B n V) (hR : RD B n x V r p o m) (hp : p ≤ n) (h : ∀ l, RD B n x (vU V r (.inr (2, l))) r (tE B n p) o m → Post (vU V r (.inr (2, l)))) : vX2_next cA r V Post := by
  obtain ⟨v, h0, h1⟩ := hR
  rw [← vU_id h1]
  refine p1_rnext hT h1 (tE_ge hp).2.1 (fun v' hv' => h _ ⟨v', hv', vU_s _ _ _⟩)
theorem p1_isWordR {cA : Nat → ClassId} {x u r : Nat} {f B : Nat → Int32} {n p : Nat} {V : VS} {o : Int32} {m : Value} {lo hi : Int32} {Post : Int32 → VS → Prop} (hR : RD B n x V r p o m) (h : Post (bI (decide (tS B n p = 0) && (decide (lo ≤ tV B n p) && decide (tV B n p ≤ hi)))) V) : vX2_isWord cA r lo hi V Post := by
  have h5 := tS_le B n p
  unfold vX2_isWord
  rw [hR.so, bO_s]
  refine br_c (fun c => ?_) (fun c => ?_)
  · rw [nI_z (by omega)] at c
    rw [hR.va (by omega), bO_s]
    rw [decide_eq_true c, Bool.true_and] at h
    refine p1_in (bz (fun d => ?_) (fun d => ?_))
    · rw [d] at h; exact h
    · rw [d] at h; exact h
  · rw [nI_z (by omega)] at c
    rw [decide_eq_false c, Bool.false_and] at h
    exact h
theorem p1_isSignR {cA : Nat → ClassId} {x u r : Nat} {f B : Nat → Int32} {n p : Nat} {V : VS} {o : Int32} {m : Value} {c0 : Int32} {Post : Int32 → VS → Prop} (hR : RD B n x V r p o m) (h : Post (bI (decide (tS B n p = 3) && decide (tV B n p = c0))) V) : vX2_isSign cA r c0 V Post := by
  have h5 := tS_le B n p
  unfold vX2_isSign
  rw [hR.so, bO_s, show (3 : Int32) = nI 3 from rfl, nI_eq (by omega) (by decide)]
  refine br_c (fun c => ?_) (fun c => ?_)
  · rw [hR.va (by omega), bO_s]
    rw [decide_eq_true c, Bool.true_and] at h
    refine br_c (fun d => ?_) (fun d => ?_)
    · rw [decide_eq_true d] at h; exact h
    · rw [decide_eq_false d] at h; exact h
  · rw [decide_eq_false c, Bool.false_and] at h
    exact h
