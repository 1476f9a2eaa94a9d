/-! SaidSo's reader: tokens -/
def oRd (b0 b1 b2 b3 b4 b5 : Int32) (m : Value) (x : Nat) : List Value := [.int b0, .int b1, .int b2, .int b3, .int b4, .int b5, m, .ref x]
theorem rd0 (V : VS) (r : Nat) (b0 b1 b2 b3 b4 b5 : Int32) (m : Value) (x : Nat) : gI (vU V r (.inr (2, oRd b0 b1 b2 b3 b4 b5 m x))) [2] r 0 = some b0 := gI_of (vU_s _ _ _) rfl rfl
theorem pf0 (V : VS) (r : Nat) (b0 b1 b2 b3 b4 b5 : Int32) (m : Value) (x : Nat) (w : Int32) : pF (vU V r (.inr (2, oRd b0 b1 b2 b3 b4 b5 m x))) [2] r 0 (.int w) = some (vU V r (.inr (2, oRd w b1 b2 b3 b4 b5 m x))) := by
  rw [pF_of (l := oRd b0 b1 b2 b3 b4 b5 m x) _ (vU_s _ _ _) rfl (show 0 < 8 by decide), vU_vU]
  rfl
theorem rd1 (V : VS) (r : Nat) (b0 b1 b2 b3 b4 b5 : Int32) (m : Value) (x : Nat) : gI (vU V r (.inr (2, oRd b0 b1 b2 b3 b4 b5 m x))) [2] r 1 = some b1 := gI_of (vU_s _ _ _) rfl rfl
theorem pf1 (V : VS) (r : Nat) (b0 b1 b2 b3 b4 b5 : Int32) (m : Value) (x : Nat) (w : Int32) : pF (vU V r (.inr (2, oRd b0 b1 b2 b3 b4 b5 m x))) [2] r 1 (.int w) = some (vU V r (.inr (2, oRd b0 w b2 b3 b4 b5 m x))) := by
  rw [pF_of (l := oRd b0 b1 b2 b3 b4 b5 m x) _ (vU_s _ _ _) rfl (show 1 < 8 by decide), vU_vU]
  rfl
theorem rd2 (V : VS) (r : Nat) (b0 b1 b2 b3 b4 b5 : Int32) (m : Value) (x : Nat) : gI (vU V r (.inr (2, oRd b0 b1 b2 b3 b4 b5 m x))) [2] r 2 = some b2 := gI_of (vU_s _ _ _) rfl rfl
theorem pf2 (V : VS) (r : Nat) (b0 b1 b2 b3 b4 b5 : Int32) (m : Value) (x : Nat) (w : Int32) : pF (vU V r (.inr (2, oRd b0 b1 b2 b3 b4 b5 m x))) [2] r 2 (.int w) = some (vU V r (.inr (2, oRd b0 b1 w b3 b4 b5 m x))) := by
  rw [pF_of (l := oRd b0 b1 b2 b3 b4 b5 m x) _ (vU_s _ _ _) rfl (show 2 < 8 by decide), vU_vU]
  rfl
theorem rd3 (V : VS) (r : Nat) (b0 b1 b2 b3 b4 b5 : Int32) (m : Value) (x : Nat) : gI (vU V r (.inr (2, oRd b0 b1 b2 b3 b4 b5 m x))) [2] r 3 = some b3 := gI_of (vU_s _ _ _) rfl rfl
theorem pf3 (V : VS) (r : Nat) (b0 b1 b2 b3 b4 b5 : Int32) (m : Value) (x : Nat) (w : Int32) : pF (vU V r (.inr (2, oRd b0 b1 b2 b3 b4 b5 m x))) [2] r 3 (.int w) = some (vU V r (.inr (2, oRd b0 b1 b2 w b4 b5 m x))) := by
  rw [pF_of (l := oRd b0 b1 b2 b3 b4 b5 m x) _ (vU_s _ _ _) rfl (show 3 < 8 by decide), vU_vU]
  rfl
theorem rd4 (V : VS) (r : Nat) (b0 b1 b2 b3 b4 b5 : Int32) (m : Value) (x : Nat) : gI (vU V r (.inr (2, oRd b0 b1 b2 b3 b4 b5 m x))) [2] r 4 = some b4 := gI_of (vU_s _ _ _) rfl rfl
theorem pf4 (V : VS) (r : Nat) (b0 b1 b2 b3 b4 b5 : Int32) (m : Value) (x : Nat) (w : Int32) : pF (vU V r (.inr (2, oRd b0 b1 b2 b3 b4 b5 m x))) [2] r 4 (.int w) = some (vU V r (.inr (2, oRd b0 b1 b2 b3 w b5 m x))) := by
  rw [pF_of (l := oRd b0 b1 b2 b3 b4 b5 m x) _ (vU_s _ _ _) rfl (show 4 < 8 by decide), vU_vU]
  rfl
theorem rd5 (V : VS) (r : Nat) (b0 b1 b2 b3 b4 b5 : Int32) (m : Value) (x : Nat) : gI (vU V r (.inr (2, oRd b0 b1 b2 b3 b4 b5 m x))) [2] r 5 = some b5 := gI_of (vU_s _ _ _) rfl rfl
theorem pf5 (V : VS) (r : Nat) (b0 b1 b2 b3 b4 b5 : Int32) (m : Value) (x : Nat) (w : Int32) : pF (vU V r (.inr (2, oRd b0 b1 b2 b3 b4 b5 m x))) [2] r 5 (.int w) = some (vU V r (.inr (2, oRd b0 b1 b2 b3 b4 w m x))) := by
  rw [pF_of (l := oRd b0 b1 b2 b3 b4 b5 m x) _ (vU_s _ _ _) rfl (show 5 < 8 by decide), vU_vU]
  rfl
theorem rd6 (V : VS) (r : Nat) (b0 b1 b2 b3 b4 b5 : Int32) (c x : Nat) : gR (vU V r (.inr (2, oRd b0 b1 b2 b3 b4 b5 (.ref c) x))) [2] r 6 = some (some c) := gR_of (vU_s _ _ _) rfl rfl
theorem rd7 (V : VS) (r : Nat) (b0 b1 b2 b3 b4 b5 : Int32) (m : Value) (x : Nat) : gR (vU V r (.inr (2, oRd b0 b1 b2 b3 b4 b5 m x))) [2] r 7 = some (some x) := gR_of (vU_s _ _ _) rfl rfl
theorem rdv (V : VS) (r : Nat) (b0 b1 b2 b3 b4 b5 : Int32) (m : Value) (x : Nat) (P : Prop) : bO (vO (vU V r (.inr (2, oRd b0 b1 b2 b3 b4 b5 m x))) [2] r) (fun _ => P) = P := bO_vO (vU_s _ _ _) rfl P
/-- the text in SaidSo's bytes -/
def TX (cA : Nat → ClassId) (x u : Nat) (f B : Nat → Int32) (n : Nat) (V : VS) : Prop := (∃ l, V x = some (.inr (1, l)) ∧ l[0]? = some (.ref u)) ∧ (V u = some (eB cA f)) ∧ (∀ j, j < n → f j = bnr (B j)) ∧ (∀ j, j < n → byt (B j)) ∧ (n ≤ 800)
theorem TX.ob {cA : Nat → ClassId} {x u : Nat} {f B : Nat → Int32} {n : Nat} {V : VS} (h : TX cA x u f B n V) : ∃ l, V x = some (.inr (1, l)) ∧ l[0]? = some (.ref u) := h.1
theorem TX.cell {cA : Nat → ClassId} {x u : Nat} {f B : Nat → Int32} {n : Nat} {V : VS} (h : TX cA x u f B n V) : V u = some (eB cA f) := h.2.1
theorem TX.fb {cA : Nat → ClassId} {x u : Nat} {f B : Nat → Int32} {n : Nat} {V : VS} (h : TX cA x u f B n V) : ∀ j, j < n → f j = bnr (B j) := h.2.2.1
theorem TX.bt {cA : Nat → ClassId} {x u : Nat} {f B : Nat → Int32} {n : Nat} {V : VS} (h : TX cA x u f B n V) : ∀ j, j < n → byt (B j) := h.2.2.2.1
theorem TX.n8 {cA : Nat → ClassId} {x u : Nat} {f B : Nat → Int32} {n : Nat} {V : VS} (h : TX cA x u f B n V) : n ≤ 800 := h.2.2.2.2
theorem TX.upd {cA : Nat → ClassId} {x u r : Nat} {f B : Nat → Int32} {n : Nat} {V : VS} {l : List Value} (h : TX cA x u f B n V) (hr : V r = some (.inr (2, l))) (l' : List Value) : TX cA x u f B n (vU V r (.inr (2, l'))) := by
  obtain ⟨⟨lx, x1, x2⟩, h2, h3⟩ := h
  exact ⟨⟨lx, by rw [vU_n _ _ (va_ne x1 hr (tg rfl))]; exact x1, x2⟩, by rw [vU_n _ _ (va_ne h2 hr (tg rfl))]; exact h2, h3⟩
theorem TX.x0 {cA : Nat → ClassId} {x u : Nat} {f B : Nat → Int32} {n : Nat} {V : VS} (h : TX cA x u f B n V) : gR V [1] x 0 = some (some u) := by
  obtain ⟨l, h1, h2⟩ := h.ob
  exact gR_of h1 rfl h2
theorem TX.at {cA : Nat → ClassId} {x u : Nat} {f B : Nat → Int32} {n : Nat} {V : VS} (h : TX cA x u f B n V) {j : Nat} (hj : j < n) : lI V (cA 3) u (nI j) = some (bnr (B j)) := by
  have := h.n8
  rw [lI_of h.cell (by omega) (by decide), h.fb j hj]
def hrV (B : Nat → Int32) (n q : Nat) : Int32 := if q < n then B q else -1
theorem p1_here {cA : Nat → ClassId} {x u r : Nat} {f B : Nat → Int32} {n q : Nat} {V : VS} {l : List Value} {b2 b3 b4 b5 : Int32} {m : Value} {Post : Int32 → VS → Prop} (hT : TX cA x u f B n V) (hr : V r = some (.inr (2, l))) (hq : q ≤ n) (h : Post (hrV B n q) (vU V r (.inr (2, oRd (nI q) (nI n) b2 b3 b4 b5 m x)))) : vX2_here cA r (vU V r (.inr (2, oRd (nI q) (nI n) b2 b3 b4 b5 m x))) Post := by
  have h8 := hT.n8
  have hT' := hT.upd hr (oRd (nI q) (nI n) b2 b3 b4 b5 m x)
  unfold vX2_here
  simp (disch := first | assumption | omega) only [nI_lt0, nI_clamp, vp_inT, nI_eq, imp_FT, imp_TF, true_and, and_true, bO_s, rdv, rd0, rd1, rd2, rd3, rd4, rd5, rd6, rd7, pf0, pf1, pf2, pf3, pf4, pf5, nI_1]
  unfold hrV at h
  refine br_c (fun c => ?_) (fun c => ?_)
  · rw [nI_leI (by omega) (by omega)] at c
    rw [if_neg (by omega)] at h
    exact h
  · rw [nI_leI (by omega) (by omega)] at c
    rw [if_pos (by omega)] at h
    rw [hT'.x0, bO_s, bO_s, hT'.at (by omega), bO_s, bnr_255 (hT.bt q (by omega))]
    exact h
theorem hr_sm {B : Nat → Int32} {n q : Nat} : (decide (97 ≤ hrV B n q) && decide (hrV B n q ≤ 122)) = (decide (q < n) && smB (B q)) := by
  unfold hrV smB
  by_cases c : q < n
  · rw [if_pos c, decide_eq_true c, Bool.true_and]
  · rw [if_neg c, decide_eq_false c, Bool.false_and]; decide
theorem hr_dg {B : Nat → Int32} {n q : Nat} : (decide (48 ≤ hrV B n q) && decide (hrV B n q ≤ 57)) = (decide (q < n) && dgB (B q)) := by
  unfold hrV dgB
  by_cases c : q < n
  · rw [if_pos c, decide_eq_true c, Bool.true_and]
  · rw [if_neg c, decide_eq_false c, Bool.false_and]; decide
theorem hr_eq {B : Nat → Int32} {n q : Nat} {v : Int32} (hv : ¬ v = -1) : hrV B n q = v ↔ q < n ∧ B q = v := by
  unfold hrV
  by_cases c : q < n
  · rw [if_pos c]; exact ⟨fun h => ⟨c, h⟩, fun h => h.2⟩
  · rw [if_neg c]; exact ⟨fun h => absurd h.symm hv, fun h => absurd h.1 c⟩
/-! the words' texts -/
theorem p1_length {w : Nat} (hw : w < 27) {Post : Int32 → Prop} (h : Post (nI (nmLen w))) : wJ3_length (nmLen w) (nmB w) Post := by
  have key : ∀ w, w < 27 → nI (nmLen w) >>> ((0 : Int32) &&& 31) = nI (nmLen w) := by decide +kernel
  refine ⟨rfl, ?_⟩
  show Post (nI (nmLen w) >>> ((0 : Int32) &&& 31))
  rw [key w hw]
  exact h
theorem nm_lt : ∀ w, w < 27 → nmLen w < 8 := by decide +kernel
theorem p1_charAt {w k : Nat} (hw : w < 27) (hk : k < nmLen w) {Post : Int32 → Prop} (h : Post (nmB w k)) : wJ3_charAt (nmLen w) (nmB w) (nI k) Post := by
  have hl := nm_lt w hw
  have key : ∀ w, w < 27 → ∀ k, k < nmLen w → narrow .char (.int ((((nmB w k) &&& (255 : Int32)).toUInt32 % 65536).toInt32)) = .int ((((nmB w k) &&& (255 : Int32)).toUInt32 % 65536).toInt32) ∧ (((nmB w k) &&& (255 : Int32)).toUInt32 % 65536).toInt32 = nmB w k := by decide +kernel
  obtain ⟨k1, k2⟩ := key w hw k hk
  unfold wJ3_charAt wJ3_isLatin1 wJ4_charAt wJ3_checkIndex wJ5_checkIndex
  refine br_f (by decide) (fun p => br_f (nI_pos (by omega)) (br_t (nI_lt hk (by omega)) ⟨vp_in_nI hk (by omega), ?_⟩))
  rw [nI_clamp (by omega)]
  refine ⟨k1, ?_⟩
  rw [k2] at k1 ⊢
  exact ⟨k1, h⟩
