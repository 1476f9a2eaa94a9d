theorem ev_fuel {K : Ka} {nm : Nat → Int64} (hO : KO K) {e : Nat} (he : e < 3) : ∀ (d k f g : Nat), k < d → K.first e ≤ k → k < K.last e → k < f → k < g → ev K nm f k = ev K nm g k := by
  intro d
  induction d with
  | zero => intro k f g h; omega
  | succ d ih =>
    intro k f g hd h1 h2 hf hg
    obtain ⟨n1, n2, n3, n4⟩ := hO.knot e k he h1 h2
    cases f with
    | zero => omega
    | succ f =>
      cases g with
      | zero => omega
      | succ g =>
        unfold ev
        by_cases c0 : K.knot k = 0
        · rw [if_pos c0, if_pos c0]
        · rw [if_neg c0, if_neg c0]
          by_cases c1 : K.knot k = 1
          · rw [if_pos c1, if_pos c1]
          · rw [if_neg c1, if_neg c1]
            obtain ⟨-, a1, a2⟩ := n3 (by omega)
            rw [ih (K.kA k) f g (by omega) a1 (by omega) (by omega) (by omega)]
            by_cases c2 : K.knot k = 2
            · simp only [c2, if_true]
            · obtain ⟨-, b1, b2⟩ := n4 (by omega)
              rw [ih (K.kB k) f g (by omega) b1 (by omega) (by omega) (by omega)]
theorem wv_step {K : Ka} {nm wo : Nat → Int64} (hO : KO K) {e k : Nat} (he : e < 3) (h1 : K.first e ≤ k) (h2 : k < K.last e) (h : ∀ j, K.first e ≤ j → j < k → wv K nm j = some (wo j)) : wv K nm k = wk K nm wo k := by
  obtain ⟨n1, n2, n3, n4⟩ := hO.knot e k he h1 h2
  have key : ∀ j, K.first e ≤ j → j < k → ev K nm k j = some (wo j) := fun j hj1 hj2 => by
    rw [← h j hj1 hj2]
    exact ev_fuel hO he (j + 1) j k (j + 1) (by omega) hj1 (by omega) hj2 (by omega)
  unfold wv wk ev
  by_cases c0 : K.knot k = 0
  · rw [if_pos c0, if_pos c0]
  · rw [if_neg c0, if_neg c0]
    by_cases c1 : K.knot k = 1
    · rw [if_pos c1, if_pos c1]
    · rw [if_neg c1, if_neg c1]
      obtain ⟨-, a1, a2⟩ := n3 (by omega)
      rw [key _ a1 a2]
      by_cases c2 : K.knot k = 2
      · simp only [c2, if_true]
      · obtain ⟨-, b1, b2⟩ := n4 (by omega)
        rw [key _ b1 b2]
theorem wv_up {K : Ka} {nm : Nat → Int64} (hO : KO K) {e : Nat} (he : e < 3) : ∀ d k, k + d + 1 = K.last e → K.first e ≤ k → wv K nm k = none → wv K nm (K.last e - 1) = none := by
  intro d
  induction d using Nat.strongRecOn with
  | ind d ih =>
    intro k hk h1 hn
    by_cases hd : d = 0
    · rw [show K.last e - 1 = k by omega]; exact hn
    · obtain ⟨j, j1, j2, j3⟩ := hO.up e k he h1 (by omega)
      refine ih (K.last e - 1 - j) (by omega) j (by omega) (by omega) ?_
      have f1 : ev K nm j k = none := by
        rw [← hn]
        exact ev_fuel hO he (k + 1) k j (k + 1) (by omega) h1 (by omega) j1 (by omega)
      unfold wv ev
      rcases j3 with ⟨c, rfl⟩ | ⟨c, rfl⟩
      · rw [if_neg (by omega), if_neg (by omega), f1]
      · rw [if_neg (by omega), if_neg (by omega), f1]
        cases ev K nm j (K.kA j) with
        | none => rfl
        | some a => simp only [show ¬ K.knot j = 2 by omega, if_false]
theorem p4_sumOf {M : MS} {K : Ka} {Post : Int64 → MS → Prop} {e : Nat} (hO : KO K) (hM : MK M K) (he : e < 3) (hne : K.first e < K.last e) (h : ∀ r M', MK M' K → mb M' 62 = mb M 62 → ml M' = ml M → (mi M' 64 = 0 → wv K (mb M 62) (K.last e - 1) = some r) → (¬ mi M' 64 = 0 → wv K (mb M 62) (K.last e - 1) = none) → Post r M') : w4_sumOf (nI e) M Post := by
  obtain ⟨l1, l2⟩ := hO.last e he
  have l3 := hO.knots
  intro M1 e1
  have hM1 : MK M1 K := by rw [e1]; exact hM
  refine ⟨by rw [mN_39]; exact vp_in_nI (by omega) (by omega), fun v hv => ?_⟩
  rw [nI_clamp (by omega), hM1.first e he] at hv
  subst hv
  have key := upF (W := fun f i => ∀ M2 : MS, MK M2 K → mb M2 62 = mb M 62 → ml M2 = ml M → (mi M2 64 = 0 → ∀ j, K.first e ≤ j → j < i → wv K (mb M 62) j = some (mb M2 63 j)) → (¬ mi M2 64 = 0 → wv K (mb M 62) (K.last e - 1) = none) → w4_sumOf_l12 (nI e) Post f (nI i) M2) (e := K.last e) (s := K.first e) (by omega) ?_ ?_
  · obtain ⟨f, hf⟩ := key
    exact ⟨f, hf M1 hM1 (by rw [e1]; rfl) (by rw [e1]; rfl) (fun _ j g1 g2 => by omega) (fun g => absurd (by rw [e1]; rfl) g)⟩
  · intro n M2 g1 g2 g3 g4 g5
    rw [w4_sumOf_l12, nI_clamp (by omega), g1.last e he]
    refine ⟨by rw [mN_40]; exact vp_in_nI (by omega) (by omega), br_t (Int32.le_refl _) ?_⟩
    have e5 : nI (K.last e) - 1 = nI (K.last e - 1) := by
      have := nI_pred (K.last e - 1)
      rwa [show K.last e - 1 + 1 = K.last e by omega] at this
    rw [e5, nI_clamp (by omega)]
    refine ⟨by rw [mN_40]; exact vp_in_nI (by omega) (by omega), by rw [mN_63]; exact vp_in_nI (by omega) (by omega), ?_⟩
    exact h _ M2 g1 g2 g3 (fun c => g4 c _ (by omega) (by omega)) g5
  · intro n i hi0 hi ih M2 g1 g2 g3 g4 g5
    rw [w4_sumOf_l12, nI_clamp (by omega), g1.last e he]
    refine ⟨by rw [mN_40]; exact vp_in_nI (by omega) (by omega), br_f (nI_ge hi (by omega)) ?_⟩
    refine p4_worthOf hO g1 he hi0 hi (fun c w M3 hw h3 => ?_) (fun hn r M3 h3 => ?_)
    · refine ⟨by rw [mN_63]; exact vp_in_nI (by omega) (by omega), fun M4 e4 v hv => ?_⟩
      subst hv
      rw [nI_1]
      rw [nI_clamp (by omega)] at e4
      have f0 : mi M3 64 = 0 := by rcases h3 with rfl | rfl; exact c; rfl
      have f1 : MK M3 K := by rcases h3 with rfl | rfl; exact g1; exact g1
      have f2 : mb M3 = mb M2 := by rcases h3 with rfl | rfl <;> rfl
      have f3 : ml M3 = ml M2 := by rcases h3 with rfl | rfl <;> rfl
      refine ih M4 (by rw [e4]; exact f1) (by rw [e4]; show mb M3 62 = _; rw [f2]; exact g2) (by rw [e4]; show ml M3 = _; rw [f3]; exact g3) (fun _ j j1 j2 => ?_) (fun q => absurd (by rw [e4]; exact f0) q)
      rw [e4, mb_sb, if_pos rfl]
      by_cases q : j = i
      · subst q
        rw [pk_uLs]
        rw [g2] at hw
        rw [wv_step hO he j1 hi (fun a a1 a2 => g4 c a a1 a2)]
        exact hw
      · rw [pk_uLn q, f2]
        exact g4 c j j1 (by omega)
    · refine ⟨by rw [mN_63]; exact vp_in_nI (by omega) (by omega), fun M4 e4 v hv => ?_⟩
      subst hv
      rw [nI_1]
      have f0 : ¬ mi M3 64 = 0 := by
        rcases h3 with rfl | ⟨rfl, q⟩
        · show ¬ (1 : Int32) = 0; decide
        · exact q
      have f1 : MK M3 K := by rcases h3 with rfl | ⟨rfl, q⟩; exact g1; exact g1
      have f2 : mb M3 = mb M2 := by rcases h3 with rfl | ⟨rfl, q⟩ <;> rfl
      have f3 : ml M3 = ml M2 := by rcases h3 with rfl | ⟨rfl, q⟩ <;> rfl
      refine ih M4 (by rw [e4]; exact f1) (by rw [e4]; show mb M3 62 = _; rw [f2]; exact g2) (by rw [e4]; show ml M3 = _; rw [f3]; exact g3) (fun q => absurd (by rw [← q, e4]; rfl) f0) (fun _ => ?_)
      by_cases c : mi M2 64 = 0
      · have hw := hn c
        rw [g2] at hw
        refine wv_up hO he (K.last e - 1 - i) i (by omega) hi0 ?_
        rw [wv_step hO he hi0 hi (fun a a1 a2 => g4 c a a1 a2)]
        exact hw
      · exact g5 c
