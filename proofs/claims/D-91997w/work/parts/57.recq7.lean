theorem p4_feed {M : MS} {K : Ka} {Post : Int32 → MS → Prop} (hO : KO K) (hM : MK M K) {a b c d e : Int32} (h : ∀ M', MK M' (aFeed K a b c d e).2 → Post (aFeed K a b c d e).1 M') : w4_feed a b c d e M Post := by
  have h9f := hO.fed
  intro M1 e1
  replace hM : MK M1 K := by rw [e1]; exact hM.si2
  unfold aFeed at h
  rw [hM.fed, show (20 : Int32) = nI 20 from rfl, nI_add, show (800 : Int32) = nI 800 from rfl]
  refine br_c (fun q => ?_) (fun q => ?_)
  · rw [nI_leI (by omega) (by omega)] at q
    rw [if_pos q] at h
    refine upL (W := fun f i => ∀ M2 : MS, (∀ k, mi M2 k = mi M1 k) → (∀ k, k ≠ 0 → ma M2 k = ma M1 k) → (∀ j, j < K.fed → ma M2 0 j = K.byte j) → (∀ j, j < i → ma M2 0 (K.fed + j) = fb a b c d e j) → w4_feed_l23 a b c d e Post f (nI i) M2) (e := 20) ?_ ?_ |>.imp (fun f h => h M1 (fun _ => rfl) (fun _ _ => rfl) hM.byte (fun j hj => absurd hj (Nat.not_lt_zero _)))
    · intro n M2 g1 g2 g3 g4
      rw [w4_feed_l23]
      refine br_t (Int32.le_refl _) (fun M4 e4 => ?_)
      have e5 : mi M4 1 = nI (K.fed + 20) := by
        rw [e4]
        show mi M2 1 + 20 = _
        rw [g1, hM.fed, show (20 : Int32) = nI 20 from rfl, nI_add]
      rw [e5]
      refine h _ ?_
      have m1 : ∀ k, k ≠ 1 → mi M4 k = mi M1 k := fun k hk => by
        rw [e4, mi_si, if_neg hk]; exact g1 k
      have m2 : ∀ k, k ≠ 0 → ma M4 k = ma M1 k := fun k hk => by
        rw [e4, ma_si]; exact g2 k hk
      have m3 : ma M4 0 = ma M2 0 := by rw [e4, ma_si]
      refine ⟨?_, ?_, ?_, ?_, ?_, ?_, ?_, ?_, ?_, ?_, ?_, e5, ?_, ?_, ?_, ?_, ?_, ?_, ?_, ?_, ?_, ?_, ?_, ?_, ?_, ?_, ?_, ?_, ?_, ?_, ?_, ?_, ?_, ?_, ?_, ?_, ?_, ?_, ?_⟩
      all_goals first
        | (rw [m1 _ (by decide)]; first | exact hM.nT | exact hM.nL | exact hM.nK | exact hM.nP | exact hM.knots | exact hM.told | exact hM.heard | exact hM.were | exact hM.truth | exact hM.isThere | exact hM.isNot | exact hM.fKind | exact hM.fPlace)
        | (rw [m2 _ (by decide)]; first | exact hM.tName | exact hM.ways | exact hM.isSo | exact hM.paper | exact hM.police | exact hM.lName | exact hM.age | exact hM.begins | exact hM.ends | exact hM.taped | exact hM.isW | exact hM.who | exact hM.hour | exact hM.thing | exact hM.value | exact hM.pWho | exact hM.pThing | exact hM.pValue | exact hM.first | exact hM.last | exact hM.knot | exact hM.kP | exact hM.kO | exact hM.words)
        | skip
      intro j hj
      rw [m3]
      show ma M2 0 j = if K.fed ≤ j ∧ j < K.fed + 20 then fb a b c d e (j - K.fed) else K.byte j
      by_cases q2 : K.fed ≤ j
      · have hj : j < K.fed + 20 := hj
        rw [if_pos ⟨q2, hj⟩]
        have := g4 (j - K.fed) (by omega)
        rwa [show K.fed + (j - K.fed) = j by omega] at this
      · rw [if_neg (fun q3 => q2 q3.1)]
        exact g3 j (by omega)
    · intro n i hi ih M2 g1 g2 g3 g4
      rw [w4_feed_l23]
      refine br_f (nI_ge (b := 20) hi (by omega)) ?_
      have step : ∀ w : Int32, w = fbW a b c d e i → w4_feed_c76 a b c d e (w4_feed_l23 a b c d e Post n) Post (nI i) w M2 := by
        intro w hw
        unfold w4_feed_c76
        rw [g1, hM.fed, nI_add]
        refine ⟨by rw [mN_0]; exact vp_in_nI (by omega) (by omega), fun M3 e3 v hv => ?_⟩
        rw [hv, nI_1]
        rw [nI_clamp (by omega), sh_eq hi] at e3
        refine ih M3 (fun k => by rw [e3]; exact g1 k) (fun k hk => by rw [e3, ma_sa, if_neg hk]; exact g2 k hk) (fun j hj => ?_) (fun j hj => ?_)
        · rw [e3, ma_sa, if_pos rfl, pk_un (by omega)]; exact g3 j hj
        · rw [e3, ma_sa, if_pos rfl]
          by_cases q2 : j = i
          · rw [q2, pk_us, hw]; rfl
          · rw [pk_un (by omega)]; exact g4 j (by omega)
      rw [show (4 : Int32) = nI 4 from rfl, show (8 : Int32) = nI 8 from rfl, show (12 : Int32) = nI 12 from rfl, show (16 : Int32) = nI 16 from rfl]
      simp (disch := omega) only [nI_leI]
      refine br_c (fun c4 => br_c (fun c8 => br_c (fun c12 => br_c (fun c16 => ?_) (fun c16 => ?_)) (fun c12 => ?_)) (fun c8 => ?_)) (fun c4 => ?_)
      · exact step _ (by unfold fbW; rw [if_neg (by omega), if_neg (by omega), if_neg (by omega), if_neg (by omega)])
      · exact step _ (by unfold fbW; rw [if_neg (by omega), if_neg (by omega), if_neg (by omega), if_pos (by omega)])
      · exact step _ (by unfold fbW; rw [if_neg (by omega), if_neg (by omega), if_pos (by omega)])
      · exact step _ (by unfold fbW; rw [if_neg (by omega), if_pos (by omega)])
      · exact step _ (by unfold fbW; rw [if_pos (by omega)])
  · rw [nI_leI (by omega) (by omega)] at q
    rw [if_neg q] at h
    exact h _ hM
