def w4_isSign (a1 : Int32) (M : MS) (Post : Int32 → MS → Prop) : Prop := ((mi M 8) = (4 : Int32) → (((mi M 9) = a1 → (Post (1 : Int32) M)) ∧ (¬ ((mi M 9) = a1) → (Post (0 : Int32) M)))) ∧ (¬ ((mi M 8) = (4 : Int32)) → (Post (0 : Int32) M))
abbrev rX4_isSign : Room := { frames := 0, cells := 0, slots := 0, locals := 0 }
theorem cdX4_isSign : yX4_isSign.cls = RX4 ∧ yX4_isSign.cls ≠ "java/lang/invoke/MethodHandle" ∧ yX4_isSign.cls ≠ "java/lang/invoke/VarHandle" ∧ (parseMethodDescriptor yX4_isSign.desc).map (fun d => d.parameters.length) = some 1 := by decide +kernel
set_option maxHeartbeats 4000000 in
set_option maxRecDepth 100000 in
theorem mt4_isSign (l : Launch) {D : va_G} {cA : Nat → ClassId} {m0 : Nat} {ad : Nat → Nat} (hA : mAd m0 ad) (a1 : Int32) (M : MS) (Post : Int32 → MS → Prop) (h : w4_isSign a1 M Post) : Met l yX4_isSign (ws_ yX4_isSign cX4_isSign 2 (some .boolean)) rX4_isSign (mPc [.ref m0, .int a1] D cA m0 ad M) (va_Qi Post (mB D cA m0 ad) (mF m0 ad)) 0 0 (mF m0 ad) := by
  refine mst_i (own := RX4) (by decide) rfl (Nat.le_of_ble_eq_true rfl) ?_
  intro p e s m args below meth c Q ls S hK hP hS hl hret
  have hx := S.1
  have hb := S.2.1
  have hl : lv_has ls 2 [(0, .ref m0), (1, .int a1)] := hl
  unfold w4_isSign at h
  refine lv_aload_n hx hb dX4_isSign_0 rfl (lv_at hl 0 rfl) ?_
  refine mg_i S hK hP (k := 8) (by decide) (by decide) q1428 dX4_isSign_1 ?_
  refine lv_iconst hx hb dX4_isSign_4 kc_4 ?_
  refine lv_icmp_ne (tgt := 20) hx hb dX4_isSign_5 (by decide) (fun c_1 => ?_) (fun c_1 => ?_)
  · replace h := h.2 c_1
    refine lv_iconst hx hb dX4_isSign_20 kc_0 ?_
    exact hret _ _ _ _ _ _ hP hS h (vz_nar vz_0) dX4_isSign_21
  · replace h := h.1 c_1
    refine lv_aload_n hx hb dX4_isSign_8 rfl (lv_at hl 0 rfl) ?_
    refine mg_i S hK hP (k := 9) (by decide) (by decide) q1429 dX4_isSign_9 ?_
    refine lv_iload_n hx hb dX4_isSign_12 rfl (lv_at hl 1 rfl) ?_
    refine lv_icmp_ne (tgt := 20) hx hb dX4_isSign_13 (by decide) (fun c_2 => ?_) (fun c_2 => ?_)
    · replace h := h.2 c_2
      refine lv_iconst hx hb dX4_isSign_20 kc_0 ?_
      exact hret _ _ _ _ _ _ hP hS h (vz_nar vz_0) dX4_isSign_21
    · replace h := h.1 c_2
      refine lv_iconst hx hb dX4_isSign_16 kc_1 ?_
      refine lv_goto (tgt := 21) hx hb dX4_isSign_17 (by decide) ?_
      exact hret _ _ _ _ _ _ hP hS h (vz_nar vz_1) dX4_isSign_21
def w4_waitsFor (a1 : Int32) (M : MS) (Post : MS → Prop) : Prop := (vp_in (mi M 52) (mN 50) ∧ ∀ M_1 : MS, M_1 = sa M 50 (Int32.toNatClampNeg (mi M 52)) a1 → ∀ M_2 : MS, M_2 = si M_1 52 ((mi M_1 52) + (1 : Int32)) → Post M_2)
abbrev rX4_waitsFor : Room := { frames := 0, cells := 0, slots := 0, locals := 0 }
theorem cdX4_waitsFor : yX4_waitsFor.cls = RX4 ∧ yX4_waitsFor.cls ≠ "java/lang/invoke/MethodHandle" ∧ yX4_waitsFor.cls ≠ "java/lang/invoke/VarHandle" ∧ (parseMethodDescriptor yX4_waitsFor.desc).map (fun d => d.parameters.length) = some 1 := by decide +kernel
set_option maxHeartbeats 4000000 in
set_option maxRecDepth 100000 in
theorem mt4_waitsFor (l : Launch) {D : va_G} {cA : Nat → ClassId} {m0 : Nat} {ad : Nat → Nat} (hA : mAd m0 ad) (a1 : Int32) (M : MS) (Post : MS → Prop) (h : w4_waitsFor a1 M Post) : Met l yX4_waitsFor (ws_ yX4_waitsFor cX4_waitsFor 2 none) rX4_waitsFor (mPc [.ref m0, .int a1] D cA m0 ad M) (va_Qv Post (mB D cA m0 ad) (mF m0 ad)) 0 0 (mF m0 ad) := by
  refine mst_v (own := RX4) (by decide) rfl (Nat.le_of_ble_eq_true rfl) ?_
  intro p e s m args below meth c Q ls S hK hP hS hl hret
  have hx := S.1
  have hb := S.2.1
  have hl : lv_has ls 2 [(0, .ref m0), (1, .int a1)] := hl
  unfold w4_waitsFor at h
  refine lv_aload_n hx hb dX4_waitsFor_0 rfl (lv_at hl 0 rfl) ?_
  refine mg_r S hK hP (k := 50) (by decide) (by decide) q1470 dX4_waitsFor_1 ?_
  refine lv_aload_n hx hb dX4_waitsFor_4 rfl (lv_at hl 0 rfl) ?_
  refine mg_i S hK hP (k := 52) (by decide) (by decide) q1472 dX4_waitsFor_5 ?_
  refine lv_iload_n hx hb dX4_waitsFor_8 rfl (lv_at hl 1 rfl) ?_
  obtain ⟨hi, h⟩ := h
  refine ms_a S hK hA hP hS (k := 50) af_50 rfl hi dX4_waitsFor_9 (fun M_1 H locs e_M_1 hP hS => ?_)
  replace h := h M_1 e_M_1
  refine lv_aload_n hx hb dX4_waitsFor_10 rfl (lv_at hl 0 rfl) ?_
  refine lv_dup hx hb dX4_waitsFor_11 rfl ?_
  refine mg_i S hK hP (k := 52) (by decide) (by decide) q1472 dX4_waitsFor_12 ?_
  refine lv_iconst hx hb dX4_waitsFor_15 kc_1 ?_
  refine lv_iadd hx hb dX4_waitsFor_16 ?_
  refine mp_i S hK hA hP hS (k := 52) (by decide) (Or.inl rfl) rfl (Or.inl ⟨rfl, rfl⟩) q1472 dX4_waitsFor_17 (fun M_2 H locs e_M_2 hP hS => ?_)
  replace h := h M_2 e_M_2
  exact hret _ _ _ _ _ hP hS h dX4_waitsFor_20
def w4_isCounted (M : MS) (Post : Int32 → MS → Prop) : Prop := ((mi M 55) = (64 : Int32) → (w4_wrong (2 : Int32) M (fun r_4 M_3 => vz r_4 ∧ Post r_4 M_3))) ∧ (¬ ((mi M 55) = (64 : Int32)) → (∀ M_2 : MS, M_2 = si M 55 ((mi M 55) + (1 : Int32)) → Post (1 : Int32) M_2))
abbrev rX4_isCounted : Room := { frames := 1, cells := 0, slots := 0, locals := 21 }
theorem cdX4_isCounted : yX4_isCounted.cls = RX4 ∧ yX4_isCounted.cls ≠ "java/lang/invoke/MethodHandle" ∧ yX4_isCounted.cls ≠ "java/lang/invoke/VarHandle" ∧ (parseMethodDescriptor yX4_isCounted.desc).map (fun d => d.parameters.length) = some 0 := by decide +kernel
set_option maxHeartbeats 4000000 in
set_option maxRecDepth 100000 in
theorem mt4_isCounted (l : Launch) {D : va_G} {cA : Nat → ClassId} {m0 : Nat} {ad : Nat → Nat} (hA : mAd m0 ad) (M : MS) (Post : Int32 → MS → Prop) (h : w4_isCounted M Post) : Met l yX4_isCounted (ws_ yX4_isCounted cX4_isCounted 1 (some .boolean)) rX4_isCounted (mPc [.ref m0] D cA m0 ad M) (va_Qi Post (mB D cA m0 ad) (mF m0 ad)) 0 0 (mF m0 ad) := by
  refine mst_i (own := RX4) (by decide) rfl (Nat.le_of_ble_eq_true rfl) ?_
  intro p e s m args below meth c Q ls S hK hP hS hl hret
  have hx := S.1
  have hb := S.2.1
  have hl : lv_has ls 1 [(0, .ref m0)] := hl
  unfold w4_isCounted at h
  refine lv_aload_n hx hb dX4_isCounted_0 rfl (lv_at hl 0 rfl) ?_
  refine mg_i S hK hP (k := 55) (by decide) (by decide) q1475 dX4_isCounted_1 ?_
  refine lv_bipush hx hb dX4_isCounted_4 kb_64 ?_
  refine lv_icmp_ne (tgt := 15) hx hb dX4_isCounted_6 (by decide) (fun c_1 => ?_) (fun c_1 => ?_)
  · replace h := h.2 c_1
    refine lv_aload_n hx hb dX4_isCounted_15 rfl (lv_at hl 0 rfl) ?_
    refine lv_dup hx hb dX4_isCounted_16 rfl ?_
    refine mg_i S hK hP (k := 55) (by decide) (by decide) q1475 dX4_isCounted_17 ?_
    refine lv_iconst hx hb dX4_isCounted_20 kc_1 ?_
    refine lv_iadd hx hb dX4_isCounted_21 ?_
    refine mp_i S hK hA hP hS (k := 55) (by decide) (Or.inl rfl) rfl (Or.inl ⟨rfl, rfl⟩) q1475 dX4_isCounted_22 (fun M_2 H locs e_M_2 hP hS => ?_)
    replace h := h M_2 e_M_2
    refine lv_iconst hx hb dX4_isCounted_25 kc_1 ?_
    exact hret _ _ _ _ _ _ hP hS h (vz_nar vz_1) dX4_isCounted_26
  · replace h := h.1 c_1
    refine lv_aload_n hx hb dX4_isCounted_9 rfl (lv_at hl 0 rfl) ?_
    refine lv_iconst hx hb dX4_isCounted_10 kc_2 ?_
    refine mc_i S hK hP hS (As := [.int (2 : Int32)]) (rest := []) (mt4_wrong l hA (2 : Int32) M _ h) (cwV 1 S.2.2.2.2 (lw_V q1660 q1662 qs72 q145 q1663) rfl rfl rfl cdX4_wrong ⟨Nat.le_of_ble_eq_true rfl, Nat.le_of_ble_eq_true rfl⟩) rfl rfl hl.1 (Nat.le_of_ble_eq_true rfl) dX4_isCounted_11 ⟨Nat.le_refl _, Nat.le_refl _⟩ (fun r_4 M_3 H locs h hP hS => ?_)
    exact hret _ _ _ _ _ _ hP hS h.2 (vz_nar h.1) dX4_isCounted_14
def w4_grown (a1 : Int32) (a2 : Int32) (a3 : Int32) (M : MS) (Post : MS → Prop) : Prop := (vp_in ((64 : Int32) + (mi M 20)) (mN 41) ∧ ∀ M_1 : MS, M_1 = sa M 41 (Int32.toNatClampNeg ((64 : Int32) + (mi M 20))) a1 → (vp_in ((64 : Int32) + (mi M_1 20)) (mN 42) ∧ ∀ M_2 : MS, M_2 = sa M_1 42 (Int32.toNatClampNeg ((64 : Int32) + (mi M_1 20))) a2 → (vp_in ((64 : Int32) + (mi M_2 20)) (mN 43) ∧ ∀ M_3 : MS, M_3 = sa M_2 43 (Int32.toNatClampNeg ((64 : Int32) + (mi M_2 20))) a3 → (vp_in (mi M_3 53) (mN 51) ∧ ∀ M_4 : MS, M_4 = sa M_3 51 (Int32.toNatClampNeg (mi M_3 53)) (mi M_3 20) → ∀ M_5 : MS, M_5 = si M_4 53 ((mi M_4 53) + (1 : Int32)) → ∀ M_6 : MS, M_6 = si M_5 20 ((mi M_5 20) + (1 : Int32)) → Post M_6))))
abbrev rX4_grown : Room := { frames := 0, cells := 0, slots := 0, locals := 0 }
theorem cdX4_grown : yX4_grown.cls = RX4 ∧ yX4_grown.cls ≠ "java/lang/invoke/MethodHandle" ∧ yX4_grown.cls ≠ "java/lang/invoke/VarHandle" ∧ (parseMethodDescriptor yX4_grown.desc).map (fun d => d.parameters.length) = some 3 := by decide +kernel
set_option maxHeartbeats 4000000 in
set_option maxRecDepth 100000 in
theorem mt4_grown (l : Launch) {D : va_G} {cA : Nat → ClassId} {m0 : Nat} {ad : Nat → Nat} (hA : mAd m0 ad) (a1 : Int32) (a2 : Int32) (a3 : Int32) (M : MS) (Post : MS → Prop) (h : w4_grown a1 a2 a3 M Post) : Met l yX4_grown (ws_ yX4_grown cX4_grown 4 none) rX4_grown (mPc [.ref m0, .int a1, .int a2, .int a3] D cA m0 ad M) (va_Qv Post (mB D cA m0 ad) (mF m0 ad)) 0 0 (mF m0 ad) := by
  refine mst_v (own := RX4) (by decide) rfl (Nat.le_of_ble_eq_true rfl) ?_
  intro p e s m args below meth c Q ls S hK hP hS hl hret
  have hx := S.1
  have hb := S.2.1
  have hl : lv_has ls 4 [(0, .ref m0), (1, .int a1), (2, .int a2), (3, .int a3)] := hl
  unfold w4_grown at h
  refine lv_aload_n hx hb dX4_grown_0 rfl (lv_at hl 0 rfl) ?_
  refine mg_r S hK hP (k := 41) (by decide) (by decide) q1461 dX4_grown_1 ?_
  refine lv_bipush hx hb dX4_grown_4 kb_64 ?_
  refine lv_aload_n hx hb dX4_grown_6 rfl (lv_at hl 0 rfl) ?_
  refine mg_i S hK hP (k := 20) (by decide) (by decide) q1440 dX4_grown_7 ?_
  refine lv_iadd hx hb dX4_grown_10 ?_
  refine lv_iload_n hx hb dX4_grown_11 rfl (lv_at hl 1 rfl) ?_
  obtain ⟨hi, h⟩ := h
  refine ms_a S hK hA hP hS (k := 41) af_41 rfl hi dX4_grown_12 (fun M_1 H locs e_M_1 hP hS => ?_)
  replace h := h M_1 e_M_1
  refine lv_aload_n hx hb dX4_grown_13 rfl (lv_at hl 0 rfl) ?_
  refine mg_r S hK hP (k := 42) (by decide) (by decide) q1462 dX4_grown_14 ?_
  refine lv_bipush hx hb dX4_grown_17 kb_64 ?_
  refine lv_aload_n hx hb dX4_grown_19 rfl (lv_at hl 0 rfl) ?_
  refine mg_i S hK hP (k := 20) (by decide) (by decide) q1440 dX4_grown_20 ?_
  refine lv_iadd hx hb dX4_grown_23 ?_
  refine lv_iload_n hx hb dX4_grown_24 rfl (lv_at hl 2 rfl) ?_
  obtain ⟨hi, h⟩ := h
  refine ms_a S hK hA hP hS (k := 42) af_42 rfl hi dX4_grown_25 (fun M_2 H locs e_M_2 hP hS => ?_)
  replace h := h M_2 e_M_2
  refine lv_aload_n hx hb dX4_grown_26 rfl (lv_at hl 0 rfl) ?_
  refine mg_r S hK hP (k := 43) (by decide) (by decide) q1463 dX4_grown_27 ?_
  refine lv_bipush hx hb dX4_grown_30 kb_64 ?_
  refine lv_aload_n hx hb dX4_grown_32 rfl (lv_at hl 0 rfl) ?_
  refine mg_i S hK hP (k := 20) (by decide) (by decide) q1440 dX4_grown_33 ?_
  refine lv_iadd hx hb dX4_grown_36 ?_
  refine lv_iload_n hx hb dX4_grown_37 rfl (lv_at hl 3 rfl) ?_
  obtain ⟨hi, h⟩ := h
  refine ms_a S hK hA hP hS (k := 43) af_43 rfl hi dX4_grown_38 (fun M_3 H locs e_M_3 hP hS => ?_)
  replace h := h M_3 e_M_3
  refine lv_aload_n hx hb dX4_grown_39 rfl (lv_at hl 0 rfl) ?_
  refine mg_r S hK hP (k := 51) (by decide) (by decide) q1471 dX4_grown_40 ?_
  refine lv_aload_n hx hb dX4_grown_43 rfl (lv_at hl 0 rfl) ?_
  refine mg_i S hK hP (k := 53) (by decide) (by decide) q1473 dX4_grown_44 ?_
  refine lv_aload_n hx hb dX4_grown_47 rfl (lv_at hl 0 rfl) ?_
  refine mg_i S hK hP (k := 20) (by decide) (by decide) q1440 dX4_grown_48 ?_
  obtain ⟨hi, h⟩ := h
  refine ms_a S hK hA hP hS (k := 51) af_51 rfl hi dX4_grown_51 (fun M_4 H locs e_M_4 hP hS => ?_)
  replace h := h M_4 e_M_4
  refine lv_aload_n hx hb dX4_grown_52 rfl (lv_at hl 0 rfl) ?_
  refine lv_dup hx hb dX4_grown_53 rfl ?_
  refine mg_i S hK hP (k := 53) (by decide) (by decide) q1473 dX4_grown_54 ?_
  refine lv_iconst hx hb dX4_grown_57 kc_1 ?_
  refine lv_iadd hx hb dX4_grown_58 ?_
  refine mp_i S hK hA hP hS (k := 53) (by decide) (Or.inl rfl) rfl (Or.inl ⟨rfl, rfl⟩) q1473 dX4_grown_59 (fun M_5 H locs e_M_5 hP hS => ?_)
  replace h := h M_5 e_M_5
  refine lv_aload_n hx hb dX4_grown_62 rfl (lv_at hl 0 rfl) ?_
  refine lv_dup hx hb dX4_grown_63 rfl ?_
  refine mg_i S hK hP (k := 20) (by decide) (by decide) q1440 dX4_grown_64 ?_
  refine lv_iconst hx hb dX4_grown_67 kc_1 ?_
  refine lv_iadd hx hb dX4_grown_68 ?_
  refine mp_i S hK hA hP hS (k := 20) (by decide) (Or.inl rfl) rfl (Or.inl ⟨rfl, rfl⟩) q1440 dX4_grown_69 (fun M_6 H locs e_M_6 hP hS => ?_)
  replace h := h M_6 e_M_6
  exact hret _ _ _ _ _ hP hS h dX4_grown_72
def w4_leafRead_c163 (Post : Int32 → MS → Prop) (t0 : Int32) (t1 : Int32) (M : MS) : Prop := w4_grown t1 t0 (0 : Int32) M (fun M_14 => ∀ M_15 : MS, M_15 = si M_14 56 (0 : Int32) → w4_take M_15 (fun M_16 => Post (1 : Int32) M_16))
def w4_leafRead_c145 (Post : Int32 → MS → Prop) (x1 : Int32) (t0 : Int32) (M : MS) : Prop := (x1 = 0 → (w4_leafRead_c163 Post (mi M 9) t0 M)) ∧ (¬ (x1 = 0) → (w4_leafRead_c163 Post ((mi M 9) - (17 : Int32)) t0 M))
def w4_leafRead_c126 (Post : Int32 → MS → Prop) (x1 : Int32) (M : MS) : Prop := w4_isCounted M (fun r_10 M_9 => (r_10 = 0 → (Post (0 : Int32) M_9)) ∧ (¬ (r_10 = 0) → ((x1 = 0 → (w4_leafRead_c145 Post x1 (0 : Int32) M_9)) ∧ (¬ (x1 = 0) → (w4_leafRead_c145 Post x1 (1 : Int32) M_9)))))
def w4_leafRead_c108 (Post : Int32 → MS → Prop) (t0 : Int32) (M : MS) : Prop := (t0 = 0 → (w4_numberRead (0 : Int32) (999 : Int32) M (fun r_18 M_17 => (r_18 = 0 → (Post (0 : Int32) M_17)) ∧ (¬ (r_18 = 0) → (w4_leafRead_c126 Post t0 M_17))))) ∧ (¬ (t0 = 0) → (w4_leafRead_c126 Post t0 M))
def w4_leafRead_c107 (Post : Int32 → MS → Prop) (M : MS) : Prop := w4_leafRead_c108 Post (0 : Int32) M
def w4_leafRead_c86 (Post : Int32 → MS → Prop) (M : MS) : Prop := ((mi M 8) = (1 : Int32) → (((mi M 9) < (17 : Int32) → (w4_leafRead_c107 Post M)) ∧ (¬ ((mi M 9) < (17 : Int32)) → (w4_leafRead_c108 Post (1 : Int32) M)))) ∧ (¬ ((mi M 8) = (1 : Int32)) → (w4_leafRead_c107 Post M))
def w4_leafRead (M : MS) (Post : Int32 → MS → Prop) : Prop := w4_isSign (40 : Int32) M (fun r_2 M_1 => (r_2 = 0 → (w4_isKey (16 : Int32) M_1 (fun r_5 M_4 => (r_5 = 0 → (w4_leafRead_c86 Post M_4)) ∧ (¬ (r_5 = 0) → (((mi M_4 57) = 0 → (w4_leafRead_c86 Post M_4)) ∧ (¬ ((mi M_4 57) = 0) → (w4_isCounted M_4 (fun r_23 M_22 => (r_23 = 0 → (Post (0 : Int32) M_22)) ∧ (¬ (r_23 = 0) → (w4_waitsFor (2 : Int32) M_22 (fun M_25 => w4_take M_25 (fun M_26 => Post (1 : Int32) M_26)))))))))))) ∧ (¬ (r_2 = 0) → (((mi M_1 54) = (8 : Int32) → (w4_wrong (2 : Int32) M_1 (fun r_33 M_32 => vz r_33 ∧ Post r_33 M_32))) ∧ (¬ ((mi M_1 54) = (8 : Int32)) → (∀ M_28 : MS, M_28 = si M_1 54 ((mi M_1 54) + (1 : Int32)) → w4_waitsFor (0 : Int32) M_28 (fun M_29 => ∀ M_30 : MS, M_30 = si M_29 57 (1 : Int32) → w4_take M_30 (fun M_31 => Post (1 : Int32) M_31)))))))
abbrev rX4_leafRead : Room := { frames := 2, cells := 0, slots := 0, locals := 47 }
theorem cdX4_leafRead : yX4_leafRead.cls = RX4 ∧ yX4_leafRead.cls ≠ "java/lang/invoke/MethodHandle" ∧ yX4_leafRead.cls ≠ "java/lang/invoke/VarHandle" ∧ (parseMethodDescriptor yX4_leafRead.desc).map (fun d => d.parameters.length) = some 0 := by decide +kernel
set_option maxHeartbeats 4000000 in
set_option maxRecDepth 100000 in
theorem mt4_leafRead (l : Launch) {D : va_G} {cA : Nat → ClassId} {m0 : Nat} {ad : Nat → Nat} (hA : mAd m0 ad) (M : MS) (Post : Int32 → MS → Prop) (h : w4_leafRead M Post) : Met l yX4_leafRead (ws_ yX4_leafRead cX4_leafRead 2 (some .boolean)) rX4_leafRead (mPc [.ref m0] D cA m0 ad M) (va_Qi Post (mB D cA m0 ad) (mF m0 ad)) 0 0 (mF m0 ad) := by
  refine mst_i (own := RX4) (by decide) rfl (Nat.le_of_ble_eq_true rfl) ?_
  intro p e s m args below meth c Q ls S hK hP hS hl hret
  have hx := S.1
  have hb := S.2.1
  have hl : lv_has ls 2 [(0, .ref m0)] := hl
  have C163 : ∀ (t0 : Int32) (t1 : Int32) (M : MS) (H : Heap) (locs : List Loc) (ls : Array Slot), va_P D vwCl (mo cA m0 ad M) H → va_S (mF m0 ad) s.heap H locs → lv_has ls 2 [(0, .ref m0)] → w4_leafRead_c163 Post t0 t1 M → W p l e rX4_leafRead s m args below meth c H locs 0 0 Q (F0 m 163 ls [.int t0, .int t1, .ref m0]) := by
    intro t0 t1 M H locs ls hP hS hl h
    unfold w4_leafRead_c163 at h
    refine lv_iconst hx hb dX4_leafRead_163 kc_0 ?_
    refine mc_v S hK hP hS (As := [.int t1, .int t0, .int (0 : Int32)]) (rest := []) (mt4_grown l hA t1 t0 (0 : Int32) M _ h) (cwV 3 S.2.2.2.2 (lw_V q1728 q1730 qs89 q145 q1731) rfl rfl rfl cdX4_grown ⟨Nat.le_of_ble_eq_true rfl, Nat.le_of_ble_eq_true rfl⟩) rfl rfl hl.1 (Nat.le_of_ble_eq_true rfl) dX4_leafRead_164 ⟨Nat.le_refl _, Nat.le_refl _⟩ (fun M_14 H locs h hP hS => ?_)
    refine lv_aload_n hx hb dX4_leafRead_167 rfl (lv_at hl 0 rfl) ?_
    refine lv_iconst hx hb dX4_leafRead_168 kc_0 ?_
    refine mp_i S hK hA hP hS (k := 56) (by decide) (Or.inr ⟨rfl, vz_0⟩) rfl (Or.inr ⟨rfl, rfl⟩) q1476 dX4_leafRead_169 (fun M_15 H locs e_M_15 hP hS => ?_)
    replace h := h M_15 e_M_15
    refine lv_aload_n hx hb dX4_leafRead_172 rfl (lv_at hl 0 rfl) ?_
    refine mc_v S hK hP hS (As := []) (rest := []) (mt4_take l hA M_15 _ h) (cwV 0 S.2.2.2.2 (lw_V q1632 q1634 qs65 q145 q1635) rfl rfl rfl cdX4_take ⟨Nat.le_of_ble_eq_true rfl, Nat.le_of_ble_eq_true rfl⟩) rfl rfl hl.1 (Nat.le_of_ble_eq_true rfl) dX4_leafRead_173 ⟨Nat.le_refl _, Nat.le_refl _⟩ (fun M_16 H locs h hP hS => ?_)
    refine lv_iconst hx hb dX4_leafRead_176 kc_1 ?_
    exact hret _ _ _ _ _ _ hP hS h (vz_nar vz_1) dX4_leafRead_177
  have C145 : ∀ (x1 : Int32) (t0 : Int32) (M : MS) (H : Heap) (locs : List Loc) (ls : Array Slot), va_P D vwCl (mo cA m0 ad M) H → va_S (mF m0 ad) s.heap H locs → lv_has ls 2 [(0, .ref m0), (1, .int x1)] → w4_leafRead_c145 Post x1 t0 M → W p l e rX4_leafRead s m args below meth c H locs 0 0 Q (F0 m 145 ls [.int t0, .ref m0]) := by
    intro x1 t0 M H locs ls hP hS hl h
    unfold w4_leafRead_c145 at h
    refine lv_iload_n hx hb dX4_leafRead_145 rfl (lv_at hl 1 rfl) ?_
    refine lv_if_eq (tgt := 159) hx hb dX4_leafRead_146 (by decide) (fun c_13 => ?_) (fun c_13 => ?_)
    · replace h := h.1 c_13
      refine lv_aload_n hx hb dX4_leafRead_159 rfl (lv_at hl 0 rfl) ?_
      refine mg_i S hK hP (k := 9) (by decide) (by decide) q1429 dX4_leafRead_160 ?_
      exact C163 _ _ _ _ _ _ hP hS (lv_sub hl [0] rfl) h
    · replace h := h.2 c_13
      refine lv_aload_n hx hb dX4_leafRead_149 rfl (lv_at hl 0 rfl) ?_
      refine mg_i S hK hP (k := 9) (by decide) (by decide) q1429 dX4_leafRead_150 ?_
      refine lv_bipush hx hb dX4_leafRead_153 kb_17 ?_
      refine lv_isub hx hb dX4_leafRead_155 ?_
      refine lv_goto (tgt := 163) hx hb dX4_leafRead_156 (by decide) ?_
      exact C163 _ _ _ _ _ _ hP hS (lv_sub hl [0] rfl) h
  have C126 : ∀ (x1 : Int32) (M : MS) (H : Heap) (locs : List Loc) (ls : Array Slot), va_P D vwCl (mo cA m0 ad M) H → va_S (mF m0 ad) s.heap H locs → lv_has ls 2 [(0, .ref m0), (1, .int x1)] → w4_leafRead_c126 Post x1 M → W p l e rX4_leafRead s m args below meth c H locs 0 0 Q (F0 m 126 ls []) := by
    intro x1 M H locs ls hP hS hl h
    unfold w4_leafRead_c126 at h
    refine lv_aload_n hx hb dX4_leafRead_126 rfl (lv_at hl 0 rfl) ?_
    refine mc_i S hK hP hS (As := []) (rest := []) (mt4_isCounted l hA M _ h) (cwV 0 S.2.2.2.2 (lw_V q1724 q1726 qs88 q145 q1727) rfl rfl rfl cdX4_isCounted ⟨Nat.le_of_ble_eq_true rfl, Nat.le_of_ble_eq_true rfl⟩) rfl rfl hl.1 (Nat.le_of_ble_eq_true rfl) dX4_leafRead_127 ⟨Nat.le_refl _, Nat.le_refl _⟩ (fun r_10 M_9 H locs h hP hS => ?_)
    refine lv_if_ne (tgt := 135) hx hb dX4_leafRead_130 (by decide) (fun c_11 => ?_) (fun c_11 => ?_)
    · replace h := h.2 c_11
      refine lv_aload_n hx hb dX4_leafRead_135 rfl (lv_at hl 0 rfl) ?_
      refine lv_iload_n hx hb dX4_leafRead_136 rfl (lv_at hl 1 rfl) ?_
      refine lv_if_eq (tgt := 144) hx hb dX4_leafRead_137 (by decide) (fun c_12 => ?_) (fun c_12 => ?_)
      · replace h := h.1 c_12
        refine lv_iconst hx hb dX4_leafRead_144 kc_0 ?_
        exact C145 _ _ _ _ _ _ hP hS (lv_sub hl [0, 1] rfl) h
      · replace h := h.2 c_12
        refine lv_iconst hx hb dX4_leafRead_140 kc_1 ?_
        refine lv_goto (tgt := 145) hx hb dX4_leafRead_141 (by decide) ?_
        exact C145 _ _ _ _ _ _ hP hS (lv_sub hl [0, 1] rfl) h
    · replace h := h.1 c_11
      refine lv_iconst hx hb dX4_leafRead_133 kc_0 ?_
      exact hret _ _ _ _ _ _ hP hS h (vz_nar vz_0) dX4_leafRead_134
  have C108 : ∀ (t0 : Int32) (M : MS) (H : Heap) (locs : List Loc) (ls : Array Slot), va_P D vwCl (mo cA m0 ad M) H → va_S (mF m0 ad) s.heap H locs → lv_has ls 2 [(0, .ref m0)] → w4_leafRead_c108 Post t0 M → W p l e rX4_leafRead s m args below meth c H locs 0 0 Q (F0 m 108 ls [.int t0]) := by
    intro t0 M H locs ls hP hS hl h
    unfold w4_leafRead_c108 at h
    refine lv_istore_n (lv' := [(1, .int t0), (0, .ref m0)]) hx hb dX4_leafRead_108 rfl hl (by decide) rfl (fun ls hl => ?_)
    refine lv_iload_n hx hb dX4_leafRead_109 rfl (lv_at hl 0 rfl) ?_
    refine lv_if_ne (tgt := 126) hx hb dX4_leafRead_110 (by decide) (fun c_8 => ?_) (fun c_8 => ?_)
    · replace h := h.2 c_8
      exact C126 _ _ _ _ _ hP hS (lv_sub hl [1, 0] rfl) h
    · replace h := h.1 c_8
      refine lv_aload_n hx hb dX4_leafRead_113 rfl (lv_at hl 1 rfl) ?_
      refine lv_iconst hx hb dX4_leafRead_114 kc_0 ?_
      refine lv_sipush hx hb dX4_leafRead_115 ks_999 ?_
      refine mc_i S hK hP hS (As := [.int (0 : Int32), .int (999 : Int32)]) (rest := []) (mt4_numberRead l hA (0 : Int32) (999 : Int32) M _ h) (cwV 2 S.2.2.2.2 (lw_V q1676 q1678 qs76 q145 q1679) rfl rfl rfl cdX4_numberRead ⟨Nat.le_of_ble_eq_true rfl, Nat.le_of_ble_eq_true rfl⟩) rfl rfl hl.1 (Nat.le_of_ble_eq_true rfl) dX4_leafRead_118 ⟨Nat.le_refl _, Nat.le_refl _⟩ (fun r_18 M_17 H locs h hP hS => ?_)
      refine lv_if_ne (tgt := 126) hx hb dX4_leafRead_121 (by decide) (fun c_19 => ?_) (fun c_19 => ?_)
      · replace h := h.2 c_19
        exact C126 _ _ _ _ _ hP hS (lv_sub hl [1, 0] rfl) h
      · replace h := h.1 c_19
        refine lv_iconst hx hb dX4_leafRead_124 kc_0 ?_
        exact hret _ _ _ _ _ _ hP hS h (vz_nar vz_0) dX4_leafRead_125
  have C107 : ∀ (M : MS) (H : Heap) (locs : List Loc) (ls : Array Slot), va_P D vwCl (mo cA m0 ad M) H → va_S (mF m0 ad) s.heap H locs → lv_has ls 2 [(0, .ref m0)] → w4_leafRead_c107 Post M → W p l e rX4_leafRead s m args below meth c H locs 0 0 Q (F0 m 107 ls []) := by
    intro M H locs ls hP hS hl h
    unfold w4_leafRead_c107 at h
    refine lv_iconst hx hb dX4_leafRead_107 kc_0 ?_
    exact C108 _ _ _ _ _ hP hS (lv_sub hl [0] rfl) h
  have C86 : ∀ (M : MS) (H : Heap) (locs : List Loc) (ls : Array Slot), va_P D vwCl (mo cA m0 ad M) H → va_S (mF m0 ad) s.heap H locs → lv_has ls 2 [(0, .ref m0)] → w4_leafRead_c86 Post M → W p l e rX4_leafRead s m args below meth c H locs 0 0 Q (F0 m 86 ls []) := by
    intro M H locs ls hP hS hl h
    unfold w4_leafRead_c86 at h
    refine lv_aload_n hx hb dX4_leafRead_86 rfl (lv_at hl 0 rfl) ?_
    refine mg_i S hK hP (k := 8) (by decide) (by decide) q1428 dX4_leafRead_87 ?_
    refine lv_iconst hx hb dX4_leafRead_90 kc_1 ?_
    refine lv_icmp_ne (tgt := 107) hx hb dX4_leafRead_91 (by decide) (fun c_7 => ?_) (fun c_7 => ?_)
    · replace h := h.2 c_7
      exact C107 _ _ _ _ hP hS (lv_sub hl [0] rfl) h
    · replace h := h.1 c_7
      refine lv_aload_n hx hb dX4_leafRead_94 rfl (lv_at hl 0 rfl) ?_
      refine mg_i S hK hP (k := 9) (by decide) (by decide) q1429 dX4_leafRead_95 ?_
      refine lv_bipush hx hb dX4_leafRead_98 kb_17 ?_
      refine lv_icmp_lt (tgt := 107) hx hb dX4_leafRead_100 (by decide) (fun c_20 => ?_) (fun c_20 => ?_)
      · replace h := h.1 c_20
        exact C107 _ _ _ _ hP hS (lv_sub hl [0] rfl) h
      · replace h := h.2 c_20
        refine lv_iconst hx hb dX4_leafRead_103 kc_1 ?_
        refine lv_goto (tgt := 108) hx hb dX4_leafRead_104 (by decide) ?_
        exact C108 _ _ _ _ _ hP hS (lv_sub hl [0] rfl) h
  unfold w4_leafRead at h
  refine lv_aload_n hx hb dX4_leafRead_0 rfl (lv_at hl 0 rfl) ?_
  refine lv_bipush hx hb dX4_leafRead_1 kb_40 ?_
  refine mc_i S hK hP hS (As := [.int (40 : Int32)]) (rest := []) (mt4_isSign l hA (40 : Int32) M _ h) (cwV 1 S.2.2.2.2 (lw_V q1712 q1714 qs85 q145 q1715) rfl rfl rfl cdX4_isSign ⟨Nat.le_of_ble_eq_true rfl, Nat.le_of_ble_eq_true rfl⟩) rfl rfl hl.1 (Nat.le_of_ble_eq_true rfl) dX4_leafRead_3 ⟨Nat.le_refl _, Nat.le_refl _⟩ (fun r_2 M_1 H locs h hP hS => ?_)
  refine lv_if_eq (tgt := 50) hx hb dX4_leafRead_6 (by decide) (fun c_3 => ?_) (fun c_3 => ?_)
  · replace h := h.1 c_3
    refine lv_aload_n hx hb dX4_leafRead_50 rfl (lv_at hl 0 rfl) ?_
    refine lv_bipush hx hb dX4_leafRead_51 kb_16 ?_
    refine mc_i S hK hP hS (As := [.int (16 : Int32)]) (rest := []) (mt4_isKey l hA (16 : Int32) M_1 _ h) (cwV 1 S.2.2.2.2 (lw_V q1684 q1686 qs78 q145 q1687) rfl rfl rfl cdX4_isKey ⟨Nat.le_of_ble_eq_true rfl, Nat.le_of_ble_eq_true rfl⟩) rfl rfl hl.1 (Nat.le_of_ble_eq_true rfl) dX4_leafRead_53 ⟨Nat.le_refl _, Nat.le_refl _⟩ (fun r_5 M_4 H locs h hP hS => ?_)
    refine lv_if_eq (tgt := 86) hx hb dX4_leafRead_56 (by decide) (fun c_6 => ?_) (fun c_6 => ?_)
    · replace h := h.1 c_6
      exact C86 _ _ _ _ hP hS (lv_sub hl [0] rfl) h
    · replace h := h.2 c_6
      refine lv_aload_n hx hb dX4_leafRead_59 rfl (lv_at hl 0 rfl) ?_
      refine mg_i S hK hP (k := 57) (by decide) (by decide) q1477 dX4_leafRead_60 ?_
      refine lv_if_eq (tgt := 86) hx hb dX4_leafRead_63 (by decide) (fun c_21 => ?_) (fun c_21 => ?_)
      · replace h := h.1 c_21
        exact C86 _ _ _ _ hP hS (lv_sub hl [0] rfl) h
      · replace h := h.2 c_21
        refine lv_aload_n hx hb dX4_leafRead_66 rfl (lv_at hl 0 rfl) ?_
        refine mc_i S hK hP hS (As := []) (rest := []) (mt4_isCounted l hA M_4 _ h) (cwV 0 S.2.2.2.2 (lw_V q1724 q1726 qs88 q145 q1727) rfl rfl rfl cdX4_isCounted ⟨Nat.le_of_ble_eq_true rfl, Nat.le_of_ble_eq_true rfl⟩) rfl rfl hl.1 (Nat.le_of_ble_eq_true rfl) dX4_leafRead_67 ⟨Nat.le_refl _, Nat.le_refl _⟩ (fun r_23 M_22 H locs h hP hS => ?_)
        refine lv_if_ne (tgt := 75) hx hb dX4_leafRead_70 (by decide) (fun c_24 => ?_) (fun c_24 => ?_)
        · replace h := h.2 c_24
          refine lv_aload_n hx hb dX4_leafRead_75 rfl (lv_at hl 0 rfl) ?_
          refine lv_iconst hx hb dX4_leafRead_76 kc_2 ?_
          refine mc_v S hK hP hS (As := [.int (2 : Int32)]) (rest := []) (mt4_waitsFor l hA (2 : Int32) M_22 _ h) (cwV 1 S.2.2.2.2 (lw_V q1720 q1722 qs87 q145 q1723) rfl rfl rfl cdX4_waitsFor ⟨Nat.le_of_ble_eq_true rfl, Nat.le_of_ble_eq_true rfl⟩) rfl rfl hl.1 (Nat.le_of_ble_eq_true rfl) dX4_leafRead_77 ⟨Nat.le_refl _, Nat.le_refl _⟩ (fun M_25 H locs h hP hS => ?_)
          refine lv_aload_n hx hb dX4_leafRead_80 rfl (lv_at hl 0 rfl) ?_
          refine mc_v S hK hP hS (As := []) (rest := []) (mt4_take l hA M_25 _ h) (cwV 0 S.2.2.2.2 (lw_V q1632 q1634 qs65 q145 q1635) rfl rfl rfl cdX4_take ⟨Nat.le_of_ble_eq_true rfl, Nat.le_of_ble_eq_true rfl⟩) rfl rfl hl.1 (Nat.le_of_ble_eq_true rfl) dX4_leafRead_81 ⟨Nat.le_refl _, Nat.le_refl _⟩ (fun M_26 H locs h hP hS => ?_)
          refine lv_iconst hx hb dX4_leafRead_84 kc_1 ?_
          exact hret _ _ _ _ _ _ hP hS h (vz_nar vz_1) dX4_leafRead_85
        · replace h := h.1 c_24
          refine lv_iconst hx hb dX4_leafRead_73 kc_0 ?_
          exact hret _ _ _ _ _ _ hP hS h (vz_nar vz_0) dX4_leafRead_74
  · replace h := h.2 c_3
    refine lv_aload_n hx hb dX4_leafRead_9 rfl (lv_at hl 0 rfl) ?_
    refine mg_i S hK hP (k := 54) (by decide) (by decide) q1474 dX4_leafRead_10 ?_
    refine lv_bipush hx hb dX4_leafRead_13 kb_8 ?_
    refine lv_icmp_ne (tgt := 24) hx hb dX4_leafRead_15 (by decide) (fun c_27 => ?_) (fun c_27 => ?_)
    · replace h := h.2 c_27
      refine lv_aload_n hx hb dX4_leafRead_24 rfl (lv_at hl 0 rfl) ?_
      refine lv_dup hx hb dX4_leafRead_25 rfl ?_
      refine mg_i S hK hP (k := 54) (by decide) (by decide) q1474 dX4_leafRead_26 ?_
      refine lv_iconst hx hb dX4_leafRead_29 kc_1 ?_
      refine lv_iadd hx hb dX4_leafRead_30 ?_
      refine mp_i S hK hA hP hS (k := 54) (by decide) (Or.inl rfl) rfl (Or.inl ⟨rfl, rfl⟩) q1474 dX4_leafRead_31 (fun M_28 H locs e_M_28 hP hS => ?_)
      replace h := h M_28 e_M_28
      refine lv_aload_n hx hb dX4_leafRead_34 rfl (lv_at hl 0 rfl) ?_
      refine lv_iconst hx hb dX4_leafRead_35 kc_0 ?_
      refine mc_v S hK hP hS (As := [.int (0 : Int32)]) (rest := []) (mt4_waitsFor l hA (0 : Int32) M_28 _ h) (cwV 1 S.2.2.2.2 (lw_V q1720 q1722 qs87 q145 q1723) rfl rfl rfl cdX4_waitsFor ⟨Nat.le_of_ble_eq_true rfl, Nat.le_of_ble_eq_true rfl⟩) rfl rfl hl.1 (Nat.le_of_ble_eq_true rfl) dX4_leafRead_36 ⟨Nat.le_refl _, Nat.le_refl _⟩ (fun M_29 H locs h hP hS => ?_)
      refine lv_aload_n hx hb dX4_leafRead_39 rfl (lv_at hl 0 rfl) ?_
      refine lv_iconst hx hb dX4_leafRead_40 kc_1 ?_
      refine mp_i S hK hA hP hS (k := 57) (by decide) (Or.inr ⟨rfl, vz_1⟩) rfl (Or.inr ⟨rfl, rfl⟩) q1477 dX4_leafRead_41 (fun M_30 H locs e_M_30 hP hS => ?_)
      replace h := h M_30 e_M_30
      refine lv_aload_n hx hb dX4_leafRead_44 rfl (lv_at hl 0 rfl) ?_
      refine mc_v S hK hP hS (As := []) (rest := []) (mt4_take l hA M_30 _ h) (cwV 0 S.2.2.2.2 (lw_V q1632 q1634 qs65 q145 q1635) rfl rfl rfl cdX4_take ⟨Nat.le_of_ble_eq_true rfl, Nat.le_of_ble_eq_true rfl⟩) rfl rfl hl.1 (Nat.le_of_ble_eq_true rfl) dX4_leafRead_45 ⟨Nat.le_refl _, Nat.le_refl _⟩ (fun M_31 H locs h hP hS => ?_)
      refine lv_iconst hx hb dX4_leafRead_48 kc_1 ?_
      exact hret _ _ _ _ _ _ hP hS h (vz_nar vz_1) dX4_leafRead_49
    · replace h := h.1 c_27
      refine lv_aload_n hx hb dX4_leafRead_18 rfl (lv_at hl 0 rfl) ?_
      refine lv_iconst hx hb dX4_leafRead_19 kc_2 ?_
      refine mc_i S hK hP hS (As := [.int (2 : Int32)]) (rest := []) (mt4_wrong l hA (2 : Int32) M_1 _ h) (cwV 1 S.2.2.2.2 (lw_V q1660 q1662 qs72 q145 q1663) rfl rfl rfl cdX4_wrong ⟨Nat.le_of_ble_eq_true rfl, Nat.le_of_ble_eq_true rfl⟩) rfl rfl hl.1 (Nat.le_of_ble_eq_true rfl) dX4_leafRead_20 ⟨Nat.le_refl _, Nat.le_refl _⟩ (fun r_33 M_32 H locs h hP hS => ?_)
      exact hret _ _ _ _ _ _ hP hS h.2 (vz_nar h.1) dX4_leafRead_23
def w4_weight (a0 : Int32) (Post : Int32 → Prop) : Prop := (a0 < (13 : Int32) → ((a0 < (11 : Int32) → ((a0 < (5 : Int32) → ((a0 = (2 : Int32) → (Post (3 : Int32))) ∧ (¬ (a0 = (2 : Int32)) → ((a0 = (3 : Int32) → (Post (2 : Int32))) ∧ (¬ (a0 = (3 : Int32)) → ((a0 = (4 : Int32) → (Post (1 : Int32))) ∧ (¬ (a0 = (4 : Int32)) → (Post (0 : Int32))))))))) ∧ (¬ (a0 < (5 : Int32)) → (Post (4 : Int32))))) ∧ (¬ (a0 < (11 : Int32)) → (Post (5 : Int32))))) ∧ (¬ (a0 < (13 : Int32)) → (Post (6 : Int32)))
abbrev rX4_weight : Room := { frames := 0, cells := 0, slots := 0, locals := 0 }
theorem cdX4_weight : yX4_weight.cls ≠ "java/lang/invoke/MethodHandle" ∧ yX4_weight.cls ≠ "java/lang/invoke/VarHandle" ∧ (parseMethodDescriptor yX4_weight.desc).map (fun d => d.parameters.length) = some 1 := by decide +kernel
set_option maxHeartbeats 4000000 in
set_option maxRecDepth 100000 in
theorem mt4_weight (l : Launch) (a0 : Int32) (Post : Int32 → Prop) (h : w4_weight a0 Post) : Met l yX4_weight (ws_ yX4_weight cX4_weight 1 (some .int)) rX4_weight (va_Pc [.int a0] (fun _ => True)) (vp_Si Post) 0 0 (fun _ => False) := by
  refine sst_i (own := RX4) (by decide) rfl (Nat.le_of_ble_eq_true rfl) ?_
  intro p e s m args below meth c Q ls S hl hret
  have hx := S.1
  have hb := S.2.1
  have hl : lv_has ls 1 [(0, .int a0)] := hl
  unfold w4_weight at h
  refine lv_iload_n hx hb dX4_weight_0 rfl (lv_at hl 0 rfl) ?_
  refine lv_bipush hx hb dX4_weight_1 kb_13 ?_
  refine lv_icmp_lt (tgt := 11) hx hb dX4_weight_3 (by decide) (fun c_1 => ?_) (fun c_1 => ?_)
  · replace h := h.1 c_1
    refine lv_iload_n hx hb dX4_weight_11 rfl (lv_at hl 0 rfl) ?_
    refine lv_bipush hx hb dX4_weight_12 kb_11 ?_
    refine lv_icmp_lt (tgt := 21) hx hb dX4_weight_14 (by decide) (fun c_2 => ?_) (fun c_2 => ?_)
    · replace h := h.1 c_2
      refine lv_iload_n hx hb dX4_weight_21 rfl (lv_at hl 0 rfl) ?_
      refine lv_iconst hx hb dX4_weight_22 kc_5 ?_
      refine lv_icmp_lt (tgt := 30) hx hb dX4_weight_23 (by decide) (fun c_3 => ?_) (fun c_3 => ?_)
      · replace h := h.1 c_3
        refine lv_iload_n hx hb dX4_weight_30 rfl (lv_at hl 0 rfl) ?_
        refine lv_iconst hx hb dX4_weight_31 kc_2 ?_
        refine lv_icmp_ne (tgt := 39) hx hb dX4_weight_32 (by decide) (fun c_4 => ?_) (fun c_4 => ?_)
        · replace h := h.2 c_4
          refine lv_iload_n hx hb dX4_weight_39 rfl (lv_at hl 0 rfl) ?_
          refine lv_iconst hx hb dX4_weight_40 kc_3 ?_
          refine lv_icmp_ne (tgt := 48) hx hb dX4_weight_41 (by decide) (fun c_5 => ?_) (fun c_5 => ?_)
          · replace h := h.2 c_5
            refine lv_iload_n hx hb dX4_weight_48 rfl (lv_at hl 0 rfl) ?_
            refine lv_iconst hx hb dX4_weight_49 kc_4 ?_
            refine lv_icmp_ne (tgt := 57) hx hb dX4_weight_50 (by decide) (fun c_6 => ?_) (fun c_6 => ?_)
            · replace h := h.2 c_6
              refine lv_iconst hx hb dX4_weight_57 kc_0 ?_
              exact hret _ _ _ h rfl dX4_weight_58
            · replace h := h.1 c_6
              refine lv_iconst hx hb dX4_weight_53 kc_1 ?_
              refine lv_goto (tgt := 58) hx hb dX4_weight_54 (by decide) ?_
              exact hret _ _ _ h rfl dX4_weight_58
          · replace h := h.1 c_5
            refine lv_iconst hx hb dX4_weight_44 kc_2 ?_
            refine lv_goto (tgt := 58) hx hb dX4_weight_45 (by decide) ?_
            exact hret _ _ _ h rfl dX4_weight_58
        · replace h := h.1 c_4
          refine lv_iconst hx hb dX4_weight_35 kc_3 ?_
          refine lv_goto (tgt := 58) hx hb dX4_weight_36 (by decide) ?_
          exact hret _ _ _ h rfl dX4_weight_58
      · replace h := h.2 c_3
        refine lv_iconst hx hb dX4_weight_26 kc_4 ?_
        refine lv_goto (tgt := 58) hx hb dX4_weight_27 (by decide) ?_
        exact hret _ _ _ h rfl dX4_weight_58
    · replace h := h.2 c_2
      refine lv_iconst hx hb dX4_weight_17 kc_5 ?_
      refine lv_goto (tgt := 58) hx hb dX4_weight_18 (by decide) ?_
      exact hret _ _ _ h rfl dX4_weight_58
  · replace h := h.2 c_1
    refine lv_bipush hx hb dX4_weight_6 kb_6 ?_
    refine lv_goto (tgt := 58) hx hb dX4_weight_8 (by decide) ?_
    exact hret _ _ _ h rfl dX4_weight_58
def w4_drop (M : MS) (Post : Int32 → MS → Prop) : Prop := ∀ M_1 : MS, M_1 = si M 53 ((mi M 53) - (1 : Int32)) → (vp_in (mi M_1 53) (mN 51) ∧ Post (ma M_1 51 (Int32.toNatClampNeg (mi M_1 53))) M_1)
abbrev rX4_drop : Room := { frames := 0, cells := 0, slots := 0, locals := 0 }
theorem cdX4_drop : yX4_drop.cls = RX4 ∧ yX4_drop.cls ≠ "java/lang/invoke/MethodHandle" ∧ yX4_drop.cls ≠ "java/lang/invoke/VarHandle" ∧ (parseMethodDescriptor yX4_drop.desc).map (fun d => d.parameters.length) = some 0 := by decide +kernel
set_option maxHeartbeats 4000000 in
set_option maxRecDepth 100000 in
theorem mt4_drop (l : Launch) {D : va_G} {cA : Nat → ClassId} {m0 : Nat} {ad : Nat → Nat} (hA : mAd m0 ad) (M : MS) (Post : Int32 → MS → Prop) (h : w4_drop M Post) : Met l yX4_drop (ws_ yX4_drop cX4_drop 1 (some .int)) rX4_drop (mPc [.ref m0] D cA m0 ad M) (va_Qi Post (mB D cA m0 ad) (mF m0 ad)) 0 0 (mF m0 ad) := by
  refine mst_i (own := RX4) (by decide) rfl (Nat.le_of_ble_eq_true rfl) ?_
  intro p e s m args below meth c Q ls S hK hP hS hl hret
  have hx := S.1
  have hb := S.2.1
  have hl : lv_has ls 1 [(0, .ref m0)] := hl
  unfold w4_drop at h
  refine lv_aload_n hx hb dX4_drop_0 rfl (lv_at hl 0 rfl) ?_
  refine lv_dup hx hb dX4_drop_1 rfl ?_
  refine mg_i S hK hP (k := 53) (by decide) (by decide) q1473 dX4_drop_2 ?_
  refine lv_iconst hx hb dX4_drop_5 kc_1 ?_
  refine lv_isub hx hb dX4_drop_6 ?_
  refine mp_i S hK hA hP hS (k := 53) (by decide) (Or.inl rfl) rfl (Or.inl ⟨rfl, rfl⟩) q1473 dX4_drop_7 (fun M_1 H locs e_M_1 hP hS => ?_)
  replace h := h M_1 e_M_1
  refine lv_aload_n hx hb dX4_drop_10 rfl (lv_at hl 0 rfl) ?_
  refine mg_r S hK hP (k := 51) (by decide) (by decide) q1471 dX4_drop_11 ?_
  refine lv_aload_n hx hb dX4_drop_14 rfl (lv_at hl 0 rfl) ?_
  refine mg_i S hK hP (k := 53) (by decide) (by decide) q1473 dX4_drop_15 ?_
  obtain ⟨hi, h⟩ := h
  refine ml_a S hK hP (k := 51) af_51 rfl hi dX4_drop_18 ?_
  exact hret _ _ _ _ _ _ hP hS h rfl dX4_drop_19
def w4_bind_c58 (a1 : Int32) (k0 : MS → Prop) (Post : MS → Prop) (x2 : Int32) (t0 : Int32) (M : MS) : Prop := w4_drop M (fun r_10 M_9 => w4_grown x2 r_10 t0 M_9 (fun M_11 => k0 M_11))
def w4_bind_l0 (a1 : Int32) (Post : MS → Prop) : Nat → MS → Prop
  | 0, _ => False
  | n + 1, M => ((mi M 52) ≤ 0 → (Post M)) ∧ (¬ ((mi M 52) ≤ 0) → ((vp_in ((mi M 52) - (1 : Int32)) (mN 50) ∧ w4_weight (ma M 50 (Int32.toNatClampNeg ((mi M 52) - (1 : Int32)))) (fun r_2 => (r_2 < a1 → (Post M)) ∧ (¬ (r_2 < a1) → (∀ M_4 : MS, M_4 = si M 52 ((mi M 52) - (1 : Int32)) → (vp_in (mi M_4 52) (mN 50) ∧ ∀ v_5 : Int32, v_5 = ma M_4 50 (Int32.toNatClampNeg (mi M_4 52)) → (v_5 = (2 : Int32) → (w4_bind_c58 a1 (w4_bind_l0 a1 Post n) Post v_5 (-1 : Int32) M_4)) ∧ (¬ (v_5 = (2 : Int32)) → (w4_drop M_4 (fun r_8 M_7 => w4_bind_c58 a1 (w4_bind_l0 a1 Post n) Post v_5 r_8 M_7))))))))))
def w4_bind (a1 : Int32) (M : MS) (Post : MS → Prop) : Prop := ∃ f, w4_bind_l0 a1 Post f M
abbrev rX4_bind : Room := { frames := 1, cells := 0, slots := 0, locals := 23 }
theorem cdX4_bind : yX4_bind.cls = RX4 ∧ yX4_bind.cls ≠ "java/lang/invoke/MethodHandle" ∧ yX4_bind.cls ≠ "java/lang/invoke/VarHandle" ∧ (parseMethodDescriptor yX4_bind.desc).map (fun d => d.parameters.length) = some 1 := by decide +kernel
set_option maxHeartbeats 4000000 in
set_option maxRecDepth 100000 in
theorem mt4_bind (l : Launch) {D : va_G} {cA : Nat → ClassId} {m0 : Nat} {ad : Nat → Nat} (hA : mAd m0 ad) (a1 : Int32) (M : MS) (Post : MS → Prop) (h : w4_bind a1 M Post) : Met l yX4_bind (ws_ yX4_bind cX4_bind 5 none) rX4_bind (mPc [.ref m0, .int a1] D cA m0 ad M) (va_Qv Post (mB D cA m0 ad) (mF m0 ad)) 0 0 (mF m0 ad) := by
  refine mst_v (own := RX4) (by decide) rfl (Nat.le_of_ble_eq_true rfl) ?_
  intro p e s m args below meth c Q ls S hK hP hS hl hret
  have hx := S.1
  have hb := S.2.1
  have hl : lv_has ls 5 [(0, .ref m0), (1, .int a1)] := hl
  have C58 : ∀ (k0 : MS → Prop) (K0 : (∀ (M : MS) (H : Heap) (locs : List Loc) (ls : Array Slot), va_P D vwCl (mo cA m0 ad M) H → va_S (mF m0 ad) s.heap H locs → lv_has ls 5 [(0, .ref m0), (1, .int a1)] → k0 M → W p l e rX4_bind s m args below meth c H locs 0 0 Q (F0 m 0 ls []))), ∀ (x2 : Int32) (t0 : Int32) (M : MS) (H : Heap) (locs : List Loc) (ls : Array Slot), va_P D vwCl (mo cA m0 ad M) H → va_S (mF m0 ad) s.heap H locs → lv_has ls 5 [(0, .ref m0), (1, .int a1), (2, .int x2)] → w4_bind_c58 a1 k0 Post x2 t0 M → W p l e rX4_bind s m args below meth c H locs 0 0 Q (F0 m 58 ls [.int t0]) := by
    intro k0 K0
    intro x2 t0 M H locs ls hP hS hl h
    unfold w4_bind_c58 at h
    refine lv_istore_n (lv' := [(3, .int t0), (0, .ref m0), (1, .int a1), (2, .int x2)]) hx hb dX4_bind_58 rfl hl (by decide) rfl (fun ls hl => ?_)
    refine lv_aload_n hx hb dX4_bind_59 rfl (lv_at hl 1 rfl) ?_
    refine mc_i S hK hP hS (As := []) (rest := []) (mt4_drop l hA M _ h) (cwV 0 S.2.2.2.2 (lw_V q1743 q1745 qs92 q145 q1746) rfl rfl rfl cdX4_drop ⟨Nat.le_of_ble_eq_true rfl, Nat.le_of_ble_eq_true rfl⟩) rfl rfl hl.1 (Nat.le_of_ble_eq_true rfl) dX4_bind_60 ⟨Nat.le_refl _, Nat.le_refl _⟩ (fun r_10 M_9 H locs h hP hS => ?_)
    refine lv_istore (lv' := [(4, .int r_10), (3, .int t0), (0, .ref m0), (1, .int a1), (2, .int x2)]) hx hb dX4_bind_63 hl (by decide) rfl (fun ls hl => ?_)
    refine lv_aload_n hx hb dX4_bind_65 rfl (lv_at hl 2 rfl) ?_
    refine lv_iload_n hx hb dX4_bind_66 rfl (lv_at hl 4 rfl) ?_
    refine lv_iload hx hb dX4_bind_67 (lv_at hl 0 rfl) ?_
    refine lv_iload_n hx hb dX4_bind_69 rfl (lv_at hl 1 rfl) ?_
    refine mc_v S hK hP hS (As := [.int x2, .int r_10, .int t0]) (rest := []) (mt4_grown l hA x2 r_10 t0 M_9 _ h) (cwV 3 S.2.2.2.2 (lw_V q1728 q1730 qs89 q145 q1731) rfl rfl rfl cdX4_grown ⟨Nat.le_of_ble_eq_true rfl, Nat.le_of_ble_eq_true rfl⟩) rfl rfl hl.1 (Nat.le_of_ble_eq_true rfl) dX4_bind_70 ⟨Nat.le_refl _, Nat.le_refl _⟩ (fun M_11 H locs h hP hS => ?_)
    refine lv_goto (tgt := 0) hx hb dX4_bind_73 (by decide) ?_
    exact K0 _ _ _ _ hP hS (lv_sub hl [2, 3] rfl) h
  have L0 : ∀ (n : Nat) (M : MS) (H : Heap) (locs : List Loc) (ls : Array Slot), va_P D vwCl (mo cA m0 ad M) H → va_S (mF m0 ad) s.heap H locs → lv_has ls 5 [(0, .ref m0), (1, .int a1)] → w4_bind_l0 a1 Post n M → W p l e rX4_bind s m args below meth c H locs 0 0 Q (F0 m 0 ls []) := by
    intro n
    induction n with
    | zero => intro M H locs ls hP hS hl h; rw [w4_bind_l0] at h; exact h.elim
    | succ n ih =>
      intro M H locs ls hP hS hl h
      rw [w4_bind_l0] at h
      refine lv_aload_n hx hb dX4_bind_0 rfl (lv_at hl 0 rfl) ?_
      refine mg_i S hK hP (k := 52) (by decide) (by decide) q1472 dX4_bind_1 ?_
      refine lv_if_le (tgt := 76) hx hb dX4_bind_4 (by decide) (fun c_1 => ?_) (fun c_1 => ?_)
      · replace h := h.1 c_1
        exact hret _ _ _ _ _ hP hS h dX4_bind_76
      · replace h := h.2 c_1
        refine lv_aload_n hx hb dX4_bind_7 rfl (lv_at hl 0 rfl) ?_
        refine mg_r S hK hP (k := 50) (by decide) (by decide) q1470 dX4_bind_8 ?_
        refine lv_aload_n hx hb dX4_bind_11 rfl (lv_at hl 0 rfl) ?_
        refine mg_i S hK hP (k := 52) (by decide) (by decide) q1472 dX4_bind_12 ?_
        refine lv_iconst hx hb dX4_bind_15 kc_1 ?_
        refine lv_isub hx hb dX4_bind_16 ?_
        obtain ⟨hi, h⟩ := h
        refine ml_a S hK hP (k := 50) af_50 rfl hi dX4_bind_17 ?_
        refine sc_i S (As := [.int (ma M 50 (Int32.toNatClampNeg ((mi M 52) - (1 : Int32))))]) (rest := []) (mt4_weight l (ma M 50 (Int32.toNatClampNeg ((mi M 52) - (1 : Int32)))) _ h) (va_cwS 1 S.2.2.2.2 (lw_S q1740 q1741 q145 q1742) rfl rfl rfl cdX4_weight ⟨Nat.le_of_ble_eq_true rfl, Nat.le_of_ble_eq_true rfl⟩) rfl rfl hl.1 (Nat.le_of_ble_eq_true rfl) dX4_bind_18 ⟨Nat.le_refl _, Nat.le_refl _⟩ (fun r_2 h => ?_)
        refine lv_iload_n hx hb dX4_bind_21 rfl (lv_at hl 1 rfl) ?_
        refine lv_icmp_lt (tgt := 76) hx hb dX4_bind_22 (by decide) (fun c_3 => ?_) (fun c_3 => ?_)
        · replace h := h.1 c_3
          exact hret _ _ _ _ _ hP hS h dX4_bind_76
        · replace h := h.2 c_3
          refine lv_aload_n hx hb dX4_bind_25 rfl (lv_at hl 0 rfl) ?_
          refine lv_dup hx hb dX4_bind_26 rfl ?_
          refine mg_i S hK hP (k := 52) (by decide) (by decide) q1472 dX4_bind_27 ?_
          refine lv_iconst hx hb dX4_bind_30 kc_1 ?_
          refine lv_isub hx hb dX4_bind_31 ?_
          refine mp_i S hK hA hP hS (k := 52) (by decide) (Or.inl rfl) rfl (Or.inl ⟨rfl, rfl⟩) q1472 dX4_bind_32 (fun M_4 H locs e_M_4 hP hS => ?_)
          replace h := h M_4 e_M_4
          refine lv_aload_n hx hb dX4_bind_35 rfl (lv_at hl 0 rfl) ?_
          refine mg_r S hK hP (k := 50) (by decide) (by decide) q1470 dX4_bind_36 ?_
          refine lv_aload_n hx hb dX4_bind_39 rfl (lv_at hl 0 rfl) ?_
          refine mg_i S hK hP (k := 52) (by decide) (by decide) q1472 dX4_bind_40 ?_
          obtain ⟨hi, h⟩ := h
          refine ml_a S hK hP (k := 50) af_50 rfl hi dX4_bind_43 ?_
          refine lv_topi (fun v_5 e_v_5 => ?_)
          replace h := h v_5 e_v_5
          refine lv_istore_n (lv' := [(2, .int v_5), (0, .ref m0), (1, .int a1)]) hx hb dX4_bind_44 rfl hl (by decide) rfl (fun ls hl => ?_)
          refine lv_iload_n hx hb dX4_bind_45 rfl (lv_at hl 0 rfl) ?_
          refine lv_iconst hx hb dX4_bind_46 kc_2 ?_
          refine lv_icmp_ne (tgt := 54) hx hb dX4_bind_47 (by decide) (fun c_6 => ?_) (fun c_6 => ?_)
          · replace h := h.2 c_6
            refine lv_aload_n hx hb dX4_bind_54 rfl (lv_at hl 1 rfl) ?_
            refine mc_i S hK hP hS (As := []) (rest := []) (mt4_drop l hA M_4 _ h) (cwV 0 S.2.2.2.2 (lw_V q1743 q1745 qs92 q145 q1746) rfl rfl rfl cdX4_drop ⟨Nat.le_of_ble_eq_true rfl, Nat.le_of_ble_eq_true rfl⟩) rfl rfl hl.1 (Nat.le_of_ble_eq_true rfl) dX4_bind_55 ⟨Nat.le_refl _, Nat.le_refl _⟩ (fun r_8 M_7 H locs h hP hS => ?_)
            exact C58 _ ih _ _ _ _ _ _ hP hS (lv_sub hl [1, 2, 0] rfl) h
          · replace h := h.1 c_6
            refine lv_iconst hx hb dX4_bind_50 kc_m1 ?_
            refine lv_goto (tgt := 58) hx hb dX4_bind_51 (by decide) ?_
            exact C58 _ ih _ _ _ _ _ _ hP hS (lv_sub hl [1, 2, 0] rfl) h
  unfold w4_bind at h
  obtain ⟨f, h⟩ := h
  exact L0 f _ _ _ _ hP hS (lv_sub hl [0, 1] rfl) h
def w4_signs_c250 (Post : Int32 → MS → Prop) (t0 : Int32) (M : MS) : Prop := (vz t0 ∧ ∀ M_37 : MS, M_37 = si M 57 t0 → w4_take M_37 (fun M_38 => Post (1 : Int32) M_38))
def w4_signs_c217 (Post : Int32 → MS → Prop) (x1 : Int32) (M : MS) : Prop := w4_isCounted M (fun r_31 M_30 => (r_31 = 0 → (Post (0 : Int32) M_30)) ∧ (¬ (r_31 = 0) → (w4_waitsFor x1 M_30 (fun M_33 => ∀ M_34 : MS, M_34 = si M_33 56 (1 : Int32) → w4_weight x1 (fun r_35 => ((3 : Int32) ≤ r_35 → (w4_signs_c250 Post (0 : Int32) M_34)) ∧ (¬ ((3 : Int32) ≤ r_35) → (w4_signs_c250 Post (1 : Int32) M_34)))))))
def w4_signs_c175 (Post : Int32 → MS → Prop) (x1 : Int32) (t0 : Int32) (M : MS) : Prop := w4_bind t0 M (fun M_27 => w4_weight x1 (fun r_28 => (r_28 = (4 : Int32) → (((mi M_27 52) ≤ 0 → (w4_signs_c217 Post x1 M_27)) ∧ (¬ ((mi M_27 52) ≤ 0) → ((vp_in ((mi M_27 52) - (1 : Int32)) (mN 50) ∧ w4_weight (ma M_27 50 (Int32.toNatClampNeg ((mi M_27 52) - (1 : Int32)))) (fun r_40 => (r_40 = (4 : Int32) → (w4_wrong (1 : Int32) M_27 (fun r_43 M_42 => vz r_43 ∧ Post r_43 M_42))) ∧ (¬ (r_40 = (4 : Int32)) → (w4_signs_c217 Post x1 M_27)))))))) ∧ (¬ (r_28 = (4 : Int32)) → (w4_signs_c217 Post x1 M_27))))
def w4_signs_c147 (Post : Int32 → MS → Prop) (t0 : Int32) (M : MS) : Prop := (t0 = 0 → (w4_wrong (1 : Int32) M (fun r_45 M_44 => vz r_45 ∧ Post r_45 M_44))) ∧ (¬ (t0 = 0) → (w4_weight t0 (fun r_24 => (r_24 = (4 : Int32) → (w4_signs_c175 Post t0 (5 : Int32) M)) ∧ (¬ (r_24 = (4 : Int32)) → (w4_weight t0 (fun r_26 => w4_signs_c175 Post t0 r_26 M))))))
def w4_signs_c47 (Post : Int32 → MS → Prop) (M : MS) : Prop := w4_isKey (14 : Int32) M (fun r_5 M_4 => (r_5 = 0 → (w4_isKey (15 : Int32) M_4 (fun r_8 M_7 => (r_8 = 0 → (((mi M_7 8) = (5 : Int32) → (w4_signs_c147 Post ((5 : Int32) + (mi M_7 9)) M_7)) ∧ (¬ ((mi M_7 8) = (5 : Int32)) → (w4_isSign (43 : Int32) M_7 (fun r_12 M_11 => (r_12 = 0 → (w4_isSign (45 : Int32) M_11 (fun r_15 M_14 => (r_15 = 0 → (w4_isSign (42 : Int32) M_14 (fun r_18 M_17 => (r_18 = 0 → (w4_isSign (47 : Int32) M_17 (fun r_21 M_20 => (r_21 = 0 → (w4_signs_c147 Post (0 : Int32) M_20)) ∧ (¬ (r_21 = 0) → (w4_signs_c147 Post (14 : Int32) M_20))))) ∧ (¬ (r_18 = 0) → (w4_signs_c147 Post (13 : Int32) M_17))))) ∧ (¬ (r_15 = 0) → (w4_signs_c147 Post (12 : Int32) M_14))))) ∧ (¬ (r_12 = 0) → (w4_signs_c147 Post (11 : Int32) M_11))))))) ∧ (¬ (r_8 = 0) → (w4_signs_c147 Post (4 : Int32) M_7))))) ∧ (¬ (r_5 = 0) → (w4_signs_c147 Post (3 : Int32) M_4)))
def w4_signs (M : MS) (Post : Int32 → MS → Prop) : Prop := w4_isSign (41 : Int32) M (fun r_2 M_1 => (r_2 = 0 → (w4_signs_c47 Post M_1)) ∧ (¬ (r_2 = 0) → (((mi M_1 54) ≤ 0 → (w4_signs_c47 Post M_1)) ∧ (¬ ((mi M_1 54) ≤ 0) → (w4_bind (1 : Int32) M_1 (fun M_47 => ∀ M_48 : MS, M_48 = si M_47 52 ((mi M_47 52) - (1 : Int32)) → ∀ M_49 : MS, M_49 = si M_48 54 ((mi M_48 54) - (1 : Int32)) → w4_take M_49 (fun M_50 => Post (1 : Int32) M_50)))))))
abbrev rX4_signs : Room := { frames := 2, cells := 0, slots := 0, locals := 47 }
theorem cdX4_signs : yX4_signs.cls = RX4 ∧ yX4_signs.cls ≠ "java/lang/invoke/MethodHandle" ∧ yX4_signs.cls ≠ "java/lang/invoke/VarHandle" ∧ (parseMethodDescriptor yX4_signs.desc).map (fun d => d.parameters.length) = some 0 := by decide +kernel
set_option maxHeartbeats 4000000 in
set_option maxRecDepth 100000 in
theorem mt4_signs (l : Launch) {D : va_G} {cA : Nat → ClassId} {m0 : Nat} {ad : Nat → Nat} (hA : mAd m0 ad) (M : MS) (Post : Int32 → MS → Prop) (h : w4_signs M Post) : Met l yX4_signs (ws_ yX4_signs cX4_signs 2 (some .boolean)) rX4_signs (mPc [.ref m0] D cA m0 ad M) (va_Qi Post (mB D cA m0 ad) (mF m0 ad)) 0 0 (mF m0 ad) := by
  refine mst_i (own := RX4) (by decide) rfl (Nat.le_of_ble_eq_true rfl) ?_
  intro p e s m args below meth c Q ls S hK hP hS hl hret
  have hx := S.1
  have hb := S.2.1
  have hl : lv_has ls 2 [(0, .ref m0)] := hl
  have C250 : ∀ (t0 : Int32) (M : MS) (H : Heap) (locs : List Loc) (ls : Array Slot), va_P D vwCl (mo cA m0 ad M) H → va_S (mF m0 ad) s.heap H locs → lv_has ls 2 [(0, .ref m0)] → w4_signs_c250 Post t0 M → W p l e rX4_signs s m args below meth c H locs 0 0 Q (F0 m 250 ls [.int t0, .ref m0]) := by
    intro t0 M H locs ls hP hS hl h
    unfold w4_signs_c250 at h
    obtain ⟨hv, h⟩ := h
    refine mp_i S hK hA hP hS (k := 57) (by decide) (Or.inr ⟨rfl, hv⟩) rfl (Or.inr ⟨rfl, rfl⟩) q1477 dX4_signs_250 (fun M_37 H locs e_M_37 hP hS => ?_)
    replace h := h M_37 e_M_37
    refine lv_aload_n hx hb dX4_signs_253 rfl (lv_at hl 0 rfl) ?_
    refine mc_v S hK hP hS (As := []) (rest := []) (mt4_take l hA M_37 _ h) (cwV 0 S.2.2.2.2 (lw_V q1632 q1634 qs65 q145 q1635) rfl rfl rfl cdX4_take ⟨Nat.le_of_ble_eq_true rfl, Nat.le_of_ble_eq_true rfl⟩) rfl rfl hl.1 (Nat.le_of_ble_eq_true rfl) dX4_signs_254 ⟨Nat.le_refl _, Nat.le_refl _⟩ (fun M_38 H locs h hP hS => ?_)
    refine lv_iconst hx hb dX4_signs_257 kc_1 ?_
    exact hret _ _ _ _ _ _ hP hS h (vz_nar vz_1) dX4_signs_258
  have C217 : ∀ (x1 : Int32) (M : MS) (H : Heap) (locs : List Loc) (ls : Array Slot), va_P D vwCl (mo cA m0 ad M) H → va_S (mF m0 ad) s.heap H locs → lv_has ls 2 [(0, .ref m0), (1, .int x1)] → w4_signs_c217 Post x1 M → W p l e rX4_signs s m args below meth c H locs 0 0 Q (F0 m 217 ls []) := by
    intro x1 M H locs ls hP hS hl h
    unfold w4_signs_c217 at h
    refine lv_aload_n hx hb dX4_signs_217 rfl (lv_at hl 0 rfl) ?_
    refine mc_i S hK hP hS (As := []) (rest := []) (mt4_isCounted l hA M _ h) (cwV 0 S.2.2.2.2 (lw_V q1724 q1726 qs88 q145 q1727) rfl rfl rfl cdX4_isCounted ⟨Nat.le_of_ble_eq_true rfl, Nat.le_of_ble_eq_true rfl⟩) rfl rfl hl.1 (Nat.le_of_ble_eq_true rfl) dX4_signs_218 ⟨Nat.le_refl _, Nat.le_refl _⟩ (fun r_31 M_30 H locs h hP hS => ?_)
    refine lv_if_ne (tgt := 226) hx hb dX4_signs_221 (by decide) (fun c_32 => ?_) (fun c_32 => ?_)
    · replace h := h.2 c_32
      refine lv_aload_n hx hb dX4_signs_226 rfl (lv_at hl 0 rfl) ?_
      refine lv_iload_n hx hb dX4_signs_227 rfl (lv_at hl 1 rfl) ?_
      refine mc_v S hK hP hS (As := [.int x1]) (rest := []) (mt4_waitsFor l hA x1 M_30 _ h) (cwV 1 S.2.2.2.2 (lw_V q1720 q1722 qs87 q145 q1723) rfl rfl rfl cdX4_waitsFor ⟨Nat.le_of_ble_eq_true rfl, Nat.le_of_ble_eq_true rfl⟩) rfl rfl hl.1 (Nat.le_of_ble_eq_true rfl) dX4_signs_228 ⟨Nat.le_refl _, Nat.le_refl _⟩ (fun M_33 H locs h hP hS => ?_)
      refine lv_aload_n hx hb dX4_signs_231 rfl (lv_at hl 0 rfl) ?_
      refine lv_iconst hx hb dX4_signs_232 kc_1 ?_
      refine mp_i S hK hA hP hS (k := 56) (by decide) (Or.inr ⟨rfl, vz_1⟩) rfl (Or.inr ⟨rfl, rfl⟩) q1476 dX4_signs_233 (fun M_34 H locs e_M_34 hP hS => ?_)
      replace h := h M_34 e_M_34
      refine lv_aload_n hx hb dX4_signs_236 rfl (lv_at hl 0 rfl) ?_
      refine lv_iload_n hx hb dX4_signs_237 rfl (lv_at hl 1 rfl) ?_
      refine sc_i S (As := [.int x1]) (rest := [.ref m0]) (mt4_weight l x1 _ h) (va_cwS 1 S.2.2.2.2 (lw_S q1740 q1741 q145 q1742) rfl rfl rfl cdX4_weight ⟨Nat.le_of_ble_eq_true rfl, Nat.le_of_ble_eq_true rfl⟩) rfl rfl hl.1 (Nat.le_of_ble_eq_true rfl) dX4_signs_238 ⟨Nat.le_refl _, Nat.le_refl _⟩ (fun r_35 h => ?_)
      refine lv_iconst hx hb dX4_signs_241 kc_3 ?_
      refine lv_icmp_ge (tgt := 249) hx hb dX4_signs_242 (by decide) (fun c_36 => ?_) (fun c_36 => ?_)
      · replace h := h.1 c_36
        refine lv_iconst hx hb dX4_signs_249 kc_0 ?_
        exact C250 _ _ _ _ _ hP hS (lv_sub hl [0] rfl) h
      · replace h := h.2 c_36
        refine lv_iconst hx hb dX4_signs_245 kc_1 ?_
        refine lv_goto (tgt := 250) hx hb dX4_signs_246 (by decide) ?_
        exact C250 _ _ _ _ _ hP hS (lv_sub hl [0] rfl) h
    · replace h := h.1 c_32
      refine lv_iconst hx hb dX4_signs_224 kc_0 ?_
      exact hret _ _ _ _ _ _ hP hS h (vz_nar vz_0) dX4_signs_225
  have C175 : ∀ (x1 : Int32) (t0 : Int32) (M : MS) (H : Heap) (locs : List Loc) (ls : Array Slot), va_P D vwCl (mo cA m0 ad M) H → va_S (mF m0 ad) s.heap H locs → lv_has ls 2 [(0, .ref m0), (1, .int x1)] → w4_signs_c175 Post x1 t0 M → W p l e rX4_signs s m args below meth c H locs 0 0 Q (F0 m 175 ls [.int t0, .ref m0]) := by
    intro x1 t0 M H locs ls hP hS hl h
    unfold w4_signs_c175 at h
    refine mc_v S hK hP hS (As := [.int t0]) (rest := []) (mt4_bind l hA t0 M _ h) (cwV 1 S.2.2.2.2 (lw_V q1736 q1738 qs91 q145 q1739) rfl rfl rfl cdX4_bind ⟨Nat.le_of_ble_eq_true rfl, Nat.le_of_ble_eq_true rfl⟩) rfl rfl hl.1 (Nat.le_of_ble_eq_true rfl) dX4_signs_175 ⟨Nat.le_refl _, Nat.le_refl _⟩ (fun M_27 H locs h hP hS => ?_)
    refine lv_iload_n hx hb dX4_signs_178 rfl (lv_at hl 1 rfl) ?_
    refine sc_i S (As := [.int x1]) (rest := []) (mt4_weight l x1 _ h) (va_cwS 1 S.2.2.2.2 (lw_S q1740 q1741 q145 q1742) rfl rfl rfl cdX4_weight ⟨Nat.le_of_ble_eq_true rfl, Nat.le_of_ble_eq_true rfl⟩) rfl rfl hl.1 (Nat.le_of_ble_eq_true rfl) dX4_signs_179 ⟨Nat.le_refl _, Nat.le_refl _⟩ (fun r_28 h => ?_)
    refine lv_iconst hx hb dX4_signs_182 kc_4 ?_
    refine lv_icmp_ne (tgt := 217) hx hb dX4_signs_183 (by decide) (fun c_29 => ?_) (fun c_29 => ?_)
    · replace h := h.2 c_29
      exact C217 _ _ _ _ _ hP hS (lv_sub hl [0, 1] rfl) h
    · replace h := h.1 c_29
      refine lv_aload_n hx hb dX4_signs_186 rfl (lv_at hl 0 rfl) ?_
      refine mg_i S hK hP (k := 52) (by decide) (by decide) q1472 dX4_signs_187 ?_
      refine lv_if_le (tgt := 217) hx hb dX4_signs_190 (by decide) (fun c_39 => ?_) (fun c_39 => ?_)
      · replace h := h.1 c_39
        exact C217 _ _ _ _ _ hP hS (lv_sub hl [0, 1] rfl) h
      · replace h := h.2 c_39
        refine lv_aload_n hx hb dX4_signs_193 rfl (lv_at hl 0 rfl) ?_
        refine mg_r S hK hP (k := 50) (by decide) (by decide) q1470 dX4_signs_194 ?_
        refine lv_aload_n hx hb dX4_signs_197 rfl (lv_at hl 0 rfl) ?_
        refine mg_i S hK hP (k := 52) (by decide) (by decide) q1472 dX4_signs_198 ?_
        refine lv_iconst hx hb dX4_signs_201 kc_1 ?_
        refine lv_isub hx hb dX4_signs_202 ?_
        obtain ⟨hi, h⟩ := h
        refine ml_a S hK hP (k := 50) af_50 rfl hi dX4_signs_203 ?_
        refine sc_i S (As := [.int (ma M_27 50 (Int32.toNatClampNeg ((mi M_27 52) - (1 : Int32))))]) (rest := []) (mt4_weight l (ma M_27 50 (Int32.toNatClampNeg ((mi M_27 52) - (1 : Int32)))) _ h) (va_cwS 1 S.2.2.2.2 (lw_S q1740 q1741 q145 q1742) rfl rfl rfl cdX4_weight ⟨Nat.le_of_ble_eq_true rfl, Nat.le_of_ble_eq_true rfl⟩) rfl rfl hl.1 (Nat.le_of_ble_eq_true rfl) dX4_signs_204 ⟨Nat.le_refl _, Nat.le_refl _⟩ (fun r_40 h => ?_)
        refine lv_iconst hx hb dX4_signs_207 kc_4 ?_
        refine lv_icmp_ne (tgt := 217) hx hb dX4_signs_208 (by decide) (fun c_41 => ?_) (fun c_41 => ?_)
        · replace h := h.2 c_41
          exact C217 _ _ _ _ _ hP hS (lv_sub hl [0, 1] rfl) h
        · replace h := h.1 c_41
          refine lv_aload_n hx hb dX4_signs_211 rfl (lv_at hl 0 rfl) ?_
          refine lv_iconst hx hb dX4_signs_212 kc_1 ?_
          refine mc_i S hK hP hS (As := [.int (1 : Int32)]) (rest := []) (mt4_wrong l hA (1 : Int32) M_27 _ h) (cwV 1 S.2.2.2.2 (lw_V q1660 q1662 qs72 q145 q1663) rfl rfl rfl cdX4_wrong ⟨Nat.le_of_ble_eq_true rfl, Nat.le_of_ble_eq_true rfl⟩) rfl rfl hl.1 (Nat.le_of_ble_eq_true rfl) dX4_signs_213 ⟨Nat.le_refl _, Nat.le_refl _⟩ (fun r_43 M_42 H locs h hP hS => ?_)
          exact hret _ _ _ _ _ _ hP hS h.2 (vz_nar h.1) dX4_signs_216
  have C147 : ∀ (t0 : Int32) (M : MS) (H : Heap) (locs : List Loc) (ls : Array Slot), va_P D vwCl (mo cA m0 ad M) H → va_S (mF m0 ad) s.heap H locs → lv_has ls 2 [(0, .ref m0)] → w4_signs_c147 Post t0 M → W p l e rX4_signs s m args below meth c H locs 0 0 Q (F0 m 147 ls [.int t0]) := by
    intro t0 M H locs ls hP hS hl h
    unfold w4_signs_c147 at h
    refine lv_istore_n (lv' := [(1, .int t0), (0, .ref m0)]) hx hb dX4_signs_147 rfl hl (by decide) rfl (fun ls hl => ?_)
    refine lv_iload_n hx hb dX4_signs_148 rfl (lv_at hl 0 rfl) ?_
    refine lv_if_ne (tgt := 158) hx hb dX4_signs_149 (by decide) (fun c_23 => ?_) (fun c_23 => ?_)
    · replace h := h.2 c_23
      refine lv_aload_n hx hb dX4_signs_158 rfl (lv_at hl 1 rfl) ?_
      refine lv_iload_n hx hb dX4_signs_159 rfl (lv_at hl 0 rfl) ?_
      refine sc_i S (As := [.int t0]) (rest := [.ref m0]) (mt4_weight l t0 _ h) (va_cwS 1 S.2.2.2.2 (lw_S q1740 q1741 q145 q1742) rfl rfl rfl cdX4_weight ⟨Nat.le_of_ble_eq_true rfl, Nat.le_of_ble_eq_true rfl⟩) rfl rfl hl.1 (Nat.le_of_ble_eq_true rfl) dX4_signs_160 ⟨Nat.le_refl _, Nat.le_refl _⟩ (fun r_24 h => ?_)
      refine lv_iconst hx hb dX4_signs_163 kc_4 ?_
      refine lv_icmp_ne (tgt := 171) hx hb dX4_signs_164 (by decide) (fun c_25 => ?_) (fun c_25 => ?_)
      · replace h := h.2 c_25
        refine lv_iload_n hx hb dX4_signs_171 rfl (lv_at hl 0 rfl) ?_
        refine sc_i S (As := [.int t0]) (rest := [.ref m0]) (mt4_weight l t0 _ h) (va_cwS 1 S.2.2.2.2 (lw_S q1740 q1741 q145 q1742) rfl rfl rfl cdX4_weight ⟨Nat.le_of_ble_eq_true rfl, Nat.le_of_ble_eq_true rfl⟩) rfl rfl hl.1 (Nat.le_of_ble_eq_true rfl) dX4_signs_172 ⟨Nat.le_refl _, Nat.le_refl _⟩ (fun r_26 h => ?_)
        exact C175 _ _ _ _ _ _ hP hS (lv_sub hl [1, 0] rfl) h
      · replace h := h.1 c_25
        refine lv_iconst hx hb dX4_signs_167 kc_5 ?_
        refine lv_goto (tgt := 175) hx hb dX4_signs_168 (by decide) ?_
        exact C175 _ _ _ _ _ _ hP hS (lv_sub hl [1, 0] rfl) h
    · replace h := h.1 c_23
      refine lv_aload_n hx hb dX4_signs_152 rfl (lv_at hl 1 rfl) ?_
      refine lv_iconst hx hb dX4_signs_153 kc_1 ?_
      refine mc_i S hK hP hS (As := [.int (1 : Int32)]) (rest := []) (mt4_wrong l hA (1 : Int32) M _ h) (cwV 1 S.2.2.2.2 (lw_V q1660 q1662 qs72 q145 q1663) rfl rfl rfl cdX4_wrong ⟨Nat.le_of_ble_eq_true rfl, Nat.le_of_ble_eq_true rfl⟩) rfl rfl hl.1 (Nat.le_of_ble_eq_true rfl) dX4_signs_154 ⟨Nat.le_refl _, Nat.le_refl _⟩ (fun r_45 M_44 H locs h hP hS => ?_)
      exact hret _ _ _ _ _ _ hP hS h.2 (vz_nar h.1) dX4_signs_157
  have C47 : ∀ (M : MS) (H : Heap) (locs : List Loc) (ls : Array Slot), va_P D vwCl (mo cA m0 ad M) H → va_S (mF m0 ad) s.heap H locs → lv_has ls 2 [(0, .ref m0)] → w4_signs_c47 Post M → W p l e rX4_signs s m args below meth c H locs 0 0 Q (F0 m 47 ls []) := by
    intro M H locs ls hP hS hl h
    unfold w4_signs_c47 at h
    refine lv_aload_n hx hb dX4_signs_47 rfl (lv_at hl 0 rfl) ?_
    refine lv_bipush hx hb dX4_signs_48 kb_14 ?_
    refine mc_i S hK hP hS (As := [.int (14 : Int32)]) (rest := []) (mt4_isKey l hA (14 : Int32) M _ h) (cwV 1 S.2.2.2.2 (lw_V q1684 q1686 qs78 q145 q1687) rfl rfl rfl cdX4_isKey ⟨Nat.le_of_ble_eq_true rfl, Nat.le_of_ble_eq_true rfl⟩) rfl rfl hl.1 (Nat.le_of_ble_eq_true rfl) dX4_signs_50 ⟨Nat.le_refl _, Nat.le_refl _⟩ (fun r_5 M_4 H locs h hP hS => ?_)
    refine lv_if_eq (tgt := 60) hx hb dX4_signs_53 (by decide) (fun c_6 => ?_) (fun c_6 => ?_)
    · replace h := h.1 c_6
      refine lv_aload_n hx hb dX4_signs_60 rfl (lv_at hl 0 rfl) ?_
      refine lv_bipush hx hb dX4_signs_61 kb_15 ?_
      refine mc_i S hK hP hS (As := [.int (15 : Int32)]) (rest := []) (mt4_isKey l hA (15 : Int32) M_4 _ h) (cwV 1 S.2.2.2.2 (lw_V q1684 q1686 qs78 q145 q1687) rfl rfl rfl cdX4_isKey ⟨Nat.le_of_ble_eq_true rfl, Nat.le_of_ble_eq_true rfl⟩) rfl rfl hl.1 (Nat.le_of_ble_eq_true rfl) dX4_signs_63 ⟨Nat.le_refl _, Nat.le_refl _⟩ (fun r_8 M_7 H locs h hP hS => ?_)
      refine lv_if_eq (tgt := 73) hx hb dX4_signs_66 (by decide) (fun c_9 => ?_) (fun c_9 => ?_)
      · replace h := h.1 c_9
        refine lv_aload_n hx hb dX4_signs_73 rfl (lv_at hl 0 rfl) ?_
        refine mg_i S hK hP (k := 8) (by decide) (by decide) q1428 dX4_signs_74 ?_
        refine lv_iconst hx hb dX4_signs_77 kc_5 ?_
        refine lv_icmp_ne (tgt := 90) hx hb dX4_signs_78 (by decide) (fun c_10 => ?_) (fun c_10 => ?_)
        · replace h := h.2 c_10
          refine lv_aload_n hx hb dX4_signs_90 rfl (lv_at hl 0 rfl) ?_
          refine lv_bipush hx hb dX4_signs_91 kb_43 ?_
          refine mc_i S hK hP hS (As := [.int (43 : Int32)]) (rest := []) (mt4_isSign l hA (43 : Int32) M_7 _ h) (cwV 1 S.2.2.2.2 (lw_V q1712 q1714 qs85 q145 q1715) rfl rfl rfl cdX4_isSign ⟨Nat.le_of_ble_eq_true rfl, Nat.le_of_ble_eq_true rfl⟩) rfl rfl hl.1 (Nat.le_of_ble_eq_true rfl) dX4_signs_93 ⟨Nat.le_refl _, Nat.le_refl _⟩ (fun r_12 M_11 H locs h hP hS => ?_)
          refine lv_if_eq (tgt := 104) hx hb dX4_signs_96 (by decide) (fun c_13 => ?_) (fun c_13 => ?_)
          · replace h := h.1 c_13
            refine lv_aload_n hx hb dX4_signs_104 rfl (lv_at hl 0 rfl) ?_
            refine lv_bipush hx hb dX4_signs_105 kb_45 ?_
            refine mc_i S hK hP hS (As := [.int (45 : Int32)]) (rest := []) (mt4_isSign l hA (45 : Int32) M_11 _ h) (cwV 1 S.2.2.2.2 (lw_V q1712 q1714 qs85 q145 q1715) rfl rfl rfl cdX4_isSign ⟨Nat.le_of_ble_eq_true rfl, Nat.le_of_ble_eq_true rfl⟩) rfl rfl hl.1 (Nat.le_of_ble_eq_true rfl) dX4_signs_107 ⟨Nat.le_refl _, Nat.le_refl _⟩ (fun r_15 M_14 H locs h hP hS => ?_)
            refine lv_if_eq (tgt := 118) hx hb dX4_signs_110 (by decide) (fun c_16 => ?_) (fun c_16 => ?_)
            · replace h := h.1 c_16
              refine lv_aload_n hx hb dX4_signs_118 rfl (lv_at hl 0 rfl) ?_
              refine lv_bipush hx hb dX4_signs_119 kb_42 ?_
              refine mc_i S hK hP hS (As := [.int (42 : Int32)]) (rest := []) (mt4_isSign l hA (42 : Int32) M_14 _ h) (cwV 1 S.2.2.2.2 (lw_V q1712 q1714 qs85 q145 q1715) rfl rfl rfl cdX4_isSign ⟨Nat.le_of_ble_eq_true rfl, Nat.le_of_ble_eq_true rfl⟩) rfl rfl hl.1 (Nat.le_of_ble_eq_true rfl) dX4_signs_121 ⟨Nat.le_refl _, Nat.le_refl _⟩ (fun r_18 M_17 H locs h hP hS => ?_)
              refine lv_if_eq (tgt := 132) hx hb dX4_signs_124 (by decide) (fun c_19 => ?_) (fun c_19 => ?_)
              · replace h := h.1 c_19
                refine lv_aload_n hx hb dX4_signs_132 rfl (lv_at hl 0 rfl) ?_
                refine lv_bipush hx hb dX4_signs_133 kb_47 ?_
                refine mc_i S hK hP hS (As := [.int (47 : Int32)]) (rest := []) (mt4_isSign l hA (47 : Int32) M_17 _ h) (cwV 1 S.2.2.2.2 (lw_V q1712 q1714 qs85 q145 q1715) rfl rfl rfl cdX4_isSign ⟨Nat.le_of_ble_eq_true rfl, Nat.le_of_ble_eq_true rfl⟩) rfl rfl hl.1 (Nat.le_of_ble_eq_true rfl) dX4_signs_135 ⟨Nat.le_refl _, Nat.le_refl _⟩ (fun r_21 M_20 H locs h hP hS => ?_)
                refine lv_if_eq (tgt := 146) hx hb dX4_signs_138 (by decide) (fun c_22 => ?_) (fun c_22 => ?_)
                · replace h := h.1 c_22
                  refine lv_iconst hx hb dX4_signs_146 kc_0 ?_
                  exact C147 _ _ _ _ _ hP hS (lv_sub hl [0] rfl) h
                · replace h := h.2 c_22
                  refine lv_bipush hx hb dX4_signs_141 kb_14 ?_
                  refine lv_goto (tgt := 147) hx hb dX4_signs_143 (by decide) ?_
                  exact C147 _ _ _ _ _ hP hS (lv_sub hl [0] rfl) h
              · replace h := h.2 c_19
                refine lv_bipush hx hb dX4_signs_127 kb_13 ?_
                refine lv_goto (tgt := 147) hx hb dX4_signs_129 (by decide) ?_
                exact C147 _ _ _ _ _ hP hS (lv_sub hl [0] rfl) h
            · replace h := h.2 c_16
              refine lv_bipush hx hb dX4_signs_113 kb_12 ?_
              refine lv_goto (tgt := 147) hx hb dX4_signs_115 (by decide) ?_
              exact C147 _ _ _ _ _ hP hS (lv_sub hl [0] rfl) h
          · replace h := h.2 c_13
            refine lv_bipush hx hb dX4_signs_99 kb_11 ?_
            refine lv_goto (tgt := 147) hx hb dX4_signs_101 (by decide) ?_
            exact C147 _ _ _ _ _ hP hS (lv_sub hl [0] rfl) h
        · replace h := h.1 c_10
          refine lv_iconst hx hb dX4_signs_81 kc_5 ?_
          refine lv_aload_n hx hb dX4_signs_82 rfl (lv_at hl 0 rfl) ?_
          refine mg_i S hK hP (k := 9) (by decide) (by decide) q1429 dX4_signs_83 ?_
          refine lv_iadd hx hb dX4_signs_86 ?_
          refine lv_goto (tgt := 147) hx hb dX4_signs_87 (by decide) ?_
          exact C147 _ _ _ _ _ hP hS (lv_sub hl [0] rfl) h
      · replace h := h.2 c_9
        refine lv_iconst hx hb dX4_signs_69 kc_4 ?_
        refine lv_goto (tgt := 147) hx hb dX4_signs_70 (by decide) ?_
        exact C147 _ _ _ _ _ hP hS (lv_sub hl [0] rfl) h
    · replace h := h.2 c_6
      refine lv_iconst hx hb dX4_signs_56 kc_3 ?_
      refine lv_goto (tgt := 147) hx hb dX4_signs_57 (by decide) ?_
      exact C147 _ _ _ _ _ hP hS (lv_sub hl [0] rfl) h
  unfold w4_signs at h
  refine lv_aload_n hx hb dX4_signs_0 rfl (lv_at hl 0 rfl) ?_
  refine lv_bipush hx hb dX4_signs_1 kb_41 ?_
  refine mc_i S hK hP hS (As := [.int (41 : Int32)]) (rest := []) (mt4_isSign l hA (41 : Int32) M _ h) (cwV 1 S.2.2.2.2 (lw_V q1712 q1714 qs85 q145 q1715) rfl rfl rfl cdX4_isSign ⟨Nat.le_of_ble_eq_true rfl, Nat.le_of_ble_eq_true rfl⟩) rfl rfl hl.1 (Nat.le_of_ble_eq_true rfl) dX4_signs_3 ⟨Nat.le_refl _, Nat.le_refl _⟩ (fun r_2 M_1 H locs h hP hS => ?_)
  refine lv_if_eq (tgt := 47) hx hb dX4_signs_6 (by decide) (fun c_3 => ?_) (fun c_3 => ?_)
  · replace h := h.1 c_3
    exact C47 _ _ _ _ hP hS (lv_sub hl [0] rfl) h
  · replace h := h.2 c_3
    refine lv_aload_n hx hb dX4_signs_9 rfl (lv_at hl 0 rfl) ?_
    refine mg_i S hK hP (k := 54) (by decide) (by decide) q1474 dX4_signs_10 ?_
    refine lv_if_le (tgt := 47) hx hb dX4_signs_13 (by decide) (fun c_46 => ?_) (fun c_46 => ?_)
    · replace h := h.1 c_46
      exact C47 _ _ _ _ hP hS (lv_sub hl [0] rfl) h
    · replace h := h.2 c_46
      refine lv_aload_n hx hb dX4_signs_16 rfl (lv_at hl 0 rfl) ?_
      refine lv_iconst hx hb dX4_signs_17 kc_1 ?_
      refine mc_v S hK hP hS (As := [.int (1 : Int32)]) (rest := []) (mt4_bind l hA (1 : Int32) M_1 _ h) (cwV 1 S.2.2.2.2 (lw_V q1736 q1738 qs91 q145 q1739) rfl rfl rfl cdX4_bind ⟨Nat.le_of_ble_eq_true rfl, Nat.le_of_ble_eq_true rfl⟩) rfl rfl hl.1 (Nat.le_of_ble_eq_true rfl) dX4_signs_18 ⟨Nat.le_refl _, Nat.le_refl _⟩ (fun M_47 H locs h hP hS => ?_)
      refine lv_aload_n hx hb dX4_signs_21 rfl (lv_at hl 0 rfl) ?_
      refine lv_dup hx hb dX4_signs_22 rfl ?_
      refine mg_i S hK hP (k := 52) (by decide) (by decide) q1472 dX4_signs_23 ?_
      refine lv_iconst hx hb dX4_signs_26 kc_1 ?_
      refine lv_isub hx hb dX4_signs_27 ?_
      refine mp_i S hK hA hP hS (k := 52) (by decide) (Or.inl rfl) rfl (Or.inl ⟨rfl, rfl⟩) q1472 dX4_signs_28 (fun M_48 H locs e_M_48 hP hS => ?_)
      replace h := h M_48 e_M_48
      refine lv_aload_n hx hb dX4_signs_31 rfl (lv_at hl 0 rfl) ?_
      refine lv_dup hx hb dX4_signs_32 rfl ?_
      refine mg_i S hK hP (k := 54) (by decide) (by decide) q1474 dX4_signs_33 ?_
      refine lv_iconst hx hb dX4_signs_36 kc_1 ?_
      refine lv_isub hx hb dX4_signs_37 ?_
      refine mp_i S hK hA hP hS (k := 54) (by decide) (Or.inl rfl) rfl (Or.inl ⟨rfl, rfl⟩) q1474 dX4_signs_38 (fun M_49 H locs e_M_49 hP hS => ?_)
      replace h := h M_49 e_M_49
      refine lv_aload_n hx hb dX4_signs_41 rfl (lv_at hl 0 rfl) ?_
      refine mc_v S hK hP hS (As := []) (rest := []) (mt4_take l hA M_49 _ h) (cwV 0 S.2.2.2.2 (lw_V q1632 q1634 qs65 q145 q1635) rfl rfl rfl cdX4_take ⟨Nat.le_of_ble_eq_true rfl, Nat.le_of_ble_eq_true rfl⟩) rfl rfl hl.1 (Nat.le_of_ble_eq_true rfl) dX4_signs_42 ⟨Nat.le_refl _, Nat.le_refl _⟩ (fun M_50 H locs h hP hS => ?_)
      refine lv_iconst hx hb dX4_signs_45 kc_1 ?_
      exact hret _ _ _ _ _ _ hP hS h (vz_nar vz_1) dX4_signs_46
def w4_sumLine_c86 (k63 : Int32 → MS → Prop) (Post : Int32 → MS → Prop) (x1 : Int32) (M : MS) : Prop := ((mi M 56) = 0 → (w4_signs M (fun r_15 M_14 => (r_15 = 0 → (Post (0 : Int32) M_14)) ∧ (¬ (r_15 = 0) → (k63 x1 M_14))))) ∧ (¬ ((mi M 56) = 0) → (w4_leafRead M (fun r_18 M_17 => (r_18 = 0 → (Post (0 : Int32) M_17)) ∧ (¬ (r_18 = 0) → (k63 x1 M_17)))))
def w4_sumLine_l63 (Post : Int32 → MS → Prop) : Nat → Int32 → MS → Prop
  | 0, _, _ => False
  | n + 1, x1, M => w4_isSign (59 : Int32) M (fun r_11 M_10 => (r_11 = 0 → (w4_sumLine_c86 (w4_sumLine_l63 Post n) Post x1 M_10)) ∧ (¬ (r_11 = 0) → (((mi M_10 56) = 0 → (((mi M_10 54) ≤ 0 → (w4_bind (1 : Int32) M_10 (fun M_22 => (vp_in x1 (mN 40) ∧ ∀ M_23 : MS, M_23 = sa M_22 40 (Int32.toNatClampNeg x1) (mi M_22 20) → Post (1 : Int32) M_23)))) ∧ (¬ ((mi M_10 54) ≤ 0) → (w4_sumLine_c86 (w4_sumLine_l63 Post n) Post x1 M_10)))) ∧ (¬ ((mi M_10 56) = 0) → (w4_sumLine_c86 (w4_sumLine_l63 Post n) Post x1 M_10)))))
def w4_sumLine (M : MS) (Post : Int32 → MS → Prop) : Prop := ∀ v_1 : Int32, v_1 = ((3 : Int32) + (mi M 9)) - (5 : Int32) → (vp_in v_1 (mN 40) ∧ ((ma M 40 (Int32.toNatClampNeg v_1)) ≤ 0 → (w4_take M (fun M_3 => ∀ M_4 : MS, M_4 = si M_3 52 (0 : Int32) → ∀ M_5 : MS, M_5 = si M_4 53 (0 : Int32) → ∀ M_6 : MS, M_6 = si M_5 54 (0 : Int32) → ∀ M_7 : MS, M_7 = si M_6 56 (1 : Int32) → ∀ M_8 : MS, M_8 = si M_7 57 (1 : Int32) → (vp_in v_1 (mN 39) ∧ ∀ M_9 : MS, M_9 = sa M_8 39 (Int32.toNatClampNeg v_1) (mi M_8 20) → ∃ f, w4_sumLine_l63 Post f v_1 M_9)))) ∧ (¬ ((ma M 40 (Int32.toNatClampNeg v_1)) ≤ 0) → (w4_wrong (3 : Int32) M (fun r_25 M_24 => vz r_25 ∧ Post r_25 M_24))))
abbrev rX4_sumLine : Room := { frames := 3, cells := 0, slots := 0, locals := 68 }
theorem cdX4_sumLine : yX4_sumLine.cls = RX4 ∧ yX4_sumLine.cls ≠ "java/lang/invoke/MethodHandle" ∧ yX4_sumLine.cls ≠ "java/lang/invoke/VarHandle" ∧ (parseMethodDescriptor yX4_sumLine.desc).map (fun d => d.parameters.length) = some 0 := by decide +kernel
set_option maxHeartbeats 4000000 in
set_option maxRecDepth 100000 in
theorem mt4_sumLine (l : Launch) {D : va_G} {cA : Nat → ClassId} {m0 : Nat} {ad : Nat → Nat} (hA : mAd m0 ad) (M : MS) (Post : Int32 → MS → Prop) (h : w4_sumLine M Post) : Met l yX4_sumLine (ws_ yX4_sumLine cX4_sumLine 2 (some .boolean)) rX4_sumLine (mPc [.ref m0] D cA m0 ad M) (va_Qi Post (mB D cA m0 ad) (mF m0 ad)) 0 0 (mF m0 ad) := by
  refine mst_i (own := RX4) (by decide) rfl (Nat.le_of_ble_eq_true rfl) ?_
  intro p e s m args below meth c Q ls S hK hP hS hl hret
  have hx := S.1
  have hb := S.2.1
  have hl : lv_has ls 2 [(0, .ref m0)] := hl
  have C86 : ∀ (k63 : Int32 → MS → Prop) (K63 : (∀ (x1 : Int32) (M : MS) (H : Heap) (locs : List Loc) (ls : Array Slot), va_P D vwCl (mo cA m0 ad M) H → va_S (mF m0 ad) s.heap H locs → lv_has ls 2 [(0, .ref m0), (1, .int x1)] → k63 x1 M → W p l e rX4_sumLine s m args below meth c H locs 0 0 Q (F0 m 63 ls []))), ∀ (x1 : Int32) (M : MS) (H : Heap) (locs : List Loc) (ls : Array Slot), va_P D vwCl (mo cA m0 ad M) H → va_S (mF m0 ad) s.heap H locs → lv_has ls 2 [(0, .ref m0), (1, .int x1)] → w4_sumLine_c86 k63 Post x1 M → W p l e rX4_sumLine s m args below meth c H locs 0 0 Q (F0 m 86 ls []) := by
    intro k63 K63
    intro x1 M H locs ls hP hS hl h
    unfold w4_sumLine_c86 at h
    refine lv_aload_n hx hb dX4_sumLine_86 rfl (lv_at hl 0 rfl) ?_
    refine mg_i S hK hP (k := 56) (by decide) (by decide) q1476 dX4_sumLine_87 ?_
    refine lv_if_eq (tgt := 103) hx hb dX4_sumLine_90 (by decide) (fun c_13 => ?_) (fun c_13 => ?_)
    · replace h := h.1 c_13
      refine lv_aload_n hx hb dX4_sumLine_103 rfl (lv_at hl 0 rfl) ?_
      refine mc_i S hK hP hS (As := []) (rest := []) (mt4_signs l hA M _ h) (cwV 0 S.2.2.2.2 (lw_V q1732 q1734 qs90 q145 q1735) rfl rfl rfl cdX4_signs ⟨Nat.le_of_ble_eq_true rfl, Nat.le_of_ble_eq_true rfl⟩) rfl rfl hl.1 (Nat.le_of_ble_eq_true rfl) dX4_sumLine_104 ⟨Nat.le_refl _, Nat.le_refl _⟩ (fun r_15 M_14 H locs h hP hS => ?_)
      refine lv_if_ne (tgt := 63) hx hb dX4_sumLine_107 (by decide) (fun c_16 => ?_) (fun c_16 => ?_)
      · replace h := h.2 c_16
        exact K63 _ _ _ _ _ hP hS (lv_sub hl [0, 1] rfl) h
      · replace h := h.1 c_16
        refine lv_iconst hx hb dX4_sumLine_110 kc_0 ?_
        exact hret _ _ _ _ _ _ hP hS h (vz_nar vz_0) dX4_sumLine_111
    · replace h := h.2 c_13
      refine lv_aload_n hx hb dX4_sumLine_93 rfl (lv_at hl 0 rfl) ?_
      refine mc_i S hK hP hS (As := []) (rest := []) (mt4_leafRead l hA M _ h) (cwV 0 S.2.2.2.2 (lw_V q1716 q1718 qs86 q145 q1719) rfl rfl rfl cdX4_leafRead ⟨Nat.le_of_ble_eq_true rfl, Nat.le_of_ble_eq_true rfl⟩) rfl rfl hl.1 (Nat.le_of_ble_eq_true rfl) dX4_sumLine_94 ⟨Nat.le_refl _, Nat.le_refl _⟩ (fun r_18 M_17 H locs h hP hS => ?_)
      refine lv_if_eq (tgt := 110) hx hb dX4_sumLine_97 (by decide) (fun c_19 => ?_) (fun c_19 => ?_)
      · replace h := h.1 c_19
        refine lv_iconst hx hb dX4_sumLine_110 kc_0 ?_
        exact hret _ _ _ _ _ _ hP hS h (vz_nar vz_0) dX4_sumLine_111
      · replace h := h.2 c_19
        refine lv_goto (tgt := 63) hx hb dX4_sumLine_100 (by decide) ?_
        exact K63 _ _ _ _ _ hP hS (lv_sub hl [0, 1] rfl) h
  have L63 : ∀ (n : Nat) (x1 : Int32) (M : MS) (H : Heap) (locs : List Loc) (ls : Array Slot), va_P D vwCl (mo cA m0 ad M) H → va_S (mF m0 ad) s.heap H locs → lv_has ls 2 [(0, .ref m0), (1, .int x1)] → w4_sumLine_l63 Post n x1 M → W p l e rX4_sumLine s m args below meth c H locs 0 0 Q (F0 m 63 ls []) := by
    intro n
    induction n with
    | zero => intro x1 M H locs ls hP hS hl h; rw [w4_sumLine_l63] at h; exact h.elim
    | succ n ih =>
      intro x1 M H locs ls hP hS hl h
      rw [w4_sumLine_l63] at h
      refine lv_aload_n hx hb dX4_sumLine_63 rfl (lv_at hl 0 rfl) ?_
      refine lv_bipush hx hb dX4_sumLine_64 kb_59 ?_
      refine mc_i S hK hP hS (As := [.int (59 : Int32)]) (rest := []) (mt4_isSign l hA (59 : Int32) M _ h) (cwV 1 S.2.2.2.2 (lw_V q1712 q1714 qs85 q145 q1715) rfl rfl rfl cdX4_isSign ⟨Nat.le_of_ble_eq_true rfl, Nat.le_of_ble_eq_true rfl⟩) rfl rfl hl.1 (Nat.le_of_ble_eq_true rfl) dX4_sumLine_66 ⟨Nat.le_refl _, Nat.le_refl _⟩ (fun r_11 M_10 H locs h hP hS => ?_)
      refine lv_if_eq (tgt := 86) hx hb dX4_sumLine_69 (by decide) (fun c_12 => ?_) (fun c_12 => ?_)
      · replace h := h.1 c_12
        exact C86 _ ih _ _ _ _ _ hP hS (lv_sub hl [0, 1] rfl) h
      · replace h := h.2 c_12
        refine lv_aload_n hx hb dX4_sumLine_72 rfl (lv_at hl 0 rfl) ?_
        refine mg_i S hK hP (k := 56) (by decide) (by decide) q1476 dX4_sumLine_73 ?_
        refine lv_if_ne (tgt := 86) hx hb dX4_sumLine_76 (by decide) (fun c_20 => ?_) (fun c_20 => ?_)
        · replace h := h.2 c_20
          exact C86 _ ih _ _ _ _ _ hP hS (lv_sub hl [0, 1] rfl) h
        · replace h := h.1 c_20
          refine lv_aload_n hx hb dX4_sumLine_79 rfl (lv_at hl 0 rfl) ?_
          refine mg_i S hK hP (k := 54) (by decide) (by decide) q1474 dX4_sumLine_80 ?_
          refine lv_if_le (tgt := 112) hx hb dX4_sumLine_83 (by decide) (fun c_21 => ?_) (fun c_21 => ?_)
          · replace h := h.1 c_21
            refine lv_aload_n hx hb dX4_sumLine_112 rfl (lv_at hl 0 rfl) ?_
            refine lv_iconst hx hb dX4_sumLine_113 kc_1 ?_
            refine mc_v S hK hP hS (As := [.int (1 : Int32)]) (rest := []) (mt4_bind l hA (1 : Int32) M_10 _ h) (cwV 1 S.2.2.2.2 (lw_V q1736 q1738 qs91 q145 q1739) rfl rfl rfl cdX4_bind ⟨Nat.le_of_ble_eq_true rfl, Nat.le_of_ble_eq_true rfl⟩) rfl rfl hl.1 (Nat.le_of_ble_eq_true rfl) dX4_sumLine_114 ⟨Nat.le_refl _, Nat.le_refl _⟩ (fun M_22 H locs h hP hS => ?_)
            refine lv_aload_n hx hb dX4_sumLine_117 rfl (lv_at hl 0 rfl) ?_
            refine mg_r S hK hP (k := 40) (by decide) (by decide) q1460 dX4_sumLine_118 ?_
            refine lv_iload_n hx hb dX4_sumLine_121 rfl (lv_at hl 1 rfl) ?_
            refine lv_aload_n hx hb dX4_sumLine_122 rfl (lv_at hl 0 rfl) ?_
            refine mg_i S hK hP (k := 20) (by decide) (by decide) q1440 dX4_sumLine_123 ?_
            obtain ⟨hi, h⟩ := h
            refine ms_a S hK hA hP hS (k := 40) af_40 rfl hi dX4_sumLine_126 (fun M_23 H locs e_M_23 hP hS => ?_)
            replace h := h M_23 e_M_23
            refine lv_iconst hx hb dX4_sumLine_127 kc_1 ?_
            exact hret _ _ _ _ _ _ hP hS h (vz_nar vz_1) dX4_sumLine_128
          · replace h := h.2 c_21
            exact C86 _ ih _ _ _ _ _ hP hS (lv_sub hl [0, 1] rfl) h
  unfold w4_sumLine at h
  refine lv_iconst hx hb dX4_sumLine_0 kc_3 ?_
  refine lv_aload_n hx hb dX4_sumLine_1 rfl (lv_at hl 0 rfl) ?_
  refine mg_i S hK hP (k := 9) (by decide) (by decide) q1429 dX4_sumLine_2 ?_
  refine lv_iadd hx hb dX4_sumLine_5 ?_
  refine lv_iconst hx hb dX4_sumLine_6 kc_5 ?_
  refine lv_isub hx hb dX4_sumLine_7 ?_
  refine lv_topi (fun v_1 e_v_1 => ?_)
  replace h := h v_1 e_v_1
  refine lv_istore_n (lv' := [(1, .int v_1), (0, .ref m0)]) hx hb dX4_sumLine_8 rfl hl (by decide) rfl (fun ls hl => ?_)
  refine lv_aload_n hx hb dX4_sumLine_9 rfl (lv_at hl 1 rfl) ?_
  refine mg_r S hK hP (k := 40) (by decide) (by decide) q1460 dX4_sumLine_10 ?_
  refine lv_iload_n hx hb dX4_sumLine_13 rfl (lv_at hl 0 rfl) ?_
  obtain ⟨hi, h⟩ := h
  refine ml_a S hK hP (k := 40) af_40 rfl hi dX4_sumLine_14 ?_
  refine lv_if_le (tgt := 24) hx hb dX4_sumLine_15 (by decide) (fun c_2 => ?_) (fun c_2 => ?_)
  · replace h := h.1 c_2
    refine lv_aload_n hx hb dX4_sumLine_24 rfl (lv_at hl 1 rfl) ?_
    refine mc_v S hK hP hS (As := []) (rest := []) (mt4_take l hA M _ h) (cwV 0 S.2.2.2.2 (lw_V q1632 q1634 qs65 q145 q1635) rfl rfl rfl cdX4_take ⟨Nat.le_of_ble_eq_true rfl, Nat.le_of_ble_eq_true rfl⟩) rfl rfl hl.1 (Nat.le_of_ble_eq_true rfl) dX4_sumLine_25 ⟨Nat.le_refl _, Nat.le_refl _⟩ (fun M_3 H locs h hP hS => ?_)
    refine lv_aload_n hx hb dX4_sumLine_28 rfl (lv_at hl 1 rfl) ?_
    refine lv_iconst hx hb dX4_sumLine_29 kc_0 ?_
    refine mp_i S hK hA hP hS (k := 52) (by decide) (Or.inl rfl) rfl (Or.inl ⟨rfl, rfl⟩) q1472 dX4_sumLine_30 (fun M_4 H locs e_M_4 hP hS => ?_)
    replace h := h M_4 e_M_4
    refine lv_aload_n hx hb dX4_sumLine_33 rfl (lv_at hl 1 rfl) ?_
    refine lv_iconst hx hb dX4_sumLine_34 kc_0 ?_
    refine mp_i S hK hA hP hS (k := 53) (by decide) (Or.inl rfl) rfl (Or.inl ⟨rfl, rfl⟩) q1473 dX4_sumLine_35 (fun M_5 H locs e_M_5 hP hS => ?_)
    replace h := h M_5 e_M_5
    refine lv_aload_n hx hb dX4_sumLine_38 rfl (lv_at hl 1 rfl) ?_
    refine lv_iconst hx hb dX4_sumLine_39 kc_0 ?_
    refine mp_i S hK hA hP hS (k := 54) (by decide) (Or.inl rfl) rfl (Or.inl ⟨rfl, rfl⟩) q1474 dX4_sumLine_40 (fun M_6 H locs e_M_6 hP hS => ?_)
    replace h := h M_6 e_M_6
    refine lv_aload_n hx hb dX4_sumLine_43 rfl (lv_at hl 1 rfl) ?_
    refine lv_iconst hx hb dX4_sumLine_44 kc_1 ?_
    refine mp_i S hK hA hP hS (k := 56) (by decide) (Or.inr ⟨rfl, vz_1⟩) rfl (Or.inr ⟨rfl, rfl⟩) q1476 dX4_sumLine_45 (fun M_7 H locs e_M_7 hP hS => ?_)
    replace h := h M_7 e_M_7
    refine lv_aload_n hx hb dX4_sumLine_48 rfl (lv_at hl 1 rfl) ?_
    refine lv_iconst hx hb dX4_sumLine_49 kc_1 ?_
    refine mp_i S hK hA hP hS (k := 57) (by decide) (Or.inr ⟨rfl, vz_1⟩) rfl (Or.inr ⟨rfl, rfl⟩) q1477 dX4_sumLine_50 (fun M_8 H locs e_M_8 hP hS => ?_)
    replace h := h M_8 e_M_8
    refine lv_aload_n hx hb dX4_sumLine_53 rfl (lv_at hl 1 rfl) ?_
    refine mg_r S hK hP (k := 39) (by decide) (by decide) q1459 dX4_sumLine_54 ?_
    refine lv_iload_n hx hb dX4_sumLine_57 rfl (lv_at hl 0 rfl) ?_
    refine lv_aload_n hx hb dX4_sumLine_58 rfl (lv_at hl 1 rfl) ?_
    refine mg_i S hK hP (k := 20) (by decide) (by decide) q1440 dX4_sumLine_59 ?_
    obtain ⟨hi, h⟩ := h
    refine ms_a S hK hA hP hS (k := 39) af_39 rfl hi dX4_sumLine_62 (fun M_9 H locs e_M_9 hP hS => ?_)
    replace h := h M_9 e_M_9
    obtain ⟨f, h⟩ := h
    exact L63 f _ _ _ _ _ hP hS (lv_sub hl [1, 0] rfl) h
  · replace h := h.2 c_2
    refine lv_aload_n hx hb dX4_sumLine_18 rfl (lv_at hl 1 rfl) ?_
    refine lv_iconst hx hb dX4_sumLine_19 kc_3 ?_
    refine mc_i S hK hP hS (As := [.int (3 : Int32)]) (rest := []) (mt4_wrong l hA (3 : Int32) M _ h) (cwV 1 S.2.2.2.2 (lw_V q1660 q1662 qs72 q145 q1663) rfl rfl rfl cdX4_wrong ⟨Nat.le_of_ble_eq_true rfl, Nat.le_of_ble_eq_true rfl⟩) rfl rfl hl.1 (Nat.le_of_ble_eq_true rfl) dX4_sumLine_20 ⟨Nat.le_refl _, Nat.le_refl _⟩ (fun r_25 M_24 H locs h hP hS => ?_)
    exact hret _ _ _ _ _ _ hP hS h.2 (vz_nar h.1) dX4_sumLine_23
def w4_lineRead_c17 (Post : Int32 → MS → Prop) (M : MS) : Prop := w4_wrong (1 : Int32) M (fun r_3 M_2 => vz r_3 ∧ Post r_3 M_2)
def w4_lineRead_c107 (Post : Int32 → MS → Prop) (x1 : Int32) (M : MS) : Prop := (x1 = 0 → (Post (0 : Int32) M)) ∧ (¬ (x1 = 0) → (w4_isSign (59 : Int32) M (fun r_11 M_10 => (r_11 = 0 → (w4_wrong (1 : Int32) M_10 (fun r_15 M_14 => vz r_15 ∧ Post r_15 M_14))) ∧ (¬ (r_11 = 0) → (w4_take M_10 (fun M_13 => Post (1 : Int32) M_13))))))
def w4_lineRead (M : MS) (Post : Int32 → MS → Prop) : Prop := ((mi M 8) = (1 : Int32) → (((mi M 9) ≤ (7 : Int32) → (∀ v_5 : Int32, v_5 = mi M 9 → (v_5 = 0 → (w4_thingLine M (fun r_8 M_7 => w4_lineRead_c107 Post r_8 M_7))) ∧ (¬ v_5 = 0 → (v_5 = 1 → (w4_tellerLine M (fun r_18 M_17 => w4_lineRead_c107 Post r_18 M_17))) ∧ (¬ v_5 = 1 → (v_5 = 2 → (w4_talkLine (0 : Int32) M (fun r_21 M_20 => w4_lineRead_c107 Post r_21 M_20))) ∧ (¬ v_5 = 2 → (v_5 = 3 → (w4_talkLine (1 : Int32) M (fun r_24 M_23 => w4_lineRead_c107 Post r_24 M_23))) ∧ (¬ v_5 = 3 → (v_5 = 4 → (w4_pageLine M (fun r_27 M_26 => w4_lineRead_c107 Post r_27 M_26))) ∧ (¬ v_5 = 4 → w4_sumLine M (fun r_29 M_28 => w4_lineRead_c107 Post r_29 M_28)))))))) ∧ (¬ ((mi M 9) ≤ (7 : Int32)) → (w4_lineRead_c17 Post M)))) ∧ (¬ ((mi M 8) = (1 : Int32)) → (w4_lineRead_c17 Post M))
abbrev rX4_lineRead : Room := { frames := 4, cells := 0, slots := 0, locals := 91 }
theorem cdX4_lineRead : yX4_lineRead.cls = RX4 ∧ yX4_lineRead.cls ≠ "java/lang/invoke/MethodHandle" ∧ yX4_lineRead.cls ≠ "java/lang/invoke/VarHandle" ∧ (parseMethodDescriptor yX4_lineRead.desc).map (fun d => d.parameters.length) = some 0 := by decide +kernel
set_option maxHeartbeats 4000000 in
set_option maxRecDepth 100000 in
theorem mt4_lineRead (l : Launch) {D : va_G} {cA : Nat → ClassId} {m0 : Nat} {ad : Nat → Nat} (hA : mAd m0 ad) (M : MS) (Post : Int32 → MS → Prop) (h : w4_lineRead M Post) : Met l yX4_lineRead (ws_ yX4_lineRead cX4_lineRead 2 (some .boolean)) rX4_lineRead (mPc [.ref m0] D cA m0 ad M) (va_Qi Post (mB D cA m0 ad) (mF m0 ad)) 0 0 (mF m0 ad) := by
  refine mst_i (own := RX4) (by decide) rfl (Nat.le_of_ble_eq_true rfl) ?_
  intro p e s m args below meth c Q ls S hK hP hS hl hret
  have hx := S.1
  have hb := S.2.1
  have hl : lv_has ls 2 [(0, .ref m0)] := hl
  have C17 : ∀ (M : MS) (H : Heap) (locs : List Loc) (ls : Array Slot), va_P D vwCl (mo cA m0 ad M) H → va_S (mF m0 ad) s.heap H locs → lv_has ls 2 [(0, .ref m0)] → w4_lineRead_c17 Post M → W p l e rX4_lineRead s m args below meth c H locs 0 0 Q (F0 m 17 ls []) := by
    intro M H locs ls hP hS hl h
    unfold w4_lineRead_c17 at h
    refine lv_aload_n hx hb dX4_lineRead_17 rfl (lv_at hl 0 rfl) ?_
    refine lv_iconst hx hb dX4_lineRead_18 kc_1 ?_
    refine mc_i S hK hP hS (As := [.int (1 : Int32)]) (rest := []) (mt4_wrong l hA (1 : Int32) M _ h) (cwV 1 S.2.2.2.2 (lw_V q1660 q1662 qs72 q145 q1663) rfl rfl rfl cdX4_wrong ⟨Nat.le_of_ble_eq_true rfl, Nat.le_of_ble_eq_true rfl⟩) rfl rfl hl.1 (Nat.le_of_ble_eq_true rfl) dX4_lineRead_19 ⟨Nat.le_refl _, Nat.le_refl _⟩ (fun r_3 M_2 H locs h hP hS => ?_)
    exact hret _ _ _ _ _ _ hP hS h.2 (vz_nar h.1) dX4_lineRead_22
  have C107 : ∀ (x1 : Int32) (M : MS) (H : Heap) (locs : List Loc) (ls : Array Slot), va_P D vwCl (mo cA m0 ad M) H → va_S (mF m0 ad) s.heap H locs → lv_has ls 2 [(0, .ref m0), (1, .int x1)] → w4_lineRead_c107 Post x1 M → W p l e rX4_lineRead s m args below meth c H locs 0 0 Q (F0 m 107 ls []) := by
    intro x1 M H locs ls hP hS hl h
    unfold w4_lineRead_c107 at h
    refine lv_iload_n hx hb dX4_lineRead_107 rfl (lv_at hl 1 rfl) ?_
    refine lv_if_ne (tgt := 113) hx hb dX4_lineRead_108 (by decide) (fun c_9 => ?_) (fun c_9 => ?_)
    · replace h := h.2 c_9
      refine lv_aload_n hx hb dX4_lineRead_113 rfl (lv_at hl 0 rfl) ?_
      refine lv_bipush hx hb dX4_lineRead_114 kb_59 ?_
      refine mc_i S hK hP hS (As := [.int (59 : Int32)]) (rest := []) (mt4_isSign l hA (59 : Int32) M _ h) (cwV 1 S.2.2.2.2 (lw_V q1712 q1714 qs85 q145 q1715) rfl rfl rfl cdX4_isSign ⟨Nat.le_of_ble_eq_true rfl, Nat.le_of_ble_eq_true rfl⟩) rfl rfl hl.1 (Nat.le_of_ble_eq_true rfl) dX4_lineRead_116 ⟨Nat.le_refl _, Nat.le_refl _⟩ (fun r_11 M_10 H locs h hP hS => ?_)
      refine lv_if_ne (tgt := 128) hx hb dX4_lineRead_119 (by decide) (fun c_12 => ?_) (fun c_12 => ?_)
      · replace h := h.2 c_12
        refine lv_aload_n hx hb dX4_lineRead_128 rfl (lv_at hl 0 rfl) ?_
        refine mc_v S hK hP hS (As := []) (rest := []) (mt4_take l hA M_10 _ h) (cwV 0 S.2.2.2.2 (lw_V q1632 q1634 qs65 q145 q1635) rfl rfl rfl cdX4_take ⟨Nat.le_of_ble_eq_true rfl, Nat.le_of_ble_eq_true rfl⟩) rfl rfl hl.1 (Nat.le_of_ble_eq_true rfl) dX4_lineRead_129 ⟨Nat.le_refl _, Nat.le_refl _⟩ (fun M_13 H locs h hP hS => ?_)
        refine lv_iconst hx hb dX4_lineRead_132 kc_1 ?_
        exact hret _ _ _ _ _ _ hP hS h (vz_nar vz_1) dX4_lineRead_133
      · replace h := h.1 c_12
        refine lv_aload_n hx hb dX4_lineRead_122 rfl (lv_at hl 0 rfl) ?_
        refine lv_iconst hx hb dX4_lineRead_123 kc_1 ?_
        refine mc_i S hK hP hS (As := [.int (1 : Int32)]) (rest := []) (mt4_wrong l hA (1 : Int32) M_10 _ h) (cwV 1 S.2.2.2.2 (lw_V q1660 q1662 qs72 q145 q1663) rfl rfl rfl cdX4_wrong ⟨Nat.le_of_ble_eq_true rfl, Nat.le_of_ble_eq_true rfl⟩) rfl rfl hl.1 (Nat.le_of_ble_eq_true rfl) dX4_lineRead_124 ⟨Nat.le_refl _, Nat.le_refl _⟩ (fun r_15 M_14 H locs h hP hS => ?_)
        exact hret _ _ _ _ _ _ hP hS h.2 (vz_nar h.1) dX4_lineRead_127
    · replace h := h.1 c_9
      refine lv_iconst hx hb dX4_lineRead_111 kc_0 ?_
      exact hret _ _ _ _ _ _ hP hS h (vz_nar vz_0) dX4_lineRead_112
  unfold w4_lineRead at h
  refine lv_aload_n hx hb dX4_lineRead_0 rfl (lv_at hl 0 rfl) ?_
  refine mg_i S hK hP (k := 8) (by decide) (by decide) q1428 dX4_lineRead_1 ?_
  refine lv_iconst hx hb dX4_lineRead_4 kc_1 ?_
  refine lv_icmp_ne (tgt := 17) hx hb dX4_lineRead_5 (by decide) (fun c_1 => ?_) (fun c_1 => ?_)
  · replace h := h.2 c_1
    exact C17 _ _ _ _ hP hS (lv_sub hl [0] rfl) h
  · replace h := h.1 c_1
    refine lv_aload_n hx hb dX4_lineRead_8 rfl (lv_at hl 0 rfl) ?_
    refine mg_i S hK hP (k := 9) (by decide) (by decide) q1429 dX4_lineRead_9 ?_
    refine lv_bipush hx hb dX4_lineRead_12 kb_7 ?_
    refine lv_icmp_le (tgt := 23) hx hb dX4_lineRead_14 (by decide) (fun c_4 => ?_) (fun c_4 => ?_)
    · replace h := h.1 c_4
      refine lv_aload_n hx hb dX4_lineRead_23 rfl (lv_at hl 0 rfl) ?_
      refine mg_i S hK hP (k := 9) (by decide) (by decide) q1429 dX4_lineRead_24 ?_
      refine lv_topi (fun v_5 e_v_5 => ?_)
      replace h := h v_5 e_v_5
      by_cases c_6 : v_5 = 0
      · replace h := h.1 c_6
        refine lv_tableIn (tgt := 60) hx hb dX4_lineRead_27 (by rw [c_6]; decide) (by rw [c_6]; decide) (by rw [c_6]; rfl) (by decide) ?_
        refine lv_aload_n hx hb dX4_lineRead_60 rfl (lv_at hl 0 rfl) ?_
        refine mc_i S hK hP hS (As := []) (rest := []) (mt4_thingLine l hA M _ h) (cwV 0 S.2.2.2.2 (lw_V q1664 q1666 qs73 q145 q1667) rfl rfl rfl cdX4_thingLine ⟨Nat.le_of_ble_eq_true rfl, Nat.le_of_ble_eq_true rfl⟩) rfl rfl hl.1 (Nat.le_of_ble_eq_true rfl) dX4_lineRead_61 ⟨Nat.le_refl _, Nat.le_refl _⟩ (fun r_8 M_7 H locs h hP hS => ?_)
        refine lv_istore_n (lv' := [(1, .int r_8), (0, .ref m0)]) hx hb dX4_lineRead_64 rfl hl (by decide) rfl (fun ls hl => ?_)
        refine lv_goto (tgt := 107) hx hb dX4_lineRead_65 (by decide) ?_
        exact C107 _ _ _ _ _ hP hS (lv_sub hl [1, 0] rfl) h
      · replace h := h.2 c_6
        by_cases c_16 : v_5 = 1
        · replace h := h.1 c_16
          refine lv_tableIn (tgt := 68) hx hb dX4_lineRead_27 (by rw [c_16]; decide) (by rw [c_16]; decide) (by rw [c_16]; rfl) (by decide) ?_
          refine lv_aload_n hx hb dX4_lineRead_68 rfl (lv_at hl 0 rfl) ?_
          refine mc_i S hK hP hS (As := []) (rest := []) (mt4_tellerLine l hA M _ h) (cwV 0 S.2.2.2.2 (lw_V q1688 q1690 qs79 q145 q1691) rfl rfl rfl cdX4_tellerLine ⟨Nat.le_of_ble_eq_true rfl, Nat.le_of_ble_eq_true rfl⟩) rfl rfl hl.1 (Nat.le_of_ble_eq_true rfl) dX4_lineRead_69 ⟨Nat.le_refl _, Nat.le_refl _⟩ (fun r_18 M_17 H locs h hP hS => ?_)
          refine lv_istore_n (lv' := [(1, .int r_18), (0, .ref m0)]) hx hb dX4_lineRead_72 rfl hl (by decide) rfl (fun ls hl => ?_)
          refine lv_goto (tgt := 107) hx hb dX4_lineRead_73 (by decide) ?_
          exact C107 _ _ _ _ _ hP hS (lv_sub hl [1, 0] rfl) h
        · replace h := h.2 c_16
          by_cases c_19 : v_5 = 2
          · replace h := h.1 c_19
            refine lv_tableIn (tgt := 76) hx hb dX4_lineRead_27 (by rw [c_19]; decide) (by rw [c_19]; decide) (by rw [c_19]; rfl) (by decide) ?_
            refine lv_aload_n hx hb dX4_lineRead_76 rfl (lv_at hl 0 rfl) ?_
            refine lv_iconst hx hb dX4_lineRead_77 kc_0 ?_
            refine mc_i S hK hP hS (As := [.int (0 : Int32)]) (rest := []) (mt4_talkLine l hA (0 : Int32) M _ h) (cwV 1 S.2.2.2.2 (lw_V q1692 q1694 qs80 q145 q1695) rfl rfl rfl cdX4_talkLine ⟨Nat.le_of_ble_eq_true rfl, Nat.le_of_ble_eq_true rfl⟩) rfl rfl hl.1 (Nat.le_of_ble_eq_true rfl) dX4_lineRead_78 ⟨Nat.le_refl _, Nat.le_refl _⟩ (fun r_21 M_20 H locs h hP hS => ?_)
            refine lv_istore_n (lv' := [(1, .int r_21), (0, .ref m0)]) hx hb dX4_lineRead_81 rfl hl (by decide) rfl (fun ls hl => ?_)
            refine lv_goto (tgt := 107) hx hb dX4_lineRead_82 (by decide) ?_
            exact C107 _ _ _ _ _ hP hS (lv_sub hl [1, 0] rfl) h
          · replace h := h.2 c_19
            by_cases c_22 : v_5 = 3
            · replace h := h.1 c_22
              refine lv_tableIn (tgt := 85) hx hb dX4_lineRead_27 (by rw [c_22]; decide) (by rw [c_22]; decide) (by rw [c_22]; rfl) (by decide) ?_
              refine lv_aload_n hx hb dX4_lineRead_85 rfl (lv_at hl 0 rfl) ?_
              refine lv_iconst hx hb dX4_lineRead_86 kc_1 ?_
              refine mc_i S hK hP hS (As := [.int (1 : Int32)]) (rest := []) (mt4_talkLine l hA (1 : Int32) M _ h) (cwV 1 S.2.2.2.2 (lw_V q1692 q1694 qs80 q145 q1695) rfl rfl rfl cdX4_talkLine ⟨Nat.le_of_ble_eq_true rfl, Nat.le_of_ble_eq_true rfl⟩) rfl rfl hl.1 (Nat.le_of_ble_eq_true rfl) dX4_lineRead_87 ⟨Nat.le_refl _, Nat.le_refl _⟩ (fun r_24 M_23 H locs h hP hS => ?_)
              refine lv_istore_n (lv' := [(1, .int r_24), (0, .ref m0)]) hx hb dX4_lineRead_90 rfl hl (by decide) rfl (fun ls hl => ?_)
              refine lv_goto (tgt := 107) hx hb dX4_lineRead_91 (by decide) ?_
              exact C107 _ _ _ _ _ hP hS (lv_sub hl [1, 0] rfl) h
            · replace h := h.2 c_22
              by_cases c_25 : v_5 = 4
              · replace h := h.1 c_25
                refine lv_tableIn (tgt := 94) hx hb dX4_lineRead_27 (by rw [c_25]; decide) (by rw [c_25]; decide) (by rw [c_25]; rfl) (by decide) ?_
                refine lv_aload_n hx hb dX4_lineRead_94 rfl (lv_at hl 0 rfl) ?_
                refine mc_i S hK hP hS (As := []) (rest := []) (mt4_pageLine l hA M _ h) (cwV 0 S.2.2.2.2 (lw_V q1704 q1706 qs83 q145 q1707) rfl rfl rfl cdX4_pageLine ⟨Nat.le_of_ble_eq_true rfl, Nat.le_of_ble_eq_true rfl⟩) rfl rfl hl.1 (Nat.le_of_ble_eq_true rfl) dX4_lineRead_95 ⟨Nat.le_refl _, Nat.le_refl _⟩ (fun r_27 M_26 H locs h hP hS => ?_)
                refine lv_istore_n (lv' := [(1, .int r_27), (0, .ref m0)]) hx hb dX4_lineRead_98 rfl hl (by decide) rfl (fun ls hl => ?_)
                refine lv_goto (tgt := 107) hx hb dX4_lineRead_99 (by decide) ?_
                exact C107 _ _ _ _ _ hP hS (lv_sub hl [1, 0] rfl) h
              · replace h := h.2 c_25
                refine lv_tableOut (tgt := 102) hx hb dX4_lineRead_27 (by have z0 := sw_n (n := 0) c_6 rfl; have z1 := sw_n (n := 1) c_16 rfl; have z2 := sw_n (n := 2) c_19 rfl; have z3 := sw_n (n := 3) c_22 rfl; have z4 := sw_n (n := 4) c_25 rfl; omega) (by decide) ?_
                refine lv_aload_n hx hb dX4_lineRead_102 rfl (lv_at hl 0 rfl) ?_
                refine mc_i S hK hP hS (As := []) (rest := []) (mt4_sumLine l hA M _ h) (cwV 0 S.2.2.2.2 (lw_V q1708 q1710 qs84 q145 q1711) rfl rfl rfl cdX4_sumLine ⟨Nat.le_of_ble_eq_true rfl, Nat.le_of_ble_eq_true rfl⟩) rfl rfl hl.1 (Nat.le_of_ble_eq_true rfl) dX4_lineRead_103 ⟨Nat.le_refl _, Nat.le_refl _⟩ (fun r_29 M_28 H locs h hP hS => ?_)
                refine lv_istore_n (lv' := [(1, .int r_29), (0, .ref m0)]) hx hb dX4_lineRead_106 rfl hl (by decide) rfl (fun ls hl => ?_)
                exact C107 _ _ _ _ _ hP hS (lv_sub hl [1, 0] rfl) h
    · replace h := h.2 c_4
      exact C17 _ _ _ _ hP hS (lv_sub hl [0] rfl) h
def w4_tell_l55 (a1 : Int32) (Post : Int32 → MS → Prop) : Nat → Int32 → MS → Prop
  | 0, _, _ => False
  | n + 1, x2, M => ((mi M 8) = 0 → (w4_keep M (fun M_12 => Post x2 M_12))) ∧ (¬ ((mi M 8) = 0) → (w4_lineRead M (fun r_14 M_13 => (r_14 = 0 → (Post (-1 : Int32) M_13)) ∧ (¬ (r_14 = 0) → (∀ v_16 : Int32, v_16 = x2 + (1 : Int32) → w4_tell_l55 a1 Post n v_16 M_13)))))
def w4_tell (a1 : Int32) (M : MS) (Post : Int32 → MS → Prop) : Prop := ∀ M_1 : MS, M_1 = si M 2 (0 : Int32) → (a1 < 0 → (Post (-2 : Int32) M_1)) ∧ (¬ (a1 < 0) → ((a1 ≤ (mi M_1 1) → (∀ M_4 : MS, M_4 = si M_1 6 a1 → ∀ M_5 : MS, M_5 = si M_4 1 (0 : Int32) → ∀ M_6 : MS, M_6 = si M_5 4 (0 : Int32) → ∀ M_7 : MS, M_7 = si M_6 5 (-1 : Int32) → ∀ M_8 : MS, M_8 = si M_7 7 (0 : Int32) → w4_plain M_8 (fun M_9 => w4_take M_9 (fun M_10 => ∃ f, w4_tell_l55 a1 Post f (0 : Int32) M_10)))) ∧ (¬ (a1 ≤ (mi M_1 1)) → (Post (-2 : Int32) M_1))))
abbrev rX4_tell : Room := { frames := 5, cells := 0, slots := 0, locals := 112 }
theorem cdX4_tell : yX4_tell.cls = RX4 ∧ yX4_tell.cls ≠ "java/lang/invoke/MethodHandle" ∧ yX4_tell.cls ≠ "java/lang/invoke/VarHandle" ∧ (parseMethodDescriptor yX4_tell.desc).map (fun d => d.parameters.length) = some 1 := by decide +kernel
set_option maxHeartbeats 4000000 in
set_option maxRecDepth 100000 in
theorem mt4_tell (l : Launch) {D : va_G} {cA : Nat → ClassId} {m0 : Nat} {ad : Nat → Nat} (hA : mAd m0 ad) (a1 : Int32) (M : MS) (Post : Int32 → MS → Prop) (h : w4_tell a1 M Post) : Met l yX4_tell (ws_ yX4_tell cX4_tell 3 (some .int)) rX4_tell (mPc [.ref m0, .int a1] D cA m0 ad M) (va_Qi Post (mB D cA m0 ad) (mF m0 ad)) 0 0 (mF m0 ad) := by
  refine mst_i (own := RX4) (by decide) rfl (Nat.le_of_ble_eq_true rfl) ?_
  intro p e s m args below meth c Q ls S hK hP hS hl hret
  have hx := S.1
  have hb := S.2.1
  have hl : lv_has ls 3 [(0, .ref m0), (1, .int a1)] := hl
  have L55 : ∀ (n : Nat) (x2 : Int32) (M : MS) (H : Heap) (locs : List Loc) (ls : Array Slot), va_P D vwCl (mo cA m0 ad M) H → va_S (mF m0 ad) s.heap H locs → lv_has ls 3 [(0, .ref m0), (2, .int x2)] → w4_tell_l55 a1 Post n x2 M → W p l e rX4_tell s m args below meth c H locs 0 0 Q (F0 m 55 ls []) := by
    intro n
    induction n with
    | zero => intro x2 M H locs ls hP hS hl h; rw [w4_tell_l55] at h; exact h.elim
    | succ n ih =>
      intro x2 M H locs ls hP hS hl h
      rw [w4_tell_l55] at h
      refine lv_aload_n hx hb dX4_tell_55 rfl (lv_at hl 0 rfl) ?_
      refine mg_i S hK hP (k := 8) (by decide) (by decide) q1428 dX4_tell_56 ?_
      refine lv_if_eq (tgt := 77) hx hb dX4_tell_59 (by decide) (fun c_11 => ?_) (fun c_11 => ?_)
      · replace h := h.1 c_11
        refine lv_aload_n hx hb dX4_tell_77 rfl (lv_at hl 0 rfl) ?_
        refine mc_v S hK hP hS (As := []) (rest := []) (mt4_keep l hA M _ h) (cwV 0 S.2.2.2.2 (lw_V q1412 q1414 qs63 q145 q1415) rfl rfl rfl cdX4_keep ⟨Nat.le_of_ble_eq_true rfl, Nat.le_of_ble_eq_true rfl⟩) rfl rfl hl.1 (Nat.le_of_ble_eq_true rfl) dX4_tell_78 ⟨Nat.le_refl _, Nat.le_refl _⟩ (fun M_12 H locs h hP hS => ?_)
        refine lv_iload_n hx hb dX4_tell_81 rfl (lv_at hl 1 rfl) ?_
        exact hret _ _ _ _ _ _ hP hS h rfl dX4_tell_82
      · replace h := h.2 c_11
        refine lv_aload_n hx hb dX4_tell_62 rfl (lv_at hl 0 rfl) ?_
        refine mc_i S hK hP hS (As := []) (rest := []) (mt4_lineRead l hA M _ h) (cwV 0 S.2.2.2.2 (lw_V q1656 q1658 qs71 q145 q1659) rfl rfl rfl cdX4_lineRead ⟨Nat.le_of_ble_eq_true rfl, Nat.le_of_ble_eq_true rfl⟩) rfl rfl hl.1 (Nat.le_of_ble_eq_true rfl) dX4_tell_63 ⟨Nat.le_refl _, Nat.le_refl _⟩ (fun r_14 M_13 H locs h hP hS => ?_)
        refine lv_if_ne (tgt := 71) hx hb dX4_tell_66 (by decide) (fun c_15 => ?_) (fun c_15 => ?_)
        · replace h := h.2 c_15
          obtain ⟨v_16, e_v_16⟩ : ∃ y : Int32, y = x2 + (1 : Int32) := ⟨_, rfl⟩
          replace h := h v_16 e_v_16
          refine lv_iinc (v := v_16) (lv' := [(2, .int v_16), (0, .ref m0)]) hx hb dX4_tell_71 hl (k := 1) rfl (by rw [kc_1, e_v_16]) (by decide) rfl (fun ls hl => ?_)
          refine lv_goto (tgt := 55) hx hb dX4_tell_74 (by decide) ?_
          exact ih _ _ _ _ _ hP hS (lv_sub hl [1, 0] rfl) h
        · replace h := h.1 c_15
          refine lv_iconst hx hb dX4_tell_69 kc_m1 ?_
          exact hret _ _ _ _ _ _ hP hS h rfl dX4_tell_70
  unfold w4_tell at h
  refine lv_aload_n hx hb dX4_tell_0 rfl (lv_at hl 0 rfl) ?_
  refine lv_iconst hx hb dX4_tell_1 kc_0 ?_
  refine mp_i S hK hA hP hS (k := 2) (by decide) (Or.inl rfl) rfl (Or.inl ⟨rfl, rfl⟩) q1422 dX4_tell_2 (fun M_1 H locs e_M_1 hP hS => ?_)
  replace h := h M_1 e_M_1
  refine lv_iload_n hx hb dX4_tell_5 rfl (lv_at hl 1 rfl) ?_
  refine lv_if_lt (tgt := 17) hx hb dX4_tell_6 (by decide) (fun c_2 => ?_) (fun c_2 => ?_)
  · replace h := h.1 c_2
    refine lv_bipush hx hb dX4_tell_17 kb_m2 ?_
    exact hret _ _ _ _ _ _ hP hS h rfl dX4_tell_19
  · replace h := h.2 c_2
    refine lv_iload_n hx hb dX4_tell_9 rfl (lv_at hl 1 rfl) ?_
    refine lv_aload_n hx hb dX4_tell_10 rfl (lv_at hl 0 rfl) ?_
    refine mg_i S hK hP (k := 1) (by decide) (by decide) q1421 dX4_tell_11 ?_
    refine lv_icmp_le (tgt := 20) hx hb dX4_tell_14 (by decide) (fun c_3 => ?_) (fun c_3 => ?_)
    · replace h := h.1 c_3
      refine lv_aload_n hx hb dX4_tell_20 rfl (lv_at hl 0 rfl) ?_
      refine lv_iload_n hx hb dX4_tell_21 rfl (lv_at hl 1 rfl) ?_
      refine mp_i S hK hA hP hS (k := 6) (by decide) (Or.inl rfl) rfl (Or.inl ⟨rfl, rfl⟩) q1426 dX4_tell_22 (fun M_4 H locs e_M_4 hP hS => ?_)
      replace h := h M_4 e_M_4
      refine lv_aload_n hx hb dX4_tell_25 rfl (lv_at hl 0 rfl) ?_
      refine lv_iconst hx hb dX4_tell_26 kc_0 ?_
      refine mp_i S hK hA hP hS (k := 1) (by decide) (Or.inl rfl) rfl (Or.inl ⟨rfl, rfl⟩) q1421 dX4_tell_27 (fun M_5 H locs e_M_5 hP hS => ?_)
      replace h := h M_5 e_M_5
      refine lv_aload_n hx hb dX4_tell_30 rfl (lv_at hl 0 rfl) ?_
      refine lv_iconst hx hb dX4_tell_31 kc_0 ?_
      refine mp_i S hK hA hP hS (k := 4) (by decide) (Or.inl rfl) rfl (Or.inl ⟨rfl, rfl⟩) q1424 dX4_tell_32 (fun M_6 H locs e_M_6 hP hS => ?_)
      replace h := h M_6 e_M_6
      refine lv_aload_n hx hb dX4_tell_35 rfl (lv_at hl 0 rfl) ?_
      refine lv_iconst hx hb dX4_tell_36 kc_m1 ?_
      refine mp_i S hK hA hP hS (k := 5) (by decide) (Or.inl rfl) rfl (Or.inl ⟨rfl, rfl⟩) q1425 dX4_tell_37 (fun M_7 H locs e_M_7 hP hS => ?_)
      replace h := h M_7 e_M_7
      refine lv_aload_n hx hb dX4_tell_40 rfl (lv_at hl 0 rfl) ?_
      refine lv_iconst hx hb dX4_tell_41 kc_0 ?_
      refine mp_i S hK hA hP hS (k := 7) (by decide) (Or.inl rfl) rfl (Or.inl ⟨rfl, rfl⟩) q1427 dX4_tell_42 (fun M_8 H locs e_M_8 hP hS => ?_)
      replace h := h M_8 e_M_8
      refine lv_aload_n hx hb dX4_tell_45 rfl (lv_at hl 0 rfl) ?_
      refine mc_v S hK hP hS (As := []) (rest := []) (mt4_plain l hA M_8 _ h) (cwV 0 S.2.2.2.2 (lw_V q1408 q1410 qs62 q145 q1411) rfl rfl rfl cdX4_plain ⟨Nat.le_of_ble_eq_true rfl, Nat.le_of_ble_eq_true rfl⟩) rfl rfl hl.1 (Nat.le_of_ble_eq_true rfl) dX4_tell_46 ⟨Nat.le_refl _, Nat.le_refl _⟩ (fun M_9 H locs h hP hS => ?_)
      refine lv_aload_n hx hb dX4_tell_49 rfl (lv_at hl 0 rfl) ?_
      refine mc_v S hK hP hS (As := []) (rest := []) (mt4_take l hA M_9 _ h) (cwV 0 S.2.2.2.2 (lw_V q1632 q1634 qs65 q145 q1635) rfl rfl rfl cdX4_take ⟨Nat.le_of_ble_eq_true rfl, Nat.le_of_ble_eq_true rfl⟩) rfl rfl hl.1 (Nat.le_of_ble_eq_true rfl) dX4_tell_50 ⟨Nat.le_refl _, Nat.le_refl _⟩ (fun M_10 H locs h hP hS => ?_)
      refine lv_iconst hx hb dX4_tell_53 kc_0 ?_
      refine lv_istore_n (lv' := [(2, .int (0 : Int32)), (0, .ref m0), (1, .int a1)]) hx hb dX4_tell_54 rfl hl (by decide) rfl (fun ls hl => ?_)
      obtain ⟨f, h⟩ := h
      exact L55 f _ _ _ _ _ hP hS (lv_sub hl [1, 0] rfl) h
    · replace h := h.2 c_3
      refine lv_bipush hx hb dX4_tell_17 kb_m2 ?_
      exact hret _ _ _ _ _ _ hP hS h rfl dX4_tell_19
def w4_fault (a1 : Int32) (M : MS) (Post : Int32 → MS → Prop) : Prop := ∀ M_1 : MS, M_1 = si M 2 (0 : Int32) → (a1 = 0 → (Post (mi M_1 4) M_1)) ∧ (¬ (a1 = 0) → ((a1 = (1 : Int32) → (Post (mi M_1 5) M_1)) ∧ (¬ (a1 = (1 : Int32)) → (Post (-1 : Int32) M_1))))
abbrev rX4_fault : Room := { frames := 0, cells := 0, slots := 0, locals := 0 }
theorem cdX4_fault : yX4_fault.cls = RX4 ∧ yX4_fault.cls ≠ "java/lang/invoke/MethodHandle" ∧ yX4_fault.cls ≠ "java/lang/invoke/VarHandle" ∧ (parseMethodDescriptor yX4_fault.desc).map (fun d => d.parameters.length) = some 1 := by decide +kernel
set_option maxHeartbeats 4000000 in
set_option maxRecDepth 100000 in
theorem mt4_fault (l : Launch) {D : va_G} {cA : Nat → ClassId} {m0 : Nat} {ad : Nat → Nat} (hA : mAd m0 ad) (a1 : Int32) (M : MS) (Post : Int32 → MS → Prop) (h : w4_fault a1 M Post) : Met l yX4_fault (ws_ yX4_fault cX4_fault 2 (some .int)) rX4_fault (mPc [.ref m0, .int a1] D cA m0 ad M) (va_Qi Post (mB D cA m0 ad) (mF m0 ad)) 0 0 (mF m0 ad) := by
  refine mst_i (own := RX4) (by decide) rfl (Nat.le_of_ble_eq_true rfl) ?_
  intro p e s m args below meth c Q ls S hK hP hS hl hret
  have hx := S.1
  have hb := S.2.1
  have hl : lv_has ls 2 [(0, .ref m0), (1, .int a1)] := hl
  unfold w4_fault at h
  refine lv_aload_n hx hb dX4_fault_0 rfl (lv_at hl 0 rfl) ?_
  refine lv_iconst hx hb dX4_fault_1 kc_0 ?_
  refine mp_i S hK hA hP hS (k := 2) (by decide) (Or.inl rfl) rfl (Or.inl ⟨rfl, rfl⟩) q1422 dX4_fault_2 (fun M_1 H locs e_M_1 hP hS => ?_)
  replace h := h M_1 e_M_1
  refine lv_iload_n hx hb dX4_fault_5 rfl (lv_at hl 1 rfl) ?_
  refine lv_if_ne (tgt := 16) hx hb dX4_fault_6 (by decide) (fun c_2 => ?_) (fun c_2 => ?_)
  · replace h := h.2 c_2
    refine lv_iload_n hx hb dX4_fault_16 rfl (lv_at hl 1 rfl) ?_
    refine lv_iconst hx hb dX4_fault_17 kc_1 ?_
    refine lv_icmp_ne (tgt := 28) hx hb dX4_fault_18 (by decide) (fun c_3 => ?_) (fun c_3 => ?_)
    · replace h := h.2 c_3
      refine lv_iconst hx hb dX4_fault_28 kc_m1 ?_
      exact hret _ _ _ _ _ _ hP hS h rfl dX4_fault_29
    · replace h := h.1 c_3
      refine lv_aload_n hx hb dX4_fault_21 rfl (lv_at hl 0 rfl) ?_
      refine mg_i S hK hP (k := 5) (by decide) (by decide) q1425 dX4_fault_22 ?_
      refine lv_goto (tgt := 29) hx hb dX4_fault_25 (by decide) ?_
      exact hret _ _ _ _ _ _ hP hS h rfl dX4_fault_29
  · replace h := h.1 c_2
    refine lv_aload_n hx hb dX4_fault_9 rfl (lv_at hl 0 rfl) ?_
    refine mg_i S hK hP (k := 4) (by decide) (by decide) q1424 dX4_fault_10 ?_
    refine lv_goto (tgt := 29) hx hb dX4_fault_13 (by decide) ?_
    exact hret _ _ _ _ _ _ hP hS h rfl dX4_fault_29
def w4_named (a1 : Int32) (a2 : Int32) (M : MS) (Post : Int32 → MS → Prop) : Prop := ∀ M_1 : MS, M_1 = si M 2 (0 : Int32) → (a1 = 0 → (w4_find 21 (0 : Int32) (mi M_1 11) a2 M_1 (fun r_7 M_6 => Post r_7 M_6))) ∧ (¬ (a1 = 0) → ((a1 = (1 : Int32) → (w4_find 26 (0 : Int32) (mi M_1 12) a2 M_1 (fun r_5 M_4 => Post r_5 M_4))) ∧ (¬ (a1 = (1 : Int32)) → (Post (-1 : Int32) M_1))))
abbrev rX4_named : Room := { frames := 1, cells := 0, slots := 0, locals := 25 }
theorem cdX4_named : yX4_named.cls = RX4 ∧ yX4_named.cls ≠ "java/lang/invoke/MethodHandle" ∧ yX4_named.cls ≠ "java/lang/invoke/VarHandle" ∧ (parseMethodDescriptor yX4_named.desc).map (fun d => d.parameters.length) = some 2 := by decide +kernel
set_option maxHeartbeats 4000000 in
set_option maxRecDepth 100000 in
theorem mt4_named (l : Launch) {D : va_G} {cA : Nat → ClassId} {m0 : Nat} {ad : Nat → Nat} (hA : mAd m0 ad) (a1 : Int32) (a2 : Int32) (M : MS) (Post : Int32 → MS → Prop) (h : w4_named a1 a2 M Post) : Met l yX4_named (ws_ yX4_named cX4_named 3 (some .int)) rX4_named (mPc [.ref m0, .int a1, .int a2] D cA m0 ad M) (va_Qi Post (mB D cA m0 ad) (mF m0 ad)) 0 0 (mF m0 ad) := by
  refine mst_i (own := RX4) (by decide) rfl (Nat.le_of_ble_eq_true rfl) ?_
  intro p e s m args below meth c Q ls S hK hP hS hl hret
  have hx := S.1
  have hb := S.2.1
  have hl : lv_has ls 3 [(0, .ref m0), (1, .int a1), (2, .int a2)] := hl
  unfold w4_named at h
  refine lv_aload_n hx hb dX4_named_0 rfl (lv_at hl 0 rfl) ?_
  refine lv_iconst hx hb dX4_named_1 kc_0 ?_
  refine mp_i S hK hA hP hS (k := 2) (by decide) (Or.inl rfl) rfl (Or.inl ⟨rfl, rfl⟩) q1422 dX4_named_2 (fun M_1 H locs e_M_1 hP hS => ?_)
  replace h := h M_1 e_M_1
  refine lv_iload_n hx hb dX4_named_5 rfl (lv_at hl 1 rfl) ?_
  refine lv_if_ne (tgt := 26) hx hb dX4_named_6 (by decide) (fun c_2 => ?_) (fun c_2 => ?_)
  · replace h := h.2 c_2
    refine lv_iload_n hx hb dX4_named_26 rfl (lv_at hl 1 rfl) ?_
    refine lv_iconst hx hb dX4_named_27 kc_1 ?_
    refine lv_icmp_ne (tgt := 48) hx hb dX4_named_28 (by decide) (fun c_3 => ?_) (fun c_3 => ?_)
    · replace h := h.2 c_3
      refine lv_iconst hx hb dX4_named_48 kc_m1 ?_
      exact hret _ _ _ _ _ _ hP hS h rfl dX4_named_49
    · replace h := h.1 c_3
      refine lv_aload_n hx hb dX4_named_31 rfl (lv_at hl 0 rfl) ?_
      refine lv_aload_n hx hb dX4_named_32 rfl (lv_at hl 0 rfl) ?_
      refine mg_r S hK hP (k := 26) (by decide) (by decide) q1446 dX4_named_33 ?_
      refine lv_iconst hx hb dX4_named_36 kc_0 ?_
      refine lv_aload_n hx hb dX4_named_37 rfl (lv_at hl 0 rfl) ?_
      refine mg_i S hK hP (k := 12) (by decide) (by decide) q1432 dX4_named_38 ?_
      refine lv_iload_n hx hb dX4_named_41 rfl (lv_at hl 2 rfl) ?_
      refine mc_i S hK hP hS (As := [.ref (ad 26), .int (0 : Int32), .int (mi M_1 12), .int a2]) (rest := []) (mt4_find l hA 26 (0 : Int32) (mi M_1 12) a2 af_26 rfl M_1 _ h) (cwV 4 S.2.2.2.2 (lw_V q1672 q1674 qs75 q145 q1675) rfl rfl rfl cdX4_find ⟨Nat.le_of_ble_eq_true rfl, Nat.le_of_ble_eq_true rfl⟩) rfl rfl hl.1 (Nat.le_of_ble_eq_true rfl) dX4_named_42 ⟨Nat.le_refl _, Nat.le_refl _⟩ (fun r_5 M_4 H locs h hP hS => ?_)
      refine lv_goto (tgt := 49) hx hb dX4_named_45 (by decide) ?_
      exact hret _ _ _ _ _ _ hP hS h rfl dX4_named_49
  · replace h := h.1 c_2
    refine lv_aload_n hx hb dX4_named_9 rfl (lv_at hl 0 rfl) ?_
    refine lv_aload_n hx hb dX4_named_10 rfl (lv_at hl 0 rfl) ?_
    refine mg_r S hK hP (k := 21) (by decide) (by decide) q1441 dX4_named_11 ?_
    refine lv_iconst hx hb dX4_named_14 kc_0 ?_
    refine lv_aload_n hx hb dX4_named_15 rfl (lv_at hl 0 rfl) ?_
    refine mg_i S hK hP (k := 11) (by decide) (by decide) q1431 dX4_named_16 ?_
    refine lv_iload_n hx hb dX4_named_19 rfl (lv_at hl 2 rfl) ?_
    refine mc_i S hK hP hS (As := [.ref (ad 21), .int (0 : Int32), .int (mi M_1 11), .int a2]) (rest := []) (mt4_find l hA 21 (0 : Int32) (mi M_1 11) a2 af_21 rfl M_1 _ h) (cwV 4 S.2.2.2.2 (lw_V q1672 q1674 qs75 q145 q1675) rfl rfl rfl cdX4_find ⟨Nat.le_of_ble_eq_true rfl, Nat.le_of_ble_eq_true rfl⟩) rfl rfl hl.1 (Nat.le_of_ble_eq_true rfl) dX4_named_20 ⟨Nat.le_refl _, Nat.le_refl _⟩ (fun r_7 M_6 H locs h hP hS => ?_)
    refine lv_goto (tgt := 49) hx hb dX4_named_23 (by decide) ?_
    exact hret _ _ _ _ _ _ hP hS h rfl dX4_named_49
def w4_isThing (a1 : Int32) (M : MS) (Post : Int32 → MS → Prop) : Prop := (a1 < 0 → (Post (0 : Int32) M)) ∧ (¬ (a1 < 0) → (((mi M 11) ≤ a1 → (Post (0 : Int32) M)) ∧ (¬ ((mi M 11) ≤ a1) → (Post (1 : Int32) M))))
abbrev rX4_isThing : Room := { frames := 0, cells := 0, slots := 0, locals := 0 }
theorem cdX4_isThing : yX4_isThing.cls = RX4 ∧ yX4_isThing.cls ≠ "java/lang/invoke/MethodHandle" ∧ yX4_isThing.cls ≠ "java/lang/invoke/VarHandle" ∧ (parseMethodDescriptor yX4_isThing.desc).map (fun d => d.parameters.length) = some 1 := by decide +kernel
set_option maxHeartbeats 4000000 in
set_option maxRecDepth 100000 in
theorem mt4_isThing (l : Launch) {D : va_G} {cA : Nat → ClassId} {m0 : Nat} {ad : Nat → Nat} (hA : mAd m0 ad) (a1 : Int32) (M : MS) (Post : Int32 → MS → Prop) (h : w4_isThing a1 M Post) : Met l yX4_isThing (ws_ yX4_isThing cX4_isThing 2 (some .boolean)) rX4_isThing (mPc [.ref m0, .int a1] D cA m0 ad M) (va_Qi Post (mB D cA m0 ad) (mF m0 ad)) 0 0 (mF m0 ad) := by
  refine mst_i (own := RX4) (by decide) rfl (Nat.le_of_ble_eq_true rfl) ?_
  intro p e s m args below meth c Q ls S hK hP hS hl hret
  have hx := S.1
  have hb := S.2.1
  have hl : lv_has ls 2 [(0, .ref m0), (1, .int a1)] := hl
  unfold w4_isThing at h
  refine lv_iload_n hx hb dX4_isThing_0 rfl (lv_at hl 1 rfl) ?_
  refine lv_if_lt (tgt := 16) hx hb dX4_isThing_1 (by decide) (fun c_1 => ?_) (fun c_1 => ?_)
  · replace h := h.1 c_1
    refine lv_iconst hx hb dX4_isThing_16 kc_0 ?_
    exact hret _ _ _ _ _ _ hP hS h (vz_nar vz_0) dX4_isThing_17
  · replace h := h.2 c_1
    refine lv_iload_n hx hb dX4_isThing_4 rfl (lv_at hl 1 rfl) ?_
    refine lv_aload_n hx hb dX4_isThing_5 rfl (lv_at hl 0 rfl) ?_
    refine mg_i S hK hP (k := 11) (by decide) (by decide) q1431 dX4_isThing_6 ?_
    refine lv_icmp_ge (tgt := 16) hx hb dX4_isThing_9 (by decide) (fun c_2 => ?_) (fun c_2 => ?_)
    · replace h := h.1 c_2
      refine lv_iconst hx hb dX4_isThing_16 kc_0 ?_
      exact hret _ _ _ _ _ _ hP hS h (vz_nar vz_0) dX4_isThing_17
    · replace h := h.2 c_2
      refine lv_iconst hx hb dX4_isThing_12 kc_1 ?_
      refine lv_goto (tgt := 17) hx hb dX4_isThing_13 (by decide) ?_
      exact hret _ _ _ _ _ _ hP hS h (vz_nar vz_1) dX4_isThing_17
def w4_fails (a1 : Int32) (M : MS) (Post : Int32 → MS → Prop) : Prop := ∀ M_1 : MS, M_1 = si M 2 a1 → Post (0 : Int32) M_1
abbrev rX4_fails : Room := { frames := 0, cells := 0, slots := 0, locals := 0 }
theorem cdX4_fails : yX4_fails.cls = RX4 ∧ yX4_fails.cls ≠ "java/lang/invoke/MethodHandle" ∧ yX4_fails.cls ≠ "java/lang/invoke/VarHandle" ∧ (parseMethodDescriptor yX4_fails.desc).map (fun d => d.parameters.length) = some 1 := by decide +kernel
set_option maxHeartbeats 4000000 in
set_option maxRecDepth 100000 in
theorem mt4_fails (l : Launch) {D : va_G} {cA : Nat → ClassId} {m0 : Nat} {ad : Nat → Nat} (hA : mAd m0 ad) (a1 : Int32) (M : MS) (Post : Int32 → MS → Prop) (h : w4_fails a1 M Post) : Met l yX4_fails (ws_ yX4_fails cX4_fails 2 (some .int)) rX4_fails (mPc [.ref m0, .int a1] D cA m0 ad M) (va_Qi Post (mB D cA m0 ad) (mF m0 ad)) 0 0 (mF m0 ad) := by
  refine mst_i (own := RX4) (by decide) rfl (Nat.le_of_ble_eq_true rfl) ?_
  intro p e s m args below meth c Q ls S hK hP hS hl hret
  have hx := S.1
  have hb := S.2.1
  have hl : lv_has ls 2 [(0, .ref m0), (1, .int a1)] := hl
  unfold w4_fails at h
  refine lv_aload_n hx hb dX4_fails_0 rfl (lv_at hl 0 rfl) ?_
  refine lv_iload_n hx hb dX4_fails_1 rfl (lv_at hl 1 rfl) ?_
  refine mp_i S hK hA hP hS (k := 2) (by decide) (Or.inl rfl) rfl (Or.inl ⟨rfl, rfl⟩) q1422 dX4_fails_2 (fun M_1 H locs e_M_1 hP hS => ?_)
  replace h := h M_1 e_M_1
  refine lv_iconst hx hb dX4_fails_5 kc_0 ?_
  exact hret _ _ _ _ _ _ hP hS h rfl dX4_fails_6
def w4_look (a1 : Int32) (a2 : Int32) (M : MS) (Post : Int32 → MS → Prop) : Prop := ∀ M_1 : MS, M_1 = si M 2 (0 : Int32) → w4_isThing a1 M_1 (fun r_3 M_2 => (r_3 = 0 → (w4_fails (1 : Int32) M_2 (fun r_12 M_11 => Post r_12 M_11))) ∧ (¬ (r_3 = 0) → ((a2 = 0 → ((vp_in a1 (mN 22) ∧ Post (ma M_2 22 (Int32.toNatClampNeg a1)) M_2))) ∧ (¬ a2 = 0 → (a2 = 1 → ((vp_in a1 (mN 23) ∧ Post (ma M_2 23 (Int32.toNatClampNeg a1)) M_2))) ∧ (¬ a2 = 1 → (a2 = 2 → ((vp_in a1 (mN 24) ∧ Post (ma M_2 24 (Int32.toNatClampNeg a1)) M_2))) ∧ (¬ a2 = 2 → (a2 = 3 → ((vp_in a1 (mN 25) ∧ Post (ma M_2 25 (Int32.toNatClampNeg a1)) M_2))) ∧ (¬ a2 = 3 → w4_fails (2 : Int32) M_2 (fun r_10 M_9 => Post r_10 M_9))))))))
abbrev rX4_look : Room := { frames := 1, cells := 0, slots := 0, locals := 21 }
theorem cdX4_look : yX4_look.cls = RX4 ∧ yX4_look.cls ≠ "java/lang/invoke/MethodHandle" ∧ yX4_look.cls ≠ "java/lang/invoke/VarHandle" ∧ (parseMethodDescriptor yX4_look.desc).map (fun d => d.parameters.length) = some 2 := by decide +kernel
set_option maxHeartbeats 4000000 in
set_option maxRecDepth 100000 in
theorem mt4_look (l : Launch) {D : va_G} {cA : Nat → ClassId} {m0 : Nat} {ad : Nat → Nat} (hA : mAd m0 ad) (a1 : Int32) (a2 : Int32) (M : MS) (Post : Int32 → MS → Prop) (h : w4_look a1 a2 M Post) : Met l yX4_look (ws_ yX4_look cX4_look 3 (some .int)) rX4_look (mPc [.ref m0, .int a1, .int a2] D cA m0 ad M) (va_Qi Post (mB D cA m0 ad) (mF m0 ad)) 0 0 (mF m0 ad) := by
  refine mst_i (own := RX4) (by decide) rfl (Nat.le_of_ble_eq_true rfl) ?_
  intro p e s m args below meth c Q ls S hK hP hS hl hret
  have hx := S.1
  have hb := S.2.1
  have hl : lv_has ls 3 [(0, .ref m0), (1, .int a1), (2, .int a2)] := hl
  unfold w4_look at h
  refine lv_aload_n hx hb dX4_look_0 rfl (lv_at hl 0 rfl) ?_
  refine lv_iconst hx hb dX4_look_1 kc_0 ?_
  refine mp_i S hK hA hP hS (k := 2) (by decide) (Or.inl rfl) rfl (Or.inl ⟨rfl, rfl⟩) q1422 dX4_look_2 (fun M_1 H locs e_M_1 hP hS => ?_)
  replace h := h M_1 e_M_1
  refine lv_aload_n hx hb dX4_look_5 rfl (lv_at hl 0 rfl) ?_
  refine lv_iload_n hx hb dX4_look_6 rfl (lv_at hl 1 rfl) ?_
  refine mc_i S hK hP hS (As := [.int a1]) (rest := []) (mt4_isThing l hA a1 M_1 _ h) (cwV 1 S.2.2.2.2 (lw_V q1759 q1761 qs93 q145 q1762) rfl rfl rfl cdX4_isThing ⟨Nat.le_of_ble_eq_true rfl, Nat.le_of_ble_eq_true rfl⟩) rfl rfl hl.1 (Nat.le_of_ble_eq_true rfl) dX4_look_7 ⟨Nat.le_refl _, Nat.le_refl _⟩ (fun r_3 M_2 H locs h hP hS => ?_)
  refine lv_if_ne (tgt := 19) hx hb dX4_look_10 (by decide) (fun c_4 => ?_) (fun c_4 => ?_)
  · replace h := h.2 c_4
    refine lv_iload_n hx hb dX4_look_19 rfl (lv_at hl 2 rfl) ?_
    by_cases c_5 : a2 = 0
    · replace h := h.1 c_5
      refine lv_tableIn (tgt := 52) hx hb dX4_look_20 (by rw [c_5]; decide) (by rw [c_5]; decide) (by rw [c_5]; rfl) (by decide) ?_
      refine lv_aload_n hx hb dX4_look_52 rfl (lv_at hl 0 rfl) ?_
      refine mg_r S hK hP (k := 22) (by decide) (by decide) q1442 dX4_look_53 ?_
      refine lv_iload_n hx hb dX4_look_56 rfl (lv_at hl 1 rfl) ?_
      obtain ⟨hi, h⟩ := h
      refine ml_a S hK hP (k := 22) af_22 rfl hi dX4_look_57 ?_
      exact hret _ _ _ _ _ _ hP hS h rfl dX4_look_58
    · replace h := h.2 c_5
      by_cases c_6 : a2 = 1
      · replace h := h.1 c_6
        refine lv_tableIn (tgt := 59) hx hb dX4_look_20 (by rw [c_6]; decide) (by rw [c_6]; decide) (by rw [c_6]; rfl) (by decide) ?_
        refine lv_aload_n hx hb dX4_look_59 rfl (lv_at hl 0 rfl) ?_
        refine mg_r S hK hP (k := 23) (by decide) (by decide) q1443 dX4_look_60 ?_
        refine lv_iload_n hx hb dX4_look_63 rfl (lv_at hl 1 rfl) ?_
        obtain ⟨hi, h⟩ := h
        refine ml_a S hK hP (k := 23) af_23 rfl hi dX4_look_64 ?_
        exact hret _ _ _ _ _ _ hP hS h rfl dX4_look_65
      · replace h := h.2 c_6
        by_cases c_7 : a2 = 2
        · replace h := h.1 c_7
          refine lv_tableIn (tgt := 66) hx hb dX4_look_20 (by rw [c_7]; decide) (by rw [c_7]; decide) (by rw [c_7]; rfl) (by decide) ?_
          refine lv_aload_n hx hb dX4_look_66 rfl (lv_at hl 0 rfl) ?_
          refine mg_r S hK hP (k := 24) (by decide) (by decide) q1444 dX4_look_67 ?_
          refine lv_iload_n hx hb dX4_look_70 rfl (lv_at hl 1 rfl) ?_
          obtain ⟨hi, h⟩ := h
          refine ml_a S hK hP (k := 24) af_24 rfl hi dX4_look_71 ?_
          exact hret _ _ _ _ _ _ hP hS h rfl dX4_look_72
        · replace h := h.2 c_7
          by_cases c_8 : a2 = 3
          · replace h := h.1 c_8
            refine lv_tableIn (tgt := 73) hx hb dX4_look_20 (by rw [c_8]; decide) (by rw [c_8]; decide) (by rw [c_8]; rfl) (by decide) ?_
            refine lv_aload_n hx hb dX4_look_73 rfl (lv_at hl 0 rfl) ?_
            refine mg_r S hK hP (k := 25) (by decide) (by decide) q1445 dX4_look_74 ?_
            refine lv_iload_n hx hb dX4_look_77 rfl (lv_at hl 1 rfl) ?_
            obtain ⟨hi, h⟩ := h
            refine ml_a S hK hP (k := 25) af_25 rfl hi dX4_look_78 ?_
            exact hret _ _ _ _ _ _ hP hS h rfl dX4_look_79
          · replace h := h.2 c_8
            refine lv_tableOut (tgt := 80) hx hb dX4_look_20 (by have z0 := sw_n (n := 0) c_5 rfl; have z1 := sw_n (n := 1) c_6 rfl; have z2 := sw_n (n := 2) c_7 rfl; have z3 := sw_n (n := 3) c_8 rfl; omega) (by decide) ?_
            refine lv_aload_n hx hb dX4_look_80 rfl (lv_at hl 0 rfl) ?_
            refine lv_iconst hx hb dX4_look_81 kc_2 ?_
            refine mc_i S hK hP hS (As := [.int (2 : Int32)]) (rest := []) (mt4_fails l hA (2 : Int32) M_2 _ h) (cwV 1 S.2.2.2.2 (lw_V q1763 q1765 qs94 q145 q1766) rfl rfl rfl cdX4_fails ⟨Nat.le_of_ble_eq_true rfl, Nat.le_of_ble_eq_true rfl⟩) rfl rfl hl.1 (Nat.le_of_ble_eq_true rfl) dX4_look_82 ⟨Nat.le_refl _, Nat.le_refl _⟩ (fun r_10 M_9 H locs h hP hS => ?_)
            exact hret _ _ _ _ _ _ hP hS h rfl dX4_look_85
  · replace h := h.1 c_4
    refine lv_aload_n hx hb dX4_look_13 rfl (lv_at hl 0 rfl) ?_
    refine lv_iconst hx hb dX4_look_14 kc_1 ?_
    refine mc_i S hK hP hS (As := [.int (1 : Int32)]) (rest := []) (mt4_fails l hA (1 : Int32) M_2 _ h) (cwV 1 S.2.2.2.2 (lw_V q1763 q1765 qs94 q145 q1766) rfl rfl rfl cdX4_fails ⟨Nat.le_of_ble_eq_true rfl, Nat.le_of_ble_eq_true rfl⟩) rfl rfl hl.1 (Nat.le_of_ble_eq_true rfl) dX4_look_15 ⟨Nat.le_refl _, Nat.le_refl _⟩ (fun r_12 M_11 H locs h hP hS => ?_)
    exact hret _ _ _ _ _ _ hP hS h rfl dX4_look_18
def w4_isTeller (a1 : Int32) (M : MS) (Post : Int32 → MS → Prop) : Prop := (a1 < 0 → (Post (0 : Int32) M)) ∧ (¬ (a1 < 0) → (((mi M 12) ≤ a1 → (Post (0 : Int32) M)) ∧ (¬ ((mi M 12) ≤ a1) → (Post (1 : Int32) M))))
abbrev rX4_isTeller : Room := { frames := 0, cells := 0, slots := 0, locals := 0 }
theorem cdX4_isTeller : yX4_isTeller.cls = RX4 ∧ yX4_isTeller.cls ≠ "java/lang/invoke/MethodHandle" ∧ yX4_isTeller.cls ≠ "java/lang/invoke/VarHandle" ∧ (parseMethodDescriptor yX4_isTeller.desc).map (fun d => d.parameters.length) = some 1 := by decide +kernel
set_option maxHeartbeats 4000000 in
set_option maxRecDepth 100000 in
theorem mt4_isTeller (l : Launch) {D : va_G} {cA : Nat → ClassId} {m0 : Nat} {ad : Nat → Nat} (hA : mAd m0 ad) (a1 : Int32) (M : MS) (Post : Int32 → MS → Prop) (h : w4_isTeller a1 M Post) : Met l yX4_isTeller (ws_ yX4_isTeller cX4_isTeller 2 (some .boolean)) rX4_isTeller (mPc [.ref m0, .int a1] D cA m0 ad M) (va_Qi Post (mB D cA m0 ad) (mF m0 ad)) 0 0 (mF m0 ad) := by
  refine mst_i (own := RX4) (by decide) rfl (Nat.le_of_ble_eq_true rfl) ?_
  intro p e s m args below meth c Q ls S hK hP hS hl hret
  have hx := S.1
  have hb := S.2.1
  have hl : lv_has ls 2 [(0, .ref m0), (1, .int a1)] := hl
  unfold w4_isTeller at h
  refine lv_iload_n hx hb dX4_isTeller_0 rfl (lv_at hl 1 rfl) ?_
  refine lv_if_lt (tgt := 16) hx hb dX4_isTeller_1 (by decide) (fun c_1 => ?_) (fun c_1 => ?_)
  · replace h := h.1 c_1
    refine lv_iconst hx hb dX4_isTeller_16 kc_0 ?_
    exact hret _ _ _ _ _ _ hP hS h (vz_nar vz_0) dX4_isTeller_17
  · replace h := h.2 c_1
    refine lv_iload_n hx hb dX4_isTeller_4 rfl (lv_at hl 1 rfl) ?_
    refine lv_aload_n hx hb dX4_isTeller_5 rfl (lv_at hl 0 rfl) ?_
    refine mg_i S hK hP (k := 12) (by decide) (by decide) q1432 dX4_isTeller_6 ?_
    refine lv_icmp_ge (tgt := 16) hx hb dX4_isTeller_9 (by decide) (fun c_2 => ?_) (fun c_2 => ?_)
    · replace h := h.1 c_2
      refine lv_iconst hx hb dX4_isTeller_16 kc_0 ?_
      exact hret _ _ _ _ _ _ hP hS h (vz_nar vz_0) dX4_isTeller_17
    · replace h := h.2 c_2
      refine lv_iconst hx hb dX4_isTeller_12 kc_1 ?_
      refine lv_goto (tgt := 17) hx hb dX4_isTeller_13 (by decide) ?_
      exact hret _ _ _ _ _ _ hP hS h (vz_nar vz_1) dX4_isTeller_17
def w4_teller (a1 : Int32) (a2 : Int32) (M : MS) (Post : Int32 → MS → Prop) : Prop := ∀ M_1 : MS, M_1 = si M 2 (0 : Int32) → w4_isTeller a1 M_1 (fun r_3 M_2 => (r_3 = 0 → (Post (-1 : Int32) M_2)) ∧ (¬ (r_3 = 0) → ((a2 = 0 → ((vp_in a1 (mN 27) ∧ Post (ma M_2 27 (Int32.toNatClampNeg a1)) M_2))) ∧ (¬ a2 = 0 → (a2 = 1 → ((vp_in a1 (mN 28) ∧ Post (ma M_2 28 (Int32.toNatClampNeg a1)) M_2))) ∧ (¬ a2 = 1 → (a2 = 2 → ((vp_in a1 (mN 29) ∧ Post (ma M_2 29 (Int32.toNatClampNeg a1)) M_2))) ∧ (¬ a2 = 2 → (a2 = 3 → ((vp_in a1 (mN 30) ∧ Post (ma M_2 30 (Int32.toNatClampNeg a1)) M_2))) ∧ (¬ a2 = 3 → Post (-1 : Int32) M_2)))))))
abbrev rX4_teller : Room := { frames := 1, cells := 0, slots := 0, locals := 21 }
theorem cdX4_teller : yX4_teller.cls = RX4 ∧ yX4_teller.cls ≠ "java/lang/invoke/MethodHandle" ∧ yX4_teller.cls ≠ "java/lang/invoke/VarHandle" ∧ (parseMethodDescriptor yX4_teller.desc).map (fun d => d.parameters.length) = some 2 := by decide +kernel
set_option maxHeartbeats 4000000 in
set_option maxRecDepth 100000 in
theorem mt4_teller (l : Launch) {D : va_G} {cA : Nat → ClassId} {m0 : Nat} {ad : Nat → Nat} (hA : mAd m0 ad) (a1 : Int32) (a2 : Int32) (M : MS) (Post : Int32 → MS → Prop) (h : w4_teller a1 a2 M Post) : Met l yX4_teller (ws_ yX4_teller cX4_teller 3 (some .int)) rX4_teller (mPc [.ref m0, .int a1, .int a2] D cA m0 ad M) (va_Qi Post (mB D cA m0 ad) (mF m0 ad)) 0 0 (mF m0 ad) := by
  refine mst_i (own := RX4) (by decide) rfl (Nat.le_of_ble_eq_true rfl) ?_
  intro p e s m args below meth c Q ls S hK hP hS hl hret
  have hx := S.1
  have hb := S.2.1
  have hl : lv_has ls 3 [(0, .ref m0), (1, .int a1), (2, .int a2)] := hl
  unfold w4_teller at h
  refine lv_aload_n hx hb dX4_teller_0 rfl (lv_at hl 0 rfl) ?_
  refine lv_iconst hx hb dX4_teller_1 kc_0 ?_
  refine mp_i S hK hA hP hS (k := 2) (by decide) (Or.inl rfl) rfl (Or.inl ⟨rfl, rfl⟩) q1422 dX4_teller_2 (fun M_1 H locs e_M_1 hP hS => ?_)
  replace h := h M_1 e_M_1
  refine lv_aload_n hx hb dX4_teller_5 rfl (lv_at hl 0 rfl) ?_
  refine lv_iload_n hx hb dX4_teller_6 rfl (lv_at hl 1 rfl) ?_
  refine mc_i S hK hP hS (As := [.int a1]) (rest := []) (mt4_isTeller l hA a1 M_1 _ h) (cwV 1 S.2.2.2.2 (lw_V q1771 q1773 qs95 q145 q1774) rfl rfl rfl cdX4_isTeller ⟨Nat.le_of_ble_eq_true rfl, Nat.le_of_ble_eq_true rfl⟩) rfl rfl hl.1 (Nat.le_of_ble_eq_true rfl) dX4_teller_7 ⟨Nat.le_refl _, Nat.le_refl _⟩ (fun r_3 M_2 H locs h hP hS => ?_)
  refine lv_if_ne (tgt := 15) hx hb dX4_teller_10 (by decide) (fun c_4 => ?_) (fun c_4 => ?_)
  · replace h := h.2 c_4
    refine lv_iload_n hx hb dX4_teller_15 rfl (lv_at hl 2 rfl) ?_
    by_cases c_5 : a2 = 0
    · replace h := h.1 c_5
      refine lv_tableIn (tgt := 48) hx hb dX4_teller_16 (by rw [c_5]; decide) (by rw [c_5]; decide) (by rw [c_5]; rfl) (by decide) ?_
      refine lv_aload_n hx hb dX4_teller_48 rfl (lv_at hl 0 rfl) ?_
      refine mg_r S hK hP (k := 27) (by decide) (by decide) q1447 dX4_teller_49 ?_
      refine lv_iload_n hx hb dX4_teller_52 rfl (lv_at hl 1 rfl) ?_
      obtain ⟨hi, h⟩ := h
      refine ml_a S hK hP (k := 27) af_27 rfl hi dX4_teller_53 ?_
      exact hret _ _ _ _ _ _ hP hS h rfl dX4_teller_54
    · replace h := h.2 c_5
      by_cases c_6 : a2 = 1
      · replace h := h.1 c_6
        refine lv_tableIn (tgt := 55) hx hb dX4_teller_16 (by rw [c_6]; decide) (by rw [c_6]; decide) (by rw [c_6]; rfl) (by decide) ?_
        refine lv_aload_n hx hb dX4_teller_55 rfl (lv_at hl 0 rfl) ?_
        refine mg_r S hK hP (k := 28) (by decide) (by decide) q1448 dX4_teller_56 ?_
        refine lv_iload_n hx hb dX4_teller_59 rfl (lv_at hl 1 rfl) ?_
        obtain ⟨hi, h⟩ := h
        refine ml_a S hK hP (k := 28) af_28 rfl hi dX4_teller_60 ?_
        exact hret _ _ _ _ _ _ hP hS h rfl dX4_teller_61
      · replace h := h.2 c_6
        by_cases c_7 : a2 = 2
        · replace h := h.1 c_7
          refine lv_tableIn (tgt := 62) hx hb dX4_teller_16 (by rw [c_7]; decide) (by rw [c_7]; decide) (by rw [c_7]; rfl) (by decide) ?_
          refine lv_aload_n hx hb dX4_teller_62 rfl (lv_at hl 0 rfl) ?_
          refine mg_r S hK hP (k := 29) (by decide) (by decide) q1449 dX4_teller_63 ?_
          refine lv_iload_n hx hb dX4_teller_66 rfl (lv_at hl 1 rfl) ?_
          obtain ⟨hi, h⟩ := h
          refine ml_a S hK hP (k := 29) af_29 rfl hi dX4_teller_67 ?_
          exact hret _ _ _ _ _ _ hP hS h rfl dX4_teller_68
        · replace h := h.2 c_7
          by_cases c_8 : a2 = 3
          · replace h := h.1 c_8
            refine lv_tableIn (tgt := 69) hx hb dX4_teller_16 (by rw [c_8]; decide) (by rw [c_8]; decide) (by rw [c_8]; rfl) (by decide) ?_
            refine lv_aload_n hx hb dX4_teller_69 rfl (lv_at hl 0 rfl) ?_
            refine mg_r S hK hP (k := 30) (by decide) (by decide) q1450 dX4_teller_70 ?_
            refine lv_iload_n hx hb dX4_teller_73 rfl (lv_at hl 1 rfl) ?_
            obtain ⟨hi, h⟩ := h
            refine ml_a S hK hP (k := 30) af_30 rfl hi dX4_teller_74 ?_
            exact hret _ _ _ _ _ _ hP hS h rfl dX4_teller_75
          · replace h := h.2 c_8
            refine lv_tableOut (tgt := 76) hx hb dX4_teller_16 (by have z0 := sw_n (n := 0) c_5 rfl; have z1 := sw_n (n := 1) c_6 rfl; have z2 := sw_n (n := 2) c_7 rfl; have z3 := sw_n (n := 3) c_8 rfl; omega) (by decide) ?_
            refine lv_iconst hx hb dX4_teller_76 kc_m1 ?_
            exact hret _ _ _ _ _ _ hP hS h rfl dX4_teller_77
  · replace h := h.1 c_4
    refine lv_iconst hx hb dX4_teller_13 kc_m1 ?_
    exact hret _ _ _ _ _ _ hP hS h rfl dX4_teller_14
def w4_isHeard (a1 : Int32) (M : MS) (Post : Int32 → MS → Prop) : Prop := (a1 < 0 → (Post (0 : Int32) M)) ∧ (¬ (a1 < 0) → (((mi M 13) ≤ a1 → (Post (0 : Int32) M)) ∧ (¬ ((mi M 13) ≤ a1) → ((vp_in a1 (mN 33) ∧ ((mi M 45) < (ma M 33 (Int32.toNatClampNeg a1)) → (Post (0 : Int32) M)) ∧ (¬ ((mi M 45) < (ma M 33 (Int32.toNatClampNeg a1))) → (Post (1 : Int32) M)))))))
abbrev rX4_isHeard : Room := { frames := 0, cells := 0, slots := 0, locals := 0 }
theorem cdX4_isHeard : yX4_isHeard.cls = RX4 ∧ yX4_isHeard.cls ≠ "java/lang/invoke/MethodHandle" ∧ yX4_isHeard.cls ≠ "java/lang/invoke/VarHandle" ∧ (parseMethodDescriptor yX4_isHeard.desc).map (fun d => d.parameters.length) = some 1 := by decide +kernel
set_option maxHeartbeats 4000000 in
set_option maxRecDepth 100000 in
theorem mt4_isHeard (l : Launch) {D : va_G} {cA : Nat → ClassId} {m0 : Nat} {ad : Nat → Nat} (hA : mAd m0 ad) (a1 : Int32) (M : MS) (Post : Int32 → MS → Prop) (h : w4_isHeard a1 M Post) : Met l yX4_isHeard (ws_ yX4_isHeard cX4_isHeard 2 (some .boolean)) rX4_isHeard (mPc [.ref m0, .int a1] D cA m0 ad M) (va_Qi Post (mB D cA m0 ad) (mF m0 ad)) 0 0 (mF m0 ad) := by
  refine mst_i (own := RX4) (by decide) rfl (Nat.le_of_ble_eq_true rfl) ?_
  intro p e s m args below meth c Q ls S hK hP hS hl hret
  have hx := S.1
  have hb := S.2.1
  have hl : lv_has ls 2 [(0, .ref m0), (1, .int a1)] := hl
  unfold w4_isHeard at h
  refine lv_iload_n hx hb dX4_isHeard_0 rfl (lv_at hl 1 rfl) ?_
  refine lv_if_lt (tgt := 29) hx hb dX4_isHeard_1 (by decide) (fun c_1 => ?_) (fun c_1 => ?_)
  · replace h := h.1 c_1
    refine lv_iconst hx hb dX4_isHeard_29 kc_0 ?_
    exact hret _ _ _ _ _ _ hP hS h (vz_nar vz_0) dX4_isHeard_30
  · replace h := h.2 c_1
    refine lv_iload_n hx hb dX4_isHeard_4 rfl (lv_at hl 1 rfl) ?_
    refine lv_aload_n hx hb dX4_isHeard_5 rfl (lv_at hl 0 rfl) ?_
    refine mg_i S hK hP (k := 13) (by decide) (by decide) q1433 dX4_isHeard_6 ?_
    refine lv_icmp_ge (tgt := 29) hx hb dX4_isHeard_9 (by decide) (fun c_2 => ?_) (fun c_2 => ?_)
    · replace h := h.1 c_2
      refine lv_iconst hx hb dX4_isHeard_29 kc_0 ?_
      exact hret _ _ _ _ _ _ hP hS h (vz_nar vz_0) dX4_isHeard_30
    · replace h := h.2 c_2
      refine lv_aload_n hx hb dX4_isHeard_12 rfl (lv_at hl 0 rfl) ?_
      refine mg_r S hK hP (k := 33) (by decide) (by decide) q1453 dX4_isHeard_13 ?_
      refine lv_iload_n hx hb dX4_isHeard_16 rfl (lv_at hl 1 rfl) ?_
      obtain ⟨hi, h⟩ := h
      refine ml_a S hK hP (k := 33) af_33 rfl hi dX4_isHeard_17 ?_
      refine lv_aload_n hx hb dX4_isHeard_18 rfl (lv_at hl 0 rfl) ?_
      refine mg_i S hK hP (k := 45) (by decide) (by decide) q1465 dX4_isHeard_19 ?_
      refine lv_icmp_gt (tgt := 29) hx hb dX4_isHeard_22 (by decide) (fun c_3 => ?_) (fun c_3 => ?_)
      · replace h := h.1 c_3
        refine lv_iconst hx hb dX4_isHeard_29 kc_0 ?_
        exact hret _ _ _ _ _ _ hP hS h (vz_nar vz_0) dX4_isHeard_30
      · replace h := h.2 c_3
        refine lv_iconst hx hb dX4_isHeard_25 kc_1 ?_
        refine lv_goto (tgt := 30) hx hb dX4_isHeard_26 (by decide) ?_
        exact hret _ _ _ _ _ _ hP hS h (vz_nar vz_1) dX4_isHeard_30
def w4_line (a1 : Int32) (a2 : Int32) (M : MS) (Post : Int32 → MS → Prop) : Prop := ∀ M_1 : MS, M_1 = si M 2 (0 : Int32) → w4_isHeard a1 M_1 (fun r_3 M_2 => (r_3 = 0 → (Post (-2 : Int32) M_2)) ∧ (¬ (r_3 = 0) → ((a2 = 0 → ((vp_in a1 (mN 31) ∧ ((ma M_2 31 (Int32.toNatClampNeg a1)) = 0 → (Post (0 : Int32) M_2)) ∧ (¬ ((ma M_2 31 (Int32.toNatClampNeg a1)) = 0) → (Post (1 : Int32) M_2))))) ∧ (¬ a2 = 0 → (a2 = 1 → ((vp_in a1 (mN 32) ∧ Post (ma M_2 32 (Int32.toNatClampNeg a1)) M_2))) ∧ (¬ a2 = 1 → (a2 = 2 → ((vp_in a1 (mN 33) ∧ Post (ma M_2 33 (Int32.toNatClampNeg a1)) M_2))) ∧ (¬ a2 = 2 → (a2 = 3 → ((vp_in a1 (mN 34) ∧ Post (ma M_2 34 (Int32.toNatClampNeg a1)) M_2))) ∧ (¬ a2 = 3 → (a2 = 4 → ((vp_in a1 (mN 35) ∧ Post (ma M_2 35 (Int32.toNatClampNeg a1)) M_2))) ∧ (¬ a2 = 4 → Post (-2 : Int32) M_2))))))))
abbrev rX4_line : Room := { frames := 1, cells := 0, slots := 0, locals := 21 }
theorem cdX4_line : yX4_line.cls = RX4 ∧ yX4_line.cls ≠ "java/lang/invoke/MethodHandle" ∧ yX4_line.cls ≠ "java/lang/invoke/VarHandle" ∧ (parseMethodDescriptor yX4_line.desc).map (fun d => d.parameters.length) = some 2 := by decide +kernel
set_option maxHeartbeats 4000000 in
set_option maxRecDepth 100000 in
theorem mt4_line (l : Launch) {D : va_G} {cA : Nat → ClassId} {m0 : Nat} {ad : Nat → Nat} (hA : mAd m0 ad) (a1 : Int32) (a2 : Int32) (M : MS) (Post : Int32 → MS → Prop) (h : w4_line a1 a2 M Post) : Met l yX4_line (ws_ yX4_line cX4_line 3 (some .int)) rX4_line (mPc [.ref m0, .int a1, .int a2] D cA m0 ad M) (va_Qi Post (mB D cA m0 ad) (mF m0 ad)) 0 0 (mF m0 ad) := by
  refine mst_i (own := RX4) (by decide) rfl (Nat.le_of_ble_eq_true rfl) ?_
  intro p e s m args below meth c Q ls S hK hP hS hl hret
  have hx := S.1
  have hb := S.2.1
  have hl : lv_has ls 3 [(0, .ref m0), (1, .int a1), (2, .int a2)] := hl
  unfold w4_line at h
  refine lv_aload_n hx hb dX4_line_0 rfl (lv_at hl 0 rfl) ?_
  refine lv_iconst hx hb dX4_line_1 kc_0 ?_
  refine mp_i S hK hA hP hS (k := 2) (by decide) (Or.inl rfl) rfl (Or.inl ⟨rfl, rfl⟩) q1422 dX4_line_2 (fun M_1 H locs e_M_1 hP hS => ?_)
  replace h := h M_1 e_M_1
  refine lv_aload_n hx hb dX4_line_5 rfl (lv_at hl 0 rfl) ?_
  refine lv_iload_n hx hb dX4_line_6 rfl (lv_at hl 1 rfl) ?_
  refine mc_i S hK hP hS (As := [.int a1]) (rest := []) (mt4_isHeard l hA a1 M_1 _ h) (cwV 1 S.2.2.2.2 (lw_V q1779 q1781 qs96 q145 q1782) rfl rfl rfl cdX4_isHeard ⟨Nat.le_of_ble_eq_true rfl, Nat.le_of_ble_eq_true rfl⟩) rfl rfl hl.1 (Nat.le_of_ble_eq_true rfl) dX4_line_7 ⟨Nat.le_refl _, Nat.le_refl _⟩ (fun r_3 M_2 H locs h hP hS => ?_)
  refine lv_if_ne (tgt := 16) hx hb dX4_line_10 (by decide) (fun c_4 => ?_) (fun c_4 => ?_)
  · replace h := h.2 c_4
    refine lv_iload_n hx hb dX4_line_16 rfl (lv_at hl 2 rfl) ?_
    by_cases c_5 : a2 = 0
    · replace h := h.1 c_5
      refine lv_tableIn (tgt := 52) hx hb dX4_line_17 (by rw [c_5]; decide) (by rw [c_5]; decide) (by rw [c_5]; rfl) (by decide) ?_
      refine lv_aload_n hx hb dX4_line_52 rfl (lv_at hl 0 rfl) ?_
      refine mg_r S hK hP (k := 31) (by decide) (by decide) q1451 dX4_line_53 ?_
      refine lv_iload_n hx hb dX4_line_56 rfl (lv_at hl 1 rfl) ?_
      obtain ⟨hi, h⟩ := h
      refine ml_z S hK hP (k := 31) af_31 rfl hi dX4_line_57 ?_
      refine lv_if_eq (tgt := 65) hx hb dX4_line_58 (by decide) (fun c_6 => ?_) (fun c_6 => ?_)
      · replace h := h.1 c_6
        refine lv_iconst hx hb dX4_line_65 kc_0 ?_
        exact hret _ _ _ _ _ _ hP hS h rfl dX4_line_66
      · replace h := h.2 c_6
        refine lv_iconst hx hb dX4_line_61 kc_1 ?_
        refine lv_goto (tgt := 66) hx hb dX4_line_62 (by decide) ?_
        exact hret _ _ _ _ _ _ hP hS h rfl dX4_line_66
    · replace h := h.2 c_5
      by_cases c_7 : a2 = 1
      · replace h := h.1 c_7
        refine lv_tableIn (tgt := 67) hx hb dX4_line_17 (by rw [c_7]; decide) (by rw [c_7]; decide) (by rw [c_7]; rfl) (by decide) ?_
        refine lv_aload_n hx hb dX4_line_67 rfl (lv_at hl 0 rfl) ?_
        refine mg_r S hK hP (k := 32) (by decide) (by decide) q1452 dX4_line_68 ?_
        refine lv_iload_n hx hb dX4_line_71 rfl (lv_at hl 1 rfl) ?_
        obtain ⟨hi, h⟩ := h
        refine ml_a S hK hP (k := 32) af_32 rfl hi dX4_line_72 ?_
        exact hret _ _ _ _ _ _ hP hS h rfl dX4_line_73
      · replace h := h.2 c_7
        by_cases c_8 : a2 = 2
        · replace h := h.1 c_8
          refine lv_tableIn (tgt := 74) hx hb dX4_line_17 (by rw [c_8]; decide) (by rw [c_8]; decide) (by rw [c_8]; rfl) (by decide) ?_
          refine lv_aload_n hx hb dX4_line_74 rfl (lv_at hl 0 rfl) ?_
          refine mg_r S hK hP (k := 33) (by decide) (by decide) q1453 dX4_line_75 ?_
          refine lv_iload_n hx hb dX4_line_78 rfl (lv_at hl 1 rfl) ?_
          obtain ⟨hi, h⟩ := h
          refine ml_a S hK hP (k := 33) af_33 rfl hi dX4_line_79 ?_
          exact hret _ _ _ _ _ _ hP hS h rfl dX4_line_80
        · replace h := h.2 c_8
          by_cases c_9 : a2 = 3
          · replace h := h.1 c_9
            refine lv_tableIn (tgt := 81) hx hb dX4_line_17 (by rw [c_9]; decide) (by rw [c_9]; decide) (by rw [c_9]; rfl) (by decide) ?_
            refine lv_aload_n hx hb dX4_line_81 rfl (lv_at hl 0 rfl) ?_
            refine mg_r S hK hP (k := 34) (by decide) (by decide) q1454 dX4_line_82 ?_
            refine lv_iload_n hx hb dX4_line_85 rfl (lv_at hl 1 rfl) ?_
            obtain ⟨hi, h⟩ := h
            refine ml_a S hK hP (k := 34) af_34 rfl hi dX4_line_86 ?_
            exact hret _ _ _ _ _ _ hP hS h rfl dX4_line_87
          · replace h := h.2 c_9
            by_cases c_10 : a2 = 4
            · replace h := h.1 c_10
              refine lv_tableIn (tgt := 88) hx hb dX4_line_17 (by rw [c_10]; decide) (by rw [c_10]; decide) (by rw [c_10]; rfl) (by decide) ?_
              refine lv_aload_n hx hb dX4_line_88 rfl (lv_at hl 0 rfl) ?_
              refine mg_r S hK hP (k := 35) (by decide) (by decide) q1455 dX4_line_89 ?_
              refine lv_iload_n hx hb dX4_line_92 rfl (lv_at hl 1 rfl) ?_
              obtain ⟨hi, h⟩ := h
              refine ml_a S hK hP (k := 35) af_35 rfl hi dX4_line_93 ?_
              exact hret _ _ _ _ _ _ hP hS h rfl dX4_line_94
            · replace h := h.2 c_10
              refine lv_tableOut (tgt := 95) hx hb dX4_line_17 (by have z0 := sw_n (n := 0) c_5 rfl; have z1 := sw_n (n := 1) c_7 rfl; have z2 := sw_n (n := 2) c_8 rfl; have z3 := sw_n (n := 3) c_9 rfl; have z4 := sw_n (n := 4) c_10 rfl; omega) (by decide) ?_
              refine lv_bipush hx hb dX4_line_95 kb_m2 ?_
              exact hret _ _ _ _ _ _ hP hS h rfl dX4_line_97
  · replace h := h.1 c_4
    refine lv_bipush hx hb dX4_line_13 kb_m2 ?_
    exact hret _ _ _ _ _ _ hP hS h rfl dX4_line_15
def w4_say_c90 (a1 : Int32) (a2 : Int32) (a3 : Int32) (a4 : Int32) (a5 : Int32) (Post : Int32 → MS → Prop) (t0 : Int32) (t1 : Int32) (M : MS) : Prop := (t0 ≤ t1 → ((vp_in (mi M 13) (mN 31) ∧ ∀ M_17 : MS, M_17 = sa M 31 (Int32.toNatClampNeg (mi M 13)) (vp_nar .boolean a1) → (vp_in (mi M_17 13) (mN 32) ∧ ∀ M_18 : MS, M_18 = sa M_17 32 (Int32.toNatClampNeg (mi M_17 13)) a2 → (vp_in (mi M_18 13) (mN 33) ∧ ∀ M_19 : MS, M_19 = sa M_18 33 (Int32.toNatClampNeg (mi M_18 13)) a3 → (vp_in (mi M_19 13) (mN 34) ∧ ∀ M_20 : MS, M_20 = sa M_19 34 (Int32.toNatClampNeg (mi M_19 13)) a4 → (vp_in (mi M_20 13) (mN 35) ∧ ∀ M_21 : MS, M_21 = sa M_20 35 (Int32.toNatClampNeg (mi M_20 13)) a5 → ∀ M_22 : MS, M_22 = si M_21 13 ((mi M_21 13) + (1 : Int32)) → ∀ M_23 : MS, M_23 = si M_22 44 ((mi M_22 44) + (1 : Int32)) → Post ((mi M_23 13) - (1 : Int32)) M_23))))))) ∧ (¬ (t0 ≤ t1) → (Post (-1 : Int32) M))
def w4_say (a1 : Int32) (a2 : Int32) (a3 : Int32) (a4 : Int32) (a5 : Int32) (M : MS) (Post : Int32 → MS → Prop) : Prop := ∀ M_1 : MS, M_1 = si M 2 (0 : Int32) → ((mi M_1 13) = (60 : Int32) → (Post (-1 : Int32) M_1)) ∧ (¬ ((mi M_1 13) = (60 : Int32)) → (w4_isTeller a2 M_1 (fun r_4 M_3 => (r_4 = 0 → (Post (-1 : Int32) M_3)) ∧ (¬ (r_4 = 0) → (w4_isThing a4 M_3 (fun r_7 M_6 => (r_7 = 0 → (Post (-1 : Int32) M_6)) ∧ (¬ (r_7 = 0) → ((vp_in a2 (mN 28) ∧ (a3 < (ma M_6 28 (Int32.toNatClampNeg a2)) → (Post (-1 : Int32) M_6)) ∧ (¬ (a3 < (ma M_6 28 (Int32.toNatClampNeg a2))) → ((vp_in a2 (mN 29) ∧ ((ma M_6 29 (Int32.toNatClampNeg a2)) < a3 → (Post (-1 : Int32) M_6)) ∧ (¬ ((ma M_6 29 (Int32.toNatClampNeg a2)) < a3) → (w4_latestHour (0 : Int32) (mi M_6 13) a2 M_6 (fun r_12 M_11 => (r_12 ≤ a3 → ((vp_in a4 (mN 22) ∧ ((ma M_11 22 (Int32.toNatClampNeg a4)) ≤ a5 → (Post (-1 : Int32) M_11)) ∧ (¬ ((ma M_11 22 (Int32.toNatClampNeg a4)) ≤ a5) → ((a1 = 0 → (w4_say_c90 a1 a2 a3 a4 a5 Post (-1 : Int32) a5 M_11)) ∧ (¬ (a1 = 0) → (w4_say_c90 a1 a2 a3 a4 a5 Post (0 : Int32) a5 M_11))))))) ∧ (¬ (r_12 ≤ a3) → (Post (-1 : Int32) M_11)))))))))))))))))
abbrev rX4_say : Room := { frames := 1, cells := 0, slots := 0, locals := 25 }
theorem cdX4_say : yX4_say.cls = RX4 ∧ yX4_say.cls ≠ "java/lang/invoke/MethodHandle" ∧ yX4_say.cls ≠ "java/lang/invoke/VarHandle" ∧ (parseMethodDescriptor yX4_say.desc).map (fun d => d.parameters.length) = some 5 := by decide +kernel
set_option maxHeartbeats 4000000 in
set_option maxRecDepth 100000 in
theorem mt4_say (l : Launch) {D : va_G} {cA : Nat → ClassId} {m0 : Nat} {ad : Nat → Nat} (hA : mAd m0 ad) (a1 : Int32) (a2 : Int32) (a3 : Int32) (a4 : Int32) (a5 : Int32) (M : MS) (Post : Int32 → MS → Prop) (h : w4_say a1 a2 a3 a4 a5 M Post) : Met l yX4_say (ws_ yX4_say cX4_say 6 (some .int)) rX4_say (mPc [.ref m0, .int a1, .int a2, .int a3, .int a4, .int a5] D cA m0 ad M) (va_Qi Post (mB D cA m0 ad) (mF m0 ad)) 0 0 (mF m0 ad) := by
  refine mst_i (own := RX4) (by decide) rfl (Nat.le_of_ble_eq_true rfl) ?_
  intro p e s m args below meth c Q ls S hK hP hS hl hret
  have hx := S.1
  have hb := S.2.1
  have hl : lv_has ls 6 [(0, .ref m0), (1, .int a1), (2, .int a2), (3, .int a3), (4, .int a4), (5, .int a5)] := hl
  have C90 : ∀ (t0 : Int32) (t1 : Int32) (M : MS) (H : Heap) (locs : List Loc) (ls : Array Slot), va_P D vwCl (mo cA m0 ad M) H → va_S (mF m0 ad) s.heap H locs → lv_has ls 6 [(0, .ref m0), (1, .int a1), (2, .int a2), (3, .int a3), (4, .int a4), (5, .int a5)] → w4_say_c90 a1 a2 a3 a4 a5 Post t0 t1 M → W p l e rX4_say s m args below meth c H locs 0 0 Q (F0 m 90 ls [.int t0, .int t1]) := by
    intro t0 t1 M H locs ls hP hS hl h
    unfold w4_say_c90 at h
    refine lv_icmp_ge (tgt := 95) hx hb dX4_say_90 (by decide) (fun c_16 => ?_) (fun c_16 => ?_)
    · replace h := h.1 c_16
      refine lv_aload_n hx hb dX4_say_95 rfl (lv_at hl 0 rfl) ?_
      refine mg_r S hK hP (k := 31) (by decide) (by decide) q1451 dX4_say_96 ?_
      refine lv_aload_n hx hb dX4_say_99 rfl (lv_at hl 0 rfl) ?_
      refine mg_i S hK hP (k := 13) (by decide) (by decide) q1433 dX4_say_100 ?_
      refine lv_iload_n hx hb dX4_say_103 rfl (lv_at hl 1 rfl) ?_
      obtain ⟨hi, h⟩ := h
      refine ms_z S hK hA hP hS (k := 31) af_31 rfl hi dX4_say_104 (fun M_17 H locs e_M_17 hP hS => ?_)
      replace h := h M_17 e_M_17
      refine lv_aload_n hx hb dX4_say_105 rfl (lv_at hl 0 rfl) ?_
      refine mg_r S hK hP (k := 32) (by decide) (by decide) q1452 dX4_say_106 ?_
      refine lv_aload_n hx hb dX4_say_109 rfl (lv_at hl 0 rfl) ?_
      refine mg_i S hK hP (k := 13) (by decide) (by decide) q1433 dX4_say_110 ?_
      refine lv_iload_n hx hb dX4_say_113 rfl (lv_at hl 2 rfl) ?_
      obtain ⟨hi, h⟩ := h
      refine ms_a S hK hA hP hS (k := 32) af_32 rfl hi dX4_say_114 (fun M_18 H locs e_M_18 hP hS => ?_)
      replace h := h M_18 e_M_18
      refine lv_aload_n hx hb dX4_say_115 rfl (lv_at hl 0 rfl) ?_
      refine mg_r S hK hP (k := 33) (by decide) (by decide) q1453 dX4_say_116 ?_
      refine lv_aload_n hx hb dX4_say_119 rfl (lv_at hl 0 rfl) ?_
      refine mg_i S hK hP (k := 13) (by decide) (by decide) q1433 dX4_say_120 ?_
      refine lv_iload_n hx hb dX4_say_123 rfl (lv_at hl 3 rfl) ?_
      obtain ⟨hi, h⟩ := h
      refine ms_a S hK hA hP hS (k := 33) af_33 rfl hi dX4_say_124 (fun M_19 H locs e_M_19 hP hS => ?_)
      replace h := h M_19 e_M_19
      refine lv_aload_n hx hb dX4_say_125 rfl (lv_at hl 0 rfl) ?_
      refine mg_r S hK hP (k := 34) (by decide) (by decide) q1454 dX4_say_126 ?_
      refine lv_aload_n hx hb dX4_say_129 rfl (lv_at hl 0 rfl) ?_
      refine mg_i S hK hP (k := 13) (by decide) (by decide) q1433 dX4_say_130 ?_
      refine lv_iload hx hb dX4_say_133 (lv_at hl 4 rfl) ?_
      obtain ⟨hi, h⟩ := h
      refine ms_a S hK hA hP hS (k := 34) af_34 rfl hi dX4_say_135 (fun M_20 H locs e_M_20 hP hS => ?_)
      replace h := h M_20 e_M_20
      refine lv_aload_n hx hb dX4_say_136 rfl (lv_at hl 0 rfl) ?_
      refine mg_r S hK hP (k := 35) (by decide) (by decide) q1455 dX4_say_137 ?_
      refine lv_aload_n hx hb dX4_say_140 rfl (lv_at hl 0 rfl) ?_
      refine mg_i S hK hP (k := 13) (by decide) (by decide) q1433 dX4_say_141 ?_
      refine lv_iload hx hb dX4_say_144 (lv_at hl 5 rfl) ?_
      obtain ⟨hi, h⟩ := h
      refine ms_a S hK hA hP hS (k := 35) af_35 rfl hi dX4_say_146 (fun M_21 H locs e_M_21 hP hS => ?_)
      replace h := h M_21 e_M_21
      refine lv_aload_n hx hb dX4_say_147 rfl (lv_at hl 0 rfl) ?_
      refine lv_dup hx hb dX4_say_148 rfl ?_
      refine mg_i S hK hP (k := 13) (by decide) (by decide) q1433 dX4_say_149 ?_
      refine lv_iconst hx hb dX4_say_152 kc_1 ?_
      refine lv_iadd hx hb dX4_say_153 ?_
      refine mp_i S hK hA hP hS (k := 13) (by decide) (Or.inl rfl) rfl (Or.inl ⟨rfl, rfl⟩) q1433 dX4_say_154 (fun M_22 H locs e_M_22 hP hS => ?_)
      replace h := h M_22 e_M_22
      refine lv_aload_n hx hb dX4_say_157 rfl (lv_at hl 0 rfl) ?_
      refine lv_dup hx hb dX4_say_158 rfl ?_
      refine mg_i S hK hP (k := 44) (by decide) (by decide) q1464 dX4_say_159 ?_
      refine lv_iconst hx hb dX4_say_162 kc_1 ?_
      refine lv_iadd hx hb dX4_say_163 ?_
      refine mp_i S hK hA hP hS (k := 44) (by decide) (Or.inl rfl) rfl (Or.inl ⟨rfl, rfl⟩) q1464 dX4_say_164 (fun M_23 H locs e_M_23 hP hS => ?_)
      replace h := h M_23 e_M_23
      refine lv_aload_n hx hb dX4_say_167 rfl (lv_at hl 0 rfl) ?_
      refine mg_i S hK hP (k := 13) (by decide) (by decide) q1433 dX4_say_168 ?_
      refine lv_iconst hx hb dX4_say_171 kc_1 ?_
      refine lv_isub hx hb dX4_say_172 ?_
      exact hret _ _ _ _ _ _ hP hS h rfl dX4_say_173
    · replace h := h.2 c_16
      refine lv_iconst hx hb dX4_say_93 kc_m1 ?_
      exact hret _ _ _ _ _ _ hP hS h rfl dX4_say_94
  unfold w4_say at h
  refine lv_aload_n hx hb dX4_say_0 rfl (lv_at hl 0 rfl) ?_
  refine lv_iconst hx hb dX4_say_1 kc_0 ?_
  refine mp_i S hK hA hP hS (k := 2) (by decide) (Or.inl rfl) rfl (Or.inl ⟨rfl, rfl⟩) q1422 dX4_say_2 (fun M_1 H locs e_M_1 hP hS => ?_)
  replace h := h M_1 e_M_1
  refine lv_aload_n hx hb dX4_say_5 rfl (lv_at hl 0 rfl) ?_
  refine mg_i S hK hP (k := 13) (by decide) (by decide) q1433 dX4_say_6 ?_
  refine lv_bipush hx hb dX4_say_9 kb_60 ?_
  refine lv_icmp_eq (tgt := 65) hx hb dX4_say_11 (by decide) (fun c_2 => ?_) (fun c_2 => ?_)
  · replace h := h.1 c_2
    refine lv_iconst hx hb dX4_say_65 kc_m1 ?_
    exact hret _ _ _ _ _ _ hP hS h rfl dX4_say_66
  · replace h := h.2 c_2
    refine lv_aload_n hx hb dX4_say_14 rfl (lv_at hl 0 rfl) ?_
    refine lv_iload_n hx hb dX4_say_15 rfl (lv_at hl 2 rfl) ?_
    refine mc_i S hK hP hS (As := [.int a2]) (rest := []) (mt4_isTeller l hA a2 M_1 _ h) (cwV 1 S.2.2.2.2 (lw_V q1771 q1773 qs95 q145 q1774) rfl rfl rfl cdX4_isTeller ⟨Nat.le_of_ble_eq_true rfl, Nat.le_of_ble_eq_true rfl⟩) rfl rfl hl.1 (Nat.le_of_ble_eq_true rfl) dX4_say_16 ⟨Nat.le_refl _, Nat.le_refl _⟩ (fun r_4 M_3 H locs h hP hS => ?_)
    refine lv_if_eq (tgt := 65) hx hb dX4_say_19 (by decide) (fun c_5 => ?_) (fun c_5 => ?_)
    · replace h := h.1 c_5
      refine lv_iconst hx hb dX4_say_65 kc_m1 ?_
      exact hret _ _ _ _ _ _ hP hS h rfl dX4_say_66
    · replace h := h.2 c_5
      refine lv_aload_n hx hb dX4_say_22 rfl (lv_at hl 0 rfl) ?_
      refine lv_iload hx hb dX4_say_23 (lv_at hl 4 rfl) ?_
      refine mc_i S hK hP hS (As := [.int a4]) (rest := []) (mt4_isThing l hA a4 M_3 _ h) (cwV 1 S.2.2.2.2 (lw_V q1759 q1761 qs93 q145 q1762) rfl rfl rfl cdX4_isThing ⟨Nat.le_of_ble_eq_true rfl, Nat.le_of_ble_eq_true rfl⟩) rfl rfl hl.1 (Nat.le_of_ble_eq_true rfl) dX4_say_25 ⟨Nat.le_refl _, Nat.le_refl _⟩ (fun r_7 M_6 H locs h hP hS => ?_)
      refine lv_if_eq (tgt := 65) hx hb dX4_say_28 (by decide) (fun c_8 => ?_) (fun c_8 => ?_)
      · replace h := h.1 c_8
        refine lv_iconst hx hb dX4_say_65 kc_m1 ?_
        exact hret _ _ _ _ _ _ hP hS h rfl dX4_say_66
      · replace h := h.2 c_8
        refine lv_iload_n hx hb dX4_say_31 rfl (lv_at hl 3 rfl) ?_
        refine lv_aload_n hx hb dX4_say_32 rfl (lv_at hl 0 rfl) ?_
        refine mg_r S hK hP (k := 28) (by decide) (by decide) q1448 dX4_say_33 ?_
        refine lv_iload_n hx hb dX4_say_36 rfl (lv_at hl 2 rfl) ?_
        obtain ⟨hi, h⟩ := h
        refine ml_a S hK hP (k := 28) af_28 rfl hi dX4_say_37 ?_
        refine lv_icmp_lt (tgt := 65) hx hb dX4_say_38 (by decide) (fun c_9 => ?_) (fun c_9 => ?_)
        · replace h := h.1 c_9
          refine lv_iconst hx hb dX4_say_65 kc_m1 ?_
          exact hret _ _ _ _ _ _ hP hS h rfl dX4_say_66
        · replace h := h.2 c_9
          refine lv_iload_n hx hb dX4_say_41 rfl (lv_at hl 3 rfl) ?_
          refine lv_aload_n hx hb dX4_say_42 rfl (lv_at hl 0 rfl) ?_
          refine mg_r S hK hP (k := 29) (by decide) (by decide) q1449 dX4_say_43 ?_
          refine lv_iload_n hx hb dX4_say_46 rfl (lv_at hl 2 rfl) ?_
          obtain ⟨hi, h⟩ := h
          refine ml_a S hK hP (k := 29) af_29 rfl hi dX4_say_47 ?_
          refine lv_icmp_gt (tgt := 65) hx hb dX4_say_48 (by decide) (fun c_10 => ?_) (fun c_10 => ?_)
          · replace h := h.1 c_10
            refine lv_iconst hx hb dX4_say_65 kc_m1 ?_
            exact hret _ _ _ _ _ _ hP hS h rfl dX4_say_66
          · replace h := h.2 c_10
            refine lv_iload_n hx hb dX4_say_51 rfl (lv_at hl 3 rfl) ?_
            refine lv_aload_n hx hb dX4_say_52 rfl (lv_at hl 0 rfl) ?_
            refine lv_iconst hx hb dX4_say_53 kc_0 ?_
            refine lv_aload_n hx hb dX4_say_54 rfl (lv_at hl 0 rfl) ?_
            refine mg_i S hK hP (k := 13) (by decide) (by decide) q1433 dX4_say_55 ?_
            refine lv_iload_n hx hb dX4_say_58 rfl (lv_at hl 2 rfl) ?_
            refine mc_i S hK hP hS (As := [.int (0 : Int32), .int (mi M_6 13), .int a2]) (rest := [.int a3]) (mt4_latestHour l hA (0 : Int32) (mi M_6 13) a2 M_6 _ h) (cwV 3 S.2.2.2.2 (lw_V q1700 q1702 qs82 q145 q1703) rfl rfl rfl cdX4_latestHour ⟨Nat.le_of_ble_eq_true rfl, Nat.le_of_ble_eq_true rfl⟩) rfl rfl hl.1 (Nat.le_of_ble_eq_true rfl) dX4_say_59 ⟨Nat.le_refl _, Nat.le_refl _⟩ (fun r_12 M_11 H locs h hP hS => ?_)
            refine lv_icmp_ge (tgt := 67) hx hb dX4_say_62 (by decide) (fun c_13 => ?_) (fun c_13 => ?_)
            · replace h := h.1 c_13
              refine lv_iload hx hb dX4_say_67 (lv_at hl 5 rfl) ?_
              refine lv_aload_n hx hb dX4_say_69 rfl (lv_at hl 0 rfl) ?_
              refine mg_r S hK hP (k := 22) (by decide) (by decide) q1442 dX4_say_70 ?_
              refine lv_iload hx hb dX4_say_73 (lv_at hl 4 rfl) ?_
              obtain ⟨hi, h⟩ := h
              refine ml_a S hK hP (k := 22) af_22 rfl hi dX4_say_75 ?_
              refine lv_icmp_ge (tgt := 93) hx hb dX4_say_76 (by decide) (fun c_14 => ?_) (fun c_14 => ?_)
              · replace h := h.1 c_14
                refine lv_iconst hx hb dX4_say_93 kc_m1 ?_
                exact hret _ _ _ _ _ _ hP hS h rfl dX4_say_94
              · replace h := h.2 c_14
                refine lv_iload hx hb dX4_say_79 (lv_at hl 5 rfl) ?_
                refine lv_iload_n hx hb dX4_say_81 rfl (lv_at hl 1 rfl) ?_
                refine lv_if_eq (tgt := 89) hx hb dX4_say_82 (by decide) (fun c_15 => ?_) (fun c_15 => ?_)
                · replace h := h.1 c_15
                  refine lv_iconst hx hb dX4_say_89 kc_m1 ?_
                  exact C90 _ _ _ _ _ _ hP hS (lv_sub hl [0, 1, 2, 3, 4, 5] rfl) h
                · replace h := h.2 c_15
                  refine lv_iconst hx hb dX4_say_85 kc_0 ?_
                  refine lv_goto (tgt := 90) hx hb dX4_say_86 (by decide) ?_
                  exact C90 _ _ _ _ _ _ hP hS (lv_sub hl [0, 1, 2, 3, 4, 5] rfl) h
            · replace h := h.2 c_13
              refine lv_iconst hx hb dX4_say_65 kc_m1 ?_
              exact hret _ _ _ _ _ _ hP hS h rfl dX4_say_66
def w4_undo (M : MS) (Post : Int32 → MS → Prop) : Prop := ∀ M_1 : MS, M_1 = si M 2 (0 : Int32) → ((mi M_1 44) = 0 → (Post (-1 : Int32) M_1)) ∧ (¬ ((mi M_1 44) = 0) → (∀ M_3 : MS, M_3 = si M_1 44 ((mi M_1 44) - (1 : Int32)) → ∀ M_4 : MS, M_4 = si M_3 13 ((mi M_3 13) - (1 : Int32)) → Post (mi M_4 44) M_4))
abbrev rX4_undo : Room := { frames := 0, cells := 0, slots := 0, locals := 0 }
theorem cdX4_undo : yX4_undo.cls = RX4 ∧ yX4_undo.cls ≠ "java/lang/invoke/MethodHandle" ∧ yX4_undo.cls ≠ "java/lang/invoke/VarHandle" ∧ (parseMethodDescriptor yX4_undo.desc).map (fun d => d.parameters.length) = some 0 := by decide +kernel
set_option maxHeartbeats 4000000 in
set_option maxRecDepth 100000 in
theorem mt4_undo (l : Launch) {D : va_G} {cA : Nat → ClassId} {m0 : Nat} {ad : Nat → Nat} (hA : mAd m0 ad) (M : MS) (Post : Int32 → MS → Prop) (h : w4_undo M Post) : Met l yX4_undo (ws_ yX4_undo cX4_undo 1 (some .int)) rX4_undo (mPc [.ref m0] D cA m0 ad M) (va_Qi Post (mB D cA m0 ad) (mF m0 ad)) 0 0 (mF m0 ad) := by
  refine mst_i (own := RX4) (by decide) rfl (Nat.le_of_ble_eq_true rfl) ?_
  intro p e s m args below meth c Q ls S hK hP hS hl hret
  have hx := S.1
  have hb := S.2.1
  have hl : lv_has ls 1 [(0, .ref m0)] := hl
  unfold w4_undo at h
  refine lv_aload_n hx hb dX4_undo_0 rfl (lv_at hl 0 rfl) ?_
  refine lv_iconst hx hb dX4_undo_1 kc_0 ?_
  refine mp_i S hK hA hP hS (k := 2) (by decide) (Or.inl rfl) rfl (Or.inl ⟨rfl, rfl⟩) q1422 dX4_undo_2 (fun M_1 H locs e_M_1 hP hS => ?_)
  replace h := h M_1 e_M_1
  refine lv_aload_n hx hb dX4_undo_5 rfl (lv_at hl 0 rfl) ?_
  refine mg_i S hK hP (k := 44) (by decide) (by decide) q1464 dX4_undo_6 ?_
  refine lv_if_ne (tgt := 14) hx hb dX4_undo_9 (by decide) (fun c_2 => ?_) (fun c_2 => ?_)
  · replace h := h.2 c_2
    refine lv_aload_n hx hb dX4_undo_14 rfl (lv_at hl 0 rfl) ?_
    refine lv_dup hx hb dX4_undo_15 rfl ?_
    refine mg_i S hK hP (k := 44) (by decide) (by decide) q1464 dX4_undo_16 ?_
    refine lv_iconst hx hb dX4_undo_19 kc_1 ?_
    refine lv_isub hx hb dX4_undo_20 ?_
    refine mp_i S hK hA hP hS (k := 44) (by decide) (Or.inl rfl) rfl (Or.inl ⟨rfl, rfl⟩) q1464 dX4_undo_21 (fun M_3 H locs e_M_3 hP hS => ?_)
    replace h := h M_3 e_M_3
    refine lv_aload_n hx hb dX4_undo_24 rfl (lv_at hl 0 rfl) ?_
    refine lv_dup hx hb dX4_undo_25 rfl ?_
    refine mg_i S hK hP (k := 13) (by decide) (by decide) q1433 dX4_undo_26 ?_
    refine lv_iconst hx hb dX4_undo_29 kc_1 ?_
    refine lv_isub hx hb dX4_undo_30 ?_
    refine mp_i S hK hA hP hS (k := 13) (by decide) (Or.inl rfl) rfl (Or.inl ⟨rfl, rfl⟩) q1433 dX4_undo_31 (fun M_4 H locs e_M_4 hP hS => ?_)
    replace h := h M_4 e_M_4
    refine lv_aload_n hx hb dX4_undo_34 rfl (lv_at hl 0 rfl) ?_
    refine mg_i S hK hP (k := 44) (by decide) (by decide) q1464 dX4_undo_35 ?_
    exact hret _ _ _ _ _ _ hP hS h rfl dX4_undo_38
  · replace h := h.1 c_2
    refine lv_iconst hx hb dX4_undo_12 kc_m1 ?_
    exact hret _ _ _ _ _ _ hP hS h rfl dX4_undo_13
def w4_isIn (a0 : Int32) (a1 : Int32) (a2 : Int32) (Post : Int32 → Prop) : Prop := (a0 < a1 → (Post (0 : Int32))) ∧ (¬ (a0 < a1) → ((a2 < a0 → (Post (0 : Int32))) ∧ (¬ (a2 < a0) → (Post (1 : Int32)))))
abbrev rX4_isIn : Room := { frames := 0, cells := 0, slots := 0, locals := 0 }
theorem cdX4_isIn : yX4_isIn.cls ≠ "java/lang/invoke/MethodHandle" ∧ yX4_isIn.cls ≠ "java/lang/invoke/VarHandle" ∧ (parseMethodDescriptor yX4_isIn.desc).map (fun d => d.parameters.length) = some 3 := by decide +kernel
set_option maxHeartbeats 4000000 in
set_option maxRecDepth 100000 in
theorem mt4_isIn (l : Launch) (a0 : Int32) (a1 : Int32) (a2 : Int32) (Post : Int32 → Prop) (h : w4_isIn a0 a1 a2 Post) : Met l yX4_isIn (ws_ yX4_isIn cX4_isIn 3 (some .boolean)) rX4_isIn (va_Pc [.int a0, .int a1, .int a2] (fun _ => True)) (vp_Si Post) 0 0 (fun _ => False) := by
  refine sst_i (own := RX4) (by decide) rfl (Nat.le_of_ble_eq_true rfl) ?_
  intro p e s m args below meth c Q ls S hl hret
  have hx := S.1
  have hb := S.2.1
  have hl : lv_has ls 3 [(0, .int a0), (1, .int a1), (2, .int a2)] := hl
  unfold w4_isIn at h
  refine lv_iload_n hx hb dX4_isIn_0 rfl (lv_at hl 0 rfl) ?_
  refine lv_iload_n hx hb dX4_isIn_1 rfl (lv_at hl 1 rfl) ?_
  refine lv_icmp_lt (tgt := 14) hx hb dX4_isIn_2 (by decide) (fun c_1 => ?_) (fun c_1 => ?_)
  · replace h := h.1 c_1
    refine lv_iconst hx hb dX4_isIn_14 kc_0 ?_
    exact hret _ _ _ h (vz_nar vz_0) dX4_isIn_15
  · replace h := h.2 c_1
    refine lv_iload_n hx hb dX4_isIn_5 rfl (lv_at hl 0 rfl) ?_
    refine lv_iload_n hx hb dX4_isIn_6 rfl (lv_at hl 2 rfl) ?_
    refine lv_icmp_gt (tgt := 14) hx hb dX4_isIn_7 (by decide) (fun c_2 => ?_) (fun c_2 => ?_)
    · replace h := h.1 c_2
      refine lv_iconst hx hb dX4_isIn_14 kc_0 ?_
      exact hret _ _ _ h (vz_nar vz_0) dX4_isIn_15
    · replace h := h.2 c_2
      refine lv_iconst hx hb dX4_isIn_10 kc_1 ?_
      refine lv_goto (tgt := 15) hx hb dX4_isIn_11 (by decide) ?_
      exact hret _ _ _ h (vz_nar vz_1) dX4_isIn_15
def w4_heardMany_c26 (k4 : Int32 → Int32 → MS → Prop) (Post : Int32 → MS → Prop) (x2 : Int32) (t0 : Int32) (t1 : Int32) (M : MS) : Prop := ∀ v_5 : Int32, v_5 = t1 + t0 → ∀ v_6 : Int32, v_6 = x2 + (1 : Int32) → k4 v_5 v_6 M
def w4_heardMany_l4 (Post : Int32 → MS → Prop) : Nat → Int32 → Int32 → MS → Prop
  | 0, _, _, _ => False
  | n + 1, x1, x2, M => ((mi M 13) ≤ x2 → (Post x1 M)) ∧ (¬ ((mi M 13) ≤ x2) → (w4_isHeard x2 M (fun r_3 M_2 => (r_3 = 0 → (w4_heardMany_c26 (w4_heardMany_l4 Post n) Post x2 (0 : Int32) x1 M_2)) ∧ (¬ (r_3 = 0) → (w4_heardMany_c26 (w4_heardMany_l4 Post n) Post x2 (1 : Int32) x1 M_2)))))
def w4_heardMany (M : MS) (Post : Int32 → MS → Prop) : Prop := ∃ f, w4_heardMany_l4 Post f (0 : Int32) (0 : Int32) M
abbrev rX4_heardMany : Room := { frames := 1, cells := 0, slots := 0, locals := 21 }
theorem cdX4_heardMany : yX4_heardMany.cls = RX4 ∧ yX4_heardMany.cls ≠ "java/lang/invoke/MethodHandle" ∧ yX4_heardMany.cls ≠ "java/lang/invoke/VarHandle" ∧ (parseMethodDescriptor yX4_heardMany.desc).map (fun d => d.parameters.length) = some 0 := by decide +kernel
set_option maxHeartbeats 4000000 in
set_option maxRecDepth 100000 in
theorem mt4_heardMany (l : Launch) {D : va_G} {cA : Nat → ClassId} {m0 : Nat} {ad : Nat → Nat} (hA : mAd m0 ad) (M : MS) (Post : Int32 → MS → Prop) (h : w4_heardMany M Post) : Met l yX4_heardMany (ws_ yX4_heardMany cX4_heardMany 3 (some .int)) rX4_heardMany (mPc [.ref m0] D cA m0 ad M) (va_Qi Post (mB D cA m0 ad) (mF m0 ad)) 0 0 (mF m0 ad) := by
  refine mst_i (own := RX4) (by decide) rfl (Nat.le_of_ble_eq_true rfl) ?_
  intro p e s m args below meth c Q ls S hK hP hS hl hret
  have hx := S.1
  have hb := S.2.1
  have hl : lv_has ls 3 [(0, .ref m0)] := hl
  have C26 : ∀ (k4 : Int32 → Int32 → MS → Prop) (K4 : (∀ (x1 : Int32) (x2 : Int32) (M : MS) (H : Heap) (locs : List Loc) (ls : Array Slot), va_P D vwCl (mo cA m0 ad M) H → va_S (mF m0 ad) s.heap H locs → lv_has ls 3 [(0, .ref m0), (1, .int x1), (2, .int x2)] → k4 x1 x2 M → W p l e rX4_heardMany s m args below meth c H locs 0 0 Q (F0 m 4 ls []))), ∀ (x2 : Int32) (t0 : Int32) (t1 : Int32) (M : MS) (H : Heap) (locs : List Loc) (ls : Array Slot), va_P D vwCl (mo cA m0 ad M) H → va_S (mF m0 ad) s.heap H locs → lv_has ls 3 [(0, .ref m0), (2, .int x2)] → w4_heardMany_c26 k4 Post x2 t0 t1 M → W p l e rX4_heardMany s m args below meth c H locs 0 0 Q (F0 m 26 ls [.int t0, .int t1]) := by
    intro k4 K4
    intro x2 t0 t1 M H locs ls hP hS hl h
    unfold w4_heardMany_c26 at h
    refine lv_iadd hx hb dX4_heardMany_26 ?_
    refine lv_topi (fun v_5 e_v_5 => ?_)
    replace h := h v_5 e_v_5
    refine lv_istore_n (lv' := [(1, .int v_5), (0, .ref m0), (2, .int x2)]) hx hb dX4_heardMany_27 rfl hl (by decide) rfl (fun ls hl => ?_)
    obtain ⟨v_6, e_v_6⟩ : ∃ y : Int32, y = x2 + (1 : Int32) := ⟨_, rfl⟩
    replace h := h v_6 e_v_6
    refine lv_iinc (v := v_6) (lv' := [(2, .int v_6), (1, .int v_5), (0, .ref m0)]) hx hb dX4_heardMany_28 hl (k := 2) rfl (by rw [kc_1, e_v_6]) (by decide) rfl (fun ls hl => ?_)
    refine lv_goto (tgt := 4) hx hb dX4_heardMany_31 (by decide) ?_
    exact K4 _ _ _ _ _ _ hP hS (lv_sub hl [2, 1, 0] rfl) h
  have L4 : ∀ (n : Nat) (x1 : Int32) (x2 : Int32) (M : MS) (H : Heap) (locs : List Loc) (ls : Array Slot), va_P D vwCl (mo cA m0 ad M) H → va_S (mF m0 ad) s.heap H locs → lv_has ls 3 [(0, .ref m0), (1, .int x1), (2, .int x2)] → w4_heardMany_l4 Post n x1 x2 M → W p l e rX4_heardMany s m args below meth c H locs 0 0 Q (F0 m 4 ls []) := by
    intro n
    induction n with
    | zero => intro x1 x2 M H locs ls hP hS hl h; rw [w4_heardMany_l4] at h; exact h.elim
    | succ n ih =>
      intro x1 x2 M H locs ls hP hS hl h
      rw [w4_heardMany_l4] at h
      refine lv_iload_n hx hb dX4_heardMany_4 rfl (lv_at hl 2 rfl) ?_
      refine lv_aload_n hx hb dX4_heardMany_5 rfl (lv_at hl 0 rfl) ?_
      refine mg_i S hK hP (k := 13) (by decide) (by decide) q1433 dX4_heardMany_6 ?_
      refine lv_icmp_ge (tgt := 34) hx hb dX4_heardMany_9 (by decide) (fun c_1 => ?_) (fun c_1 => ?_)
      · replace h := h.1 c_1
        refine lv_iload_n hx hb dX4_heardMany_34 rfl (lv_at hl 1 rfl) ?_
        exact hret _ _ _ _ _ _ hP hS h rfl dX4_heardMany_35
      · replace h := h.2 c_1
        refine lv_iload_n hx hb dX4_heardMany_12 rfl (lv_at hl 1 rfl) ?_
        refine lv_aload_n hx hb dX4_heardMany_13 rfl (lv_at hl 0 rfl) ?_
        refine lv_iload_n hx hb dX4_heardMany_14 rfl (lv_at hl 2 rfl) ?_
        refine mc_i S hK hP hS (As := [.int x2]) (rest := [.int x1]) (mt4_isHeard l hA x2 M _ h) (cwV 1 S.2.2.2.2 (lw_V q1779 q1781 qs96 q145 q1782) rfl rfl rfl cdX4_isHeard ⟨Nat.le_of_ble_eq_true rfl, Nat.le_of_ble_eq_true rfl⟩) rfl rfl hl.1 (Nat.le_of_ble_eq_true rfl) dX4_heardMany_15 ⟨Nat.le_refl _, Nat.le_refl _⟩ (fun r_3 M_2 H locs h hP hS => ?_)
        refine lv_if_eq (tgt := 25) hx hb dX4_heardMany_18 (by decide) (fun c_4 => ?_) (fun c_4 => ?_)
        · replace h := h.1 c_4
          refine lv_iconst hx hb dX4_heardMany_25 kc_0 ?_
          exact C26 _ ih _ _ _ _ _ _ _ hP hS (lv_sub hl [0, 2] rfl) h
        · replace h := h.2 c_4
          refine lv_iconst hx hb dX4_heardMany_21 kc_1 ?_
          refine lv_goto (tgt := 26) hx hb dX4_heardMany_22 (by decide) ?_
          exact C26 _ ih _ _ _ _ _ _ _ hP hS (lv_sub hl [0, 2] rfl) h
  unfold w4_heardMany at h
  refine lv_iconst hx hb dX4_heardMany_0 kc_0 ?_
  refine lv_istore_n (lv' := [(1, .int (0 : Int32)), (0, .ref m0)]) hx hb dX4_heardMany_1 rfl hl (by decide) rfl (fun ls hl => ?_)
  refine lv_iconst hx hb dX4_heardMany_2 kc_0 ?_
  refine lv_istore_n (lv' := [(2, .int (0 : Int32)), (1, .int (0 : Int32)), (0, .ref m0)]) hx hb dX4_heardMany_3 rfl hl (by decide) rfl (fun ls hl => ?_)
  obtain ⟨f, h⟩ := h
  exact L4 f _ _ _ _ _ _ hP hS (lv_sub hl [2, 1, 0] rfl) h
def w4_hear (a1 : Int32) (M : MS) (Post : Int32 → MS → Prop) : Prop := ∀ M_1 : MS, M_1 = si M 2 (0 : Int32) → w4_isIn a1 (0 : Int32) (199 : Int32) (fun r_2 => (r_2 = 0 → (Post (-1 : Int32) M_1)) ∧ (¬ (r_2 = 0) → (∀ M_4 : MS, M_4 = si M_1 45 a1 → w4_heardMany M_4 (fun r_6 M_5 => Post r_6 M_5))))
abbrev rX4_hear : Room := { frames := 2, cells := 0, slots := 0, locals := 43 }
theorem cdX4_hear : yX4_hear.cls = RX4 ∧ yX4_hear.cls ≠ "java/lang/invoke/MethodHandle" ∧ yX4_hear.cls ≠ "java/lang/invoke/VarHandle" ∧ (parseMethodDescriptor yX4_hear.desc).map (fun d => d.parameters.length) = some 1 := by decide +kernel
set_option maxHeartbeats 4000000 in
set_option maxRecDepth 100000 in
theorem mt4_hear (l : Launch) {D : va_G} {cA : Nat → ClassId} {m0 : Nat} {ad : Nat → Nat} (hA : mAd m0 ad) (a1 : Int32) (M : MS) (Post : Int32 → MS → Prop) (h : w4_hear a1 M Post) : Met l yX4_hear (ws_ yX4_hear cX4_hear 2 (some .int)) rX4_hear (mPc [.ref m0, .int a1] D cA m0 ad M) (va_Qi Post (mB D cA m0 ad) (mF m0 ad)) 0 0 (mF m0 ad) := by
  refine mst_i (own := RX4) (by decide) rfl (Nat.le_of_ble_eq_true rfl) ?_
  intro p e s m args below meth c Q ls S hK hP hS hl hret
  have hx := S.1
  have hb := S.2.1
  have hl : lv_has ls 2 [(0, .ref m0), (1, .int a1)] := hl
  unfold w4_hear at h
  refine lv_aload_n hx hb dX4_hear_0 rfl (lv_at hl 0 rfl) ?_
  refine lv_iconst hx hb dX4_hear_1 kc_0 ?_
  refine mp_i S hK hA hP hS (k := 2) (by decide) (Or.inl rfl) rfl (Or.inl ⟨rfl, rfl⟩) q1422 dX4_hear_2 (fun M_1 H locs e_M_1 hP hS => ?_)
  replace h := h M_1 e_M_1
  refine lv_iload_n hx hb dX4_hear_5 rfl (lv_at hl 1 rfl) ?_
  refine lv_iconst hx hb dX4_hear_6 kc_0 ?_
  refine lv_sipush hx hb dX4_hear_7 ks_199 ?_
  refine sc_i S (As := [.int a1, .int (0 : Int32), .int (199 : Int32)]) (rest := []) (mt4_isIn l a1 (0 : Int32) (199 : Int32) _ h) (va_cwS 3 S.2.2.2.2 (lw_S q1795 q1796 q145 q1797) rfl rfl rfl cdX4_isIn ⟨Nat.le_of_ble_eq_true rfl, Nat.le_of_ble_eq_true rfl⟩) rfl rfl hl.1 (Nat.le_of_ble_eq_true rfl) dX4_hear_10 ⟨Nat.le_refl _, Nat.le_refl _⟩ (fun r_2 h => ?_)
  refine lv_if_ne (tgt := 18) hx hb dX4_hear_13 (by decide) (fun c_3 => ?_) (fun c_3 => ?_)
  · replace h := h.2 c_3
    refine lv_aload_n hx hb dX4_hear_18 rfl (lv_at hl 0 rfl) ?_
    refine lv_iload_n hx hb dX4_hear_19 rfl (lv_at hl 1 rfl) ?_
    refine mp_i S hK hA hP hS (k := 45) (by decide) (Or.inl rfl) rfl (Or.inl ⟨rfl, rfl⟩) q1465 dX4_hear_20 (fun M_4 H locs e_M_4 hP hS => ?_)
    replace h := h M_4 e_M_4
    refine lv_aload_n hx hb dX4_hear_23 rfl (lv_at hl 0 rfl) ?_
    refine mc_i S hK hP hS (As := []) (rest := []) (mt4_heardMany l hA M_4 _ h) (cwV 0 S.2.2.2.2 (lw_V q1798 q1800 qs97 q145 q1801) rfl rfl rfl cdX4_heardMany ⟨Nat.le_of_ble_eq_true rfl, Nat.le_of_ble_eq_true rfl⟩) rfl rfl hl.1 (Nat.le_of_ble_eq_true rfl) dX4_hear_24 ⟨Nat.le_refl _, Nat.le_refl _⟩ (fun r_6 M_5 H locs h hP hS => ?_)
    exact hret _ _ _ _ _ _ hP hS h rfl dX4_hear_27
  · replace h := h.1 c_3
    refine lv_iconst hx hb dX4_hear_16 kc_m1 ?_
    exact hret _ _ _ _ _ _ hP hS h rfl dX4_hear_17
def w4_isHeardWord (a1 : Int32) (M : MS) (Post : Int32 → MS → Prop) : Prop := w4_isHeard a1 M (fun r_2 M_1 => (r_2 = 0 → (Post (0 : Int32) M_1)) ∧ (¬ (r_2 = 0) → ((vp_in a1 (mN 31) ∧ ((ma M_1 31 (Int32.toNatClampNeg a1)) = 0 → (Post (0 : Int32) M_1)) ∧ (¬ ((ma M_1 31 (Int32.toNatClampNeg a1)) = 0) → (Post (1 : Int32) M_1))))))
abbrev rX4_isHeardWord : Room := { frames := 1, cells := 0, slots := 0, locals := 21 }
theorem cdX4_isHeardWord : yX4_isHeardWord.cls = RX4 ∧ yX4_isHeardWord.cls ≠ "java/lang/invoke/MethodHandle" ∧ yX4_isHeardWord.cls ≠ "java/lang/invoke/VarHandle" ∧ (parseMethodDescriptor yX4_isHeardWord.desc).map (fun d => d.parameters.length) = some 1 := by decide +kernel
set_option maxHeartbeats 4000000 in
set_option maxRecDepth 100000 in
theorem mt4_isHeardWord (l : Launch) {D : va_G} {cA : Nat → ClassId} {m0 : Nat} {ad : Nat → Nat} (hA : mAd m0 ad) (a1 : Int32) (M : MS) (Post : Int32 → MS → Prop) (h : w4_isHeardWord a1 M Post) : Met l yX4_isHeardWord (ws_ yX4_isHeardWord cX4_isHeardWord 2 (some .boolean)) rX4_isHeardWord (mPc [.ref m0, .int a1] D cA m0 ad M) (va_Qi Post (mB D cA m0 ad) (mF m0 ad)) 0 0 (mF m0 ad) := by
  refine mst_i (own := RX4) (by decide) rfl (Nat.le_of_ble_eq_true rfl) ?_
  intro p e s m args below meth c Q ls S hK hP hS hl hret
  have hx := S.1
  have hb := S.2.1
  have hl : lv_has ls 2 [(0, .ref m0), (1, .int a1)] := hl
  unfold w4_isHeardWord at h
  refine lv_aload_n hx hb dX4_isHeardWord_0 rfl (lv_at hl 0 rfl) ?_
  refine lv_iload_n hx hb dX4_isHeardWord_1 rfl (lv_at hl 1 rfl) ?_
  refine mc_i S hK hP hS (As := [.int a1]) (rest := []) (mt4_isHeard l hA a1 M _ h) (cwV 1 S.2.2.2.2 (lw_V q1779 q1781 qs96 q145 q1782) rfl rfl rfl cdX4_isHeard ⟨Nat.le_of_ble_eq_true rfl, Nat.le_of_ble_eq_true rfl⟩) rfl rfl hl.1 (Nat.le_of_ble_eq_true rfl) dX4_isHeardWord_2 ⟨Nat.le_refl _, Nat.le_refl _⟩ (fun r_2 M_1 H locs h hP hS => ?_)
  refine lv_if_eq (tgt := 21) hx hb dX4_isHeardWord_5 (by decide) (fun c_3 => ?_) (fun c_3 => ?_)
  · replace h := h.1 c_3
    refine lv_iconst hx hb dX4_isHeardWord_21 kc_0 ?_
    exact hret _ _ _ _ _ _ hP hS h (vz_nar vz_0) dX4_isHeardWord_22
  · replace h := h.2 c_3
    refine lv_aload_n hx hb dX4_isHeardWord_8 rfl (lv_at hl 0 rfl) ?_
    refine mg_r S hK hP (k := 31) (by decide) (by decide) q1451 dX4_isHeardWord_9 ?_
    refine lv_iload_n hx hb dX4_isHeardWord_12 rfl (lv_at hl 1 rfl) ?_
    obtain ⟨hi, h⟩ := h
    refine ml_z S hK hP (k := 31) af_31 rfl hi dX4_isHeardWord_13 ?_
    refine lv_if_eq (tgt := 21) hx hb dX4_isHeardWord_14 (by decide) (fun c_4 => ?_) (fun c_4 => ?_)
    · replace h := h.1 c_4
      refine lv_iconst hx hb dX4_isHeardWord_21 kc_0 ?_
      exact hret _ _ _ _ _ _ hP hS h (vz_nar vz_0) dX4_isHeardWord_22
    · replace h := h.2 c_4
      refine lv_iconst hx hb dX4_isHeardWord_17 kc_1 ?_
      refine lv_goto (tgt := 22) hx hb dX4_isHeardWord_18 (by decide) ?_
      exact hret _ _ _ _ _ _ hP hS h (vz_nar vz_1) dX4_isHeardWord_22
def w4_isRight (a1 : Int32) (M : MS) (Post : Int32 → MS → Prop) : Prop := (vp_in a1 (mN 35) ∧ (vp_in a1 (mN 34) ∧ (vp_in (ma M 34 (Int32.toNatClampNeg a1)) (mN 23) ∧ ((ma M 35 (Int32.toNatClampNeg a1)) = (ma M 23 (Int32.toNatClampNeg (ma M 34 (Int32.toNatClampNeg a1)))) → (Post (1 : Int32) M)) ∧ (¬ ((ma M 35 (Int32.toNatClampNeg a1)) = (ma M 23 (Int32.toNatClampNeg (ma M 34 (Int32.toNatClampNeg a1))))) → (Post (0 : Int32) M)))))
abbrev rX4_isRight : Room := { frames := 0, cells := 0, slots := 0, locals := 0 }
theorem cdX4_isRight : yX4_isRight.cls = RX4 ∧ yX4_isRight.cls ≠ "java/lang/invoke/MethodHandle" ∧ yX4_isRight.cls ≠ "java/lang/invoke/VarHandle" ∧ (parseMethodDescriptor yX4_isRight.desc).map (fun d => d.parameters.length) = some 1 := by decide +kernel
set_option maxHeartbeats 4000000 in
set_option maxRecDepth 100000 in
theorem mt4_isRight (l : Launch) {D : va_G} {cA : Nat → ClassId} {m0 : Nat} {ad : Nat → Nat} (hA : mAd m0 ad) (a1 : Int32) (M : MS) (Post : Int32 → MS → Prop) (h : w4_isRight a1 M Post) : Met l yX4_isRight (ws_ yX4_isRight cX4_isRight 2 (some .boolean)) rX4_isRight (mPc [.ref m0, .int a1] D cA m0 ad M) (va_Qi Post (mB D cA m0 ad) (mF m0 ad)) 0 0 (mF m0 ad) := by
  refine mst_i (own := RX4) (by decide) rfl (Nat.le_of_ble_eq_true rfl) ?_
  intro p e s m args below meth c Q ls S hK hP hS hl hret
  have hx := S.1
  have hb := S.2.1
  have hl : lv_has ls 2 [(0, .ref m0), (1, .int a1)] := hl
  unfold w4_isRight at h
  refine lv_aload_n hx hb dX4_isRight_0 rfl (lv_at hl 0 rfl) ?_
  refine mg_r S hK hP (k := 35) (by decide) (by decide) q1455 dX4_isRight_1 ?_
  refine lv_iload_n hx hb dX4_isRight_4 rfl (lv_at hl 1 rfl) ?_
  obtain ⟨hi, h⟩ := h
  refine ml_a S hK hP (k := 35) af_35 rfl hi dX4_isRight_5 ?_
  refine lv_aload_n hx hb dX4_isRight_6 rfl (lv_at hl 0 rfl) ?_
  refine mg_r S hK hP (k := 23) (by decide) (by decide) q1443 dX4_isRight_7 ?_
  refine lv_aload_n hx hb dX4_isRight_10 rfl (lv_at hl 0 rfl) ?_
  refine mg_r S hK hP (k := 34) (by decide) (by decide) q1454 dX4_isRight_11 ?_
  refine lv_iload_n hx hb dX4_isRight_14 rfl (lv_at hl 1 rfl) ?_
  obtain ⟨hi, h⟩ := h
  refine ml_a S hK hP (k := 34) af_34 rfl hi dX4_isRight_15 ?_
  obtain ⟨hi, h⟩ := h
  refine ml_a S hK hP (k := 23) af_23 rfl hi dX4_isRight_16 ?_
  refine lv_icmp_ne (tgt := 24) hx hb dX4_isRight_17 (by decide) (fun c_1 => ?_) (fun c_1 => ?_)
  · replace h := h.2 c_1
    refine lv_iconst hx hb dX4_isRight_24 kc_0 ?_
    exact hret _ _ _ _ _ _ hP hS h (vz_nar vz_0) dX4_isRight_25
  · replace h := h.1 c_1
    refine lv_iconst hx hb dX4_isRight_20 kc_1 ?_
    refine lv_goto (tgt := 25) hx hb dX4_isRight_21 (by decide) ?_
    exact hret _ _ _ _ _ _ hP hS h (vz_nar vz_1) dX4_isRight_25
def w4_had (a0 : Int32) (a1 : Int32) (Post : Int32 → Prop) : Prop := (a0 < 0 → (Post (0 : Int32))) ∧ (¬ (a0 < 0) → ((a1 < a0 → (Post (0 : Int32))) ∧ (¬ (a1 < a0) → (Post (1 : Int32)))))
abbrev rX4_had : Room := { frames := 0, cells := 0, slots := 0, locals := 0 }
theorem cdX4_had : yX4_had.cls ≠ "java/lang/invoke/MethodHandle" ∧ yX4_had.cls ≠ "java/lang/invoke/VarHandle" ∧ (parseMethodDescriptor yX4_had.desc).map (fun d => d.parameters.length) = some 2 := by decide +kernel
set_option maxHeartbeats 4000000 in
set_option maxRecDepth 100000 in
theorem mt4_had (l : Launch) (a0 : Int32) (a1 : Int32) (Post : Int32 → Prop) (h : w4_had a0 a1 Post) : Met l yX4_had (ws_ yX4_had cX4_had 2 (some .boolean)) rX4_had (va_Pc [.int a0, .int a1] (fun _ => True)) (vp_Si Post) 0 0 (fun _ => False) := by
  refine sst_i (own := RX4) (by decide) rfl (Nat.le_of_ble_eq_true rfl) ?_
  intro p e s m args below meth c Q ls S hl hret
  have hx := S.1
  have hb := S.2.1
  have hl : lv_has ls 2 [(0, .int a0), (1, .int a1)] := hl
  unfold w4_had at h
  refine lv_iload_n hx hb dX4_had_0 rfl (lv_at hl 0 rfl) ?_
  refine lv_if_lt (tgt := 13) hx hb dX4_had_1 (by decide) (fun c_1 => ?_) (fun c_1 => ?_)
  · replace h := h.1 c_1
    refine lv_iconst hx hb dX4_had_13 kc_0 ?_
    exact hret _ _ _ h (vz_nar vz_0) dX4_had_14
  · replace h := h.2 c_1
    refine lv_iload_n hx hb dX4_had_4 rfl (lv_at hl 0 rfl) ?_
    refine lv_iload_n hx hb dX4_had_5 rfl (lv_at hl 1 rfl) ?_
    refine lv_icmp_gt (tgt := 13) hx hb dX4_had_6 (by decide) (fun c_2 => ?_) (fun c_2 => ?_)
    · replace h := h.1 c_2
      refine lv_iconst hx hb dX4_had_13 kc_0 ?_
      exact hret _ _ _ h (vz_nar vz_0) dX4_had_14
    · replace h := h.2 c_2
      refine lv_iconst hx hb dX4_had_9 kc_1 ?_
      refine lv_goto (tgt := 14) hx hb dX4_had_10 (by decide) ?_
      exact hret _ _ _ h (vz_nar vz_1) dX4_had_14
def w4_says (a1 : Int32) (a2 : Int32) (a3 : Int32) (M : MS) (Post : Int32 → MS → Prop) : Prop := w4_isHeardWord a1 M (fun r_2 M_1 => (r_2 = 0 → (Post (0 : Int32) M_1)) ∧ (¬ (r_2 = 0) → ((vp_in a1 (mN 32) ∧ ((ma M_1 32 (Int32.toNatClampNeg a1)) = a2 → ((vp_in a1 (mN 34) ∧ ((ma M_1 34 (Int32.toNatClampNeg a1)) = a3 → (Post (1 : Int32) M_1)) ∧ (¬ ((ma M_1 34 (Int32.toNatClampNeg a1)) = a3) → (Post (0 : Int32) M_1))))) ∧ (¬ ((ma M_1 32 (Int32.toNatClampNeg a1)) = a2) → (Post (0 : Int32) M_1))))))
abbrev rX4_says : Room := { frames := 2, cells := 0, slots := 0, locals := 42 }
theorem cdX4_says : yX4_says.cls = RX4 ∧ yX4_says.cls ≠ "java/lang/invoke/MethodHandle" ∧ yX4_says.cls ≠ "java/lang/invoke/VarHandle" ∧ (parseMethodDescriptor yX4_says.desc).map (fun d => d.parameters.length) = some 3 := by decide +kernel
set_option maxHeartbeats 4000000 in
set_option maxRecDepth 100000 in
theorem mt4_says (l : Launch) {D : va_G} {cA : Nat → ClassId} {m0 : Nat} {ad : Nat → Nat} (hA : mAd m0 ad) (a1 : Int32) (a2 : Int32) (a3 : Int32) (M : MS) (Post : Int32 → MS → Prop) (h : w4_says a1 a2 a3 M Post) : Met l yX4_says (ws_ yX4_says cX4_says 4 (some .boolean)) rX4_says (mPc [.ref m0, .int a1, .int a2, .int a3] D cA m0 ad M) (va_Qi Post (mB D cA m0 ad) (mF m0 ad)) 0 0 (mF m0 ad) := by
  refine mst_i (own := RX4) (by decide) rfl (Nat.le_of_ble_eq_true rfl) ?_
  intro p e s m args below meth c Q ls S hK hP hS hl hret
  have hx := S.1
  have hb := S.2.1
  have hl : lv_has ls 4 [(0, .ref m0), (1, .int a1), (2, .int a2), (3, .int a3)] := hl
  unfold w4_says at h
  refine lv_aload_n hx hb dX4_says_0 rfl (lv_at hl 0 rfl) ?_
  refine lv_iload_n hx hb dX4_says_1 rfl (lv_at hl 1 rfl) ?_
  refine mc_i S hK hP hS (As := [.int a1]) (rest := []) (mt4_isHeardWord l hA a1 M _ h) (cwV 1 S.2.2.2.2 (lw_V q1806 q1808 qs98 q145 q1809) rfl rfl rfl cdX4_isHeardWord ⟨Nat.le_of_ble_eq_true rfl, Nat.le_of_ble_eq_true rfl⟩) rfl rfl hl.1 (Nat.le_of_ble_eq_true rfl) dX4_says_2 ⟨Nat.le_refl _, Nat.le_refl _⟩ (fun r_2 M_1 H locs h hP hS => ?_)
  refine lv_if_eq (tgt := 32) hx hb dX4_says_5 (by decide) (fun c_3 => ?_) (fun c_3 => ?_)
  · replace h := h.1 c_3
    refine lv_iconst hx hb dX4_says_32 kc_0 ?_
    exact hret _ _ _ _ _ _ hP hS h (vz_nar vz_0) dX4_says_33
  · replace h := h.2 c_3
    refine lv_aload_n hx hb dX4_says_8 rfl (lv_at hl 0 rfl) ?_
    refine mg_r S hK hP (k := 32) (by decide) (by decide) q1452 dX4_says_9 ?_
    refine lv_iload_n hx hb dX4_says_12 rfl (lv_at hl 1 rfl) ?_
    obtain ⟨hi, h⟩ := h
    refine ml_a S hK hP (k := 32) af_32 rfl hi dX4_says_13 ?_
    refine lv_iload_n hx hb dX4_says_14 rfl (lv_at hl 2 rfl) ?_
    refine lv_icmp_ne (tgt := 32) hx hb dX4_says_15 (by decide) (fun c_4 => ?_) (fun c_4 => ?_)
    · replace h := h.2 c_4
      refine lv_iconst hx hb dX4_says_32 kc_0 ?_
      exact hret _ _ _ _ _ _ hP hS h (vz_nar vz_0) dX4_says_33
    · replace h := h.1 c_4
      refine lv_aload_n hx hb dX4_says_18 rfl (lv_at hl 0 rfl) ?_
      refine mg_r S hK hP (k := 34) (by decide) (by decide) q1454 dX4_says_19 ?_
      refine lv_iload_n hx hb dX4_says_22 rfl (lv_at hl 1 rfl) ?_
      obtain ⟨hi, h⟩ := h
      refine ml_a S hK hP (k := 34) af_34 rfl hi dX4_says_23 ?_
      refine lv_iload_n hx hb dX4_says_24 rfl (lv_at hl 3 rfl) ?_
      refine lv_icmp_ne (tgt := 32) hx hb dX4_says_25 (by decide) (fun c_5 => ?_) (fun c_5 => ?_)
      · replace h := h.2 c_5
        refine lv_iconst hx hb dX4_says_32 kc_0 ?_
        exact hret _ _ _ _ _ _ hP hS h (vz_nar vz_0) dX4_says_33
      · replace h := h.1 c_5
        refine lv_iconst hx hb dX4_says_28 kc_1 ?_
        refine lv_goto (tgt := 33) hx hb dX4_says_29 (by decide) ?_
        exact hret _ _ _ _ _ _ hP hS h (vz_nar vz_1) dX4_says_33
def w4_isFirst_l2 (a1 : Int32) (Post : Int32 → MS → Prop) : Nat → Int32 → MS → Prop
  | 0, _, _ => False
  | n + 1, x2, M => (a1 ≤ x2 → (Post (1 : Int32) M)) ∧ (¬ (a1 ≤ x2) → ((vp_in a1 (mN 32) ∧ (vp_in a1 (mN 34) ∧ w4_says x2 (ma M 32 (Int32.toNatClampNeg a1)) (ma M 34 (Int32.toNatClampNeg a1)) M (fun r_3 M_2 => (r_3 = 0 → (∀ v_5 : Int32, v_5 = x2 + (1 : Int32) → w4_isFirst_l2 a1 Post n v_5 M_2)) ∧ (¬ (r_3 = 0) → (Post (0 : Int32) M_2)))))))
def w4_isFirst (a1 : Int32) (M : MS) (Post : Int32 → MS → Prop) : Prop := ∃ f, w4_isFirst_l2 a1 Post f (0 : Int32) M
abbrev rX4_isFirst : Room := { frames := 3, cells := 0, slots := 0, locals := 65 }
theorem cdX4_isFirst : yX4_isFirst.cls = RX4 ∧ yX4_isFirst.cls ≠ "java/lang/invoke/MethodHandle" ∧ yX4_isFirst.cls ≠ "java/lang/invoke/VarHandle" ∧ (parseMethodDescriptor yX4_isFirst.desc).map (fun d => d.parameters.length) = some 1 := by decide +kernel
set_option maxHeartbeats 4000000 in
set_option maxRecDepth 100000 in
theorem mt4_isFirst (l : Launch) {D : va_G} {cA : Nat → ClassId} {m0 : Nat} {ad : Nat → Nat} (hA : mAd m0 ad) (a1 : Int32) (M : MS) (Post : Int32 → MS → Prop) (h : w4_isFirst a1 M Post) : Met l yX4_isFirst (ws_ yX4_isFirst cX4_isFirst 3 (some .boolean)) rX4_isFirst (mPc [.ref m0, .int a1] D cA m0 ad M) (va_Qi Post (mB D cA m0 ad) (mF m0 ad)) 0 0 (mF m0 ad) := by
  refine mst_i (own := RX4) (by decide) rfl (Nat.le_of_ble_eq_true rfl) ?_
  intro p e s m args below meth c Q ls S hK hP hS hl hret
  have hx := S.1
  have hb := S.2.1
  have hl : lv_has ls 3 [(0, .ref m0), (1, .int a1)] := hl
  have L2 : ∀ (n : Nat) (x2 : Int32) (M : MS) (H : Heap) (locs : List Loc) (ls : Array Slot), va_P D vwCl (mo cA m0 ad M) H → va_S (mF m0 ad) s.heap H locs → lv_has ls 3 [(0, .ref m0), (1, .int a1), (2, .int x2)] → w4_isFirst_l2 a1 Post n x2 M → W p l e rX4_isFirst s m args below meth c H locs 0 0 Q (F0 m 2 ls []) := by
    intro n
    induction n with
    | zero => intro x2 M H locs ls hP hS hl h; rw [w4_isFirst_l2] at h; exact h.elim
    | succ n ih =>
      intro x2 M H locs ls hP hS hl h
      rw [w4_isFirst_l2] at h
      refine lv_iload_n hx hb dX4_isFirst_2 rfl (lv_at hl 2 rfl) ?_
      refine lv_iload_n hx hb dX4_isFirst_3 rfl (lv_at hl 1 rfl) ?_
      refine lv_icmp_ge (tgt := 35) hx hb dX4_isFirst_4 (by decide) (fun c_1 => ?_) (fun c_1 => ?_)
      · replace h := h.1 c_1
        refine lv_iconst hx hb dX4_isFirst_35 kc_1 ?_
        exact hret _ _ _ _ _ _ hP hS h (vz_nar vz_1) dX4_isFirst_36
      · replace h := h.2 c_1
        refine lv_aload_n hx hb dX4_isFirst_7 rfl (lv_at hl 0 rfl) ?_
        refine lv_iload_n hx hb dX4_isFirst_8 rfl (lv_at hl 2 rfl) ?_
        refine lv_aload_n hx hb dX4_isFirst_9 rfl (lv_at hl 0 rfl) ?_
        refine mg_r S hK hP (k := 32) (by decide) (by decide) q1452 dX4_isFirst_10 ?_
        refine lv_iload_n hx hb dX4_isFirst_13 rfl (lv_at hl 1 rfl) ?_
        obtain ⟨hi, h⟩ := h
        refine ml_a S hK hP (k := 32) af_32 rfl hi dX4_isFirst_14 ?_
        refine lv_aload_n hx hb dX4_isFirst_15 rfl (lv_at hl 0 rfl) ?_
        refine mg_r S hK hP (k := 34) (by decide) (by decide) q1454 dX4_isFirst_16 ?_
        refine lv_iload_n hx hb dX4_isFirst_19 rfl (lv_at hl 1 rfl) ?_
        obtain ⟨hi, h⟩ := h
        refine ml_a S hK hP (k := 34) af_34 rfl hi dX4_isFirst_20 ?_
        refine mc_i S hK hP hS (As := [.int x2, .int (ma M 32 (Int32.toNatClampNeg a1)), .int (ma M 34 (Int32.toNatClampNeg a1))]) (rest := []) (mt4_says l hA x2 (ma M 32 (Int32.toNatClampNeg a1)) (ma M 34 (Int32.toNatClampNeg a1)) M _ h) (cwV 3 S.2.2.2.2 (lw_V q1825 q1827 qs102 q145 q1828) rfl rfl rfl cdX4_says ⟨Nat.le_of_ble_eq_true rfl, Nat.le_of_ble_eq_true rfl⟩) rfl rfl hl.1 (Nat.le_of_ble_eq_true rfl) dX4_isFirst_21 ⟨Nat.le_refl _, Nat.le_refl _⟩ (fun r_3 M_2 H locs h hP hS => ?_)
        refine lv_if_eq (tgt := 29) hx hb dX4_isFirst_24 (by decide) (fun c_4 => ?_) (fun c_4 => ?_)
        · replace h := h.1 c_4
          obtain ⟨v_5, e_v_5⟩ : ∃ y : Int32, y = x2 + (1 : Int32) := ⟨_, rfl⟩
          replace h := h v_5 e_v_5
          refine lv_iinc (v := v_5) (lv' := [(2, .int v_5), (0, .ref m0), (1, .int a1)]) hx hb dX4_isFirst_29 hl (k := 2) rfl (by rw [kc_1, e_v_5]) (by decide) rfl (fun ls hl => ?_)
          refine lv_goto (tgt := 2) hx hb dX4_isFirst_32 (by decide) ?_
          exact ih _ _ _ _ _ hP hS (lv_sub hl [1, 2, 0] rfl) h
        · replace h := h.2 c_4
          refine lv_iconst hx hb dX4_isFirst_27 kc_0 ?_
          exact hret _ _ _ _ _ _ hP hS h (vz_nar vz_0) dX4_isFirst_28
  unfold w4_isFirst at h
  refine lv_iconst hx hb dX4_isFirst_0 kc_0 ?_
  refine lv_istore_n (lv' := [(2, .int (0 : Int32)), (0, .ref m0), (1, .int a1)]) hx hb dX4_isFirst_1 rfl hl (by decide) rfl (fun ls hl => ?_)
  obtain ⟨f, h⟩ := h
  exact L2 f _ _ _ _ _ hP hS (lv_sub hl [1, 2, 0] rfl) h
def w4_asks (a1 : Int32) (a2 : Int32) (M : MS) (Post : Int32 → MS → Prop) : Prop := w4_isHeard a1 M (fun r_2 M_1 => (r_2 = 0 → (Post (0 : Int32) M_1)) ∧ (¬ (r_2 = 0) → ((vp_in a1 (mN 31) ∧ ((ma M_1 31 (Int32.toNatClampNeg a1)) = 0 → ((vp_in a1 (mN 32) ∧ ((ma M_1 32 (Int32.toNatClampNeg a1)) = a2 → (Post (1 : Int32) M_1)) ∧ (¬ ((ma M_1 32 (Int32.toNatClampNeg a1)) = a2) → (Post (0 : Int32) M_1))))) ∧ (¬ ((ma M_1 31 (Int32.toNatClampNeg a1)) = 0) → (Post (0 : Int32) M_1))))))
abbrev rX4_asks : Room := { frames := 1, cells := 0, slots := 0, locals := 21 }
theorem cdX4_asks : yX4_asks.cls = RX4 ∧ yX4_asks.cls ≠ "java/lang/invoke/MethodHandle" ∧ yX4_asks.cls ≠ "java/lang/invoke/VarHandle" ∧ (parseMethodDescriptor yX4_asks.desc).map (fun d => d.parameters.length) = some 2 := by decide +kernel
set_option maxHeartbeats 4000000 in
set_option maxRecDepth 100000 in
theorem mt4_asks (l : Launch) {D : va_G} {cA : Nat → ClassId} {m0 : Nat} {ad : Nat → Nat} (hA : mAd m0 ad) (a1 : Int32) (a2 : Int32) (M : MS) (Post : Int32 → MS → Prop) (h : w4_asks a1 a2 M Post) : Met l yX4_asks (ws_ yX4_asks cX4_asks 3 (some .boolean)) rX4_asks (mPc [.ref m0, .int a1, .int a2] D cA m0 ad M) (va_Qi Post (mB D cA m0 ad) (mF m0 ad)) 0 0 (mF m0 ad) := by
  refine mst_i (own := RX4) (by decide) rfl (Nat.le_of_ble_eq_true rfl) ?_
  intro p e s m args below meth c Q ls S hK hP hS hl hret
  have hx := S.1
  have hb := S.2.1
  have hl : lv_has ls 3 [(0, .ref m0), (1, .int a1), (2, .int a2)] := hl
  unfold w4_asks at h
  refine lv_aload_n hx hb dX4_asks_0 rfl (lv_at hl 0 rfl) ?_
  refine lv_iload_n hx hb dX4_asks_1 rfl (lv_at hl 1 rfl) ?_
  refine mc_i S hK hP hS (As := [.int a1]) (rest := []) (mt4_isHeard l hA a1 M _ h) (cwV 1 S.2.2.2.2 (lw_V q1779 q1781 qs96 q145 q1782) rfl rfl rfl cdX4_isHeard ⟨Nat.le_of_ble_eq_true rfl, Nat.le_of_ble_eq_true rfl⟩) rfl rfl hl.1 (Nat.le_of_ble_eq_true rfl) dX4_asks_2 ⟨Nat.le_refl _, Nat.le_refl _⟩ (fun r_2 M_1 H locs h hP hS => ?_)
  refine lv_if_eq (tgt := 31) hx hb dX4_asks_5 (by decide) (fun c_3 => ?_) (fun c_3 => ?_)
  · replace h := h.1 c_3
    refine lv_iconst hx hb dX4_asks_31 kc_0 ?_
    exact hret _ _ _ _ _ _ hP hS h (vz_nar vz_0) dX4_asks_32
  · replace h := h.2 c_3
    refine lv_aload_n hx hb dX4_asks_8 rfl (lv_at hl 0 rfl) ?_
    refine mg_r S hK hP (k := 31) (by decide) (by decide) q1451 dX4_asks_9 ?_
    refine lv_iload_n hx hb dX4_asks_12 rfl (lv_at hl 1 rfl) ?_
    obtain ⟨hi, h⟩ := h
    refine ml_z S hK hP (k := 31) af_31 rfl hi dX4_asks_13 ?_
    refine lv_if_ne (tgt := 31) hx hb dX4_asks_14 (by decide) (fun c_4 => ?_) (fun c_4 => ?_)
    · replace h := h.2 c_4
      refine lv_iconst hx hb dX4_asks_31 kc_0 ?_
      exact hret _ _ _ _ _ _ hP hS h (vz_nar vz_0) dX4_asks_32
    · replace h := h.1 c_4
      refine lv_aload_n hx hb dX4_asks_17 rfl (lv_at hl 0 rfl) ?_
      refine mg_r S hK hP (k := 32) (by decide) (by decide) q1452 dX4_asks_18 ?_
      refine lv_iload_n hx hb dX4_asks_21 rfl (lv_at hl 1 rfl) ?_
      obtain ⟨hi, h⟩ := h
      refine ml_a S hK hP (k := 32) af_32 rfl hi dX4_asks_22 ?_
      refine lv_iload_n hx hb dX4_asks_23 rfl (lv_at hl 2 rfl) ?_
      refine lv_icmp_ne (tgt := 31) hx hb dX4_asks_24 (by decide) (fun c_5 => ?_) (fun c_5 => ?_)
      · replace h := h.2 c_5
        refine lv_iconst hx hb dX4_asks_31 kc_0 ?_
        exact hret _ _ _ _ _ _ hP hS h (vz_nar vz_0) dX4_asks_32
      · replace h := h.1 c_5
        refine lv_iconst hx hb dX4_asks_27 kc_1 ?_
        refine lv_goto (tgt := 32) hx hb dX4_asks_28 (by decide) ?_
        exact hret _ _ _ _ _ _ hP hS h (vz_nar vz_1) dX4_asks_32
def w4_ledBy_c58 (a1 : Int32) (k4 : Int32 → Int32 → MS → Prop) (Post : Int32 → MS → Prop) (x3 : Int32) (t0 : Int32) (M : MS) : Prop := ∀ v_5 : Int32, v_5 = x3 + (1 : Int32) → k4 t0 v_5 M
def w4_ledBy_c57 (a1 : Int32) (k4 : Int32 → Int32 → MS → Prop) (Post : Int32 → MS → Prop) (x2 : Int32) (x3 : Int32) (M : MS) : Prop := w4_ledBy_c58 a1 k4 Post x3 x2 M
def w4_ledBy_l4 (a1 : Int32) (Post : Int32 → MS → Prop) : Nat → Int32 → Int32 → MS → Prop
  | 0, _, _, _ => False
  | n + 1, x2, x3, M => (a1 ≤ x3 → (Post x2 M)) ∧ (¬ (a1 ≤ x3) → ((vp_in a1 (mN 32) ∧ w4_asks x3 (ma M 32 (Int32.toNatClampNeg a1)) M (fun r_3 M_2 => (r_3 = 0 → (w4_ledBy_c57 a1 (w4_ledBy_l4 a1 Post n) Post x2 x3 M_2)) ∧ (¬ (r_3 = 0) → ((vp_in x3 (mN 34) ∧ (vp_in a1 (mN 34) ∧ ((ma M_2 34 (Int32.toNatClampNeg x3)) = (ma M_2 34 (Int32.toNatClampNeg a1)) → ((vp_in x3 (mN 35) ∧ (vp_in a1 (mN 35) ∧ ((ma M_2 35 (Int32.toNatClampNeg x3)) = (ma M_2 35 (Int32.toNatClampNeg a1)) → (w4_ledBy_c58 a1 (w4_ledBy_l4 a1 Post n) Post x3 x3 M_2)) ∧ (¬ ((ma M_2 35 (Int32.toNatClampNeg x3)) = (ma M_2 35 (Int32.toNatClampNeg a1))) → (w4_ledBy_c57 a1 (w4_ledBy_l4 a1 Post n) Post x2 x3 M_2)))))) ∧ (¬ ((ma M_2 34 (Int32.toNatClampNeg x3)) = (ma M_2 34 (Int32.toNatClampNeg a1))) → (w4_ledBy_c57 a1 (w4_ledBy_l4 a1 Post n) Post x2 x3 M_2))))))))))
def w4_ledBy (a1 : Int32) (M : MS) (Post : Int32 → MS → Prop) : Prop := ∃ f, w4_ledBy_l4 a1 Post f (-1 : Int32) (0 : Int32) M
abbrev rX4_ledBy : Room := { frames := 2, cells := 0, slots := 0, locals := 43 }
theorem cdX4_ledBy : yX4_ledBy.cls = RX4 ∧ yX4_ledBy.cls ≠ "java/lang/invoke/MethodHandle" ∧ yX4_ledBy.cls ≠ "java/lang/invoke/VarHandle" ∧ (parseMethodDescriptor yX4_ledBy.desc).map (fun d => d.parameters.length) = some 1 := by decide +kernel
set_option maxHeartbeats 4000000 in
set_option maxRecDepth 100000 in
theorem mt4_ledBy (l : Launch) {D : va_G} {cA : Nat → ClassId} {m0 : Nat} {ad : Nat → Nat} (hA : mAd m0 ad) (a1 : Int32) (M : MS) (Post : Int32 → MS → Prop) (h : w4_ledBy a1 M Post) : Met l yX4_ledBy (ws_ yX4_ledBy cX4_ledBy 4 (some .int)) rX4_ledBy (mPc [.ref m0, .int a1] D cA m0 ad M) (va_Qi Post (mB D cA m0 ad) (mF m0 ad)) 0 0 (mF m0 ad) := by
  refine mst_i (own := RX4) (by decide) rfl (Nat.le_of_ble_eq_true rfl) ?_
  intro p e s m args below meth c Q ls S hK hP hS hl hret
  have hx := S.1
  have hb := S.2.1
  have hl : lv_has ls 4 [(0, .ref m0), (1, .int a1)] := hl
  have C58 : ∀ (k4 : Int32 → Int32 → MS → Prop) (K4 : (∀ (x2 : Int32) (x3 : Int32) (M : MS) (H : Heap) (locs : List Loc) (ls : Array Slot), va_P D vwCl (mo cA m0 ad M) H → va_S (mF m0 ad) s.heap H locs → lv_has ls 4 [(0, .ref m0), (1, .int a1), (2, .int x2), (3, .int x3)] → k4 x2 x3 M → W p l e rX4_ledBy s m args below meth c H locs 0 0 Q (F0 m 4 ls []))), ∀ (x3 : Int32) (t0 : Int32) (M : MS) (H : Heap) (locs : List Loc) (ls : Array Slot), va_P D vwCl (mo cA m0 ad M) H → va_S (mF m0 ad) s.heap H locs → lv_has ls 4 [(0, .ref m0), (1, .int a1), (3, .int x3)] → w4_ledBy_c58 a1 k4 Post x3 t0 M → W p l e rX4_ledBy s m args below meth c H locs 0 0 Q (F0 m 58 ls [.int t0]) := by
    intro k4 K4
    intro x3 t0 M H locs ls hP hS hl h
    unfold w4_ledBy_c58 at h
    refine lv_istore_n (lv' := [(2, .int t0), (0, .ref m0), (1, .int a1), (3, .int x3)]) hx hb dX4_ledBy_58 rfl hl (by decide) rfl (fun ls hl => ?_)
    obtain ⟨v_5, e_v_5⟩ : ∃ y : Int32, y = x3 + (1 : Int32) := ⟨_, rfl⟩
    replace h := h v_5 e_v_5
    refine lv_iinc (v := v_5) (lv' := [(3, .int v_5), (2, .int t0), (0, .ref m0), (1, .int a1)]) hx hb dX4_ledBy_59 hl (k := 3) rfl (by rw [kc_1, e_v_5]) (by decide) rfl (fun ls hl => ?_)
    refine lv_goto (tgt := 4) hx hb dX4_ledBy_62 (by decide) ?_
    exact K4 _ _ _ _ _ _ hP hS (lv_sub hl [2, 3, 1, 0] rfl) h
  have C57 : ∀ (k4 : Int32 → Int32 → MS → Prop) (K4 : (∀ (x2 : Int32) (x3 : Int32) (M : MS) (H : Heap) (locs : List Loc) (ls : Array Slot), va_P D vwCl (mo cA m0 ad M) H → va_S (mF m0 ad) s.heap H locs → lv_has ls 4 [(0, .ref m0), (1, .int a1), (2, .int x2), (3, .int x3)] → k4 x2 x3 M → W p l e rX4_ledBy s m args below meth c H locs 0 0 Q (F0 m 4 ls []))), ∀ (x2 : Int32) (x3 : Int32) (M : MS) (H : Heap) (locs : List Loc) (ls : Array Slot), va_P D vwCl (mo cA m0 ad M) H → va_S (mF m0 ad) s.heap H locs → lv_has ls 4 [(0, .ref m0), (1, .int a1), (2, .int x2), (3, .int x3)] → w4_ledBy_c57 a1 k4 Post x2 x3 M → W p l e rX4_ledBy s m args below meth c H locs 0 0 Q (F0 m 57 ls []) := by
    intro k4 K4
    intro x2 x3 M H locs ls hP hS hl h
    unfold w4_ledBy_c57 at h
    refine lv_iload_n hx hb dX4_ledBy_57 rfl (lv_at hl 2 rfl) ?_
    exact C58 _ K4 _ _ _ _ _ _ hP hS (lv_sub hl [0, 1, 3] rfl) h
  have L4 : ∀ (n : Nat) (x2 : Int32) (x3 : Int32) (M : MS) (H : Heap) (locs : List Loc) (ls : Array Slot), va_P D vwCl (mo cA m0 ad M) H → va_S (mF m0 ad) s.heap H locs → lv_has ls 4 [(0, .ref m0), (1, .int a1), (2, .int x2), (3, .int x3)] → w4_ledBy_l4 a1 Post n x2 x3 M → W p l e rX4_ledBy s m args below meth c H locs 0 0 Q (F0 m 4 ls []) := by
    intro n
    induction n with
    | zero => intro x2 x3 M H locs ls hP hS hl h; rw [w4_ledBy_l4] at h; exact h.elim
    | succ n ih =>
      intro x2 x3 M H locs ls hP hS hl h
      rw [w4_ledBy_l4] at h
      refine lv_iload_n hx hb dX4_ledBy_4 rfl (lv_at hl 3 rfl) ?_
      refine lv_iload_n hx hb dX4_ledBy_5 rfl (lv_at hl 1 rfl) ?_
      refine lv_icmp_ge (tgt := 65) hx hb dX4_ledBy_6 (by decide) (fun c_1 => ?_) (fun c_1 => ?_)
      · replace h := h.1 c_1
        refine lv_iload_n hx hb dX4_ledBy_65 rfl (lv_at hl 2 rfl) ?_
        exact hret _ _ _ _ _ _ hP hS h rfl dX4_ledBy_66
      · replace h := h.2 c_1
        refine lv_aload_n hx hb dX4_ledBy_9 rfl (lv_at hl 0 rfl) ?_
        refine lv_iload_n hx hb dX4_ledBy_10 rfl (lv_at hl 3 rfl) ?_
        refine lv_aload_n hx hb dX4_ledBy_11 rfl (lv_at hl 0 rfl) ?_
        refine mg_r S hK hP (k := 32) (by decide) (by decide) q1452 dX4_ledBy_12 ?_
        refine lv_iload_n hx hb dX4_ledBy_15 rfl (lv_at hl 1 rfl) ?_
        obtain ⟨hi, h⟩ := h
        refine ml_a S hK hP (k := 32) af_32 rfl hi dX4_ledBy_16 ?_
        refine mc_i S hK hP hS (As := [.int x3, .int (ma M 32 (Int32.toNatClampNeg a1))]) (rest := []) (mt4_asks l hA x3 (ma M 32 (Int32.toNatClampNeg a1)) M _ h) (cwV 2 S.2.2.2.2 (lw_V q1833 q1835 qs104 q145 q1836) rfl rfl rfl cdX4_asks ⟨Nat.le_of_ble_eq_true rfl, Nat.le_of_ble_eq_true rfl⟩) rfl rfl hl.1 (Nat.le_of_ble_eq_true rfl) dX4_ledBy_17 ⟨Nat.le_refl _, Nat.le_refl _⟩ (fun r_3 M_2 H locs h hP hS => ?_)
        refine lv_if_eq (tgt := 57) hx hb dX4_ledBy_20 (by decide) (fun c_4 => ?_) (fun c_4 => ?_)
        · replace h := h.1 c_4
          exact C57 _ ih _ _ _ _ _ _ hP hS (lv_sub hl [0, 1, 2, 3] rfl) h
        · replace h := h.2 c_4
          refine lv_aload_n hx hb dX4_ledBy_23 rfl (lv_at hl 0 rfl) ?_
          refine mg_r S hK hP (k := 34) (by decide) (by decide) q1454 dX4_ledBy_24 ?_
          refine lv_iload_n hx hb dX4_ledBy_27 rfl (lv_at hl 3 rfl) ?_
          obtain ⟨hi, h⟩ := h
          refine ml_a S hK hP (k := 34) af_34 rfl hi dX4_ledBy_28 ?_
          refine lv_aload_n hx hb dX4_ledBy_29 rfl (lv_at hl 0 rfl) ?_
          refine mg_r S hK hP (k := 34) (by decide) (by decide) q1454 dX4_ledBy_30 ?_
          refine lv_iload_n hx hb dX4_ledBy_33 rfl (lv_at hl 1 rfl) ?_
          obtain ⟨hi, h⟩ := h
          refine ml_a S hK hP (k := 34) af_34 rfl hi dX4_ledBy_34 ?_
          refine lv_icmp_ne (tgt := 57) hx hb dX4_ledBy_35 (by decide) (fun c_6 => ?_) (fun c_6 => ?_)
          · replace h := h.2 c_6
            exact C57 _ ih _ _ _ _ _ _ hP hS (lv_sub hl [0, 1, 2, 3] rfl) h
          · replace h := h.1 c_6
            refine lv_aload_n hx hb dX4_ledBy_38 rfl (lv_at hl 0 rfl) ?_
            refine mg_r S hK hP (k := 35) (by decide) (by decide) q1455 dX4_ledBy_39 ?_
            refine lv_iload_n hx hb dX4_ledBy_42 rfl (lv_at hl 3 rfl) ?_
            obtain ⟨hi, h⟩ := h
            refine ml_a S hK hP (k := 35) af_35 rfl hi dX4_ledBy_43 ?_
            refine lv_aload_n hx hb dX4_ledBy_44 rfl (lv_at hl 0 rfl) ?_
            refine mg_r S hK hP (k := 35) (by decide) (by decide) q1455 dX4_ledBy_45 ?_
            refine lv_iload_n hx hb dX4_ledBy_48 rfl (lv_at hl 1 rfl) ?_
            obtain ⟨hi, h⟩ := h
            refine ml_a S hK hP (k := 35) af_35 rfl hi dX4_ledBy_49 ?_
            refine lv_icmp_ne (tgt := 57) hx hb dX4_ledBy_50 (by decide) (fun c_7 => ?_) (fun c_7 => ?_)
            · replace h := h.2 c_7
              exact C57 _ ih _ _ _ _ _ _ hP hS (lv_sub hl [0, 1, 2, 3] rfl) h
            · replace h := h.1 c_7
              refine lv_iload_n hx hb dX4_ledBy_53 rfl (lv_at hl 3 rfl) ?_
              refine lv_goto (tgt := 58) hx hb dX4_ledBy_54 (by decide) ?_
              exact C58 _ ih _ _ _ _ _ _ hP hS (lv_sub hl [0, 1, 3] rfl) h
  unfold w4_ledBy at h
  refine lv_iconst hx hb dX4_ledBy_0 kc_m1 ?_
  refine lv_istore_n (lv' := [(2, .int (-1 : Int32)), (0, .ref m0), (1, .int a1)]) hx hb dX4_ledBy_1 rfl hl (by decide) rfl (fun ls hl => ?_)
  refine lv_iconst hx hb dX4_ledBy_2 kc_0 ?_
  refine lv_istore_n (lv' := [(3, .int (0 : Int32)), (2, .int (-1 : Int32)), (0, .ref m0), (1, .int a1)]) hx hb dX4_ledBy_3 rfl hl (by decide) rfl (fun ls hl => ?_)
  obtain ⟨f, h⟩ := h
  exact L4 f _ _ _ _ _ _ hP hS (lv_sub hl [2, 3, 1, 0] rfl) h
def w4_latestOff (a1 : Int32) (a2 : Int32) (M : MS) (Post : Int32 → MS → Prop) : Prop := (vp_in a1 (mN 30) ∧ ((ma M 30 (Int32.toNatClampNeg a1)) < 0 → (Post a2 M)) ∧ (¬ ((ma M 30 (Int32.toNatClampNeg a1)) < 0) → ((vp_in a1 (mN 30) ∧ (a2 ≤ ((ma M 30 (Int32.toNatClampNeg a1)) - (1 : Int32)) → (Post a2 M)) ∧ (¬ (a2 ≤ ((ma M 30 (Int32.toNatClampNeg a1)) - (1 : Int32))) → ((vp_in a1 (mN 30) ∧ Post ((ma M 30 (Int32.toNatClampNeg a1)) - (1 : Int32)) M)))))))
abbrev rX4_latestOff : Room := { frames := 0, cells := 0, slots := 0, locals := 0 }
theorem cdX4_latestOff : yX4_latestOff.cls = RX4 ∧ yX4_latestOff.cls ≠ "java/lang/invoke/MethodHandle" ∧ yX4_latestOff.cls ≠ "java/lang/invoke/VarHandle" ∧ (parseMethodDescriptor yX4_latestOff.desc).map (fun d => d.parameters.length) = some 2 := by decide +kernel
set_option maxHeartbeats 4000000 in
set_option maxRecDepth 100000 in
theorem mt4_latestOff (l : Launch) {D : va_G} {cA : Nat → ClassId} {m0 : Nat} {ad : Nat → Nat} (hA : mAd m0 ad) (a1 : Int32) (a2 : Int32) (M : MS) (Post : Int32 → MS → Prop) (h : w4_latestOff a1 a2 M Post) : Met l yX4_latestOff (ws_ yX4_latestOff cX4_latestOff 3 (some .int)) rX4_latestOff (mPc [.ref m0, .int a1, .int a2] D cA m0 ad M) (va_Qi Post (mB D cA m0 ad) (mF m0 ad)) 0 0 (mF m0 ad) := by
  refine mst_i (own := RX4) (by decide) rfl (Nat.le_of_ble_eq_true rfl) ?_
  intro p e s m args below meth c Q ls S hK hP hS hl hret
  have hx := S.1
  have hb := S.2.1
  have hl : lv_has ls 3 [(0, .ref m0), (1, .int a1), (2, .int a2)] := hl
  unfold w4_latestOff at h
  refine lv_aload_n hx hb dX4_latestOff_0 rfl (lv_at hl 0 rfl) ?_
  refine mg_r S hK hP (k := 30) (by decide) (by decide) q1450 dX4_latestOff_1 ?_
  refine lv_iload_n hx hb dX4_latestOff_4 rfl (lv_at hl 1 rfl) ?_
  obtain ⟨hi, h⟩ := h
  refine ml_a S hK hP (k := 30) af_30 rfl hi dX4_latestOff_5 ?_
  refine lv_if_lt (tgt := 32) hx hb dX4_latestOff_6 (by decide) (fun c_1 => ?_) (fun c_1 => ?_)
  · replace h := h.1 c_1
    refine lv_iload_n hx hb dX4_latestOff_32 rfl (lv_at hl 2 rfl) ?_
    exact hret _ _ _ _ _ _ hP hS h rfl dX4_latestOff_33
  · replace h := h.2 c_1
    refine lv_aload_n hx hb dX4_latestOff_9 rfl (lv_at hl 0 rfl) ?_
    refine mg_r S hK hP (k := 30) (by decide) (by decide) q1450 dX4_latestOff_10 ?_
    refine lv_iload_n hx hb dX4_latestOff_13 rfl (lv_at hl 1 rfl) ?_
    obtain ⟨hi, h⟩ := h
    refine ml_a S hK hP (k := 30) af_30 rfl hi dX4_latestOff_14 ?_
    refine lv_iconst hx hb dX4_latestOff_15 kc_1 ?_
    refine lv_isub hx hb dX4_latestOff_16 ?_
    refine lv_iload_n hx hb dX4_latestOff_17 rfl (lv_at hl 2 rfl) ?_
    refine lv_icmp_ge (tgt := 32) hx hb dX4_latestOff_18 (by decide) (fun c_2 => ?_) (fun c_2 => ?_)
    · replace h := h.1 c_2
      refine lv_iload_n hx hb dX4_latestOff_32 rfl (lv_at hl 2 rfl) ?_
      exact hret _ _ _ _ _ _ hP hS h rfl dX4_latestOff_33
    · replace h := h.2 c_2
      refine lv_aload_n hx hb dX4_latestOff_21 rfl (lv_at hl 0 rfl) ?_
      refine mg_r S hK hP (k := 30) (by decide) (by decide) q1450 dX4_latestOff_22 ?_
      refine lv_iload_n hx hb dX4_latestOff_25 rfl (lv_at hl 1 rfl) ?_
      obtain ⟨hi, h⟩ := h
      refine ml_a S hK hP (k := 30) af_30 rfl hi dX4_latestOff_26 ?_
      refine lv_iconst hx hb dX4_latestOff_27 kc_1 ?_
      refine lv_isub hx hb dX4_latestOff_28 ?_
      refine lv_goto (tgt := 33) hx hb dX4_latestOff_29 (by decide) ?_
      exact hret _ _ _ _ _ _ hP hS h rfl dX4_latestOff_33
def w4_isOff (a1 : Int32) (M : MS) (Post : Int32 → MS → Prop) : Prop := (vp_in a1 (mN 32) ∧ (vp_in a1 (mN 33) ∧ w4_latestOff (ma M 32 (Int32.toNatClampNeg a1)) (ma M 33 (Int32.toNatClampNeg a1)) M (fun r_2 M_1 => (vp_in a1 (mN 32) ∧ (vp_in (ma M_1 32 (Int32.toNatClampNeg a1)) (mN 28) ∧ (r_2 < (ma M_1 28 (Int32.toNatClampNeg (ma M_1 32 (Int32.toNatClampNeg a1)))) → (Post (0 : Int32) M_1)) ∧ (¬ (r_2 < (ma M_1 28 (Int32.toNatClampNeg (ma M_1 32 (Int32.toNatClampNeg a1))))) → ((vp_in a1 (mN 34) ∧ (vp_in (ma M_1 34 (Int32.toNatClampNeg a1)) (mN 25) ∧ w4_had (ma M_1 25 (Int32.toNatClampNeg (ma M_1 34 (Int32.toNatClampNeg a1)))) r_2 (fun r_4 => (r_4 = 0 → (Post (0 : Int32) M_1)) ∧ (¬ (r_4 = 0) → (Post (1 : Int32) M_1))))))))))))
abbrev rX4_isOff : Room := { frames := 1, cells := 0, slots := 0, locals := 22 }
theorem cdX4_isOff : yX4_isOff.cls = RX4 ∧ yX4_isOff.cls ≠ "java/lang/invoke/MethodHandle" ∧ yX4_isOff.cls ≠ "java/lang/invoke/VarHandle" ∧ (parseMethodDescriptor yX4_isOff.desc).map (fun d => d.parameters.length) = some 1 := by decide +kernel
set_option maxHeartbeats 4000000 in
set_option maxRecDepth 100000 in
theorem mt4_isOff (l : Launch) {D : va_G} {cA : Nat → ClassId} {m0 : Nat} {ad : Nat → Nat} (hA : mAd m0 ad) (a1 : Int32) (M : MS) (Post : Int32 → MS → Prop) (h : w4_isOff a1 M Post) : Met l yX4_isOff (ws_ yX4_isOff cX4_isOff 3 (some .boolean)) rX4_isOff (mPc [.ref m0, .int a1] D cA m0 ad M) (va_Qi Post (mB D cA m0 ad) (mF m0 ad)) 0 0 (mF m0 ad) := by
  refine mst_i (own := RX4) (by decide) rfl (Nat.le_of_ble_eq_true rfl) ?_
  intro p e s m args below meth c Q ls S hK hP hS hl hret
  have hx := S.1
  have hb := S.2.1
  have hl : lv_has ls 3 [(0, .ref m0), (1, .int a1)] := hl
  unfold w4_isOff at h
  refine lv_aload_n hx hb dX4_isOff_0 rfl (lv_at hl 0 rfl) ?_
  refine lv_aload_n hx hb dX4_isOff_1 rfl (lv_at hl 0 rfl) ?_
  refine mg_r S hK hP (k := 32) (by decide) (by decide) q1452 dX4_isOff_2 ?_
  refine lv_iload_n hx hb dX4_isOff_5 rfl (lv_at hl 1 rfl) ?_
  obtain ⟨hi, h⟩ := h
  refine ml_a S hK hP (k := 32) af_32 rfl hi dX4_isOff_6 ?_
  refine lv_aload_n hx hb dX4_isOff_7 rfl (lv_at hl 0 rfl) ?_
  refine mg_r S hK hP (k := 33) (by decide) (by decide) q1453 dX4_isOff_8 ?_
  refine lv_iload_n hx hb dX4_isOff_11 rfl (lv_at hl 1 rfl) ?_
  obtain ⟨hi, h⟩ := h
  refine ml_a S hK hP (k := 33) af_33 rfl hi dX4_isOff_12 ?_
  refine mc_i S hK hP hS (As := [.int (ma M 32 (Int32.toNatClampNeg a1)), .int (ma M 33 (Int32.toNatClampNeg a1))]) (rest := []) (mt4_latestOff l hA (ma M 32 (Int32.toNatClampNeg a1)) (ma M 33 (Int32.toNatClampNeg a1)) M _ h) (cwV 2 S.2.2.2.2 (lw_V q1841 q1843 qs106 q145 q1844) rfl rfl rfl cdX4_latestOff ⟨Nat.le_of_ble_eq_true rfl, Nat.le_of_ble_eq_true rfl⟩) rfl rfl hl.1 (Nat.le_of_ble_eq_true rfl) dX4_isOff_13 ⟨Nat.le_refl _, Nat.le_refl _⟩ (fun r_2 M_1 H locs h hP hS => ?_)
  refine lv_istore_n (lv' := [(2, .int r_2), (0, .ref m0), (1, .int a1)]) hx hb dX4_isOff_16 rfl hl (by decide) rfl (fun ls hl => ?_)
  refine lv_iload_n hx hb dX4_isOff_17 rfl (lv_at hl 0 rfl) ?_
  refine lv_aload_n hx hb dX4_isOff_18 rfl (lv_at hl 1 rfl) ?_
  refine mg_r S hK hP (k := 28) (by decide) (by decide) q1448 dX4_isOff_19 ?_
  refine lv_aload_n hx hb dX4_isOff_22 rfl (lv_at hl 1 rfl) ?_
  refine mg_r S hK hP (k := 32) (by decide) (by decide) q1452 dX4_isOff_23 ?_
  refine lv_iload_n hx hb dX4_isOff_26 rfl (lv_at hl 2 rfl) ?_
  obtain ⟨hi, h⟩ := h
  refine ml_a S hK hP (k := 32) af_32 rfl hi dX4_isOff_27 ?_
  obtain ⟨hi, h⟩ := h
  refine ml_a S hK hP (k := 28) af_28 rfl hi dX4_isOff_28 ?_
  refine lv_icmp_lt (tgt := 54) hx hb dX4_isOff_29 (by decide) (fun c_3 => ?_) (fun c_3 => ?_)
  · replace h := h.1 c_3
    refine lv_iconst hx hb dX4_isOff_54 kc_0 ?_
    exact hret _ _ _ _ _ _ hP hS h (vz_nar vz_0) dX4_isOff_55
  · replace h := h.2 c_3
    refine lv_aload_n hx hb dX4_isOff_32 rfl (lv_at hl 1 rfl) ?_
    refine mg_r S hK hP (k := 25) (by decide) (by decide) q1445 dX4_isOff_33 ?_
    refine lv_aload_n hx hb dX4_isOff_36 rfl (lv_at hl 1 rfl) ?_
    refine mg_r S hK hP (k := 34) (by decide) (by decide) q1454 dX4_isOff_37 ?_
    refine lv_iload_n hx hb dX4_isOff_40 rfl (lv_at hl 2 rfl) ?_
    obtain ⟨hi, h⟩ := h
    refine ml_a S hK hP (k := 34) af_34 rfl hi dX4_isOff_41 ?_
    obtain ⟨hi, h⟩ := h
    refine ml_a S hK hP (k := 25) af_25 rfl hi dX4_isOff_42 ?_
    refine lv_iload_n hx hb dX4_isOff_43 rfl (lv_at hl 0 rfl) ?_
    refine sc_i S (As := [.int (ma M_1 25 (Int32.toNatClampNeg (ma M_1 34 (Int32.toNatClampNeg a1)))), .int r_2]) (rest := []) (mt4_had l (ma M_1 25 (Int32.toNatClampNeg (ma M_1 34 (Int32.toNatClampNeg a1)))) r_2 _ h) (va_cwS 2 S.2.2.2.2 (lw_S q1818 q1819 q145 q1820) rfl rfl rfl cdX4_had ⟨Nat.le_of_ble_eq_true rfl, Nat.le_of_ble_eq_true rfl⟩) rfl rfl hl.1 (Nat.le_of_ble_eq_true rfl) dX4_isOff_44 ⟨Nat.le_refl _, Nat.le_refl _⟩ (fun r_4 h => ?_)
    refine lv_if_eq (tgt := 54) hx hb dX4_isOff_47 (by decide) (fun c_5 => ?_) (fun c_5 => ?_)
    · replace h := h.1 c_5
      refine lv_iconst hx hb dX4_isOff_54 kc_0 ?_
      exact hret _ _ _ _ _ _ hP hS h (vz_nar vz_0) dX4_isOff_55
    · replace h := h.2 c_5
      refine lv_iconst hx hb dX4_isOff_50 kc_1 ?_
      refine lv_goto (tgt := 55) hx hb dX4_isOff_51 (by decide) ?_
      exact hret _ _ _ _ _ _ hP hS h (vz_nar vz_1) dX4_isOff_55
def w4_whatIs_c214 (a1 : Int32) (Post : Int32 → MS → Prop) (x10 : Int32) (t0 : Int32) (t1 : Int32) (M : MS) : Prop := (x10 = 0 → (Post ((t1 ||| t0) ||| (0 : Int32)) M)) ∧ (¬ (x10 = 0) → (Post ((t1 ||| t0) ||| (64 : Int32)) M))
def w4_whatIs_c202 (a1 : Int32) (Post : Int32 → MS → Prop) (x9 : Int32) (x10 : Int32) (t0 : Int32) (t1 : Int32) (M : MS) : Prop := (x9 = 0 → (w4_whatIs_c214 a1 Post x10 (0 : Int32) (t1 ||| t0) M)) ∧ (¬ (x9 = 0) → (w4_whatIs_c214 a1 Post x10 (32 : Int32) (t1 ||| t0) M))
def w4_whatIs_c190 (a1 : Int32) (Post : Int32 → MS → Prop) (x8 : Int32) (x9 : Int32) (x10 : Int32) (t0 : Int32) (t1 : Int32) (M : MS) : Prop := (x8 = 0 → (w4_whatIs_c202 a1 Post x9 x10 (0 : Int32) (t1 ||| t0) M)) ∧ (¬ (x8 = 0) → (w4_whatIs_c202 a1 Post x9 x10 (16 : Int32) (t1 ||| t0) M))
def w4_whatIs_c178 (a1 : Int32) (Post : Int32 → MS → Prop) (x7 : Int32) (x8 : Int32) (x9 : Int32) (x10 : Int32) (t0 : Int32) (t1 : Int32) (M : MS) : Prop := (x7 = 0 → (w4_whatIs_c190 a1 Post x8 x9 x10 (0 : Int32) (t1 ||| t0) M)) ∧ (¬ (x7 = 0) → (w4_whatIs_c190 a1 Post x8 x9 x10 (8 : Int32) (t1 ||| t0) M))
def w4_whatIs_c167 (a1 : Int32) (Post : Int32 → MS → Prop) (x6 : Int32) (x7 : Int32) (x8 : Int32) (x9 : Int32) (x10 : Int32) (t0 : Int32) (t1 : Int32) (M : MS) : Prop := (x6 = 0 → (w4_whatIs_c178 a1 Post x7 x8 x9 x10 (0 : Int32) (t1 ||| t0) M)) ∧ (¬ (x6 = 0) → (w4_whatIs_c178 a1 Post x7 x8 x9 x10 (4 : Int32) (t1 ||| t0) M))
def w4_whatIs_c157 (a1 : Int32) (Post : Int32 → MS → Prop) (x5 : Int32) (x6 : Int32) (x7 : Int32) (x8 : Int32) (x9 : Int32) (x10 : Int32) (t0 : Int32) (M : MS) : Prop := (x5 = 0 → (w4_whatIs_c167 a1 Post x6 x7 x8 x9 x10 (0 : Int32) t0 M)) ∧ (¬ (x5 = 0) → (w4_whatIs_c167 a1 Post x6 x7 x8 x9 x10 (2 : Int32) t0 M))
def w4_whatIs_c146 (a1 : Int32) (Post : Int32 → MS → Prop) (x3 : Int32) (x5 : Int32) (x6 : Int32) (x7 : Int32) (x8 : Int32) (x9 : Int32) (t0 : Int32) (M : MS) : Prop := (x3 = 0 → (w4_whatIs_c157 a1 Post x5 x6 x7 x8 x9 t0 (0 : Int32) M)) ∧ (¬ (x3 = 0) → (w4_whatIs_c157 a1 Post x5 x6 x7 x8 x9 t0 (1 : Int32) M))
def w4_whatIs_c145 (a1 : Int32) (Post : Int32 → MS → Prop) (x3 : Int32) (x5 : Int32) (x6 : Int32) (x7 : Int32) (x8 : Int32) (x9 : Int32) (M : MS) : Prop := w4_whatIs_c146 a1 Post x3 x5 x6 x7 x8 x9 (0 : Int32) M
def w4_whatIs_c119 (a1 : Int32) (Post : Int32 → MS → Prop) (x3 : Int32) (x5 : Int32) (x6 : Int32) (x7 : Int32) (x8 : Int32) (t0 : Int32) (M : MS) : Prop := (x5 = 0 → (w4_whatIs_c145 a1 Post x3 x5 x6 x7 x8 t0 M)) ∧ (¬ (x5 = 0) → ((x6 = 0 → ((x7 = 0 → ((x8 = 0 → (w4_whatIs_c146 a1 Post x3 x5 x6 x7 x8 t0 (1 : Int32) M)) ∧ (¬ (x8 = 0) → (w4_whatIs_c145 a1 Post x3 x5 x6 x7 x8 t0 M)))) ∧ (¬ (x7 = 0) → (w4_whatIs_c145 a1 Post x3 x5 x6 x7 x8 t0 M)))) ∧ (¬ (x6 = 0) → (w4_whatIs_c145 a1 Post x3 x5 x6 x7 x8 t0 M))))
def w4_whatIs_c118 (a1 : Int32) (Post : Int32 → MS → Prop) (x3 : Int32) (x5 : Int32) (x6 : Int32) (x7 : Int32) (x8 : Int32) (M : MS) : Prop := w4_whatIs_c119 a1 Post x3 x5 x6 x7 x8 (0 : Int32) M
def w4_whatIs_c85 (a1 : Int32) (Post : Int32 → MS → Prop) (x2 : Int32) (x3 : Int32) (x4 : Int32) (x5 : Int32) (x6 : Int32) (x7 : Int32) (t0 : Int32) (M : MS) : Prop := (x3 = 0 → (w4_whatIs_c118 a1 Post x3 x5 x6 x7 t0 M)) ∧ (¬ (x3 = 0) → ((x4 = 0 → ((vp_in x2 (mN 25) ∧ (vp_in a1 (mN 33) ∧ w4_had (ma M 25 (Int32.toNatClampNeg x2)) (ma M 33 (Int32.toNatClampNeg a1)) (fun r_25 => (r_25 = 0 → (w4_whatIs_c119 a1 Post x3 x5 x6 x7 t0 (1 : Int32) M)) ∧ (¬ (r_25 = 0) → (w4_whatIs_c118 a1 Post x3 x5 x6 x7 t0 M))))))) ∧ (¬ (x4 = 0) → (w4_whatIs_c118 a1 Post x3 x5 x6 x7 t0 M))))
def w4_whatIs_c84 (a1 : Int32) (Post : Int32 → MS → Prop) (x2 : Int32) (x3 : Int32) (x4 : Int32) (x5 : Int32) (x6 : Int32) (x7 : Int32) (M : MS) : Prop := w4_whatIs_c85 a1 Post x2 x3 x4 x5 x6 x7 (0 : Int32) M
def w4_whatIs_c66 (a1 : Int32) (Post : Int32 → MS → Prop) (x2 : Int32) (x3 : Int32) (x4 : Int32) (x5 : Int32) (x6 : Int32) (t0 : Int32) (M : MS) : Prop := (x3 = 0 → (w4_whatIs_c84 a1 Post x2 x3 x4 x5 x6 t0 M)) ∧ (¬ (x3 = 0) → (w4_isOff a1 M (fun r_28 M_27 => (r_28 = 0 → (w4_whatIs_c84 a1 Post x2 x3 x4 x5 x6 t0 M_27)) ∧ (¬ (r_28 = 0) → (w4_whatIs_c85 a1 Post x2 x3 x4 x5 x6 t0 (1 : Int32) M_27)))))
def w4_whatIs_c65 (a1 : Int32) (Post : Int32 → MS → Prop) (x2 : Int32) (x3 : Int32) (x4 : Int32) (x5 : Int32) (x6 : Int32) (M : MS) : Prop := w4_whatIs_c66 a1 Post x2 x3 x4 x5 x6 (0 : Int32) M
def w4_whatIs_c50 (a1 : Int32) (Post : Int32 → MS → Prop) (x2 : Int32) (x3 : Int32) (x4 : Int32) (x5 : Int32) (t0 : Int32) (M : MS) : Prop := (x3 = 0 → (w4_whatIs_c65 a1 Post x2 x3 x4 x5 t0 M)) ∧ (¬ (x3 = 0) → ((x4 = 0 → (w4_whatIs_c65 a1 Post x2 x3 x4 x5 t0 M)) ∧ (¬ (x4 = 0) → (w4_whatIs_c66 a1 Post x2 x3 x4 x5 t0 (1 : Int32) M))))
def w4_whatIs (a1 : Int32) (M : MS) (Post : Int32 → MS → Prop) : Prop := (vp_in a1 (mN 34) ∧ ∀ v_1 : Int32, v_1 = ma M 34 (Int32.toNatClampNeg a1) → w4_isRight a1 M (fun r_3 M_2 => (vp_in v_1 (mN 24) ∧ (vp_in a1 (mN 33) ∧ w4_had (ma M_2 24 (Int32.toNatClampNeg v_1)) (ma M_2 33 (Int32.toNatClampNeg a1)) (fun r_4 => w4_isFirst a1 M_2 (fun r_6 M_5 => w4_ledBy a1 M_5 (fun r_8 M_7 => (r_8 < 0 → (w4_whatIs_c50 a1 Post v_1 r_3 r_4 r_6 (0 : Int32) M_7)) ∧ (¬ (r_8 < 0) → (w4_whatIs_c50 a1 Post v_1 r_3 r_4 r_6 (1 : Int32) M_7)))))))))
abbrev rX4_whatIs : Room := { frames := 4, cells := 0, slots := 0, locals := 87 }
theorem cdX4_whatIs : yX4_whatIs.cls = RX4 ∧ yX4_whatIs.cls ≠ "java/lang/invoke/MethodHandle" ∧ yX4_whatIs.cls ≠ "java/lang/invoke/VarHandle" ∧ (parseMethodDescriptor yX4_whatIs.desc).map (fun d => d.parameters.length) = some 1 := by decide +kernel
set_option maxHeartbeats 4000000 in
set_option maxRecDepth 100000 in
theorem mt4_whatIs (l : Launch) {D : va_G} {cA : Nat → ClassId} {m0 : Nat} {ad : Nat → Nat} (hA : mAd m0 ad) (a1 : Int32) (M : MS) (Post : Int32 → MS → Prop) (h : w4_whatIs a1 M Post) : Met l yX4_whatIs (ws_ yX4_whatIs cX4_whatIs 11 (some .int)) rX4_whatIs (mPc [.ref m0, .int a1] D cA m0 ad M) (va_Qi Post (mB D cA m0 ad) (mF m0 ad)) 0 0 (mF m0 ad) := by
  refine mst_i (own := RX4) (by decide) rfl (Nat.le_of_ble_eq_true rfl) ?_
  intro p e s m args below meth c Q ls S hK hP hS hl hret
  have hx := S.1
  have hb := S.2.1
  have hl : lv_has ls 11 [(0, .ref m0), (1, .int a1)] := hl
  have C214 : ∀ (x10 : Int32) (t0 : Int32) (t1 : Int32) (M : MS) (H : Heap) (locs : List Loc) (ls : Array Slot), va_P D vwCl (mo cA m0 ad M) H → va_S (mF m0 ad) s.heap H locs → lv_has ls 11 [(0, .ref m0), (10, .int x10)] → w4_whatIs_c214 a1 Post x10 t0 t1 M → W p l e rX4_whatIs s m args below meth c H locs 0 0 Q (F0 m 214 ls [.int t0, .int t1]) := by
    intro x10 t0 t1 M H locs ls hP hS hl h
    unfold w4_whatIs_c214 at h
    refine lv_ior hx hb dX4_whatIs_214 ?_
    refine lv_iload hx hb dX4_whatIs_215 (lv_at hl 1 rfl) ?_
    refine lv_if_eq (tgt := 225) hx hb dX4_whatIs_217 (by decide) (fun c_20 => ?_) (fun c_20 => ?_)
    · replace h := h.1 c_20
      refine lv_iconst hx hb dX4_whatIs_225 kc_0 ?_
      refine lv_ior hx hb dX4_whatIs_226 ?_
      exact hret _ _ _ _ _ _ hP hS h rfl dX4_whatIs_227
    · replace h := h.2 c_20
      refine lv_bipush hx hb dX4_whatIs_220 kb_64 ?_
      refine lv_goto (tgt := 226) hx hb dX4_whatIs_222 (by decide) ?_
      refine lv_ior hx hb dX4_whatIs_226 ?_
      exact hret _ _ _ _ _ _ hP hS h rfl dX4_whatIs_227
  have C202 : ∀ (x9 : Int32) (x10 : Int32) (t0 : Int32) (t1 : Int32) (M : MS) (H : Heap) (locs : List Loc) (ls : Array Slot), va_P D vwCl (mo cA m0 ad M) H → va_S (mF m0 ad) s.heap H locs → lv_has ls 11 [(0, .ref m0), (9, .int x9), (10, .int x10)] → w4_whatIs_c202 a1 Post x9 x10 t0 t1 M → W p l e rX4_whatIs s m args below meth c H locs 0 0 Q (F0 m 202 ls [.int t0, .int t1]) := by
    intro x9 x10 t0 t1 M H locs ls hP hS hl h
    unfold w4_whatIs_c202 at h
    refine lv_ior hx hb dX4_whatIs_202 ?_
    refine lv_iload hx hb dX4_whatIs_203 (lv_at hl 1 rfl) ?_
    refine lv_if_eq (tgt := 213) hx hb dX4_whatIs_205 (by decide) (fun c_19 => ?_) (fun c_19 => ?_)
    · replace h := h.1 c_19
      refine lv_iconst hx hb dX4_whatIs_213 kc_0 ?_
      exact C214 _ _ _ _ _ _ _ hP hS (lv_sub hl [0, 2] rfl) h
    · replace h := h.2 c_19
      refine lv_bipush hx hb dX4_whatIs_208 kb_32 ?_
      refine lv_goto (tgt := 214) hx hb dX4_whatIs_210 (by decide) ?_
      exact C214 _ _ _ _ _ _ _ hP hS (lv_sub hl [0, 2] rfl) h
  have C190 : ∀ (x8 : Int32) (x9 : Int32) (x10 : Int32) (t0 : Int32) (t1 : Int32) (M : MS) (H : Heap) (locs : List Loc) (ls : Array Slot), va_P D vwCl (mo cA m0 ad M) H → va_S (mF m0 ad) s.heap H locs → lv_has ls 11 [(0, .ref m0), (8, .int x8), (9, .int x9), (10, .int x10)] → w4_whatIs_c190 a1 Post x8 x9 x10 t0 t1 M → W p l e rX4_whatIs s m args below meth c H locs 0 0 Q (F0 m 190 ls [.int t0, .int t1]) := by
    intro x8 x9 x10 t0 t1 M H locs ls hP hS hl h
    unfold w4_whatIs_c190 at h
    refine lv_ior hx hb dX4_whatIs_190 ?_
    refine lv_iload hx hb dX4_whatIs_191 (lv_at hl 1 rfl) ?_
    refine lv_if_eq (tgt := 201) hx hb dX4_whatIs_193 (by decide) (fun c_18 => ?_) (fun c_18 => ?_)
    · replace h := h.1 c_18
      refine lv_iconst hx hb dX4_whatIs_201 kc_0 ?_
      exact C202 _ _ _ _ _ _ _ _ hP hS (lv_sub hl [0, 2, 3] rfl) h
    · replace h := h.2 c_18
      refine lv_bipush hx hb dX4_whatIs_196 kb_16 ?_
      refine lv_goto (tgt := 202) hx hb dX4_whatIs_198 (by decide) ?_
      exact C202 _ _ _ _ _ _ _ _ hP hS (lv_sub hl [0, 2, 3] rfl) h
  have C178 : ∀ (x7 : Int32) (x8 : Int32) (x9 : Int32) (x10 : Int32) (t0 : Int32) (t1 : Int32) (M : MS) (H : Heap) (locs : List Loc) (ls : Array Slot), va_P D vwCl (mo cA m0 ad M) H → va_S (mF m0 ad) s.heap H locs → lv_has ls 11 [(0, .ref m0), (7, .int x7), (8, .int x8), (9, .int x9), (10, .int x10)] → w4_whatIs_c178 a1 Post x7 x8 x9 x10 t0 t1 M → W p l e rX4_whatIs s m args below meth c H locs 0 0 Q (F0 m 178 ls [.int t0, .int t1]) := by
    intro x7 x8 x9 x10 t0 t1 M H locs ls hP hS hl h
    unfold w4_whatIs_c178 at h
    refine lv_ior hx hb dX4_whatIs_178 ?_
    refine lv_iload hx hb dX4_whatIs_179 (lv_at hl 1 rfl) ?_
    refine lv_if_eq (tgt := 189) hx hb dX4_whatIs_181 (by decide) (fun c_17 => ?_) (fun c_17 => ?_)
    · replace h := h.1 c_17
      refine lv_iconst hx hb dX4_whatIs_189 kc_0 ?_
      exact C190 _ _ _ _ _ _ _ _ _ hP hS (lv_sub hl [0, 2, 3, 4] rfl) h
    · replace h := h.2 c_17
      refine lv_bipush hx hb dX4_whatIs_184 kb_8 ?_
      refine lv_goto (tgt := 190) hx hb dX4_whatIs_186 (by decide) ?_
      exact C190 _ _ _ _ _ _ _ _ _ hP hS (lv_sub hl [0, 2, 3, 4] rfl) h
  have C167 : ∀ (x6 : Int32) (x7 : Int32) (x8 : Int32) (x9 : Int32) (x10 : Int32) (t0 : Int32) (t1 : Int32) (M : MS) (H : Heap) (locs : List Loc) (ls : Array Slot), va_P D vwCl (mo cA m0 ad M) H → va_S (mF m0 ad) s.heap H locs → lv_has ls 11 [(0, .ref m0), (6, .int x6), (7, .int x7), (8, .int x8), (9, .int x9), (10, .int x10)] → w4_whatIs_c167 a1 Post x6 x7 x8 x9 x10 t0 t1 M → W p l e rX4_whatIs s m args below meth c H locs 0 0 Q (F0 m 167 ls [.int t0, .int t1]) := by
    intro x6 x7 x8 x9 x10 t0 t1 M H locs ls hP hS hl h
    unfold w4_whatIs_c167 at h
    refine lv_ior hx hb dX4_whatIs_167 ?_
    refine lv_iload hx hb dX4_whatIs_168 (lv_at hl 1 rfl) ?_
    refine lv_if_eq (tgt := 177) hx hb dX4_whatIs_170 (by decide) (fun c_16 => ?_) (fun c_16 => ?_)
    · replace h := h.1 c_16
      refine lv_iconst hx hb dX4_whatIs_177 kc_0 ?_
      exact C178 _ _ _ _ _ _ _ _ _ _ hP hS (lv_sub hl [0, 2, 3, 4, 5] rfl) h
    · replace h := h.2 c_16
      refine lv_iconst hx hb dX4_whatIs_173 kc_4 ?_
      refine lv_goto (tgt := 178) hx hb dX4_whatIs_174 (by decide) ?_
      exact C178 _ _ _ _ _ _ _ _ _ _ hP hS (lv_sub hl [0, 2, 3, 4, 5] rfl) h
  have C157 : ∀ (x5 : Int32) (x6 : Int32) (x7 : Int32) (x8 : Int32) (x9 : Int32) (x10 : Int32) (t0 : Int32) (M : MS) (H : Heap) (locs : List Loc) (ls : Array Slot), va_P D vwCl (mo cA m0 ad M) H → va_S (mF m0 ad) s.heap H locs → lv_has ls 11 [(0, .ref m0), (5, .int x5), (6, .int x6), (7, .int x7), (8, .int x8), (9, .int x9), (10, .int x10)] → w4_whatIs_c157 a1 Post x5 x6 x7 x8 x9 x10 t0 M → W p l e rX4_whatIs s m args below meth c H locs 0 0 Q (F0 m 157 ls [.int t0]) := by
    intro x5 x6 x7 x8 x9 x10 t0 M H locs ls hP hS hl h
    unfold w4_whatIs_c157 at h
    refine lv_iload hx hb dX4_whatIs_157 (lv_at hl 1 rfl) ?_
    refine lv_if_eq (tgt := 166) hx hb dX4_whatIs_159 (by decide) (fun c_15 => ?_) (fun c_15 => ?_)
    · replace h := h.1 c_15
      refine lv_iconst hx hb dX4_whatIs_166 kc_0 ?_
      exact C167 _ _ _ _ _ _ _ _ _ _ _ hP hS (lv_sub hl [0, 2, 3, 4, 5, 6] rfl) h
    · replace h := h.2 c_15
      refine lv_iconst hx hb dX4_whatIs_162 kc_2 ?_
      refine lv_goto (tgt := 167) hx hb dX4_whatIs_163 (by decide) ?_
      exact C167 _ _ _ _ _ _ _ _ _ _ _ hP hS (lv_sub hl [0, 2, 3, 4, 5, 6] rfl) h
  have C146 : ∀ (x3 : Int32) (x5 : Int32) (x6 : Int32) (x7 : Int32) (x8 : Int32) (x9 : Int32) (t0 : Int32) (M : MS) (H : Heap) (locs : List Loc) (ls : Array Slot), va_P D vwCl (mo cA m0 ad M) H → va_S (mF m0 ad) s.heap H locs → lv_has ls 11 [(0, .ref m0), (3, .int x3), (5, .int x5), (6, .int x6), (7, .int x7), (8, .int x8), (9, .int x9)] → w4_whatIs_c146 a1 Post x3 x5 x6 x7 x8 x9 t0 M → W p l e rX4_whatIs s m args below meth c H locs 0 0 Q (F0 m 146 ls [.int t0]) := by
    intro x3 x5 x6 x7 x8 x9 t0 M H locs ls hP hS hl h
    unfold w4_whatIs_c146 at h
    refine lv_istore (lv' := [(10, .int t0), (0, .ref m0), (3, .int x3), (5, .int x5), (6, .int x6), (7, .int x7), (8, .int x8), (9, .int x9)]) hx hb dX4_whatIs_146 hl (by decide) rfl (fun ls hl => ?_)
    refine lv_iload_n hx hb dX4_whatIs_148 rfl (lv_at hl 2 rfl) ?_
    refine lv_if_eq (tgt := 156) hx hb dX4_whatIs_149 (by decide) (fun c_14 => ?_) (fun c_14 => ?_)
    · replace h := h.1 c_14
      refine lv_iconst hx hb dX4_whatIs_156 kc_0 ?_
      exact C157 _ _ _ _ _ _ _ _ _ _ _ hP hS (lv_sub hl [1, 3, 4, 5, 6, 7, 0] rfl) h
    · replace h := h.2 c_14
      refine lv_iconst hx hb dX4_whatIs_152 kc_1 ?_
      refine lv_goto (tgt := 157) hx hb dX4_whatIs_153 (by decide) ?_
      exact C157 _ _ _ _ _ _ _ _ _ _ _ hP hS (lv_sub hl [1, 3, 4, 5, 6, 7, 0] rfl) h
  have C145 : ∀ (x3 : Int32) (x5 : Int32) (x6 : Int32) (x7 : Int32) (x8 : Int32) (x9 : Int32) (M : MS) (H : Heap) (locs : List Loc) (ls : Array Slot), va_P D vwCl (mo cA m0 ad M) H → va_S (mF m0 ad) s.heap H locs → lv_has ls 11 [(0, .ref m0), (3, .int x3), (5, .int x5), (6, .int x6), (7, .int x7), (8, .int x8), (9, .int x9)] → w4_whatIs_c145 a1 Post x3 x5 x6 x7 x8 x9 M → W p l e rX4_whatIs s m args below meth c H locs 0 0 Q (F0 m 145 ls []) := by
    intro x3 x5 x6 x7 x8 x9 M H locs ls hP hS hl h
    unfold w4_whatIs_c145 at h
    refine lv_iconst hx hb dX4_whatIs_145 kc_0 ?_
    exact C146 _ _ _ _ _ _ _ _ _ _ _ hP hS (lv_sub hl [0, 1, 2, 3, 4, 5, 6] rfl) h
  have C119 : ∀ (x3 : Int32) (x5 : Int32) (x6 : Int32) (x7 : Int32) (x8 : Int32) (t0 : Int32) (M : MS) (H : Heap) (locs : List Loc) (ls : Array Slot), va_P D vwCl (mo cA m0 ad M) H → va_S (mF m0 ad) s.heap H locs → lv_has ls 11 [(0, .ref m0), (3, .int x3), (5, .int x5), (6, .int x6), (7, .int x7), (8, .int x8)] → w4_whatIs_c119 a1 Post x3 x5 x6 x7 x8 t0 M → W p l e rX4_whatIs s m args below meth c H locs 0 0 Q (F0 m 119 ls [.int t0]) := by
    intro x3 x5 x6 x7 x8 t0 M H locs ls hP hS hl h
    unfold w4_whatIs_c119 at h
    refine lv_istore (lv' := [(9, .int t0), (0, .ref m0), (3, .int x3), (5, .int x5), (6, .int x6), (7, .int x7), (8, .int x8)]) hx hb dX4_whatIs_119 hl (by decide) rfl (fun ls hl => ?_)
    refine lv_iload hx hb dX4_whatIs_121 (lv_at hl 3 rfl) ?_
    refine lv_if_eq (tgt := 145) hx hb dX4_whatIs_123 (by decide) (fun c_13 => ?_) (fun c_13 => ?_)
    · replace h := h.1 c_13
      exact C145 _ _ _ _ _ _ _ _ _ _ hP hS (lv_sub hl [1, 2, 3, 4, 5, 6, 0] rfl) h
    · replace h := h.2 c_13
      refine lv_iload hx hb dX4_whatIs_126 (lv_at hl 4 rfl) ?_
      refine lv_if_ne (tgt := 145) hx hb dX4_whatIs_128 (by decide) (fun c_21 => ?_) (fun c_21 => ?_)
      · replace h := h.2 c_21
        exact C145 _ _ _ _ _ _ _ _ _ _ hP hS (lv_sub hl [1, 2, 3, 4, 5, 6, 0] rfl) h
      · replace h := h.1 c_21
        refine lv_iload hx hb dX4_whatIs_131 (lv_at hl 5 rfl) ?_
        refine lv_if_ne (tgt := 145) hx hb dX4_whatIs_133 (by decide) (fun c_22 => ?_) (fun c_22 => ?_)
        · replace h := h.2 c_22
          exact C145 _ _ _ _ _ _ _ _ _ _ hP hS (lv_sub hl [1, 2, 3, 4, 5, 6, 0] rfl) h
        · replace h := h.1 c_22
          refine lv_iload hx hb dX4_whatIs_136 (lv_at hl 6 rfl) ?_
          refine lv_if_ne (tgt := 145) hx hb dX4_whatIs_138 (by decide) (fun c_23 => ?_) (fun c_23 => ?_)
          · replace h := h.2 c_23
            exact C145 _ _ _ _ _ _ _ _ _ _ hP hS (lv_sub hl [1, 2, 3, 4, 5, 6, 0] rfl) h
          · replace h := h.1 c_23
            refine lv_iconst hx hb dX4_whatIs_141 kc_1 ?_
            refine lv_goto (tgt := 146) hx hb dX4_whatIs_142 (by decide) ?_
            exact C146 _ _ _ _ _ _ _ _ _ _ _ hP hS (lv_sub hl [1, 2, 3, 4, 5, 6, 0] rfl) h
  have C118 : ∀ (x3 : Int32) (x5 : Int32) (x6 : Int32) (x7 : Int32) (x8 : Int32) (M : MS) (H : Heap) (locs : List Loc) (ls : Array Slot), va_P D vwCl (mo cA m0 ad M) H → va_S (mF m0 ad) s.heap H locs → lv_has ls 11 [(0, .ref m0), (3, .int x3), (5, .int x5), (6, .int x6), (7, .int x7), (8, .int x8)] → w4_whatIs_c118 a1 Post x3 x5 x6 x7 x8 M → W p l e rX4_whatIs s m args below meth c H locs 0 0 Q (F0 m 118 ls []) := by
    intro x3 x5 x6 x7 x8 M H locs ls hP hS hl h
    unfold w4_whatIs_c118 at h
    refine lv_iconst hx hb dX4_whatIs_118 kc_0 ?_
    exact C119 _ _ _ _ _ _ _ _ _ _ hP hS (lv_sub hl [0, 1, 2, 3, 4, 5] rfl) h
  have C85 : ∀ (x2 : Int32) (x3 : Int32) (x4 : Int32) (x5 : Int32) (x6 : Int32) (x7 : Int32) (t0 : Int32) (M : MS) (H : Heap) (locs : List Loc) (ls : Array Slot), va_P D vwCl (mo cA m0 ad M) H → va_S (mF m0 ad) s.heap H locs → lv_has ls 11 [(0, .ref m0), (1, .int a1), (2, .int x2), (3, .int x3), (4, .int x4), (5, .int x5), (6, .int x6), (7, .int x7)] → w4_whatIs_c85 a1 Post x2 x3 x4 x5 x6 x7 t0 M → W p l e rX4_whatIs s m args below meth c H locs 0 0 Q (F0 m 85 ls [.int t0]) := by
    intro x2 x3 x4 x5 x6 x7 t0 M H locs ls hP hS hl h
    unfold w4_whatIs_c85 at h
    refine lv_istore (lv' := [(8, .int t0), (0, .ref m0), (1, .int a1), (2, .int x2), (3, .int x3), (4, .int x4), (5, .int x5), (6, .int x6), (7, .int x7)]) hx hb dX4_whatIs_85 hl (by decide) rfl (fun ls hl => ?_)
    refine lv_iload_n hx hb dX4_whatIs_87 rfl (lv_at hl 4 rfl) ?_
    refine lv_if_eq (tgt := 118) hx hb dX4_whatIs_88 (by decide) (fun c_12 => ?_) (fun c_12 => ?_)
    · replace h := h.1 c_12
      exact C118 _ _ _ _ _ _ _ _ _ hP hS (lv_sub hl [1, 4, 6, 7, 8, 0] rfl) h
    · replace h := h.2 c_12
      refine lv_iload hx hb dX4_whatIs_91 (lv_at hl 5 rfl) ?_
      refine lv_if_ne (tgt := 118) hx hb dX4_whatIs_93 (by decide) (fun c_24 => ?_) (fun c_24 => ?_)
      · replace h := h.2 c_24
        exact C118 _ _ _ _ _ _ _ _ _ hP hS (lv_sub hl [1, 4, 6, 7, 8, 0] rfl) h
      · replace h := h.1 c_24
        refine lv_aload_n hx hb dX4_whatIs_96 rfl (lv_at hl 1 rfl) ?_
        refine mg_r S hK hP (k := 25) (by decide) (by decide) q1445 dX4_whatIs_97 ?_
        refine lv_iload_n hx hb dX4_whatIs_100 rfl (lv_at hl 3 rfl) ?_
        obtain ⟨hi, h⟩ := h
        refine ml_a S hK hP (k := 25) af_25 rfl hi dX4_whatIs_101 ?_
        refine lv_aload_n hx hb dX4_whatIs_102 rfl (lv_at hl 1 rfl) ?_
        refine mg_r S hK hP (k := 33) (by decide) (by decide) q1453 dX4_whatIs_103 ?_
        refine lv_iload_n hx hb dX4_whatIs_106 rfl (lv_at hl 2 rfl) ?_
        obtain ⟨hi, h⟩ := h
        refine ml_a S hK hP (k := 33) af_33 rfl hi dX4_whatIs_107 ?_
        refine sc_i S (As := [.int (ma M 25 (Int32.toNatClampNeg x2)), .int (ma M 33 (Int32.toNatClampNeg a1))]) (rest := []) (mt4_had l (ma M 25 (Int32.toNatClampNeg x2)) (ma M 33 (Int32.toNatClampNeg a1)) _ h) (va_cwS 2 S.2.2.2.2 (lw_S q1818 q1819 q145 q1820) rfl rfl rfl cdX4_had ⟨Nat.le_of_ble_eq_true rfl, Nat.le_of_ble_eq_true rfl⟩) rfl rfl hl.1 (Nat.le_of_ble_eq_true rfl) dX4_whatIs_108 ⟨Nat.le_refl _, Nat.le_refl _⟩ (fun r_25 h => ?_)
        refine lv_if_ne (tgt := 118) hx hb dX4_whatIs_111 (by decide) (fun c_26 => ?_) (fun c_26 => ?_)
        · replace h := h.2 c_26
          exact C118 _ _ _ _ _ _ _ _ _ hP hS (lv_sub hl [1, 4, 6, 7, 8, 0] rfl) h
        · replace h := h.1 c_26
          refine lv_iconst hx hb dX4_whatIs_114 kc_1 ?_
          refine lv_goto (tgt := 119) hx hb dX4_whatIs_115 (by decide) ?_
          exact C119 _ _ _ _ _ _ _ _ _ _ hP hS (lv_sub hl [1, 4, 6, 7, 8, 0] rfl) h
  have C84 : ∀ (x2 : Int32) (x3 : Int32) (x4 : Int32) (x5 : Int32) (x6 : Int32) (x7 : Int32) (M : MS) (H : Heap) (locs : List Loc) (ls : Array Slot), va_P D vwCl (mo cA m0 ad M) H → va_S (mF m0 ad) s.heap H locs → lv_has ls 11 [(0, .ref m0), (1, .int a1), (2, .int x2), (3, .int x3), (4, .int x4), (5, .int x5), (6, .int x6), (7, .int x7)] → w4_whatIs_c84 a1 Post x2 x3 x4 x5 x6 x7 M → W p l e rX4_whatIs s m args below meth c H locs 0 0 Q (F0 m 84 ls []) := by
    intro x2 x3 x4 x5 x6 x7 M H locs ls hP hS hl h
    unfold w4_whatIs_c84 at h
    refine lv_iconst hx hb dX4_whatIs_84 kc_0 ?_
    exact C85 _ _ _ _ _ _ _ _ _ _ _ hP hS (lv_sub hl [0, 1, 2, 3, 4, 5, 6, 7] rfl) h
  have C66 : ∀ (x2 : Int32) (x3 : Int32) (x4 : Int32) (x5 : Int32) (x6 : Int32) (t0 : Int32) (M : MS) (H : Heap) (locs : List Loc) (ls : Array Slot), va_P D vwCl (mo cA m0 ad M) H → va_S (mF m0 ad) s.heap H locs → lv_has ls 11 [(0, .ref m0), (1, .int a1), (2, .int x2), (3, .int x3), (4, .int x4), (5, .int x5), (6, .int x6)] → w4_whatIs_c66 a1 Post x2 x3 x4 x5 x6 t0 M → W p l e rX4_whatIs s m args below meth c H locs 0 0 Q (F0 m 66 ls [.int t0]) := by
    intro x2 x3 x4 x5 x6 t0 M H locs ls hP hS hl h
    unfold w4_whatIs_c66 at h
    refine lv_istore (lv' := [(7, .int t0), (0, .ref m0), (1, .int a1), (2, .int x2), (3, .int x3), (4, .int x4), (5, .int x5), (6, .int x6)]) hx hb dX4_whatIs_66 hl (by decide) rfl (fun ls hl => ?_)
    refine lv_iload_n hx hb dX4_whatIs_68 rfl (lv_at hl 4 rfl) ?_
    refine lv_if_eq (tgt := 84) hx hb dX4_whatIs_69 (by decide) (fun c_11 => ?_) (fun c_11 => ?_)
    · replace h := h.1 c_11
      exact C84 _ _ _ _ _ _ _ _ _ _ hP hS (lv_sub hl [1, 2, 3, 4, 5, 6, 7, 0] rfl) h
    · replace h := h.2 c_11
      refine lv_aload_n hx hb dX4_whatIs_72 rfl (lv_at hl 1 rfl) ?_
      refine lv_iload_n hx hb dX4_whatIs_73 rfl (lv_at hl 2 rfl) ?_
      refine mc_i S hK hP hS (As := [.int a1]) (rest := []) (mt4_isOff l hA a1 M _ h) (cwV 1 S.2.2.2.2 (lw_V q1837 q1839 qs105 q145 q1840) rfl rfl rfl cdX4_isOff ⟨Nat.le_of_ble_eq_true rfl, Nat.le_of_ble_eq_true rfl⟩) rfl rfl hl.1 (Nat.le_of_ble_eq_true rfl) dX4_whatIs_74 ⟨Nat.le_refl _, Nat.le_refl _⟩ (fun r_28 M_27 H locs h hP hS => ?_)
      refine lv_if_eq (tgt := 84) hx hb dX4_whatIs_77 (by decide) (fun c_29 => ?_) (fun c_29 => ?_)
      · replace h := h.1 c_29
        exact C84 _ _ _ _ _ _ _ _ _ _ hP hS (lv_sub hl [1, 2, 3, 4, 5, 6, 7, 0] rfl) h
      · replace h := h.2 c_29
        refine lv_iconst hx hb dX4_whatIs_80 kc_1 ?_
        refine lv_goto (tgt := 85) hx hb dX4_whatIs_81 (by decide) ?_
        exact C85 _ _ _ _ _ _ _ _ _ _ _ hP hS (lv_sub hl [1, 2, 3, 4, 5, 6, 7, 0] rfl) h
  have C65 : ∀ (x2 : Int32) (x3 : Int32) (x4 : Int32) (x5 : Int32) (x6 : Int32) (M : MS) (H : Heap) (locs : List Loc) (ls : Array Slot), va_P D vwCl (mo cA m0 ad M) H → va_S (mF m0 ad) s.heap H locs → lv_has ls 11 [(0, .ref m0), (1, .int a1), (2, .int x2), (3, .int x3), (4, .int x4), (5, .int x5), (6, .int x6)] → w4_whatIs_c65 a1 Post x2 x3 x4 x5 x6 M → W p l e rX4_whatIs s m args below meth c H locs 0 0 Q (F0 m 65 ls []) := by
    intro x2 x3 x4 x5 x6 M H locs ls hP hS hl h
    unfold w4_whatIs_c65 at h
    refine lv_iconst hx hb dX4_whatIs_65 kc_0 ?_
    exact C66 _ _ _ _ _ _ _ _ _ _ hP hS (lv_sub hl [0, 1, 2, 3, 4, 5, 6] rfl) h
  have C50 : ∀ (x2 : Int32) (x3 : Int32) (x4 : Int32) (x5 : Int32) (t0 : Int32) (M : MS) (H : Heap) (locs : List Loc) (ls : Array Slot), va_P D vwCl (mo cA m0 ad M) H → va_S (mF m0 ad) s.heap H locs → lv_has ls 11 [(0, .ref m0), (1, .int a1), (2, .int x2), (3, .int x3), (4, .int x4), (5, .int x5)] → w4_whatIs_c50 a1 Post x2 x3 x4 x5 t0 M → W p l e rX4_whatIs s m args below meth c H locs 0 0 Q (F0 m 50 ls [.int t0]) := by
    intro x2 x3 x4 x5 t0 M H locs ls hP hS hl h
    unfold w4_whatIs_c50 at h
    refine lv_istore (lv' := [(6, .int t0), (0, .ref m0), (1, .int a1), (2, .int x2), (3, .int x3), (4, .int x4), (5, .int x5)]) hx hb dX4_whatIs_50 hl (by decide) rfl (fun ls hl => ?_)
    refine lv_iload_n hx hb dX4_whatIs_52 rfl (lv_at hl 4 rfl) ?_
    refine lv_if_eq (tgt := 65) hx hb dX4_whatIs_53 (by decide) (fun c_10 => ?_) (fun c_10 => ?_)
    · replace h := h.1 c_10
      exact C65 _ _ _ _ _ _ _ _ _ hP hS (lv_sub hl [1, 2, 3, 4, 5, 6, 0] rfl) h
    · replace h := h.2 c_10
      refine lv_iload hx hb dX4_whatIs_56 (lv_at hl 5 rfl) ?_
      refine lv_if_eq (tgt := 65) hx hb dX4_whatIs_58 (by decide) (fun c_30 => ?_) (fun c_30 => ?_)
      · replace h := h.1 c_30
        exact C65 _ _ _ _ _ _ _ _ _ hP hS (lv_sub hl [1, 2, 3, 4, 5, 6, 0] rfl) h
      · replace h := h.2 c_30
        refine lv_iconst hx hb dX4_whatIs_61 kc_1 ?_
        refine lv_goto (tgt := 66) hx hb dX4_whatIs_62 (by decide) ?_
        exact C66 _ _ _ _ _ _ _ _ _ _ hP hS (lv_sub hl [1, 2, 3, 4, 5, 6, 0] rfl) h
  unfold w4_whatIs at h
  refine lv_aload_n hx hb dX4_whatIs_0 rfl (lv_at hl 0 rfl) ?_
  refine mg_r S hK hP (k := 34) (by decide) (by decide) q1454 dX4_whatIs_1 ?_
  refine lv_iload_n hx hb dX4_whatIs_4 rfl (lv_at hl 1 rfl) ?_
  obtain ⟨hi, h⟩ := h
  refine ml_a S hK hP (k := 34) af_34 rfl hi dX4_whatIs_5 ?_
  refine lv_topi (fun v_1 e_v_1 => ?_)
  replace h := h v_1 e_v_1
  refine lv_istore_n (lv' := [(2, .int v_1), (0, .ref m0), (1, .int a1)]) hx hb dX4_whatIs_6 rfl hl (by decide) rfl (fun ls hl => ?_)
  refine lv_aload_n hx hb dX4_whatIs_7 rfl (lv_at hl 1 rfl) ?_
  refine lv_iload_n hx hb dX4_whatIs_8 rfl (lv_at hl 2 rfl) ?_
  refine mc_i S hK hP hS (As := [.int a1]) (rest := []) (mt4_isRight l hA a1 M _ h) (cwV 1 S.2.2.2.2 (lw_V q1814 q1816 qs100 q145 q1817) rfl rfl rfl cdX4_isRight ⟨Nat.le_of_ble_eq_true rfl, Nat.le_of_ble_eq_true rfl⟩) rfl rfl hl.1 (Nat.le_of_ble_eq_true rfl) dX4_whatIs_9 ⟨Nat.le_refl _, Nat.le_refl _⟩ (fun r_3 M_2 H locs h hP hS => ?_)
  refine lv_istore_n (lv' := [(3, .int r_3), (2, .int v_1), (0, .ref m0), (1, .int a1)]) hx hb dX4_whatIs_12 rfl hl (by decide) rfl (fun ls hl => ?_)
  refine lv_aload_n hx hb dX4_whatIs_13 rfl (lv_at hl 2 rfl) ?_
  refine mg_r S hK hP (k := 24) (by decide) (by decide) q1444 dX4_whatIs_14 ?_
  refine lv_iload_n hx hb dX4_whatIs_17 rfl (lv_at hl 1 rfl) ?_
  obtain ⟨hi, h⟩ := h
  refine ml_a S hK hP (k := 24) af_24 rfl hi dX4_whatIs_18 ?_
  refine lv_aload_n hx hb dX4_whatIs_19 rfl (lv_at hl 2 rfl) ?_
  refine mg_r S hK hP (k := 33) (by decide) (by decide) q1453 dX4_whatIs_20 ?_
  refine lv_iload_n hx hb dX4_whatIs_23 rfl (lv_at hl 3 rfl) ?_
  obtain ⟨hi, h⟩ := h
  refine ml_a S hK hP (k := 33) af_33 rfl hi dX4_whatIs_24 ?_
  refine sc_i S (As := [.int (ma M_2 24 (Int32.toNatClampNeg v_1)), .int (ma M_2 33 (Int32.toNatClampNeg a1))]) (rest := []) (mt4_had l (ma M_2 24 (Int32.toNatClampNeg v_1)) (ma M_2 33 (Int32.toNatClampNeg a1)) _ h) (va_cwS 2 S.2.2.2.2 (lw_S q1818 q1819 q145 q1820) rfl rfl rfl cdX4_had ⟨Nat.le_of_ble_eq_true rfl, Nat.le_of_ble_eq_true rfl⟩) rfl rfl hl.1 (Nat.le_of_ble_eq_true rfl) dX4_whatIs_25 ⟨Nat.le_refl _, Nat.le_refl _⟩ (fun r_4 h => ?_)
  refine lv_istore (lv' := [(4, .int r_4), (3, .int r_3), (2, .int v_1), (0, .ref m0), (1, .int a1)]) hx hb dX4_whatIs_28 hl (by decide) rfl (fun ls hl => ?_)
  refine lv_aload_n hx hb dX4_whatIs_30 rfl (lv_at hl 3 rfl) ?_
  refine lv_iload_n hx hb dX4_whatIs_31 rfl (lv_at hl 4 rfl) ?_
  refine mc_i S hK hP hS (As := [.int a1]) (rest := []) (mt4_isFirst l hA a1 M_2 _ h) (cwV 1 S.2.2.2.2 (lw_V q1821 q1823 qs101 q145 q1824) rfl rfl rfl cdX4_isFirst ⟨Nat.le_of_ble_eq_true rfl, Nat.le_of_ble_eq_true rfl⟩) rfl rfl hl.1 (Nat.le_of_ble_eq_true rfl) dX4_whatIs_32 ⟨Nat.le_refl _, Nat.le_refl _⟩ (fun r_6 M_5 H locs h hP hS => ?_)
  refine lv_istore (lv' := [(5, .int r_6), (4, .int r_4), (3, .int r_3), (2, .int v_1), (0, .ref m0), (1, .int a1)]) hx hb dX4_whatIs_35 hl (by decide) rfl (fun ls hl => ?_)
  refine lv_aload_n hx hb dX4_whatIs_37 rfl (lv_at hl 4 rfl) ?_
  refine lv_iload_n hx hb dX4_whatIs_38 rfl (lv_at hl 5 rfl) ?_
  refine mc_i S hK hP hS (As := [.int a1]) (rest := []) (mt4_ledBy l hA a1 M_5 _ h) (cwV 1 S.2.2.2.2 (lw_V q1829 q1831 qs103 q145 q1832) rfl rfl rfl cdX4_ledBy ⟨Nat.le_of_ble_eq_true rfl, Nat.le_of_ble_eq_true rfl⟩) rfl rfl hl.1 (Nat.le_of_ble_eq_true rfl) dX4_whatIs_39 ⟨Nat.le_refl _, Nat.le_refl _⟩ (fun r_8 M_7 H locs h hP hS => ?_)
  refine lv_if_lt (tgt := 49) hx hb dX4_whatIs_42 (by decide) (fun c_9 => ?_) (fun c_9 => ?_)
  · replace h := h.1 c_9
    refine lv_iconst hx hb dX4_whatIs_49 kc_0 ?_
    exact C50 _ _ _ _ _ _ _ _ _ hP hS (lv_sub hl [4, 5, 3, 2, 1, 0] rfl) h
  · replace h := h.2 c_9
    refine lv_iconst hx hb dX4_whatIs_45 kc_1 ?_
    refine lv_goto (tgt := 50) hx hb dX4_whatIs_46 (by decide) ?_
    exact C50 _ _ _ _ _ _ _ _ _ hP hS (lv_sub hl [4, 5, 3, 2, 1, 0] rfl) h
def w4_word (a1 : Int32) (M : MS) (Post : Int32 → MS → Prop) : Prop := ∀ M_1 : MS, M_1 = si M 2 (0 : Int32) → w4_isHeardWord a1 M_1 (fun r_3 M_2 => (r_3 = 0 → (Post (-1 : Int32) M_2)) ∧ (¬ (r_3 = 0) → (w4_whatIs a1 M_2 (fun r_6 M_5 => Post r_6 M_5))))
abbrev rX4_word : Room := { frames := 5, cells := 0, slots := 0, locals := 117 }
theorem cdX4_word : yX4_word.cls = RX4 ∧ yX4_word.cls ≠ "java/lang/invoke/MethodHandle" ∧ yX4_word.cls ≠ "java/lang/invoke/VarHandle" ∧ (parseMethodDescriptor yX4_word.desc).map (fun d => d.parameters.length) = some 1 := by decide +kernel
set_option maxHeartbeats 4000000 in
set_option maxRecDepth 100000 in
theorem mt4_word (l : Launch) {D : va_G} {cA : Nat → ClassId} {m0 : Nat} {ad : Nat → Nat} (hA : mAd m0 ad) (a1 : Int32) (M : MS) (Post : Int32 → MS → Prop) (h : w4_word a1 M Post) : Met l yX4_word (ws_ yX4_word cX4_word 2 (some .int)) rX4_word (mPc [.ref m0, .int a1] D cA m0 ad M) (va_Qi Post (mB D cA m0 ad) (mF m0 ad)) 0 0 (mF m0 ad) := by
  refine mst_i (own := RX4) (by decide) rfl (Nat.le_of_ble_eq_true rfl) ?_
  intro p e s m args below meth c Q ls S hK hP hS hl hret
  have hx := S.1
  have hb := S.2.1
  have hl : lv_has ls 2 [(0, .ref m0), (1, .int a1)] := hl
  unfold w4_word at h
  refine lv_aload_n hx hb dX4_word_0 rfl (lv_at hl 0 rfl) ?_
  refine lv_iconst hx hb dX4_word_1 kc_0 ?_
  refine mp_i S hK hA hP hS (k := 2) (by decide) (Or.inl rfl) rfl (Or.inl ⟨rfl, rfl⟩) q1422 dX4_word_2 (fun M_1 H locs e_M_1 hP hS => ?_)
  replace h := h M_1 e_M_1
  refine lv_aload_n hx hb dX4_word_5 rfl (lv_at hl 0 rfl) ?_
  refine lv_iload_n hx hb dX4_word_6 rfl (lv_at hl 1 rfl) ?_
  refine mc_i S hK hP hS (As := [.int a1]) (rest := []) (mt4_isHeardWord l hA a1 M_1 _ h) (cwV 1 S.2.2.2.2 (lw_V q1806 q1808 qs98 q145 q1809) rfl rfl rfl cdX4_isHeardWord ⟨Nat.le_of_ble_eq_true rfl, Nat.le_of_ble_eq_true rfl⟩) rfl rfl hl.1 (Nat.le_of_ble_eq_true rfl) dX4_word_7 ⟨Nat.le_refl _, Nat.le_refl _⟩ (fun r_3 M_2 H locs h hP hS => ?_)
  refine lv_if_eq (tgt := 21) hx hb dX4_word_10 (by decide) (fun c_4 => ?_) (fun c_4 => ?_)
  · replace h := h.1 c_4
    refine lv_iconst hx hb dX4_word_21 kc_m1 ?_
    exact hret _ _ _ _ _ _ hP hS h rfl dX4_word_22
  · replace h := h.2 c_4
    refine lv_aload_n hx hb dX4_word_13 rfl (lv_at hl 0 rfl) ?_
    refine lv_iload_n hx hb dX4_word_14 rfl (lv_at hl 1 rfl) ?_
    refine mc_i S hK hP hS (As := [.int a1]) (rest := []) (mt4_whatIs l hA a1 M_2 _ h) (cwV 1 S.2.2.2.2 (lw_V q1810 q1812 qs99 q145 q1813) rfl rfl rfl cdX4_whatIs ⟨Nat.le_of_ble_eq_true rfl, Nat.le_of_ble_eq_true rfl⟩) rfl rfl hl.1 (Nat.le_of_ble_eq_true rfl) dX4_word_15 ⟨Nat.le_refl _, Nat.le_refl _⟩ (fun r_6 M_5 H locs h hP hS => ?_)
    refine lv_goto (tgt := 22) hx hb dX4_word_18 (by decide) ?_
    exact hret _ _ _ _ _ _ hP hS h rfl dX4_word_22
def w4_led (a1 : Int32) (M : MS) (Post : Int32 → MS → Prop) : Prop := ∀ M_1 : MS, M_1 = si M 2 (0 : Int32) → w4_isHeardWord a1 M_1 (fun r_3 M_2 => (r_3 = 0 → (Post (-1 : Int32) M_2)) ∧ (¬ (r_3 = 0) → (w4_ledBy a1 M_2 (fun r_6 M_5 => Post r_6 M_5))))
abbrev rX4_led : Room := { frames := 3, cells := 0, slots := 0, locals := 66 }
theorem cdX4_led : yX4_led.cls = RX4 ∧ yX4_led.cls ≠ "java/lang/invoke/MethodHandle" ∧ yX4_led.cls ≠ "java/lang/invoke/VarHandle" ∧ (parseMethodDescriptor yX4_led.desc).map (fun d => d.parameters.length) = some 1 := by decide +kernel
set_option maxHeartbeats 4000000 in
set_option maxRecDepth 100000 in
theorem mt4_led (l : Launch) {D : va_G} {cA : Nat → ClassId} {m0 : Nat} {ad : Nat → Nat} (hA : mAd m0 ad) (a1 : Int32) (M : MS) (Post : Int32 → MS → Prop) (h : w4_led a1 M Post) : Met l yX4_led (ws_ yX4_led cX4_led 2 (some .int)) rX4_led (mPc [.ref m0, .int a1] D cA m0 ad M) (va_Qi Post (mB D cA m0 ad) (mF m0 ad)) 0 0 (mF m0 ad) := by
  refine mst_i (own := RX4) (by decide) rfl (Nat.le_of_ble_eq_true rfl) ?_
  intro p e s m args below meth c Q ls S hK hP hS hl hret
  have hx := S.1
  have hb := S.2.1
  have hl : lv_has ls 2 [(0, .ref m0), (1, .int a1)] := hl
  unfold w4_led at h
  refine lv_aload_n hx hb dX4_led_0 rfl (lv_at hl 0 rfl) ?_
  refine lv_iconst hx hb dX4_led_1 kc_0 ?_
  refine mp_i S hK hA hP hS (k := 2) (by decide) (Or.inl rfl) rfl (Or.inl ⟨rfl, rfl⟩) q1422 dX4_led_2 (fun M_1 H locs e_M_1 hP hS => ?_)
  replace h := h M_1 e_M_1
  refine lv_aload_n hx hb dX4_led_5 rfl (lv_at hl 0 rfl) ?_
  refine lv_iload_n hx hb dX4_led_6 rfl (lv_at hl 1 rfl) ?_
  refine mc_i S hK hP hS (As := [.int a1]) (rest := []) (mt4_isHeardWord l hA a1 M_1 _ h) (cwV 1 S.2.2.2.2 (lw_V q1806 q1808 qs98 q145 q1809) rfl rfl rfl cdX4_isHeardWord ⟨Nat.le_of_ble_eq_true rfl, Nat.le_of_ble_eq_true rfl⟩) rfl rfl hl.1 (Nat.le_of_ble_eq_true rfl) dX4_led_7 ⟨Nat.le_refl _, Nat.le_refl _⟩ (fun r_3 M_2 H locs h hP hS => ?_)
  refine lv_if_eq (tgt := 21) hx hb dX4_led_10 (by decide) (fun c_4 => ?_) (fun c_4 => ?_)
  · replace h := h.1 c_4
    refine lv_iconst hx hb dX4_led_21 kc_m1 ?_
    exact hret _ _ _ _ _ _ hP hS h rfl dX4_led_22
  · replace h := h.2 c_4
    refine lv_aload_n hx hb dX4_led_13 rfl (lv_at hl 0 rfl) ?_
    refine lv_iload_n hx hb dX4_led_14 rfl (lv_at hl 1 rfl) ?_
    refine mc_i S hK hP hS (As := [.int a1]) (rest := []) (mt4_ledBy l hA a1 M_2 _ h) (cwV 1 S.2.2.2.2 (lw_V q1829 q1831 qs103 q145 q1832) rfl rfl rfl cdX4_ledBy ⟨Nat.le_of_ble_eq_true rfl, Nat.le_of_ble_eq_true rfl⟩) rfl rfl hl.1 (Nat.le_of_ble_eq_true rfl) dX4_led_15 ⟨Nat.le_refl _, Nat.le_refl _⟩ (fun r_6 M_5 H locs h hP hS => ?_)
    refine lv_goto (tgt := 22) hx hb dX4_led_18 (by decide) ?_
    exact hret _ _ _ _ _ _ hP hS h rfl dX4_led_22
def w4_words_c77 (a1 : Int32) (a2 : Int32) (k30 : Int32 → Int32 → MS → Prop) (Post : Int32 → MS → Prop) (x4 : Int32) (t0 : Int32) (t1 : Int32) (M : MS) : Prop := ∀ v_11 : Int32, v_11 = t1 + t0 → ∀ v_12 : Int32, v_12 = x4 + (1 : Int32) → k30 v_11 v_12 M
def w4_words_c76 (a1 : Int32) (a2 : Int32) (k30 : Int32 → Int32 → MS → Prop) (Post : Int32 → MS → Prop) (x4 : Int32) (t0 : Int32) (M : MS) : Prop := w4_words_c77 a1 a2 k30 Post x4 (0 : Int32) t0 M
def w4_words_l30 (a1 : Int32) (a2 : Int32) (Post : Int32 → MS → Prop) : Nat → Int32 → Int32 → MS → Prop
  | 0, _, _, _ => False
  | n + 1, x3, x4, M => ((mi M 13) ≤ x4 → (Post x3 M)) ∧ (¬ ((mi M 13) ≤ x4) → (w4_isHeardWord x4 M (fun r_9 M_8 => (r_9 = 0 → (w4_words_c76 a1 a2 (w4_words_l30 a1 a2 Post n) Post x4 x3 M_8)) ∧ (¬ (r_9 = 0) → ((vp_in x4 (mN 32) ∧ ((ma M_8 32 (Int32.toNatClampNeg x4)) = a1 → (w4_whatIs x4 M_8 (fun r_15 M_14 => ((r_15 &&& a2) = a2 → (w4_words_c77 a1 a2 (w4_words_l30 a1 a2 Post n) Post x4 (1 : Int32) x3 M_14)) ∧ (¬ ((r_15 &&& a2) = a2) → (w4_words_c76 a1 a2 (w4_words_l30 a1 a2 Post n) Post x4 x3 M_14))))) ∧ (¬ ((ma M_8 32 (Int32.toNatClampNeg x4)) = a1) → (w4_words_c76 a1 a2 (w4_words_l30 a1 a2 Post n) Post x4 x3 M_8))))))))
def w4_words (a1 : Int32) (a2 : Int32) (M : MS) (Post : Int32 → MS → Prop) : Prop := ∀ M_1 : MS, M_1 = si M 2 (0 : Int32) → w4_isTeller a1 M_1 (fun r_3 M_2 => (r_3 = 0 → (Post (-1 : Int32) M_2)) ∧ (¬ (r_3 = 0) → (w4_isIn a2 (1 : Int32) (127 : Int32) (fun r_5 => (r_5 = 0 → (Post (-1 : Int32) M_2)) ∧ (¬ (r_5 = 0) → (∃ f, w4_words_l30 a1 a2 Post f (0 : Int32) (0 : Int32) M_2))))))
abbrev rX4_words : Room := { frames := 5, cells := 0, slots := 0, locals := 117 }
theorem cdX4_words : yX4_words.cls = RX4 ∧ yX4_words.cls ≠ "java/lang/invoke/MethodHandle" ∧ yX4_words.cls ≠ "java/lang/invoke/VarHandle" ∧ (parseMethodDescriptor yX4_words.desc).map (fun d => d.parameters.length) = some 2 := by decide +kernel
set_option maxHeartbeats 4000000 in
set_option maxRecDepth 100000 in
theorem mt4_words (l : Launch) {D : va_G} {cA : Nat → ClassId} {m0 : Nat} {ad : Nat → Nat} (hA : mAd m0 ad) (a1 : Int32) (a2 : Int32) (M : MS) (Post : Int32 → MS → Prop) (h : w4_words a1 a2 M Post) : Met l yX4_words (ws_ yX4_words cX4_words 5 (some .int)) rX4_words (mPc [.ref m0, .int a1, .int a2] D cA m0 ad M) (va_Qi Post (mB D cA m0 ad) (mF m0 ad)) 0 0 (mF m0 ad) := by
  refine mst_i (own := RX4) (by decide) rfl (Nat.le_of_ble_eq_true rfl) ?_
  intro p e s m args below meth c Q ls S hK hP hS hl hret
  have hx := S.1
  have hb := S.2.1
  have hl : lv_has ls 5 [(0, .ref m0), (1, .int a1), (2, .int a2)] := hl
  have C77 : ∀ (k30 : Int32 → Int32 → MS → Prop) (K30 : (∀ (x3 : Int32) (x4 : Int32) (M : MS) (H : Heap) (locs : List Loc) (ls : Array Slot), va_P D vwCl (mo cA m0 ad M) H → va_S (mF m0 ad) s.heap H locs → lv_has ls 5 [(0, .ref m0), (1, .int a1), (2, .int a2), (3, .int x3), (4, .int x4)] → k30 x3 x4 M → W p l e rX4_words s m args below meth c H locs 0 0 Q (F0 m 30 ls []))), ∀ (x4 : Int32) (t0 : Int32) (t1 : Int32) (M : MS) (H : Heap) (locs : List Loc) (ls : Array Slot), va_P D vwCl (mo cA m0 ad M) H → va_S (mF m0 ad) s.heap H locs → lv_has ls 5 [(0, .ref m0), (1, .int a1), (2, .int a2), (4, .int x4)] → w4_words_c77 a1 a2 k30 Post x4 t0 t1 M → W p l e rX4_words s m args below meth c H locs 0 0 Q (F0 m 77 ls [.int t0, .int t1]) := by
    intro k30 K30
    intro x4 t0 t1 M H locs ls hP hS hl h
    unfold w4_words_c77 at h
    refine lv_iadd hx hb dX4_words_77 ?_
    refine lv_topi (fun v_11 e_v_11 => ?_)
    replace h := h v_11 e_v_11
    refine lv_istore_n (lv' := [(3, .int v_11), (0, .ref m0), (1, .int a1), (2, .int a2), (4, .int x4)]) hx hb dX4_words_78 rfl hl (by decide) rfl (fun ls hl => ?_)
    obtain ⟨v_12, e_v_12⟩ : ∃ y : Int32, y = x4 + (1 : Int32) := ⟨_, rfl⟩
    replace h := h v_12 e_v_12
    refine lv_iinc (v := v_12) (lv' := [(4, .int v_12), (3, .int v_11), (0, .ref m0), (1, .int a1), (2, .int a2)]) hx hb dX4_words_79 hl (k := 4) rfl (by rw [kc_1, e_v_12]) (by decide) rfl (fun ls hl => ?_)
    refine lv_goto (tgt := 30) hx hb dX4_words_82 (by decide) ?_
    exact K30 _ _ _ _ _ _ hP hS (lv_sub hl [2, 3, 4, 1, 0] rfl) h
  have C76 : ∀ (k30 : Int32 → Int32 → MS → Prop) (K30 : (∀ (x3 : Int32) (x4 : Int32) (M : MS) (H : Heap) (locs : List Loc) (ls : Array Slot), va_P D vwCl (mo cA m0 ad M) H → va_S (mF m0 ad) s.heap H locs → lv_has ls 5 [(0, .ref m0), (1, .int a1), (2, .int a2), (3, .int x3), (4, .int x4)] → k30 x3 x4 M → W p l e rX4_words s m args below meth c H locs 0 0 Q (F0 m 30 ls []))), ∀ (x4 : Int32) (t0 : Int32) (M : MS) (H : Heap) (locs : List Loc) (ls : Array Slot), va_P D vwCl (mo cA m0 ad M) H → va_S (mF m0 ad) s.heap H locs → lv_has ls 5 [(0, .ref m0), (1, .int a1), (2, .int a2), (4, .int x4)] → w4_words_c76 a1 a2 k30 Post x4 t0 M → W p l e rX4_words s m args below meth c H locs 0 0 Q (F0 m 76 ls [.int t0]) := by
    intro k30 K30
    intro x4 t0 M H locs ls hP hS hl h
    unfold w4_words_c76 at h
    refine lv_iconst hx hb dX4_words_76 kc_0 ?_
    exact C77 _ K30 _ _ _ _ _ _ _ hP hS (lv_sub hl [0, 1, 2, 3] rfl) h
  have L30 : ∀ (n : Nat) (x3 : Int32) (x4 : Int32) (M : MS) (H : Heap) (locs : List Loc) (ls : Array Slot), va_P D vwCl (mo cA m0 ad M) H → va_S (mF m0 ad) s.heap H locs → lv_has ls 5 [(0, .ref m0), (1, .int a1), (2, .int a2), (3, .int x3), (4, .int x4)] → w4_words_l30 a1 a2 Post n x3 x4 M → W p l e rX4_words s m args below meth c H locs 0 0 Q (F0 m 30 ls []) := by
    intro n
    induction n with
    | zero => intro x3 x4 M H locs ls hP hS hl h; rw [w4_words_l30] at h; exact h.elim
    | succ n ih =>
      intro x3 x4 M H locs ls hP hS hl h
      rw [w4_words_l30] at h
      refine lv_iload hx hb dX4_words_30 (lv_at hl 4 rfl) ?_
      refine lv_aload_n hx hb dX4_words_32 rfl (lv_at hl 0 rfl) ?_
      refine mg_i S hK hP (k := 13) (by decide) (by decide) q1433 dX4_words_33 ?_
      refine lv_icmp_ge (tgt := 85) hx hb dX4_words_36 (by decide) (fun c_7 => ?_) (fun c_7 => ?_)
      · replace h := h.1 c_7
        refine lv_iload_n hx hb dX4_words_85 rfl (lv_at hl 3 rfl) ?_
        exact hret _ _ _ _ _ _ hP hS h rfl dX4_words_86
      · replace h := h.2 c_7
        refine lv_iload_n hx hb dX4_words_39 rfl (lv_at hl 3 rfl) ?_
        refine lv_aload_n hx hb dX4_words_40 rfl (lv_at hl 0 rfl) ?_
        refine lv_iload hx hb dX4_words_41 (lv_at hl 4 rfl) ?_
        refine mc_i S hK hP hS (As := [.int x4]) (rest := [.int x3]) (mt4_isHeardWord l hA x4 M _ h) (cwV 1 S.2.2.2.2 (lw_V q1806 q1808 qs98 q145 q1809) rfl rfl rfl cdX4_isHeardWord ⟨Nat.le_of_ble_eq_true rfl, Nat.le_of_ble_eq_true rfl⟩) rfl rfl hl.1 (Nat.le_of_ble_eq_true rfl) dX4_words_43 ⟨Nat.le_refl _, Nat.le_refl _⟩ (fun r_9 M_8 H locs h hP hS => ?_)
        refine lv_if_eq (tgt := 76) hx hb dX4_words_46 (by decide) (fun c_10 => ?_) (fun c_10 => ?_)
        · replace h := h.1 c_10
          exact C76 _ ih _ _ _ _ _ _ hP hS (lv_sub hl [0, 1, 2, 4] rfl) h
        · replace h := h.2 c_10
          refine lv_aload_n hx hb dX4_words_49 rfl (lv_at hl 0 rfl) ?_
          refine mg_r S hK hP (k := 32) (by decide) (by decide) q1452 dX4_words_50 ?_
          refine lv_iload hx hb dX4_words_53 (lv_at hl 4 rfl) ?_
          obtain ⟨hi, h⟩ := h
          refine ml_a S hK hP (k := 32) af_32 rfl hi dX4_words_55 ?_
          refine lv_iload_n hx hb dX4_words_56 rfl (lv_at hl 1 rfl) ?_
          refine lv_icmp_ne (tgt := 76) hx hb dX4_words_57 (by decide) (fun c_13 => ?_) (fun c_13 => ?_)
          · replace h := h.2 c_13
            exact C76 _ ih _ _ _ _ _ _ hP hS (lv_sub hl [0, 1, 2, 4] rfl) h
          · replace h := h.1 c_13
            refine lv_aload_n hx hb dX4_words_60 rfl (lv_at hl 0 rfl) ?_
            refine lv_iload hx hb dX4_words_61 (lv_at hl 4 rfl) ?_
            refine mc_i S hK hP hS (As := [.int x4]) (rest := [.int x3]) (mt4_whatIs l hA x4 M_8 _ h) (cwV 1 S.2.2.2.2 (lw_V q1810 q1812 qs99 q145 q1813) rfl rfl rfl cdX4_whatIs ⟨Nat.le_of_ble_eq_true rfl, Nat.le_of_ble_eq_true rfl⟩) rfl rfl hl.1 (Nat.le_of_ble_eq_true rfl) dX4_words_63 ⟨Nat.le_refl _, Nat.le_refl _⟩ (fun r_15 M_14 H locs h hP hS => ?_)
            refine lv_iload_n hx hb dX4_words_66 rfl (lv_at hl 2 rfl) ?_
            refine lv_iand hx hb dX4_words_67 ?_
            refine lv_iload_n hx hb dX4_words_68 rfl (lv_at hl 2 rfl) ?_
            refine lv_icmp_ne (tgt := 76) hx hb dX4_words_69 (by decide) (fun c_16 => ?_) (fun c_16 => ?_)
            · replace h := h.2 c_16
              exact C76 _ ih _ _ _ _ _ _ hP hS (lv_sub hl [0, 1, 2, 4] rfl) h
            · replace h := h.1 c_16
              refine lv_iconst hx hb dX4_words_72 kc_1 ?_
              refine lv_goto (tgt := 77) hx hb dX4_words_73 (by decide) ?_
              exact C77 _ ih _ _ _ _ _ _ _ hP hS (lv_sub hl [0, 1, 2, 4] rfl) h
  unfold w4_words at h
  refine lv_aload_n hx hb dX4_words_0 rfl (lv_at hl 0 rfl) ?_
  refine lv_iconst hx hb dX4_words_1 kc_0 ?_
  refine mp_i S hK hA hP hS (k := 2) (by decide) (Or.inl rfl) rfl (Or.inl ⟨rfl, rfl⟩) q1422 dX4_words_2 (fun M_1 H locs e_M_1 hP hS => ?_)
  replace h := h M_1 e_M_1
  refine lv_aload_n hx hb dX4_words_5 rfl (lv_at hl 0 rfl) ?_
  refine lv_iload_n hx hb dX4_words_6 rfl (lv_at hl 1 rfl) ?_
  refine mc_i S hK hP hS (As := [.int a1]) (rest := []) (mt4_isTeller l hA a1 M_1 _ h) (cwV 1 S.2.2.2.2 (lw_V q1771 q1773 qs95 q145 q1774) rfl rfl rfl cdX4_isTeller ⟨Nat.le_of_ble_eq_true rfl, Nat.le_of_ble_eq_true rfl⟩) rfl rfl hl.1 (Nat.le_of_ble_eq_true rfl) dX4_words_7 ⟨Nat.le_refl _, Nat.le_refl _⟩ (fun r_3 M_2 H locs h hP hS => ?_)
  refine lv_if_eq (tgt := 23) hx hb dX4_words_10 (by decide) (fun c_4 => ?_) (fun c_4 => ?_)
  · replace h := h.1 c_4
    refine lv_iconst hx hb dX4_words_23 kc_m1 ?_
    exact hret _ _ _ _ _ _ hP hS h rfl dX4_words_24
  · replace h := h.2 c_4
    refine lv_iload_n hx hb dX4_words_13 rfl (lv_at hl 2 rfl) ?_
    refine lv_iconst hx hb dX4_words_14 kc_1 ?_
    refine lv_bipush hx hb dX4_words_15 kb_127 ?_
    refine sc_i S (As := [.int a2, .int (1 : Int32), .int (127 : Int32)]) (rest := []) (mt4_isIn l a2 (1 : Int32) (127 : Int32) _ h) (va_cwS 3 S.2.2.2.2 (lw_S q1795 q1796 q145 q1797) rfl rfl rfl cdX4_isIn ⟨Nat.le_of_ble_eq_true rfl, Nat.le_of_ble_eq_true rfl⟩) rfl rfl hl.1 (Nat.le_of_ble_eq_true rfl) dX4_words_17 ⟨Nat.le_refl _, Nat.le_refl _⟩ (fun r_5 h => ?_)
    refine lv_if_ne (tgt := 25) hx hb dX4_words_20 (by decide) (fun c_6 => ?_) (fun c_6 => ?_)
    · replace h := h.2 c_6
      refine lv_iconst hx hb dX4_words_25 kc_0 ?_
      refine lv_istore_n (lv' := [(3, .int (0 : Int32)), (0, .ref m0), (1, .int a1), (2, .int a2)]) hx hb dX4_words_26 rfl hl (by decide) rfl (fun ls hl => ?_)
      refine lv_iconst hx hb dX4_words_27 kc_0 ?_
      refine lv_istore (lv' := [(4, .int (0 : Int32)), (3, .int (0 : Int32)), (0, .ref m0), (1, .int a1), (2, .int a2)]) hx hb dX4_words_28 hl (by decide) rfl (fun ls hl => ?_)
      obtain ⟨f, h⟩ := h
      exact L30 f _ _ _ _ _ _ hP hS (lv_sub hl [2, 3, 4, 1, 0] rfl) h
    · replace h := h.1 c_6
      refine lv_iconst hx hb dX4_words_23 kc_m1 ?_
      exact hret _ _ _ _ _ _ hP hS h rfl dX4_words_24
