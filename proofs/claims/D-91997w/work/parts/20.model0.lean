def w4_plain_l32 (Post : MS → Prop) : Nat → Int32 → MS → Prop
  | 0, _, _ => False
  | n + 1, x1, M => ((6 : Int32) ≤ x1 → (Post M)) ∧ (¬ ((6 : Int32) ≤ x1) → ((vp_in x1 (mN 39) ∧ ∀ M_8 : MS, M_8 = sa M 39 (Int32.toNatClampNeg x1) (0 : Int32) → (vp_in x1 (mN 40) ∧ ∀ M_9 : MS, M_9 = sa M_8 40 (Int32.toNatClampNeg x1) (0 : Int32) → ∀ v_10 : Int32, v_10 = x1 + (1 : Int32) → w4_plain_l32 Post n v_10 M_9))))
def w4_plain (M : MS) (Post : MS → Prop) : Prop := ∀ M_1 : MS, M_1 = si M 16 (0 : Int32) → ∀ M_2 : MS, M_2 = si M_1 17 (0 : Int32) → ∀ M_3 : MS, M_3 = si M_2 18 (0 : Int32) → ∀ M_4 : MS, M_4 = si M_3 19 (0 : Int32) → ∀ M_5 : MS, M_5 = si M_4 20 (0 : Int32) → ∀ M_6 : MS, M_6 = si M_5 55 (0 : Int32) → ∃ f, w4_plain_l32 Post f (3 : Int32) M_6
abbrev rX4_plain : Room := { frames := 0, cells := 0, slots := 0, locals := 0 }
theorem cdX4_plain : yX4_plain.cls = RX4 ∧ yX4_plain.cls ≠ "java/lang/invoke/MethodHandle" ∧ yX4_plain.cls ≠ "java/lang/invoke/VarHandle" ∧ (parseMethodDescriptor yX4_plain.desc).map (fun d => d.parameters.length) = some 0 := by decide +kernel
set_option maxHeartbeats 4000000 in
set_option maxRecDepth 100000 in
theorem mt4_plain (l : Launch) {D : va_G} {cA : Nat → ClassId} {m0 : Nat} {ad : Nat → Nat} (hA : mAd m0 ad) (M : MS) (Post : MS → Prop) (h : w4_plain M Post) : Met l yX4_plain (ws_ yX4_plain cX4_plain 2 none) rX4_plain (mPc [.ref m0] D cA m0 ad M) (va_Qv Post (mB D cA m0 ad) (mF m0 ad)) 0 0 (mF m0 ad) := by
  refine mst_v (own := RX4) (by decide) rfl (Nat.le_of_ble_eq_true rfl) ?_
  intro p e s m args below meth c Q ls S hK hP hS hl hret
  have hx := S.1
  have hb := S.2.1
  have hl : lv_has ls 2 [(0, .ref m0)] := hl
  have L32 : ∀ (n : Nat) (x1 : Int32) (M : MS) (H : Heap) (locs : List Loc) (ls : Array Slot), va_P D vwCl (mo cA m0 ad M) H → va_S (mF m0 ad) s.heap H locs → lv_has ls 2 [(0, .ref m0), (1, .int x1)] → w4_plain_l32 Post n x1 M → W p l e rX4_plain s m args below meth c H locs 0 0 Q (F0 m 32 ls []) := by
    intro n
    induction n with
    | zero => intro x1 M H locs ls hP hS hl h; rw [w4_plain_l32] at h; exact h.elim
    | succ n ih =>
      intro x1 M H locs ls hP hS hl h
      rw [w4_plain_l32] at h
      refine lv_iload_n hx hb dX4_plain_32 rfl (lv_at hl 1 rfl) ?_
      refine lv_bipush hx hb dX4_plain_33 kb_6 ?_
      refine lv_icmp_ge (tgt := 58) hx hb dX4_plain_35 (by decide) (fun c_7 => ?_) (fun c_7 => ?_)
      · replace h := h.1 c_7
        exact hret _ _ _ _ _ hP hS h dX4_plain_58
      · replace h := h.2 c_7
        refine lv_aload_n hx hb dX4_plain_38 rfl (lv_at hl 0 rfl) ?_
        refine mg_r S hK hP (k := 39) (by decide) (by decide) q1459 dX4_plain_39 ?_
        refine lv_iload_n hx hb dX4_plain_42 rfl (lv_at hl 1 rfl) ?_
        refine lv_iconst hx hb dX4_plain_43 kc_0 ?_
        obtain ⟨hi, h⟩ := h
        refine ms_a S hK hA hP hS (k := 39) af_39 rfl hi dX4_plain_44 (fun M_8 H locs e_M_8 hP hS => ?_)
        replace h := h M_8 e_M_8
        refine lv_aload_n hx hb dX4_plain_45 rfl (lv_at hl 0 rfl) ?_
        refine mg_r S hK hP (k := 40) (by decide) (by decide) q1460 dX4_plain_46 ?_
        refine lv_iload_n hx hb dX4_plain_49 rfl (lv_at hl 1 rfl) ?_
        refine lv_iconst hx hb dX4_plain_50 kc_0 ?_
        obtain ⟨hi, h⟩ := h
        refine ms_a S hK hA hP hS (k := 40) af_40 rfl hi dX4_plain_51 (fun M_9 H locs e_M_9 hP hS => ?_)
        replace h := h M_9 e_M_9
        obtain ⟨v_10, e_v_10⟩ : ∃ y : Int32, y = x1 + (1 : Int32) := ⟨_, rfl⟩
        replace h := h v_10 e_v_10
        refine lv_iinc (v := v_10) (lv' := [(1, .int v_10), (0, .ref m0)]) hx hb dX4_plain_52 hl (k := 1) rfl (by rw [kc_1, e_v_10]) (by decide) rfl (fun ls hl => ?_)
        refine lv_goto (tgt := 32) hx hb dX4_plain_55 (by decide) ?_
        exact ih _ _ _ _ _ hP hS (lv_sub hl [1, 0] rfl) h
  unfold w4_plain at h
  refine lv_aload_n hx hb dX4_plain_0 rfl (lv_at hl 0 rfl) ?_
  refine lv_iconst hx hb dX4_plain_1 kc_0 ?_
  refine mp_i S hK hA hP hS (k := 16) (by decide) (Or.inl rfl) rfl (Or.inl ⟨rfl, rfl⟩) q1436 dX4_plain_2 (fun M_1 H locs e_M_1 hP hS => ?_)
  replace h := h M_1 e_M_1
  refine lv_aload_n hx hb dX4_plain_5 rfl (lv_at hl 0 rfl) ?_
  refine lv_iconst hx hb dX4_plain_6 kc_0 ?_
  refine mp_i S hK hA hP hS (k := 17) (by decide) (Or.inl rfl) rfl (Or.inl ⟨rfl, rfl⟩) q1437 dX4_plain_7 (fun M_2 H locs e_M_2 hP hS => ?_)
  replace h := h M_2 e_M_2
  refine lv_aload_n hx hb dX4_plain_10 rfl (lv_at hl 0 rfl) ?_
  refine lv_iconst hx hb dX4_plain_11 kc_0 ?_
  refine mp_i S hK hA hP hS (k := 18) (by decide) (Or.inl rfl) rfl (Or.inl ⟨rfl, rfl⟩) q1438 dX4_plain_12 (fun M_3 H locs e_M_3 hP hS => ?_)
  replace h := h M_3 e_M_3
  refine lv_aload_n hx hb dX4_plain_15 rfl (lv_at hl 0 rfl) ?_
  refine lv_iconst hx hb dX4_plain_16 kc_0 ?_
  refine mp_i S hK hA hP hS (k := 19) (by decide) (Or.inl rfl) rfl (Or.inl ⟨rfl, rfl⟩) q1439 dX4_plain_17 (fun M_4 H locs e_M_4 hP hS => ?_)
  replace h := h M_4 e_M_4
  refine lv_aload_n hx hb dX4_plain_20 rfl (lv_at hl 0 rfl) ?_
  refine lv_iconst hx hb dX4_plain_21 kc_0 ?_
  refine mp_i S hK hA hP hS (k := 20) (by decide) (Or.inl rfl) rfl (Or.inl ⟨rfl, rfl⟩) q1440 dX4_plain_22 (fun M_5 H locs e_M_5 hP hS => ?_)
  replace h := h M_5 e_M_5
  refine lv_aload_n hx hb dX4_plain_25 rfl (lv_at hl 0 rfl) ?_
  refine lv_iconst hx hb dX4_plain_26 kc_0 ?_
  refine mp_i S hK hA hP hS (k := 55) (by decide) (Or.inl rfl) rfl (Or.inl ⟨rfl, rfl⟩) q1475 dX4_plain_27 (fun M_6 H locs e_M_6 hP hS => ?_)
  replace h := h M_6 e_M_6
  refine lv_iconst hx hb dX4_plain_30 kc_3 ?_
  refine lv_istore_n (lv' := [(1, .int (3 : Int32)), (0, .ref m0)]) hx hb dX4_plain_31 rfl hl (by decide) rfl (fun ls hl => ?_)
  obtain ⟨f, h⟩ := h
  exact L32 f _ _ _ _ _ hP hS (lv_sub hl [1, 0] rfl) h
def w4_copies (a1 : Int32) (a2 : Int32) (M : MS) (Post : MS → Prop) : Prop := (vp_in a1 (mN 31) ∧ (vp_in a2 (mN 31) ∧ ∀ M_1 : MS, M_1 = sa M 31 (Int32.toNatClampNeg a2) (vp_nar .boolean (ma M 31 (Int32.toNatClampNeg a1))) → (vp_in a1 (mN 32) ∧ (vp_in a2 (mN 32) ∧ ∀ M_2 : MS, M_2 = sa M_1 32 (Int32.toNatClampNeg a2) (ma M_1 32 (Int32.toNatClampNeg a1)) → (vp_in a1 (mN 33) ∧ (vp_in a2 (mN 33) ∧ ∀ M_3 : MS, M_3 = sa M_2 33 (Int32.toNatClampNeg a2) (ma M_2 33 (Int32.toNatClampNeg a1)) → (vp_in a1 (mN 34) ∧ (vp_in a2 (mN 34) ∧ ∀ M_4 : MS, M_4 = sa M_3 34 (Int32.toNatClampNeg a2) (ma M_3 34 (Int32.toNatClampNeg a1)) → (vp_in a1 (mN 35) ∧ (vp_in a2 (mN 35) ∧ ∀ M_5 : MS, M_5 = sa M_4 35 (Int32.toNatClampNeg a2) (ma M_4 35 (Int32.toNatClampNeg a1)) → Post M_5))))))))))
abbrev rX4_copies : Room := { frames := 0, cells := 0, slots := 0, locals := 0 }
theorem cdX4_copies : yX4_copies.cls = RX4 ∧ yX4_copies.cls ≠ "java/lang/invoke/MethodHandle" ∧ yX4_copies.cls ≠ "java/lang/invoke/VarHandle" ∧ (parseMethodDescriptor yX4_copies.desc).map (fun d => d.parameters.length) = some 2 := by decide +kernel
set_option maxHeartbeats 4000000 in
set_option maxRecDepth 100000 in
theorem mt4_copies (l : Launch) {D : va_G} {cA : Nat → ClassId} {m0 : Nat} {ad : Nat → Nat} (hA : mAd m0 ad) (a1 : Int32) (a2 : Int32) (M : MS) (Post : MS → Prop) (h : w4_copies a1 a2 M Post) : Met l yX4_copies (ws_ yX4_copies cX4_copies 3 none) rX4_copies (mPc [.ref m0, .int a1, .int a2] D cA m0 ad M) (va_Qv Post (mB D cA m0 ad) (mF m0 ad)) 0 0 (mF m0 ad) := by
  refine mst_v (own := RX4) (by decide) rfl (Nat.le_of_ble_eq_true rfl) ?_
  intro p e s m args below meth c Q ls S hK hP hS hl hret
  have hx := S.1
  have hb := S.2.1
  have hl : lv_has ls 3 [(0, .ref m0), (1, .int a1), (2, .int a2)] := hl
  unfold w4_copies at h
  refine lv_aload_n hx hb dX4_copies_0 rfl (lv_at hl 0 rfl) ?_
  refine mg_r S hK hP (k := 31) (by decide) (by decide) q1451 dX4_copies_1 ?_
  refine lv_iload_n hx hb dX4_copies_4 rfl (lv_at hl 2 rfl) ?_
  refine lv_aload_n hx hb dX4_copies_5 rfl (lv_at hl 0 rfl) ?_
  refine mg_r S hK hP (k := 31) (by decide) (by decide) q1451 dX4_copies_6 ?_
  refine lv_iload_n hx hb dX4_copies_9 rfl (lv_at hl 1 rfl) ?_
  obtain ⟨hi, h⟩ := h
  refine ml_z S hK hP (k := 31) af_31 rfl hi dX4_copies_10 ?_
  obtain ⟨hi, h⟩ := h
  refine ms_z S hK hA hP hS (k := 31) af_31 rfl hi dX4_copies_11 (fun M_1 H locs e_M_1 hP hS => ?_)
  replace h := h M_1 e_M_1
  refine lv_aload_n hx hb dX4_copies_12 rfl (lv_at hl 0 rfl) ?_
  refine mg_r S hK hP (k := 32) (by decide) (by decide) q1452 dX4_copies_13 ?_
  refine lv_iload_n hx hb dX4_copies_16 rfl (lv_at hl 2 rfl) ?_
  refine lv_aload_n hx hb dX4_copies_17 rfl (lv_at hl 0 rfl) ?_
  refine mg_r S hK hP (k := 32) (by decide) (by decide) q1452 dX4_copies_18 ?_
  refine lv_iload_n hx hb dX4_copies_21 rfl (lv_at hl 1 rfl) ?_
  obtain ⟨hi, h⟩ := h
  refine ml_a S hK hP (k := 32) af_32 rfl hi dX4_copies_22 ?_
  obtain ⟨hi, h⟩ := h
  refine ms_a S hK hA hP hS (k := 32) af_32 rfl hi dX4_copies_23 (fun M_2 H locs e_M_2 hP hS => ?_)
  replace h := h M_2 e_M_2
  refine lv_aload_n hx hb dX4_copies_24 rfl (lv_at hl 0 rfl) ?_
  refine mg_r S hK hP (k := 33) (by decide) (by decide) q1453 dX4_copies_25 ?_
  refine lv_iload_n hx hb dX4_copies_28 rfl (lv_at hl 2 rfl) ?_
  refine lv_aload_n hx hb dX4_copies_29 rfl (lv_at hl 0 rfl) ?_
  refine mg_r S hK hP (k := 33) (by decide) (by decide) q1453 dX4_copies_30 ?_
  refine lv_iload_n hx hb dX4_copies_33 rfl (lv_at hl 1 rfl) ?_
  obtain ⟨hi, h⟩ := h
  refine ml_a S hK hP (k := 33) af_33 rfl hi dX4_copies_34 ?_
  obtain ⟨hi, h⟩ := h
  refine ms_a S hK hA hP hS (k := 33) af_33 rfl hi dX4_copies_35 (fun M_3 H locs e_M_3 hP hS => ?_)
  replace h := h M_3 e_M_3
  refine lv_aload_n hx hb dX4_copies_36 rfl (lv_at hl 0 rfl) ?_
  refine mg_r S hK hP (k := 34) (by decide) (by decide) q1454 dX4_copies_37 ?_
  refine lv_iload_n hx hb dX4_copies_40 rfl (lv_at hl 2 rfl) ?_
  refine lv_aload_n hx hb dX4_copies_41 rfl (lv_at hl 0 rfl) ?_
  refine mg_r S hK hP (k := 34) (by decide) (by decide) q1454 dX4_copies_42 ?_
  refine lv_iload_n hx hb dX4_copies_45 rfl (lv_at hl 1 rfl) ?_
  obtain ⟨hi, h⟩ := h
  refine ml_a S hK hP (k := 34) af_34 rfl hi dX4_copies_46 ?_
  obtain ⟨hi, h⟩ := h
  refine ms_a S hK hA hP hS (k := 34) af_34 rfl hi dX4_copies_47 (fun M_4 H locs e_M_4 hP hS => ?_)
  replace h := h M_4 e_M_4
  refine lv_aload_n hx hb dX4_copies_48 rfl (lv_at hl 0 rfl) ?_
  refine mg_r S hK hP (k := 35) (by decide) (by decide) q1455 dX4_copies_49 ?_
  refine lv_iload_n hx hb dX4_copies_52 rfl (lv_at hl 2 rfl) ?_
  refine lv_aload_n hx hb dX4_copies_53 rfl (lv_at hl 0 rfl) ?_
  refine mg_r S hK hP (k := 35) (by decide) (by decide) q1455 dX4_copies_54 ?_
  refine lv_iload_n hx hb dX4_copies_57 rfl (lv_at hl 1 rfl) ?_
  obtain ⟨hi, h⟩ := h
  refine ml_a S hK hP (k := 35) af_35 rfl hi dX4_copies_58 ?_
  obtain ⟨hi, h⟩ := h
  refine ms_a S hK hA hP hS (k := 35) af_35 rfl hi dX4_copies_59 (fun M_5 H locs e_M_5 hP hS => ?_)
  replace h := h M_5 e_M_5
  exact hret _ _ _ _ _ hP hS h dX4_copies_60
def w4_keep_l337 (Post : MS → Prop) : Nat → Int32 → MS → Prop
  | 0, _, _ => False
  | n + 1, x1, M => ((64 : Int32) ≤ x1 → (∀ M_12 : MS, M_12 = si M 44 (0 : Int32) → ∀ M_13 : MS, M_13 = si M_12 45 (199 : Int32) → ∀ M_14 : MS, M_14 = si M_13 46 (0 : Int32) → Post M_14)) ∧ (¬ ((64 : Int32) ≤ x1) → ((vp_in ((64 : Int32) + x1) (mN 41) ∧ (vp_in x1 (mN 41) ∧ ∀ M_15 : MS, M_15 = sa M 41 (Int32.toNatClampNeg x1) (ma M 41 (Int32.toNatClampNeg ((64 : Int32) + x1))) → (vp_in ((64 : Int32) + x1) (mN 42) ∧ (vp_in x1 (mN 42) ∧ ∀ M_16 : MS, M_16 = sa M_15 42 (Int32.toNatClampNeg x1) (ma M_15 42 (Int32.toNatClampNeg ((64 : Int32) + x1))) → (vp_in ((64 : Int32) + x1) (mN 43) ∧ (vp_in x1 (mN 43) ∧ ∀ M_17 : MS, M_17 = sa M_16 43 (Int32.toNatClampNeg x1) (ma M_16 43 (Int32.toNatClampNeg ((64 : Int32) + x1))) → ∀ v_18 : Int32, v_18 = x1 + (1 : Int32) → w4_keep_l337 Post n v_18 M_17))))))))
def w4_keep_l296 (Post : MS → Prop) : Nat → Int32 → MS → Prop
  | 0, _, _ => False
  | n + 1, x1, M => ((3 : Int32) ≤ x1 → (∃ f, w4_keep_l337 Post f (0 : Int32) M)) ∧ (¬ ((3 : Int32) ≤ x1) → ((vp_in ((3 : Int32) + x1) (mN 39) ∧ (vp_in x1 (mN 39) ∧ ∀ M_19 : MS, M_19 = sa M 39 (Int32.toNatClampNeg x1) (ma M 39 (Int32.toNatClampNeg ((3 : Int32) + x1))) → (vp_in ((3 : Int32) + x1) (mN 40) ∧ (vp_in x1 (mN 40) ∧ ∀ M_20 : MS, M_20 = sa M_19 40 (Int32.toNatClampNeg x1) (ma M_19 40 (Int32.toNatClampNeg ((3 : Int32) + x1))) → ∀ v_21 : Int32, v_21 = x1 + (1 : Int32) → w4_keep_l296 Post n v_21 M_20))))))
def w4_keep_l237 (Post : MS → Prop) : Nat → Int32 → MS → Prop
  | 0, _, _ => False
  | n + 1, x1, M => ((20 : Int32) ≤ x1 → (∃ f, w4_keep_l296 Post f (0 : Int32) M)) ∧ (¬ ((20 : Int32) ≤ x1) → ((vp_in ((20 : Int32) + x1) (mN 36) ∧ (vp_in x1 (mN 36) ∧ ∀ M_22 : MS, M_22 = sa M 36 (Int32.toNatClampNeg x1) (ma M 36 (Int32.toNatClampNeg ((20 : Int32) + x1))) → (vp_in ((20 : Int32) + x1) (mN 37) ∧ (vp_in x1 (mN 37) ∧ ∀ M_23 : MS, M_23 = sa M_22 37 (Int32.toNatClampNeg x1) (ma M_22 37 (Int32.toNatClampNeg ((20 : Int32) + x1))) → (vp_in ((20 : Int32) + x1) (mN 38) ∧ (vp_in x1 (mN 38) ∧ ∀ M_24 : MS, M_24 = sa M_23 38 (Int32.toNatClampNeg x1) (ma M_23 38 (Int32.toNatClampNeg ((20 : Int32) + x1))) → ∀ v_25 : Int32, v_25 = x1 + (1 : Int32) → w4_keep_l237 Post n v_25 M_24))))))))
def w4_keep_l214 (Post : MS → Prop) : Nat → Int32 → MS → Prop
  | 0, _, _ => False
  | n + 1, x1, M => ((40 : Int32) ≤ x1 → (∃ f, w4_keep_l237 Post f (0 : Int32) M)) ∧ (¬ ((40 : Int32) ≤ x1) → (w4_copies ((60 : Int32) + x1) x1 M (fun M_26 => ∀ v_27 : Int32, v_27 = x1 + (1 : Int32) → w4_keep_l214 Post n v_27 M_26)))
def w4_keep_l131 (Post : MS → Prop) : Nat → Int32 → MS → Prop
  | 0, _, _ => False
  | n + 1, x1, M => ((5 : Int32) ≤ x1 → (∃ f, w4_keep_l214 Post f (0 : Int32) M)) ∧ (¬ ((5 : Int32) ≤ x1) → ((vp_in ((5 : Int32) + x1) (mN 26) ∧ (vp_in x1 (mN 26) ∧ ∀ M_28 : MS, M_28 = sa M 26 (Int32.toNatClampNeg x1) (ma M 26 (Int32.toNatClampNeg ((5 : Int32) + x1))) → (vp_in ((5 : Int32) + x1) (mN 27) ∧ (vp_in x1 (mN 27) ∧ ∀ M_29 : MS, M_29 = sa M_28 27 (Int32.toNatClampNeg x1) (ma M_28 27 (Int32.toNatClampNeg ((5 : Int32) + x1))) → (vp_in ((5 : Int32) + x1) (mN 28) ∧ (vp_in x1 (mN 28) ∧ ∀ M_30 : MS, M_30 = sa M_29 28 (Int32.toNatClampNeg x1) (ma M_29 28 (Int32.toNatClampNeg ((5 : Int32) + x1))) → (vp_in ((5 : Int32) + x1) (mN 29) ∧ (vp_in x1 (mN 29) ∧ ∀ M_31 : MS, M_31 = sa M_30 29 (Int32.toNatClampNeg x1) (ma M_30 29 (Int32.toNatClampNeg ((5 : Int32) + x1))) → (vp_in ((5 : Int32) + x1) (mN 30) ∧ (vp_in x1 (mN 30) ∧ ∀ M_32 : MS, M_32 = sa M_31 30 (Int32.toNatClampNeg x1) (ma M_31 30 (Int32.toNatClampNeg ((5 : Int32) + x1))) → ∀ v_33 : Int32, v_33 = x1 + (1 : Int32) → w4_keep_l131 Post n v_33 M_32))))))))))))
def w4_keep_l42 (Post : MS → Prop) : Nat → Int32 → MS → Prop
  | 0, _, _ => False
  | n + 1, x1, M => ((8 : Int32) ≤ x1 → (∃ f, w4_keep_l131 Post f (0 : Int32) M)) ∧ (¬ ((8 : Int32) ≤ x1) → ((vp_in ((8 : Int32) + x1) (mN 21) ∧ (vp_in x1 (mN 21) ∧ ∀ M_34 : MS, M_34 = sa M 21 (Int32.toNatClampNeg x1) (ma M 21 (Int32.toNatClampNeg ((8 : Int32) + x1))) → (vp_in ((8 : Int32) + x1) (mN 22) ∧ (vp_in x1 (mN 22) ∧ ∀ M_35 : MS, M_35 = sa M_34 22 (Int32.toNatClampNeg x1) (ma M_34 22 (Int32.toNatClampNeg ((8 : Int32) + x1))) → (vp_in ((8 : Int32) + x1) (mN 23) ∧ (vp_in x1 (mN 23) ∧ ∀ M_36 : MS, M_36 = sa M_35 23 (Int32.toNatClampNeg x1) (ma M_35 23 (Int32.toNatClampNeg ((8 : Int32) + x1))) → (vp_in ((8 : Int32) + x1) (mN 24) ∧ (vp_in x1 (mN 24) ∧ ∀ M_37 : MS, M_37 = sa M_36 24 (Int32.toNatClampNeg x1) (ma M_36 24 (Int32.toNatClampNeg ((8 : Int32) + x1))) → (vp_in ((8 : Int32) + x1) (mN 25) ∧ (vp_in x1 (mN 25) ∧ ∀ M_38 : MS, M_38 = sa M_37 25 (Int32.toNatClampNeg x1) (ma M_37 25 (Int32.toNatClampNeg ((8 : Int32) + x1))) → ∀ v_39 : Int32, v_39 = x1 + (1 : Int32) → w4_keep_l42 Post n v_39 M_38))))))))))))
def w4_keep (M : MS) (Post : MS → Prop) : Prop := ∀ M_1 : MS, M_1 = si M 11 (mi M 16) → ∀ M_2 : MS, M_2 = si M_1 12 (mi M_1 17) → ∀ M_3 : MS, M_3 = si M_2 13 (mi M_2 18) → ∀ M_4 : MS, M_4 = si M_3 14 (mi M_3 19) → ∀ M_5 : MS, M_5 = si M_4 15 (mi M_4 20) → ∃ f, w4_keep_l42 Post f (0 : Int32) M_5
abbrev rX4_keep : Room := { frames := 1, cells := 0, slots := 0, locals := 22 }
theorem cdX4_keep : yX4_keep.cls = RX4 ∧ yX4_keep.cls ≠ "java/lang/invoke/MethodHandle" ∧ yX4_keep.cls ≠ "java/lang/invoke/VarHandle" ∧ (parseMethodDescriptor yX4_keep.desc).map (fun d => d.parameters.length) = some 0 := by decide +kernel
set_option maxHeartbeats 4000000 in
set_option maxRecDepth 100000 in
theorem mt4_keep (l : Launch) {D : va_G} {cA : Nat → ClassId} {m0 : Nat} {ad : Nat → Nat} (hA : mAd m0 ad) (M : MS) (Post : MS → Prop) (h : w4_keep M Post) : Met l yX4_keep (ws_ yX4_keep cX4_keep 2 none) rX4_keep (mPc [.ref m0] D cA m0 ad M) (va_Qv Post (mB D cA m0 ad) (mF m0 ad)) 0 0 (mF m0 ad) := by
  refine mst_v (own := RX4) (by decide) rfl (Nat.le_of_ble_eq_true rfl) ?_
  intro p e s m args below meth c Q ls S hK hP hS hl hret
  have hx := S.1
  have hb := S.2.1
  have hl : lv_has ls 2 [(0, .ref m0)] := hl
  have L337 : ∀ (n : Nat) (x1 : Int32) (M : MS) (H : Heap) (locs : List Loc) (ls : Array Slot), va_P D vwCl (mo cA m0 ad M) H → va_S (mF m0 ad) s.heap H locs → lv_has ls 2 [(0, .ref m0), (1, .int x1)] → w4_keep_l337 Post n x1 M → W p l e rX4_keep s m args below meth c H locs 0 0 Q (F0 m 337 ls []) := by
    intro n
    induction n with
    | zero => intro x1 M H locs ls hP hS hl h; rw [w4_keep_l337] at h; exact h.elim
    | succ n ih =>
      intro x1 M H locs ls hP hS hl h
      rw [w4_keep_l337] at h
      refine lv_iload_n hx hb dX4_keep_337 rfl (lv_at hl 1 rfl) ?_
      refine lv_bipush hx hb dX4_keep_338 kb_64 ?_
      refine lv_icmp_ge (tgt := 394) hx hb dX4_keep_340 (by decide) (fun c_11 => ?_) (fun c_11 => ?_)
      · replace h := h.1 c_11
        refine lv_aload_n hx hb dX4_keep_394 rfl (lv_at hl 0 rfl) ?_
        refine lv_iconst hx hb dX4_keep_395 kc_0 ?_
        refine mp_i S hK hA hP hS (k := 44) (by decide) (Or.inl rfl) rfl (Or.inl ⟨rfl, rfl⟩) q1464 dX4_keep_396 (fun M_12 H locs e_M_12 hP hS => ?_)
        replace h := h M_12 e_M_12
        refine lv_aload_n hx hb dX4_keep_399 rfl (lv_at hl 0 rfl) ?_
        refine lv_sipush hx hb dX4_keep_400 ks_199 ?_
        refine mp_i S hK hA hP hS (k := 45) (by decide) (Or.inl rfl) rfl (Or.inl ⟨rfl, rfl⟩) q1465 dX4_keep_403 (fun M_13 H locs e_M_13 hP hS => ?_)
        replace h := h M_13 e_M_13
        refine lv_aload_n hx hb dX4_keep_406 rfl (lv_at hl 0 rfl) ?_
        refine lv_iconst hx hb dX4_keep_407 kc_0 ?_
        refine mp_i S hK hA hP hS (k := 46) (by decide) (Or.inl rfl) rfl (Or.inl ⟨rfl, rfl⟩) q1466 dX4_keep_408 (fun M_14 H locs e_M_14 hP hS => ?_)
        replace h := h M_14 e_M_14
        exact hret _ _ _ _ _ hP hS h dX4_keep_411
      · replace h := h.2 c_11
        refine lv_aload_n hx hb dX4_keep_343 rfl (lv_at hl 0 rfl) ?_
        refine mg_r S hK hP (k := 41) (by decide) (by decide) q1461 dX4_keep_344 ?_
        refine lv_iload_n hx hb dX4_keep_347 rfl (lv_at hl 1 rfl) ?_
        refine lv_aload_n hx hb dX4_keep_348 rfl (lv_at hl 0 rfl) ?_
        refine mg_r S hK hP (k := 41) (by decide) (by decide) q1461 dX4_keep_349 ?_
        refine lv_bipush hx hb dX4_keep_352 kb_64 ?_
        refine lv_iload_n hx hb dX4_keep_354 rfl (lv_at hl 1 rfl) ?_
        refine lv_iadd hx hb dX4_keep_355 ?_
        obtain ⟨hi, h⟩ := h
        refine ml_a S hK hP (k := 41) af_41 rfl hi dX4_keep_356 ?_
        obtain ⟨hi, h⟩ := h
        refine ms_a S hK hA hP hS (k := 41) af_41 rfl hi dX4_keep_357 (fun M_15 H locs e_M_15 hP hS => ?_)
        replace h := h M_15 e_M_15
        refine lv_aload_n hx hb dX4_keep_358 rfl (lv_at hl 0 rfl) ?_
        refine mg_r S hK hP (k := 42) (by decide) (by decide) q1462 dX4_keep_359 ?_
        refine lv_iload_n hx hb dX4_keep_362 rfl (lv_at hl 1 rfl) ?_
        refine lv_aload_n hx hb dX4_keep_363 rfl (lv_at hl 0 rfl) ?_
        refine mg_r S hK hP (k := 42) (by decide) (by decide) q1462 dX4_keep_364 ?_
        refine lv_bipush hx hb dX4_keep_367 kb_64 ?_
        refine lv_iload_n hx hb dX4_keep_369 rfl (lv_at hl 1 rfl) ?_
        refine lv_iadd hx hb dX4_keep_370 ?_
        obtain ⟨hi, h⟩ := h
        refine ml_a S hK hP (k := 42) af_42 rfl hi dX4_keep_371 ?_
        obtain ⟨hi, h⟩ := h
        refine ms_a S hK hA hP hS (k := 42) af_42 rfl hi dX4_keep_372 (fun M_16 H locs e_M_16 hP hS => ?_)
        replace h := h M_16 e_M_16
        refine lv_aload_n hx hb dX4_keep_373 rfl (lv_at hl 0 rfl) ?_
        refine mg_r S hK hP (k := 43) (by decide) (by decide) q1463 dX4_keep_374 ?_
        refine lv_iload_n hx hb dX4_keep_377 rfl (lv_at hl 1 rfl) ?_
        refine lv_aload_n hx hb dX4_keep_378 rfl (lv_at hl 0 rfl) ?_
        refine mg_r S hK hP (k := 43) (by decide) (by decide) q1463 dX4_keep_379 ?_
        refine lv_bipush hx hb dX4_keep_382 kb_64 ?_
        refine lv_iload_n hx hb dX4_keep_384 rfl (lv_at hl 1 rfl) ?_
        refine lv_iadd hx hb dX4_keep_385 ?_
        obtain ⟨hi, h⟩ := h
        refine ml_a S hK hP (k := 43) af_43 rfl hi dX4_keep_386 ?_
        obtain ⟨hi, h⟩ := h
        refine ms_a S hK hA hP hS (k := 43) af_43 rfl hi dX4_keep_387 (fun M_17 H locs e_M_17 hP hS => ?_)
        replace h := h M_17 e_M_17
        obtain ⟨v_18, e_v_18⟩ : ∃ y : Int32, y = x1 + (1 : Int32) := ⟨_, rfl⟩
        replace h := h v_18 e_v_18
        refine lv_iinc (v := v_18) (lv' := [(1, .int v_18), (0, .ref m0)]) hx hb dX4_keep_388 hl (k := 1) rfl (by rw [kc_1, e_v_18]) (by decide) rfl (fun ls hl => ?_)
        refine lv_goto (tgt := 337) hx hb dX4_keep_391 (by decide) ?_
        exact ih _ _ _ _ _ hP hS (lv_sub hl [1, 0] rfl) h
  have L296 : ∀ (n : Nat) (x1 : Int32) (M : MS) (H : Heap) (locs : List Loc) (ls : Array Slot), va_P D vwCl (mo cA m0 ad M) H → va_S (mF m0 ad) s.heap H locs → lv_has ls 2 [(0, .ref m0), (1, .int x1)] → w4_keep_l296 Post n x1 M → W p l e rX4_keep s m args below meth c H locs 0 0 Q (F0 m 296 ls []) := by
    intro n
    induction n with
    | zero => intro x1 M H locs ls hP hS hl h; rw [w4_keep_l296] at h; exact h.elim
    | succ n ih =>
      intro x1 M H locs ls hP hS hl h
      rw [w4_keep_l296] at h
      refine lv_iload_n hx hb dX4_keep_296 rfl (lv_at hl 1 rfl) ?_
      refine lv_iconst hx hb dX4_keep_297 kc_3 ?_
      refine lv_icmp_ge (tgt := 335) hx hb dX4_keep_298 (by decide) (fun c_10 => ?_) (fun c_10 => ?_)
      · replace h := h.1 c_10
        refine lv_iconst hx hb dX4_keep_335 kc_0 ?_
        refine lv_istore_n (lv' := [(1, .int (0 : Int32)), (0, .ref m0)]) hx hb dX4_keep_336 rfl hl (by decide) rfl (fun ls hl => ?_)
        obtain ⟨f, h⟩ := h
        exact L337 f _ _ _ _ _ hP hS (lv_sub hl [1, 0] rfl) h
      · replace h := h.2 c_10
        refine lv_aload_n hx hb dX4_keep_301 rfl (lv_at hl 0 rfl) ?_
        refine mg_r S hK hP (k := 39) (by decide) (by decide) q1459 dX4_keep_302 ?_
        refine lv_iload_n hx hb dX4_keep_305 rfl (lv_at hl 1 rfl) ?_
        refine lv_aload_n hx hb dX4_keep_306 rfl (lv_at hl 0 rfl) ?_
        refine mg_r S hK hP (k := 39) (by decide) (by decide) q1459 dX4_keep_307 ?_
        refine lv_iconst hx hb dX4_keep_310 kc_3 ?_
        refine lv_iload_n hx hb dX4_keep_311 rfl (lv_at hl 1 rfl) ?_
        refine lv_iadd hx hb dX4_keep_312 ?_
        obtain ⟨hi, h⟩ := h
        refine ml_a S hK hP (k := 39) af_39 rfl hi dX4_keep_313 ?_
        obtain ⟨hi, h⟩ := h
        refine ms_a S hK hA hP hS (k := 39) af_39 rfl hi dX4_keep_314 (fun M_19 H locs e_M_19 hP hS => ?_)
        replace h := h M_19 e_M_19
        refine lv_aload_n hx hb dX4_keep_315 rfl (lv_at hl 0 rfl) ?_
        refine mg_r S hK hP (k := 40) (by decide) (by decide) q1460 dX4_keep_316 ?_
        refine lv_iload_n hx hb dX4_keep_319 rfl (lv_at hl 1 rfl) ?_
        refine lv_aload_n hx hb dX4_keep_320 rfl (lv_at hl 0 rfl) ?_
        refine mg_r S hK hP (k := 40) (by decide) (by decide) q1460 dX4_keep_321 ?_
        refine lv_iconst hx hb dX4_keep_324 kc_3 ?_
        refine lv_iload_n hx hb dX4_keep_325 rfl (lv_at hl 1 rfl) ?_
        refine lv_iadd hx hb dX4_keep_326 ?_
        obtain ⟨hi, h⟩ := h
        refine ml_a S hK hP (k := 40) af_40 rfl hi dX4_keep_327 ?_
        obtain ⟨hi, h⟩ := h
        refine ms_a S hK hA hP hS (k := 40) af_40 rfl hi dX4_keep_328 (fun M_20 H locs e_M_20 hP hS => ?_)
        replace h := h M_20 e_M_20
        obtain ⟨v_21, e_v_21⟩ : ∃ y : Int32, y = x1 + (1 : Int32) := ⟨_, rfl⟩
        replace h := h v_21 e_v_21
        refine lv_iinc (v := v_21) (lv' := [(1, .int v_21), (0, .ref m0)]) hx hb dX4_keep_329 hl (k := 1) rfl (by rw [kc_1, e_v_21]) (by decide) rfl (fun ls hl => ?_)
        refine lv_goto (tgt := 296) hx hb dX4_keep_332 (by decide) ?_
        exact ih _ _ _ _ _ hP hS (lv_sub hl [1, 0] rfl) h
  have L237 : ∀ (n : Nat) (x1 : Int32) (M : MS) (H : Heap) (locs : List Loc) (ls : Array Slot), va_P D vwCl (mo cA m0 ad M) H → va_S (mF m0 ad) s.heap H locs → lv_has ls 2 [(0, .ref m0), (1, .int x1)] → w4_keep_l237 Post n x1 M → W p l e rX4_keep s m args below meth c H locs 0 0 Q (F0 m 237 ls []) := by
    intro n
    induction n with
    | zero => intro x1 M H locs ls hP hS hl h; rw [w4_keep_l237] at h; exact h.elim
    | succ n ih =>
      intro x1 M H locs ls hP hS hl h
      rw [w4_keep_l237] at h
      refine lv_iload_n hx hb dX4_keep_237 rfl (lv_at hl 1 rfl) ?_
      refine lv_bipush hx hb dX4_keep_238 kb_20 ?_
      refine lv_icmp_ge (tgt := 294) hx hb dX4_keep_240 (by decide) (fun c_9 => ?_) (fun c_9 => ?_)
      · replace h := h.1 c_9
        refine lv_iconst hx hb dX4_keep_294 kc_0 ?_
        refine lv_istore_n (lv' := [(1, .int (0 : Int32)), (0, .ref m0)]) hx hb dX4_keep_295 rfl hl (by decide) rfl (fun ls hl => ?_)
        obtain ⟨f, h⟩ := h
        exact L296 f _ _ _ _ _ hP hS (lv_sub hl [1, 0] rfl) h
      · replace h := h.2 c_9
        refine lv_aload_n hx hb dX4_keep_243 rfl (lv_at hl 0 rfl) ?_
        refine mg_r S hK hP (k := 36) (by decide) (by decide) q1456 dX4_keep_244 ?_
        refine lv_iload_n hx hb dX4_keep_247 rfl (lv_at hl 1 rfl) ?_
        refine lv_aload_n hx hb dX4_keep_248 rfl (lv_at hl 0 rfl) ?_
        refine mg_r S hK hP (k := 36) (by decide) (by decide) q1456 dX4_keep_249 ?_
        refine lv_bipush hx hb dX4_keep_252 kb_20 ?_
        refine lv_iload_n hx hb dX4_keep_254 rfl (lv_at hl 1 rfl) ?_
        refine lv_iadd hx hb dX4_keep_255 ?_
        obtain ⟨hi, h⟩ := h
        refine ml_a S hK hP (k := 36) af_36 rfl hi dX4_keep_256 ?_
        obtain ⟨hi, h⟩ := h
        refine ms_a S hK hA hP hS (k := 36) af_36 rfl hi dX4_keep_257 (fun M_22 H locs e_M_22 hP hS => ?_)
        replace h := h M_22 e_M_22
        refine lv_aload_n hx hb dX4_keep_258 rfl (lv_at hl 0 rfl) ?_
        refine mg_r S hK hP (k := 37) (by decide) (by decide) q1457 dX4_keep_259 ?_
        refine lv_iload_n hx hb dX4_keep_262 rfl (lv_at hl 1 rfl) ?_
        refine lv_aload_n hx hb dX4_keep_263 rfl (lv_at hl 0 rfl) ?_
        refine mg_r S hK hP (k := 37) (by decide) (by decide) q1457 dX4_keep_264 ?_
        refine lv_bipush hx hb dX4_keep_267 kb_20 ?_
        refine lv_iload_n hx hb dX4_keep_269 rfl (lv_at hl 1 rfl) ?_
        refine lv_iadd hx hb dX4_keep_270 ?_
        obtain ⟨hi, h⟩ := h
        refine ml_a S hK hP (k := 37) af_37 rfl hi dX4_keep_271 ?_
        obtain ⟨hi, h⟩ := h
        refine ms_a S hK hA hP hS (k := 37) af_37 rfl hi dX4_keep_272 (fun M_23 H locs e_M_23 hP hS => ?_)
        replace h := h M_23 e_M_23
        refine lv_aload_n hx hb dX4_keep_273 rfl (lv_at hl 0 rfl) ?_
        refine mg_r S hK hP (k := 38) (by decide) (by decide) q1458 dX4_keep_274 ?_
        refine lv_iload_n hx hb dX4_keep_277 rfl (lv_at hl 1 rfl) ?_
        refine lv_aload_n hx hb dX4_keep_278 rfl (lv_at hl 0 rfl) ?_
        refine mg_r S hK hP (k := 38) (by decide) (by decide) q1458 dX4_keep_279 ?_
        refine lv_bipush hx hb dX4_keep_282 kb_20 ?_
        refine lv_iload_n hx hb dX4_keep_284 rfl (lv_at hl 1 rfl) ?_
        refine lv_iadd hx hb dX4_keep_285 ?_
        obtain ⟨hi, h⟩ := h
        refine ml_a S hK hP (k := 38) af_38 rfl hi dX4_keep_286 ?_
        obtain ⟨hi, h⟩ := h
        refine ms_a S hK hA hP hS (k := 38) af_38 rfl hi dX4_keep_287 (fun M_24 H locs e_M_24 hP hS => ?_)
        replace h := h M_24 e_M_24
        obtain ⟨v_25, e_v_25⟩ : ∃ y : Int32, y = x1 + (1 : Int32) := ⟨_, rfl⟩
        replace h := h v_25 e_v_25
        refine lv_iinc (v := v_25) (lv' := [(1, .int v_25), (0, .ref m0)]) hx hb dX4_keep_288 hl (k := 1) rfl (by rw [kc_1, e_v_25]) (by decide) rfl (fun ls hl => ?_)
        refine lv_goto (tgt := 237) hx hb dX4_keep_291 (by decide) ?_
        exact ih _ _ _ _ _ hP hS (lv_sub hl [1, 0] rfl) h
  have L214 : ∀ (n : Nat) (x1 : Int32) (M : MS) (H : Heap) (locs : List Loc) (ls : Array Slot), va_P D vwCl (mo cA m0 ad M) H → va_S (mF m0 ad) s.heap H locs → lv_has ls 2 [(0, .ref m0), (1, .int x1)] → w4_keep_l214 Post n x1 M → W p l e rX4_keep s m args below meth c H locs 0 0 Q (F0 m 214 ls []) := by
    intro n
    induction n with
    | zero => intro x1 M H locs ls hP hS hl h; rw [w4_keep_l214] at h; exact h.elim
    | succ n ih =>
      intro x1 M H locs ls hP hS hl h
      rw [w4_keep_l214] at h
      refine lv_iload_n hx hb dX4_keep_214 rfl (lv_at hl 1 rfl) ?_
      refine lv_bipush hx hb dX4_keep_215 kb_40 ?_
      refine lv_icmp_ge (tgt := 235) hx hb dX4_keep_217 (by decide) (fun c_8 => ?_) (fun c_8 => ?_)
      · replace h := h.1 c_8
        refine lv_iconst hx hb dX4_keep_235 kc_0 ?_
        refine lv_istore_n (lv' := [(1, .int (0 : Int32)), (0, .ref m0)]) hx hb dX4_keep_236 rfl hl (by decide) rfl (fun ls hl => ?_)
        obtain ⟨f, h⟩ := h
        exact L237 f _ _ _ _ _ hP hS (lv_sub hl [1, 0] rfl) h
      · replace h := h.2 c_8
        refine lv_aload_n hx hb dX4_keep_220 rfl (lv_at hl 0 rfl) ?_
        refine lv_bipush hx hb dX4_keep_221 kb_60 ?_
        refine lv_iload_n hx hb dX4_keep_223 rfl (lv_at hl 1 rfl) ?_
        refine lv_iadd hx hb dX4_keep_224 ?_
        refine lv_iload_n hx hb dX4_keep_225 rfl (lv_at hl 1 rfl) ?_
        refine mc_v S hK hP hS (As := [.int ((60 : Int32) + x1), .int x1]) (rest := []) (mt4_copies l hA ((60 : Int32) + x1) x1 M _ h) (cwV 2 S.2.2.2.2 (lw_V q1416 q1418 qs64 q145 q1419) rfl rfl rfl cdX4_copies ⟨Nat.le_of_ble_eq_true rfl, Nat.le_of_ble_eq_true rfl⟩) rfl rfl hl.1 (Nat.le_of_ble_eq_true rfl) dX4_keep_226 ⟨Nat.le_refl _, Nat.le_refl _⟩ (fun M_26 H locs h hP hS => ?_)
        obtain ⟨v_27, e_v_27⟩ : ∃ y : Int32, y = x1 + (1 : Int32) := ⟨_, rfl⟩
        replace h := h v_27 e_v_27
        refine lv_iinc (v := v_27) (lv' := [(1, .int v_27), (0, .ref m0)]) hx hb dX4_keep_229 hl (k := 1) rfl (by rw [kc_1, e_v_27]) (by decide) rfl (fun ls hl => ?_)
        refine lv_goto (tgt := 214) hx hb dX4_keep_232 (by decide) ?_
        exact ih _ _ _ _ _ hP hS (lv_sub hl [1, 0] rfl) h
  have L131 : ∀ (n : Nat) (x1 : Int32) (M : MS) (H : Heap) (locs : List Loc) (ls : Array Slot), va_P D vwCl (mo cA m0 ad M) H → va_S (mF m0 ad) s.heap H locs → lv_has ls 2 [(0, .ref m0), (1, .int x1)] → w4_keep_l131 Post n x1 M → W p l e rX4_keep s m args below meth c H locs 0 0 Q (F0 m 131 ls []) := by
    intro n
    induction n with
    | zero => intro x1 M H locs ls hP hS hl h; rw [w4_keep_l131] at h; exact h.elim
    | succ n ih =>
      intro x1 M H locs ls hP hS hl h
      rw [w4_keep_l131] at h
      refine lv_iload_n hx hb dX4_keep_131 rfl (lv_at hl 1 rfl) ?_
      refine lv_iconst hx hb dX4_keep_132 kc_5 ?_
      refine lv_icmp_ge (tgt := 212) hx hb dX4_keep_133 (by decide) (fun c_7 => ?_) (fun c_7 => ?_)
      · replace h := h.1 c_7
        refine lv_iconst hx hb dX4_keep_212 kc_0 ?_
        refine lv_istore_n (lv' := [(1, .int (0 : Int32)), (0, .ref m0)]) hx hb dX4_keep_213 rfl hl (by decide) rfl (fun ls hl => ?_)
        obtain ⟨f, h⟩ := h
        exact L214 f _ _ _ _ _ hP hS (lv_sub hl [1, 0] rfl) h
      · replace h := h.2 c_7
        refine lv_aload_n hx hb dX4_keep_136 rfl (lv_at hl 0 rfl) ?_
        refine mg_r S hK hP (k := 26) (by decide) (by decide) q1446 dX4_keep_137 ?_
        refine lv_iload_n hx hb dX4_keep_140 rfl (lv_at hl 1 rfl) ?_
        refine lv_aload_n hx hb dX4_keep_141 rfl (lv_at hl 0 rfl) ?_
        refine mg_r S hK hP (k := 26) (by decide) (by decide) q1446 dX4_keep_142 ?_
        refine lv_iconst hx hb dX4_keep_145 kc_5 ?_
        refine lv_iload_n hx hb dX4_keep_146 rfl (lv_at hl 1 rfl) ?_
        refine lv_iadd hx hb dX4_keep_147 ?_
        obtain ⟨hi, h⟩ := h
        refine ml_a S hK hP (k := 26) af_26 rfl hi dX4_keep_148 ?_
        obtain ⟨hi, h⟩ := h
        refine ms_a S hK hA hP hS (k := 26) af_26 rfl hi dX4_keep_149 (fun M_28 H locs e_M_28 hP hS => ?_)
        replace h := h M_28 e_M_28
        refine lv_aload_n hx hb dX4_keep_150 rfl (lv_at hl 0 rfl) ?_
        refine mg_r S hK hP (k := 27) (by decide) (by decide) q1447 dX4_keep_151 ?_
        refine lv_iload_n hx hb dX4_keep_154 rfl (lv_at hl 1 rfl) ?_
        refine lv_aload_n hx hb dX4_keep_155 rfl (lv_at hl 0 rfl) ?_
        refine mg_r S hK hP (k := 27) (by decide) (by decide) q1447 dX4_keep_156 ?_
        refine lv_iconst hx hb dX4_keep_159 kc_5 ?_
        refine lv_iload_n hx hb dX4_keep_160 rfl (lv_at hl 1 rfl) ?_
        refine lv_iadd hx hb dX4_keep_161 ?_
        obtain ⟨hi, h⟩ := h
        refine ml_a S hK hP (k := 27) af_27 rfl hi dX4_keep_162 ?_
        obtain ⟨hi, h⟩ := h
        refine ms_a S hK hA hP hS (k := 27) af_27 rfl hi dX4_keep_163 (fun M_29 H locs e_M_29 hP hS => ?_)
        replace h := h M_29 e_M_29
        refine lv_aload_n hx hb dX4_keep_164 rfl (lv_at hl 0 rfl) ?_
        refine mg_r S hK hP (k := 28) (by decide) (by decide) q1448 dX4_keep_165 ?_
        refine lv_iload_n hx hb dX4_keep_168 rfl (lv_at hl 1 rfl) ?_
        refine lv_aload_n hx hb dX4_keep_169 rfl (lv_at hl 0 rfl) ?_
        refine mg_r S hK hP (k := 28) (by decide) (by decide) q1448 dX4_keep_170 ?_
        refine lv_iconst hx hb dX4_keep_173 kc_5 ?_
        refine lv_iload_n hx hb dX4_keep_174 rfl (lv_at hl 1 rfl) ?_
        refine lv_iadd hx hb dX4_keep_175 ?_
        obtain ⟨hi, h⟩ := h
        refine ml_a S hK hP (k := 28) af_28 rfl hi dX4_keep_176 ?_
        obtain ⟨hi, h⟩ := h
        refine ms_a S hK hA hP hS (k := 28) af_28 rfl hi dX4_keep_177 (fun M_30 H locs e_M_30 hP hS => ?_)
        replace h := h M_30 e_M_30
        refine lv_aload_n hx hb dX4_keep_178 rfl (lv_at hl 0 rfl) ?_
        refine mg_r S hK hP (k := 29) (by decide) (by decide) q1449 dX4_keep_179 ?_
        refine lv_iload_n hx hb dX4_keep_182 rfl (lv_at hl 1 rfl) ?_
        refine lv_aload_n hx hb dX4_keep_183 rfl (lv_at hl 0 rfl) ?_
        refine mg_r S hK hP (k := 29) (by decide) (by decide) q1449 dX4_keep_184 ?_
        refine lv_iconst hx hb dX4_keep_187 kc_5 ?_
        refine lv_iload_n hx hb dX4_keep_188 rfl (lv_at hl 1 rfl) ?_
        refine lv_iadd hx hb dX4_keep_189 ?_
        obtain ⟨hi, h⟩ := h
        refine ml_a S hK hP (k := 29) af_29 rfl hi dX4_keep_190 ?_
        obtain ⟨hi, h⟩ := h
        refine ms_a S hK hA hP hS (k := 29) af_29 rfl hi dX4_keep_191 (fun M_31 H locs e_M_31 hP hS => ?_)
        replace h := h M_31 e_M_31
        refine lv_aload_n hx hb dX4_keep_192 rfl (lv_at hl 0 rfl) ?_
        refine mg_r S hK hP (k := 30) (by decide) (by decide) q1450 dX4_keep_193 ?_
        refine lv_iload_n hx hb dX4_keep_196 rfl (lv_at hl 1 rfl) ?_
        refine lv_aload_n hx hb dX4_keep_197 rfl (lv_at hl 0 rfl) ?_
        refine mg_r S hK hP (k := 30) (by decide) (by decide) q1450 dX4_keep_198 ?_
        refine lv_iconst hx hb dX4_keep_201 kc_5 ?_
        refine lv_iload_n hx hb dX4_keep_202 rfl (lv_at hl 1 rfl) ?_
        refine lv_iadd hx hb dX4_keep_203 ?_
        obtain ⟨hi, h⟩ := h
        refine ml_a S hK hP (k := 30) af_30 rfl hi dX4_keep_204 ?_
        obtain ⟨hi, h⟩ := h
        refine ms_a S hK hA hP hS (k := 30) af_30 rfl hi dX4_keep_205 (fun M_32 H locs e_M_32 hP hS => ?_)
        replace h := h M_32 e_M_32
        obtain ⟨v_33, e_v_33⟩ : ∃ y : Int32, y = x1 + (1 : Int32) := ⟨_, rfl⟩
        replace h := h v_33 e_v_33
        refine lv_iinc (v := v_33) (lv' := [(1, .int v_33), (0, .ref m0)]) hx hb dX4_keep_206 hl (k := 1) rfl (by rw [kc_1, e_v_33]) (by decide) rfl (fun ls hl => ?_)
        refine lv_goto (tgt := 131) hx hb dX4_keep_209 (by decide) ?_
        exact ih _ _ _ _ _ hP hS (lv_sub hl [1, 0] rfl) h
  have L42 : ∀ (n : Nat) (x1 : Int32) (M : MS) (H : Heap) (locs : List Loc) (ls : Array Slot), va_P D vwCl (mo cA m0 ad M) H → va_S (mF m0 ad) s.heap H locs → lv_has ls 2 [(0, .ref m0), (1, .int x1)] → w4_keep_l42 Post n x1 M → W p l e rX4_keep s m args below meth c H locs 0 0 Q (F0 m 42 ls []) := by
    intro n
    induction n with
    | zero => intro x1 M H locs ls hP hS hl h; rw [w4_keep_l42] at h; exact h.elim
    | succ n ih =>
      intro x1 M H locs ls hP hS hl h
      rw [w4_keep_l42] at h
      refine lv_iload_n hx hb dX4_keep_42 rfl (lv_at hl 1 rfl) ?_
      refine lv_bipush hx hb dX4_keep_43 kb_8 ?_
      refine lv_icmp_ge (tgt := 129) hx hb dX4_keep_45 (by decide) (fun c_6 => ?_) (fun c_6 => ?_)
      · replace h := h.1 c_6
        refine lv_iconst hx hb dX4_keep_129 kc_0 ?_
        refine lv_istore_n (lv' := [(1, .int (0 : Int32)), (0, .ref m0)]) hx hb dX4_keep_130 rfl hl (by decide) rfl (fun ls hl => ?_)
        obtain ⟨f, h⟩ := h
        exact L131 f _ _ _ _ _ hP hS (lv_sub hl [1, 0] rfl) h
      · replace h := h.2 c_6
        refine lv_aload_n hx hb dX4_keep_48 rfl (lv_at hl 0 rfl) ?_
        refine mg_r S hK hP (k := 21) (by decide) (by decide) q1441 dX4_keep_49 ?_
        refine lv_iload_n hx hb dX4_keep_52 rfl (lv_at hl 1 rfl) ?_
        refine lv_aload_n hx hb dX4_keep_53 rfl (lv_at hl 0 rfl) ?_
        refine mg_r S hK hP (k := 21) (by decide) (by decide) q1441 dX4_keep_54 ?_
        refine lv_bipush hx hb dX4_keep_57 kb_8 ?_
        refine lv_iload_n hx hb dX4_keep_59 rfl (lv_at hl 1 rfl) ?_
        refine lv_iadd hx hb dX4_keep_60 ?_
        obtain ⟨hi, h⟩ := h
        refine ml_a S hK hP (k := 21) af_21 rfl hi dX4_keep_61 ?_
        obtain ⟨hi, h⟩ := h
        refine ms_a S hK hA hP hS (k := 21) af_21 rfl hi dX4_keep_62 (fun M_34 H locs e_M_34 hP hS => ?_)
        replace h := h M_34 e_M_34
        refine lv_aload_n hx hb dX4_keep_63 rfl (lv_at hl 0 rfl) ?_
        refine mg_r S hK hP (k := 22) (by decide) (by decide) q1442 dX4_keep_64 ?_
        refine lv_iload_n hx hb dX4_keep_67 rfl (lv_at hl 1 rfl) ?_
        refine lv_aload_n hx hb dX4_keep_68 rfl (lv_at hl 0 rfl) ?_
        refine mg_r S hK hP (k := 22) (by decide) (by decide) q1442 dX4_keep_69 ?_
        refine lv_bipush hx hb dX4_keep_72 kb_8 ?_
        refine lv_iload_n hx hb dX4_keep_74 rfl (lv_at hl 1 rfl) ?_
        refine lv_iadd hx hb dX4_keep_75 ?_
        obtain ⟨hi, h⟩ := h
        refine ml_a S hK hP (k := 22) af_22 rfl hi dX4_keep_76 ?_
        obtain ⟨hi, h⟩ := h
        refine ms_a S hK hA hP hS (k := 22) af_22 rfl hi dX4_keep_77 (fun M_35 H locs e_M_35 hP hS => ?_)
        replace h := h M_35 e_M_35
        refine lv_aload_n hx hb dX4_keep_78 rfl (lv_at hl 0 rfl) ?_
        refine mg_r S hK hP (k := 23) (by decide) (by decide) q1443 dX4_keep_79 ?_
        refine lv_iload_n hx hb dX4_keep_82 rfl (lv_at hl 1 rfl) ?_
        refine lv_aload_n hx hb dX4_keep_83 rfl (lv_at hl 0 rfl) ?_
        refine mg_r S hK hP (k := 23) (by decide) (by decide) q1443 dX4_keep_84 ?_
        refine lv_bipush hx hb dX4_keep_87 kb_8 ?_
        refine lv_iload_n hx hb dX4_keep_89 rfl (lv_at hl 1 rfl) ?_
        refine lv_iadd hx hb dX4_keep_90 ?_
        obtain ⟨hi, h⟩ := h
        refine ml_a S hK hP (k := 23) af_23 rfl hi dX4_keep_91 ?_
        obtain ⟨hi, h⟩ := h
        refine ms_a S hK hA hP hS (k := 23) af_23 rfl hi dX4_keep_92 (fun M_36 H locs e_M_36 hP hS => ?_)
        replace h := h M_36 e_M_36
        refine lv_aload_n hx hb dX4_keep_93 rfl (lv_at hl 0 rfl) ?_
        refine mg_r S hK hP (k := 24) (by decide) (by decide) q1444 dX4_keep_94 ?_
        refine lv_iload_n hx hb dX4_keep_97 rfl (lv_at hl 1 rfl) ?_
        refine lv_aload_n hx hb dX4_keep_98 rfl (lv_at hl 0 rfl) ?_
        refine mg_r S hK hP (k := 24) (by decide) (by decide) q1444 dX4_keep_99 ?_
        refine lv_bipush hx hb dX4_keep_102 kb_8 ?_
        refine lv_iload_n hx hb dX4_keep_104 rfl (lv_at hl 1 rfl) ?_
        refine lv_iadd hx hb dX4_keep_105 ?_
        obtain ⟨hi, h⟩ := h
        refine ml_a S hK hP (k := 24) af_24 rfl hi dX4_keep_106 ?_
        obtain ⟨hi, h⟩ := h
        refine ms_a S hK hA hP hS (k := 24) af_24 rfl hi dX4_keep_107 (fun M_37 H locs e_M_37 hP hS => ?_)
        replace h := h M_37 e_M_37
        refine lv_aload_n hx hb dX4_keep_108 rfl (lv_at hl 0 rfl) ?_
        refine mg_r S hK hP (k := 25) (by decide) (by decide) q1445 dX4_keep_109 ?_
        refine lv_iload_n hx hb dX4_keep_112 rfl (lv_at hl 1 rfl) ?_
        refine lv_aload_n hx hb dX4_keep_113 rfl (lv_at hl 0 rfl) ?_
        refine mg_r S hK hP (k := 25) (by decide) (by decide) q1445 dX4_keep_114 ?_
        refine lv_bipush hx hb dX4_keep_117 kb_8 ?_
        refine lv_iload_n hx hb dX4_keep_119 rfl (lv_at hl 1 rfl) ?_
        refine lv_iadd hx hb dX4_keep_120 ?_
        obtain ⟨hi, h⟩ := h
        refine ml_a S hK hP (k := 25) af_25 rfl hi dX4_keep_121 ?_
        obtain ⟨hi, h⟩ := h
        refine ms_a S hK hA hP hS (k := 25) af_25 rfl hi dX4_keep_122 (fun M_38 H locs e_M_38 hP hS => ?_)
        replace h := h M_38 e_M_38
        obtain ⟨v_39, e_v_39⟩ : ∃ y : Int32, y = x1 + (1 : Int32) := ⟨_, rfl⟩
        replace h := h v_39 e_v_39
        refine lv_iinc (v := v_39) (lv' := [(1, .int v_39), (0, .ref m0)]) hx hb dX4_keep_123 hl (k := 1) rfl (by rw [kc_1, e_v_39]) (by decide) rfl (fun ls hl => ?_)
        refine lv_goto (tgt := 42) hx hb dX4_keep_126 (by decide) ?_
        exact ih _ _ _ _ _ hP hS (lv_sub hl [1, 0] rfl) h
  unfold w4_keep at h
  refine lv_aload_n hx hb dX4_keep_0 rfl (lv_at hl 0 rfl) ?_
  refine lv_aload_n hx hb dX4_keep_1 rfl (lv_at hl 0 rfl) ?_
  refine mg_i S hK hP (k := 16) (by decide) (by decide) q1436 dX4_keep_2 ?_
  refine mp_i S hK hA hP hS (k := 11) (by decide) (Or.inl rfl) rfl (Or.inl ⟨rfl, rfl⟩) q1431 dX4_keep_5 (fun M_1 H locs e_M_1 hP hS => ?_)
  replace h := h M_1 e_M_1
  refine lv_aload_n hx hb dX4_keep_8 rfl (lv_at hl 0 rfl) ?_
  refine lv_aload_n hx hb dX4_keep_9 rfl (lv_at hl 0 rfl) ?_
  refine mg_i S hK hP (k := 17) (by decide) (by decide) q1437 dX4_keep_10 ?_
  refine mp_i S hK hA hP hS (k := 12) (by decide) (Or.inl rfl) rfl (Or.inl ⟨rfl, rfl⟩) q1432 dX4_keep_13 (fun M_2 H locs e_M_2 hP hS => ?_)
  replace h := h M_2 e_M_2
  refine lv_aload_n hx hb dX4_keep_16 rfl (lv_at hl 0 rfl) ?_
  refine lv_aload_n hx hb dX4_keep_17 rfl (lv_at hl 0 rfl) ?_
  refine mg_i S hK hP (k := 18) (by decide) (by decide) q1438 dX4_keep_18 ?_
  refine mp_i S hK hA hP hS (k := 13) (by decide) (Or.inl rfl) rfl (Or.inl ⟨rfl, rfl⟩) q1433 dX4_keep_21 (fun M_3 H locs e_M_3 hP hS => ?_)
  replace h := h M_3 e_M_3
  refine lv_aload_n hx hb dX4_keep_24 rfl (lv_at hl 0 rfl) ?_
  refine lv_aload_n hx hb dX4_keep_25 rfl (lv_at hl 0 rfl) ?_
  refine mg_i S hK hP (k := 19) (by decide) (by decide) q1439 dX4_keep_26 ?_
  refine mp_i S hK hA hP hS (k := 14) (by decide) (Or.inl rfl) rfl (Or.inl ⟨rfl, rfl⟩) q1434 dX4_keep_29 (fun M_4 H locs e_M_4 hP hS => ?_)
  replace h := h M_4 e_M_4
  refine lv_aload_n hx hb dX4_keep_32 rfl (lv_at hl 0 rfl) ?_
  refine lv_aload_n hx hb dX4_keep_33 rfl (lv_at hl 0 rfl) ?_
  refine mg_i S hK hP (k := 20) (by decide) (by decide) q1440 dX4_keep_34 ?_
  refine mp_i S hK hA hP hS (k := 15) (by decide) (Or.inl rfl) rfl (Or.inl ⟨rfl, rfl⟩) q1435 dX4_keep_37 (fun M_5 H locs e_M_5 hP hS => ?_)
  replace h := h M_5 e_M_5
  refine lv_iconst hx hb dX4_keep_40 kc_0 ?_
  refine lv_istore_n (lv' := [(1, .int (0 : Int32)), (0, .ref m0)]) hx hb dX4_keep_41 rfl hl (by decide) rfl (fun ls hl => ?_)
  obtain ⟨f, h⟩ := h
  exact L42 f _ _ _ _ _ hP hS (lv_sub hl [1, 0] rfl) h
def w4_thrown (M : MS) (Post : Int32 → MS → Prop) : Prop := Post (mi M 2) M
abbrev rX4_thrown : Room := { frames := 0, cells := 0, slots := 0, locals := 0 }
theorem cdX4_thrown : yX4_thrown.cls = RX4 ∧ yX4_thrown.cls ≠ "java/lang/invoke/MethodHandle" ∧ yX4_thrown.cls ≠ "java/lang/invoke/VarHandle" ∧ (parseMethodDescriptor yX4_thrown.desc).map (fun d => d.parameters.length) = some 0 := by decide +kernel
set_option maxHeartbeats 4000000 in
set_option maxRecDepth 100000 in
theorem mt4_thrown (l : Launch) {D : va_G} {cA : Nat → ClassId} {m0 : Nat} {ad : Nat → Nat} (hA : mAd m0 ad) (M : MS) (Post : Int32 → MS → Prop) (h : w4_thrown M Post) : Met l yX4_thrown (ws_ yX4_thrown cX4_thrown 1 (some .int)) rX4_thrown (mPc [.ref m0] D cA m0 ad M) (va_Qi Post (mB D cA m0 ad) (mF m0 ad)) 0 0 (mF m0 ad) := by
  refine mst_i (own := RX4) (by decide) rfl (Nat.le_of_ble_eq_true rfl) ?_
  intro p e s m args below meth c Q ls S hK hP hS hl hret
  have hx := S.1
  have hb := S.2.1
  have hl : lv_has ls 1 [(0, .ref m0)] := hl
  unfold w4_thrown at h
  refine lv_aload_n hx hb dX4_thrown_0 rfl (lv_at hl 0 rfl) ?_
  refine mg_i S hK hP (k := 2) (by decide) (by decide) q1422 dX4_thrown_1 ?_
  exact hret _ _ _ _ _ _ hP hS h rfl dX4_thrown_4
def w4_feed_c76 (a1 : Int32) (a2 : Int32) (a3 : Int32) (a4 : Int32) (a5 : Int32) (k23 : Int32 → MS → Prop) (Post : Int32 → MS → Prop) (x6 : Int32) (t0 : Int32) (M : MS) : Prop := (vp_in ((mi M 1) + x6) (mN 0) ∧ ∀ M_9 : MS, M_9 = sa M 0 (Int32.toNatClampNeg ((mi M 1) + x6)) ((t0 >>> (((24 : Int32) - ((8 : Int32) * (x6 - x6 / (4 : Int32) * (4 : Int32)))) &&& (31 : Int32))) &&& (255 : Int32)) → ∀ v_10 : Int32, v_10 = x6 + (1 : Int32) → k23 v_10 M_9)
def w4_feed_l23 (a1 : Int32) (a2 : Int32) (a3 : Int32) (a4 : Int32) (a5 : Int32) (Post : Int32 → MS → Prop) : Nat → Int32 → MS → Prop
  | 0, _, _ => False
  | n + 1, x6, M => ((20 : Int32) ≤ x6 → (∀ M_4 : MS, M_4 = si M 1 ((mi M 1) + (20 : Int32)) → Post (mi M_4 1) M_4)) ∧ (¬ ((20 : Int32) ≤ x6) → (((4 : Int32) ≤ x6 → (((8 : Int32) ≤ x6 → (((12 : Int32) ≤ x6 → (((16 : Int32) ≤ x6 → (w4_feed_c76 a1 a2 a3 a4 a5 (w4_feed_l23 a1 a2 a3 a4 a5 Post n) Post x6 a5 M)) ∧ (¬ ((16 : Int32) ≤ x6) → (w4_feed_c76 a1 a2 a3 a4 a5 (w4_feed_l23 a1 a2 a3 a4 a5 Post n) Post x6 a4 M)))) ∧ (¬ ((12 : Int32) ≤ x6) → (w4_feed_c76 a1 a2 a3 a4 a5 (w4_feed_l23 a1 a2 a3 a4 a5 Post n) Post x6 a3 M)))) ∧ (¬ ((8 : Int32) ≤ x6) → (w4_feed_c76 a1 a2 a3 a4 a5 (w4_feed_l23 a1 a2 a3 a4 a5 Post n) Post x6 a2 M)))) ∧ (¬ ((4 : Int32) ≤ x6) → (w4_feed_c76 a1 a2 a3 a4 a5 (w4_feed_l23 a1 a2 a3 a4 a5 Post n) Post x6 a1 M))))
def w4_feed (a1 : Int32) (a2 : Int32) (a3 : Int32) (a4 : Int32) (a5 : Int32) (M : MS) (Post : Int32 → MS → Prop) : Prop := ∀ M_1 : MS, M_1 = si M 2 (0 : Int32) → (((mi M_1 1) + (20 : Int32)) ≤ (800 : Int32) → (∃ f, w4_feed_l23 a1 a2 a3 a4 a5 Post f (0 : Int32) M_1)) ∧ (¬ (((mi M_1 1) + (20 : Int32)) ≤ (800 : Int32)) → (Post (-1 : Int32) M_1))
abbrev rX4_feed : Room := { frames := 0, cells := 0, slots := 0, locals := 0 }
theorem cdX4_feed : yX4_feed.cls = RX4 ∧ yX4_feed.cls ≠ "java/lang/invoke/MethodHandle" ∧ yX4_feed.cls ≠ "java/lang/invoke/VarHandle" ∧ (parseMethodDescriptor yX4_feed.desc).map (fun d => d.parameters.length) = some 5 := by decide +kernel
set_option maxHeartbeats 4000000 in
set_option maxRecDepth 100000 in
theorem mt4_feed (l : Launch) {D : va_G} {cA : Nat → ClassId} {m0 : Nat} {ad : Nat → Nat} (hA : mAd m0 ad) (a1 : Int32) (a2 : Int32) (a3 : Int32) (a4 : Int32) (a5 : Int32) (M : MS) (Post : Int32 → MS → Prop) (h : w4_feed a1 a2 a3 a4 a5 M Post) : Met l yX4_feed (ws_ yX4_feed cX4_feed 8 (some .int)) rX4_feed (mPc [.ref m0, .int a1, .int a2, .int a3, .int a4, .int a5] D cA m0 ad M) (va_Qi Post (mB D cA m0 ad) (mF m0 ad)) 0 0 (mF m0 ad) := by
  refine mst_i (own := RX4) (by decide) rfl (Nat.le_of_ble_eq_true rfl) ?_
  intro p e s m args below meth c Q ls S hK hP hS hl hret
  have hx := S.1
  have hb := S.2.1
  have hl : lv_has ls 8 [(0, .ref m0), (1, .int a1), (2, .int a2), (3, .int a3), (4, .int a4), (5, .int a5)] := hl
  have C76 : ∀ (k23 : Int32 → MS → Prop) (K23 : (∀ (x6 : Int32) (M : MS) (H : Heap) (locs : List Loc) (ls : Array Slot), va_P D vwCl (mo cA m0 ad M) H → va_S (mF m0 ad) s.heap H locs → lv_has ls 8 [(0, .ref m0), (1, .int a1), (2, .int a2), (3, .int a3), (4, .int a4), (5, .int a5), (6, .int x6)] → k23 x6 M → W p l e rX4_feed s m args below meth c H locs 0 0 Q (F0 m 23 ls []))), ∀ (x6 : Int32) (t0 : Int32) (M : MS) (H : Heap) (locs : List Loc) (ls : Array Slot), va_P D vwCl (mo cA m0 ad M) H → va_S (mF m0 ad) s.heap H locs → lv_has ls 8 [(0, .ref m0), (1, .int a1), (2, .int a2), (3, .int a3), (4, .int a4), (5, .int a5), (6, .int x6)] → w4_feed_c76 a1 a2 a3 a4 a5 k23 Post x6 t0 M → W p l e rX4_feed s m args below meth c H locs 0 0 Q (F0 m 76 ls [.int t0]) := by
    intro k23 K23
    intro x6 t0 M H locs ls hP hS hl h
    unfold w4_feed_c76 at h
    refine lv_istore (lv' := [(7, .int t0), (0, .ref m0), (1, .int a1), (2, .int a2), (3, .int a3), (4, .int a4), (5, .int a5), (6, .int x6)]) hx hb dX4_feed_76 hl (by decide) rfl (fun ls hl => ?_)
    refine lv_aload_n hx hb dX4_feed_78 rfl (lv_at hl 1 rfl) ?_
    refine mg_r S hK hP (k := 0) (by decide) (by decide) q1420 dX4_feed_79 ?_
    refine lv_aload_n hx hb dX4_feed_82 rfl (lv_at hl 1 rfl) ?_
    refine mg_i S hK hP (k := 1) (by decide) (by decide) q1421 dX4_feed_83 ?_
    refine lv_iload hx hb dX4_feed_86 (lv_at hl 7 rfl) ?_
    refine lv_iadd hx hb dX4_feed_88 ?_
    refine lv_iload hx hb dX4_feed_89 (lv_at hl 0 rfl) ?_
    refine lv_bipush hx hb dX4_feed_91 kb_24 ?_
    refine lv_bipush hx hb dX4_feed_93 kb_8 ?_
    refine lv_iload hx hb dX4_feed_95 (lv_at hl 7 rfl) ?_
    refine lv_iconst hx hb dX4_feed_97 kc_4 ?_
    refine lv_irem hx hb dX4_feed_98 (by decide) ?_
    refine lv_imul hx hb dX4_feed_99 ?_
    refine lv_isub hx hb dX4_feed_100 ?_
    refine lv_ishr hx hb dX4_feed_101 ?_
    refine lv_sipush hx hb dX4_feed_102 ks_255 ?_
    refine lv_iand hx hb dX4_feed_105 ?_
    obtain ⟨hi, h⟩ := h
    refine ms_a S hK hA hP hS (k := 0) af_0 rfl hi dX4_feed_106 (fun M_9 H locs e_M_9 hP hS => ?_)
    replace h := h M_9 e_M_9
    obtain ⟨v_10, e_v_10⟩ : ∃ y : Int32, y = x6 + (1 : Int32) := ⟨_, rfl⟩
    replace h := h v_10 e_v_10
    refine lv_iinc (v := v_10) (lv' := [(6, .int v_10), (7, .int t0), (0, .ref m0), (1, .int a1), (2, .int a2), (3, .int a3), (4, .int a4), (5, .int a5)]) hx hb dX4_feed_107 hl (k := 7) rfl (by rw [kc_1, e_v_10]) (by decide) rfl (fun ls hl => ?_)
    refine lv_goto (tgt := 23) hx hb dX4_feed_110 (by decide) ?_
    exact K23 _ _ _ _ _ hP hS (lv_sub hl [2, 3, 4, 5, 6, 7, 0] rfl) h
  have L23 : ∀ (n : Nat) (x6 : Int32) (M : MS) (H : Heap) (locs : List Loc) (ls : Array Slot), va_P D vwCl (mo cA m0 ad M) H → va_S (mF m0 ad) s.heap H locs → lv_has ls 8 [(0, .ref m0), (1, .int a1), (2, .int a2), (3, .int a3), (4, .int a4), (5, .int a5), (6, .int x6)] → w4_feed_l23 a1 a2 a3 a4 a5 Post n x6 M → W p l e rX4_feed s m args below meth c H locs 0 0 Q (F0 m 23 ls []) := by
    intro n
    induction n with
    | zero => intro x6 M H locs ls hP hS hl h; rw [w4_feed_l23] at h; exact h.elim
    | succ n ih =>
      intro x6 M H locs ls hP hS hl h
      rw [w4_feed_l23] at h
      refine lv_iload hx hb dX4_feed_23 (lv_at hl 6 rfl) ?_
      refine lv_bipush hx hb dX4_feed_25 kb_20 ?_
      refine lv_icmp_ge (tgt := 113) hx hb dX4_feed_27 (by decide) (fun c_3 => ?_) (fun c_3 => ?_)
      · replace h := h.1 c_3
        refine lv_aload_n hx hb dX4_feed_113 rfl (lv_at hl 0 rfl) ?_
        refine lv_dup hx hb dX4_feed_114 rfl ?_
        refine mg_i S hK hP (k := 1) (by decide) (by decide) q1421 dX4_feed_115 ?_
        refine lv_bipush hx hb dX4_feed_118 kb_20 ?_
        refine lv_iadd hx hb dX4_feed_120 ?_
        refine mp_i S hK hA hP hS (k := 1) (by decide) (Or.inl rfl) rfl (Or.inl ⟨rfl, rfl⟩) q1421 dX4_feed_121 (fun M_4 H locs e_M_4 hP hS => ?_)
        replace h := h M_4 e_M_4
        refine lv_aload_n hx hb dX4_feed_124 rfl (lv_at hl 0 rfl) ?_
        refine mg_i S hK hP (k := 1) (by decide) (by decide) q1421 dX4_feed_125 ?_
        exact hret _ _ _ _ _ _ hP hS h rfl dX4_feed_128
      · replace h := h.2 c_3
        refine lv_iload hx hb dX4_feed_30 (lv_at hl 6 rfl) ?_
        refine lv_iconst hx hb dX4_feed_32 kc_4 ?_
        refine lv_icmp_ge (tgt := 40) hx hb dX4_feed_33 (by decide) (fun c_5 => ?_) (fun c_5 => ?_)
        · replace h := h.1 c_5
          refine lv_iload hx hb dX4_feed_40 (lv_at hl 6 rfl) ?_
          refine lv_bipush hx hb dX4_feed_42 kb_8 ?_
          refine lv_icmp_ge (tgt := 51) hx hb dX4_feed_44 (by decide) (fun c_6 => ?_) (fun c_6 => ?_)
          · replace h := h.1 c_6
            refine lv_iload hx hb dX4_feed_51 (lv_at hl 6 rfl) ?_
            refine lv_bipush hx hb dX4_feed_53 kb_12 ?_
            refine lv_icmp_ge (tgt := 62) hx hb dX4_feed_55 (by decide) (fun c_7 => ?_) (fun c_7 => ?_)
            · replace h := h.1 c_7
              refine lv_iload hx hb dX4_feed_62 (lv_at hl 6 rfl) ?_
              refine lv_bipush hx hb dX4_feed_64 kb_16 ?_
              refine lv_icmp_ge (tgt := 74) hx hb dX4_feed_66 (by decide) (fun c_8 => ?_) (fun c_8 => ?_)
              · replace h := h.1 c_8
                refine lv_iload hx hb dX4_feed_74 (lv_at hl 5 rfl) ?_
                exact C76 _ ih _ _ _ _ _ _ hP hS (lv_sub hl [0, 1, 2, 3, 4, 5, 6] rfl) h
              · replace h := h.2 c_8
                refine lv_iload hx hb dX4_feed_69 (lv_at hl 4 rfl) ?_
                refine lv_goto (tgt := 76) hx hb dX4_feed_71 (by decide) ?_
                exact C76 _ ih _ _ _ _ _ _ hP hS (lv_sub hl [0, 1, 2, 3, 4, 5, 6] rfl) h
            · replace h := h.2 c_7
              refine lv_iload_n hx hb dX4_feed_58 rfl (lv_at hl 3 rfl) ?_
              refine lv_goto (tgt := 76) hx hb dX4_feed_59 (by decide) ?_
              exact C76 _ ih _ _ _ _ _ _ hP hS (lv_sub hl [0, 1, 2, 3, 4, 5, 6] rfl) h
          · replace h := h.2 c_6
            refine lv_iload_n hx hb dX4_feed_47 rfl (lv_at hl 2 rfl) ?_
            refine lv_goto (tgt := 76) hx hb dX4_feed_48 (by decide) ?_
            exact C76 _ ih _ _ _ _ _ _ hP hS (lv_sub hl [0, 1, 2, 3, 4, 5, 6] rfl) h
        · replace h := h.2 c_5
          refine lv_iload_n hx hb dX4_feed_36 rfl (lv_at hl 1 rfl) ?_
          refine lv_goto (tgt := 76) hx hb dX4_feed_37 (by decide) ?_
          exact C76 _ ih _ _ _ _ _ _ hP hS (lv_sub hl [0, 1, 2, 3, 4, 5, 6] rfl) h
  unfold w4_feed at h
  refine lv_aload_n hx hb dX4_feed_0 rfl (lv_at hl 0 rfl) ?_
  refine lv_iconst hx hb dX4_feed_1 kc_0 ?_
  refine mp_i S hK hA hP hS (k := 2) (by decide) (Or.inl rfl) rfl (Or.inl ⟨rfl, rfl⟩) q1422 dX4_feed_2 (fun M_1 H locs e_M_1 hP hS => ?_)
  replace h := h M_1 e_M_1
  refine lv_aload_n hx hb dX4_feed_5 rfl (lv_at hl 0 rfl) ?_
  refine mg_i S hK hP (k := 1) (by decide) (by decide) q1421 dX4_feed_6 ?_
  refine lv_bipush hx hb dX4_feed_9 kb_20 ?_
  refine lv_iadd hx hb dX4_feed_11 ?_
  refine lv_sipush hx hb dX4_feed_12 ks_800 ?_
  refine lv_icmp_le (tgt := 20) hx hb dX4_feed_15 (by decide) (fun c_2 => ?_) (fun c_2 => ?_)
  · replace h := h.1 c_2
    refine lv_iconst hx hb dX4_feed_20 kc_0 ?_
    refine lv_istore (lv' := [(6, .int (0 : Int32)), (0, .ref m0), (1, .int a1), (2, .int a2), (3, .int a3), (4, .int a4), (5, .int a5)]) hx hb dX4_feed_21 hl (by decide) rfl (fun ls hl => ?_)
    obtain ⟨f, h⟩ := h
    exact L23 f _ _ _ _ _ hP hS (lv_sub hl [1, 2, 3, 4, 5, 6, 0] rfl) h
  · replace h := h.2 c_2
    refine lv_iconst hx hb dX4_feed_18 kc_m1 ?_
    exact hret _ _ _ _ _ _ hP hS h rfl dX4_feed_19
def w4_isSmall (a1 : Int32) (M : MS) (Post : Int32 → MS → Prop) : Prop := ((mi M 6) ≤ a1 → (Post (0 : Int32) M)) ∧ (¬ ((mi M 6) ≤ a1) → ((vp_in a1 (mN 0) ∧ ((ma M 0 (Int32.toNatClampNeg a1)) < (97 : Int32) → (Post (0 : Int32) M)) ∧ (¬ ((ma M 0 (Int32.toNatClampNeg a1)) < (97 : Int32)) → ((vp_in a1 (mN 0) ∧ ((122 : Int32) < (ma M 0 (Int32.toNatClampNeg a1)) → (Post (0 : Int32) M)) ∧ (¬ ((122 : Int32) < (ma M 0 (Int32.toNatClampNeg a1))) → (Post (1 : Int32) M))))))))
abbrev rX4_isSmall : Room := { frames := 0, cells := 0, slots := 0, locals := 0 }
theorem cdX4_isSmall : yX4_isSmall.cls = RX4 ∧ yX4_isSmall.cls ≠ "java/lang/invoke/MethodHandle" ∧ yX4_isSmall.cls ≠ "java/lang/invoke/VarHandle" ∧ (parseMethodDescriptor yX4_isSmall.desc).map (fun d => d.parameters.length) = some 1 := by decide +kernel
set_option maxHeartbeats 4000000 in
set_option maxRecDepth 100000 in
theorem mt4_isSmall (l : Launch) {D : va_G} {cA : Nat → ClassId} {m0 : Nat} {ad : Nat → Nat} (hA : mAd m0 ad) (a1 : Int32) (M : MS) (Post : Int32 → MS → Prop) (h : w4_isSmall a1 M Post) : Met l yX4_isSmall (ws_ yX4_isSmall cX4_isSmall 2 (some .boolean)) rX4_isSmall (mPc [.ref m0, .int a1] D cA m0 ad M) (va_Qi Post (mB D cA m0 ad) (mF m0 ad)) 0 0 (mF m0 ad) := by
  refine mst_i (own := RX4) (by decide) rfl (Nat.le_of_ble_eq_true rfl) ?_
  intro p e s m args below meth c Q ls S hK hP hS hl hret
  have hx := S.1
  have hb := S.2.1
  have hl : lv_has ls 2 [(0, .ref m0), (1, .int a1)] := hl
  unfold w4_isSmall at h
  refine lv_iload_n hx hb dX4_isSmall_0 rfl (lv_at hl 1 rfl) ?_
  refine lv_aload_n hx hb dX4_isSmall_1 rfl (lv_at hl 0 rfl) ?_
  refine mg_i S hK hP (k := 6) (by decide) (by decide) q1426 dX4_isSmall_2 ?_
  refine lv_icmp_ge (tgt := 34) hx hb dX4_isSmall_5 (by decide) (fun c_1 => ?_) (fun c_1 => ?_)
  · replace h := h.1 c_1
    refine lv_iconst hx hb dX4_isSmall_34 kc_0 ?_
    exact hret _ _ _ _ _ _ hP hS h (vz_nar vz_0) dX4_isSmall_35
  · replace h := h.2 c_1
    refine lv_aload_n hx hb dX4_isSmall_8 rfl (lv_at hl 0 rfl) ?_
    refine mg_r S hK hP (k := 0) (by decide) (by decide) q1420 dX4_isSmall_9 ?_
    refine lv_iload_n hx hb dX4_isSmall_12 rfl (lv_at hl 1 rfl) ?_
    obtain ⟨hi, h⟩ := h
    refine ml_a S hK hP (k := 0) af_0 rfl hi dX4_isSmall_13 ?_
    refine lv_bipush hx hb dX4_isSmall_14 kb_97 ?_
    refine lv_icmp_lt (tgt := 34) hx hb dX4_isSmall_16 (by decide) (fun c_2 => ?_) (fun c_2 => ?_)
    · replace h := h.1 c_2
      refine lv_iconst hx hb dX4_isSmall_34 kc_0 ?_
      exact hret _ _ _ _ _ _ hP hS h (vz_nar vz_0) dX4_isSmall_35
    · replace h := h.2 c_2
      refine lv_aload_n hx hb dX4_isSmall_19 rfl (lv_at hl 0 rfl) ?_
      refine mg_r S hK hP (k := 0) (by decide) (by decide) q1420 dX4_isSmall_20 ?_
      refine lv_iload_n hx hb dX4_isSmall_23 rfl (lv_at hl 1 rfl) ?_
      obtain ⟨hi, h⟩ := h
      refine ml_a S hK hP (k := 0) af_0 rfl hi dX4_isSmall_24 ?_
      refine lv_bipush hx hb dX4_isSmall_25 kb_122 ?_
      refine lv_icmp_gt (tgt := 34) hx hb dX4_isSmall_27 (by decide) (fun c_3 => ?_) (fun c_3 => ?_)
      · replace h := h.1 c_3
        refine lv_iconst hx hb dX4_isSmall_34 kc_0 ?_
        exact hret _ _ _ _ _ _ hP hS h (vz_nar vz_0) dX4_isSmall_35
      · replace h := h.2 c_3
        refine lv_iconst hx hb dX4_isSmall_30 kc_1 ?_
        refine lv_goto (tgt := 35) hx hb dX4_isSmall_31 (by decide) ?_
        exact hret _ _ _ _ _ _ hP hS h (vz_nar vz_1) dX4_isSmall_35
def w4_wordAt_c104 (a1 : Int32) (a2 : Int32) (k5 : Int32 → Int32 → MS → Prop) (Post : Int32 → MS → Prop) (x3 : Int32) (x4 : Int32) (x5 : Int32) (x6 : Int32) (M : MS) : Prop := (x6 = 0 → (∀ v_6 : Int32, v_6 = x4 + (x5 + (1 : Int32)) → ∀ v_7 : Int32, v_7 = x3 + (1 : Int32) → k5 v_7 v_6 M)) ∧ (¬ (x6 = 0) → (Post x3 M))
def w4_wordAt_c96 (a1 : Int32) (a2 : Int32) (k5 : Int32 → Int32 → MS → Prop) (k57 : Int32 → Int32 → Int32 → Int32 → Int32 → MS → Prop) (Post : Int32 → MS → Prop) (x3 : Int32) (x4 : Int32) (x5 : Int32) (x7 : Int32) (t0 : Int32) (M : MS) : Prop := ∀ v_10 : Int32, v_10 = x7 + (1 : Int32) → k57 x3 x4 x5 t0 v_10 M
def w4_wordAt_l57 (a1 : Int32) (a2 : Int32) (k5 : Int32 → Int32 → MS → Prop) (Post : Int32 → MS → Prop) : Nat → Int32 → Int32 → Int32 → Int32 → Int32 → MS → Prop
  | 0, _, _, _, _, _, _ => False
  | n + 1, x3, x4, x5, x6, x7, M => (x5 ≤ x7 → (w4_wordAt_c104 a1 a2 k5 Post x3 x4 x5 x6 M)) ∧ (¬ (x5 ≤ x7) → ((x6 = 0 → (w4_wordAt_c104 a1 a2 k5 Post x3 x4 x5 x6 M)) ∧ (¬ (x6 = 0) → ((vp_in (x4 + x7) (mN 3) ∧ (vp_in (a1 + x7) (mN 0) ∧ ((ma M 3 (Int32.toNatClampNeg (x4 + x7))) = (ma M 0 (Int32.toNatClampNeg (a1 + x7))) → (w4_wordAt_c96 a1 a2 k5 (w4_wordAt_l57 a1 a2 k5 Post n) Post x3 x4 x5 x7 (1 : Int32) M)) ∧ (¬ ((ma M 3 (Int32.toNatClampNeg (x4 + x7))) = (ma M 0 (Int32.toNatClampNeg (a1 + x7)))) → (w4_wordAt_c96 a1 a2 k5 (w4_wordAt_l57 a1 a2 k5 Post n) Post x3 x4 x5 x7 (0 : Int32) M))))))))
def w4_wordAt_c52 (a1 : Int32) (a2 : Int32) (k5 : Int32 → Int32 → MS → Prop) (Post : Int32 → MS → Prop) (x3 : Int32) (x4 : Int32) (x5 : Int32) (t0 : Int32) (M : MS) : Prop := ∃ f, w4_wordAt_l57 a1 a2 k5 Post f x3 x4 x5 t0 (0 : Int32) M
def w4_wordAt_l18 (a1 : Int32) (a2 : Int32) (k5 : Int32 → Int32 → MS → Prop) (Post : Int32 → MS → Prop) : Nat → Int32 → Int32 → Int32 → MS → Prop
  | 0, _, _, _, _ => False
  | n + 1, x3, x4, x5, M => (vp_in (x4 + x5) (mN 3) ∧ ((ma M 3 (Int32.toNatClampNeg (x4 + x5))) = (32 : Int32) → ((x5 = (a2 - a1) → (w4_wordAt_c52 a1 a2 k5 Post x3 x4 x5 (1 : Int32) M)) ∧ (¬ (x5 = (a2 - a1)) → (w4_wordAt_c52 a1 a2 k5 Post x3 x4 x5 (0 : Int32) M)))) ∧ (¬ ((ma M 3 (Int32.toNatClampNeg (x4 + x5))) = (32 : Int32)) → (∀ v_11 : Int32, v_11 = x5 + (1 : Int32) → w4_wordAt_l18 a1 a2 k5 Post n x3 x4 v_11 M)))
def w4_wordAt_l5 (a1 : Int32) (a2 : Int32) (Post : Int32 → MS → Prop) : Nat → Int32 → Int32 → MS → Prop
  | 0, _, _, _ => False
  | n + 1, x3, x4, M => ((nI (mN 3)) ≤ x4 → (Post (-1 : Int32) M)) ∧ (¬ ((nI (mN 3)) ≤ x4) → (∃ f, w4_wordAt_l18 a1 a2 (w4_wordAt_l5 a1 a2 Post n) Post f x3 x4 (0 : Int32) M))
def w4_wordAt (a1 : Int32) (a2 : Int32) (M : MS) (Post : Int32 → MS → Prop) : Prop := ∃ f, w4_wordAt_l5 a1 a2 Post f (0 : Int32) (0 : Int32) M
abbrev rX4_wordAt : Room := { frames := 0, cells := 0, slots := 0, locals := 0 }
theorem cdX4_wordAt : yX4_wordAt.cls = RX4 ∧ yX4_wordAt.cls ≠ "java/lang/invoke/MethodHandle" ∧ yX4_wordAt.cls ≠ "java/lang/invoke/VarHandle" ∧ (parseMethodDescriptor yX4_wordAt.desc).map (fun d => d.parameters.length) = some 2 := by decide +kernel
set_option maxHeartbeats 4000000 in
set_option maxRecDepth 100000 in
theorem mt4_wordAt (l : Launch) {D : va_G} {cA : Nat → ClassId} {m0 : Nat} {ad : Nat → Nat} (hA : mAd m0 ad) (a1 : Int32) (a2 : Int32) (M : MS) (Post : Int32 → MS → Prop) (h : w4_wordAt a1 a2 M Post) : Met l yX4_wordAt (ws_ yX4_wordAt cX4_wordAt 8 (some .int)) rX4_wordAt (mPc [.ref m0, .int a1, .int a2] D cA m0 ad M) (va_Qi Post (mB D cA m0 ad) (mF m0 ad)) 0 0 (mF m0 ad) := by
  refine mst_i (own := RX4) (by decide) rfl (Nat.le_of_ble_eq_true rfl) ?_
  intro p e s m args below meth c Q ls S hK hP hS hl hret
  have hx := S.1
  have hb := S.2.1
  have hl : lv_has ls 8 [(0, .ref m0), (1, .int a1), (2, .int a2)] := hl
  have C104 : ∀ (k5 : Int32 → Int32 → MS → Prop) (K5 : (∀ (x3 : Int32) (x4 : Int32) (M : MS) (H : Heap) (locs : List Loc) (ls : Array Slot), va_P D vwCl (mo cA m0 ad M) H → va_S (mF m0 ad) s.heap H locs → lv_has ls 8 [(0, .ref m0), (1, .int a1), (2, .int a2), (3, .int x3), (4, .int x4)] → k5 x3 x4 M → W p l e rX4_wordAt s m args below meth c H locs 0 0 Q (F0 m 5 ls []))), ∀ (x3 : Int32) (x4 : Int32) (x5 : Int32) (x6 : Int32) (M : MS) (H : Heap) (locs : List Loc) (ls : Array Slot), va_P D vwCl (mo cA m0 ad M) H → va_S (mF m0 ad) s.heap H locs → lv_has ls 8 [(0, .ref m0), (1, .int a1), (2, .int a2), (3, .int x3), (4, .int x4), (5, .int x5), (6, .int x6)] → w4_wordAt_c104 a1 a2 k5 Post x3 x4 x5 x6 M → W p l e rX4_wordAt s m args below meth c H locs 0 0 Q (F0 m 104 ls []) := by
    intro k5 K5
    intro x3 x4 x5 x6 M H locs ls hP hS hl h
    unfold w4_wordAt_c104 at h
    refine lv_iload hx hb dX4_wordAt_104 (lv_at hl 6 rfl) ?_
    refine lv_if_eq (tgt := 111) hx hb dX4_wordAt_106 (by decide) (fun c_5 => ?_) (fun c_5 => ?_)
    · replace h := h.1 c_5
      refine lv_iload hx hb dX4_wordAt_111 (lv_at hl 4 rfl) ?_
      refine lv_iload hx hb dX4_wordAt_113 (lv_at hl 5 rfl) ?_
      refine lv_iconst hx hb dX4_wordAt_115 kc_1 ?_
      refine lv_iadd hx hb dX4_wordAt_116 ?_
      refine lv_iadd hx hb dX4_wordAt_117 ?_
      refine lv_topi (fun v_6 e_v_6 => ?_)
      replace h := h v_6 e_v_6
      refine lv_istore (lv' := [(4, .int v_6), (0, .ref m0), (1, .int a1), (2, .int a2), (3, .int x3), (5, .int x5), (6, .int x6)]) hx hb dX4_wordAt_118 hl (by decide) rfl (fun ls hl => ?_)
      obtain ⟨v_7, e_v_7⟩ : ∃ y : Int32, y = x3 + (1 : Int32) := ⟨_, rfl⟩
      replace h := h v_7 e_v_7
      refine lv_iinc (v := v_7) (lv' := [(3, .int v_7), (4, .int v_6), (0, .ref m0), (1, .int a1), (2, .int a2), (5, .int x5), (6, .int x6)]) hx hb dX4_wordAt_120 hl (k := 4) rfl (by rw [kc_1, e_v_7]) (by decide) rfl (fun ls hl => ?_)
      refine lv_goto (tgt := 5) hx hb dX4_wordAt_123 (by decide) ?_
      exact K5 _ _ _ _ _ _ hP hS (lv_sub hl [2, 3, 4, 0, 1] rfl) h
    · replace h := h.2 c_5
      refine lv_iload_n hx hb dX4_wordAt_109 rfl (lv_at hl 3 rfl) ?_
      exact hret _ _ _ _ _ _ hP hS h rfl dX4_wordAt_110
  have C96 : ∀ (k5 : Int32 → Int32 → MS → Prop) (K5 : (∀ (x3 : Int32) (x4 : Int32) (M : MS) (H : Heap) (locs : List Loc) (ls : Array Slot), va_P D vwCl (mo cA m0 ad M) H → va_S (mF m0 ad) s.heap H locs → lv_has ls 8 [(0, .ref m0), (1, .int a1), (2, .int a2), (3, .int x3), (4, .int x4)] → k5 x3 x4 M → W p l e rX4_wordAt s m args below meth c H locs 0 0 Q (F0 m 5 ls []))) (k57 : Int32 → Int32 → Int32 → Int32 → Int32 → MS → Prop) (K57 : (∀ (x3 : Int32) (x4 : Int32) (x5 : Int32) (x6 : Int32) (x7 : Int32) (M : MS) (H : Heap) (locs : List Loc) (ls : Array Slot), va_P D vwCl (mo cA m0 ad M) H → va_S (mF m0 ad) s.heap H locs → lv_has ls 8 [(0, .ref m0), (1, .int a1), (2, .int a2), (3, .int x3), (4, .int x4), (5, .int x5), (6, .int x6), (7, .int x7)] → k57 x3 x4 x5 x6 x7 M → W p l e rX4_wordAt s m args below meth c H locs 0 0 Q (F0 m 57 ls []))), ∀ (x3 : Int32) (x4 : Int32) (x5 : Int32) (x7 : Int32) (t0 : Int32) (M : MS) (H : Heap) (locs : List Loc) (ls : Array Slot), va_P D vwCl (mo cA m0 ad M) H → va_S (mF m0 ad) s.heap H locs → lv_has ls 8 [(0, .ref m0), (1, .int a1), (2, .int a2), (3, .int x3), (4, .int x4), (5, .int x5), (7, .int x7)] → w4_wordAt_c96 a1 a2 k5 k57 Post x3 x4 x5 x7 t0 M → W p l e rX4_wordAt s m args below meth c H locs 0 0 Q (F0 m 96 ls [.int t0]) := by
    intro k5 K5 k57 K57
    intro x3 x4 x5 x7 t0 M H locs ls hP hS hl h
    unfold w4_wordAt_c96 at h
    refine lv_istore (lv' := [(6, .int t0), (0, .ref m0), (1, .int a1), (2, .int a2), (3, .int x3), (4, .int x4), (5, .int x5), (7, .int x7)]) hx hb dX4_wordAt_96 hl (by decide) rfl (fun ls hl => ?_)
    obtain ⟨v_10, e_v_10⟩ : ∃ y : Int32, y = x7 + (1 : Int32) := ⟨_, rfl⟩
    replace h := h v_10 e_v_10
    refine lv_iinc (v := v_10) (lv' := [(7, .int v_10), (6, .int t0), (0, .ref m0), (1, .int a1), (2, .int a2), (3, .int x3), (4, .int x4), (5, .int x5)]) hx hb dX4_wordAt_98 hl (k := 7) rfl (by rw [kc_1, e_v_10]) (by decide) rfl (fun ls hl => ?_)
    refine lv_goto (tgt := 57) hx hb dX4_wordAt_101 (by decide) ?_
    exact K57 _ _ _ _ _ _ _ _ _ hP hS (lv_sub hl [2, 3, 4, 5, 6, 7, 1, 0] rfl) h
  have L57 : ∀ (k5 : Int32 → Int32 → MS → Prop) (K5 : (∀ (x3 : Int32) (x4 : Int32) (M : MS) (H : Heap) (locs : List Loc) (ls : Array Slot), va_P D vwCl (mo cA m0 ad M) H → va_S (mF m0 ad) s.heap H locs → lv_has ls 8 [(0, .ref m0), (1, .int a1), (2, .int a2), (3, .int x3), (4, .int x4)] → k5 x3 x4 M → W p l e rX4_wordAt s m args below meth c H locs 0 0 Q (F0 m 5 ls []))), ∀ (n : Nat) (x3 : Int32) (x4 : Int32) (x5 : Int32) (x6 : Int32) (x7 : Int32) (M : MS) (H : Heap) (locs : List Loc) (ls : Array Slot), va_P D vwCl (mo cA m0 ad M) H → va_S (mF m0 ad) s.heap H locs → lv_has ls 8 [(0, .ref m0), (1, .int a1), (2, .int a2), (3, .int x3), (4, .int x4), (5, .int x5), (6, .int x6), (7, .int x7)] → w4_wordAt_l57 a1 a2 k5 Post n x3 x4 x5 x6 x7 M → W p l e rX4_wordAt s m args below meth c H locs 0 0 Q (F0 m 57 ls []) := by
    intro k5 K5
    intro n
    induction n with
    | zero => intro x3 x4 x5 x6 x7 M H locs ls hP hS hl h; rw [w4_wordAt_l57] at h; exact h.elim
    | succ n ih =>
      intro x3 x4 x5 x6 x7 M H locs ls hP hS hl h
      rw [w4_wordAt_l57] at h
      refine lv_iload hx hb dX4_wordAt_57 (lv_at hl 7 rfl) ?_
      refine lv_iload hx hb dX4_wordAt_59 (lv_at hl 5 rfl) ?_
      refine lv_icmp_ge (tgt := 104) hx hb dX4_wordAt_61 (by decide) (fun c_4 => ?_) (fun c_4 => ?_)
      · replace h := h.1 c_4
        exact C104 _ K5 _ _ _ _ _ _ _ _ hP hS (lv_sub hl [0, 1, 2, 3, 4, 5, 6] rfl) h
      · replace h := h.2 c_4
        refine lv_iload hx hb dX4_wordAt_64 (lv_at hl 6 rfl) ?_
        refine lv_if_eq (tgt := 104) hx hb dX4_wordAt_66 (by decide) (fun c_8 => ?_) (fun c_8 => ?_)
        · replace h := h.1 c_8
          exact C104 _ K5 _ _ _ _ _ _ _ _ hP hS (lv_sub hl [0, 1, 2, 3, 4, 5, 6] rfl) h
        · replace h := h.2 c_8
          refine lv_aload_n hx hb dX4_wordAt_69 rfl (lv_at hl 0 rfl) ?_
          refine mg_r S hK hP (k := 3) (by decide) (by decide) q1423 dX4_wordAt_70 ?_
          refine lv_iload hx hb dX4_wordAt_73 (lv_at hl 4 rfl) ?_
          refine lv_iload hx hb dX4_wordAt_75 (lv_at hl 7 rfl) ?_
          refine lv_iadd hx hb dX4_wordAt_77 ?_
          obtain ⟨hi, h⟩ := h
          refine ml_a S hK hP (k := 3) af_3 rfl hi dX4_wordAt_78 ?_
          refine lv_aload_n hx hb dX4_wordAt_79 rfl (lv_at hl 0 rfl) ?_
          refine mg_r S hK hP (k := 0) (by decide) (by decide) q1420 dX4_wordAt_80 ?_
          refine lv_iload_n hx hb dX4_wordAt_83 rfl (lv_at hl 1 rfl) ?_
          refine lv_iload hx hb dX4_wordAt_84 (lv_at hl 7 rfl) ?_
          refine lv_iadd hx hb dX4_wordAt_86 ?_
          obtain ⟨hi, h⟩ := h
          refine ml_a S hK hP (k := 0) af_0 rfl hi dX4_wordAt_87 ?_
          refine lv_icmp_ne (tgt := 95) hx hb dX4_wordAt_88 (by decide) (fun c_9 => ?_) (fun c_9 => ?_)
          · replace h := h.2 c_9
            refine lv_iconst hx hb dX4_wordAt_95 kc_0 ?_
            exact C96 _ K5 _ ih _ _ _ _ _ _ _ _ _ hP hS (lv_sub hl [0, 1, 2, 3, 4, 5, 7] rfl) h
          · replace h := h.1 c_9
            refine lv_iconst hx hb dX4_wordAt_91 kc_1 ?_
            refine lv_goto (tgt := 96) hx hb dX4_wordAt_92 (by decide) ?_
            exact C96 _ K5 _ ih _ _ _ _ _ _ _ _ _ hP hS (lv_sub hl [0, 1, 2, 3, 4, 5, 7] rfl) h
  have C52 : ∀ (k5 : Int32 → Int32 → MS → Prop) (K5 : (∀ (x3 : Int32) (x4 : Int32) (M : MS) (H : Heap) (locs : List Loc) (ls : Array Slot), va_P D vwCl (mo cA m0 ad M) H → va_S (mF m0 ad) s.heap H locs → lv_has ls 8 [(0, .ref m0), (1, .int a1), (2, .int a2), (3, .int x3), (4, .int x4)] → k5 x3 x4 M → W p l e rX4_wordAt s m args below meth c H locs 0 0 Q (F0 m 5 ls []))), ∀ (x3 : Int32) (x4 : Int32) (x5 : Int32) (t0 : Int32) (M : MS) (H : Heap) (locs : List Loc) (ls : Array Slot), va_P D vwCl (mo cA m0 ad M) H → va_S (mF m0 ad) s.heap H locs → lv_has ls 8 [(0, .ref m0), (1, .int a1), (2, .int a2), (3, .int x3), (4, .int x4), (5, .int x5)] → w4_wordAt_c52 a1 a2 k5 Post x3 x4 x5 t0 M → W p l e rX4_wordAt s m args below meth c H locs 0 0 Q (F0 m 52 ls [.int t0]) := by
    intro k5 K5
    intro x3 x4 x5 t0 M H locs ls hP hS hl h
    unfold w4_wordAt_c52 at h
    refine lv_istore (lv' := [(6, .int t0), (0, .ref m0), (1, .int a1), (2, .int a2), (3, .int x3), (4, .int x4), (5, .int x5)]) hx hb dX4_wordAt_52 hl (by decide) rfl (fun ls hl => ?_)
    refine lv_iconst hx hb dX4_wordAt_54 kc_0 ?_
    refine lv_istore (lv' := [(7, .int (0 : Int32)), (6, .int t0), (0, .ref m0), (1, .int a1), (2, .int a2), (3, .int x3), (4, .int x4), (5, .int x5)]) hx hb dX4_wordAt_55 hl (by decide) rfl (fun ls hl => ?_)
    obtain ⟨f, h⟩ := h
    exact L57 _ K5 f _ _ _ _ _ _ _ _ _ hP hS (lv_sub hl [2, 3, 4, 5, 6, 7, 1, 0] rfl) h
  have L18 : ∀ (k5 : Int32 → Int32 → MS → Prop) (K5 : (∀ (x3 : Int32) (x4 : Int32) (M : MS) (H : Heap) (locs : List Loc) (ls : Array Slot), va_P D vwCl (mo cA m0 ad M) H → va_S (mF m0 ad) s.heap H locs → lv_has ls 8 [(0, .ref m0), (1, .int a1), (2, .int a2), (3, .int x3), (4, .int x4)] → k5 x3 x4 M → W p l e rX4_wordAt s m args below meth c H locs 0 0 Q (F0 m 5 ls []))), ∀ (n : Nat) (x3 : Int32) (x4 : Int32) (x5 : Int32) (M : MS) (H : Heap) (locs : List Loc) (ls : Array Slot), va_P D vwCl (mo cA m0 ad M) H → va_S (mF m0 ad) s.heap H locs → lv_has ls 8 [(0, .ref m0), (1, .int a1), (2, .int a2), (3, .int x3), (4, .int x4), (5, .int x5)] → w4_wordAt_l18 a1 a2 k5 Post n x3 x4 x5 M → W p l e rX4_wordAt s m args below meth c H locs 0 0 Q (F0 m 18 ls []) := by
    intro k5 K5
    intro n
    induction n with
    | zero => intro x3 x4 x5 M H locs ls hP hS hl h; rw [w4_wordAt_l18] at h; exact h.elim
    | succ n ih =>
      intro x3 x4 x5 M H locs ls hP hS hl h
      rw [w4_wordAt_l18] at h
      refine lv_aload_n hx hb dX4_wordAt_18 rfl (lv_at hl 0 rfl) ?_
      refine mg_r S hK hP (k := 3) (by decide) (by decide) q1423 dX4_wordAt_19 ?_
      refine lv_iload hx hb dX4_wordAt_22 (lv_at hl 4 rfl) ?_
      refine lv_iload hx hb dX4_wordAt_24 (lv_at hl 5 rfl) ?_
      refine lv_iadd hx hb dX4_wordAt_26 ?_
      obtain ⟨hi, h⟩ := h
      refine ml_a S hK hP (k := 3) af_3 rfl hi dX4_wordAt_27 ?_
      refine lv_bipush hx hb dX4_wordAt_28 kb_32 ?_
      refine lv_icmp_eq (tgt := 39) hx hb dX4_wordAt_30 (by decide) (fun c_2 => ?_) (fun c_2 => ?_)
      · replace h := h.1 c_2
        refine lv_iload hx hb dX4_wordAt_39 (lv_at hl 5 rfl) ?_
        refine lv_iload_n hx hb dX4_wordAt_41 rfl (lv_at hl 2 rfl) ?_
        refine lv_iload_n hx hb dX4_wordAt_42 rfl (lv_at hl 1 rfl) ?_
        refine lv_isub hx hb dX4_wordAt_43 ?_
        refine lv_icmp_ne (tgt := 51) hx hb dX4_wordAt_44 (by decide) (fun c_3 => ?_) (fun c_3 => ?_)
        · replace h := h.2 c_3
          refine lv_iconst hx hb dX4_wordAt_51 kc_0 ?_
          exact C52 _ K5 _ _ _ _ _ _ _ _ hP hS (lv_sub hl [0, 1, 2, 3, 4, 5] rfl) h
        · replace h := h.1 c_3
          refine lv_iconst hx hb dX4_wordAt_47 kc_1 ?_
          refine lv_goto (tgt := 52) hx hb dX4_wordAt_48 (by decide) ?_
          exact C52 _ K5 _ _ _ _ _ _ _ _ hP hS (lv_sub hl [0, 1, 2, 3, 4, 5] rfl) h
      · replace h := h.2 c_2
        obtain ⟨v_11, e_v_11⟩ : ∃ y : Int32, y = x5 + (1 : Int32) := ⟨_, rfl⟩
        replace h := h v_11 e_v_11
        refine lv_iinc (v := v_11) (lv' := [(5, .int v_11), (0, .ref m0), (1, .int a1), (2, .int a2), (3, .int x3), (4, .int x4)]) hx hb dX4_wordAt_33 hl (k := 5) rfl (by rw [kc_1, e_v_11]) (by decide) rfl (fun ls hl => ?_)
        refine lv_goto (tgt := 18) hx hb dX4_wordAt_36 (by decide) ?_
        exact ih _ _ _ _ _ _ _ hP hS (lv_sub hl [1, 2, 3, 4, 5, 0] rfl) h
  have L5 : ∀ (n : Nat) (x3 : Int32) (x4 : Int32) (M : MS) (H : Heap) (locs : List Loc) (ls : Array Slot), va_P D vwCl (mo cA m0 ad M) H → va_S (mF m0 ad) s.heap H locs → lv_has ls 8 [(0, .ref m0), (1, .int a1), (2, .int a2), (3, .int x3), (4, .int x4)] → w4_wordAt_l5 a1 a2 Post n x3 x4 M → W p l e rX4_wordAt s m args below meth c H locs 0 0 Q (F0 m 5 ls []) := by
    intro n
    induction n with
    | zero => intro x3 x4 M H locs ls hP hS hl h; rw [w4_wordAt_l5] at h; exact h.elim
    | succ n ih =>
      intro x3 x4 M H locs ls hP hS hl h
      rw [w4_wordAt_l5] at h
      refine lv_iload hx hb dX4_wordAt_5 (lv_at hl 4 rfl) ?_
      refine lv_aload_n hx hb dX4_wordAt_7 rfl (lv_at hl 0 rfl) ?_
      refine mg_r S hK hP (k := 3) (by decide) (by decide) q1423 dX4_wordAt_8 ?_
      refine ml_n S hK hP (k := 3) af_3 rfl dX4_wordAt_11 ?_
      refine lv_icmp_ge (tgt := 126) hx hb dX4_wordAt_12 (by decide) (fun c_1 => ?_) (fun c_1 => ?_)
      · replace h := h.1 c_1
        refine lv_iconst hx hb dX4_wordAt_126 kc_m1 ?_
        exact hret _ _ _ _ _ _ hP hS h rfl dX4_wordAt_127
      · replace h := h.2 c_1
        refine lv_iconst hx hb dX4_wordAt_15 kc_0 ?_
        refine lv_istore (lv' := [(5, .int (0 : Int32)), (0, .ref m0), (1, .int a1), (2, .int a2), (3, .int x3), (4, .int x4)]) hx hb dX4_wordAt_16 hl (by decide) rfl (fun ls hl => ?_)
        obtain ⟨f, h⟩ := h
        exact L18 _ ih f _ _ _ _ _ _ _ hP hS (lv_sub hl [1, 2, 3, 4, 5, 0] rfl) h
  unfold w4_wordAt at h
  refine lv_iconst hx hb dX4_wordAt_0 kc_0 ?_
  refine lv_istore_n (lv' := [(3, .int (0 : Int32)), (0, .ref m0), (1, .int a1), (2, .int a2)]) hx hb dX4_wordAt_1 rfl hl (by decide) rfl (fun ls hl => ?_)
  refine lv_iconst hx hb dX4_wordAt_2 kc_0 ?_
  refine lv_istore (lv' := [(4, .int (0 : Int32)), (3, .int (0 : Int32)), (0, .ref m0), (1, .int a1), (2, .int a2)]) hx hb dX4_wordAt_3 hl (by decide) rfl (fun ls hl => ?_)
  obtain ⟨f, h⟩ := h
  exact L5 f _ _ _ _ _ _ hP hS (lv_sub hl [2, 3, 4, 1, 0] rfl) h
def w4_packed_c37 (a1 : Int32) (a2 : Int32) (k5 : Int32 → Int32 → MS → Prop) (Post : Int32 → MS → Prop) (x4 : Int32) (t0 : Int32) (t1 : Int32) (M : MS) : Prop := ∀ v_3 : Int32, v_3 = t1 ||| t0 → ∀ v_4 : Int32, v_4 = x4 + (1 : Int32) → k5 v_3 v_4 M
def w4_packed_l5 (a1 : Int32) (a2 : Int32) (Post : Int32 → MS → Prop) : Nat → Int32 → Int32 → MS → Prop
  | 0, _, _, _ => False
  | n + 1, x3, x4, M => ((a1 + (6 : Int32)) ≤ x4 → (Post x3 M)) ∧ (¬ ((a1 + (6 : Int32)) ≤ x4) → ((a2 ≤ x4 → (w4_packed_c37 a1 a2 (w4_packed_l5 a1 a2 Post n) Post x4 (0 : Int32) (x3 <<< ((5 : Int32) &&& (31 : Int32))) M)) ∧ (¬ (a2 ≤ x4) → ((vp_in x4 (mN 0) ∧ w4_packed_c37 a1 a2 (w4_packed_l5 a1 a2 Post n) Post x4 ((ma M 0 (Int32.toNatClampNeg x4)) - (96 : Int32)) (x3 <<< ((5 : Int32) &&& (31 : Int32))) M)))))
def w4_packed (a1 : Int32) (a2 : Int32) (M : MS) (Post : Int32 → MS → Prop) : Prop := ∃ f, w4_packed_l5 a1 a2 Post f (0 : Int32) a1 M
abbrev rX4_packed : Room := { frames := 0, cells := 0, slots := 0, locals := 0 }
theorem cdX4_packed : yX4_packed.cls = RX4 ∧ yX4_packed.cls ≠ "java/lang/invoke/MethodHandle" ∧ yX4_packed.cls ≠ "java/lang/invoke/VarHandle" ∧ (parseMethodDescriptor yX4_packed.desc).map (fun d => d.parameters.length) = some 2 := by decide +kernel
set_option maxHeartbeats 4000000 in
set_option maxRecDepth 100000 in
theorem mt4_packed (l : Launch) {D : va_G} {cA : Nat → ClassId} {m0 : Nat} {ad : Nat → Nat} (hA : mAd m0 ad) (a1 : Int32) (a2 : Int32) (M : MS) (Post : Int32 → MS → Prop) (h : w4_packed a1 a2 M Post) : Met l yX4_packed (ws_ yX4_packed cX4_packed 5 (some .int)) rX4_packed (mPc [.ref m0, .int a1, .int a2] D cA m0 ad M) (va_Qi Post (mB D cA m0 ad) (mF m0 ad)) 0 0 (mF m0 ad) := by
  refine mst_i (own := RX4) (by decide) rfl (Nat.le_of_ble_eq_true rfl) ?_
  intro p e s m args below meth c Q ls S hK hP hS hl hret
  have hx := S.1
  have hb := S.2.1
  have hl : lv_has ls 5 [(0, .ref m0), (1, .int a1), (2, .int a2)] := hl
  have C37 : ∀ (k5 : Int32 → Int32 → MS → Prop) (K5 : (∀ (x3 : Int32) (x4 : Int32) (M : MS) (H : Heap) (locs : List Loc) (ls : Array Slot), va_P D vwCl (mo cA m0 ad M) H → va_S (mF m0 ad) s.heap H locs → lv_has ls 5 [(0, .ref m0), (1, .int a1), (2, .int a2), (3, .int x3), (4, .int x4)] → k5 x3 x4 M → W p l e rX4_packed s m args below meth c H locs 0 0 Q (F0 m 5 ls []))), ∀ (x4 : Int32) (t0 : Int32) (t1 : Int32) (M : MS) (H : Heap) (locs : List Loc) (ls : Array Slot), va_P D vwCl (mo cA m0 ad M) H → va_S (mF m0 ad) s.heap H locs → lv_has ls 5 [(0, .ref m0), (1, .int a1), (2, .int a2), (4, .int x4)] → w4_packed_c37 a1 a2 k5 Post x4 t0 t1 M → W p l e rX4_packed s m args below meth c H locs 0 0 Q (F0 m 37 ls [.int t0, .int t1]) := by
    intro k5 K5
    intro x4 t0 t1 M H locs ls hP hS hl h
    unfold w4_packed_c37 at h
    refine lv_ior hx hb dX4_packed_37 ?_
    refine lv_topi (fun v_3 e_v_3 => ?_)
    replace h := h v_3 e_v_3
    refine lv_istore_n (lv' := [(3, .int v_3), (0, .ref m0), (1, .int a1), (2, .int a2), (4, .int x4)]) hx hb dX4_packed_38 rfl hl (by decide) rfl (fun ls hl => ?_)
    obtain ⟨v_4, e_v_4⟩ : ∃ y : Int32, y = x4 + (1 : Int32) := ⟨_, rfl⟩
    replace h := h v_4 e_v_4
    refine lv_iinc (v := v_4) (lv' := [(4, .int v_4), (3, .int v_3), (0, .ref m0), (1, .int a1), (2, .int a2)]) hx hb dX4_packed_39 hl (k := 4) rfl (by rw [kc_1, e_v_4]) (by decide) rfl (fun ls hl => ?_)
    refine lv_goto (tgt := 5) hx hb dX4_packed_42 (by decide) ?_
    exact K5 _ _ _ _ _ _ hP hS (lv_sub hl [2, 3, 4, 1, 0] rfl) h
  have L5 : ∀ (n : Nat) (x3 : Int32) (x4 : Int32) (M : MS) (H : Heap) (locs : List Loc) (ls : Array Slot), va_P D vwCl (mo cA m0 ad M) H → va_S (mF m0 ad) s.heap H locs → lv_has ls 5 [(0, .ref m0), (1, .int a1), (2, .int a2), (3, .int x3), (4, .int x4)] → w4_packed_l5 a1 a2 Post n x3 x4 M → W p l e rX4_packed s m args below meth c H locs 0 0 Q (F0 m 5 ls []) := by
    intro n
    induction n with
    | zero => intro x3 x4 M H locs ls hP hS hl h; rw [w4_packed_l5] at h; exact h.elim
    | succ n ih =>
      intro x3 x4 M H locs ls hP hS hl h
      rw [w4_packed_l5] at h
      refine lv_iload hx hb dX4_packed_5 (lv_at hl 4 rfl) ?_
      refine lv_iload_n hx hb dX4_packed_7 rfl (lv_at hl 1 rfl) ?_
      refine lv_bipush hx hb dX4_packed_8 kb_6 ?_
      refine lv_iadd hx hb dX4_packed_10 ?_
      refine lv_icmp_ge (tgt := 45) hx hb dX4_packed_11 (by decide) (fun c_1 => ?_) (fun c_1 => ?_)
      · replace h := h.1 c_1
        refine lv_iload_n hx hb dX4_packed_45 rfl (lv_at hl 3 rfl) ?_
        exact hret _ _ _ _ _ _ hP hS h rfl dX4_packed_46
      · replace h := h.2 c_1
        refine lv_iload_n hx hb dX4_packed_14 rfl (lv_at hl 3 rfl) ?_
        refine lv_iconst hx hb dX4_packed_15 kc_5 ?_
        refine lv_ishl hx hb dX4_packed_16 ?_
        refine lv_iload hx hb dX4_packed_17 (lv_at hl 4 rfl) ?_
        refine lv_iload_n hx hb dX4_packed_19 rfl (lv_at hl 2 rfl) ?_
        refine lv_icmp_ge (tgt := 36) hx hb dX4_packed_20 (by decide) (fun c_2 => ?_) (fun c_2 => ?_)
        · replace h := h.1 c_2
          refine lv_iconst hx hb dX4_packed_36 kc_0 ?_
          exact C37 _ ih _ _ _ _ _ _ _ hP hS (lv_sub hl [0, 1, 2, 4] rfl) h
        · replace h := h.2 c_2
          refine lv_aload_n hx hb dX4_packed_23 rfl (lv_at hl 0 rfl) ?_
          refine mg_r S hK hP (k := 0) (by decide) (by decide) q1420 dX4_packed_24 ?_
          refine lv_iload hx hb dX4_packed_27 (lv_at hl 4 rfl) ?_
          obtain ⟨hi, h⟩ := h
          refine ml_a S hK hP (k := 0) af_0 rfl hi dX4_packed_29 ?_
          refine lv_bipush hx hb dX4_packed_30 kb_96 ?_
          refine lv_isub hx hb dX4_packed_32 ?_
          refine lv_goto (tgt := 37) hx hb dX4_packed_33 (by decide) ?_
          exact C37 _ ih _ _ _ _ _ _ _ hP hS (lv_sub hl [0, 1, 2, 4] rfl) h
  unfold w4_packed at h
  refine lv_iconst hx hb dX4_packed_0 kc_0 ?_
  refine lv_istore_n (lv' := [(3, .int (0 : Int32)), (0, .ref m0), (1, .int a1), (2, .int a2)]) hx hb dX4_packed_1 rfl hl (by decide) rfl (fun ls hl => ?_)
  refine lv_iload_n hx hb dX4_packed_2 rfl (lv_at hl 2 rfl) ?_
  refine lv_istore (lv' := [(4, .int a1), (3, .int (0 : Int32)), (0, .ref m0), (1, .int a1), (2, .int a2)]) hx hb dX4_packed_3 hl (by decide) rfl (fun ls hl => ?_)
  obtain ⟨f, h⟩ := h
  exact L5 f _ _ _ _ _ _ hP hS (lv_sub hl [2, 3, 4, 1, 0] rfl) h
def w4_isDigit (a1 : Int32) (M : MS) (Post : Int32 → MS → Prop) : Prop := ((mi M 6) ≤ a1 → (Post (0 : Int32) M)) ∧ (¬ ((mi M 6) ≤ a1) → ((vp_in a1 (mN 0) ∧ ((ma M 0 (Int32.toNatClampNeg a1)) < (48 : Int32) → (Post (0 : Int32) M)) ∧ (¬ ((ma M 0 (Int32.toNatClampNeg a1)) < (48 : Int32)) → ((vp_in a1 (mN 0) ∧ ((57 : Int32) < (ma M 0 (Int32.toNatClampNeg a1)) → (Post (0 : Int32) M)) ∧ (¬ ((57 : Int32) < (ma M 0 (Int32.toNatClampNeg a1))) → (Post (1 : Int32) M))))))))
abbrev rX4_isDigit : Room := { frames := 0, cells := 0, slots := 0, locals := 0 }
theorem cdX4_isDigit : yX4_isDigit.cls = RX4 ∧ yX4_isDigit.cls ≠ "java/lang/invoke/MethodHandle" ∧ yX4_isDigit.cls ≠ "java/lang/invoke/VarHandle" ∧ (parseMethodDescriptor yX4_isDigit.desc).map (fun d => d.parameters.length) = some 1 := by decide +kernel
set_option maxHeartbeats 4000000 in
set_option maxRecDepth 100000 in
theorem mt4_isDigit (l : Launch) {D : va_G} {cA : Nat → ClassId} {m0 : Nat} {ad : Nat → Nat} (hA : mAd m0 ad) (a1 : Int32) (M : MS) (Post : Int32 → MS → Prop) (h : w4_isDigit a1 M Post) : Met l yX4_isDigit (ws_ yX4_isDigit cX4_isDigit 2 (some .boolean)) rX4_isDigit (mPc [.ref m0, .int a1] D cA m0 ad M) (va_Qi Post (mB D cA m0 ad) (mF m0 ad)) 0 0 (mF m0 ad) := by
  refine mst_i (own := RX4) (by decide) rfl (Nat.le_of_ble_eq_true rfl) ?_
  intro p e s m args below meth c Q ls S hK hP hS hl hret
  have hx := S.1
  have hb := S.2.1
  have hl : lv_has ls 2 [(0, .ref m0), (1, .int a1)] := hl
  unfold w4_isDigit at h
  refine lv_iload_n hx hb dX4_isDigit_0 rfl (lv_at hl 1 rfl) ?_
  refine lv_aload_n hx hb dX4_isDigit_1 rfl (lv_at hl 0 rfl) ?_
  refine mg_i S hK hP (k := 6) (by decide) (by decide) q1426 dX4_isDigit_2 ?_
  refine lv_icmp_ge (tgt := 34) hx hb dX4_isDigit_5 (by decide) (fun c_1 => ?_) (fun c_1 => ?_)
  · replace h := h.1 c_1
    refine lv_iconst hx hb dX4_isDigit_34 kc_0 ?_
    exact hret _ _ _ _ _ _ hP hS h (vz_nar vz_0) dX4_isDigit_35
  · replace h := h.2 c_1
    refine lv_aload_n hx hb dX4_isDigit_8 rfl (lv_at hl 0 rfl) ?_
    refine mg_r S hK hP (k := 0) (by decide) (by decide) q1420 dX4_isDigit_9 ?_
    refine lv_iload_n hx hb dX4_isDigit_12 rfl (lv_at hl 1 rfl) ?_
    obtain ⟨hi, h⟩ := h
    refine ml_a S hK hP (k := 0) af_0 rfl hi dX4_isDigit_13 ?_
    refine lv_bipush hx hb dX4_isDigit_14 kb_48 ?_
    refine lv_icmp_lt (tgt := 34) hx hb dX4_isDigit_16 (by decide) (fun c_2 => ?_) (fun c_2 => ?_)
    · replace h := h.1 c_2
      refine lv_iconst hx hb dX4_isDigit_34 kc_0 ?_
      exact hret _ _ _ _ _ _ hP hS h (vz_nar vz_0) dX4_isDigit_35
    · replace h := h.2 c_2
      refine lv_aload_n hx hb dX4_isDigit_19 rfl (lv_at hl 0 rfl) ?_
      refine mg_r S hK hP (k := 0) (by decide) (by decide) q1420 dX4_isDigit_20 ?_
      refine lv_iload_n hx hb dX4_isDigit_23 rfl (lv_at hl 1 rfl) ?_
      obtain ⟨hi, h⟩ := h
      refine ml_a S hK hP (k := 0) af_0 rfl hi dX4_isDigit_24 ?_
      refine lv_bipush hx hb dX4_isDigit_25 kb_57 ?_
      refine lv_icmp_gt (tgt := 34) hx hb dX4_isDigit_27 (by decide) (fun c_3 => ?_) (fun c_3 => ?_)
      · replace h := h.1 c_3
        refine lv_iconst hx hb dX4_isDigit_34 kc_0 ?_
        exact hret _ _ _ _ _ _ hP hS h (vz_nar vz_0) dX4_isDigit_35
      · replace h := h.2 c_3
        refine lv_iconst hx hb dX4_isDigit_30 kc_1 ?_
        refine lv_goto (tgt := 35) hx hb dX4_isDigit_31 (by decide) ?_
        exact hret _ _ _ _ _ _ hP hS h (vz_nar vz_1) dX4_isDigit_35
def w4_takeSign_c135 (Post : MS → Prop) (x2 : Int32) (x3 : Int32) (M : MS) : Prop := ∀ M_9 : MS, M_9 = si M 8 (5 : Int32) → ((mi M_9 9) = (61 : Int32) → (∀ M_20 : MS, M_20 = si M_9 9 (2 : Int32) → Post M_20)) ∧ (¬ ((mi M_9 9) = (61 : Int32)) → (((mi M_9 9) = (60 : Int32) → ((x2 = 0 → ((x3 = 0 → (∀ M_17 : MS, M_17 = si M_9 9 (0 : Int32) → Post M_17)) ∧ (¬ (x3 = 0) → (∀ M_18 : MS, M_18 = si M_9 9 (3 : Int32) → Post M_18)))) ∧ (¬ (x2 = 0) → (∀ M_19 : MS, M_19 = si M_9 9 (1 : Int32) → Post M_19)))) ∧ (¬ ((mi M_9 9) = (60 : Int32)) → ((x2 = 0 → (∀ M_13 : MS, M_13 = si M_9 9 (5 : Int32) → Post M_13)) ∧ (¬ (x2 = 0) → (∀ M_14 : MS, M_14 = si M_9 9 (4 : Int32) → Post M_14))))))
def w4_takeSign_c125 (Post : MS → Prop) (x2 : Int32) (x3 : Int32) (M : MS) : Prop := ∀ M_8 : MS, M_8 = si M 7 ((mi M 7) + (1 : Int32)) → w4_takeSign_c135 Post x2 x3 M_8
def w4_takeSign_c116 (Post : MS → Prop) (x2 : Int32) (t0 : Int32) (M : MS) : Prop := (x2 = 0 → ((t0 = 0 → (w4_takeSign_c135 Post x2 t0 M)) ∧ (¬ (t0 = 0) → (w4_takeSign_c125 Post x2 t0 M)))) ∧ (¬ (x2 = 0) → (w4_takeSign_c125 Post x2 t0 M))
def w4_takeSign_c115 (Post : MS → Prop) (x2 : Int32) (M : MS) : Prop := w4_takeSign_c116 Post x2 (0 : Int32) M
def w4_takeSign_c95 (Post : MS → Prop) (x1 : Int32) (t0 : Int32) (M : MS) : Prop := ((mi M 9) = (60 : Int32) → ((x1 = (62 : Int32) → (w4_takeSign_c116 Post t0 (1 : Int32) M)) ∧ (¬ (x1 = (62 : Int32)) → (w4_takeSign_c115 Post t0 M)))) ∧ (¬ ((mi M 9) = (60 : Int32)) → (w4_takeSign_c115 Post t0 M))
def w4_takeSign_c94 (Post : MS → Prop) (x1 : Int32) (M : MS) : Prop := w4_takeSign_c95 Post x1 (0 : Int32) M
def w4_takeSign_c74 (Post : MS → Prop) (t0 : Int32) (M : MS) : Prop := ((mi M 9) = (61 : Int32) → (w4_takeSign_c94 Post t0 M)) ∧ (¬ ((mi M 9) = (61 : Int32)) → ((t0 = (61 : Int32) → (w4_takeSign_c95 Post t0 (1 : Int32) M)) ∧ (¬ (t0 = (61 : Int32)) → (w4_takeSign_c94 Post t0 M))))
def w4_takeSign_c50 (Post : MS → Prop) (M : MS) : Prop := ((mi M 6) ≤ (mi M 7) → (w4_takeSign_c74 Post (0 : Int32) M)) ∧ (¬ ((mi M 6) ≤ (mi M 7)) → ((vp_in (mi M 7) (mN 0) ∧ w4_takeSign_c74 Post (ma M 0 (Int32.toNatClampNeg (mi M 7))) M)))
def w4_takeSign_c266 (Post : MS → Prop) (t0 : Int32) (M : MS) : Prop := (t0 = 0 → (∀ M_28 : MS, M_28 = si M 8 (6 : Int32) → Post M_28)) ∧ (¬ (t0 = 0) → (∀ M_29 : MS, M_29 = si M 8 (4 : Int32) → Post M_29))
def w4_takeSign_c261 (Post : MS → Prop) (M : MS) : Prop := w4_takeSign_c266 Post (1 : Int32) M
def w4_takeSign (M : MS) (Post : MS → Prop) : Prop := (vp_in (mi M 7) (mN 0) ∧ ∀ M_1 : MS, M_1 = si M 9 (ma M 0 (Int32.toNatClampNeg (mi M 7))) → ∀ M_2 : MS, M_2 = si M_1 7 ((mi M_1 7) + (1 : Int32)) → ((mi M_2 9) = (60 : Int32) → (w4_takeSign_c50 Post M_2)) ∧ (¬ ((mi M_2 9) = (60 : Int32)) → (((mi M_2 9) = (62 : Int32) → (w4_takeSign_c50 Post M_2)) ∧ (¬ ((mi M_2 9) = (62 : Int32)) → (((mi M_2 9) = (61 : Int32) → (w4_takeSign_c50 Post M_2)) ∧ (¬ ((mi M_2 9) = (61 : Int32)) → (((mi M_2 9) = (59 : Int32) → (w4_takeSign_c261 Post M_2)) ∧ (¬ ((mi M_2 9) = (59 : Int32)) → (((mi M_2 9) = (40 : Int32) → (w4_takeSign_c261 Post M_2)) ∧ (¬ ((mi M_2 9) = (40 : Int32)) → (((mi M_2 9) = (41 : Int32) → (w4_takeSign_c261 Post M_2)) ∧ (¬ ((mi M_2 9) = (41 : Int32)) → (((mi M_2 9) = (43 : Int32) → (w4_takeSign_c261 Post M_2)) ∧ (¬ ((mi M_2 9) = (43 : Int32)) → (((mi M_2 9) = (45 : Int32) → (w4_takeSign_c261 Post M_2)) ∧ (¬ ((mi M_2 9) = (45 : Int32)) → (((mi M_2 9) = (42 : Int32) → (w4_takeSign_c261 Post M_2)) ∧ (¬ ((mi M_2 9) = (42 : Int32)) → (((mi M_2 9) = (47 : Int32) → (w4_takeSign_c261 Post M_2)) ∧ (¬ ((mi M_2 9) = (47 : Int32)) → (w4_takeSign_c266 Post (0 : Int32) M_2)))))))))))))))))))))
abbrev rX4_takeSign : Room := { frames := 0, cells := 0, slots := 0, locals := 0 }
theorem cdX4_takeSign : yX4_takeSign.cls = RX4 ∧ yX4_takeSign.cls ≠ "java/lang/invoke/MethodHandle" ∧ yX4_takeSign.cls ≠ "java/lang/invoke/VarHandle" ∧ (parseMethodDescriptor yX4_takeSign.desc).map (fun d => d.parameters.length) = some 0 := by decide +kernel
set_option maxHeartbeats 4000000 in
set_option maxRecDepth 100000 in
theorem mt4_takeSign (l : Launch) {D : va_G} {cA : Nat → ClassId} {m0 : Nat} {ad : Nat → Nat} (hA : mAd m0 ad) (M : MS) (Post : MS → Prop) (h : w4_takeSign M Post) : Met l yX4_takeSign (ws_ yX4_takeSign cX4_takeSign 4 none) rX4_takeSign (mPc [.ref m0] D cA m0 ad M) (va_Qv Post (mB D cA m0 ad) (mF m0 ad)) 0 0 (mF m0 ad) := by
  refine mst_v (own := RX4) (by decide) rfl (Nat.le_of_ble_eq_true rfl) ?_
  intro p e s m args below meth c Q ls S hK hP hS hl hret
  have hx := S.1
  have hb := S.2.1
  have hl : lv_has ls 4 [(0, .ref m0)] := hl
  have C135 : ∀ (x2 : Int32) (x3 : Int32) (M : MS) (H : Heap) (locs : List Loc) (ls : Array Slot), va_P D vwCl (mo cA m0 ad M) H → va_S (mF m0 ad) s.heap H locs → lv_has ls 4 [(0, .ref m0), (2, .int x2), (3, .int x3)] → w4_takeSign_c135 Post x2 x3 M → W p l e rX4_takeSign s m args below meth c H locs 0 0 Q (F0 m 135 ls []) := by
    intro x2 x3 M H locs ls hP hS hl h
    unfold w4_takeSign_c135 at h
    refine lv_aload_n hx hb dX4_takeSign_135 rfl (lv_at hl 0 rfl) ?_
    refine lv_iconst hx hb dX4_takeSign_136 kc_5 ?_
    refine mp_i S hK hA hP hS (k := 8) (by decide) (Or.inl rfl) rfl (Or.inl ⟨rfl, rfl⟩) q1428 dX4_takeSign_137 (fun M_9 H locs e_M_9 hP hS => ?_)
    replace h := h M_9 e_M_9
    refine lv_aload_n hx hb dX4_takeSign_140 rfl (lv_at hl 0 rfl) ?_
    refine lv_aload_n hx hb dX4_takeSign_141 rfl (lv_at hl 0 rfl) ?_
    refine mg_i S hK hP (k := 9) (by decide) (by decide) q1429 dX4_takeSign_142 ?_
    refine lv_bipush hx hb dX4_takeSign_145 kb_61 ?_
    refine lv_icmp_ne (tgt := 154) hx hb dX4_takeSign_147 (by decide) (fun c_10 => ?_) (fun c_10 => ?_)
    · replace h := h.2 c_10
      refine lv_aload_n hx hb dX4_takeSign_154 rfl (lv_at hl 0 rfl) ?_
      refine mg_i S hK hP (k := 9) (by decide) (by decide) q1429 dX4_takeSign_155 ?_
      refine lv_bipush hx hb dX4_takeSign_158 kb_60 ?_
      refine lv_icmp_ne (tgt := 183) hx hb dX4_takeSign_160 (by decide) (fun c_11 => ?_) (fun c_11 => ?_)
      · replace h := h.2 c_11
        refine lv_iload_n hx hb dX4_takeSign_183 rfl (lv_at hl 1 rfl) ?_
        refine lv_if_eq (tgt := 191) hx hb dX4_takeSign_184 (by decide) (fun c_12 => ?_) (fun c_12 => ?_)
        · replace h := h.1 c_12
          refine lv_iconst hx hb dX4_takeSign_191 kc_5 ?_
          refine mp_i S hK hA hP hS (k := 9) (by decide) (Or.inl rfl) rfl (Or.inl ⟨rfl, rfl⟩) q1429 dX4_takeSign_192 (fun M_13 H locs e_M_13 hP hS => ?_)
          replace h := h M_13 e_M_13
          refine lv_goto (tgt := 281) hx hb dX4_takeSign_195 (by decide) ?_
          exact hret _ _ _ _ _ hP hS h dX4_takeSign_281
        · replace h := h.2 c_12
          refine lv_iconst hx hb dX4_takeSign_187 kc_4 ?_
          refine lv_goto (tgt := 192) hx hb dX4_takeSign_188 (by decide) ?_
          refine mp_i S hK hA hP hS (k := 9) (by decide) (Or.inl rfl) rfl (Or.inl ⟨rfl, rfl⟩) q1429 dX4_takeSign_192 (fun M_14 H locs e_M_14 hP hS => ?_)
          replace h := h M_14 e_M_14
          refine lv_goto (tgt := 281) hx hb dX4_takeSign_195 (by decide) ?_
          exact hret _ _ _ _ _ hP hS h dX4_takeSign_281
      · replace h := h.1 c_11
        refine lv_iload_n hx hb dX4_takeSign_163 rfl (lv_at hl 1 rfl) ?_
        refine lv_if_eq (tgt := 171) hx hb dX4_takeSign_164 (by decide) (fun c_15 => ?_) (fun c_15 => ?_)
        · replace h := h.1 c_15
          refine lv_iload_n hx hb dX4_takeSign_171 rfl (lv_at hl 2 rfl) ?_
          refine lv_if_eq (tgt := 179) hx hb dX4_takeSign_172 (by decide) (fun c_16 => ?_) (fun c_16 => ?_)
          · replace h := h.1 c_16
            refine lv_iconst hx hb dX4_takeSign_179 kc_0 ?_
            refine lv_goto (tgt := 192) hx hb dX4_takeSign_180 (by decide) ?_
            refine mp_i S hK hA hP hS (k := 9) (by decide) (Or.inl rfl) rfl (Or.inl ⟨rfl, rfl⟩) q1429 dX4_takeSign_192 (fun M_17 H locs e_M_17 hP hS => ?_)
            replace h := h M_17 e_M_17
            refine lv_goto (tgt := 281) hx hb dX4_takeSign_195 (by decide) ?_
            exact hret _ _ _ _ _ hP hS h dX4_takeSign_281
          · replace h := h.2 c_16
            refine lv_iconst hx hb dX4_takeSign_175 kc_3 ?_
            refine lv_goto (tgt := 192) hx hb dX4_takeSign_176 (by decide) ?_
            refine mp_i S hK hA hP hS (k := 9) (by decide) (Or.inl rfl) rfl (Or.inl ⟨rfl, rfl⟩) q1429 dX4_takeSign_192 (fun M_18 H locs e_M_18 hP hS => ?_)
            replace h := h M_18 e_M_18
            refine lv_goto (tgt := 281) hx hb dX4_takeSign_195 (by decide) ?_
            exact hret _ _ _ _ _ hP hS h dX4_takeSign_281
        · replace h := h.2 c_15
          refine lv_iconst hx hb dX4_takeSign_167 kc_1 ?_
          refine lv_goto (tgt := 192) hx hb dX4_takeSign_168 (by decide) ?_
          refine mp_i S hK hA hP hS (k := 9) (by decide) (Or.inl rfl) rfl (Or.inl ⟨rfl, rfl⟩) q1429 dX4_takeSign_192 (fun M_19 H locs e_M_19 hP hS => ?_)
          replace h := h M_19 e_M_19
          refine lv_goto (tgt := 281) hx hb dX4_takeSign_195 (by decide) ?_
          exact hret _ _ _ _ _ hP hS h dX4_takeSign_281
    · replace h := h.1 c_10
      refine lv_iconst hx hb dX4_takeSign_150 kc_2 ?_
      refine lv_goto (tgt := 192) hx hb dX4_takeSign_151 (by decide) ?_
      refine mp_i S hK hA hP hS (k := 9) (by decide) (Or.inl rfl) rfl (Or.inl ⟨rfl, rfl⟩) q1429 dX4_takeSign_192 (fun M_20 H locs e_M_20 hP hS => ?_)
      replace h := h M_20 e_M_20
      refine lv_goto (tgt := 281) hx hb dX4_takeSign_195 (by decide) ?_
      exact hret _ _ _ _ _ hP hS h dX4_takeSign_281
  have C125 : ∀ (x2 : Int32) (x3 : Int32) (M : MS) (H : Heap) (locs : List Loc) (ls : Array Slot), va_P D vwCl (mo cA m0 ad M) H → va_S (mF m0 ad) s.heap H locs → lv_has ls 4 [(0, .ref m0), (2, .int x2), (3, .int x3)] → w4_takeSign_c125 Post x2 x3 M → W p l e rX4_takeSign s m args below meth c H locs 0 0 Q (F0 m 125 ls []) := by
    intro x2 x3 M H locs ls hP hS hl h
    unfold w4_takeSign_c125 at h
    refine lv_aload_n hx hb dX4_takeSign_125 rfl (lv_at hl 0 rfl) ?_
    refine lv_dup hx hb dX4_takeSign_126 rfl ?_
    refine mg_i S hK hP (k := 7) (by decide) (by decide) q1427 dX4_takeSign_127 ?_
    refine lv_iconst hx hb dX4_takeSign_130 kc_1 ?_
    refine lv_iadd hx hb dX4_takeSign_131 ?_
    refine mp_i S hK hA hP hS (k := 7) (by decide) (Or.inl rfl) rfl (Or.inl ⟨rfl, rfl⟩) q1427 dX4_takeSign_132 (fun M_8 H locs e_M_8 hP hS => ?_)
    replace h := h M_8 e_M_8
    exact C135 _ _ _ _ _ _ hP hS (lv_sub hl [0, 1, 2] rfl) h
  have C116 : ∀ (x2 : Int32) (t0 : Int32) (M : MS) (H : Heap) (locs : List Loc) (ls : Array Slot), va_P D vwCl (mo cA m0 ad M) H → va_S (mF m0 ad) s.heap H locs → lv_has ls 4 [(0, .ref m0), (2, .int x2)] → w4_takeSign_c116 Post x2 t0 M → W p l e rX4_takeSign s m args below meth c H locs 0 0 Q (F0 m 116 ls [.int t0]) := by
    intro x2 t0 M H locs ls hP hS hl h
    unfold w4_takeSign_c116 at h
    refine lv_istore_n (lv' := [(3, .int t0), (0, .ref m0), (2, .int x2)]) hx hb dX4_takeSign_116 rfl hl (by decide) rfl (fun ls hl => ?_)
    refine lv_iload_n hx hb dX4_takeSign_117 rfl (lv_at hl 2 rfl) ?_
    refine lv_if_ne (tgt := 125) hx hb dX4_takeSign_118 (by decide) (fun c_7 => ?_) (fun c_7 => ?_)
    · replace h := h.2 c_7
      exact C125 _ _ _ _ _ _ hP hS (lv_sub hl [1, 2, 0] rfl) h
    · replace h := h.1 c_7
      refine lv_iload_n hx hb dX4_takeSign_121 rfl (lv_at hl 0 rfl) ?_
      refine lv_if_eq (tgt := 135) hx hb dX4_takeSign_122 (by decide) (fun c_21 => ?_) (fun c_21 => ?_)
      · replace h := h.1 c_21
        exact C135 _ _ _ _ _ _ hP hS (lv_sub hl [1, 2, 0] rfl) h
      · replace h := h.2 c_21
        exact C125 _ _ _ _ _ _ hP hS (lv_sub hl [1, 2, 0] rfl) h
  have C115 : ∀ (x2 : Int32) (M : MS) (H : Heap) (locs : List Loc) (ls : Array Slot), va_P D vwCl (mo cA m0 ad M) H → va_S (mF m0 ad) s.heap H locs → lv_has ls 4 [(0, .ref m0), (2, .int x2)] → w4_takeSign_c115 Post x2 M → W p l e rX4_takeSign s m args below meth c H locs 0 0 Q (F0 m 115 ls []) := by
    intro x2 M H locs ls hP hS hl h
    unfold w4_takeSign_c115 at h
    refine lv_iconst hx hb dX4_takeSign_115 kc_0 ?_
    exact C116 _ _ _ _ _ _ hP hS (lv_sub hl [0, 1] rfl) h
  have C95 : ∀ (x1 : Int32) (t0 : Int32) (M : MS) (H : Heap) (locs : List Loc) (ls : Array Slot), va_P D vwCl (mo cA m0 ad M) H → va_S (mF m0 ad) s.heap H locs → lv_has ls 4 [(0, .ref m0), (1, .int x1)] → w4_takeSign_c95 Post x1 t0 M → W p l e rX4_takeSign s m args below meth c H locs 0 0 Q (F0 m 95 ls [.int t0]) := by
    intro x1 t0 M H locs ls hP hS hl h
    unfold w4_takeSign_c95 at h
    refine lv_istore_n (lv' := [(2, .int t0), (0, .ref m0), (1, .int x1)]) hx hb dX4_takeSign_95 rfl hl (by decide) rfl (fun ls hl => ?_)
    refine lv_aload_n hx hb dX4_takeSign_96 rfl (lv_at hl 1 rfl) ?_
    refine mg_i S hK hP (k := 9) (by decide) (by decide) q1429 dX4_takeSign_97 ?_
    refine lv_bipush hx hb dX4_takeSign_100 kb_60 ?_
    refine lv_icmp_ne (tgt := 115) hx hb dX4_takeSign_102 (by decide) (fun c_6 => ?_) (fun c_6 => ?_)
    · replace h := h.2 c_6
      exact C115 _ _ _ _ _ hP hS (lv_sub hl [1, 0] rfl) h
    · replace h := h.1 c_6
      refine lv_iload_n hx hb dX4_takeSign_105 rfl (lv_at hl 2 rfl) ?_
      refine lv_bipush hx hb dX4_takeSign_106 kb_62 ?_
      refine lv_icmp_ne (tgt := 115) hx hb dX4_takeSign_108 (by decide) (fun c_22 => ?_) (fun c_22 => ?_)
      · replace h := h.2 c_22
        exact C115 _ _ _ _ _ hP hS (lv_sub hl [1, 0] rfl) h
      · replace h := h.1 c_22
        refine lv_iconst hx hb dX4_takeSign_111 kc_1 ?_
        refine lv_goto (tgt := 116) hx hb dX4_takeSign_112 (by decide) ?_
        exact C116 _ _ _ _ _ _ hP hS (lv_sub hl [1, 0] rfl) h
  have C94 : ∀ (x1 : Int32) (M : MS) (H : Heap) (locs : List Loc) (ls : Array Slot), va_P D vwCl (mo cA m0 ad M) H → va_S (mF m0 ad) s.heap H locs → lv_has ls 4 [(0, .ref m0), (1, .int x1)] → w4_takeSign_c94 Post x1 M → W p l e rX4_takeSign s m args below meth c H locs 0 0 Q (F0 m 94 ls []) := by
    intro x1 M H locs ls hP hS hl h
    unfold w4_takeSign_c94 at h
    refine lv_iconst hx hb dX4_takeSign_94 kc_0 ?_
    exact C95 _ _ _ _ _ _ hP hS (lv_sub hl [0, 1] rfl) h
  have C74 : ∀ (t0 : Int32) (M : MS) (H : Heap) (locs : List Loc) (ls : Array Slot), va_P D vwCl (mo cA m0 ad M) H → va_S (mF m0 ad) s.heap H locs → lv_has ls 4 [(0, .ref m0)] → w4_takeSign_c74 Post t0 M → W p l e rX4_takeSign s m args below meth c H locs 0 0 Q (F0 m 74 ls [.int t0]) := by
    intro t0 M H locs ls hP hS hl h
    unfold w4_takeSign_c74 at h
    refine lv_istore_n (lv' := [(1, .int t0), (0, .ref m0)]) hx hb dX4_takeSign_74 rfl hl (by decide) rfl (fun ls hl => ?_)
    refine lv_aload_n hx hb dX4_takeSign_75 rfl (lv_at hl 1 rfl) ?_
    refine mg_i S hK hP (k := 9) (by decide) (by decide) q1429 dX4_takeSign_76 ?_
    refine lv_bipush hx hb dX4_takeSign_79 kb_61 ?_
    refine lv_icmp_eq (tgt := 94) hx hb dX4_takeSign_81 (by decide) (fun c_5 => ?_) (fun c_5 => ?_)
    · replace h := h.1 c_5
      exact C94 _ _ _ _ _ hP hS (lv_sub hl [1, 0] rfl) h
    · replace h := h.2 c_5
      refine lv_iload_n hx hb dX4_takeSign_84 rfl (lv_at hl 0 rfl) ?_
      refine lv_bipush hx hb dX4_takeSign_85 kb_61 ?_
      refine lv_icmp_ne (tgt := 94) hx hb dX4_takeSign_87 (by decide) (fun c_23 => ?_) (fun c_23 => ?_)
      · replace h := h.2 c_23
        exact C94 _ _ _ _ _ hP hS (lv_sub hl [1, 0] rfl) h
      · replace h := h.1 c_23
        refine lv_iconst hx hb dX4_takeSign_90 kc_1 ?_
        refine lv_goto (tgt := 95) hx hb dX4_takeSign_91 (by decide) ?_
        exact C95 _ _ _ _ _ _ hP hS (lv_sub hl [1, 0] rfl) h
  have C50 : ∀ (M : MS) (H : Heap) (locs : List Loc) (ls : Array Slot), va_P D vwCl (mo cA m0 ad M) H → va_S (mF m0 ad) s.heap H locs → lv_has ls 4 [(0, .ref m0)] → w4_takeSign_c50 Post M → W p l e rX4_takeSign s m args below meth c H locs 0 0 Q (F0 m 50 ls []) := by
    intro M H locs ls hP hS hl h
    unfold w4_takeSign_c50 at h
    refine lv_aload_n hx hb dX4_takeSign_50 rfl (lv_at hl 0 rfl) ?_
    refine mg_i S hK hP (k := 7) (by decide) (by decide) q1427 dX4_takeSign_51 ?_
    refine lv_aload_n hx hb dX4_takeSign_54 rfl (lv_at hl 0 rfl) ?_
    refine mg_i S hK hP (k := 6) (by decide) (by decide) q1426 dX4_takeSign_55 ?_
    refine lv_icmp_ge (tgt := 73) hx hb dX4_takeSign_58 (by decide) (fun c_4 => ?_) (fun c_4 => ?_)
    · replace h := h.1 c_4
      refine lv_iconst hx hb dX4_takeSign_73 kc_0 ?_
      exact C74 _ _ _ _ _ hP hS (lv_sub hl [0] rfl) h
    · replace h := h.2 c_4
      refine lv_aload_n hx hb dX4_takeSign_61 rfl (lv_at hl 0 rfl) ?_
      refine mg_r S hK hP (k := 0) (by decide) (by decide) q1420 dX4_takeSign_62 ?_
      refine lv_aload_n hx hb dX4_takeSign_65 rfl (lv_at hl 0 rfl) ?_
      refine mg_i S hK hP (k := 7) (by decide) (by decide) q1427 dX4_takeSign_66 ?_
      obtain ⟨hi, h⟩ := h
      refine ml_a S hK hP (k := 0) af_0 rfl hi dX4_takeSign_69 ?_
      refine lv_goto (tgt := 74) hx hb dX4_takeSign_70 (by decide) ?_
      exact C74 _ _ _ _ _ hP hS (lv_sub hl [0] rfl) h
  have C266 : ∀ (t0 : Int32) (M : MS) (H : Heap) (locs : List Loc) (ls : Array Slot), va_P D vwCl (mo cA m0 ad M) H → va_S (mF m0 ad) s.heap H locs → lv_has ls 4 [(0, .ref m0)] → w4_takeSign_c266 Post t0 M → W p l e rX4_takeSign s m args below meth c H locs 0 0 Q (F0 m 266 ls [.int t0]) := by
    intro t0 M H locs ls hP hS hl h
    unfold w4_takeSign_c266 at h
    refine lv_istore_n (lv' := [(1, .int t0), (0, .ref m0)]) hx hb dX4_takeSign_266 rfl hl (by decide) rfl (fun ls hl => ?_)
    refine lv_aload_n hx hb dX4_takeSign_267 rfl (lv_at hl 1 rfl) ?_
    refine lv_iload_n hx hb dX4_takeSign_268 rfl (lv_at hl 0 rfl) ?_
    refine lv_if_eq (tgt := 276) hx hb dX4_takeSign_269 (by decide) (fun c_27 => ?_) (fun c_27 => ?_)
    · replace h := h.1 c_27
      refine lv_bipush hx hb dX4_takeSign_276 kb_6 ?_
      refine mp_i S hK hA hP hS (k := 8) (by decide) (Or.inl rfl) rfl (Or.inl ⟨rfl, rfl⟩) q1428 dX4_takeSign_278 (fun M_28 H locs e_M_28 hP hS => ?_)
      replace h := h M_28 e_M_28
      exact hret _ _ _ _ _ hP hS h dX4_takeSign_281
    · replace h := h.2 c_27
      refine lv_iconst hx hb dX4_takeSign_272 kc_4 ?_
      refine lv_goto (tgt := 278) hx hb dX4_takeSign_273 (by decide) ?_
      refine mp_i S hK hA hP hS (k := 8) (by decide) (Or.inl rfl) rfl (Or.inl ⟨rfl, rfl⟩) q1428 dX4_takeSign_278 (fun M_29 H locs e_M_29 hP hS => ?_)
      replace h := h M_29 e_M_29
      exact hret _ _ _ _ _ hP hS h dX4_takeSign_281
  have C261 : ∀ (M : MS) (H : Heap) (locs : List Loc) (ls : Array Slot), va_P D vwCl (mo cA m0 ad M) H → va_S (mF m0 ad) s.heap H locs → lv_has ls 4 [(0, .ref m0)] → w4_takeSign_c261 Post M → W p l e rX4_takeSign s m args below meth c H locs 0 0 Q (F0 m 261 ls []) := by
    intro M H locs ls hP hS hl h
    unfold w4_takeSign_c261 at h
    refine lv_iconst hx hb dX4_takeSign_261 kc_1 ?_
    refine lv_goto (tgt := 266) hx hb dX4_takeSign_262 (by decide) ?_
    exact C266 _ _ _ _ _ hP hS (lv_sub hl [0] rfl) h
  unfold w4_takeSign at h
  refine lv_aload_n hx hb dX4_takeSign_0 rfl (lv_at hl 0 rfl) ?_
  refine lv_aload_n hx hb dX4_takeSign_1 rfl (lv_at hl 0 rfl) ?_
  refine mg_r S hK hP (k := 0) (by decide) (by decide) q1420 dX4_takeSign_2 ?_
  refine lv_aload_n hx hb dX4_takeSign_5 rfl (lv_at hl 0 rfl) ?_
  refine mg_i S hK hP (k := 7) (by decide) (by decide) q1427 dX4_takeSign_6 ?_
  obtain ⟨hi, h⟩ := h
  refine ml_a S hK hP (k := 0) af_0 rfl hi dX4_takeSign_9 ?_
  refine mp_i S hK hA hP hS (k := 9) (by decide) (Or.inl rfl) rfl (Or.inl ⟨rfl, rfl⟩) q1429 dX4_takeSign_10 (fun M_1 H locs e_M_1 hP hS => ?_)
  replace h := h M_1 e_M_1
  refine lv_aload_n hx hb dX4_takeSign_13 rfl (lv_at hl 0 rfl) ?_
  refine lv_dup hx hb dX4_takeSign_14 rfl ?_
  refine mg_i S hK hP (k := 7) (by decide) (by decide) q1427 dX4_takeSign_15 ?_
  refine lv_iconst hx hb dX4_takeSign_18 kc_1 ?_
  refine lv_iadd hx hb dX4_takeSign_19 ?_
  refine mp_i S hK hA hP hS (k := 7) (by decide) (Or.inl rfl) rfl (Or.inl ⟨rfl, rfl⟩) q1427 dX4_takeSign_20 (fun M_2 H locs e_M_2 hP hS => ?_)
  replace h := h M_2 e_M_2
  refine lv_aload_n hx hb dX4_takeSign_23 rfl (lv_at hl 0 rfl) ?_
  refine mg_i S hK hP (k := 9) (by decide) (by decide) q1429 dX4_takeSign_24 ?_
  refine lv_bipush hx hb dX4_takeSign_27 kb_60 ?_
  refine lv_icmp_eq (tgt := 50) hx hb dX4_takeSign_29 (by decide) (fun c_3 => ?_) (fun c_3 => ?_)
  · replace h := h.1 c_3
    exact C50 _ _ _ _ hP hS (lv_sub hl [0] rfl) h
  · replace h := h.2 c_3
    refine lv_aload_n hx hb dX4_takeSign_32 rfl (lv_at hl 0 rfl) ?_
    refine mg_i S hK hP (k := 9) (by decide) (by decide) q1429 dX4_takeSign_33 ?_
    refine lv_bipush hx hb dX4_takeSign_36 kb_62 ?_
    refine lv_icmp_eq (tgt := 50) hx hb dX4_takeSign_38 (by decide) (fun c_24 => ?_) (fun c_24 => ?_)
    · replace h := h.1 c_24
      exact C50 _ _ _ _ hP hS (lv_sub hl [0] rfl) h
    · replace h := h.2 c_24
      refine lv_aload_n hx hb dX4_takeSign_41 rfl (lv_at hl 0 rfl) ?_
      refine mg_i S hK hP (k := 9) (by decide) (by decide) q1429 dX4_takeSign_42 ?_
      refine lv_bipush hx hb dX4_takeSign_45 kb_61 ?_
      refine lv_icmp_ne (tgt := 198) hx hb dX4_takeSign_47 (by decide) (fun c_25 => ?_) (fun c_25 => ?_)
      · replace h := h.2 c_25
        refine lv_aload_n hx hb dX4_takeSign_198 rfl (lv_at hl 0 rfl) ?_
        refine mg_i S hK hP (k := 9) (by decide) (by decide) q1429 dX4_takeSign_199 ?_
        refine lv_bipush hx hb dX4_takeSign_202 kb_59 ?_
        refine lv_icmp_eq (tgt := 261) hx hb dX4_takeSign_204 (by decide) (fun c_26 => ?_) (fun c_26 => ?_)
        · replace h := h.1 c_26
          exact C261 _ _ _ _ hP hS (lv_sub hl [0] rfl) h
        · replace h := h.2 c_26
          refine lv_aload_n hx hb dX4_takeSign_207 rfl (lv_at hl 0 rfl) ?_
          refine mg_i S hK hP (k := 9) (by decide) (by decide) q1429 dX4_takeSign_208 ?_
          refine lv_bipush hx hb dX4_takeSign_211 kb_40 ?_
          refine lv_icmp_eq (tgt := 261) hx hb dX4_takeSign_213 (by decide) (fun c_30 => ?_) (fun c_30 => ?_)
          · replace h := h.1 c_30
            exact C261 _ _ _ _ hP hS (lv_sub hl [0] rfl) h
          · replace h := h.2 c_30
            refine lv_aload_n hx hb dX4_takeSign_216 rfl (lv_at hl 0 rfl) ?_
            refine mg_i S hK hP (k := 9) (by decide) (by decide) q1429 dX4_takeSign_217 ?_
            refine lv_bipush hx hb dX4_takeSign_220 kb_41 ?_
            refine lv_icmp_eq (tgt := 261) hx hb dX4_takeSign_222 (by decide) (fun c_31 => ?_) (fun c_31 => ?_)
            · replace h := h.1 c_31
              exact C261 _ _ _ _ hP hS (lv_sub hl [0] rfl) h
            · replace h := h.2 c_31
              refine lv_aload_n hx hb dX4_takeSign_225 rfl (lv_at hl 0 rfl) ?_
              refine mg_i S hK hP (k := 9) (by decide) (by decide) q1429 dX4_takeSign_226 ?_
              refine lv_bipush hx hb dX4_takeSign_229 kb_43 ?_
              refine lv_icmp_eq (tgt := 261) hx hb dX4_takeSign_231 (by decide) (fun c_32 => ?_) (fun c_32 => ?_)
              · replace h := h.1 c_32
                exact C261 _ _ _ _ hP hS (lv_sub hl [0] rfl) h
              · replace h := h.2 c_32
                refine lv_aload_n hx hb dX4_takeSign_234 rfl (lv_at hl 0 rfl) ?_
                refine mg_i S hK hP (k := 9) (by decide) (by decide) q1429 dX4_takeSign_235 ?_
                refine lv_bipush hx hb dX4_takeSign_238 kb_45 ?_
                refine lv_icmp_eq (tgt := 261) hx hb dX4_takeSign_240 (by decide) (fun c_33 => ?_) (fun c_33 => ?_)
                · replace h := h.1 c_33
                  exact C261 _ _ _ _ hP hS (lv_sub hl [0] rfl) h
                · replace h := h.2 c_33
                  refine lv_aload_n hx hb dX4_takeSign_243 rfl (lv_at hl 0 rfl) ?_
                  refine mg_i S hK hP (k := 9) (by decide) (by decide) q1429 dX4_takeSign_244 ?_
                  refine lv_bipush hx hb dX4_takeSign_247 kb_42 ?_
                  refine lv_icmp_eq (tgt := 261) hx hb dX4_takeSign_249 (by decide) (fun c_34 => ?_) (fun c_34 => ?_)
                  · replace h := h.1 c_34
                    exact C261 _ _ _ _ hP hS (lv_sub hl [0] rfl) h
                  · replace h := h.2 c_34
                    refine lv_aload_n hx hb dX4_takeSign_252 rfl (lv_at hl 0 rfl) ?_
                    refine mg_i S hK hP (k := 9) (by decide) (by decide) q1429 dX4_takeSign_253 ?_
                    refine lv_bipush hx hb dX4_takeSign_256 kb_47 ?_
                    refine lv_icmp_ne (tgt := 265) hx hb dX4_takeSign_258 (by decide) (fun c_35 => ?_) (fun c_35 => ?_)
                    · replace h := h.2 c_35
                      refine lv_iconst hx hb dX4_takeSign_265 kc_0 ?_
                      exact C266 _ _ _ _ _ hP hS (lv_sub hl [0] rfl) h
                    · replace h := h.1 c_35
                      exact C261 _ _ _ _ hP hS (lv_sub hl [0] rfl) h
      · replace h := h.1 c_25
        exact C50 _ _ _ _ hP hS (lv_sub hl [0] rfl) h
def w4_take_c262 (k213 : MS → Prop) (Post : MS → Prop) (t0 : Int32) (M : MS) : Prop := ∀ M_17 : MS, M_17 = si M 9 t0 → ∀ M_18 : MS, M_18 = si M_17 7 ((mi M_17 7) + (1 : Int32)) → k213 M_18
def w4_take_l213 (Post : MS → Prop) : Nat → MS → Prop
  | 0, _ => False
  | n + 1, M => w4_isDigit (mi M 7) M (fun r_14 M_13 => (r_14 = 0 → (Post M_13)) ∧ (¬ (r_14 = 0) → (((mi M_13 9) ≤ (999 : Int32) → ((vp_in (mi M_13 7) (mN 0) ∧ w4_take_c262 (w4_take_l213 Post n) Post ((((10 : Int32) * (mi M_13 9)) + (ma M_13 0 (Int32.toNatClampNeg (mi M_13 7)))) - (48 : Int32)) M_13))) ∧ (¬ ((mi M_13 9) ≤ (999 : Int32)) → (w4_take_c262 (w4_take_l213 Post n) Post (mi M_13 9) M_13)))))
def w4_take_c162 (Post : MS → Prop) (t0 : Int32) (M : MS) : Prop := ∀ M_27 : MS, M_27 = si M 8 t0 → ((mi M_27 8) = (2 : Int32) → (w4_packed (mi M_27 10) (mi M_27 7) M_27 (fun r_30 M_29 => ∀ M_31 : MS, M_31 = si M_29 9 r_30 → Post M_31))) ∧ (¬ ((mi M_27 8) = (2 : Int32)) → (Post M_27))
def w4_take_l90 (Post : MS → Prop) : Nat → MS → Prop
  | 0, _ => False
  | n + 1, M => w4_isSmall (mi M 7) M (fun r_20 M_19 => (r_20 = 0 → (w4_wordAt (mi M_19 10) (mi M_19 7) M_19 (fun r_23 M_22 => ∀ M_24 : MS, M_24 = si M_22 9 r_23 → ((mi M_24 9) < 0 → ((((mi M_24 7) - (mi M_24 10)) ≤ (6 : Int32) → (w4_take_c162 Post (2 : Int32) M_24)) ∧ (¬ (((mi M_24 7) - (mi M_24 10)) ≤ (6 : Int32)) → (w4_take_c162 Post (6 : Int32) M_24)))) ∧ (¬ ((mi M_24 9) < 0) → (w4_take_c162 Post (1 : Int32) M_24))))) ∧ (¬ (r_20 = 0) → (∀ M_32 : MS, M_32 = si M_19 7 ((mi M_19 7) + (1 : Int32)) → w4_take_l90 Post n M_32)))
def w4_take_c52 (Post : MS → Prop) (M : MS) : Prop := ∀ M_2 : MS, M_2 = si M 10 (mi M 7) → ((mi M_2 7) = (mi M_2 6) → (∀ M_33 : MS, M_33 = si M_2 8 (0 : Int32) → Post M_33)) ∧ (¬ ((mi M_2 7) = (mi M_2 6)) → (w4_isSmall (mi M_2 7) M_2 (fun r_5 M_4 => (r_5 = 0 → (w4_isDigit (mi M_4 7) M_4 (fun r_8 M_7 => (r_8 = 0 → (w4_takeSign M_7 (fun M_10 => Post M_10))) ∧ (¬ (r_8 = 0) → (∀ M_11 : MS, M_11 = si M_7 8 (3 : Int32) → ∀ M_12 : MS, M_12 = si M_11 9 (0 : Int32) → ∃ f, w4_take_l213 Post f M_12))))) ∧ (¬ (r_5 = 0) → (∃ f, w4_take_l90 Post f M_4)))))
def w4_take_c39 (k0 : MS → Prop) (Post : MS → Prop) (M : MS) : Prop := ∀ M_35 : MS, M_35 = si M 7 ((mi M 7) + (1 : Int32)) → k0 M_35
def w4_take_l0 (Post : MS → Prop) : Nat → MS → Prop
  | 0, _ => False
  | n + 1, M => ((mi M 6) ≤ (mi M 7) → (w4_take_c52 Post M)) ∧ (¬ ((mi M 6) ≤ (mi M 7)) → ((vp_in (mi M 7) (mN 0) ∧ ((ma M 0 (Int32.toNatClampNeg (mi M 7))) = (10 : Int32) → (w4_take_c39 (w4_take_l0 Post n) Post M)) ∧ (¬ ((ma M 0 (Int32.toNatClampNeg (mi M 7))) = (10 : Int32)) → ((vp_in (mi M 7) (mN 0) ∧ ((ma M 0 (Int32.toNatClampNeg (mi M 7))) = (32 : Int32) → (w4_take_c39 (w4_take_l0 Post n) Post M)) ∧ (¬ ((ma M 0 (Int32.toNatClampNeg (mi M 7))) = (32 : Int32)) → (w4_take_c52 Post M))))))))
def w4_take (M : MS) (Post : MS → Prop) : Prop := ∃ f, w4_take_l0 Post f M
abbrev rX4_take : Room := { frames := 1, cells := 0, slots := 0, locals := 27 }
theorem cdX4_take : yX4_take.cls = RX4 ∧ yX4_take.cls ≠ "java/lang/invoke/MethodHandle" ∧ yX4_take.cls ≠ "java/lang/invoke/VarHandle" ∧ (parseMethodDescriptor yX4_take.desc).map (fun d => d.parameters.length) = some 0 := by decide +kernel
set_option maxHeartbeats 4000000 in
set_option maxRecDepth 100000 in
theorem mt4_take (l : Launch) {D : va_G} {cA : Nat → ClassId} {m0 : Nat} {ad : Nat → Nat} (hA : mAd m0 ad) (M : MS) (Post : MS → Prop) (h : w4_take M Post) : Met l yX4_take (ws_ yX4_take cX4_take 1 none) rX4_take (mPc [.ref m0] D cA m0 ad M) (va_Qv Post (mB D cA m0 ad) (mF m0 ad)) 0 0 (mF m0 ad) := by
  refine mst_v (own := RX4) (by decide) rfl (Nat.le_of_ble_eq_true rfl) ?_
  intro p e s m args below meth c Q ls S hK hP hS hl hret
  have hx := S.1
  have hb := S.2.1
  have hl : lv_has ls 1 [(0, .ref m0)] := hl
  have C262 : ∀ (k213 : MS → Prop) (K213 : (∀ (M : MS) (H : Heap) (locs : List Loc) (ls : Array Slot), va_P D vwCl (mo cA m0 ad M) H → va_S (mF m0 ad) s.heap H locs → lv_has ls 1 [(0, .ref m0)] → k213 M → W p l e rX4_take s m args below meth c H locs 0 0 Q (F0 m 213 ls []))), ∀ (t0 : Int32) (M : MS) (H : Heap) (locs : List Loc) (ls : Array Slot), va_P D vwCl (mo cA m0 ad M) H → va_S (mF m0 ad) s.heap H locs → lv_has ls 1 [(0, .ref m0)] → w4_take_c262 k213 Post t0 M → W p l e rX4_take s m args below meth c H locs 0 0 Q (F0 m 262 ls [.int t0, .ref m0]) := by
    intro k213 K213
    intro t0 M H locs ls hP hS hl h
    unfold w4_take_c262 at h
    refine mp_i S hK hA hP hS (k := 9) (by decide) (Or.inl rfl) rfl (Or.inl ⟨rfl, rfl⟩) q1429 dX4_take_262 (fun M_17 H locs e_M_17 hP hS => ?_)
    replace h := h M_17 e_M_17
    refine lv_aload_n hx hb dX4_take_265 rfl (lv_at hl 0 rfl) ?_
    refine lv_dup hx hb dX4_take_266 rfl ?_
    refine mg_i S hK hP (k := 7) (by decide) (by decide) q1427 dX4_take_267 ?_
    refine lv_iconst hx hb dX4_take_270 kc_1 ?_
    refine lv_iadd hx hb dX4_take_271 ?_
    refine mp_i S hK hA hP hS (k := 7) (by decide) (Or.inl rfl) rfl (Or.inl ⟨rfl, rfl⟩) q1427 dX4_take_272 (fun M_18 H locs e_M_18 hP hS => ?_)
    replace h := h M_18 e_M_18
    refine lv_goto (tgt := 213) hx hb dX4_take_275 (by decide) ?_
    exact K213 _ _ _ _ hP hS (lv_sub hl [0] rfl) h
  have L213 : ∀ (n : Nat) (M : MS) (H : Heap) (locs : List Loc) (ls : Array Slot), va_P D vwCl (mo cA m0 ad M) H → va_S (mF m0 ad) s.heap H locs → lv_has ls 1 [(0, .ref m0)] → w4_take_l213 Post n M → W p l e rX4_take s m args below meth c H locs 0 0 Q (F0 m 213 ls []) := by
    intro n
    induction n with
    | zero => intro M H locs ls hP hS hl h; rw [w4_take_l213] at h; exact h.elim
    | succ n ih =>
      intro M H locs ls hP hS hl h
      rw [w4_take_l213] at h
      refine lv_aload_n hx hb dX4_take_213 rfl (lv_at hl 0 rfl) ?_
      refine lv_aload_n hx hb dX4_take_214 rfl (lv_at hl 0 rfl) ?_
      refine mg_i S hK hP (k := 7) (by decide) (by decide) q1427 dX4_take_215 ?_
      refine mc_i S hK hP hS (As := [.int (mi M 7)]) (rest := []) (mt4_isDigit l hA (mi M 7) M _ h) (cwV 1 S.2.2.2.2 (lw_V q1648 q1650 qs69 q145 q1651) rfl rfl rfl cdX4_isDigit ⟨Nat.le_of_ble_eq_true rfl, Nat.le_of_ble_eq_true rfl⟩) rfl rfl hl.1 (Nat.le_of_ble_eq_true rfl) dX4_take_218 ⟨Nat.le_refl _, Nat.le_refl _⟩ (fun r_14 M_13 H locs h hP hS => ?_)
      refine lv_if_eq (tgt := 282) hx hb dX4_take_221 (by decide) (fun c_15 => ?_) (fun c_15 => ?_)
      · replace h := h.1 c_15
        exact hret _ _ _ _ _ hP hS h dX4_take_282
      · replace h := h.2 c_15
        refine lv_aload_n hx hb dX4_take_224 rfl (lv_at hl 0 rfl) ?_
        refine lv_aload_n hx hb dX4_take_225 rfl (lv_at hl 0 rfl) ?_
        refine mg_i S hK hP (k := 9) (by decide) (by decide) q1429 dX4_take_226 ?_
        refine lv_sipush hx hb dX4_take_229 ks_999 ?_
        refine lv_icmp_le (tgt := 242) hx hb dX4_take_232 (by decide) (fun c_16 => ?_) (fun c_16 => ?_)
        · replace h := h.1 c_16
          refine lv_bipush hx hb dX4_take_242 kb_10 ?_
          refine lv_aload_n hx hb dX4_take_244 rfl (lv_at hl 0 rfl) ?_
          refine mg_i S hK hP (k := 9) (by decide) (by decide) q1429 dX4_take_245 ?_
          refine lv_imul hx hb dX4_take_248 ?_
          refine lv_aload_n hx hb dX4_take_249 rfl (lv_at hl 0 rfl) ?_
          refine mg_r S hK hP (k := 0) (by decide) (by decide) q1420 dX4_take_250 ?_
          refine lv_aload_n hx hb dX4_take_253 rfl (lv_at hl 0 rfl) ?_
          refine mg_i S hK hP (k := 7) (by decide) (by decide) q1427 dX4_take_254 ?_
          obtain ⟨hi, h⟩ := h
          refine ml_a S hK hP (k := 0) af_0 rfl hi dX4_take_257 ?_
          refine lv_iadd hx hb dX4_take_258 ?_
          refine lv_bipush hx hb dX4_take_259 kb_48 ?_
          refine lv_isub hx hb dX4_take_261 ?_
          exact C262 _ ih _ _ _ _ _ hP hS (lv_sub hl [0] rfl) h
        · replace h := h.2 c_16
          refine lv_aload_n hx hb dX4_take_235 rfl (lv_at hl 0 rfl) ?_
          refine mg_i S hK hP (k := 9) (by decide) (by decide) q1429 dX4_take_236 ?_
          refine lv_goto (tgt := 262) hx hb dX4_take_239 (by decide) ?_
          exact C262 _ ih _ _ _ _ _ hP hS (lv_sub hl [0] rfl) h
  have C162 : ∀ (t0 : Int32) (M : MS) (H : Heap) (locs : List Loc) (ls : Array Slot), va_P D vwCl (mo cA m0 ad M) H → va_S (mF m0 ad) s.heap H locs → lv_has ls 1 [(0, .ref m0)] → w4_take_c162 Post t0 M → W p l e rX4_take s m args below meth c H locs 0 0 Q (F0 m 162 ls [.int t0, .ref m0]) := by
    intro t0 M H locs ls hP hS hl h
    unfold w4_take_c162 at h
    refine mp_i S hK hA hP hS (k := 8) (by decide) (Or.inl rfl) rfl (Or.inl ⟨rfl, rfl⟩) q1428 dX4_take_162 (fun M_27 H locs e_M_27 hP hS => ?_)
    replace h := h M_27 e_M_27
    refine lv_aload_n hx hb dX4_take_165 rfl (lv_at hl 0 rfl) ?_
    refine mg_i S hK hP (k := 8) (by decide) (by decide) q1428 dX4_take_166 ?_
    refine lv_iconst hx hb dX4_take_169 kc_2 ?_
    refine lv_icmp_ne (tgt := 282) hx hb dX4_take_170 (by decide) (fun c_28 => ?_) (fun c_28 => ?_)
    · replace h := h.2 c_28
      exact hret _ _ _ _ _ hP hS h dX4_take_282
    · replace h := h.1 c_28
      refine lv_aload_n hx hb dX4_take_173 rfl (lv_at hl 0 rfl) ?_
      refine lv_aload_n hx hb dX4_take_174 rfl (lv_at hl 0 rfl) ?_
      refine lv_aload_n hx hb dX4_take_175 rfl (lv_at hl 0 rfl) ?_
      refine mg_i S hK hP (k := 10) (by decide) (by decide) q1430 dX4_take_176 ?_
      refine lv_aload_n hx hb dX4_take_179 rfl (lv_at hl 0 rfl) ?_
      refine mg_i S hK hP (k := 7) (by decide) (by decide) q1427 dX4_take_180 ?_
      refine mc_i S hK hP hS (As := [.int (mi M_27 10), .int (mi M_27 7)]) (rest := [.ref m0]) (mt4_packed l hA (mi M_27 10) (mi M_27 7) M_27 _ h) (cwV 2 S.2.2.2.2 (lw_V q1644 q1646 qs68 q145 q1647) rfl rfl rfl cdX4_packed ⟨Nat.le_of_ble_eq_true rfl, Nat.le_of_ble_eq_true rfl⟩) rfl rfl hl.1 (Nat.le_of_ble_eq_true rfl) dX4_take_183 ⟨Nat.le_refl _, Nat.le_refl _⟩ (fun r_30 M_29 H locs h hP hS => ?_)
      refine mp_i S hK hA hP hS (k := 9) (by decide) (Or.inl rfl) rfl (Or.inl ⟨rfl, rfl⟩) q1429 dX4_take_186 (fun M_31 H locs e_M_31 hP hS => ?_)
      replace h := h M_31 e_M_31
      refine lv_goto (tgt := 282) hx hb dX4_take_189 (by decide) ?_
      exact hret _ _ _ _ _ hP hS h dX4_take_282
  have L90 : ∀ (n : Nat) (M : MS) (H : Heap) (locs : List Loc) (ls : Array Slot), va_P D vwCl (mo cA m0 ad M) H → va_S (mF m0 ad) s.heap H locs → lv_has ls 1 [(0, .ref m0)] → w4_take_l90 Post n M → W p l e rX4_take s m args below meth c H locs 0 0 Q (F0 m 90 ls []) := by
    intro n
    induction n with
    | zero => intro M H locs ls hP hS hl h; rw [w4_take_l90] at h; exact h.elim
    | succ n ih =>
      intro M H locs ls hP hS hl h
      rw [w4_take_l90] at h
      refine lv_aload_n hx hb dX4_take_90 rfl (lv_at hl 0 rfl) ?_
      refine lv_aload_n hx hb dX4_take_91 rfl (lv_at hl 0 rfl) ?_
      refine mg_i S hK hP (k := 7) (by decide) (by decide) q1427 dX4_take_92 ?_
      refine mc_i S hK hP hS (As := [.int (mi M 7)]) (rest := []) (mt4_isSmall l hA (mi M 7) M _ h) (cwV 1 S.2.2.2.2 (lw_V q1636 q1638 qs66 q145 q1639) rfl rfl rfl cdX4_isSmall ⟨Nat.le_of_ble_eq_true rfl, Nat.le_of_ble_eq_true rfl⟩) rfl rfl hl.1 (Nat.le_of_ble_eq_true rfl) dX4_take_95 ⟨Nat.le_refl _, Nat.le_refl _⟩ (fun r_20 M_19 H locs h hP hS => ?_)
      refine lv_if_eq (tgt := 114) hx hb dX4_take_98 (by decide) (fun c_21 => ?_) (fun c_21 => ?_)
      · replace h := h.1 c_21
        refine lv_aload_n hx hb dX4_take_114 rfl (lv_at hl 0 rfl) ?_
        refine lv_aload_n hx hb dX4_take_115 rfl (lv_at hl 0 rfl) ?_
        refine lv_aload_n hx hb dX4_take_116 rfl (lv_at hl 0 rfl) ?_
        refine mg_i S hK hP (k := 10) (by decide) (by decide) q1430 dX4_take_117 ?_
        refine lv_aload_n hx hb dX4_take_120 rfl (lv_at hl 0 rfl) ?_
        refine mg_i S hK hP (k := 7) (by decide) (by decide) q1427 dX4_take_121 ?_
        refine mc_i S hK hP hS (As := [.int (mi M_19 10), .int (mi M_19 7)]) (rest := [.ref m0]) (mt4_wordAt l hA (mi M_19 10) (mi M_19 7) M_19 _ h) (cwV 2 S.2.2.2.2 (lw_V q1640 q1642 qs67 q145 q1643) rfl rfl rfl cdX4_wordAt ⟨Nat.le_of_ble_eq_true rfl, Nat.le_of_ble_eq_true rfl⟩) rfl rfl hl.1 (Nat.le_of_ble_eq_true rfl) dX4_take_124 ⟨Nat.le_refl _, Nat.le_refl _⟩ (fun r_23 M_22 H locs h hP hS => ?_)
        refine mp_i S hK hA hP hS (k := 9) (by decide) (Or.inl rfl) rfl (Or.inl ⟨rfl, rfl⟩) q1429 dX4_take_127 (fun M_24 H locs e_M_24 hP hS => ?_)
        replace h := h M_24 e_M_24
        refine lv_aload_n hx hb dX4_take_130 rfl (lv_at hl 0 rfl) ?_
        refine lv_aload_n hx hb dX4_take_131 rfl (lv_at hl 0 rfl) ?_
        refine mg_i S hK hP (k := 9) (by decide) (by decide) q1429 dX4_take_132 ?_
        refine lv_if_lt (tgt := 142) hx hb dX4_take_135 (by decide) (fun c_25 => ?_) (fun c_25 => ?_)
        · replace h := h.1 c_25
          refine lv_aload_n hx hb dX4_take_142 rfl (lv_at hl 0 rfl) ?_
          refine mg_i S hK hP (k := 7) (by decide) (by decide) q1427 dX4_take_143 ?_
          refine lv_aload_n hx hb dX4_take_146 rfl (lv_at hl 0 rfl) ?_
          refine mg_i S hK hP (k := 10) (by decide) (by decide) q1430 dX4_take_147 ?_
          refine lv_isub hx hb dX4_take_150 ?_
          refine lv_bipush hx hb dX4_take_151 kb_6 ?_
          refine lv_icmp_le (tgt := 161) hx hb dX4_take_153 (by decide) (fun c_26 => ?_) (fun c_26 => ?_)
          · replace h := h.1 c_26
            refine lv_iconst hx hb dX4_take_161 kc_2 ?_
            exact C162 _ _ _ _ _ hP hS (lv_sub hl [0] rfl) h
          · replace h := h.2 c_26
            refine lv_bipush hx hb dX4_take_156 kb_6 ?_
            refine lv_goto (tgt := 162) hx hb dX4_take_158 (by decide) ?_
            exact C162 _ _ _ _ _ hP hS (lv_sub hl [0] rfl) h
        · replace h := h.2 c_25
          refine lv_iconst hx hb dX4_take_138 kc_1 ?_
          refine lv_goto (tgt := 162) hx hb dX4_take_139 (by decide) ?_
          exact C162 _ _ _ _ _ hP hS (lv_sub hl [0] rfl) h
      · replace h := h.2 c_21
        refine lv_aload_n hx hb dX4_take_101 rfl (lv_at hl 0 rfl) ?_
        refine lv_dup hx hb dX4_take_102 rfl ?_
        refine mg_i S hK hP (k := 7) (by decide) (by decide) q1427 dX4_take_103 ?_
        refine lv_iconst hx hb dX4_take_106 kc_1 ?_
        refine lv_iadd hx hb dX4_take_107 ?_
        refine mp_i S hK hA hP hS (k := 7) (by decide) (Or.inl rfl) rfl (Or.inl ⟨rfl, rfl⟩) q1427 dX4_take_108 (fun M_32 H locs e_M_32 hP hS => ?_)
        replace h := h M_32 e_M_32
        refine lv_goto (tgt := 90) hx hb dX4_take_111 (by decide) ?_
        exact ih _ _ _ _ hP hS (lv_sub hl [0] rfl) h
  have C52 : ∀ (M : MS) (H : Heap) (locs : List Loc) (ls : Array Slot), va_P D vwCl (mo cA m0 ad M) H → va_S (mF m0 ad) s.heap H locs → lv_has ls 1 [(0, .ref m0)] → w4_take_c52 Post M → W p l e rX4_take s m args below meth c H locs 0 0 Q (F0 m 52 ls []) := by
    intro M H locs ls hP hS hl h
    unfold w4_take_c52 at h
    refine lv_aload_n hx hb dX4_take_52 rfl (lv_at hl 0 rfl) ?_
    refine lv_aload_n hx hb dX4_take_53 rfl (lv_at hl 0 rfl) ?_
    refine mg_i S hK hP (k := 7) (by decide) (by decide) q1427 dX4_take_54 ?_
    refine mp_i S hK hA hP hS (k := 10) (by decide) (Or.inl rfl) rfl (Or.inl ⟨rfl, rfl⟩) q1430 dX4_take_57 (fun M_2 H locs e_M_2 hP hS => ?_)
    replace h := h M_2 e_M_2
    refine lv_aload_n hx hb dX4_take_60 rfl (lv_at hl 0 rfl) ?_
    refine mg_i S hK hP (k := 7) (by decide) (by decide) q1427 dX4_take_61 ?_
    refine lv_aload_n hx hb dX4_take_64 rfl (lv_at hl 0 rfl) ?_
    refine mg_i S hK hP (k := 6) (by decide) (by decide) q1426 dX4_take_65 ?_
    refine lv_icmp_ne (tgt := 79) hx hb dX4_take_68 (by decide) (fun c_3 => ?_) (fun c_3 => ?_)
    · replace h := h.2 c_3
      refine lv_aload_n hx hb dX4_take_79 rfl (lv_at hl 0 rfl) ?_
      refine lv_aload_n hx hb dX4_take_80 rfl (lv_at hl 0 rfl) ?_
      refine mg_i S hK hP (k := 7) (by decide) (by decide) q1427 dX4_take_81 ?_
      refine mc_i S hK hP hS (As := [.int (mi M_2 7)]) (rest := []) (mt4_isSmall l hA (mi M_2 7) M_2 _ h) (cwV 1 S.2.2.2.2 (lw_V q1636 q1638 qs66 q145 q1639) rfl rfl rfl cdX4_isSmall ⟨Nat.le_of_ble_eq_true rfl, Nat.le_of_ble_eq_true rfl⟩) rfl rfl hl.1 (Nat.le_of_ble_eq_true rfl) dX4_take_84 ⟨Nat.le_refl _, Nat.le_refl _⟩ (fun r_5 M_4 H locs h hP hS => ?_)
      refine lv_if_eq (tgt := 192) hx hb dX4_take_87 (by decide) (fun c_6 => ?_) (fun c_6 => ?_)
      · replace h := h.1 c_6
        refine lv_aload_n hx hb dX4_take_192 rfl (lv_at hl 0 rfl) ?_
        refine lv_aload_n hx hb dX4_take_193 rfl (lv_at hl 0 rfl) ?_
        refine mg_i S hK hP (k := 7) (by decide) (by decide) q1427 dX4_take_194 ?_
        refine mc_i S hK hP hS (As := [.int (mi M_4 7)]) (rest := []) (mt4_isDigit l hA (mi M_4 7) M_4 _ h) (cwV 1 S.2.2.2.2 (lw_V q1648 q1650 qs69 q145 q1651) rfl rfl rfl cdX4_isDigit ⟨Nat.le_of_ble_eq_true rfl, Nat.le_of_ble_eq_true rfl⟩) rfl rfl hl.1 (Nat.le_of_ble_eq_true rfl) dX4_take_197 ⟨Nat.le_refl _, Nat.le_refl _⟩ (fun r_8 M_7 H locs h hP hS => ?_)
        refine lv_if_eq (tgt := 278) hx hb dX4_take_200 (by decide) (fun c_9 => ?_) (fun c_9 => ?_)
        · replace h := h.1 c_9
          refine lv_aload_n hx hb dX4_take_278 rfl (lv_at hl 0 rfl) ?_
          refine mc_v S hK hP hS (As := []) (rest := []) (mt4_takeSign l hA M_7 _ h) (cwV 0 S.2.2.2.2 (lw_V q1652 q1654 qs70 q145 q1655) rfl rfl rfl cdX4_takeSign ⟨Nat.le_of_ble_eq_true rfl, Nat.le_of_ble_eq_true rfl⟩) rfl rfl hl.1 (Nat.le_of_ble_eq_true rfl) dX4_take_279 ⟨Nat.le_refl _, Nat.le_refl _⟩ (fun M_10 H locs h hP hS => ?_)
          exact hret _ _ _ _ _ hP hS h dX4_take_282
        · replace h := h.2 c_9
          refine lv_aload_n hx hb dX4_take_203 rfl (lv_at hl 0 rfl) ?_
          refine lv_iconst hx hb dX4_take_204 kc_3 ?_
          refine mp_i S hK hA hP hS (k := 8) (by decide) (Or.inl rfl) rfl (Or.inl ⟨rfl, rfl⟩) q1428 dX4_take_205 (fun M_11 H locs e_M_11 hP hS => ?_)
          replace h := h M_11 e_M_11
          refine lv_aload_n hx hb dX4_take_208 rfl (lv_at hl 0 rfl) ?_
          refine lv_iconst hx hb dX4_take_209 kc_0 ?_
          refine mp_i S hK hA hP hS (k := 9) (by decide) (Or.inl rfl) rfl (Or.inl ⟨rfl, rfl⟩) q1429 dX4_take_210 (fun M_12 H locs e_M_12 hP hS => ?_)
          replace h := h M_12 e_M_12
          obtain ⟨f, h⟩ := h
          exact L213 f _ _ _ _ hP hS (lv_sub hl [0] rfl) h
      · replace h := h.2 c_6
        obtain ⟨f, h⟩ := h
        exact L90 f _ _ _ _ hP hS (lv_sub hl [0] rfl) h
    · replace h := h.1 c_3
      refine lv_aload_n hx hb dX4_take_71 rfl (lv_at hl 0 rfl) ?_
      refine lv_iconst hx hb dX4_take_72 kc_0 ?_
      refine mp_i S hK hA hP hS (k := 8) (by decide) (Or.inl rfl) rfl (Or.inl ⟨rfl, rfl⟩) q1428 dX4_take_73 (fun M_33 H locs e_M_33 hP hS => ?_)
      replace h := h M_33 e_M_33
      refine lv_goto (tgt := 282) hx hb dX4_take_76 (by decide) ?_
      exact hret _ _ _ _ _ hP hS h dX4_take_282
  have C39 : ∀ (k0 : MS → Prop) (K0 : (∀ (M : MS) (H : Heap) (locs : List Loc) (ls : Array Slot), va_P D vwCl (mo cA m0 ad M) H → va_S (mF m0 ad) s.heap H locs → lv_has ls 1 [(0, .ref m0)] → k0 M → W p l e rX4_take s m args below meth c H locs 0 0 Q (F0 m 0 ls []))), ∀ (M : MS) (H : Heap) (locs : List Loc) (ls : Array Slot), va_P D vwCl (mo cA m0 ad M) H → va_S (mF m0 ad) s.heap H locs → lv_has ls 1 [(0, .ref m0)] → w4_take_c39 k0 Post M → W p l e rX4_take s m args below meth c H locs 0 0 Q (F0 m 39 ls []) := by
    intro k0 K0
    intro M H locs ls hP hS hl h
    unfold w4_take_c39 at h
    refine lv_aload_n hx hb dX4_take_39 rfl (lv_at hl 0 rfl) ?_
    refine lv_dup hx hb dX4_take_40 rfl ?_
    refine mg_i S hK hP (k := 7) (by decide) (by decide) q1427 dX4_take_41 ?_
    refine lv_iconst hx hb dX4_take_44 kc_1 ?_
    refine lv_iadd hx hb dX4_take_45 ?_
    refine mp_i S hK hA hP hS (k := 7) (by decide) (Or.inl rfl) rfl (Or.inl ⟨rfl, rfl⟩) q1427 dX4_take_46 (fun M_35 H locs e_M_35 hP hS => ?_)
    replace h := h M_35 e_M_35
    refine lv_goto (tgt := 0) hx hb dX4_take_49 (by decide) ?_
    exact K0 _ _ _ _ hP hS (lv_sub hl [0] rfl) h
  have L0 : ∀ (n : Nat) (M : MS) (H : Heap) (locs : List Loc) (ls : Array Slot), va_P D vwCl (mo cA m0 ad M) H → va_S (mF m0 ad) s.heap H locs → lv_has ls 1 [(0, .ref m0)] → w4_take_l0 Post n M → W p l e rX4_take s m args below meth c H locs 0 0 Q (F0 m 0 ls []) := by
    intro n
    induction n with
    | zero => intro M H locs ls hP hS hl h; rw [w4_take_l0] at h; exact h.elim
    | succ n ih =>
      intro M H locs ls hP hS hl h
      rw [w4_take_l0] at h
      refine lv_aload_n hx hb dX4_take_0 rfl (lv_at hl 0 rfl) ?_
      refine mg_i S hK hP (k := 7) (by decide) (by decide) q1427 dX4_take_1 ?_
      refine lv_aload_n hx hb dX4_take_4 rfl (lv_at hl 0 rfl) ?_
      refine mg_i S hK hP (k := 6) (by decide) (by decide) q1426 dX4_take_5 ?_
      refine lv_icmp_ge (tgt := 52) hx hb dX4_take_8 (by decide) (fun c_1 => ?_) (fun c_1 => ?_)
      · replace h := h.1 c_1
        exact C52 _ _ _ _ hP hS (lv_sub hl [0] rfl) h
      · replace h := h.2 c_1
        refine lv_aload_n hx hb dX4_take_11 rfl (lv_at hl 0 rfl) ?_
        refine mg_r S hK hP (k := 0) (by decide) (by decide) q1420 dX4_take_12 ?_
        refine lv_aload_n hx hb dX4_take_15 rfl (lv_at hl 0 rfl) ?_
        refine mg_i S hK hP (k := 7) (by decide) (by decide) q1427 dX4_take_16 ?_
        obtain ⟨hi, h⟩ := h
        refine ml_a S hK hP (k := 0) af_0 rfl hi dX4_take_19 ?_
        refine lv_bipush hx hb dX4_take_20 kb_10 ?_
        refine lv_icmp_eq (tgt := 39) hx hb dX4_take_22 (by decide) (fun c_34 => ?_) (fun c_34 => ?_)
        · replace h := h.1 c_34
          exact C39 _ ih _ _ _ _ hP hS (lv_sub hl [0] rfl) h
        · replace h := h.2 c_34
          refine lv_aload_n hx hb dX4_take_25 rfl (lv_at hl 0 rfl) ?_
          refine mg_r S hK hP (k := 0) (by decide) (by decide) q1420 dX4_take_26 ?_
          refine lv_aload_n hx hb dX4_take_29 rfl (lv_at hl 0 rfl) ?_
          refine mg_i S hK hP (k := 7) (by decide) (by decide) q1427 dX4_take_30 ?_
          obtain ⟨hi, h⟩ := h
          refine ml_a S hK hP (k := 0) af_0 rfl hi dX4_take_33 ?_
          refine lv_bipush hx hb dX4_take_34 kb_32 ?_
          refine lv_icmp_ne (tgt := 52) hx hb dX4_take_36 (by decide) (fun c_36 => ?_) (fun c_36 => ?_)
          · replace h := h.2 c_36
            exact C52 _ _ _ _ hP hS (lv_sub hl [0] rfl) h
          · replace h := h.1 c_36
            exact C39 _ ih _ _ _ _ hP hS (lv_sub hl [0] rfl) h
  unfold w4_take at h
  obtain ⟨f, h⟩ := h
  exact L0 f _ _ _ _ hP hS (lv_sub hl [0] rfl) h
def w4_wrong (a1 : Int32) (M : MS) (Post : Int32 → MS → Prop) : Prop := ∀ M_1 : MS, M_1 = si M 4 a1 → ∀ M_2 : MS, M_2 = si M_1 5 (mi M_1 10) → Post (0 : Int32) M_2
abbrev rX4_wrong : Room := { frames := 0, cells := 0, slots := 0, locals := 0 }
theorem cdX4_wrong : yX4_wrong.cls = RX4 ∧ yX4_wrong.cls ≠ "java/lang/invoke/MethodHandle" ∧ yX4_wrong.cls ≠ "java/lang/invoke/VarHandle" ∧ (parseMethodDescriptor yX4_wrong.desc).map (fun d => d.parameters.length) = some 1 := by decide +kernel
set_option maxHeartbeats 4000000 in
set_option maxRecDepth 100000 in
theorem mt4_wrong (l : Launch) {D : va_G} {cA : Nat → ClassId} {m0 : Nat} {ad : Nat → Nat} (hA : mAd m0 ad) (a1 : Int32) (M : MS) (Post : Int32 → MS → Prop) (h : w4_wrong a1 M Post) : Met l yX4_wrong (ws_ yX4_wrong cX4_wrong 2 (some .boolean)) rX4_wrong (mPc [.ref m0, .int a1] D cA m0 ad M) (va_Qi Post (mB D cA m0 ad) (mF m0 ad)) 0 0 (mF m0 ad) := by
  refine mst_i (own := RX4) (by decide) rfl (Nat.le_of_ble_eq_true rfl) ?_
  intro p e s m args below meth c Q ls S hK hP hS hl hret
  have hx := S.1
  have hb := S.2.1
  have hl : lv_has ls 2 [(0, .ref m0), (1, .int a1)] := hl
  unfold w4_wrong at h
  refine lv_aload_n hx hb dX4_wrong_0 rfl (lv_at hl 0 rfl) ?_
  refine lv_iload_n hx hb dX4_wrong_1 rfl (lv_at hl 1 rfl) ?_
  refine mp_i S hK hA hP hS (k := 4) (by decide) (Or.inl rfl) rfl (Or.inl ⟨rfl, rfl⟩) q1424 dX4_wrong_2 (fun M_1 H locs e_M_1 hP hS => ?_)
  replace h := h M_1 e_M_1
  refine lv_aload_n hx hb dX4_wrong_5 rfl (lv_at hl 0 rfl) ?_
  refine lv_aload_n hx hb dX4_wrong_6 rfl (lv_at hl 0 rfl) ?_
  refine mg_i S hK hP (k := 10) (by decide) (by decide) q1430 dX4_wrong_7 ?_
  refine mp_i S hK hA hP hS (k := 5) (by decide) (Or.inl rfl) rfl (Or.inl ⟨rfl, rfl⟩) q1425 dX4_wrong_10 (fun M_2 H locs e_M_2 hP hS => ?_)
  replace h := h M_2 e_M_2
  refine lv_iconst hx hb dX4_wrong_13 kc_0 ?_
  exact hret _ _ _ _ _ _ hP hS h (vz_nar vz_0) dX4_wrong_14
def w4_find_l3 (a1 : Nat) (a2 : Int32) (a3 : Int32) (a4 : Int32) (Post : Int32 → MS → Prop) : Nat → Int32 → MS → Prop
  | 0, _, _ => False
  | n + 1, x5, M => (a3 ≤ x5 → (Post (-1 : Int32) M)) ∧ (¬ (a3 ≤ x5) → ((vp_in (a2 + x5) (mN a1) ∧ ((ma M a1 (Int32.toNatClampNeg (a2 + x5))) = a4 → (Post x5 M)) ∧ (¬ ((ma M a1 (Int32.toNatClampNeg (a2 + x5))) = a4) → (∀ v_3 : Int32, v_3 = x5 + (1 : Int32) → w4_find_l3 a1 a2 a3 a4 Post n v_3 M)))))
def w4_find (a1 : Nat) (a2 : Int32) (a3 : Int32) (a4 : Int32) (M : MS) (Post : Int32 → MS → Prop) : Prop := ∃ f, w4_find_l3 a1 a2 a3 a4 Post f (0 : Int32) M
abbrev rX4_find : Room := { frames := 0, cells := 0, slots := 0, locals := 0 }
theorem cdX4_find : yX4_find.cls = RX4 ∧ yX4_find.cls ≠ "java/lang/invoke/MethodHandle" ∧ yX4_find.cls ≠ "java/lang/invoke/VarHandle" ∧ (parseMethodDescriptor yX4_find.desc).map (fun d => d.parameters.length) = some 4 := by decide +kernel
set_option maxHeartbeats 4000000 in
set_option maxRecDepth 100000 in
theorem mt4_find (l : Launch) {D : va_G} {cA : Nat → ClassId} {m0 : Nat} {ad : Nat → Nat} (hA : mAd m0 ad) (a1 : Nat) (a2 : Int32) (a3 : Int32) (a4 : Int32) (ha1 : a1 ∈ mAF) (ga1 : mK a1 = 3) (M : MS) (Post : Int32 → MS → Prop) (h : w4_find a1 a2 a3 a4 M Post) : Met l yX4_find (ws_ yX4_find cX4_find 6 (some .int)) rX4_find (mPc [.ref m0, .ref (ad a1), .int a2, .int a3, .int a4] D cA m0 ad M) (va_Qi Post (mB D cA m0 ad) (mF m0 ad)) 0 0 (mF m0 ad) := by
  refine mst_i (own := RX4) (by decide) rfl (Nat.le_of_ble_eq_true rfl) ?_
  intro p e s m args below meth c Q ls S hK hP hS hl hret
  have hx := S.1
  have hb := S.2.1
  have hl : lv_has ls 6 [(0, .ref m0), (1, .ref (ad a1)), (2, .int a2), (3, .int a3), (4, .int a4)] := hl
  have L3 : ∀ (n : Nat) (x5 : Int32) (M : MS) (H : Heap) (locs : List Loc) (ls : Array Slot), va_P D vwCl (mo cA m0 ad M) H → va_S (mF m0 ad) s.heap H locs → lv_has ls 6 [(0, .ref m0), (1, .ref (ad a1)), (2, .int a2), (3, .int a3), (4, .int a4), (5, .int x5)] → w4_find_l3 a1 a2 a3 a4 Post n x5 M → W p l e rX4_find s m args below meth c H locs 0 0 Q (F0 m 3 ls []) := by
    intro n
    induction n with
    | zero => intro x5 M H locs ls hP hS hl h; rw [w4_find_l3] at h; exact h.elim
    | succ n ih =>
      intro x5 M H locs ls hP hS hl h
      rw [w4_find_l3] at h
      refine lv_iload hx hb dX4_find_3 (lv_at hl 5 rfl) ?_
      refine lv_iload_n hx hb dX4_find_5 rfl (lv_at hl 3 rfl) ?_
      refine lv_icmp_ge (tgt := 29) hx hb dX4_find_6 (by decide) (fun c_1 => ?_) (fun c_1 => ?_)
      · replace h := h.1 c_1
        refine lv_iconst hx hb dX4_find_29 kc_m1 ?_
        exact hret _ _ _ _ _ _ hP hS h rfl dX4_find_30
      · replace h := h.2 c_1
        refine lv_aload_n hx hb dX4_find_9 rfl (lv_at hl 1 rfl) ?_
        refine lv_iload_n hx hb dX4_find_10 rfl (lv_at hl 2 rfl) ?_
        refine lv_iload hx hb dX4_find_11 (lv_at hl 5 rfl) ?_
        refine lv_iadd hx hb dX4_find_13 ?_
        obtain ⟨hi, h⟩ := h
        refine ml_a S hK hP (k := a1) ha1 ga1 hi dX4_find_14 ?_
        refine lv_iload hx hb dX4_find_15 (lv_at hl 4 rfl) ?_
        refine lv_icmp_ne (tgt := 23) hx hb dX4_find_17 (by decide) (fun c_2 => ?_) (fun c_2 => ?_)
        · replace h := h.2 c_2
          obtain ⟨v_3, e_v_3⟩ : ∃ y : Int32, y = x5 + (1 : Int32) := ⟨_, rfl⟩
          replace h := h v_3 e_v_3
          refine lv_iinc (v := v_3) (lv' := [(5, .int v_3), (0, .ref m0), (1, .ref (ad a1)), (2, .int a2), (3, .int a3), (4, .int a4)]) hx hb dX4_find_23 hl (k := 5) rfl (by rw [kc_1, e_v_3]) (by decide) rfl (fun ls hl => ?_)
          refine lv_goto (tgt := 3) hx hb dX4_find_26 (by decide) ?_
          exact ih _ _ _ _ _ hP hS (lv_sub hl [1, 2, 3, 4, 5, 0] rfl) h
        · replace h := h.1 c_2
          refine lv_iload hx hb dX4_find_20 (lv_at hl 5 rfl) ?_
          exact hret _ _ _ _ _ _ hP hS h rfl dX4_find_22
  unfold w4_find at h
  refine lv_iconst hx hb dX4_find_0 kc_0 ?_
  refine lv_istore (lv' := [(5, .int (0 : Int32)), (0, .ref m0), (1, .ref (ad a1)), (2, .int a2), (3, .int a3), (4, .int a4)]) hx hb dX4_find_1 hl (by decide) rfl (fun ls hl => ?_)
  obtain ⟨f, h⟩ := h
  exact L3 f _ _ _ _ _ hP hS (lv_sub hl [1, 2, 3, 4, 5, 0] rfl) h
def w4_newName (a1 : Nat) (a2 : Int32) (a3 : Int32) (M : MS) (Post : Int32 → MS → Prop) : Prop := ((mi M 8) = (2 : Int32) → (w4_find a1 a2 a3 (mi M 9) M (fun r_3 M_2 => (r_3 < 0 → (Post (1 : Int32) M_2)) ∧ (¬ (r_3 < 0) → (w4_wrong (3 : Int32) M_2 (fun r_6 M_5 => (r_6 = 0 → (Post (0 : Int32) M_5)) ∧ (¬ (r_6 = 0) → (Post (1 : Int32) M_5)))))))) ∧ (¬ ((mi M 8) = (2 : Int32)) → (w4_wrong (1 : Int32) M (fun r_9 M_8 => vz r_9 ∧ Post r_9 M_8)))
abbrev rX4_newName : Room := { frames := 1, cells := 0, slots := 0, locals := 25 }
theorem cdX4_newName : yX4_newName.cls = RX4 ∧ yX4_newName.cls ≠ "java/lang/invoke/MethodHandle" ∧ yX4_newName.cls ≠ "java/lang/invoke/VarHandle" ∧ (parseMethodDescriptor yX4_newName.desc).map (fun d => d.parameters.length) = some 3 := by decide +kernel
set_option maxHeartbeats 4000000 in
set_option maxRecDepth 100000 in
theorem mt4_newName (l : Launch) {D : va_G} {cA : Nat → ClassId} {m0 : Nat} {ad : Nat → Nat} (hA : mAd m0 ad) (a1 : Nat) (a2 : Int32) (a3 : Int32) (ha1 : a1 ∈ mAF) (ga1 : mK a1 = 3) (M : MS) (Post : Int32 → MS → Prop) (h : w4_newName a1 a2 a3 M Post) : Met l yX4_newName (ws_ yX4_newName cX4_newName 4 (some .boolean)) rX4_newName (mPc [.ref m0, .ref (ad a1), .int a2, .int a3] D cA m0 ad M) (va_Qi Post (mB D cA m0 ad) (mF m0 ad)) 0 0 (mF m0 ad) := by
  refine mst_i (own := RX4) (by decide) rfl (Nat.le_of_ble_eq_true rfl) ?_
  intro p e s m args below meth c Q ls S hK hP hS hl hret
  have hx := S.1
  have hb := S.2.1
  have hl : lv_has ls 4 [(0, .ref m0), (1, .ref (ad a1)), (2, .int a2), (3, .int a3)] := hl
  unfold w4_newName at h
  refine lv_aload_n hx hb dX4_newName_0 rfl (lv_at hl 0 rfl) ?_
  refine mg_i S hK hP (k := 8) (by decide) (by decide) q1428 dX4_newName_1 ?_
  refine lv_iconst hx hb dX4_newName_4 kc_2 ?_
  refine lv_icmp_eq (tgt := 14) hx hb dX4_newName_5 (by decide) (fun c_1 => ?_) (fun c_1 => ?_)
  · replace h := h.1 c_1
    refine lv_aload_n hx hb dX4_newName_14 rfl (lv_at hl 0 rfl) ?_
    refine lv_aload_n hx hb dX4_newName_15 rfl (lv_at hl 1 rfl) ?_
    refine lv_iload_n hx hb dX4_newName_16 rfl (lv_at hl 2 rfl) ?_
    refine lv_iload_n hx hb dX4_newName_17 rfl (lv_at hl 3 rfl) ?_
    refine lv_aload_n hx hb dX4_newName_18 rfl (lv_at hl 0 rfl) ?_
    refine mg_i S hK hP (k := 9) (by decide) (by decide) q1429 dX4_newName_19 ?_
    refine mc_i S hK hP hS (As := [.ref (ad a1), .int a2, .int a3, .int (mi M 9)]) (rest := []) (mt4_find l hA a1 a2 a3 (mi M 9) ha1 ga1 M _ h) (cwV 4 S.2.2.2.2 (lw_V q1672 q1674 qs75 q145 q1675) rfl rfl rfl cdX4_find ⟨Nat.le_of_ble_eq_true rfl, Nat.le_of_ble_eq_true rfl⟩) rfl rfl hl.1 (Nat.le_of_ble_eq_true rfl) dX4_newName_22 ⟨Nat.le_refl _, Nat.le_refl _⟩ (fun r_3 M_2 H locs h hP hS => ?_)
    refine lv_if_lt (tgt := 36) hx hb dX4_newName_25 (by decide) (fun c_4 => ?_) (fun c_4 => ?_)
    · replace h := h.1 c_4
      refine lv_iconst hx hb dX4_newName_36 kc_1 ?_
      refine lv_goto (tgt := 41) hx hb dX4_newName_37 (by decide) ?_
      exact hret _ _ _ _ _ _ hP hS h (vz_nar vz_1) dX4_newName_41
    · replace h := h.2 c_4
      refine lv_aload_n hx hb dX4_newName_28 rfl (lv_at hl 0 rfl) ?_
      refine lv_iconst hx hb dX4_newName_29 kc_3 ?_
      refine mc_i S hK hP hS (As := [.int (3 : Int32)]) (rest := []) (mt4_wrong l hA (3 : Int32) M_2 _ h) (cwV 1 S.2.2.2.2 (lw_V q1660 q1662 qs72 q145 q1663) rfl rfl rfl cdX4_wrong ⟨Nat.le_of_ble_eq_true rfl, Nat.le_of_ble_eq_true rfl⟩) rfl rfl hl.1 (Nat.le_of_ble_eq_true rfl) dX4_newName_30 ⟨Nat.le_refl _, Nat.le_refl _⟩ (fun r_6 M_5 H locs h hP hS => ?_)
      refine lv_if_eq (tgt := 40) hx hb dX4_newName_33 (by decide) (fun c_7 => ?_) (fun c_7 => ?_)
      · replace h := h.1 c_7
        refine lv_iconst hx hb dX4_newName_40 kc_0 ?_
        exact hret _ _ _ _ _ _ hP hS h (vz_nar vz_0) dX4_newName_41
      · replace h := h.2 c_7
        refine lv_iconst hx hb dX4_newName_36 kc_1 ?_
        refine lv_goto (tgt := 41) hx hb dX4_newName_37 (by decide) ?_
        exact hret _ _ _ _ _ _ hP hS h (vz_nar vz_1) dX4_newName_41
  · replace h := h.2 c_1
    refine lv_aload_n hx hb dX4_newName_8 rfl (lv_at hl 0 rfl) ?_
    refine lv_iconst hx hb dX4_newName_9 kc_1 ?_
    refine mc_i S hK hP hS (As := [.int (1 : Int32)]) (rest := []) (mt4_wrong l hA (1 : Int32) M _ h) (cwV 1 S.2.2.2.2 (lw_V q1660 q1662 qs72 q145 q1663) rfl rfl rfl cdX4_wrong ⟨Nat.le_of_ble_eq_true rfl, Nat.le_of_ble_eq_true rfl⟩) rfl rfl hl.1 (Nat.le_of_ble_eq_true rfl) dX4_newName_10 ⟨Nat.le_refl _, Nat.le_refl _⟩ (fun r_9 M_8 H locs h hP hS => ?_)
    exact hret _ _ _ _ _ _ hP hS h.2 (vz_nar h.1) dX4_newName_13
def w4_numberRead_c30 (a1 : Int32) (a2 : Int32) (Post : Int32 → MS → Prop) (M : MS) : Prop := w4_wrong (2 : Int32) M (fun r_4 M_3 => (r_4 = 0 → (Post (0 : Int32) M_3)) ∧ (¬ (r_4 = 0) → (Post (1 : Int32) M_3)))
def w4_numberRead (a1 : Int32) (a2 : Int32) (M : MS) (Post : Int32 → MS → Prop) : Prop := ((mi M 8) = (3 : Int32) → (((mi M 9) < a1 → (w4_numberRead_c30 a1 a2 Post M)) ∧ (¬ ((mi M 9) < a1) → (((mi M 9) ≤ a2 → (Post (1 : Int32) M)) ∧ (¬ ((mi M 9) ≤ a2) → (w4_numberRead_c30 a1 a2 Post M)))))) ∧ (¬ ((mi M 8) = (3 : Int32)) → (w4_wrong (1 : Int32) M (fun r_8 M_7 => vz r_8 ∧ Post r_8 M_7)))
abbrev rX4_numberRead : Room := { frames := 1, cells := 0, slots := 0, locals := 21 }
theorem cdX4_numberRead : yX4_numberRead.cls = RX4 ∧ yX4_numberRead.cls ≠ "java/lang/invoke/MethodHandle" ∧ yX4_numberRead.cls ≠ "java/lang/invoke/VarHandle" ∧ (parseMethodDescriptor yX4_numberRead.desc).map (fun d => d.parameters.length) = some 2 := by decide +kernel
set_option maxHeartbeats 4000000 in
set_option maxRecDepth 100000 in
theorem mt4_numberRead (l : Launch) {D : va_G} {cA : Nat → ClassId} {m0 : Nat} {ad : Nat → Nat} (hA : mAd m0 ad) (a1 : Int32) (a2 : Int32) (M : MS) (Post : Int32 → MS → Prop) (h : w4_numberRead a1 a2 M Post) : Met l yX4_numberRead (ws_ yX4_numberRead cX4_numberRead 3 (some .boolean)) rX4_numberRead (mPc [.ref m0, .int a1, .int a2] D cA m0 ad M) (va_Qi Post (mB D cA m0 ad) (mF m0 ad)) 0 0 (mF m0 ad) := by
  refine mst_i (own := RX4) (by decide) rfl (Nat.le_of_ble_eq_true rfl) ?_
  intro p e s m args below meth c Q ls S hK hP hS hl hret
  have hx := S.1
  have hb := S.2.1
  have hl : lv_has ls 3 [(0, .ref m0), (1, .int a1), (2, .int a2)] := hl
  have C30 : ∀ (M : MS) (H : Heap) (locs : List Loc) (ls : Array Slot), va_P D vwCl (mo cA m0 ad M) H → va_S (mF m0 ad) s.heap H locs → lv_has ls 3 [(0, .ref m0)] → w4_numberRead_c30 a1 a2 Post M → W p l e rX4_numberRead s m args below meth c H locs 0 0 Q (F0 m 30 ls []) := by
    intro M H locs ls hP hS hl h
    unfold w4_numberRead_c30 at h
    refine lv_aload_n hx hb dX4_numberRead_30 rfl (lv_at hl 0 rfl) ?_
    refine lv_iconst hx hb dX4_numberRead_31 kc_2 ?_
    refine mc_i S hK hP hS (As := [.int (2 : Int32)]) (rest := []) (mt4_wrong l hA (2 : Int32) M _ h) (cwV 1 S.2.2.2.2 (lw_V q1660 q1662 qs72 q145 q1663) rfl rfl rfl cdX4_wrong ⟨Nat.le_of_ble_eq_true rfl, Nat.le_of_ble_eq_true rfl⟩) rfl rfl hl.1 (Nat.le_of_ble_eq_true rfl) dX4_numberRead_32 ⟨Nat.le_refl _, Nat.le_refl _⟩ (fun r_4 M_3 H locs h hP hS => ?_)
    refine lv_if_eq (tgt := 42) hx hb dX4_numberRead_35 (by decide) (fun c_5 => ?_) (fun c_5 => ?_)
    · replace h := h.1 c_5
      refine lv_iconst hx hb dX4_numberRead_42 kc_0 ?_
      exact hret _ _ _ _ _ _ hP hS h (vz_nar vz_0) dX4_numberRead_43
    · replace h := h.2 c_5
      refine lv_iconst hx hb dX4_numberRead_38 kc_1 ?_
      refine lv_goto (tgt := 43) hx hb dX4_numberRead_39 (by decide) ?_
      exact hret _ _ _ _ _ _ hP hS h (vz_nar vz_1) dX4_numberRead_43
  unfold w4_numberRead at h
  refine lv_aload_n hx hb dX4_numberRead_0 rfl (lv_at hl 0 rfl) ?_
  refine mg_i S hK hP (k := 8) (by decide) (by decide) q1428 dX4_numberRead_1 ?_
  refine lv_iconst hx hb dX4_numberRead_4 kc_3 ?_
  refine lv_icmp_eq (tgt := 14) hx hb dX4_numberRead_5 (by decide) (fun c_1 => ?_) (fun c_1 => ?_)
  · replace h := h.1 c_1
    refine lv_aload_n hx hb dX4_numberRead_14 rfl (lv_at hl 0 rfl) ?_
    refine mg_i S hK hP (k := 9) (by decide) (by decide) q1429 dX4_numberRead_15 ?_
    refine lv_iload_n hx hb dX4_numberRead_18 rfl (lv_at hl 1 rfl) ?_
    refine lv_icmp_lt (tgt := 30) hx hb dX4_numberRead_19 (by decide) (fun c_2 => ?_) (fun c_2 => ?_)
    · replace h := h.1 c_2
      exact C30 _ _ _ _ hP hS (lv_sub hl [0] rfl) h
    · replace h := h.2 c_2
      refine lv_aload_n hx hb dX4_numberRead_22 rfl (lv_at hl 0 rfl) ?_
      refine mg_i S hK hP (k := 9) (by decide) (by decide) q1429 dX4_numberRead_23 ?_
      refine lv_iload_n hx hb dX4_numberRead_26 rfl (lv_at hl 2 rfl) ?_
      refine lv_icmp_le (tgt := 38) hx hb dX4_numberRead_27 (by decide) (fun c_6 => ?_) (fun c_6 => ?_)
      · replace h := h.1 c_6
        refine lv_iconst hx hb dX4_numberRead_38 kc_1 ?_
        refine lv_goto (tgt := 43) hx hb dX4_numberRead_39 (by decide) ?_
        exact hret _ _ _ _ _ _ hP hS h (vz_nar vz_1) dX4_numberRead_43
      · replace h := h.2 c_6
        exact C30 _ _ _ _ hP hS (lv_sub hl [0] rfl) h
  · replace h := h.2 c_1
    refine lv_aload_n hx hb dX4_numberRead_8 rfl (lv_at hl 0 rfl) ?_
    refine lv_iconst hx hb dX4_numberRead_9 kc_1 ?_
    refine mc_i S hK hP hS (As := [.int (1 : Int32)]) (rest := []) (mt4_wrong l hA (1 : Int32) M _ h) (cwV 1 S.2.2.2.2 (lw_V q1660 q1662 qs72 q145 q1663) rfl rfl rfl cdX4_wrong ⟨Nat.le_of_ble_eq_true rfl, Nat.le_of_ble_eq_true rfl⟩) rfl rfl hl.1 (Nat.le_of_ble_eq_true rfl) dX4_numberRead_10 ⟨Nat.le_refl _, Nat.le_refl _⟩ (fun r_8 M_7 H locs h hP hS => ?_)
    exact hret _ _ _ _ _ _ hP hS h.2 (vz_nar h.1) dX4_numberRead_13
def w4_isKey (a1 : Int32) (M : MS) (Post : Int32 → MS → Prop) : Prop := ((mi M 8) = (1 : Int32) → (((mi M 9) = a1 → (Post (1 : Int32) M)) ∧ (¬ ((mi M 9) = a1) → (Post (0 : Int32) M)))) ∧ (¬ ((mi M 8) = (1 : Int32)) → (Post (0 : Int32) M))
abbrev rX4_isKey : Room := { frames := 0, cells := 0, slots := 0, locals := 0 }
theorem cdX4_isKey : yX4_isKey.cls = RX4 ∧ yX4_isKey.cls ≠ "java/lang/invoke/MethodHandle" ∧ yX4_isKey.cls ≠ "java/lang/invoke/VarHandle" ∧ (parseMethodDescriptor yX4_isKey.desc).map (fun d => d.parameters.length) = some 1 := by decide +kernel
set_option maxHeartbeats 4000000 in
set_option maxRecDepth 100000 in
theorem mt4_isKey (l : Launch) {D : va_G} {cA : Nat → ClassId} {m0 : Nat} {ad : Nat → Nat} (hA : mAd m0 ad) (a1 : Int32) (M : MS) (Post : Int32 → MS → Prop) (h : w4_isKey a1 M Post) : Met l yX4_isKey (ws_ yX4_isKey cX4_isKey 2 (some .boolean)) rX4_isKey (mPc [.ref m0, .int a1] D cA m0 ad M) (va_Qi Post (mB D cA m0 ad) (mF m0 ad)) 0 0 (mF m0 ad) := by
  refine mst_i (own := RX4) (by decide) rfl (Nat.le_of_ble_eq_true rfl) ?_
  intro p e s m args below meth c Q ls S hK hP hS hl hret
  have hx := S.1
  have hb := S.2.1
  have hl : lv_has ls 2 [(0, .ref m0), (1, .int a1)] := hl
  unfold w4_isKey at h
  refine lv_aload_n hx hb dX4_isKey_0 rfl (lv_at hl 0 rfl) ?_
  refine mg_i S hK hP (k := 8) (by decide) (by decide) q1428 dX4_isKey_1 ?_
  refine lv_iconst hx hb dX4_isKey_4 kc_1 ?_
  refine lv_icmp_ne (tgt := 20) hx hb dX4_isKey_5 (by decide) (fun c_1 => ?_) (fun c_1 => ?_)
  · replace h := h.2 c_1
    refine lv_iconst hx hb dX4_isKey_20 kc_0 ?_
    exact hret _ _ _ _ _ _ hP hS h (vz_nar vz_0) dX4_isKey_21
  · replace h := h.1 c_1
    refine lv_aload_n hx hb dX4_isKey_8 rfl (lv_at hl 0 rfl) ?_
    refine mg_i S hK hP (k := 9) (by decide) (by decide) q1429 dX4_isKey_9 ?_
    refine lv_iload_n hx hb dX4_isKey_12 rfl (lv_at hl 1 rfl) ?_
    refine lv_icmp_ne (tgt := 20) hx hb dX4_isKey_13 (by decide) (fun c_2 => ?_) (fun c_2 => ?_)
    · replace h := h.2 c_2
      refine lv_iconst hx hb dX4_isKey_20 kc_0 ?_
      exact hret _ _ _ _ _ _ hP hS h (vz_nar vz_0) dX4_isKey_21
    · replace h := h.1 c_2
      refine lv_iconst hx hb dX4_isKey_16 kc_1 ?_
      refine lv_goto (tgt := 21) hx hb dX4_isKey_17 (by decide) ?_
      exact hret _ _ _ _ _ _ hP hS h (vz_nar vz_1) dX4_isKey_21
def w4_keyRead (a1 : Int32) (M : MS) (Post : Int32 → MS → Prop) : Prop := w4_isKey a1 M (fun r_2 M_1 => (r_2 = 0 → (w4_wrong (1 : Int32) M_1 (fun r_6 M_5 => vz r_6 ∧ Post r_6 M_5))) ∧ (¬ (r_2 = 0) → (w4_take M_1 (fun M_4 => Post (1 : Int32) M_4))))
abbrev rX4_keyRead : Room := { frames := 2, cells := 0, slots := 0, locals := 47 }
theorem cdX4_keyRead : yX4_keyRead.cls = RX4 ∧ yX4_keyRead.cls ≠ "java/lang/invoke/MethodHandle" ∧ yX4_keyRead.cls ≠ "java/lang/invoke/VarHandle" ∧ (parseMethodDescriptor yX4_keyRead.desc).map (fun d => d.parameters.length) = some 1 := by decide +kernel
set_option maxHeartbeats 4000000 in
set_option maxRecDepth 100000 in
theorem mt4_keyRead (l : Launch) {D : va_G} {cA : Nat → ClassId} {m0 : Nat} {ad : Nat → Nat} (hA : mAd m0 ad) (a1 : Int32) (M : MS) (Post : Int32 → MS → Prop) (h : w4_keyRead a1 M Post) : Met l yX4_keyRead (ws_ yX4_keyRead cX4_keyRead 2 (some .boolean)) rX4_keyRead (mPc [.ref m0, .int a1] D cA m0 ad M) (va_Qi Post (mB D cA m0 ad) (mF m0 ad)) 0 0 (mF m0 ad) := by
  refine mst_i (own := RX4) (by decide) rfl (Nat.le_of_ble_eq_true rfl) ?_
  intro p e s m args below meth c Q ls S hK hP hS hl hret
  have hx := S.1
  have hb := S.2.1
  have hl : lv_has ls 2 [(0, .ref m0), (1, .int a1)] := hl
  unfold w4_keyRead at h
  refine lv_aload_n hx hb dX4_keyRead_0 rfl (lv_at hl 0 rfl) ?_
  refine lv_iload_n hx hb dX4_keyRead_1 rfl (lv_at hl 1 rfl) ?_
  refine mc_i S hK hP hS (As := [.int a1]) (rest := []) (mt4_isKey l hA a1 M _ h) (cwV 1 S.2.2.2.2 (lw_V q1684 q1686 qs78 q145 q1687) rfl rfl rfl cdX4_isKey ⟨Nat.le_of_ble_eq_true rfl, Nat.le_of_ble_eq_true rfl⟩) rfl rfl hl.1 (Nat.le_of_ble_eq_true rfl) dX4_keyRead_2 ⟨Nat.le_refl _, Nat.le_refl _⟩ (fun r_2 M_1 H locs h hP hS => ?_)
  refine lv_if_ne (tgt := 14) hx hb dX4_keyRead_5 (by decide) (fun c_3 => ?_) (fun c_3 => ?_)
  · replace h := h.2 c_3
    refine lv_aload_n hx hb dX4_keyRead_14 rfl (lv_at hl 0 rfl) ?_
    refine mc_v S hK hP hS (As := []) (rest := []) (mt4_take l hA M_1 _ h) (cwV 0 S.2.2.2.2 (lw_V q1632 q1634 qs65 q145 q1635) rfl rfl rfl cdX4_take ⟨Nat.le_of_ble_eq_true rfl, Nat.le_of_ble_eq_true rfl⟩) rfl rfl hl.1 (Nat.le_of_ble_eq_true rfl) dX4_keyRead_15 ⟨Nat.le_refl _, Nat.le_refl _⟩ (fun M_4 H locs h hP hS => ?_)
    refine lv_iconst hx hb dX4_keyRead_18 kc_1 ?_
    exact hret _ _ _ _ _ _ hP hS h (vz_nar vz_1) dX4_keyRead_19
  · replace h := h.1 c_3
    refine lv_aload_n hx hb dX4_keyRead_8 rfl (lv_at hl 0 rfl) ?_
    refine lv_iconst hx hb dX4_keyRead_9 kc_1 ?_
    refine mc_i S hK hP hS (As := [.int (1 : Int32)]) (rest := []) (mt4_wrong l hA (1 : Int32) M_1 _ h) (cwV 1 S.2.2.2.2 (lw_V q1660 q1662 qs72 q145 q1663) rfl rfl rfl cdX4_wrong ⟨Nat.le_of_ble_eq_true rfl, Nat.le_of_ble_eq_true rfl⟩) rfl rfl hl.1 (Nat.le_of_ble_eq_true rfl) dX4_keyRead_10 ⟨Nat.le_refl _, Nat.le_refl _⟩ (fun r_6 M_5 H locs h hP hS => ?_)
    exact hret _ _ _ _ _ _ hP hS h.2 (vz_nar h.1) dX4_keyRead_13
def w4_thingLine_c241 (k136 : Int32 → Int32 → MS → Prop) (Post : Int32 → MS → Prop) (x1 : Int32) (x2 : Int32) (M : MS) : Prop := w4_take M (fun M_36 => k136 x1 x2 M_36)
def w4_thingLine_c188 (k136 : Int32 → Int32 → MS → Prop) (Post : Int32 → MS → Prop) (x1 : Int32) (x2 : Int32) (x3 : Int32) (t0 : Int32) (M : MS) : Prop := (t0 < 0 → (w4_take M (fun M_30 => w4_numberRead (0 : Int32) (199 : Int32) M_30 (fun r_32 M_31 => (r_32 = 0 → (Post (0 : Int32) M_31)) ∧ (¬ (r_32 = 0) → ((x3 = 0 → ((vp_in x1 (mN 25) ∧ ∀ M_35 : MS, M_35 = sa M_31 25 (Int32.toNatClampNeg x1) (mi M_31 9) → w4_thingLine_c241 k136 Post x1 x2 M_35))) ∧ (¬ (x3 = 0) → ((vp_in x1 (mN 24) ∧ ∀ M_37 : MS, M_37 = sa M_31 24 (Int32.toNatClampNeg x1) (mi M_31 9) → w4_thingLine_c241 k136 Post x1 x2 M_37))))))))) ∧ (¬ (t0 < 0) → (w4_wrong (3 : Int32) M (fun r_39 M_38 => vz r_39 ∧ Post r_39 M_38)))
def w4_thingLine_c168 (k136 : Int32 → Int32 → MS → Prop) (Post : Int32 → MS → Prop) (x1 : Int32) (x2 : Int32) (t0 : Int32) (M : MS) : Prop := (t0 = 0 → ((vp_in x1 (mN 25) ∧ w4_thingLine_c188 k136 Post x1 x2 t0 (ma M 25 (Int32.toNatClampNeg x1)) M))) ∧ (¬ (t0 = 0) → ((vp_in x1 (mN 24) ∧ w4_thingLine_c188 k136 Post x1 x2 t0 (ma M 24 (Int32.toNatClampNeg x1)) M)))
def w4_thingLine_c154 (k136 : Int32 → Int32 → MS → Prop) (Post : Int32 → MS → Prop) (x1 : Int32) (x2 : Int32) (M : MS) : Prop := ((mi M 9) = (9 : Int32) → (w4_thingLine_c168 k136 Post x1 x2 (1 : Int32) M)) ∧ (¬ ((mi M 9) = (9 : Int32)) → (w4_thingLine_c168 k136 Post x1 x2 (0 : Int32) M))
def w4_thingLine_l136 (Post : Int32 → MS → Prop) : Nat → Int32 → Int32 → MS → Prop
  | 0, _, _, _ => False
  | n + 1, x1, x2, M => w4_isKey (9 : Int32) M (fun r_25 M_24 => (r_25 = 0 → (w4_isKey (10 : Int32) M_24 (fun r_41 M_40 => (r_41 = 0 → ((vp_in x1 (mN 21) ∧ ∀ M_43 : MS, M_43 = sa M_40 21 (Int32.toNatClampNeg x1) x2 → ∀ M_44 : MS, M_44 = si M_43 16 ((mi M_43 16) + (1 : Int32)) → Post (1 : Int32) M_44))) ∧ (¬ (r_41 = 0) → (w4_thingLine_c154 (w4_thingLine_l136 Post n) Post x1 x2 M_40))))) ∧ (¬ (r_25 = 0) → (w4_thingLine_c154 (w4_thingLine_l136 Post n) Post x1 x2 M_24)))
def w4_thingLine (M : MS) (Post : Int32 → MS → Prop) : Prop := ((mi M 16) = (8 : Int32) → (w4_wrong (2 : Int32) M (fun r_46 M_45 => vz r_46 ∧ Post r_46 M_45))) ∧ (¬ ((mi M 16) = (8 : Int32)) → (w4_take M (fun M_2 => w4_newName 21 (8 : Int32) (mi M_2 16) M_2 (fun r_4 M_3 => (r_4 = 0 → (Post (0 : Int32) M_3)) ∧ (¬ (r_4 = 0) → (∀ v_6 : Int32, v_6 = (8 : Int32) + (mi M_3 16) → ∀ v_7 : Int32, v_7 = mi M_3 9 → w4_take M_3 (fun M_8 => w4_numberRead (2 : Int32) (9 : Int32) M_8 (fun r_10 M_9 => (r_10 = 0 → (Post (0 : Int32) M_9)) ∧ (¬ (r_10 = 0) → ((vp_in v_6 (mN 22) ∧ ∀ M_12 : MS, M_12 = sa M_9 22 (Int32.toNatClampNeg v_6) (mi M_9 9) → w4_take M_12 (fun M_13 => w4_keyRead (8 : Int32) M_13 (fun r_15 M_14 => (r_15 = 0 → (Post (0 : Int32) M_14)) ∧ (¬ (r_15 = 0) → ((vp_in v_6 (mN 22) ∧ w4_numberRead (0 : Int32) ((ma M_14 22 (Int32.toNatClampNeg v_6)) - (1 : Int32)) M_14 (fun r_18 M_17 => (r_18 = 0 → (Post (0 : Int32) M_17)) ∧ (¬ (r_18 = 0) → ((vp_in v_6 (mN 23) ∧ ∀ M_20 : MS, M_20 = sa M_17 23 (Int32.toNatClampNeg v_6) (mi M_17 9) → (vp_in v_6 (mN 24) ∧ ∀ M_21 : MS, M_21 = sa M_20 24 (Int32.toNatClampNeg v_6) (-1 : Int32) → (vp_in v_6 (mN 25) ∧ ∀ M_22 : MS, M_22 = sa M_21 25 (Int32.toNatClampNeg v_6) (-1 : Int32) → w4_take M_22 (fun M_23 => ∃ f, w4_thingLine_l136 Post f v_6 v_7 M_23)))))))))))))))))))))))
abbrev rX4_thingLine : Room := { frames := 3, cells := 0, slots := 0, locals := 68 }
theorem cdX4_thingLine : yX4_thingLine.cls = RX4 ∧ yX4_thingLine.cls ≠ "java/lang/invoke/MethodHandle" ∧ yX4_thingLine.cls ≠ "java/lang/invoke/VarHandle" ∧ (parseMethodDescriptor yX4_thingLine.desc).map (fun d => d.parameters.length) = some 0 := by decide +kernel
set_option maxHeartbeats 4000000 in
set_option maxRecDepth 100000 in
theorem mt4_thingLine (l : Launch) {D : va_G} {cA : Nat → ClassId} {m0 : Nat} {ad : Nat → Nat} (hA : mAd m0 ad) (M : MS) (Post : Int32 → MS → Prop) (h : w4_thingLine M Post) : Met l yX4_thingLine (ws_ yX4_thingLine cX4_thingLine 4 (some .boolean)) rX4_thingLine (mPc [.ref m0] D cA m0 ad M) (va_Qi Post (mB D cA m0 ad) (mF m0 ad)) 0 0 (mF m0 ad) := by
  refine mst_i (own := RX4) (by decide) rfl (Nat.le_of_ble_eq_true rfl) ?_
  intro p e s m args below meth c Q ls S hK hP hS hl hret
  have hx := S.1
  have hb := S.2.1
  have hl : lv_has ls 4 [(0, .ref m0)] := hl
  have C241 : ∀ (k136 : Int32 → Int32 → MS → Prop) (K136 : (∀ (x1 : Int32) (x2 : Int32) (M : MS) (H : Heap) (locs : List Loc) (ls : Array Slot), va_P D vwCl (mo cA m0 ad M) H → va_S (mF m0 ad) s.heap H locs → lv_has ls 4 [(0, .ref m0), (1, .int x1), (2, .int x2)] → k136 x1 x2 M → W p l e rX4_thingLine s m args below meth c H locs 0 0 Q (F0 m 136 ls []))), ∀ (x1 : Int32) (x2 : Int32) (M : MS) (H : Heap) (locs : List Loc) (ls : Array Slot), va_P D vwCl (mo cA m0 ad M) H → va_S (mF m0 ad) s.heap H locs → lv_has ls 4 [(0, .ref m0), (1, .int x1), (2, .int x2)] → w4_thingLine_c241 k136 Post x1 x2 M → W p l e rX4_thingLine s m args below meth c H locs 0 0 Q (F0 m 241 ls []) := by
    intro k136 K136
    intro x1 x2 M H locs ls hP hS hl h
    unfold w4_thingLine_c241 at h
    refine lv_aload_n hx hb dX4_thingLine_241 rfl (lv_at hl 0 rfl) ?_
    refine mc_v S hK hP hS (As := []) (rest := []) (mt4_take l hA M _ h) (cwV 0 S.2.2.2.2 (lw_V q1632 q1634 qs65 q145 q1635) rfl rfl rfl cdX4_take ⟨Nat.le_of_ble_eq_true rfl, Nat.le_of_ble_eq_true rfl⟩) rfl rfl hl.1 (Nat.le_of_ble_eq_true rfl) dX4_thingLine_242 ⟨Nat.le_refl _, Nat.le_refl _⟩ (fun M_36 H locs h hP hS => ?_)
    refine lv_goto (tgt := 136) hx hb dX4_thingLine_245 (by decide) ?_
    exact K136 _ _ _ _ _ _ hP hS (lv_sub hl [0, 1, 2] rfl) h
  have C188 : ∀ (k136 : Int32 → Int32 → MS → Prop) (K136 : (∀ (x1 : Int32) (x2 : Int32) (M : MS) (H : Heap) (locs : List Loc) (ls : Array Slot), va_P D vwCl (mo cA m0 ad M) H → va_S (mF m0 ad) s.heap H locs → lv_has ls 4 [(0, .ref m0), (1, .int x1), (2, .int x2)] → k136 x1 x2 M → W p l e rX4_thingLine s m args below meth c H locs 0 0 Q (F0 m 136 ls []))), ∀ (x1 : Int32) (x2 : Int32) (x3 : Int32) (t0 : Int32) (M : MS) (H : Heap) (locs : List Loc) (ls : Array Slot), va_P D vwCl (mo cA m0 ad M) H → va_S (mF m0 ad) s.heap H locs → lv_has ls 4 [(0, .ref m0), (1, .int x1), (2, .int x2), (3, .int x3)] → w4_thingLine_c188 k136 Post x1 x2 x3 t0 M → W p l e rX4_thingLine s m args below meth c H locs 0 0 Q (F0 m 188 ls [.int t0]) := by
    intro k136 K136
    intro x1 x2 x3 t0 M H locs ls hP hS hl h
    unfold w4_thingLine_c188 at h
    refine lv_if_lt (tgt := 197) hx hb dX4_thingLine_188 (by decide) (fun c_29 => ?_) (fun c_29 => ?_)
    · replace h := h.1 c_29
      refine lv_aload_n hx hb dX4_thingLine_197 rfl (lv_at hl 0 rfl) ?_
      refine mc_v S hK hP hS (As := []) (rest := []) (mt4_take l hA M _ h) (cwV 0 S.2.2.2.2 (lw_V q1632 q1634 qs65 q145 q1635) rfl rfl rfl cdX4_take ⟨Nat.le_of_ble_eq_true rfl, Nat.le_of_ble_eq_true rfl⟩) rfl rfl hl.1 (Nat.le_of_ble_eq_true rfl) dX4_thingLine_198 ⟨Nat.le_refl _, Nat.le_refl _⟩ (fun M_30 H locs h hP hS => ?_)
      refine lv_aload_n hx hb dX4_thingLine_201 rfl (lv_at hl 0 rfl) ?_
      refine lv_iconst hx hb dX4_thingLine_202 kc_0 ?_
      refine lv_sipush hx hb dX4_thingLine_203 ks_199 ?_
      refine mc_i S hK hP hS (As := [.int (0 : Int32), .int (199 : Int32)]) (rest := []) (mt4_numberRead l hA (0 : Int32) (199 : Int32) M_30 _ h) (cwV 2 S.2.2.2.2 (lw_V q1676 q1678 qs76 q145 q1679) rfl rfl rfl cdX4_numberRead ⟨Nat.le_of_ble_eq_true rfl, Nat.le_of_ble_eq_true rfl⟩) rfl rfl hl.1 (Nat.le_of_ble_eq_true rfl) dX4_thingLine_206 ⟨Nat.le_refl _, Nat.le_refl _⟩ (fun r_32 M_31 H locs h hP hS => ?_)
      refine lv_if_ne (tgt := 214) hx hb dX4_thingLine_209 (by decide) (fun c_33 => ?_) (fun c_33 => ?_)
      · replace h := h.2 c_33
        refine lv_iload_n hx hb dX4_thingLine_214 rfl (lv_at hl 3 rfl) ?_
        refine lv_if_eq (tgt := 231) hx hb dX4_thingLine_215 (by decide) (fun c_34 => ?_) (fun c_34 => ?_)
        · replace h := h.1 c_34
          refine lv_aload_n hx hb dX4_thingLine_231 rfl (lv_at hl 0 rfl) ?_
          refine mg_r S hK hP (k := 25) (by decide) (by decide) q1445 dX4_thingLine_232 ?_
          refine lv_iload_n hx hb dX4_thingLine_235 rfl (lv_at hl 1 rfl) ?_
          refine lv_aload_n hx hb dX4_thingLine_236 rfl (lv_at hl 0 rfl) ?_
          refine mg_i S hK hP (k := 9) (by decide) (by decide) q1429 dX4_thingLine_237 ?_
          obtain ⟨hi, h⟩ := h
          refine ms_a S hK hA hP hS (k := 25) af_25 rfl hi dX4_thingLine_240 (fun M_35 H locs e_M_35 hP hS => ?_)
          replace h := h M_35 e_M_35
          exact C241 _ K136 _ _ _ _ _ _ hP hS (lv_sub hl [0, 1, 2] rfl) h
        · replace h := h.2 c_34
          refine lv_aload_n hx hb dX4_thingLine_218 rfl (lv_at hl 0 rfl) ?_
          refine mg_r S hK hP (k := 24) (by decide) (by decide) q1444 dX4_thingLine_219 ?_
          refine lv_iload_n hx hb dX4_thingLine_222 rfl (lv_at hl 1 rfl) ?_
          refine lv_aload_n hx hb dX4_thingLine_223 rfl (lv_at hl 0 rfl) ?_
          refine mg_i S hK hP (k := 9) (by decide) (by decide) q1429 dX4_thingLine_224 ?_
          obtain ⟨hi, h⟩ := h
          refine ms_a S hK hA hP hS (k := 24) af_24 rfl hi dX4_thingLine_227 (fun M_37 H locs e_M_37 hP hS => ?_)
          replace h := h M_37 e_M_37
          refine lv_goto (tgt := 241) hx hb dX4_thingLine_228 (by decide) ?_
          exact C241 _ K136 _ _ _ _ _ _ hP hS (lv_sub hl [0, 1, 2] rfl) h
      · replace h := h.1 c_33
        refine lv_iconst hx hb dX4_thingLine_212 kc_0 ?_
        exact hret _ _ _ _ _ _ hP hS h (vz_nar vz_0) dX4_thingLine_213
    · replace h := h.2 c_29
      refine lv_aload_n hx hb dX4_thingLine_191 rfl (lv_at hl 0 rfl) ?_
      refine lv_iconst hx hb dX4_thingLine_192 kc_3 ?_
      refine mc_i S hK hP hS (As := [.int (3 : Int32)]) (rest := []) (mt4_wrong l hA (3 : Int32) M _ h) (cwV 1 S.2.2.2.2 (lw_V q1660 q1662 qs72 q145 q1663) rfl rfl rfl cdX4_wrong ⟨Nat.le_of_ble_eq_true rfl, Nat.le_of_ble_eq_true rfl⟩) rfl rfl hl.1 (Nat.le_of_ble_eq_true rfl) dX4_thingLine_193 ⟨Nat.le_refl _, Nat.le_refl _⟩ (fun r_39 M_38 H locs h hP hS => ?_)
      exact hret _ _ _ _ _ _ hP hS h.2 (vz_nar h.1) dX4_thingLine_196
  have C168 : ∀ (k136 : Int32 → Int32 → MS → Prop) (K136 : (∀ (x1 : Int32) (x2 : Int32) (M : MS) (H : Heap) (locs : List Loc) (ls : Array Slot), va_P D vwCl (mo cA m0 ad M) H → va_S (mF m0 ad) s.heap H locs → lv_has ls 4 [(0, .ref m0), (1, .int x1), (2, .int x2)] → k136 x1 x2 M → W p l e rX4_thingLine s m args below meth c H locs 0 0 Q (F0 m 136 ls []))), ∀ (x1 : Int32) (x2 : Int32) (t0 : Int32) (M : MS) (H : Heap) (locs : List Loc) (ls : Array Slot), va_P D vwCl (mo cA m0 ad M) H → va_S (mF m0 ad) s.heap H locs → lv_has ls 4 [(0, .ref m0), (1, .int x1), (2, .int x2)] → w4_thingLine_c168 k136 Post x1 x2 t0 M → W p l e rX4_thingLine s m args below meth c H locs 0 0 Q (F0 m 168 ls [.int t0]) := by
    intro k136 K136
    intro x1 x2 t0 M H locs ls hP hS hl h
    unfold w4_thingLine_c168 at h
    refine lv_istore_n (lv' := [(3, .int t0), (0, .ref m0), (1, .int x1), (2, .int x2)]) hx hb dX4_thingLine_168 rfl hl (by decide) rfl (fun ls hl => ?_)
    refine lv_iload_n hx hb dX4_thingLine_169 rfl (lv_at hl 0 rfl) ?_
    refine lv_if_eq (tgt := 182) hx hb dX4_thingLine_170 (by decide) (fun c_28 => ?_) (fun c_28 => ?_)
    · replace h := h.1 c_28
      refine lv_aload_n hx hb dX4_thingLine_182 rfl (lv_at hl 1 rfl) ?_
      refine mg_r S hK hP (k := 25) (by decide) (by decide) q1445 dX4_thingLine_183 ?_
      refine lv_iload_n hx hb dX4_thingLine_186 rfl (lv_at hl 2 rfl) ?_
      obtain ⟨hi, h⟩ := h
      refine ml_a S hK hP (k := 25) af_25 rfl hi dX4_thingLine_187 ?_
      exact C188 _ K136 _ _ _ _ _ _ _ _ hP hS (lv_sub hl [1, 2, 3, 0] rfl) h
    · replace h := h.2 c_28
      refine lv_aload_n hx hb dX4_thingLine_173 rfl (lv_at hl 1 rfl) ?_
      refine mg_r S hK hP (k := 24) (by decide) (by decide) q1444 dX4_thingLine_174 ?_
      refine lv_iload_n hx hb dX4_thingLine_177 rfl (lv_at hl 2 rfl) ?_
      obtain ⟨hi, h⟩ := h
      refine ml_a S hK hP (k := 24) af_24 rfl hi dX4_thingLine_178 ?_
      refine lv_goto (tgt := 188) hx hb dX4_thingLine_179 (by decide) ?_
      exact C188 _ K136 _ _ _ _ _ _ _ _ hP hS (lv_sub hl [1, 2, 3, 0] rfl) h
  have C154 : ∀ (k136 : Int32 → Int32 → MS → Prop) (K136 : (∀ (x1 : Int32) (x2 : Int32) (M : MS) (H : Heap) (locs : List Loc) (ls : Array Slot), va_P D vwCl (mo cA m0 ad M) H → va_S (mF m0 ad) s.heap H locs → lv_has ls 4 [(0, .ref m0), (1, .int x1), (2, .int x2)] → k136 x1 x2 M → W p l e rX4_thingLine s m args below meth c H locs 0 0 Q (F0 m 136 ls []))), ∀ (x1 : Int32) (x2 : Int32) (M : MS) (H : Heap) (locs : List Loc) (ls : Array Slot), va_P D vwCl (mo cA m0 ad M) H → va_S (mF m0 ad) s.heap H locs → lv_has ls 4 [(0, .ref m0), (1, .int x1), (2, .int x2)] → w4_thingLine_c154 k136 Post x1 x2 M → W p l e rX4_thingLine s m args below meth c H locs 0 0 Q (F0 m 154 ls []) := by
    intro k136 K136
    intro x1 x2 M H locs ls hP hS hl h
    unfold w4_thingLine_c154 at h
    refine lv_aload_n hx hb dX4_thingLine_154 rfl (lv_at hl 0 rfl) ?_
    refine mg_i S hK hP (k := 9) (by decide) (by decide) q1429 dX4_thingLine_155 ?_
    refine lv_bipush hx hb dX4_thingLine_158 kb_9 ?_
    refine lv_icmp_ne (tgt := 167) hx hb dX4_thingLine_160 (by decide) (fun c_27 => ?_) (fun c_27 => ?_)
    · replace h := h.2 c_27
      refine lv_iconst hx hb dX4_thingLine_167 kc_0 ?_
      exact C168 _ K136 _ _ _ _ _ _ _ hP hS (lv_sub hl [0, 1, 2] rfl) h
    · replace h := h.1 c_27
      refine lv_iconst hx hb dX4_thingLine_163 kc_1 ?_
      refine lv_goto (tgt := 168) hx hb dX4_thingLine_164 (by decide) ?_
      exact C168 _ K136 _ _ _ _ _ _ _ hP hS (lv_sub hl [0, 1, 2] rfl) h
  have L136 : ∀ (n : Nat) (x1 : Int32) (x2 : Int32) (M : MS) (H : Heap) (locs : List Loc) (ls : Array Slot), va_P D vwCl (mo cA m0 ad M) H → va_S (mF m0 ad) s.heap H locs → lv_has ls 4 [(0, .ref m0), (1, .int x1), (2, .int x2)] → w4_thingLine_l136 Post n x1 x2 M → W p l e rX4_thingLine s m args below meth c H locs 0 0 Q (F0 m 136 ls []) := by
    intro n
    induction n with
    | zero => intro x1 x2 M H locs ls hP hS hl h; rw [w4_thingLine_l136] at h; exact h.elim
    | succ n ih =>
      intro x1 x2 M H locs ls hP hS hl h
      rw [w4_thingLine_l136] at h
      refine lv_aload_n hx hb dX4_thingLine_136 rfl (lv_at hl 0 rfl) ?_
      refine lv_bipush hx hb dX4_thingLine_137 kb_9 ?_
      refine mc_i S hK hP hS (As := [.int (9 : Int32)]) (rest := []) (mt4_isKey l hA (9 : Int32) M _ h) (cwV 1 S.2.2.2.2 (lw_V q1684 q1686 qs78 q145 q1687) rfl rfl rfl cdX4_isKey ⟨Nat.le_of_ble_eq_true rfl, Nat.le_of_ble_eq_true rfl⟩) rfl rfl hl.1 (Nat.le_of_ble_eq_true rfl) dX4_thingLine_139 ⟨Nat.le_refl _, Nat.le_refl _⟩ (fun r_25 M_24 H locs h hP hS => ?_)
      refine lv_if_ne (tgt := 154) hx hb dX4_thingLine_142 (by decide) (fun c_26 => ?_) (fun c_26 => ?_)
      · replace h := h.2 c_26
        exact C154 _ ih _ _ _ _ _ _ hP hS (lv_sub hl [0, 1, 2] rfl) h
      · replace h := h.1 c_26
        refine lv_aload_n hx hb dX4_thingLine_145 rfl (lv_at hl 0 rfl) ?_
        refine lv_bipush hx hb dX4_thingLine_146 kb_10 ?_
        refine mc_i S hK hP hS (As := [.int (10 : Int32)]) (rest := []) (mt4_isKey l hA (10 : Int32) M_24 _ h) (cwV 1 S.2.2.2.2 (lw_V q1684 q1686 qs78 q145 q1687) rfl rfl rfl cdX4_isKey ⟨Nat.le_of_ble_eq_true rfl, Nat.le_of_ble_eq_true rfl⟩) rfl rfl hl.1 (Nat.le_of_ble_eq_true rfl) dX4_thingLine_148 ⟨Nat.le_refl _, Nat.le_refl _⟩ (fun r_41 M_40 H locs h hP hS => ?_)
        refine lv_if_eq (tgt := 248) hx hb dX4_thingLine_151 (by decide) (fun c_42 => ?_) (fun c_42 => ?_)
        · replace h := h.1 c_42
          refine lv_aload_n hx hb dX4_thingLine_248 rfl (lv_at hl 0 rfl) ?_
          refine mg_r S hK hP (k := 21) (by decide) (by decide) q1441 dX4_thingLine_249 ?_
          refine lv_iload_n hx hb dX4_thingLine_252 rfl (lv_at hl 1 rfl) ?_
          refine lv_iload_n hx hb dX4_thingLine_253 rfl (lv_at hl 2 rfl) ?_
          obtain ⟨hi, h⟩ := h
          refine ms_a S hK hA hP hS (k := 21) af_21 rfl hi dX4_thingLine_254 (fun M_43 H locs e_M_43 hP hS => ?_)
          replace h := h M_43 e_M_43
          refine lv_aload_n hx hb dX4_thingLine_255 rfl (lv_at hl 0 rfl) ?_
          refine lv_dup hx hb dX4_thingLine_256 rfl ?_
          refine mg_i S hK hP (k := 16) (by decide) (by decide) q1436 dX4_thingLine_257 ?_
          refine lv_iconst hx hb dX4_thingLine_260 kc_1 ?_
          refine lv_iadd hx hb dX4_thingLine_261 ?_
          refine mp_i S hK hA hP hS (k := 16) (by decide) (Or.inl rfl) rfl (Or.inl ⟨rfl, rfl⟩) q1436 dX4_thingLine_262 (fun M_44 H locs e_M_44 hP hS => ?_)
          replace h := h M_44 e_M_44
          refine lv_iconst hx hb dX4_thingLine_265 kc_1 ?_
          exact hret _ _ _ _ _ _ hP hS h (vz_nar vz_1) dX4_thingLine_266
        · replace h := h.2 c_42
          exact C154 _ ih _ _ _ _ _ _ hP hS (lv_sub hl [0, 1, 2] rfl) h
  unfold w4_thingLine at h
  refine lv_aload_n hx hb dX4_thingLine_0 rfl (lv_at hl 0 rfl) ?_
  refine mg_i S hK hP (k := 16) (by decide) (by decide) q1436 dX4_thingLine_1 ?_
  refine lv_bipush hx hb dX4_thingLine_4 kb_8 ?_
  refine lv_icmp_ne (tgt := 15) hx hb dX4_thingLine_6 (by decide) (fun c_1 => ?_) (fun c_1 => ?_)
  · replace h := h.2 c_1
    refine lv_aload_n hx hb dX4_thingLine_15 rfl (lv_at hl 0 rfl) ?_
    refine mc_v S hK hP hS (As := []) (rest := []) (mt4_take l hA M _ h) (cwV 0 S.2.2.2.2 (lw_V q1632 q1634 qs65 q145 q1635) rfl rfl rfl cdX4_take ⟨Nat.le_of_ble_eq_true rfl, Nat.le_of_ble_eq_true rfl⟩) rfl rfl hl.1 (Nat.le_of_ble_eq_true rfl) dX4_thingLine_16 ⟨Nat.le_refl _, Nat.le_refl _⟩ (fun M_2 H locs h hP hS => ?_)
    refine lv_aload_n hx hb dX4_thingLine_19 rfl (lv_at hl 0 rfl) ?_
    refine lv_aload_n hx hb dX4_thingLine_20 rfl (lv_at hl 0 rfl) ?_
    refine mg_r S hK hP (k := 21) (by decide) (by decide) q1441 dX4_thingLine_21 ?_
    refine lv_bipush hx hb dX4_thingLine_24 kb_8 ?_
    refine lv_aload_n hx hb dX4_thingLine_26 rfl (lv_at hl 0 rfl) ?_
    refine mg_i S hK hP (k := 16) (by decide) (by decide) q1436 dX4_thingLine_27 ?_
    refine mc_i S hK hP hS (As := [.ref (ad 21), .int (8 : Int32), .int (mi M_2 16)]) (rest := []) (mt4_newName l hA 21 (8 : Int32) (mi M_2 16) af_21 rfl M_2 _ h) (cwV 3 S.2.2.2.2 (lw_V q1668 q1670 qs74 q145 q1671) rfl rfl rfl cdX4_newName ⟨Nat.le_of_ble_eq_true rfl, Nat.le_of_ble_eq_true rfl⟩) rfl rfl hl.1 (Nat.le_of_ble_eq_true rfl) dX4_thingLine_30 ⟨Nat.le_refl _, Nat.le_refl _⟩ (fun r_4 M_3 H locs h hP hS => ?_)
    refine lv_if_ne (tgt := 38) hx hb dX4_thingLine_33 (by decide) (fun c_5 => ?_) (fun c_5 => ?_)
    · replace h := h.2 c_5
      refine lv_bipush hx hb dX4_thingLine_38 kb_8 ?_
      refine lv_aload_n hx hb dX4_thingLine_40 rfl (lv_at hl 0 rfl) ?_
      refine mg_i S hK hP (k := 16) (by decide) (by decide) q1436 dX4_thingLine_41 ?_
      refine lv_iadd hx hb dX4_thingLine_44 ?_
      refine lv_topi (fun v_6 e_v_6 => ?_)
      replace h := h v_6 e_v_6
      refine lv_istore_n (lv' := [(1, .int v_6), (0, .ref m0)]) hx hb dX4_thingLine_45 rfl hl (by decide) rfl (fun ls hl => ?_)
      refine lv_aload_n hx hb dX4_thingLine_46 rfl (lv_at hl 1 rfl) ?_
      refine mg_i S hK hP (k := 9) (by decide) (by decide) q1429 dX4_thingLine_47 ?_
      refine lv_topi (fun v_7 e_v_7 => ?_)
      replace h := h v_7 e_v_7
      refine lv_istore_n (lv' := [(2, .int v_7), (1, .int v_6), (0, .ref m0)]) hx hb dX4_thingLine_50 rfl hl (by decide) rfl (fun ls hl => ?_)
      refine lv_aload_n hx hb dX4_thingLine_51 rfl (lv_at hl 2 rfl) ?_
      refine mc_v S hK hP hS (As := []) (rest := []) (mt4_take l hA M_3 _ h) (cwV 0 S.2.2.2.2 (lw_V q1632 q1634 qs65 q145 q1635) rfl rfl rfl cdX4_take ⟨Nat.le_of_ble_eq_true rfl, Nat.le_of_ble_eq_true rfl⟩) rfl rfl hl.1 (Nat.le_of_ble_eq_true rfl) dX4_thingLine_52 ⟨Nat.le_refl _, Nat.le_refl _⟩ (fun M_8 H locs h hP hS => ?_)
      refine lv_aload_n hx hb dX4_thingLine_55 rfl (lv_at hl 2 rfl) ?_
      refine lv_iconst hx hb dX4_thingLine_56 kc_2 ?_
      refine lv_bipush hx hb dX4_thingLine_57 kb_9 ?_
      refine mc_i S hK hP hS (As := [.int (2 : Int32), .int (9 : Int32)]) (rest := []) (mt4_numberRead l hA (2 : Int32) (9 : Int32) M_8 _ h) (cwV 2 S.2.2.2.2 (lw_V q1676 q1678 qs76 q145 q1679) rfl rfl rfl cdX4_numberRead ⟨Nat.le_of_ble_eq_true rfl, Nat.le_of_ble_eq_true rfl⟩) rfl rfl hl.1 (Nat.le_of_ble_eq_true rfl) dX4_thingLine_59 ⟨Nat.le_refl _, Nat.le_refl _⟩ (fun r_10 M_9 H locs h hP hS => ?_)
      refine lv_if_ne (tgt := 67) hx hb dX4_thingLine_62 (by decide) (fun c_11 => ?_) (fun c_11 => ?_)
      · replace h := h.2 c_11
        refine lv_aload_n hx hb dX4_thingLine_67 rfl (lv_at hl 2 rfl) ?_
        refine mg_r S hK hP (k := 22) (by decide) (by decide) q1442 dX4_thingLine_68 ?_
        refine lv_iload_n hx hb dX4_thingLine_71 rfl (lv_at hl 1 rfl) ?_
        refine lv_aload_n hx hb dX4_thingLine_72 rfl (lv_at hl 2 rfl) ?_
        refine mg_i S hK hP (k := 9) (by decide) (by decide) q1429 dX4_thingLine_73 ?_
        obtain ⟨hi, h⟩ := h
        refine ms_a S hK hA hP hS (k := 22) af_22 rfl hi dX4_thingLine_76 (fun M_12 H locs e_M_12 hP hS => ?_)
        replace h := h M_12 e_M_12
        refine lv_aload_n hx hb dX4_thingLine_77 rfl (lv_at hl 2 rfl) ?_
        refine mc_v S hK hP hS (As := []) (rest := []) (mt4_take l hA M_12 _ h) (cwV 0 S.2.2.2.2 (lw_V q1632 q1634 qs65 q145 q1635) rfl rfl rfl cdX4_take ⟨Nat.le_of_ble_eq_true rfl, Nat.le_of_ble_eq_true rfl⟩) rfl rfl hl.1 (Nat.le_of_ble_eq_true rfl) dX4_thingLine_78 ⟨Nat.le_refl _, Nat.le_refl _⟩ (fun M_13 H locs h hP hS => ?_)
        refine lv_aload_n hx hb dX4_thingLine_81 rfl (lv_at hl 2 rfl) ?_
        refine lv_bipush hx hb dX4_thingLine_82 kb_8 ?_
        refine mc_i S hK hP hS (As := [.int (8 : Int32)]) (rest := []) (mt4_keyRead l hA (8 : Int32) M_13 _ h) (cwV 1 S.2.2.2.2 (lw_V q1680 q1682 qs77 q145 q1683) rfl rfl rfl cdX4_keyRead ⟨Nat.le_of_ble_eq_true rfl, Nat.le_of_ble_eq_true rfl⟩) rfl rfl hl.1 (Nat.le_of_ble_eq_true rfl) dX4_thingLine_84 ⟨Nat.le_refl _, Nat.le_refl _⟩ (fun r_15 M_14 H locs h hP hS => ?_)
        refine lv_if_eq (tgt := 106) hx hb dX4_thingLine_87 (by decide) (fun c_16 => ?_) (fun c_16 => ?_)
        · replace h := h.1 c_16
          refine lv_iconst hx hb dX4_thingLine_106 kc_0 ?_
          exact hret _ _ _ _ _ _ hP hS h (vz_nar vz_0) dX4_thingLine_107
        · replace h := h.2 c_16
          refine lv_aload_n hx hb dX4_thingLine_90 rfl (lv_at hl 2 rfl) ?_
          refine lv_iconst hx hb dX4_thingLine_91 kc_0 ?_
          refine lv_aload_n hx hb dX4_thingLine_92 rfl (lv_at hl 2 rfl) ?_
          refine mg_r S hK hP (k := 22) (by decide) (by decide) q1442 dX4_thingLine_93 ?_
          refine lv_iload_n hx hb dX4_thingLine_96 rfl (lv_at hl 1 rfl) ?_
          obtain ⟨hi, h⟩ := h
          refine ml_a S hK hP (k := 22) af_22 rfl hi dX4_thingLine_97 ?_
          refine lv_iconst hx hb dX4_thingLine_98 kc_1 ?_
          refine lv_isub hx hb dX4_thingLine_99 ?_
          refine mc_i S hK hP hS (As := [.int (0 : Int32), .int ((ma M_14 22 (Int32.toNatClampNeg v_6)) - (1 : Int32))]) (rest := []) (mt4_numberRead l hA (0 : Int32) ((ma M_14 22 (Int32.toNatClampNeg v_6)) - (1 : Int32)) M_14 _ h) (cwV 2 S.2.2.2.2 (lw_V q1676 q1678 qs76 q145 q1679) rfl rfl rfl cdX4_numberRead ⟨Nat.le_of_ble_eq_true rfl, Nat.le_of_ble_eq_true rfl⟩) rfl rfl hl.1 (Nat.le_of_ble_eq_true rfl) dX4_thingLine_100 ⟨Nat.le_refl _, Nat.le_refl _⟩ (fun r_18 M_17 H locs h hP hS => ?_)
          refine lv_if_ne (tgt := 108) hx hb dX4_thingLine_103 (by decide) (fun c_19 => ?_) (fun c_19 => ?_)
          · replace h := h.2 c_19
            refine lv_aload_n hx hb dX4_thingLine_108 rfl (lv_at hl 2 rfl) ?_
            refine mg_r S hK hP (k := 23) (by decide) (by decide) q1443 dX4_thingLine_109 ?_
            refine lv_iload_n hx hb dX4_thingLine_112 rfl (lv_at hl 1 rfl) ?_
            refine lv_aload_n hx hb dX4_thingLine_113 rfl (lv_at hl 2 rfl) ?_
            refine mg_i S hK hP (k := 9) (by decide) (by decide) q1429 dX4_thingLine_114 ?_
            obtain ⟨hi, h⟩ := h
            refine ms_a S hK hA hP hS (k := 23) af_23 rfl hi dX4_thingLine_117 (fun M_20 H locs e_M_20 hP hS => ?_)
            replace h := h M_20 e_M_20
            refine lv_aload_n hx hb dX4_thingLine_118 rfl (lv_at hl 2 rfl) ?_
            refine mg_r S hK hP (k := 24) (by decide) (by decide) q1444 dX4_thingLine_119 ?_
            refine lv_iload_n hx hb dX4_thingLine_122 rfl (lv_at hl 1 rfl) ?_
            refine lv_iconst hx hb dX4_thingLine_123 kc_m1 ?_
            obtain ⟨hi, h⟩ := h
            refine ms_a S hK hA hP hS (k := 24) af_24 rfl hi dX4_thingLine_124 (fun M_21 H locs e_M_21 hP hS => ?_)
            replace h := h M_21 e_M_21
            refine lv_aload_n hx hb dX4_thingLine_125 rfl (lv_at hl 2 rfl) ?_
            refine mg_r S hK hP (k := 25) (by decide) (by decide) q1445 dX4_thingLine_126 ?_
            refine lv_iload_n hx hb dX4_thingLine_129 rfl (lv_at hl 1 rfl) ?_
            refine lv_iconst hx hb dX4_thingLine_130 kc_m1 ?_
            obtain ⟨hi, h⟩ := h
            refine ms_a S hK hA hP hS (k := 25) af_25 rfl hi dX4_thingLine_131 (fun M_22 H locs e_M_22 hP hS => ?_)
            replace h := h M_22 e_M_22
            refine lv_aload_n hx hb dX4_thingLine_132 rfl (lv_at hl 2 rfl) ?_
            refine mc_v S hK hP hS (As := []) (rest := []) (mt4_take l hA M_22 _ h) (cwV 0 S.2.2.2.2 (lw_V q1632 q1634 qs65 q145 q1635) rfl rfl rfl cdX4_take ⟨Nat.le_of_ble_eq_true rfl, Nat.le_of_ble_eq_true rfl⟩) rfl rfl hl.1 (Nat.le_of_ble_eq_true rfl) dX4_thingLine_133 ⟨Nat.le_refl _, Nat.le_refl _⟩ (fun M_23 H locs h hP hS => ?_)
            obtain ⟨f, h⟩ := h
            exact L136 f _ _ _ _ _ _ hP hS (lv_sub hl [2, 1, 0] rfl) h
          · replace h := h.1 c_19
            refine lv_iconst hx hb dX4_thingLine_106 kc_0 ?_
            exact hret _ _ _ _ _ _ hP hS h (vz_nar vz_0) dX4_thingLine_107
      · replace h := h.1 c_11
        refine lv_iconst hx hb dX4_thingLine_65 kc_0 ?_
        exact hret _ _ _ _ _ _ hP hS h (vz_nar vz_0) dX4_thingLine_66
    · replace h := h.1 c_5
      refine lv_iconst hx hb dX4_thingLine_36 kc_0 ?_
      exact hret _ _ _ _ _ _ hP hS h (vz_nar vz_0) dX4_thingLine_37
  · replace h := h.1 c_1
    refine lv_aload_n hx hb dX4_thingLine_9 rfl (lv_at hl 0 rfl) ?_
    refine lv_iconst hx hb dX4_thingLine_10 kc_2 ?_
    refine mc_i S hK hP hS (As := [.int (2 : Int32)]) (rest := []) (mt4_wrong l hA (2 : Int32) M _ h) (cwV 1 S.2.2.2.2 (lw_V q1660 q1662 qs72 q145 q1663) rfl rfl rfl cdX4_wrong ⟨Nat.le_of_ble_eq_true rfl, Nat.le_of_ble_eq_true rfl⟩) rfl rfl hl.1 (Nat.le_of_ble_eq_true rfl) dX4_thingLine_11 ⟨Nat.le_refl _, Nat.le_refl _⟩ (fun r_46 M_45 H locs h hP hS => ?_)
    exact hret _ _ _ _ _ _ hP hS h.2 (vz_nar h.1) dX4_thingLine_14
def w4_tellerLine_c210 (Post : Int32 → MS → Prop) (x1 : Int32) (x2 : Int32) (M : MS) : Prop := (vp_in x1 (mN 26) ∧ ∀ M_34 : MS, M_34 = sa M 26 (Int32.toNatClampNeg x1) x2 → ∀ M_35 : MS, M_35 = si M_34 17 ((mi M_34 17) + (1 : Int32)) → Post (1 : Int32) M_35)
def w4_tellerLine (M : MS) (Post : Int32 → MS → Prop) : Prop := ((mi M 17) = (5 : Int32) → (w4_wrong (2 : Int32) M (fun r_43 M_42 => vz r_43 ∧ Post r_43 M_42))) ∧ (¬ ((mi M 17) = (5 : Int32)) → (w4_take M (fun M_2 => w4_newName 26 (5 : Int32) (mi M_2 17) M_2 (fun r_4 M_3 => (r_4 = 0 → (Post (0 : Int32) M_3)) ∧ (¬ (r_4 = 0) → (∀ v_6 : Int32, v_6 = (5 : Int32) + (mi M_3 17) → ∀ v_7 : Int32, v_7 = mi M_3 9 → w4_take M_3 (fun M_8 => w4_numberRead (1 : Int32) (99 : Int32) M_8 (fun r_10 M_9 => (r_10 = 0 → (Post (0 : Int32) M_9)) ∧ (¬ (r_10 = 0) → ((vp_in v_6 (mN 27) ∧ ∀ M_12 : MS, M_12 = sa M_9 27 (Int32.toNatClampNeg v_6) (mi M_9 9) → w4_take M_12 (fun M_13 => w4_keyRead (11 : Int32) M_13 (fun r_15 M_14 => (r_15 = 0 → (Post (0 : Int32) M_14)) ∧ (¬ (r_15 = 0) → (w4_numberRead (0 : Int32) (199 : Int32) M_14 (fun r_18 M_17 => (r_18 = 0 → (Post (0 : Int32) M_17)) ∧ (¬ (r_18 = 0) → ((vp_in v_6 (mN 28) ∧ ∀ M_20 : MS, M_20 = sa M_17 28 (Int32.toNatClampNeg v_6) (mi M_17 9) → w4_take M_20 (fun M_21 => w4_keyRead (12 : Int32) M_21 (fun r_23 M_22 => (r_23 = 0 → (Post (0 : Int32) M_22)) ∧ (¬ (r_23 = 0) → ((vp_in v_6 (mN 28) ∧ w4_numberRead (ma M_22 28 (Int32.toNatClampNeg v_6)) (199 : Int32) M_22 (fun r_26 M_25 => (r_26 = 0 → (Post (0 : Int32) M_25)) ∧ (¬ (r_26 = 0) → ((vp_in v_6 (mN 29) ∧ ∀ M_28 : MS, M_28 = sa M_25 29 (Int32.toNatClampNeg v_6) (mi M_25 9) → (vp_in v_6 (mN 30) ∧ ∀ M_29 : MS, M_29 = sa M_28 30 (Int32.toNatClampNeg v_6) (-1 : Int32) → w4_take M_29 (fun M_30 => w4_isKey (13 : Int32) M_30 (fun r_32 M_31 => (r_32 = 0 → (w4_tellerLine_c210 Post v_6 v_7 M_31)) ∧ (¬ (r_32 = 0) → (w4_take M_31 (fun M_36 => (vp_in v_6 (mN 28) ∧ (vp_in v_6 (mN 29) ∧ w4_numberRead (ma M_36 28 (Int32.toNatClampNeg v_6)) (ma M_36 29 (Int32.toNatClampNeg v_6)) M_36 (fun r_38 M_37 => (r_38 = 0 → (Post (0 : Int32) M_37)) ∧ (¬ (r_38 = 0) → ((vp_in v_6 (mN 30) ∧ ∀ M_40 : MS, M_40 = sa M_37 30 (Int32.toNatClampNeg v_6) (mi M_37 9) → w4_take M_40 (fun M_41 => w4_tellerLine_c210 Post v_6 v_7 M_41)))))))))))))))))))))))))))))))))))))))))
abbrev rX4_tellerLine : Room := { frames := 3, cells := 0, slots := 0, locals := 68 }
theorem cdX4_tellerLine : yX4_tellerLine.cls = RX4 ∧ yX4_tellerLine.cls ≠ "java/lang/invoke/MethodHandle" ∧ yX4_tellerLine.cls ≠ "java/lang/invoke/VarHandle" ∧ (parseMethodDescriptor yX4_tellerLine.desc).map (fun d => d.parameters.length) = some 0 := by decide +kernel
set_option maxHeartbeats 4000000 in
set_option maxRecDepth 100000 in
theorem mt4_tellerLine (l : Launch) {D : va_G} {cA : Nat → ClassId} {m0 : Nat} {ad : Nat → Nat} (hA : mAd m0 ad) (M : MS) (Post : Int32 → MS → Prop) (h : w4_tellerLine M Post) : Met l yX4_tellerLine (ws_ yX4_tellerLine cX4_tellerLine 3 (some .boolean)) rX4_tellerLine (mPc [.ref m0] D cA m0 ad M) (va_Qi Post (mB D cA m0 ad) (mF m0 ad)) 0 0 (mF m0 ad) := by
  refine mst_i (own := RX4) (by decide) rfl (Nat.le_of_ble_eq_true rfl) ?_
  intro p e s m args below meth c Q ls S hK hP hS hl hret
  have hx := S.1
  have hb := S.2.1
  have hl : lv_has ls 3 [(0, .ref m0)] := hl
  have C210 : ∀ (x1 : Int32) (x2 : Int32) (M : MS) (H : Heap) (locs : List Loc) (ls : Array Slot), va_P D vwCl (mo cA m0 ad M) H → va_S (mF m0 ad) s.heap H locs → lv_has ls 3 [(0, .ref m0), (1, .int x1), (2, .int x2)] → w4_tellerLine_c210 Post x1 x2 M → W p l e rX4_tellerLine s m args below meth c H locs 0 0 Q (F0 m 210 ls []) := by
    intro x1 x2 M H locs ls hP hS hl h
    unfold w4_tellerLine_c210 at h
    refine lv_aload_n hx hb dX4_tellerLine_210 rfl (lv_at hl 0 rfl) ?_
    refine mg_r S hK hP (k := 26) (by decide) (by decide) q1446 dX4_tellerLine_211 ?_
    refine lv_iload_n hx hb dX4_tellerLine_214 rfl (lv_at hl 1 rfl) ?_
    refine lv_iload_n hx hb dX4_tellerLine_215 rfl (lv_at hl 2 rfl) ?_
    obtain ⟨hi, h⟩ := h
    refine ms_a S hK hA hP hS (k := 26) af_26 rfl hi dX4_tellerLine_216 (fun M_34 H locs e_M_34 hP hS => ?_)
    replace h := h M_34 e_M_34
    refine lv_aload_n hx hb dX4_tellerLine_217 rfl (lv_at hl 0 rfl) ?_
    refine lv_dup hx hb dX4_tellerLine_218 rfl ?_
    refine mg_i S hK hP (k := 17) (by decide) (by decide) q1437 dX4_tellerLine_219 ?_
    refine lv_iconst hx hb dX4_tellerLine_222 kc_1 ?_
    refine lv_iadd hx hb dX4_tellerLine_223 ?_
    refine mp_i S hK hA hP hS (k := 17) (by decide) (Or.inl rfl) rfl (Or.inl ⟨rfl, rfl⟩) q1437 dX4_tellerLine_224 (fun M_35 H locs e_M_35 hP hS => ?_)
    replace h := h M_35 e_M_35
    refine lv_iconst hx hb dX4_tellerLine_227 kc_1 ?_
    exact hret _ _ _ _ _ _ hP hS h (vz_nar vz_1) dX4_tellerLine_228
  unfold w4_tellerLine at h
  refine lv_aload_n hx hb dX4_tellerLine_0 rfl (lv_at hl 0 rfl) ?_
  refine mg_i S hK hP (k := 17) (by decide) (by decide) q1437 dX4_tellerLine_1 ?_
  refine lv_iconst hx hb dX4_tellerLine_4 kc_5 ?_
  refine lv_icmp_ne (tgt := 14) hx hb dX4_tellerLine_5 (by decide) (fun c_1 => ?_) (fun c_1 => ?_)
  · replace h := h.2 c_1
    refine lv_aload_n hx hb dX4_tellerLine_14 rfl (lv_at hl 0 rfl) ?_
    refine mc_v S hK hP hS (As := []) (rest := []) (mt4_take l hA M _ h) (cwV 0 S.2.2.2.2 (lw_V q1632 q1634 qs65 q145 q1635) rfl rfl rfl cdX4_take ⟨Nat.le_of_ble_eq_true rfl, Nat.le_of_ble_eq_true rfl⟩) rfl rfl hl.1 (Nat.le_of_ble_eq_true rfl) dX4_tellerLine_15 ⟨Nat.le_refl _, Nat.le_refl _⟩ (fun M_2 H locs h hP hS => ?_)
    refine lv_aload_n hx hb dX4_tellerLine_18 rfl (lv_at hl 0 rfl) ?_
    refine lv_aload_n hx hb dX4_tellerLine_19 rfl (lv_at hl 0 rfl) ?_
    refine mg_r S hK hP (k := 26) (by decide) (by decide) q1446 dX4_tellerLine_20 ?_
    refine lv_iconst hx hb dX4_tellerLine_23 kc_5 ?_
    refine lv_aload_n hx hb dX4_tellerLine_24 rfl (lv_at hl 0 rfl) ?_
    refine mg_i S hK hP (k := 17) (by decide) (by decide) q1437 dX4_tellerLine_25 ?_
    refine mc_i S hK hP hS (As := [.ref (ad 26), .int (5 : Int32), .int (mi M_2 17)]) (rest := []) (mt4_newName l hA 26 (5 : Int32) (mi M_2 17) af_26 rfl M_2 _ h) (cwV 3 S.2.2.2.2 (lw_V q1668 q1670 qs74 q145 q1671) rfl rfl rfl cdX4_newName ⟨Nat.le_of_ble_eq_true rfl, Nat.le_of_ble_eq_true rfl⟩) rfl rfl hl.1 (Nat.le_of_ble_eq_true rfl) dX4_tellerLine_28 ⟨Nat.le_refl _, Nat.le_refl _⟩ (fun r_4 M_3 H locs h hP hS => ?_)
    refine lv_if_ne (tgt := 36) hx hb dX4_tellerLine_31 (by decide) (fun c_5 => ?_) (fun c_5 => ?_)
    · replace h := h.2 c_5
      refine lv_iconst hx hb dX4_tellerLine_36 kc_5 ?_
      refine lv_aload_n hx hb dX4_tellerLine_37 rfl (lv_at hl 0 rfl) ?_
      refine mg_i S hK hP (k := 17) (by decide) (by decide) q1437 dX4_tellerLine_38 ?_
      refine lv_iadd hx hb dX4_tellerLine_41 ?_
      refine lv_topi (fun v_6 e_v_6 => ?_)
      replace h := h v_6 e_v_6
      refine lv_istore_n (lv' := [(1, .int v_6), (0, .ref m0)]) hx hb dX4_tellerLine_42 rfl hl (by decide) rfl (fun ls hl => ?_)
      refine lv_aload_n hx hb dX4_tellerLine_43 rfl (lv_at hl 1 rfl) ?_
      refine mg_i S hK hP (k := 9) (by decide) (by decide) q1429 dX4_tellerLine_44 ?_
      refine lv_topi (fun v_7 e_v_7 => ?_)
      replace h := h v_7 e_v_7
      refine lv_istore_n (lv' := [(2, .int v_7), (1, .int v_6), (0, .ref m0)]) hx hb dX4_tellerLine_47 rfl hl (by decide) rfl (fun ls hl => ?_)
      refine lv_aload_n hx hb dX4_tellerLine_48 rfl (lv_at hl 2 rfl) ?_
      refine mc_v S hK hP hS (As := []) (rest := []) (mt4_take l hA M_3 _ h) (cwV 0 S.2.2.2.2 (lw_V q1632 q1634 qs65 q145 q1635) rfl rfl rfl cdX4_take ⟨Nat.le_of_ble_eq_true rfl, Nat.le_of_ble_eq_true rfl⟩) rfl rfl hl.1 (Nat.le_of_ble_eq_true rfl) dX4_tellerLine_49 ⟨Nat.le_refl _, Nat.le_refl _⟩ (fun M_8 H locs h hP hS => ?_)
      refine lv_aload_n hx hb dX4_tellerLine_52 rfl (lv_at hl 2 rfl) ?_
      refine lv_iconst hx hb dX4_tellerLine_53 kc_1 ?_
      refine lv_bipush hx hb dX4_tellerLine_54 kb_99 ?_
      refine mc_i S hK hP hS (As := [.int (1 : Int32), .int (99 : Int32)]) (rest := []) (mt4_numberRead l hA (1 : Int32) (99 : Int32) M_8 _ h) (cwV 2 S.2.2.2.2 (lw_V q1676 q1678 qs76 q145 q1679) rfl rfl rfl cdX4_numberRead ⟨Nat.le_of_ble_eq_true rfl, Nat.le_of_ble_eq_true rfl⟩) rfl rfl hl.1 (Nat.le_of_ble_eq_true rfl) dX4_tellerLine_56 ⟨Nat.le_refl _, Nat.le_refl _⟩ (fun r_10 M_9 H locs h hP hS => ?_)
      refine lv_if_ne (tgt := 64) hx hb dX4_tellerLine_59 (by decide) (fun c_11 => ?_) (fun c_11 => ?_)
      · replace h := h.2 c_11
        refine lv_aload_n hx hb dX4_tellerLine_64 rfl (lv_at hl 2 rfl) ?_
        refine mg_r S hK hP (k := 27) (by decide) (by decide) q1447 dX4_tellerLine_65 ?_
        refine lv_iload_n hx hb dX4_tellerLine_68 rfl (lv_at hl 1 rfl) ?_
        refine lv_aload_n hx hb dX4_tellerLine_69 rfl (lv_at hl 2 rfl) ?_
        refine mg_i S hK hP (k := 9) (by decide) (by decide) q1429 dX4_tellerLine_70 ?_
        obtain ⟨hi, h⟩ := h
        refine ms_a S hK hA hP hS (k := 27) af_27 rfl hi dX4_tellerLine_73 (fun M_12 H locs e_M_12 hP hS => ?_)
        replace h := h M_12 e_M_12
        refine lv_aload_n hx hb dX4_tellerLine_74 rfl (lv_at hl 2 rfl) ?_
        refine mc_v S hK hP hS (As := []) (rest := []) (mt4_take l hA M_12 _ h) (cwV 0 S.2.2.2.2 (lw_V q1632 q1634 qs65 q145 q1635) rfl rfl rfl cdX4_take ⟨Nat.le_of_ble_eq_true rfl, Nat.le_of_ble_eq_true rfl⟩) rfl rfl hl.1 (Nat.le_of_ble_eq_true rfl) dX4_tellerLine_75 ⟨Nat.le_refl _, Nat.le_refl _⟩ (fun M_13 H locs h hP hS => ?_)
        refine lv_aload_n hx hb dX4_tellerLine_78 rfl (lv_at hl 2 rfl) ?_
        refine lv_bipush hx hb dX4_tellerLine_79 kb_11 ?_
        refine mc_i S hK hP hS (As := [.int (11 : Int32)]) (rest := []) (mt4_keyRead l hA (11 : Int32) M_13 _ h) (cwV 1 S.2.2.2.2 (lw_V q1680 q1682 qs77 q145 q1683) rfl rfl rfl cdX4_keyRead ⟨Nat.le_of_ble_eq_true rfl, Nat.le_of_ble_eq_true rfl⟩) rfl rfl hl.1 (Nat.le_of_ble_eq_true rfl) dX4_tellerLine_81 ⟨Nat.le_refl _, Nat.le_refl _⟩ (fun r_15 M_14 H locs h hP hS => ?_)
        refine lv_if_eq (tgt := 98) hx hb dX4_tellerLine_84 (by decide) (fun c_16 => ?_) (fun c_16 => ?_)
        · replace h := h.1 c_16
          refine lv_iconst hx hb dX4_tellerLine_98 kc_0 ?_
          exact hret _ _ _ _ _ _ hP hS h (vz_nar vz_0) dX4_tellerLine_99
        · replace h := h.2 c_16
          refine lv_aload_n hx hb dX4_tellerLine_87 rfl (lv_at hl 2 rfl) ?_
          refine lv_iconst hx hb dX4_tellerLine_88 kc_0 ?_
          refine lv_sipush hx hb dX4_tellerLine_89 ks_199 ?_
          refine mc_i S hK hP hS (As := [.int (0 : Int32), .int (199 : Int32)]) (rest := []) (mt4_numberRead l hA (0 : Int32) (199 : Int32) M_14 _ h) (cwV 2 S.2.2.2.2 (lw_V q1676 q1678 qs76 q145 q1679) rfl rfl rfl cdX4_numberRead ⟨Nat.le_of_ble_eq_true rfl, Nat.le_of_ble_eq_true rfl⟩) rfl rfl hl.1 (Nat.le_of_ble_eq_true rfl) dX4_tellerLine_92 ⟨Nat.le_refl _, Nat.le_refl _⟩ (fun r_18 M_17 H locs h hP hS => ?_)
          refine lv_if_ne (tgt := 100) hx hb dX4_tellerLine_95 (by decide) (fun c_19 => ?_) (fun c_19 => ?_)
          · replace h := h.2 c_19
            refine lv_aload_n hx hb dX4_tellerLine_100 rfl (lv_at hl 2 rfl) ?_
            refine mg_r S hK hP (k := 28) (by decide) (by decide) q1448 dX4_tellerLine_101 ?_
            refine lv_iload_n hx hb dX4_tellerLine_104 rfl (lv_at hl 1 rfl) ?_
            refine lv_aload_n hx hb dX4_tellerLine_105 rfl (lv_at hl 2 rfl) ?_
            refine mg_i S hK hP (k := 9) (by decide) (by decide) q1429 dX4_tellerLine_106 ?_
            obtain ⟨hi, h⟩ := h
            refine ms_a S hK hA hP hS (k := 28) af_28 rfl hi dX4_tellerLine_109 (fun M_20 H locs e_M_20 hP hS => ?_)
            replace h := h M_20 e_M_20
            refine lv_aload_n hx hb dX4_tellerLine_110 rfl (lv_at hl 2 rfl) ?_
            refine mc_v S hK hP hS (As := []) (rest := []) (mt4_take l hA M_20 _ h) (cwV 0 S.2.2.2.2 (lw_V q1632 q1634 qs65 q145 q1635) rfl rfl rfl cdX4_take ⟨Nat.le_of_ble_eq_true rfl, Nat.le_of_ble_eq_true rfl⟩) rfl rfl hl.1 (Nat.le_of_ble_eq_true rfl) dX4_tellerLine_111 ⟨Nat.le_refl _, Nat.le_refl _⟩ (fun M_21 H locs h hP hS => ?_)
            refine lv_aload_n hx hb dX4_tellerLine_114 rfl (lv_at hl 2 rfl) ?_
            refine lv_bipush hx hb dX4_tellerLine_115 kb_12 ?_
            refine mc_i S hK hP hS (As := [.int (12 : Int32)]) (rest := []) (mt4_keyRead l hA (12 : Int32) M_21 _ h) (cwV 1 S.2.2.2.2 (lw_V q1680 q1682 qs77 q145 q1683) rfl rfl rfl cdX4_keyRead ⟨Nat.le_of_ble_eq_true rfl, Nat.le_of_ble_eq_true rfl⟩) rfl rfl hl.1 (Nat.le_of_ble_eq_true rfl) dX4_tellerLine_117 ⟨Nat.le_refl _, Nat.le_refl _⟩ (fun r_23 M_22 H locs h hP hS => ?_)
            refine lv_if_eq (tgt := 139) hx hb dX4_tellerLine_120 (by decide) (fun c_24 => ?_) (fun c_24 => ?_)
            · replace h := h.1 c_24
              refine lv_iconst hx hb dX4_tellerLine_139 kc_0 ?_
              exact hret _ _ _ _ _ _ hP hS h (vz_nar vz_0) dX4_tellerLine_140
            · replace h := h.2 c_24
              refine lv_aload_n hx hb dX4_tellerLine_123 rfl (lv_at hl 2 rfl) ?_
              refine lv_aload_n hx hb dX4_tellerLine_124 rfl (lv_at hl 2 rfl) ?_
              refine mg_r S hK hP (k := 28) (by decide) (by decide) q1448 dX4_tellerLine_125 ?_
              refine lv_iload_n hx hb dX4_tellerLine_128 rfl (lv_at hl 1 rfl) ?_
              obtain ⟨hi, h⟩ := h
              refine ml_a S hK hP (k := 28) af_28 rfl hi dX4_tellerLine_129 ?_
              refine lv_sipush hx hb dX4_tellerLine_130 ks_199 ?_
              refine mc_i S hK hP hS (As := [.int (ma M_22 28 (Int32.toNatClampNeg v_6)), .int (199 : Int32)]) (rest := []) (mt4_numberRead l hA (ma M_22 28 (Int32.toNatClampNeg v_6)) (199 : Int32) M_22 _ h) (cwV 2 S.2.2.2.2 (lw_V q1676 q1678 qs76 q145 q1679) rfl rfl rfl cdX4_numberRead ⟨Nat.le_of_ble_eq_true rfl, Nat.le_of_ble_eq_true rfl⟩) rfl rfl hl.1 (Nat.le_of_ble_eq_true rfl) dX4_tellerLine_133 ⟨Nat.le_refl _, Nat.le_refl _⟩ (fun r_26 M_25 H locs h hP hS => ?_)
              refine lv_if_ne (tgt := 141) hx hb dX4_tellerLine_136 (by decide) (fun c_27 => ?_) (fun c_27 => ?_)
              · replace h := h.2 c_27
                refine lv_aload_n hx hb dX4_tellerLine_141 rfl (lv_at hl 2 rfl) ?_
                refine mg_r S hK hP (k := 29) (by decide) (by decide) q1449 dX4_tellerLine_142 ?_
                refine lv_iload_n hx hb dX4_tellerLine_145 rfl (lv_at hl 1 rfl) ?_
                refine lv_aload_n hx hb dX4_tellerLine_146 rfl (lv_at hl 2 rfl) ?_
                refine mg_i S hK hP (k := 9) (by decide) (by decide) q1429 dX4_tellerLine_147 ?_
                obtain ⟨hi, h⟩ := h
                refine ms_a S hK hA hP hS (k := 29) af_29 rfl hi dX4_tellerLine_150 (fun M_28 H locs e_M_28 hP hS => ?_)
                replace h := h M_28 e_M_28
                refine lv_aload_n hx hb dX4_tellerLine_151 rfl (lv_at hl 2 rfl) ?_
                refine mg_r S hK hP (k := 30) (by decide) (by decide) q1450 dX4_tellerLine_152 ?_
                refine lv_iload_n hx hb dX4_tellerLine_155 rfl (lv_at hl 1 rfl) ?_
                refine lv_iconst hx hb dX4_tellerLine_156 kc_m1 ?_
                obtain ⟨hi, h⟩ := h
                refine ms_a S hK hA hP hS (k := 30) af_30 rfl hi dX4_tellerLine_157 (fun M_29 H locs e_M_29 hP hS => ?_)
                replace h := h M_29 e_M_29
                refine lv_aload_n hx hb dX4_tellerLine_158 rfl (lv_at hl 2 rfl) ?_
                refine mc_v S hK hP hS (As := []) (rest := []) (mt4_take l hA M_29 _ h) (cwV 0 S.2.2.2.2 (lw_V q1632 q1634 qs65 q145 q1635) rfl rfl rfl cdX4_take ⟨Nat.le_of_ble_eq_true rfl, Nat.le_of_ble_eq_true rfl⟩) rfl rfl hl.1 (Nat.le_of_ble_eq_true rfl) dX4_tellerLine_159 ⟨Nat.le_refl _, Nat.le_refl _⟩ (fun M_30 H locs h hP hS => ?_)
                refine lv_aload_n hx hb dX4_tellerLine_162 rfl (lv_at hl 2 rfl) ?_
                refine lv_bipush hx hb dX4_tellerLine_163 kb_13 ?_
                refine mc_i S hK hP hS (As := [.int (13 : Int32)]) (rest := []) (mt4_isKey l hA (13 : Int32) M_30 _ h) (cwV 1 S.2.2.2.2 (lw_V q1684 q1686 qs78 q145 q1687) rfl rfl rfl cdX4_isKey ⟨Nat.le_of_ble_eq_true rfl, Nat.le_of_ble_eq_true rfl⟩) rfl rfl hl.1 (Nat.le_of_ble_eq_true rfl) dX4_tellerLine_165 ⟨Nat.le_refl _, Nat.le_refl _⟩ (fun r_32 M_31 H locs h hP hS => ?_)
                refine lv_if_eq (tgt := 210) hx hb dX4_tellerLine_168 (by decide) (fun c_33 => ?_) (fun c_33 => ?_)
                · replace h := h.1 c_33
                  exact C210 _ _ _ _ _ _ hP hS (lv_sub hl [2, 1, 0] rfl) h
                · replace h := h.2 c_33
                  refine lv_aload_n hx hb dX4_tellerLine_171 rfl (lv_at hl 2 rfl) ?_
                  refine mc_v S hK hP hS (As := []) (rest := []) (mt4_take l hA M_31 _ h) (cwV 0 S.2.2.2.2 (lw_V q1632 q1634 qs65 q145 q1635) rfl rfl rfl cdX4_take ⟨Nat.le_of_ble_eq_true rfl, Nat.le_of_ble_eq_true rfl⟩) rfl rfl hl.1 (Nat.le_of_ble_eq_true rfl) dX4_tellerLine_172 ⟨Nat.le_refl _, Nat.le_refl _⟩ (fun M_36 H locs h hP hS => ?_)
                  refine lv_aload_n hx hb dX4_tellerLine_175 rfl (lv_at hl 2 rfl) ?_
                  refine lv_aload_n hx hb dX4_tellerLine_176 rfl (lv_at hl 2 rfl) ?_
                  refine mg_r S hK hP (k := 28) (by decide) (by decide) q1448 dX4_tellerLine_177 ?_
                  refine lv_iload_n hx hb dX4_tellerLine_180 rfl (lv_at hl 1 rfl) ?_
                  obtain ⟨hi, h⟩ := h
                  refine ml_a S hK hP (k := 28) af_28 rfl hi dX4_tellerLine_181 ?_
                  refine lv_aload_n hx hb dX4_tellerLine_182 rfl (lv_at hl 2 rfl) ?_
                  refine mg_r S hK hP (k := 29) (by decide) (by decide) q1449 dX4_tellerLine_183 ?_
                  refine lv_iload_n hx hb dX4_tellerLine_186 rfl (lv_at hl 1 rfl) ?_
                  obtain ⟨hi, h⟩ := h
                  refine ml_a S hK hP (k := 29) af_29 rfl hi dX4_tellerLine_187 ?_
                  refine mc_i S hK hP hS (As := [.int (ma M_36 28 (Int32.toNatClampNeg v_6)), .int (ma M_36 29 (Int32.toNatClampNeg v_6))]) (rest := []) (mt4_numberRead l hA (ma M_36 28 (Int32.toNatClampNeg v_6)) (ma M_36 29 (Int32.toNatClampNeg v_6)) M_36 _ h) (cwV 2 S.2.2.2.2 (lw_V q1676 q1678 qs76 q145 q1679) rfl rfl rfl cdX4_numberRead ⟨Nat.le_of_ble_eq_true rfl, Nat.le_of_ble_eq_true rfl⟩) rfl rfl hl.1 (Nat.le_of_ble_eq_true rfl) dX4_tellerLine_188 ⟨Nat.le_refl _, Nat.le_refl _⟩ (fun r_38 M_37 H locs h hP hS => ?_)
                  refine lv_if_ne (tgt := 196) hx hb dX4_tellerLine_191 (by decide) (fun c_39 => ?_) (fun c_39 => ?_)
                  · replace h := h.2 c_39
                    refine lv_aload_n hx hb dX4_tellerLine_196 rfl (lv_at hl 2 rfl) ?_
                    refine mg_r S hK hP (k := 30) (by decide) (by decide) q1450 dX4_tellerLine_197 ?_
                    refine lv_iload_n hx hb dX4_tellerLine_200 rfl (lv_at hl 1 rfl) ?_
                    refine lv_aload_n hx hb dX4_tellerLine_201 rfl (lv_at hl 2 rfl) ?_
                    refine mg_i S hK hP (k := 9) (by decide) (by decide) q1429 dX4_tellerLine_202 ?_
                    obtain ⟨hi, h⟩ := h
                    refine ms_a S hK hA hP hS (k := 30) af_30 rfl hi dX4_tellerLine_205 (fun M_40 H locs e_M_40 hP hS => ?_)
                    replace h := h M_40 e_M_40
                    refine lv_aload_n hx hb dX4_tellerLine_206 rfl (lv_at hl 2 rfl) ?_
                    refine mc_v S hK hP hS (As := []) (rest := []) (mt4_take l hA M_40 _ h) (cwV 0 S.2.2.2.2 (lw_V q1632 q1634 qs65 q145 q1635) rfl rfl rfl cdX4_take ⟨Nat.le_of_ble_eq_true rfl, Nat.le_of_ble_eq_true rfl⟩) rfl rfl hl.1 (Nat.le_of_ble_eq_true rfl) dX4_tellerLine_207 ⟨Nat.le_refl _, Nat.le_refl _⟩ (fun M_41 H locs h hP hS => ?_)
                    exact C210 _ _ _ _ _ _ hP hS (lv_sub hl [2, 1, 0] rfl) h
                  · replace h := h.1 c_39
                    refine lv_iconst hx hb dX4_tellerLine_194 kc_0 ?_
                    exact hret _ _ _ _ _ _ hP hS h (vz_nar vz_0) dX4_tellerLine_195
              · replace h := h.1 c_27
                refine lv_iconst hx hb dX4_tellerLine_139 kc_0 ?_
                exact hret _ _ _ _ _ _ hP hS h (vz_nar vz_0) dX4_tellerLine_140
          · replace h := h.1 c_19
            refine lv_iconst hx hb dX4_tellerLine_98 kc_0 ?_
            exact hret _ _ _ _ _ _ hP hS h (vz_nar vz_0) dX4_tellerLine_99
      · replace h := h.1 c_11
        refine lv_iconst hx hb dX4_tellerLine_62 kc_0 ?_
        exact hret _ _ _ _ _ _ hP hS h (vz_nar vz_0) dX4_tellerLine_63
    · replace h := h.1 c_5
      refine lv_iconst hx hb dX4_tellerLine_34 kc_0 ?_
      exact hret _ _ _ _ _ _ hP hS h (vz_nar vz_0) dX4_tellerLine_35
  · replace h := h.1 c_1
    refine lv_aload_n hx hb dX4_tellerLine_8 rfl (lv_at hl 0 rfl) ?_
    refine lv_iconst hx hb dX4_tellerLine_9 kc_2 ?_
    refine mc_i S hK hP hS (As := [.int (2 : Int32)]) (rest := []) (mt4_wrong l hA (2 : Int32) M _ h) (cwV 1 S.2.2.2.2 (lw_V q1660 q1662 qs72 q145 q1663) rfl rfl rfl cdX4_wrong ⟨Nat.le_of_ble_eq_true rfl, Nat.le_of_ble_eq_true rfl⟩) rfl rfl hl.1 (Nat.le_of_ble_eq_true rfl) dX4_tellerLine_10 ⟨Nat.le_refl _, Nat.le_refl _⟩ (fun r_43 M_42 H locs h hP hS => ?_)
    exact hret _ _ _ _ _ _ hP hS h.2 (vz_nar h.1) dX4_tellerLine_13
def w4_there (a1 : Nat) (a2 : Int32) (a3 : Int32) (M : MS) (Post : Int32 → MS → Prop) : Prop := ((mi M 8) = (2 : Int32) → (w4_find a1 a2 a3 (mi M 9) M (fun r_3 M_2 => (0 ≤ r_3 → (Post (1 : Int32) M_2)) ∧ (¬ (0 ≤ r_3) → (w4_wrong (4 : Int32) M_2 (fun r_6 M_5 => (r_6 = 0 → (Post (0 : Int32) M_5)) ∧ (¬ (r_6 = 0) → (Post (1 : Int32) M_5)))))))) ∧ (¬ ((mi M 8) = (2 : Int32)) → (w4_wrong (1 : Int32) M (fun r_9 M_8 => vz r_9 ∧ Post r_9 M_8)))
abbrev rX4_there : Room := { frames := 1, cells := 0, slots := 0, locals := 25 }
theorem cdX4_there : yX4_there.cls = RX4 ∧ yX4_there.cls ≠ "java/lang/invoke/MethodHandle" ∧ yX4_there.cls ≠ "java/lang/invoke/VarHandle" ∧ (parseMethodDescriptor yX4_there.desc).map (fun d => d.parameters.length) = some 3 := by decide +kernel
set_option maxHeartbeats 4000000 in
set_option maxRecDepth 100000 in
theorem mt4_there (l : Launch) {D : va_G} {cA : Nat → ClassId} {m0 : Nat} {ad : Nat → Nat} (hA : mAd m0 ad) (a1 : Nat) (a2 : Int32) (a3 : Int32) (ha1 : a1 ∈ mAF) (ga1 : mK a1 = 3) (M : MS) (Post : Int32 → MS → Prop) (h : w4_there a1 a2 a3 M Post) : Met l yX4_there (ws_ yX4_there cX4_there 4 (some .boolean)) rX4_there (mPc [.ref m0, .ref (ad a1), .int a2, .int a3] D cA m0 ad M) (va_Qi Post (mB D cA m0 ad) (mF m0 ad)) 0 0 (mF m0 ad) := by
  refine mst_i (own := RX4) (by decide) rfl (Nat.le_of_ble_eq_true rfl) ?_
  intro p e s m args below meth c Q ls S hK hP hS hl hret
  have hx := S.1
  have hb := S.2.1
  have hl : lv_has ls 4 [(0, .ref m0), (1, .ref (ad a1)), (2, .int a2), (3, .int a3)] := hl
  unfold w4_there at h
  refine lv_aload_n hx hb dX4_there_0 rfl (lv_at hl 0 rfl) ?_
  refine mg_i S hK hP (k := 8) (by decide) (by decide) q1428 dX4_there_1 ?_
  refine lv_iconst hx hb dX4_there_4 kc_2 ?_
  refine lv_icmp_eq (tgt := 14) hx hb dX4_there_5 (by decide) (fun c_1 => ?_) (fun c_1 => ?_)
  · replace h := h.1 c_1
    refine lv_aload_n hx hb dX4_there_14 rfl (lv_at hl 0 rfl) ?_
    refine lv_aload_n hx hb dX4_there_15 rfl (lv_at hl 1 rfl) ?_
    refine lv_iload_n hx hb dX4_there_16 rfl (lv_at hl 2 rfl) ?_
    refine lv_iload_n hx hb dX4_there_17 rfl (lv_at hl 3 rfl) ?_
    refine lv_aload_n hx hb dX4_there_18 rfl (lv_at hl 0 rfl) ?_
    refine mg_i S hK hP (k := 9) (by decide) (by decide) q1429 dX4_there_19 ?_
    refine mc_i S hK hP hS (As := [.ref (ad a1), .int a2, .int a3, .int (mi M 9)]) (rest := []) (mt4_find l hA a1 a2 a3 (mi M 9) ha1 ga1 M _ h) (cwV 4 S.2.2.2.2 (lw_V q1672 q1674 qs75 q145 q1675) rfl rfl rfl cdX4_find ⟨Nat.le_of_ble_eq_true rfl, Nat.le_of_ble_eq_true rfl⟩) rfl rfl hl.1 (Nat.le_of_ble_eq_true rfl) dX4_there_22 ⟨Nat.le_refl _, Nat.le_refl _⟩ (fun r_3 M_2 H locs h hP hS => ?_)
    refine lv_if_ge (tgt := 36) hx hb dX4_there_25 (by decide) (fun c_4 => ?_) (fun c_4 => ?_)
    · replace h := h.1 c_4
      refine lv_iconst hx hb dX4_there_36 kc_1 ?_
      refine lv_goto (tgt := 41) hx hb dX4_there_37 (by decide) ?_
      exact hret _ _ _ _ _ _ hP hS h (vz_nar vz_1) dX4_there_41
    · replace h := h.2 c_4
      refine lv_aload_n hx hb dX4_there_28 rfl (lv_at hl 0 rfl) ?_
      refine lv_iconst hx hb dX4_there_29 kc_4 ?_
      refine mc_i S hK hP hS (As := [.int (4 : Int32)]) (rest := []) (mt4_wrong l hA (4 : Int32) M_2 _ h) (cwV 1 S.2.2.2.2 (lw_V q1660 q1662 qs72 q145 q1663) rfl rfl rfl cdX4_wrong ⟨Nat.le_of_ble_eq_true rfl, Nat.le_of_ble_eq_true rfl⟩) rfl rfl hl.1 (Nat.le_of_ble_eq_true rfl) dX4_there_30 ⟨Nat.le_refl _, Nat.le_refl _⟩ (fun r_6 M_5 H locs h hP hS => ?_)
      refine lv_if_eq (tgt := 40) hx hb dX4_there_33 (by decide) (fun c_7 => ?_) (fun c_7 => ?_)
      · replace h := h.1 c_7
        refine lv_iconst hx hb dX4_there_40 kc_0 ?_
        exact hret _ _ _ _ _ _ hP hS h (vz_nar vz_0) dX4_there_41
      · replace h := h.2 c_7
        refine lv_iconst hx hb dX4_there_36 kc_1 ?_
        refine lv_goto (tgt := 41) hx hb dX4_there_37 (by decide) ?_
        exact hret _ _ _ _ _ _ hP hS h (vz_nar vz_1) dX4_there_41
  · replace h := h.2 c_1
    refine lv_aload_n hx hb dX4_there_8 rfl (lv_at hl 0 rfl) ?_
    refine lv_iconst hx hb dX4_there_9 kc_1 ?_
    refine mc_i S hK hP hS (As := [.int (1 : Int32)]) (rest := []) (mt4_wrong l hA (1 : Int32) M _ h) (cwV 1 S.2.2.2.2 (lw_V q1660 q1662 qs72 q145 q1663) rfl rfl rfl cdX4_wrong ⟨Nat.le_of_ble_eq_true rfl, Nat.le_of_ble_eq_true rfl⟩) rfl rfl hl.1 (Nat.le_of_ble_eq_true rfl) dX4_there_10 ⟨Nat.le_refl _, Nat.le_refl _⟩ (fun r_9 M_8 H locs h hP hS => ?_)
    exact hret _ _ _ _ _ _ hP hS h.2 (vz_nar h.1) dX4_there_13
def w4_latestHour_c37 (a1 : Int32) (a2 : Int32) (a3 : Int32) (k6 : Int32 → Int32 → MS → Prop) (Post : Int32 → MS → Prop) (x5 : Int32) (t0 : Int32) (M : MS) : Prop := ∀ v_3 : Int32, v_3 = x5 + (1 : Int32) → k6 t0 v_3 M
def w4_latestHour_l6 (a1 : Int32) (a2 : Int32) (a3 : Int32) (Post : Int32 → MS → Prop) : Nat → Int32 → Int32 → MS → Prop
  | 0, _, _, _ => False
  | n + 1, x4, x5, M => ((a1 + a2) ≤ x5 → (Post x4 M)) ∧ (¬ ((a1 + a2) ≤ x5) → ((vp_in x5 (mN 32) ∧ ((ma M 32 (Int32.toNatClampNeg x5)) = a3 → ((vp_in x5 (mN 33) ∧ w4_latestHour_c37 a1 a2 a3 (w4_latestHour_l6 a1 a2 a3 Post n) Post x5 (ma M 33 (Int32.toNatClampNeg x5)) M))) ∧ (¬ ((ma M 32 (Int32.toNatClampNeg x5)) = a3) → (w4_latestHour_c37 a1 a2 a3 (w4_latestHour_l6 a1 a2 a3 Post n) Post x5 x4 M)))))
def w4_latestHour (a1 : Int32) (a2 : Int32) (a3 : Int32) (M : MS) (Post : Int32 → MS → Prop) : Prop := ∃ f, w4_latestHour_l6 a1 a2 a3 Post f (-1 : Int32) a1 M
abbrev rX4_latestHour : Room := { frames := 0, cells := 0, slots := 0, locals := 0 }
theorem cdX4_latestHour : yX4_latestHour.cls = RX4 ∧ yX4_latestHour.cls ≠ "java/lang/invoke/MethodHandle" ∧ yX4_latestHour.cls ≠ "java/lang/invoke/VarHandle" ∧ (parseMethodDescriptor yX4_latestHour.desc).map (fun d => d.parameters.length) = some 3 := by decide +kernel
set_option maxHeartbeats 4000000 in
set_option maxRecDepth 100000 in
theorem mt4_latestHour (l : Launch) {D : va_G} {cA : Nat → ClassId} {m0 : Nat} {ad : Nat → Nat} (hA : mAd m0 ad) (a1 : Int32) (a2 : Int32) (a3 : Int32) (M : MS) (Post : Int32 → MS → Prop) (h : w4_latestHour a1 a2 a3 M Post) : Met l yX4_latestHour (ws_ yX4_latestHour cX4_latestHour 6 (some .int)) rX4_latestHour (mPc [.ref m0, .int a1, .int a2, .int a3] D cA m0 ad M) (va_Qi Post (mB D cA m0 ad) (mF m0 ad)) 0 0 (mF m0 ad) := by
  refine mst_i (own := RX4) (by decide) rfl (Nat.le_of_ble_eq_true rfl) ?_
  intro p e s m args below meth c Q ls S hK hP hS hl hret
  have hx := S.1
  have hb := S.2.1
  have hl : lv_has ls 6 [(0, .ref m0), (1, .int a1), (2, .int a2), (3, .int a3)] := hl
  have C37 : ∀ (k6 : Int32 → Int32 → MS → Prop) (K6 : (∀ (x4 : Int32) (x5 : Int32) (M : MS) (H : Heap) (locs : List Loc) (ls : Array Slot), va_P D vwCl (mo cA m0 ad M) H → va_S (mF m0 ad) s.heap H locs → lv_has ls 6 [(0, .ref m0), (1, .int a1), (2, .int a2), (3, .int a3), (4, .int x4), (5, .int x5)] → k6 x4 x5 M → W p l e rX4_latestHour s m args below meth c H locs 0 0 Q (F0 m 6 ls []))), ∀ (x5 : Int32) (t0 : Int32) (M : MS) (H : Heap) (locs : List Loc) (ls : Array Slot), va_P D vwCl (mo cA m0 ad M) H → va_S (mF m0 ad) s.heap H locs → lv_has ls 6 [(0, .ref m0), (1, .int a1), (2, .int a2), (3, .int a3), (5, .int x5)] → w4_latestHour_c37 a1 a2 a3 k6 Post x5 t0 M → W p l e rX4_latestHour s m args below meth c H locs 0 0 Q (F0 m 37 ls [.int t0]) := by
    intro k6 K6
    intro x5 t0 M H locs ls hP hS hl h
    unfold w4_latestHour_c37 at h
    refine lv_istore (lv' := [(4, .int t0), (0, .ref m0), (1, .int a1), (2, .int a2), (3, .int a3), (5, .int x5)]) hx hb dX4_latestHour_37 hl (by decide) rfl (fun ls hl => ?_)
    obtain ⟨v_3, e_v_3⟩ : ∃ y : Int32, y = x5 + (1 : Int32) := ⟨_, rfl⟩
    replace h := h v_3 e_v_3
    refine lv_iinc (v := v_3) (lv' := [(5, .int v_3), (4, .int t0), (0, .ref m0), (1, .int a1), (2, .int a2), (3, .int a3)]) hx hb dX4_latestHour_39 hl (k := 5) rfl (by rw [kc_1, e_v_3]) (by decide) rfl (fun ls hl => ?_)
    refine lv_goto (tgt := 6) hx hb dX4_latestHour_42 (by decide) ?_
    exact K6 _ _ _ _ _ _ hP hS (lv_sub hl [2, 3, 4, 5, 1, 0] rfl) h
  have L6 : ∀ (n : Nat) (x4 : Int32) (x5 : Int32) (M : MS) (H : Heap) (locs : List Loc) (ls : Array Slot), va_P D vwCl (mo cA m0 ad M) H → va_S (mF m0 ad) s.heap H locs → lv_has ls 6 [(0, .ref m0), (1, .int a1), (2, .int a2), (3, .int a3), (4, .int x4), (5, .int x5)] → w4_latestHour_l6 a1 a2 a3 Post n x4 x5 M → W p l e rX4_latestHour s m args below meth c H locs 0 0 Q (F0 m 6 ls []) := by
    intro n
    induction n with
    | zero => intro x4 x5 M H locs ls hP hS hl h; rw [w4_latestHour_l6] at h; exact h.elim
    | succ n ih =>
      intro x4 x5 M H locs ls hP hS hl h
      rw [w4_latestHour_l6] at h
      refine lv_iload hx hb dX4_latestHour_6 (lv_at hl 5 rfl) ?_
      refine lv_iload_n hx hb dX4_latestHour_8 rfl (lv_at hl 1 rfl) ?_
      refine lv_iload_n hx hb dX4_latestHour_9 rfl (lv_at hl 2 rfl) ?_
      refine lv_iadd hx hb dX4_latestHour_10 ?_
      refine lv_icmp_ge (tgt := 45) hx hb dX4_latestHour_11 (by decide) (fun c_1 => ?_) (fun c_1 => ?_)
      · replace h := h.1 c_1
        refine lv_iload hx hb dX4_latestHour_45 (lv_at hl 4 rfl) ?_
        exact hret _ _ _ _ _ _ hP hS h rfl dX4_latestHour_47
      · replace h := h.2 c_1
        refine lv_aload_n hx hb dX4_latestHour_14 rfl (lv_at hl 0 rfl) ?_
        refine mg_r S hK hP (k := 32) (by decide) (by decide) q1452 dX4_latestHour_15 ?_
        refine lv_iload hx hb dX4_latestHour_18 (lv_at hl 5 rfl) ?_
        obtain ⟨hi, h⟩ := h
        refine ml_a S hK hP (k := 32) af_32 rfl hi dX4_latestHour_20 ?_
        refine lv_iload_n hx hb dX4_latestHour_21 rfl (lv_at hl 3 rfl) ?_
        refine lv_icmp_ne (tgt := 35) hx hb dX4_latestHour_22 (by decide) (fun c_2 => ?_) (fun c_2 => ?_)
        · replace h := h.2 c_2
          refine lv_iload hx hb dX4_latestHour_35 (lv_at hl 4 rfl) ?_
          exact C37 _ ih _ _ _ _ _ _ hP hS (lv_sub hl [0, 1, 2, 3, 5] rfl) h
        · replace h := h.1 c_2
          refine lv_aload_n hx hb dX4_latestHour_25 rfl (lv_at hl 0 rfl) ?_
          refine mg_r S hK hP (k := 33) (by decide) (by decide) q1453 dX4_latestHour_26 ?_
          refine lv_iload hx hb dX4_latestHour_29 (lv_at hl 5 rfl) ?_
          obtain ⟨hi, h⟩ := h
          refine ml_a S hK hP (k := 33) af_33 rfl hi dX4_latestHour_31 ?_
          refine lv_goto (tgt := 37) hx hb dX4_latestHour_32 (by decide) ?_
          exact C37 _ ih _ _ _ _ _ _ hP hS (lv_sub hl [0, 1, 2, 3, 5] rfl) h
  unfold w4_latestHour at h
  refine lv_iconst hx hb dX4_latestHour_0 kc_m1 ?_
  refine lv_istore (lv' := [(4, .int (-1 : Int32)), (0, .ref m0), (1, .int a1), (2, .int a2), (3, .int a3)]) hx hb dX4_latestHour_1 hl (by decide) rfl (fun ls hl => ?_)
  refine lv_iload_n hx hb dX4_latestHour_3 rfl (lv_at hl 2 rfl) ?_
  refine lv_istore (lv' := [(5, .int a1), (4, .int (-1 : Int32)), (0, .ref m0), (1, .int a1), (2, .int a2), (3, .int a3)]) hx hb dX4_latestHour_4 hl (by decide) rfl (fun ls hl => ?_)
  obtain ⟨f, h⟩ := h
  exact L6 f _ _ _ _ _ _ hP hS (lv_sub hl [2, 3, 4, 5, 1, 0] rfl) h
def w4_talkLine_c216 (a1 : Int32) (Post : Int32 → MS → Prop) (x2 : Int32) (x3 : Int32) (x4 : Int32) (x5 : Int32) (x6 : Int32) (M : MS) : Prop := (vp_in x2 (mN 31) ∧ ∀ M_30 : MS, M_30 = sa M 31 (Int32.toNatClampNeg x2) (vp_nar .boolean a1) → (vp_in x2 (mN 32) ∧ ∀ M_31 : MS, M_31 = sa M_30 32 (Int32.toNatClampNeg x2) x3 → (vp_in x2 (mN 33) ∧ ∀ M_32 : MS, M_32 = sa M_31 33 (Int32.toNatClampNeg x2) x4 → (vp_in x2 (mN 34) ∧ ∀ M_33 : MS, M_33 = sa M_32 34 (Int32.toNatClampNeg x2) x5 → (vp_in x2 (mN 35) ∧ ∀ M_34 : MS, M_34 = sa M_33 35 (Int32.toNatClampNeg x2) x6 → ∀ M_35 : MS, M_35 = si M_34 18 ((mi M_34 18) + (1 : Int32)) → Post (1 : Int32) M_35)))))
def w4_talkLine_c184 (a1 : Int32) (Post : Int32 → MS → Prop) (x2 : Int32) (x3 : Int32) (x4 : Int32) (x5 : Int32) (M : MS) : Prop := (vp_in ((8 : Int32) + x5) (mN 22) ∧ w4_numberRead (0 : Int32) ((ma M 22 (Int32.toNatClampNeg ((8 : Int32) + x5))) - (1 : Int32)) M (fun r_26 M_25 => (r_26 = 0 → (Post (0 : Int32) M_25)) ∧ (¬ (r_26 = 0) → (∀ v_28 : Int32, v_28 = mi M_25 9 → w4_take M_25 (fun M_29 => w4_talkLine_c216 a1 Post x2 x3 x4 x5 v_28 M_29)))))
def w4_talkLine (a1 : Int32) (M : MS) (Post : Int32 → MS → Prop) : Prop := ((mi M 18) = (40 : Int32) → (w4_wrong (2 : Int32) M (fun r_40 M_39 => vz r_40 ∧ Post r_40 M_39))) ∧ (¬ ((mi M 18) = (40 : Int32)) → (w4_take M (fun M_2 => w4_there 26 (5 : Int32) (mi M_2 17) M_2 (fun r_4 M_3 => (r_4 = 0 → (Post (0 : Int32) M_3)) ∧ (¬ (r_4 = 0) → (∀ v_6 : Int32, v_6 = (60 : Int32) + (mi M_3 18) → w4_find 26 (5 : Int32) (mi M_3 17) (mi M_3 9) M_3 (fun r_8 M_7 => w4_take M_7 (fun M_9 => (vp_in ((5 : Int32) + r_8) (mN 28) ∧ (vp_in ((5 : Int32) + r_8) (mN 29) ∧ w4_numberRead (ma M_9 28 (Int32.toNatClampNeg ((5 : Int32) + r_8))) (ma M_9 29 (Int32.toNatClampNeg ((5 : Int32) + r_8))) M_9 (fun r_11 M_10 => (r_11 = 0 → (Post (0 : Int32) M_10)) ∧ (¬ (r_11 = 0) → (w4_latestHour (60 : Int32) (mi M_10 18) r_8 M_10 (fun r_14 M_13 => (r_14 ≤ (mi M_10 9) → (∀ v_16 : Int32, v_16 = mi M_13 9 → w4_take M_13 (fun M_17 => w4_there 21 (8 : Int32) (mi M_17 16) M_17 (fun r_19 M_18 => (r_19 = 0 → (Post (0 : Int32) M_18)) ∧ (¬ (r_19 = 0) → (w4_find 21 (8 : Int32) (mi M_18 16) (mi M_18 9) M_18 (fun r_22 M_21 => w4_take M_21 (fun M_23 => (a1 = 0 → (((mi M_23 8) = (3 : Int32) → (w4_talkLine_c184 a1 Post v_6 r_8 v_16 r_22 M_23)) ∧ (¬ ((mi M_23 8) = (3 : Int32)) → (w4_talkLine_c216 a1 Post v_6 r_8 v_16 r_22 (-1 : Int32) M_23)))) ∧ (¬ (a1 = 0) → (w4_talkLine_c184 a1 Post v_6 r_8 v_16 r_22 M_23)))))))))) ∧ (¬ (r_14 ≤ (mi M_10 9)) → (w4_wrong (5 : Int32) M_13 (fun r_38 M_37 => vz r_38 ∧ Post r_38 M_37)))))))))))))))))
abbrev rX4_talkLine : Room := { frames := 2, cells := 0, slots := 0, locals := 48 }
theorem cdX4_talkLine : yX4_talkLine.cls = RX4 ∧ yX4_talkLine.cls ≠ "java/lang/invoke/MethodHandle" ∧ yX4_talkLine.cls ≠ "java/lang/invoke/VarHandle" ∧ (parseMethodDescriptor yX4_talkLine.desc).map (fun d => d.parameters.length) = some 1 := by decide +kernel
set_option maxHeartbeats 4000000 in
set_option maxRecDepth 100000 in
theorem mt4_talkLine (l : Launch) {D : va_G} {cA : Nat → ClassId} {m0 : Nat} {ad : Nat → Nat} (hA : mAd m0 ad) (a1 : Int32) (M : MS) (Post : Int32 → MS → Prop) (h : w4_talkLine a1 M Post) : Met l yX4_talkLine (ws_ yX4_talkLine cX4_talkLine 7 (some .boolean)) rX4_talkLine (mPc [.ref m0, .int a1] D cA m0 ad M) (va_Qi Post (mB D cA m0 ad) (mF m0 ad)) 0 0 (mF m0 ad) := by
  refine mst_i (own := RX4) (by decide) rfl (Nat.le_of_ble_eq_true rfl) ?_
  intro p e s m args below meth c Q ls S hK hP hS hl hret
  have hx := S.1
  have hb := S.2.1
  have hl : lv_has ls 7 [(0, .ref m0), (1, .int a1)] := hl
  have C216 : ∀ (x2 : Int32) (x3 : Int32) (x4 : Int32) (x5 : Int32) (x6 : Int32) (M : MS) (H : Heap) (locs : List Loc) (ls : Array Slot), va_P D vwCl (mo cA m0 ad M) H → va_S (mF m0 ad) s.heap H locs → lv_has ls 7 [(0, .ref m0), (1, .int a1), (2, .int x2), (3, .int x3), (4, .int x4), (5, .int x5), (6, .int x6)] → w4_talkLine_c216 a1 Post x2 x3 x4 x5 x6 M → W p l e rX4_talkLine s m args below meth c H locs 0 0 Q (F0 m 216 ls []) := by
    intro x2 x3 x4 x5 x6 M H locs ls hP hS hl h
    unfold w4_talkLine_c216 at h
    refine lv_aload_n hx hb dX4_talkLine_216 rfl (lv_at hl 0 rfl) ?_
    refine mg_r S hK hP (k := 31) (by decide) (by decide) q1451 dX4_talkLine_217 ?_
    refine lv_iload_n hx hb dX4_talkLine_220 rfl (lv_at hl 2 rfl) ?_
    refine lv_iload_n hx hb dX4_talkLine_221 rfl (lv_at hl 1 rfl) ?_
    obtain ⟨hi, h⟩ := h
    refine ms_z S hK hA hP hS (k := 31) af_31 rfl hi dX4_talkLine_222 (fun M_30 H locs e_M_30 hP hS => ?_)
    replace h := h M_30 e_M_30
    refine lv_aload_n hx hb dX4_talkLine_223 rfl (lv_at hl 0 rfl) ?_
    refine mg_r S hK hP (k := 32) (by decide) (by decide) q1452 dX4_talkLine_224 ?_
    refine lv_iload_n hx hb dX4_talkLine_227 rfl (lv_at hl 2 rfl) ?_
    refine lv_iload_n hx hb dX4_talkLine_228 rfl (lv_at hl 3 rfl) ?_
    obtain ⟨hi, h⟩ := h
    refine ms_a S hK hA hP hS (k := 32) af_32 rfl hi dX4_talkLine_229 (fun M_31 H locs e_M_31 hP hS => ?_)
    replace h := h M_31 e_M_31
    refine lv_aload_n hx hb dX4_talkLine_230 rfl (lv_at hl 0 rfl) ?_
    refine mg_r S hK hP (k := 33) (by decide) (by decide) q1453 dX4_talkLine_231 ?_
    refine lv_iload_n hx hb dX4_talkLine_234 rfl (lv_at hl 2 rfl) ?_
    refine lv_iload hx hb dX4_talkLine_235 (lv_at hl 4 rfl) ?_
    obtain ⟨hi, h⟩ := h
    refine ms_a S hK hA hP hS (k := 33) af_33 rfl hi dX4_talkLine_237 (fun M_32 H locs e_M_32 hP hS => ?_)
    replace h := h M_32 e_M_32
    refine lv_aload_n hx hb dX4_talkLine_238 rfl (lv_at hl 0 rfl) ?_
    refine mg_r S hK hP (k := 34) (by decide) (by decide) q1454 dX4_talkLine_239 ?_
    refine lv_iload_n hx hb dX4_talkLine_242 rfl (lv_at hl 2 rfl) ?_
    refine lv_iload hx hb dX4_talkLine_243 (lv_at hl 5 rfl) ?_
    obtain ⟨hi, h⟩ := h
    refine ms_a S hK hA hP hS (k := 34) af_34 rfl hi dX4_talkLine_245 (fun M_33 H locs e_M_33 hP hS => ?_)
    replace h := h M_33 e_M_33
    refine lv_aload_n hx hb dX4_talkLine_246 rfl (lv_at hl 0 rfl) ?_
    refine mg_r S hK hP (k := 35) (by decide) (by decide) q1455 dX4_talkLine_247 ?_
    refine lv_iload_n hx hb dX4_talkLine_250 rfl (lv_at hl 2 rfl) ?_
    refine lv_iload hx hb dX4_talkLine_251 (lv_at hl 6 rfl) ?_
    obtain ⟨hi, h⟩ := h
    refine ms_a S hK hA hP hS (k := 35) af_35 rfl hi dX4_talkLine_253 (fun M_34 H locs e_M_34 hP hS => ?_)
    replace h := h M_34 e_M_34
    refine lv_aload_n hx hb dX4_talkLine_254 rfl (lv_at hl 0 rfl) ?_
    refine lv_dup hx hb dX4_talkLine_255 rfl ?_
    refine mg_i S hK hP (k := 18) (by decide) (by decide) q1438 dX4_talkLine_256 ?_
    refine lv_iconst hx hb dX4_talkLine_259 kc_1 ?_
    refine lv_iadd hx hb dX4_talkLine_260 ?_
    refine mp_i S hK hA hP hS (k := 18) (by decide) (Or.inl rfl) rfl (Or.inl ⟨rfl, rfl⟩) q1438 dX4_talkLine_261 (fun M_35 H locs e_M_35 hP hS => ?_)
    replace h := h M_35 e_M_35
    refine lv_iconst hx hb dX4_talkLine_264 kc_1 ?_
    exact hret _ _ _ _ _ _ hP hS h (vz_nar vz_1) dX4_talkLine_265
  have C184 : ∀ (x2 : Int32) (x3 : Int32) (x4 : Int32) (x5 : Int32) (M : MS) (H : Heap) (locs : List Loc) (ls : Array Slot), va_P D vwCl (mo cA m0 ad M) H → va_S (mF m0 ad) s.heap H locs → lv_has ls 7 [(0, .ref m0), (1, .int a1), (2, .int x2), (3, .int x3), (4, .int x4), (5, .int x5)] → w4_talkLine_c184 a1 Post x2 x3 x4 x5 M → W p l e rX4_talkLine s m args below meth c H locs 0 0 Q (F0 m 184 ls []) := by
    intro x2 x3 x4 x5 M H locs ls hP hS hl h
    unfold w4_talkLine_c184 at h
    refine lv_aload_n hx hb dX4_talkLine_184 rfl (lv_at hl 0 rfl) ?_
    refine lv_iconst hx hb dX4_talkLine_185 kc_0 ?_
    refine lv_aload_n hx hb dX4_talkLine_186 rfl (lv_at hl 0 rfl) ?_
    refine mg_r S hK hP (k := 22) (by decide) (by decide) q1442 dX4_talkLine_187 ?_
    refine lv_bipush hx hb dX4_talkLine_190 kb_8 ?_
    refine lv_iload hx hb dX4_talkLine_192 (lv_at hl 5 rfl) ?_
    refine lv_iadd hx hb dX4_talkLine_194 ?_
    obtain ⟨hi, h⟩ := h
    refine ml_a S hK hP (k := 22) af_22 rfl hi dX4_talkLine_195 ?_
    refine lv_iconst hx hb dX4_talkLine_196 kc_1 ?_
    refine lv_isub hx hb dX4_talkLine_197 ?_
    refine mc_i S hK hP hS (As := [.int (0 : Int32), .int ((ma M 22 (Int32.toNatClampNeg ((8 : Int32) + x5))) - (1 : Int32))]) (rest := []) (mt4_numberRead l hA (0 : Int32) ((ma M 22 (Int32.toNatClampNeg ((8 : Int32) + x5))) - (1 : Int32)) M _ h) (cwV 2 S.2.2.2.2 (lw_V q1676 q1678 qs76 q145 q1679) rfl rfl rfl cdX4_numberRead ⟨Nat.le_of_ble_eq_true rfl, Nat.le_of_ble_eq_true rfl⟩) rfl rfl hl.1 (Nat.le_of_ble_eq_true rfl) dX4_talkLine_198 ⟨Nat.le_refl _, Nat.le_refl _⟩ (fun r_26 M_25 H locs h hP hS => ?_)
    refine lv_if_ne (tgt := 206) hx hb dX4_talkLine_201 (by decide) (fun c_27 => ?_) (fun c_27 => ?_)
    · replace h := h.2 c_27
      refine lv_aload_n hx hb dX4_talkLine_206 rfl (lv_at hl 0 rfl) ?_
      refine mg_i S hK hP (k := 9) (by decide) (by decide) q1429 dX4_talkLine_207 ?_
      refine lv_topi (fun v_28 e_v_28 => ?_)
      replace h := h v_28 e_v_28
      refine lv_istore (lv' := [(6, .int v_28), (0, .ref m0), (1, .int a1), (2, .int x2), (3, .int x3), (4, .int x4), (5, .int x5)]) hx hb dX4_talkLine_210 hl (by decide) rfl (fun ls hl => ?_)
      refine lv_aload_n hx hb dX4_talkLine_212 rfl (lv_at hl 1 rfl) ?_
      refine mc_v S hK hP hS (As := []) (rest := []) (mt4_take l hA M_25 _ h) (cwV 0 S.2.2.2.2 (lw_V q1632 q1634 qs65 q145 q1635) rfl rfl rfl cdX4_take ⟨Nat.le_of_ble_eq_true rfl, Nat.le_of_ble_eq_true rfl⟩) rfl rfl hl.1 (Nat.le_of_ble_eq_true rfl) dX4_talkLine_213 ⟨Nat.le_refl _, Nat.le_refl _⟩ (fun M_29 H locs h hP hS => ?_)
      exact C216 _ _ _ _ _ _ _ _ _ hP hS (lv_sub hl [1, 2, 3, 4, 5, 6, 0] rfl) h
    · replace h := h.1 c_27
      refine lv_iconst hx hb dX4_talkLine_204 kc_0 ?_
      exact hret _ _ _ _ _ _ hP hS h (vz_nar vz_0) dX4_talkLine_205
  unfold w4_talkLine at h
  refine lv_aload_n hx hb dX4_talkLine_0 rfl (lv_at hl 0 rfl) ?_
  refine mg_i S hK hP (k := 18) (by decide) (by decide) q1438 dX4_talkLine_1 ?_
  refine lv_bipush hx hb dX4_talkLine_4 kb_40 ?_
  refine lv_icmp_ne (tgt := 15) hx hb dX4_talkLine_6 (by decide) (fun c_1 => ?_) (fun c_1 => ?_)
  · replace h := h.2 c_1
    refine lv_aload_n hx hb dX4_talkLine_15 rfl (lv_at hl 0 rfl) ?_
    refine mc_v S hK hP hS (As := []) (rest := []) (mt4_take l hA M _ h) (cwV 0 S.2.2.2.2 (lw_V q1632 q1634 qs65 q145 q1635) rfl rfl rfl cdX4_take ⟨Nat.le_of_ble_eq_true rfl, Nat.le_of_ble_eq_true rfl⟩) rfl rfl hl.1 (Nat.le_of_ble_eq_true rfl) dX4_talkLine_16 ⟨Nat.le_refl _, Nat.le_refl _⟩ (fun M_2 H locs h hP hS => ?_)
    refine lv_aload_n hx hb dX4_talkLine_19 rfl (lv_at hl 0 rfl) ?_
    refine lv_aload_n hx hb dX4_talkLine_20 rfl (lv_at hl 0 rfl) ?_
    refine mg_r S hK hP (k := 26) (by decide) (by decide) q1446 dX4_talkLine_21 ?_
    refine lv_iconst hx hb dX4_talkLine_24 kc_5 ?_
    refine lv_aload_n hx hb dX4_talkLine_25 rfl (lv_at hl 0 rfl) ?_
    refine mg_i S hK hP (k := 17) (by decide) (by decide) q1437 dX4_talkLine_26 ?_
    refine mc_i S hK hP hS (As := [.ref (ad 26), .int (5 : Int32), .int (mi M_2 17)]) (rest := []) (mt4_there l hA 26 (5 : Int32) (mi M_2 17) af_26 rfl M_2 _ h) (cwV 3 S.2.2.2.2 (lw_V q1696 q1698 qs81 q145 q1699) rfl rfl rfl cdX4_there ⟨Nat.le_of_ble_eq_true rfl, Nat.le_of_ble_eq_true rfl⟩) rfl rfl hl.1 (Nat.le_of_ble_eq_true rfl) dX4_talkLine_29 ⟨Nat.le_refl _, Nat.le_refl _⟩ (fun r_4 M_3 H locs h hP hS => ?_)
    refine lv_if_ne (tgt := 37) hx hb dX4_talkLine_32 (by decide) (fun c_5 => ?_) (fun c_5 => ?_)
    · replace h := h.2 c_5
      refine lv_bipush hx hb dX4_talkLine_37 kb_60 ?_
      refine lv_aload_n hx hb dX4_talkLine_39 rfl (lv_at hl 0 rfl) ?_
      refine mg_i S hK hP (k := 18) (by decide) (by decide) q1438 dX4_talkLine_40 ?_
      refine lv_iadd hx hb dX4_talkLine_43 ?_
      refine lv_topi (fun v_6 e_v_6 => ?_)
      replace h := h v_6 e_v_6
      refine lv_istore_n (lv' := [(2, .int v_6), (0, .ref m0), (1, .int a1)]) hx hb dX4_talkLine_44 rfl hl (by decide) rfl (fun ls hl => ?_)
      refine lv_aload_n hx hb dX4_talkLine_45 rfl (lv_at hl 1 rfl) ?_
      refine lv_aload_n hx hb dX4_talkLine_46 rfl (lv_at hl 1 rfl) ?_
      refine mg_r S hK hP (k := 26) (by decide) (by decide) q1446 dX4_talkLine_47 ?_
      refine lv_iconst hx hb dX4_talkLine_50 kc_5 ?_
      refine lv_aload_n hx hb dX4_talkLine_51 rfl (lv_at hl 1 rfl) ?_
      refine mg_i S hK hP (k := 17) (by decide) (by decide) q1437 dX4_talkLine_52 ?_
      refine lv_aload_n hx hb dX4_talkLine_55 rfl (lv_at hl 1 rfl) ?_
      refine mg_i S hK hP (k := 9) (by decide) (by decide) q1429 dX4_talkLine_56 ?_
      refine mc_i S hK hP hS (As := [.ref (ad 26), .int (5 : Int32), .int (mi M_3 17), .int (mi M_3 9)]) (rest := []) (mt4_find l hA 26 (5 : Int32) (mi M_3 17) (mi M_3 9) af_26 rfl M_3 _ h) (cwV 4 S.2.2.2.2 (lw_V q1672 q1674 qs75 q145 q1675) rfl rfl rfl cdX4_find ⟨Nat.le_of_ble_eq_true rfl, Nat.le_of_ble_eq_true rfl⟩) rfl rfl hl.1 (Nat.le_of_ble_eq_true rfl) dX4_talkLine_59 ⟨Nat.le_refl _, Nat.le_refl _⟩ (fun r_8 M_7 H locs h hP hS => ?_)
      refine lv_istore_n (lv' := [(3, .int r_8), (2, .int v_6), (0, .ref m0), (1, .int a1)]) hx hb dX4_talkLine_62 rfl hl (by decide) rfl (fun ls hl => ?_)
      refine lv_aload_n hx hb dX4_talkLine_63 rfl (lv_at hl 2 rfl) ?_
      refine mc_v S hK hP hS (As := []) (rest := []) (mt4_take l hA M_7 _ h) (cwV 0 S.2.2.2.2 (lw_V q1632 q1634 qs65 q145 q1635) rfl rfl rfl cdX4_take ⟨Nat.le_of_ble_eq_true rfl, Nat.le_of_ble_eq_true rfl⟩) rfl rfl hl.1 (Nat.le_of_ble_eq_true rfl) dX4_talkLine_64 ⟨Nat.le_refl _, Nat.le_refl _⟩ (fun M_9 H locs h hP hS => ?_)
      refine lv_aload_n hx hb dX4_talkLine_67 rfl (lv_at hl 2 rfl) ?_
      refine lv_aload_n hx hb dX4_talkLine_68 rfl (lv_at hl 2 rfl) ?_
      refine mg_r S hK hP (k := 28) (by decide) (by decide) q1448 dX4_talkLine_69 ?_
      refine lv_iconst hx hb dX4_talkLine_72 kc_5 ?_
      refine lv_iload_n hx hb dX4_talkLine_73 rfl (lv_at hl 0 rfl) ?_
      refine lv_iadd hx hb dX4_talkLine_74 ?_
      obtain ⟨hi, h⟩ := h
      refine ml_a S hK hP (k := 28) af_28 rfl hi dX4_talkLine_75 ?_
      refine lv_aload_n hx hb dX4_talkLine_76 rfl (lv_at hl 2 rfl) ?_
      refine mg_r S hK hP (k := 29) (by decide) (by decide) q1449 dX4_talkLine_77 ?_
      refine lv_iconst hx hb dX4_talkLine_80 kc_5 ?_
      refine lv_iload_n hx hb dX4_talkLine_81 rfl (lv_at hl 0 rfl) ?_
      refine lv_iadd hx hb dX4_talkLine_82 ?_
      obtain ⟨hi, h⟩ := h
      refine ml_a S hK hP (k := 29) af_29 rfl hi dX4_talkLine_83 ?_
      refine mc_i S hK hP hS (As := [.int (ma M_9 28 (Int32.toNatClampNeg ((5 : Int32) + r_8))), .int (ma M_9 29 (Int32.toNatClampNeg ((5 : Int32) + r_8)))]) (rest := []) (mt4_numberRead l hA (ma M_9 28 (Int32.toNatClampNeg ((5 : Int32) + r_8))) (ma M_9 29 (Int32.toNatClampNeg ((5 : Int32) + r_8))) M_9 _ h) (cwV 2 S.2.2.2.2 (lw_V q1676 q1678 qs76 q145 q1679) rfl rfl rfl cdX4_numberRead ⟨Nat.le_of_ble_eq_true rfl, Nat.le_of_ble_eq_true rfl⟩) rfl rfl hl.1 (Nat.le_of_ble_eq_true rfl) dX4_talkLine_84 ⟨Nat.le_refl _, Nat.le_refl _⟩ (fun r_11 M_10 H locs h hP hS => ?_)
      refine lv_if_ne (tgt := 92) hx hb dX4_talkLine_87 (by decide) (fun c_12 => ?_) (fun c_12 => ?_)
      · replace h := h.2 c_12
        refine lv_aload_n hx hb dX4_talkLine_92 rfl (lv_at hl 2 rfl) ?_
        refine mg_i S hK hP (k := 9) (by decide) (by decide) q1429 dX4_talkLine_93 ?_
        refine lv_aload_n hx hb dX4_talkLine_96 rfl (lv_at hl 2 rfl) ?_
        refine lv_bipush hx hb dX4_talkLine_97 kb_60 ?_
        refine lv_aload_n hx hb dX4_talkLine_99 rfl (lv_at hl 2 rfl) ?_
        refine mg_i S hK hP (k := 18) (by decide) (by decide) q1438 dX4_talkLine_100 ?_
        refine lv_iload_n hx hb dX4_talkLine_103 rfl (lv_at hl 0 rfl) ?_
        refine mc_i S hK hP hS (As := [.int (60 : Int32), .int (mi M_10 18), .int r_8]) (rest := [.int (mi M_10 9)]) (mt4_latestHour l hA (60 : Int32) (mi M_10 18) r_8 M_10 _ h) (cwV 3 S.2.2.2.2 (lw_V q1700 q1702 qs82 q145 q1703) rfl rfl rfl cdX4_latestHour ⟨Nat.le_of_ble_eq_true rfl, Nat.le_of_ble_eq_true rfl⟩) rfl rfl hl.1 (Nat.le_of_ble_eq_true rfl) dX4_talkLine_104 ⟨Nat.le_refl _, Nat.le_refl _⟩ (fun r_14 M_13 H locs h hP hS => ?_)
        refine lv_icmp_ge (tgt := 116) hx hb dX4_talkLine_107 (by decide) (fun c_15 => ?_) (fun c_15 => ?_)
        · replace h := h.1 c_15
          refine lv_aload_n hx hb dX4_talkLine_116 rfl (lv_at hl 2 rfl) ?_
          refine mg_i S hK hP (k := 9) (by decide) (by decide) q1429 dX4_talkLine_117 ?_
          refine lv_topi (fun v_16 e_v_16 => ?_)
          replace h := h v_16 e_v_16
          refine lv_istore (lv' := [(4, .int v_16), (3, .int r_8), (2, .int v_6), (0, .ref m0), (1, .int a1)]) hx hb dX4_talkLine_120 hl (by decide) rfl (fun ls hl => ?_)
          refine lv_aload_n hx hb dX4_talkLine_122 rfl (lv_at hl 3 rfl) ?_
          refine mc_v S hK hP hS (As := []) (rest := []) (mt4_take l hA M_13 _ h) (cwV 0 S.2.2.2.2 (lw_V q1632 q1634 qs65 q145 q1635) rfl rfl rfl cdX4_take ⟨Nat.le_of_ble_eq_true rfl, Nat.le_of_ble_eq_true rfl⟩) rfl rfl hl.1 (Nat.le_of_ble_eq_true rfl) dX4_talkLine_123 ⟨Nat.le_refl _, Nat.le_refl _⟩ (fun M_17 H locs h hP hS => ?_)
          refine lv_aload_n hx hb dX4_talkLine_126 rfl (lv_at hl 3 rfl) ?_
          refine lv_aload_n hx hb dX4_talkLine_127 rfl (lv_at hl 3 rfl) ?_
          refine mg_r S hK hP (k := 21) (by decide) (by decide) q1441 dX4_talkLine_128 ?_
          refine lv_bipush hx hb dX4_talkLine_131 kb_8 ?_
          refine lv_aload_n hx hb dX4_talkLine_133 rfl (lv_at hl 3 rfl) ?_
          refine mg_i S hK hP (k := 16) (by decide) (by decide) q1436 dX4_talkLine_134 ?_
          refine mc_i S hK hP hS (As := [.ref (ad 21), .int (8 : Int32), .int (mi M_17 16)]) (rest := []) (mt4_there l hA 21 (8 : Int32) (mi M_17 16) af_21 rfl M_17 _ h) (cwV 3 S.2.2.2.2 (lw_V q1696 q1698 qs81 q145 q1699) rfl rfl rfl cdX4_there ⟨Nat.le_of_ble_eq_true rfl, Nat.le_of_ble_eq_true rfl⟩) rfl rfl hl.1 (Nat.le_of_ble_eq_true rfl) dX4_talkLine_137 ⟨Nat.le_refl _, Nat.le_refl _⟩ (fun r_19 M_18 H locs h hP hS => ?_)
          refine lv_if_ne (tgt := 145) hx hb dX4_talkLine_140 (by decide) (fun c_20 => ?_) (fun c_20 => ?_)
          · replace h := h.2 c_20
            refine lv_aload_n hx hb dX4_talkLine_145 rfl (lv_at hl 3 rfl) ?_
            refine lv_aload_n hx hb dX4_talkLine_146 rfl (lv_at hl 3 rfl) ?_
            refine mg_r S hK hP (k := 21) (by decide) (by decide) q1441 dX4_talkLine_147 ?_
            refine lv_bipush hx hb dX4_talkLine_150 kb_8 ?_
            refine lv_aload_n hx hb dX4_talkLine_152 rfl (lv_at hl 3 rfl) ?_
            refine mg_i S hK hP (k := 16) (by decide) (by decide) q1436 dX4_talkLine_153 ?_
            refine lv_aload_n hx hb dX4_talkLine_156 rfl (lv_at hl 3 rfl) ?_
            refine mg_i S hK hP (k := 9) (by decide) (by decide) q1429 dX4_talkLine_157 ?_
            refine mc_i S hK hP hS (As := [.ref (ad 21), .int (8 : Int32), .int (mi M_18 16), .int (mi M_18 9)]) (rest := []) (mt4_find l hA 21 (8 : Int32) (mi M_18 16) (mi M_18 9) af_21 rfl M_18 _ h) (cwV 4 S.2.2.2.2 (lw_V q1672 q1674 qs75 q145 q1675) rfl rfl rfl cdX4_find ⟨Nat.le_of_ble_eq_true rfl, Nat.le_of_ble_eq_true rfl⟩) rfl rfl hl.1 (Nat.le_of_ble_eq_true rfl) dX4_talkLine_160 ⟨Nat.le_refl _, Nat.le_refl _⟩ (fun r_22 M_21 H locs h hP hS => ?_)
            refine lv_istore (lv' := [(5, .int r_22), (4, .int v_16), (3, .int r_8), (2, .int v_6), (0, .ref m0), (1, .int a1)]) hx hb dX4_talkLine_163 hl (by decide) rfl (fun ls hl => ?_)
            refine lv_aload_n hx hb dX4_talkLine_165 rfl (lv_at hl 4 rfl) ?_
            refine mc_v S hK hP hS (As := []) (rest := []) (mt4_take l hA M_21 _ h) (cwV 0 S.2.2.2.2 (lw_V q1632 q1634 qs65 q145 q1635) rfl rfl rfl cdX4_take ⟨Nat.le_of_ble_eq_true rfl, Nat.le_of_ble_eq_true rfl⟩) rfl rfl hl.1 (Nat.le_of_ble_eq_true rfl) dX4_talkLine_166 ⟨Nat.le_refl _, Nat.le_refl _⟩ (fun M_23 H locs h hP hS => ?_)
            refine lv_iconst hx hb dX4_talkLine_169 kc_m1 ?_
            refine lv_istore (lv' := [(6, .int (-1 : Int32)), (5, .int r_22), (4, .int v_16), (3, .int r_8), (2, .int v_6), (0, .ref m0), (1, .int a1)]) hx hb dX4_talkLine_170 hl (by decide) rfl (fun ls hl => ?_)
            refine lv_iload_n hx hb dX4_talkLine_172 rfl (lv_at hl 6 rfl) ?_
            refine lv_if_ne (tgt := 184) hx hb dX4_talkLine_173 (by decide) (fun c_24 => ?_) (fun c_24 => ?_)
            · replace h := h.2 c_24
              exact C184 _ _ _ _ _ _ _ _ hP hS (lv_sub hl [5, 6, 4, 3, 2, 1] rfl) h
            · replace h := h.1 c_24
              refine lv_aload_n hx hb dX4_talkLine_176 rfl (lv_at hl 5 rfl) ?_
              refine mg_i S hK hP (k := 8) (by decide) (by decide) q1428 dX4_talkLine_177 ?_
              refine lv_iconst hx hb dX4_talkLine_180 kc_3 ?_
              refine lv_icmp_ne (tgt := 216) hx hb dX4_talkLine_181 (by decide) (fun c_36 => ?_) (fun c_36 => ?_)
              · replace h := h.2 c_36
                exact C216 _ _ _ _ _ _ _ _ _ hP hS (lv_sub hl [5, 6, 4, 3, 2, 1, 0] rfl) h
              · replace h := h.1 c_36
                exact C184 _ _ _ _ _ _ _ _ hP hS (lv_sub hl [5, 6, 4, 3, 2, 1] rfl) h
          · replace h := h.1 c_20
            refine lv_iconst hx hb dX4_talkLine_143 kc_0 ?_
            exact hret _ _ _ _ _ _ hP hS h (vz_nar vz_0) dX4_talkLine_144
        · replace h := h.2 c_15
          refine lv_aload_n hx hb dX4_talkLine_110 rfl (lv_at hl 2 rfl) ?_
          refine lv_iconst hx hb dX4_talkLine_111 kc_5 ?_
          refine mc_i S hK hP hS (As := [.int (5 : Int32)]) (rest := []) (mt4_wrong l hA (5 : Int32) M_13 _ h) (cwV 1 S.2.2.2.2 (lw_V q1660 q1662 qs72 q145 q1663) rfl rfl rfl cdX4_wrong ⟨Nat.le_of_ble_eq_true rfl, Nat.le_of_ble_eq_true rfl⟩) rfl rfl hl.1 (Nat.le_of_ble_eq_true rfl) dX4_talkLine_112 ⟨Nat.le_refl _, Nat.le_refl _⟩ (fun r_38 M_37 H locs h hP hS => ?_)
          exact hret _ _ _ _ _ _ hP hS h.2 (vz_nar h.1) dX4_talkLine_115
      · replace h := h.1 c_12
        refine lv_iconst hx hb dX4_talkLine_90 kc_0 ?_
        exact hret _ _ _ _ _ _ hP hS h (vz_nar vz_0) dX4_talkLine_91
    · replace h := h.1 c_5
      refine lv_iconst hx hb dX4_talkLine_35 kc_0 ?_
      exact hret _ _ _ _ _ _ hP hS h (vz_nar vz_0) dX4_talkLine_36
  · replace h := h.1 c_1
    refine lv_aload_n hx hb dX4_talkLine_9 rfl (lv_at hl 0 rfl) ?_
    refine lv_iconst hx hb dX4_talkLine_10 kc_2 ?_
    refine mc_i S hK hP hS (As := [.int (2 : Int32)]) (rest := []) (mt4_wrong l hA (2 : Int32) M _ h) (cwV 1 S.2.2.2.2 (lw_V q1660 q1662 qs72 q145 q1663) rfl rfl rfl cdX4_wrong ⟨Nat.le_of_ble_eq_true rfl, Nat.le_of_ble_eq_true rfl⟩) rfl rfl hl.1 (Nat.le_of_ble_eq_true rfl) dX4_talkLine_11 ⟨Nat.le_refl _, Nat.le_refl _⟩ (fun r_40 M_39 H locs h hP hS => ?_)
    exact hret _ _ _ _ _ _ hP hS h.2 (vz_nar h.1) dX4_talkLine_14
def w4_pageLine (M : MS) (Post : Int32 → MS → Prop) : Prop := ((mi M 19) = (20 : Int32) → (w4_wrong (2 : Int32) M (fun r_25 M_24 => vz r_25 ∧ Post r_25 M_24))) ∧ (¬ ((mi M 19) = (20 : Int32)) → (w4_take M (fun M_2 => w4_there 26 (5 : Int32) (mi M_2 17) M_2 (fun r_4 M_3 => (r_4 = 0 → (Post (0 : Int32) M_3)) ∧ (¬ (r_4 = 0) → (∀ v_6 : Int32, v_6 = (20 : Int32) + (mi M_3 19) → w4_find 26 (5 : Int32) (mi M_3 17) (mi M_3 9) M_3 (fun r_8 M_7 => (vp_in v_6 (mN 36) ∧ ∀ M_9 : MS, M_9 = sa M_7 36 (Int32.toNatClampNeg v_6) r_8 → w4_take M_9 (fun M_10 => w4_there 21 (8 : Int32) (mi M_10 16) M_10 (fun r_12 M_11 => (r_12 = 0 → (Post (0 : Int32) M_11)) ∧ (¬ (r_12 = 0) → (w4_find 21 (8 : Int32) (mi M_11 16) (mi M_11 9) M_11 (fun r_15 M_14 => (vp_in v_6 (mN 37) ∧ ∀ M_16 : MS, M_16 = sa M_14 37 (Int32.toNatClampNeg v_6) r_15 → w4_take M_16 (fun M_17 => (vp_in ((8 : Int32) + r_15) (mN 22) ∧ w4_numberRead (0 : Int32) ((ma M_17 22 (Int32.toNatClampNeg ((8 : Int32) + r_15))) - (1 : Int32)) M_17 (fun r_19 M_18 => (r_19 = 0 → (Post (0 : Int32) M_18)) ∧ (¬ (r_19 = 0) → ((vp_in v_6 (mN 38) ∧ ∀ M_21 : MS, M_21 = sa M_18 38 (Int32.toNatClampNeg v_6) (mi M_18 9) → ∀ M_22 : MS, M_22 = si M_21 19 ((mi M_21 19) + (1 : Int32)) → w4_take M_22 (fun M_23 => Post (1 : Int32) M_23)))))))))))))))))))))
abbrev rX4_pageLine : Room := { frames := 2, cells := 0, slots := 0, locals := 48 }
theorem cdX4_pageLine : yX4_pageLine.cls = RX4 ∧ yX4_pageLine.cls ≠ "java/lang/invoke/MethodHandle" ∧ yX4_pageLine.cls ≠ "java/lang/invoke/VarHandle" ∧ (parseMethodDescriptor yX4_pageLine.desc).map (fun d => d.parameters.length) = some 0 := by decide +kernel
set_option maxHeartbeats 4000000 in
set_option maxRecDepth 100000 in
theorem mt4_pageLine (l : Launch) {D : va_G} {cA : Nat → ClassId} {m0 : Nat} {ad : Nat → Nat} (hA : mAd m0 ad) (M : MS) (Post : Int32 → MS → Prop) (h : w4_pageLine M Post) : Met l yX4_pageLine (ws_ yX4_pageLine cX4_pageLine 3 (some .boolean)) rX4_pageLine (mPc [.ref m0] D cA m0 ad M) (va_Qi Post (mB D cA m0 ad) (mF m0 ad)) 0 0 (mF m0 ad) := by
  refine mst_i (own := RX4) (by decide) rfl (Nat.le_of_ble_eq_true rfl) ?_
  intro p e s m args below meth c Q ls S hK hP hS hl hret
  have hx := S.1
  have hb := S.2.1
  have hl : lv_has ls 3 [(0, .ref m0)] := hl
  unfold w4_pageLine at h
  refine lv_aload_n hx hb dX4_pageLine_0 rfl (lv_at hl 0 rfl) ?_
  refine mg_i S hK hP (k := 19) (by decide) (by decide) q1439 dX4_pageLine_1 ?_
  refine lv_bipush hx hb dX4_pageLine_4 kb_20 ?_
  refine lv_icmp_ne (tgt := 15) hx hb dX4_pageLine_6 (by decide) (fun c_1 => ?_) (fun c_1 => ?_)
  · replace h := h.2 c_1
    refine lv_aload_n hx hb dX4_pageLine_15 rfl (lv_at hl 0 rfl) ?_
    refine mc_v S hK hP hS (As := []) (rest := []) (mt4_take l hA M _ h) (cwV 0 S.2.2.2.2 (lw_V q1632 q1634 qs65 q145 q1635) rfl rfl rfl cdX4_take ⟨Nat.le_of_ble_eq_true rfl, Nat.le_of_ble_eq_true rfl⟩) rfl rfl hl.1 (Nat.le_of_ble_eq_true rfl) dX4_pageLine_16 ⟨Nat.le_refl _, Nat.le_refl _⟩ (fun M_2 H locs h hP hS => ?_)
    refine lv_aload_n hx hb dX4_pageLine_19 rfl (lv_at hl 0 rfl) ?_
    refine lv_aload_n hx hb dX4_pageLine_20 rfl (lv_at hl 0 rfl) ?_
    refine mg_r S hK hP (k := 26) (by decide) (by decide) q1446 dX4_pageLine_21 ?_
    refine lv_iconst hx hb dX4_pageLine_24 kc_5 ?_
    refine lv_aload_n hx hb dX4_pageLine_25 rfl (lv_at hl 0 rfl) ?_
    refine mg_i S hK hP (k := 17) (by decide) (by decide) q1437 dX4_pageLine_26 ?_
    refine mc_i S hK hP hS (As := [.ref (ad 26), .int (5 : Int32), .int (mi M_2 17)]) (rest := []) (mt4_there l hA 26 (5 : Int32) (mi M_2 17) af_26 rfl M_2 _ h) (cwV 3 S.2.2.2.2 (lw_V q1696 q1698 qs81 q145 q1699) rfl rfl rfl cdX4_there ⟨Nat.le_of_ble_eq_true rfl, Nat.le_of_ble_eq_true rfl⟩) rfl rfl hl.1 (Nat.le_of_ble_eq_true rfl) dX4_pageLine_29 ⟨Nat.le_refl _, Nat.le_refl _⟩ (fun r_4 M_3 H locs h hP hS => ?_)
    refine lv_if_ne (tgt := 37) hx hb dX4_pageLine_32 (by decide) (fun c_5 => ?_) (fun c_5 => ?_)
    · replace h := h.2 c_5
      refine lv_bipush hx hb dX4_pageLine_37 kb_20 ?_
      refine lv_aload_n hx hb dX4_pageLine_39 rfl (lv_at hl 0 rfl) ?_
      refine mg_i S hK hP (k := 19) (by decide) (by decide) q1439 dX4_pageLine_40 ?_
      refine lv_iadd hx hb dX4_pageLine_43 ?_
      refine lv_topi (fun v_6 e_v_6 => ?_)
      replace h := h v_6 e_v_6
      refine lv_istore_n (lv' := [(1, .int v_6), (0, .ref m0)]) hx hb dX4_pageLine_44 rfl hl (by decide) rfl (fun ls hl => ?_)
      refine lv_aload_n hx hb dX4_pageLine_45 rfl (lv_at hl 1 rfl) ?_
      refine mg_r S hK hP (k := 36) (by decide) (by decide) q1456 dX4_pageLine_46 ?_
      refine lv_iload_n hx hb dX4_pageLine_49 rfl (lv_at hl 0 rfl) ?_
      refine lv_aload_n hx hb dX4_pageLine_50 rfl (lv_at hl 1 rfl) ?_
      refine lv_aload_n hx hb dX4_pageLine_51 rfl (lv_at hl 1 rfl) ?_
      refine mg_r S hK hP (k := 26) (by decide) (by decide) q1446 dX4_pageLine_52 ?_
      refine lv_iconst hx hb dX4_pageLine_55 kc_5 ?_
      refine lv_aload_n hx hb dX4_pageLine_56 rfl (lv_at hl 1 rfl) ?_
      refine mg_i S hK hP (k := 17) (by decide) (by decide) q1437 dX4_pageLine_57 ?_
      refine lv_aload_n hx hb dX4_pageLine_60 rfl (lv_at hl 1 rfl) ?_
      refine mg_i S hK hP (k := 9) (by decide) (by decide) q1429 dX4_pageLine_61 ?_
      refine mc_i S hK hP hS (As := [.ref (ad 26), .int (5 : Int32), .int (mi M_3 17), .int (mi M_3 9)]) (rest := [.int v_6, .ref (ad 36)]) (mt4_find l hA 26 (5 : Int32) (mi M_3 17) (mi M_3 9) af_26 rfl M_3 _ h) (cwV 4 S.2.2.2.2 (lw_V q1672 q1674 qs75 q145 q1675) rfl rfl rfl cdX4_find ⟨Nat.le_of_ble_eq_true rfl, Nat.le_of_ble_eq_true rfl⟩) rfl rfl hl.1 (Nat.le_of_ble_eq_true rfl) dX4_pageLine_64 ⟨Nat.le_refl _, Nat.le_refl _⟩ (fun r_8 M_7 H locs h hP hS => ?_)
      obtain ⟨hi, h⟩ := h
      refine ms_a S hK hA hP hS (k := 36) af_36 rfl hi dX4_pageLine_67 (fun M_9 H locs e_M_9 hP hS => ?_)
      replace h := h M_9 e_M_9
      refine lv_aload_n hx hb dX4_pageLine_68 rfl (lv_at hl 1 rfl) ?_
      refine mc_v S hK hP hS (As := []) (rest := []) (mt4_take l hA M_9 _ h) (cwV 0 S.2.2.2.2 (lw_V q1632 q1634 qs65 q145 q1635) rfl rfl rfl cdX4_take ⟨Nat.le_of_ble_eq_true rfl, Nat.le_of_ble_eq_true rfl⟩) rfl rfl hl.1 (Nat.le_of_ble_eq_true rfl) dX4_pageLine_69 ⟨Nat.le_refl _, Nat.le_refl _⟩ (fun M_10 H locs h hP hS => ?_)
      refine lv_aload_n hx hb dX4_pageLine_72 rfl (lv_at hl 1 rfl) ?_
      refine lv_aload_n hx hb dX4_pageLine_73 rfl (lv_at hl 1 rfl) ?_
      refine mg_r S hK hP (k := 21) (by decide) (by decide) q1441 dX4_pageLine_74 ?_
      refine lv_bipush hx hb dX4_pageLine_77 kb_8 ?_
      refine lv_aload_n hx hb dX4_pageLine_79 rfl (lv_at hl 1 rfl) ?_
      refine mg_i S hK hP (k := 16) (by decide) (by decide) q1436 dX4_pageLine_80 ?_
      refine mc_i S hK hP hS (As := [.ref (ad 21), .int (8 : Int32), .int (mi M_10 16)]) (rest := []) (mt4_there l hA 21 (8 : Int32) (mi M_10 16) af_21 rfl M_10 _ h) (cwV 3 S.2.2.2.2 (lw_V q1696 q1698 qs81 q145 q1699) rfl rfl rfl cdX4_there ⟨Nat.le_of_ble_eq_true rfl, Nat.le_of_ble_eq_true rfl⟩) rfl rfl hl.1 (Nat.le_of_ble_eq_true rfl) dX4_pageLine_83 ⟨Nat.le_refl _, Nat.le_refl _⟩ (fun r_12 M_11 H locs h hP hS => ?_)
      refine lv_if_ne (tgt := 91) hx hb dX4_pageLine_86 (by decide) (fun c_13 => ?_) (fun c_13 => ?_)
      · replace h := h.2 c_13
        refine lv_aload_n hx hb dX4_pageLine_91 rfl (lv_at hl 1 rfl) ?_
        refine lv_aload_n hx hb dX4_pageLine_92 rfl (lv_at hl 1 rfl) ?_
        refine mg_r S hK hP (k := 21) (by decide) (by decide) q1441 dX4_pageLine_93 ?_
        refine lv_bipush hx hb dX4_pageLine_96 kb_8 ?_
        refine lv_aload_n hx hb dX4_pageLine_98 rfl (lv_at hl 1 rfl) ?_
        refine mg_i S hK hP (k := 16) (by decide) (by decide) q1436 dX4_pageLine_99 ?_
        refine lv_aload_n hx hb dX4_pageLine_102 rfl (lv_at hl 1 rfl) ?_
        refine mg_i S hK hP (k := 9) (by decide) (by decide) q1429 dX4_pageLine_103 ?_
        refine mc_i S hK hP hS (As := [.ref (ad 21), .int (8 : Int32), .int (mi M_11 16), .int (mi M_11 9)]) (rest := []) (mt4_find l hA 21 (8 : Int32) (mi M_11 16) (mi M_11 9) af_21 rfl M_11 _ h) (cwV 4 S.2.2.2.2 (lw_V q1672 q1674 qs75 q145 q1675) rfl rfl rfl cdX4_find ⟨Nat.le_of_ble_eq_true rfl, Nat.le_of_ble_eq_true rfl⟩) rfl rfl hl.1 (Nat.le_of_ble_eq_true rfl) dX4_pageLine_106 ⟨Nat.le_refl _, Nat.le_refl _⟩ (fun r_15 M_14 H locs h hP hS => ?_)
        refine lv_istore_n (lv' := [(2, .int r_15), (1, .int v_6), (0, .ref m0)]) hx hb dX4_pageLine_109 rfl hl (by decide) rfl (fun ls hl => ?_)
        refine lv_aload_n hx hb dX4_pageLine_110 rfl (lv_at hl 2 rfl) ?_
        refine mg_r S hK hP (k := 37) (by decide) (by decide) q1457 dX4_pageLine_111 ?_
        refine lv_iload_n hx hb dX4_pageLine_114 rfl (lv_at hl 1 rfl) ?_
        refine lv_iload_n hx hb dX4_pageLine_115 rfl (lv_at hl 0 rfl) ?_
        obtain ⟨hi, h⟩ := h
        refine ms_a S hK hA hP hS (k := 37) af_37 rfl hi dX4_pageLine_116 (fun M_16 H locs e_M_16 hP hS => ?_)
        replace h := h M_16 e_M_16
        refine lv_aload_n hx hb dX4_pageLine_117 rfl (lv_at hl 2 rfl) ?_
        refine mc_v S hK hP hS (As := []) (rest := []) (mt4_take l hA M_16 _ h) (cwV 0 S.2.2.2.2 (lw_V q1632 q1634 qs65 q145 q1635) rfl rfl rfl cdX4_take ⟨Nat.le_of_ble_eq_true rfl, Nat.le_of_ble_eq_true rfl⟩) rfl rfl hl.1 (Nat.le_of_ble_eq_true rfl) dX4_pageLine_118 ⟨Nat.le_refl _, Nat.le_refl _⟩ (fun M_17 H locs h hP hS => ?_)
        refine lv_aload_n hx hb dX4_pageLine_121 rfl (lv_at hl 2 rfl) ?_
        refine lv_iconst hx hb dX4_pageLine_122 kc_0 ?_
        refine lv_aload_n hx hb dX4_pageLine_123 rfl (lv_at hl 2 rfl) ?_
        refine mg_r S hK hP (k := 22) (by decide) (by decide) q1442 dX4_pageLine_124 ?_
        refine lv_bipush hx hb dX4_pageLine_127 kb_8 ?_
        refine lv_iload_n hx hb dX4_pageLine_129 rfl (lv_at hl 0 rfl) ?_
        refine lv_iadd hx hb dX4_pageLine_130 ?_
        obtain ⟨hi, h⟩ := h
        refine ml_a S hK hP (k := 22) af_22 rfl hi dX4_pageLine_131 ?_
        refine lv_iconst hx hb dX4_pageLine_132 kc_1 ?_
        refine lv_isub hx hb dX4_pageLine_133 ?_
        refine mc_i S hK hP hS (As := [.int (0 : Int32), .int ((ma M_17 22 (Int32.toNatClampNeg ((8 : Int32) + r_15))) - (1 : Int32))]) (rest := []) (mt4_numberRead l hA (0 : Int32) ((ma M_17 22 (Int32.toNatClampNeg ((8 : Int32) + r_15))) - (1 : Int32)) M_17 _ h) (cwV 2 S.2.2.2.2 (lw_V q1676 q1678 qs76 q145 q1679) rfl rfl rfl cdX4_numberRead ⟨Nat.le_of_ble_eq_true rfl, Nat.le_of_ble_eq_true rfl⟩) rfl rfl hl.1 (Nat.le_of_ble_eq_true rfl) dX4_pageLine_134 ⟨Nat.le_refl _, Nat.le_refl _⟩ (fun r_19 M_18 H locs h hP hS => ?_)
        refine lv_if_ne (tgt := 142) hx hb dX4_pageLine_137 (by decide) (fun c_20 => ?_) (fun c_20 => ?_)
        · replace h := h.2 c_20
          refine lv_aload_n hx hb dX4_pageLine_142 rfl (lv_at hl 2 rfl) ?_
          refine mg_r S hK hP (k := 38) (by decide) (by decide) q1458 dX4_pageLine_143 ?_
          refine lv_iload_n hx hb dX4_pageLine_146 rfl (lv_at hl 1 rfl) ?_
          refine lv_aload_n hx hb dX4_pageLine_147 rfl (lv_at hl 2 rfl) ?_
          refine mg_i S hK hP (k := 9) (by decide) (by decide) q1429 dX4_pageLine_148 ?_
          obtain ⟨hi, h⟩ := h
          refine ms_a S hK hA hP hS (k := 38) af_38 rfl hi dX4_pageLine_151 (fun M_21 H locs e_M_21 hP hS => ?_)
          replace h := h M_21 e_M_21
          refine lv_aload_n hx hb dX4_pageLine_152 rfl (lv_at hl 2 rfl) ?_
          refine lv_dup hx hb dX4_pageLine_153 rfl ?_
          refine mg_i S hK hP (k := 19) (by decide) (by decide) q1439 dX4_pageLine_154 ?_
          refine lv_iconst hx hb dX4_pageLine_157 kc_1 ?_
          refine lv_iadd hx hb dX4_pageLine_158 ?_
          refine mp_i S hK hA hP hS (k := 19) (by decide) (Or.inl rfl) rfl (Or.inl ⟨rfl, rfl⟩) q1439 dX4_pageLine_159 (fun M_22 H locs e_M_22 hP hS => ?_)
          replace h := h M_22 e_M_22
          refine lv_aload_n hx hb dX4_pageLine_162 rfl (lv_at hl 2 rfl) ?_
          refine mc_v S hK hP hS (As := []) (rest := []) (mt4_take l hA M_22 _ h) (cwV 0 S.2.2.2.2 (lw_V q1632 q1634 qs65 q145 q1635) rfl rfl rfl cdX4_take ⟨Nat.le_of_ble_eq_true rfl, Nat.le_of_ble_eq_true rfl⟩) rfl rfl hl.1 (Nat.le_of_ble_eq_true rfl) dX4_pageLine_163 ⟨Nat.le_refl _, Nat.le_refl _⟩ (fun M_23 H locs h hP hS => ?_)
          refine lv_iconst hx hb dX4_pageLine_166 kc_1 ?_
          exact hret _ _ _ _ _ _ hP hS h (vz_nar vz_1) dX4_pageLine_167
        · replace h := h.1 c_20
          refine lv_iconst hx hb dX4_pageLine_140 kc_0 ?_
          exact hret _ _ _ _ _ _ hP hS h (vz_nar vz_0) dX4_pageLine_141
      · replace h := h.1 c_13
        refine lv_iconst hx hb dX4_pageLine_89 kc_0 ?_
        exact hret _ _ _ _ _ _ hP hS h (vz_nar vz_0) dX4_pageLine_90
    · replace h := h.1 c_5
      refine lv_iconst hx hb dX4_pageLine_35 kc_0 ?_
      exact hret _ _ _ _ _ _ hP hS h (vz_nar vz_0) dX4_pageLine_36
  · replace h := h.1 c_1
    refine lv_aload_n hx hb dX4_pageLine_9 rfl (lv_at hl 0 rfl) ?_
    refine lv_iconst hx hb dX4_pageLine_10 kc_2 ?_
    refine mc_i S hK hP hS (As := [.int (2 : Int32)]) (rest := []) (mt4_wrong l hA (2 : Int32) M _ h) (cwV 1 S.2.2.2.2 (lw_V q1660 q1662 qs72 q145 q1663) rfl rfl rfl cdX4_wrong ⟨Nat.le_of_ble_eq_true rfl, Nat.le_of_ble_eq_true rfl⟩) rfl rfl hl.1 (Nat.le_of_ble_eq_true rfl) dX4_pageLine_11 ⟨Nat.le_refl _, Nat.le_refl _⟩ (fun r_25 M_24 H locs h hP hS => ?_)
    exact hret _ _ _ _ _ _ hP hS h.2 (vz_nar h.1) dX4_pageLine_14
