def w4_truth (a1 : Int32) (M : MS) (Post : Int32 → MS → Prop) : Prop := ∀ M_1 : MS, M_1 = si M 2 (0 : Int32) → w4_isIn a1 (1 : Int32) (9 : Int32) (fun r_2 => (r_2 = 0 → (Post (0 : Int32) M_1)) ∧ (¬ (r_2 = 0) → (∀ M_4 : MS, M_4 = si M_1 47 a1 → Post (1 : Int32) M_4)))
abbrev rX4_truth : Room := { frames := 1, cells := 0, slots := 0, locals := 22 }
theorem cdX4_truth : yX4_truth.cls = RX4 ∧ yX4_truth.cls ≠ "java/lang/invoke/MethodHandle" ∧ yX4_truth.cls ≠ "java/lang/invoke/VarHandle" ∧ (parseMethodDescriptor yX4_truth.desc).map (fun d => d.parameters.length) = some 1 := by decide +kernel
set_option maxHeartbeats 4000000 in
set_option maxRecDepth 100000 in
theorem mt4_truth (l : Launch) {D : va_G} {cA : Nat → ClassId} {m0 : Nat} {ad : Nat → Nat} (hA : mAd m0 ad) (a1 : Int32) (M : MS) (Post : Int32 → MS → Prop) (h : w4_truth a1 M Post) : Met l yX4_truth (ws_ yX4_truth cX4_truth 2 (some .boolean)) rX4_truth (mPc [.ref m0, .int a1] D cA m0 ad M) (va_Qi Post (mB D cA m0 ad) (mF m0 ad)) 0 0 (mF m0 ad) := by
  refine mst_i (own := RX4) (by decide) rfl (Nat.le_of_ble_eq_true rfl) ?_
  intro p e s m args below meth c Q ls S hK hP hS hl hret
  have hx := S.1
  have hb := S.2.1
  have hl : lv_has ls 2 [(0, .ref m0), (1, .int a1)] := hl
  unfold w4_truth at h
  refine lv_aload_n hx hb dX4_truth_0 rfl (lv_at hl 0 rfl) ?_
  refine lv_iconst hx hb dX4_truth_1 kc_0 ?_
  refine mp_i S hK hA hP hS (k := 2) (by decide) (Or.inl rfl) rfl (Or.inl ⟨rfl, rfl⟩) q1422 dX4_truth_2 (fun M_1 H locs e_M_1 hP hS => ?_)
  replace h := h M_1 e_M_1
  refine lv_iload_n hx hb dX4_truth_5 rfl (lv_at hl 1 rfl) ?_
  refine lv_iconst hx hb dX4_truth_6 kc_1 ?_
  refine lv_bipush hx hb dX4_truth_7 kb_9 ?_
  refine sc_i S (As := [.int a1, .int (1 : Int32), .int (9 : Int32)]) (rest := []) (mt4_isIn l a1 (1 : Int32) (9 : Int32) _ h) (va_cwS 3 S.2.2.2.2 (lw_S q1795 q1796 q145 q1797) rfl rfl rfl cdX4_isIn ⟨Nat.le_of_ble_eq_true rfl, Nat.le_of_ble_eq_true rfl⟩) rfl rfl hl.1 (Nat.le_of_ble_eq_true rfl) dX4_truth_9 ⟨Nat.le_refl _, Nat.le_refl _⟩ (fun r_2 h => ?_)
  refine lv_if_ne (tgt := 17) hx hb dX4_truth_12 (by decide) (fun c_3 => ?_) (fun c_3 => ?_)
  · replace h := h.2 c_3
    refine lv_aload_n hx hb dX4_truth_17 rfl (lv_at hl 0 rfl) ?_
    refine lv_iload_n hx hb dX4_truth_18 rfl (lv_at hl 1 rfl) ?_
    refine mp_i S hK hA hP hS (k := 47) (by decide) (Or.inl rfl) rfl (Or.inl ⟨rfl, rfl⟩) q1467 dX4_truth_19 (fun M_4 H locs e_M_4 hP hS => ?_)
    replace h := h M_4 e_M_4
    refine lv_iconst hx hb dX4_truth_22 kc_1 ?_
    exact hret _ _ _ _ _ _ hP hS h (vz_nar vz_1) dX4_truth_23
  · replace h := h.1 c_3
    refine lv_iconst hx hb dX4_truth_15 kc_0 ?_
    exact hret _ _ _ _ _ _ hP hS h (vz_nar vz_0) dX4_truth_16
def w4_begin (a1 : Int32) (a2 : Int32) (M : MS) (Post : Int32 → MS → Prop) : Prop := ∀ M_1 : MS, M_1 = si M 2 (0 : Int32) → w4_isIn a1 (1 : Int32) (99 : Int32) (fun r_2 => (r_2 = 0 → (Post (0 : Int32) M_1)) ∧ (¬ (r_2 = 0) → (w4_isIn a2 (1 : Int32) (99 : Int32) (fun r_4 => (r_4 = 0 → (Post (0 : Int32) M_1)) ∧ (¬ (r_4 = 0) → (∀ M_6 : MS, M_6 = si M_1 48 a1 → ∀ M_7 : MS, M_7 = si M_6 49 a2 → Post (1 : Int32) M_7))))))
abbrev rX4_begin : Room := { frames := 1, cells := 0, slots := 0, locals := 22 }
theorem cdX4_begin : yX4_begin.cls = RX4 ∧ yX4_begin.cls ≠ "java/lang/invoke/MethodHandle" ∧ yX4_begin.cls ≠ "java/lang/invoke/VarHandle" ∧ (parseMethodDescriptor yX4_begin.desc).map (fun d => d.parameters.length) = some 2 := by decide +kernel
set_option maxHeartbeats 4000000 in
set_option maxRecDepth 100000 in
theorem mt4_begin (l : Launch) {D : va_G} {cA : Nat → ClassId} {m0 : Nat} {ad : Nat → Nat} (hA : mAd m0 ad) (a1 : Int32) (a2 : Int32) (M : MS) (Post : Int32 → MS → Prop) (h : w4_begin a1 a2 M Post) : Met l yX4_begin (ws_ yX4_begin cX4_begin 3 (some .boolean)) rX4_begin (mPc [.ref m0, .int a1, .int a2] D cA m0 ad M) (va_Qi Post (mB D cA m0 ad) (mF m0 ad)) 0 0 (mF m0 ad) := by
  refine mst_i (own := RX4) (by decide) rfl (Nat.le_of_ble_eq_true rfl) ?_
  intro p e s m args below meth c Q ls S hK hP hS hl hret
  have hx := S.1
  have hb := S.2.1
  have hl : lv_has ls 3 [(0, .ref m0), (1, .int a1), (2, .int a2)] := hl
  unfold w4_begin at h
  refine lv_aload_n hx hb dX4_begin_0 rfl (lv_at hl 0 rfl) ?_
  refine lv_iconst hx hb dX4_begin_1 kc_0 ?_
  refine mp_i S hK hA hP hS (k := 2) (by decide) (Or.inl rfl) rfl (Or.inl ⟨rfl, rfl⟩) q1422 dX4_begin_2 (fun M_1 H locs e_M_1 hP hS => ?_)
  replace h := h M_1 e_M_1
  refine lv_iload_n hx hb dX4_begin_5 rfl (lv_at hl 1 rfl) ?_
  refine lv_iconst hx hb dX4_begin_6 kc_1 ?_
  refine lv_bipush hx hb dX4_begin_7 kb_99 ?_
  refine sc_i S (As := [.int a1, .int (1 : Int32), .int (99 : Int32)]) (rest := []) (mt4_isIn l a1 (1 : Int32) (99 : Int32) _ h) (va_cwS 3 S.2.2.2.2 (lw_S q1795 q1796 q145 q1797) rfl rfl rfl cdX4_isIn ⟨Nat.le_of_ble_eq_true rfl, Nat.le_of_ble_eq_true rfl⟩) rfl rfl hl.1 (Nat.le_of_ble_eq_true rfl) dX4_begin_9 ⟨Nat.le_refl _, Nat.le_refl _⟩ (fun r_2 h => ?_)
  refine lv_if_eq (tgt := 25) hx hb dX4_begin_12 (by decide) (fun c_3 => ?_) (fun c_3 => ?_)
  · replace h := h.1 c_3
    refine lv_iconst hx hb dX4_begin_25 kc_0 ?_
    exact hret _ _ _ _ _ _ hP hS h (vz_nar vz_0) dX4_begin_26
  · replace h := h.2 c_3
    refine lv_iload_n hx hb dX4_begin_15 rfl (lv_at hl 2 rfl) ?_
    refine lv_iconst hx hb dX4_begin_16 kc_1 ?_
    refine lv_bipush hx hb dX4_begin_17 kb_99 ?_
    refine sc_i S (As := [.int a2, .int (1 : Int32), .int (99 : Int32)]) (rest := []) (mt4_isIn l a2 (1 : Int32) (99 : Int32) _ h) (va_cwS 3 S.2.2.2.2 (lw_S q1795 q1796 q145 q1797) rfl rfl rfl cdX4_isIn ⟨Nat.le_of_ble_eq_true rfl, Nat.le_of_ble_eq_true rfl⟩) rfl rfl hl.1 (Nat.le_of_ble_eq_true rfl) dX4_begin_19 ⟨Nat.le_refl _, Nat.le_refl _⟩ (fun r_4 h => ?_)
    refine lv_if_ne (tgt := 27) hx hb dX4_begin_22 (by decide) (fun c_5 => ?_) (fun c_5 => ?_)
    · replace h := h.2 c_5
      refine lv_aload_n hx hb dX4_begin_27 rfl (lv_at hl 0 rfl) ?_
      refine lv_iload_n hx hb dX4_begin_28 rfl (lv_at hl 1 rfl) ?_
      refine mp_i S hK hA hP hS (k := 48) (by decide) (Or.inl rfl) rfl (Or.inl ⟨rfl, rfl⟩) q1468 dX4_begin_29 (fun M_6 H locs e_M_6 hP hS => ?_)
      replace h := h M_6 e_M_6
      refine lv_aload_n hx hb dX4_begin_32 rfl (lv_at hl 0 rfl) ?_
      refine lv_iload_n hx hb dX4_begin_33 rfl (lv_at hl 2 rfl) ?_
      refine mp_i S hK hA hP hS (k := 49) (by decide) (Or.inl rfl) rfl (Or.inl ⟨rfl, rfl⟩) q1469 dX4_begin_34 (fun M_7 H locs e_M_7 hP hS => ?_)
      replace h := h M_7 e_M_7
      refine lv_iconst hx hb dX4_begin_37 kc_1 ?_
      exact hret _ _ _ _ _ _ hP hS h (vz_nar vz_1) dX4_begin_38
    · replace h := h.1 c_5
      refine lv_iconst hx hb dX4_begin_25 kc_0 ?_
      exact hret _ _ _ _ _ _ hP hS h (vz_nar vz_0) dX4_begin_26
def w4_common_l6 (a0 : Int64) (a2 : Int64) (Post : Int64 → Prop) : Nat → Int64 → Int64 → Prop
  | 0, _, _ => False
  | n + 1, x4, x6 => (x6 = (0 : Int64) → (Post x4)) ∧ (¬ (x6 = (0 : Int64)) → ((¬ x6 = 0 ∧ ∀ v_2 : Int64, v_2 = x4 - x4 / x6 * x6 → w4_common_l6 a0 a2 Post n x6 v_2)))
def w4_common (a0 : Int64) (a2 : Int64) (Post : Int64 → Prop) : Prop := ∃ f, w4_common_l6 a0 a2 Post f a0 a2
abbrev rX4_common : Room := { frames := 0, cells := 0, slots := 0, locals := 0 }
theorem cdX4_common : yX4_common.cls ≠ "java/lang/invoke/MethodHandle" ∧ yX4_common.cls ≠ "java/lang/invoke/VarHandle" ∧ (parseMethodDescriptor yX4_common.desc).map (fun d => d.parameters.length) = some 2 := by decide +kernel
set_option maxHeartbeats 4000000 in
set_option maxRecDepth 100000 in
theorem mt4_common (l : Launch) (a0 : Int64) (a2 : Int64) (Post : Int64 → Prop) (h : w4_common a0 a2 Post) : Met l yX4_common (ws_ yX4_common cX4_common 10 (some .long)) rX4_common (va_Pc [.long a0, .long a2] (fun _ => True)) (vp_Sl Post) 0 0 (fun _ => False) := by
  refine sst_l (own := RX4) (by decide) rfl (Nat.le_of_ble_eq_true rfl) ?_
  intro p e s m args below meth c Q ls S hl hret
  have hx := S.1
  have hb := S.2.1
  have hl : lv_has ls 10 [(0, .long a0), (2, .long a2)] := hl
  have L6 : ∀ (n : Nat) (x4 : Int64) (x6 : Int64) (ls : Array Slot), lv_has ls 10 [(4, .long x4), (6, .long x6)] → w4_common_l6 a0 a2 Post n x4 x6 → W p l e rX4_common s m args below meth c s.heap [] 0 0 Q (F0 m 6 ls []) := by
    intro n
    induction n with
    | zero => intro x4 x6 ls hl h; rw [w4_common_l6] at h; exact h.elim
    | succ n ih =>
      intro x4 x6 ls hl h
      rw [w4_common_l6] at h
      refine lv_lload hx hb dX4_common_6 (lv_at hl 1 rfl) ?_
      refine lv_lconst (v := 0) hx hb dX4_common_8 rfl ?_
      refine W.lcmp hx hb dX4_common_9 ?_
      refine lv_if_eq (tgt := 31) hx hb dX4_common_10 (by decide) (fun c_1 => ?_) (fun c_1 => ?_)
      · replace h := h.1 ((lg_cmp_eq _ _).mp c_1)
        refine lv_lload hx hb dX4_common_31 (lv_at hl 0 rfl) ?_
        exact hret _ _ _ h dX4_common_33
      · replace h := h.2 (fun q => c_1 ((lg_cmp_eq _ _).mpr q))
        refine lv_lload hx hb dX4_common_13 (lv_at hl 0 rfl) ?_
        refine lv_lload hx hb dX4_common_15 (lv_at hl 1 rfl) ?_
        obtain ⟨hz, h⟩ := h
        refine lv_lrem hx hb dX4_common_17 hz ?_
        refine lv_topl (fun v_2 e_v_2 => ?_)
        replace h := h v_2 e_v_2
        refine lv_lstore (lv' := [(8, .long v_2), (4, .long x4), (6, .long x6)]) hx hb dX4_common_18 hl (by decide) rfl (fun ls hl => ?_)
        refine lv_lload hx hb dX4_common_20 (lv_at hl 2 rfl) ?_
        refine lv_lstore (lv' := [(4, .long x6), (8, .long v_2), (6, .long x6)]) hx hb dX4_common_22 hl (by decide) rfl (fun ls hl => ?_)
        refine lv_lload hx hb dX4_common_24 (lv_at hl 1 rfl) ?_
        refine lv_lstore (lv' := [(6, .long v_2), (4, .long x6), (8, .long v_2)]) hx hb dX4_common_26 hl (by decide) rfl (fun ls hl => ?_)
        refine lv_goto (tgt := 6) hx hb dX4_common_28 (by decide) ?_
        exact ih _ _ _ (lv_sub hl [1, 0] rfl) h
  unfold w4_common at h
  refine lv_lload_n hx hb dX4_common_0 rfl (lv_at hl 0 rfl) ?_
  refine lv_lstore (lv' := [(4, .long a0), (0, .long a0), (2, .long a2)]) hx hb dX4_common_1 hl (by decide) rfl (fun ls hl => ?_)
  refine lv_lload_n hx hb dX4_common_3 rfl (lv_at hl 2 rfl) ?_
  refine lv_lstore (lv' := [(6, .long a2), (4, .long a0), (0, .long a0), (2, .long a2)]) hx hb dX4_common_4 hl (by decide) rfl (fun ls hl => ?_)
  obtain ⟨f, h⟩ := h
  exact L6 f _ _ _ (lv_sub hl [1, 0] rfl) h
def w4_least (M : MS) (Post : MS → Prop) : Prop := w4_common (ml M 58) (ml M 59) (fun r_1 => (¬ r_1 = 0 ∧ ∀ M_2 : MS, M_2 = sl M 58 ((ml M 58) / r_1) → (¬ r_1 = 0 ∧ ∀ M_3 : MS, M_3 = sl M_2 59 ((ml M_2 59) / r_1) → Post M_3)))
abbrev rX4_least : Room := { frames := 1, cells := 0, slots := 0, locals := 29 }
theorem cdX4_least : yX4_least.cls = RX4 ∧ yX4_least.cls ≠ "java/lang/invoke/MethodHandle" ∧ yX4_least.cls ≠ "java/lang/invoke/VarHandle" ∧ (parseMethodDescriptor yX4_least.desc).map (fun d => d.parameters.length) = some 0 := by decide +kernel
set_option maxHeartbeats 4000000 in
set_option maxRecDepth 100000 in
theorem mt4_least (l : Launch) {D : va_G} {cA : Nat → ClassId} {m0 : Nat} {ad : Nat → Nat} (hA : mAd m0 ad) (M : MS) (Post : MS → Prop) (h : w4_least M Post) : Met l yX4_least (ws_ yX4_least cX4_least 3 none) rX4_least (mPc [.ref m0] D cA m0 ad M) (va_Qv Post (mB D cA m0 ad) (mF m0 ad)) 0 0 (mF m0 ad) := by
  refine mst_v (own := RX4) (by decide) rfl (Nat.le_of_ble_eq_true rfl) ?_
  intro p e s m args below meth c Q ls S hK hP hS hl hret
  have hx := S.1
  have hb := S.2.1
  have hl : lv_has ls 3 [(0, .ref m0)] := hl
  unfold w4_least at h
  refine lv_aload_n hx hb dX4_least_0 rfl (lv_at hl 0 rfl) ?_
  refine mg_l S hK hP (k := 58) (by decide) rfl q1478 dX4_least_1 ?_
  refine lv_aload_n hx hb dX4_least_4 rfl (lv_at hl 0 rfl) ?_
  refine mg_l S hK hP (k := 59) (by decide) rfl q1479 dX4_least_5 ?_
  refine sc_l S (As := [.long (ml M 58), .long (ml M 59)]) (rest := []) (mt4_common l (ml M 58) (ml M 59) _ h) (va_cwS 2 S.2.2.2.2 (lw_S q1870 q1871 q145 q1872) rfl rfl rfl cdX4_common ⟨Nat.le_of_ble_eq_true rfl, Nat.le_of_ble_eq_true rfl⟩) rfl rfl hl.1 (Nat.le_of_ble_eq_true rfl) dX4_least_8 ⟨Nat.le_refl _, Nat.le_refl _⟩ (fun r_1 h => ?_)
  refine lv_lstore_n (lv' := [(1, .long r_1), (0, .ref m0)]) hx hb dX4_least_11 rfl hl (by decide) rfl (fun ls hl => ?_)
  refine lv_aload_n hx hb dX4_least_12 rfl (lv_at hl 1 rfl) ?_
  refine lv_dup hx hb dX4_least_13 rfl ?_
  refine mg_l S hK hP (k := 58) (by decide) rfl q1478 dX4_least_14 ?_
  refine lv_lload_n hx hb dX4_least_17 rfl (lv_at hl 0 rfl) ?_
  obtain ⟨hz, h⟩ := h
  refine lv_ldiv hx hb dX4_least_18 hz ?_
  refine mp_l S hK hA hP hS (k := 58) (by decide) rfl rfl rfl q1478 dX4_least_19 (fun M_2 H locs e_M_2 hP hS => ?_)
  replace h := h M_2 e_M_2
  refine lv_aload_n hx hb dX4_least_22 rfl (lv_at hl 1 rfl) ?_
  refine lv_dup hx hb dX4_least_23 rfl ?_
  refine mg_l S hK hP (k := 59) (by decide) rfl q1479 dX4_least_24 ?_
  refine lv_lload_n hx hb dX4_least_27 rfl (lv_at hl 0 rfl) ?_
  obtain ⟨hz, h⟩ := h
  refine lv_ldiv hx hb dX4_least_28 hz ?_
  refine mp_l S hK hA hP hS (k := 59) (by decide) rfl rfl rfl q1479 dX4_least_29 (fun M_3 H locs e_M_3 hP hS => ?_)
  replace h := h M_3 e_M_3
  exact hret _ _ _ _ _ hP hS h dX4_least_32
def w4_isFirstLine_c39 (a1 : Int32) (k2 : Int32 → MS → Prop) (Post : Int32 → MS → Prop) (x2 : Int32) (M : MS) : Prop := ∀ v_3 : Int32, v_3 = x2 + (1 : Int32) → k2 v_3 M
def w4_isFirstLine_l2 (a1 : Int32) (Post : Int32 → MS → Prop) : Nat → Int32 → MS → Prop
  | 0, _, _ => False
  | n + 1, x2, M => (a1 ≤ x2 → (Post (1 : Int32) M)) ∧ (¬ (a1 ≤ x2) → ((vp_in x2 (mN 36) ∧ (vp_in a1 (mN 36) ∧ ((ma M 36 (Int32.toNatClampNeg x2)) = (ma M 36 (Int32.toNatClampNeg a1)) → ((vp_in x2 (mN 37) ∧ (vp_in a1 (mN 37) ∧ ((ma M 37 (Int32.toNatClampNeg x2)) = (ma M 37 (Int32.toNatClampNeg a1)) → (Post (0 : Int32) M)) ∧ (¬ ((ma M 37 (Int32.toNatClampNeg x2)) = (ma M 37 (Int32.toNatClampNeg a1))) → (w4_isFirstLine_c39 a1 (w4_isFirstLine_l2 a1 Post n) Post x2 M)))))) ∧ (¬ ((ma M 36 (Int32.toNatClampNeg x2)) = (ma M 36 (Int32.toNatClampNeg a1))) → (w4_isFirstLine_c39 a1 (w4_isFirstLine_l2 a1 Post n) Post x2 M))))))
def w4_isFirstLine (a1 : Int32) (M : MS) (Post : Int32 → MS → Prop) : Prop := ∃ f, w4_isFirstLine_l2 a1 Post f (0 : Int32) M
abbrev rX4_isFirstLine : Room := { frames := 0, cells := 0, slots := 0, locals := 0 }
theorem cdX4_isFirstLine : yX4_isFirstLine.cls = RX4 ∧ yX4_isFirstLine.cls ≠ "java/lang/invoke/MethodHandle" ∧ yX4_isFirstLine.cls ≠ "java/lang/invoke/VarHandle" ∧ (parseMethodDescriptor yX4_isFirstLine.desc).map (fun d => d.parameters.length) = some 1 := by decide +kernel
set_option maxHeartbeats 4000000 in
set_option maxRecDepth 100000 in
theorem mt4_isFirstLine (l : Launch) {D : va_G} {cA : Nat → ClassId} {m0 : Nat} {ad : Nat → Nat} (hA : mAd m0 ad) (a1 : Int32) (M : MS) (Post : Int32 → MS → Prop) (h : w4_isFirstLine a1 M Post) : Met l yX4_isFirstLine (ws_ yX4_isFirstLine cX4_isFirstLine 3 (some .boolean)) rX4_isFirstLine (mPc [.ref m0, .int a1] D cA m0 ad M) (va_Qi Post (mB D cA m0 ad) (mF m0 ad)) 0 0 (mF m0 ad) := by
  refine mst_i (own := RX4) (by decide) rfl (Nat.le_of_ble_eq_true rfl) ?_
  intro p e s m args below meth c Q ls S hK hP hS hl hret
  have hx := S.1
  have hb := S.2.1
  have hl : lv_has ls 3 [(0, .ref m0), (1, .int a1)] := hl
  have C39 : ∀ (k2 : Int32 → MS → Prop) (K2 : (∀ (x2 : Int32) (M : MS) (H : Heap) (locs : List Loc) (ls : Array Slot), va_P D vwCl (mo cA m0 ad M) H → va_S (mF m0 ad) s.heap H locs → lv_has ls 3 [(0, .ref m0), (1, .int a1), (2, .int x2)] → k2 x2 M → W p l e rX4_isFirstLine s m args below meth c H locs 0 0 Q (F0 m 2 ls []))), ∀ (x2 : Int32) (M : MS) (H : Heap) (locs : List Loc) (ls : Array Slot), va_P D vwCl (mo cA m0 ad M) H → va_S (mF m0 ad) s.heap H locs → lv_has ls 3 [(0, .ref m0), (1, .int a1), (2, .int x2)] → w4_isFirstLine_c39 a1 k2 Post x2 M → W p l e rX4_isFirstLine s m args below meth c H locs 0 0 Q (F0 m 39 ls []) := by
    intro k2 K2
    intro x2 M H locs ls hP hS hl h
    unfold w4_isFirstLine_c39 at h
    obtain ⟨v_3, e_v_3⟩ : ∃ y : Int32, y = x2 + (1 : Int32) := ⟨_, rfl⟩
    replace h := h v_3 e_v_3
    refine lv_iinc (v := v_3) (lv' := [(2, .int v_3), (0, .ref m0), (1, .int a1)]) hx hb dX4_isFirstLine_39 hl (k := 2) rfl (by rw [kc_1, e_v_3]) (by decide) rfl (fun ls hl => ?_)
    refine lv_goto (tgt := 2) hx hb dX4_isFirstLine_42 (by decide) ?_
    exact K2 _ _ _ _ _ hP hS (lv_sub hl [1, 2, 0] rfl) h
  have L2 : ∀ (n : Nat) (x2 : Int32) (M : MS) (H : Heap) (locs : List Loc) (ls : Array Slot), va_P D vwCl (mo cA m0 ad M) H → va_S (mF m0 ad) s.heap H locs → lv_has ls 3 [(0, .ref m0), (1, .int a1), (2, .int x2)] → w4_isFirstLine_l2 a1 Post n x2 M → W p l e rX4_isFirstLine s m args below meth c H locs 0 0 Q (F0 m 2 ls []) := by
    intro n
    induction n with
    | zero => intro x2 M H locs ls hP hS hl h; rw [w4_isFirstLine_l2] at h; exact h.elim
    | succ n ih =>
      intro x2 M H locs ls hP hS hl h
      rw [w4_isFirstLine_l2] at h
      refine lv_iload_n hx hb dX4_isFirstLine_2 rfl (lv_at hl 2 rfl) ?_
      refine lv_iload_n hx hb dX4_isFirstLine_3 rfl (lv_at hl 1 rfl) ?_
      refine lv_icmp_ge (tgt := 45) hx hb dX4_isFirstLine_4 (by decide) (fun c_1 => ?_) (fun c_1 => ?_)
      · replace h := h.1 c_1
        refine lv_iconst hx hb dX4_isFirstLine_45 kc_1 ?_
        exact hret _ _ _ _ _ _ hP hS h (vz_nar vz_1) dX4_isFirstLine_46
      · replace h := h.2 c_1
        refine lv_aload_n hx hb dX4_isFirstLine_7 rfl (lv_at hl 0 rfl) ?_
        refine mg_r S hK hP (k := 36) (by decide) (by decide) q1456 dX4_isFirstLine_8 ?_
        refine lv_iload_n hx hb dX4_isFirstLine_11 rfl (lv_at hl 2 rfl) ?_
        obtain ⟨hi, h⟩ := h
        refine ml_a S hK hP (k := 36) af_36 rfl hi dX4_isFirstLine_12 ?_
        refine lv_aload_n hx hb dX4_isFirstLine_13 rfl (lv_at hl 0 rfl) ?_
        refine mg_r S hK hP (k := 36) (by decide) (by decide) q1456 dX4_isFirstLine_14 ?_
        refine lv_iload_n hx hb dX4_isFirstLine_17 rfl (lv_at hl 1 rfl) ?_
        obtain ⟨hi, h⟩ := h
        refine ml_a S hK hP (k := 36) af_36 rfl hi dX4_isFirstLine_18 ?_
        refine lv_icmp_ne (tgt := 39) hx hb dX4_isFirstLine_19 (by decide) (fun c_2 => ?_) (fun c_2 => ?_)
        · replace h := h.2 c_2
          exact C39 _ ih _ _ _ _ _ hP hS (lv_sub hl [0, 1, 2] rfl) h
        · replace h := h.1 c_2
          refine lv_aload_n hx hb dX4_isFirstLine_22 rfl (lv_at hl 0 rfl) ?_
          refine mg_r S hK hP (k := 37) (by decide) (by decide) q1457 dX4_isFirstLine_23 ?_
          refine lv_iload_n hx hb dX4_isFirstLine_26 rfl (lv_at hl 2 rfl) ?_
          obtain ⟨hi, h⟩ := h
          refine ml_a S hK hP (k := 37) af_37 rfl hi dX4_isFirstLine_27 ?_
          refine lv_aload_n hx hb dX4_isFirstLine_28 rfl (lv_at hl 0 rfl) ?_
          refine mg_r S hK hP (k := 37) (by decide) (by decide) q1457 dX4_isFirstLine_29 ?_
          refine lv_iload_n hx hb dX4_isFirstLine_32 rfl (lv_at hl 1 rfl) ?_
          obtain ⟨hi, h⟩ := h
          refine ml_a S hK hP (k := 37) af_37 rfl hi dX4_isFirstLine_33 ?_
          refine lv_icmp_ne (tgt := 39) hx hb dX4_isFirstLine_34 (by decide) (fun c_4 => ?_) (fun c_4 => ?_)
          · replace h := h.2 c_4
            exact C39 _ ih _ _ _ _ _ hP hS (lv_sub hl [0, 1, 2] rfl) h
          · replace h := h.1 c_4
            refine lv_iconst hx hb dX4_isFirstLine_37 kc_0 ?_
            exact hret _ _ _ _ _ _ hP hS h (vz_nar vz_0) dX4_isFirstLine_38
  unfold w4_isFirstLine at h
  refine lv_iconst hx hb dX4_isFirstLine_0 kc_0 ?_
  refine lv_istore_n (lv' := [(2, .int (0 : Int32)), (0, .ref m0), (1, .int a1)]) hx hb dX4_isFirstLine_1 rfl hl (by decide) rfl (fun ls hl => ?_)
  obtain ⟨f, h⟩ := h
  exact L2 f _ _ _ _ _ hP hS (lv_sub hl [1, 2, 0] rfl) h
def w4_weighs_c86 (a1 : Int32) (a2 : Int32) (Post : MS → Prop) (M : MS) : Prop := w4_least M (fun M_4 => Post M_4)
def w4_weighs (a1 : Int32) (a2 : Int32) (M : MS) (Post : MS → Prop) : Prop := (a2 = 0 → ((vp_in a1 (mN 22) ∧ ∀ M_2 : MS, M_2 = sl M 58 ((ml M 58) * ((((10 : Int32) - (mi M 47)) * (ma M 22 (Int32.toNatClampNeg a1))).toInt64)) → (vp_in a1 (mN 22) ∧ ∀ M_3 : MS, M_3 = sl M_2 59 ((ml M_2 59) * ((10 : Int64) * (((ma M_2 22 (Int32.toNatClampNeg a1)) - (1 : Int32)).toInt64))) → w4_weighs_c86 a1 a2 Post M_3)))) ∧ (¬ (a2 = 0) → ((vp_in a1 (mN 22) ∧ ∀ M_5 : MS, M_5 = sl M 58 ((ml M 58) * (((mi M 47) * (ma M 22 (Int32.toNatClampNeg a1))).toInt64)) → ∀ M_6 : MS, M_6 = sl M_5 59 ((ml M_5 59) * (10 : Int64)) → w4_weighs_c86 a1 a2 Post M_6)))
abbrev rX4_weighs : Room := { frames := 2, cells := 0, slots := 0, locals := 51 }
theorem cdX4_weighs : yX4_weighs.cls = RX4 ∧ yX4_weighs.cls ≠ "java/lang/invoke/MethodHandle" ∧ yX4_weighs.cls ≠ "java/lang/invoke/VarHandle" ∧ (parseMethodDescriptor yX4_weighs.desc).map (fun d => d.parameters.length) = some 2 := by decide +kernel
set_option maxHeartbeats 4000000 in
set_option maxRecDepth 100000 in
theorem mt4_weighs (l : Launch) {D : va_G} {cA : Nat → ClassId} {m0 : Nat} {ad : Nat → Nat} (hA : mAd m0 ad) (a1 : Int32) (a2 : Int32) (M : MS) (Post : MS → Prop) (h : w4_weighs a1 a2 M Post) : Met l yX4_weighs (ws_ yX4_weighs cX4_weighs 3 none) rX4_weighs (mPc [.ref m0, .int a1, .int a2] D cA m0 ad M) (va_Qv Post (mB D cA m0 ad) (mF m0 ad)) 0 0 (mF m0 ad) := by
  refine mst_v (own := RX4) (by decide) rfl (Nat.le_of_ble_eq_true rfl) ?_
  intro p e s m args below meth c Q ls S hK hP hS hl hret
  have hx := S.1
  have hb := S.2.1
  have hl : lv_has ls 3 [(0, .ref m0), (1, .int a1), (2, .int a2)] := hl
  have C86 : ∀ (M : MS) (H : Heap) (locs : List Loc) (ls : Array Slot), va_P D vwCl (mo cA m0 ad M) H → va_S (mF m0 ad) s.heap H locs → lv_has ls 3 [(0, .ref m0)] → w4_weighs_c86 a1 a2 Post M → W p l e rX4_weighs s m args below meth c H locs 0 0 Q (F0 m 86 ls []) := by
    intro M H locs ls hP hS hl h
    unfold w4_weighs_c86 at h
    refine lv_aload_n hx hb dX4_weighs_86 rfl (lv_at hl 0 rfl) ?_
    refine mc_v S hK hP hS (As := []) (rest := []) (mt4_least l hA M _ h) (cwV 0 S.2.2.2.2 (lw_V q1866 q1868 qs107 q145 q1869) rfl rfl rfl cdX4_least ⟨Nat.le_of_ble_eq_true rfl, Nat.le_of_ble_eq_true rfl⟩) rfl rfl hl.1 (Nat.le_of_ble_eq_true rfl) dX4_weighs_87 ⟨Nat.le_refl _, Nat.le_refl _⟩ (fun M_4 H locs h hP hS => ?_)
    exact hret _ _ _ _ _ hP hS h dX4_weighs_90
  unfold w4_weighs at h
  refine lv_iload_n hx hb dX4_weighs_0 rfl (lv_at hl 2 rfl) ?_
  refine lv_if_eq (tgt := 40) hx hb dX4_weighs_1 (by decide) (fun c_1 => ?_) (fun c_1 => ?_)
  · replace h := h.1 c_1
    refine lv_aload_n hx hb dX4_weighs_40 rfl (lv_at hl 0 rfl) ?_
    refine lv_dup hx hb dX4_weighs_41 rfl ?_
    refine mg_l S hK hP (k := 58) (by decide) rfl q1478 dX4_weighs_42 ?_
    refine lv_bipush hx hb dX4_weighs_45 kb_10 ?_
    refine lv_aload_n hx hb dX4_weighs_47 rfl (lv_at hl 0 rfl) ?_
    refine mg_i S hK hP (k := 47) (by decide) (by decide) q1467 dX4_weighs_48 ?_
    refine lv_isub hx hb dX4_weighs_51 ?_
    refine lv_aload_n hx hb dX4_weighs_52 rfl (lv_at hl 0 rfl) ?_
    refine mg_r S hK hP (k := 22) (by decide) (by decide) q1442 dX4_weighs_53 ?_
    refine lv_iload_n hx hb dX4_weighs_56 rfl (lv_at hl 1 rfl) ?_
    obtain ⟨hi, h⟩ := h
    refine ml_a S hK hP (k := 22) af_22 rfl hi dX4_weighs_57 ?_
    refine lv_imul hx hb dX4_weighs_58 ?_
    refine lv_i2l hx hb dX4_weighs_59 rfl ?_
    refine lv_lmul hx hb dX4_weighs_60 ?_
    refine mp_l S hK hA hP hS (k := 58) (by decide) rfl rfl rfl q1478 dX4_weighs_61 (fun M_2 H locs e_M_2 hP hS => ?_)
    replace h := h M_2 e_M_2
    refine lv_aload_n hx hb dX4_weighs_64 rfl (lv_at hl 0 rfl) ?_
    refine lv_dup hx hb dX4_weighs_65 rfl ?_
    refine mg_l S hK hP (k := 59) (by decide) rfl q1479 dX4_weighs_66 ?_
    refine lv_ldc2 (own := RX4) (v := 10) hx hb S.2.2.2.1 (S.2.2.2.2 _ q1881) dX4_weighs_69 ?_
    refine lv_aload_n hx hb dX4_weighs_72 rfl (lv_at hl 0 rfl) ?_
    refine mg_r S hK hP (k := 22) (by decide) (by decide) q1442 dX4_weighs_73 ?_
    refine lv_iload_n hx hb dX4_weighs_76 rfl (lv_at hl 1 rfl) ?_
    obtain ⟨hi, h⟩ := h
    refine ml_a S hK hP (k := 22) af_22 rfl hi dX4_weighs_77 ?_
    refine lv_iconst hx hb dX4_weighs_78 kc_1 ?_
    refine lv_isub hx hb dX4_weighs_79 ?_
    refine lv_i2l hx hb dX4_weighs_80 rfl ?_
    refine lv_lmul hx hb dX4_weighs_81 ?_
    refine lv_lmul hx hb dX4_weighs_82 ?_
    refine mp_l S hK hA hP hS (k := 59) (by decide) rfl rfl rfl q1479 dX4_weighs_83 (fun M_3 H locs e_M_3 hP hS => ?_)
    replace h := h M_3 e_M_3
    exact C86 _ _ _ _ hP hS (lv_sub hl [0] rfl) h
  · replace h := h.2 c_1
    refine lv_aload_n hx hb dX4_weighs_4 rfl (lv_at hl 0 rfl) ?_
    refine lv_dup hx hb dX4_weighs_5 rfl ?_
    refine mg_l S hK hP (k := 58) (by decide) rfl q1478 dX4_weighs_6 ?_
    refine lv_aload_n hx hb dX4_weighs_9 rfl (lv_at hl 0 rfl) ?_
    refine mg_i S hK hP (k := 47) (by decide) (by decide) q1467 dX4_weighs_10 ?_
    refine lv_aload_n hx hb dX4_weighs_13 rfl (lv_at hl 0 rfl) ?_
    refine mg_r S hK hP (k := 22) (by decide) (by decide) q1442 dX4_weighs_14 ?_
    refine lv_iload_n hx hb dX4_weighs_17 rfl (lv_at hl 1 rfl) ?_
    obtain ⟨hi, h⟩ := h
    refine ml_a S hK hP (k := 22) af_22 rfl hi dX4_weighs_18 ?_
    refine lv_imul hx hb dX4_weighs_19 ?_
    refine lv_i2l hx hb dX4_weighs_20 rfl ?_
    refine lv_lmul hx hb dX4_weighs_21 ?_
    refine mp_l S hK hA hP hS (k := 58) (by decide) rfl rfl rfl q1478 dX4_weighs_22 (fun M_5 H locs e_M_5 hP hS => ?_)
    replace h := h M_5 e_M_5
    refine lv_aload_n hx hb dX4_weighs_25 rfl (lv_at hl 0 rfl) ?_
    refine lv_dup hx hb dX4_weighs_26 rfl ?_
    refine mg_l S hK hP (k := 59) (by decide) rfl q1479 dX4_weighs_27 ?_
    refine lv_ldc2 (own := RX4) (v := 10) hx hb S.2.2.2.1 (S.2.2.2.2 _ q1881) dX4_weighs_30 ?_
    refine lv_lmul hx hb dX4_weighs_33 ?_
    refine mp_l S hK hA hP hS (k := 59) (by decide) rfl rfl rfl q1479 dX4_weighs_34 (fun M_6 H locs e_M_6 hP hS => ?_)
    replace h := h M_6 e_M_6
    refine lv_goto (tgt := 86) hx hb dX4_weighs_37 (by decide) ?_
    exact C86 _ _ _ _ hP hS (lv_sub hl [0] rfl) h
def w4_odds_c229 (a1 : Int32) (a2 : Int32) (a3 : Int32) (Post : Int64 → MS → Prop) (M : MS) : Prop := (a3 = 0 → (Post (ml M 58) M)) ∧ (¬ (a3 = 0) → (Post (ml M 59) M))
def w4_odds_c223 (a1 : Int32) (a2 : Int32) (a3 : Int32) (k144 : Int32 → MS → Prop) (Post : Int64 → MS → Prop) (x4 : Int32) (M : MS) : Prop := ∀ v_18 : Int32, v_18 = x4 + (1 : Int32) → k144 v_18 M
def w4_odds_c206 (a1 : Int32) (a2 : Int32) (a3 : Int32) (k144 : Int32 → MS → Prop) (Post : Int64 → MS → Prop) (x4 : Int32) (M : MS) : Prop := (vp_in x4 (mN 34) ∧ w4_isRight x4 M (fun r_25 M_24 => w4_weighs (ma M 34 (Int32.toNatClampNeg x4)) r_25 M_24 (fun M_26 => w4_odds_c223 a1 a2 a3 k144 Post x4 M_26)))
def w4_odds_l144 (a1 : Int32) (a2 : Int32) (a3 : Int32) (Post : Int64 → MS → Prop) : Nat → Int32 → MS → Prop
  | 0, _, _ => False
  | n + 1, x4, M => ((mi M 13) ≤ x4 → (w4_odds_c229 a1 a2 a3 Post M)) ∧ (¬ ((mi M 13) ≤ x4) → (w4_isHeardWord x4 M (fun r_16 M_15 => (r_16 = 0 → (w4_odds_c223 a1 a2 a3 (w4_odds_l144 a1 a2 a3 Post n) Post x4 M_15)) ∧ (¬ (r_16 = 0) → ((vp_in x4 (mN 32) ∧ ((ma M_15 32 (Int32.toNatClampNeg x4)) = a1 → (w4_whatIs x4 M_15 (fun r_21 M_20 => ((r_21 &&& (14 : Int32)) = (2 : Int32) → ((a2 = (1 : Int32) → (w4_odds_c206 a1 a2 a3 (w4_odds_l144 a1 a2 a3 Post n) Post x4 M_20)) ∧ (¬ (a2 = (1 : Int32)) → (((r_21 &&& (16 : Int32)) = 0 → (w4_odds_c206 a1 a2 a3 (w4_odds_l144 a1 a2 a3 Post n) Post x4 M_20)) ∧ (¬ ((r_21 &&& (16 : Int32)) = 0) → (w4_odds_c223 a1 a2 a3 (w4_odds_l144 a1 a2 a3 Post n) Post x4 M_20)))))) ∧ (¬ ((r_21 &&& (14 : Int32)) = (2 : Int32)) → (w4_odds_c223 a1 a2 a3 (w4_odds_l144 a1 a2 a3 Post n) Post x4 M_20))))) ∧ (¬ ((ma M_15 32 (Int32.toNatClampNeg x4)) = a1) → (w4_odds_c223 a1 a2 a3 (w4_odds_l144 a1 a2 a3 Post n) Post x4 M_15))))))))
def w4_odds_c132 (a1 : Int32) (a2 : Int32) (a3 : Int32) (k65 : Int32 → MS → Prop) (Post : Int64 → MS → Prop) (x4 : Int32) (M : MS) : Prop := ∀ v_30 : Int32, v_30 = x4 + (1 : Int32) → k65 v_30 M
def w4_odds_c129 (a1 : Int32) (a2 : Int32) (a3 : Int32) (k65 : Int32 → MS → Prop) (Post : Int64 → MS → Prop) (x4 : Int32) (t0 : Int32) (t1 : Int32) (M : MS) : Prop := w4_weighs t1 t0 M (fun M_35 => w4_odds_c132 a1 a2 a3 k65 Post x4 M_35)
def w4_odds_l65 (a1 : Int32) (a2 : Int32) (a3 : Int32) (Post : Int64 → MS → Prop) : Nat → Int32 → MS → Prop
  | 0, _, _ => False
  | n + 1, x4, M => ((mi M 14) ≤ x4 → (w4_odds_c229 a1 a2 a3 Post M)) ∧ (¬ ((mi M 14) ≤ x4) → ((vp_in x4 (mN 36) ∧ ((ma M 36 (Int32.toNatClampNeg x4)) = a1 → (w4_isFirstLine x4 M (fun r_32 M_31 => (r_32 = 0 → (w4_odds_c132 a1 a2 a3 (w4_odds_l65 a1 a2 a3 Post n) Post x4 M_31)) ∧ (¬ (r_32 = 0) → ((vp_in x4 (mN 37) ∧ (vp_in x4 (mN 38) ∧ (vp_in x4 (mN 37) ∧ (vp_in (ma M_31 37 (Int32.toNatClampNeg x4)) (mN 23) ∧ ((ma M_31 38 (Int32.toNatClampNeg x4)) = (ma M_31 23 (Int32.toNatClampNeg (ma M_31 37 (Int32.toNatClampNeg x4)))) → (w4_odds_c129 a1 a2 a3 (w4_odds_l65 a1 a2 a3 Post n) Post x4 (1 : Int32) (ma M_31 37 (Int32.toNatClampNeg x4)) M_31)) ∧ (¬ ((ma M_31 38 (Int32.toNatClampNeg x4)) = (ma M_31 23 (Int32.toNatClampNeg (ma M_31 37 (Int32.toNatClampNeg x4))))) → (w4_odds_c129 a1 a2 a3 (w4_odds_l65 a1 a2 a3 Post n) Post x4 (0 : Int32) (ma M_31 37 (Int32.toNatClampNeg x4)) M_31))))))))))) ∧ (¬ ((ma M 36 (Int32.toNatClampNeg x4)) = a1) → (w4_odds_c132 a1 a2 a3 (w4_odds_l65 a1 a2 a3 Post n) Post x4 M)))))
def w4_odds (a1 : Int32) (a2 : Int32) (a3 : Int32) (M : MS) (Post : Int64 → MS → Prop) : Prop := ∀ M_1 : MS, M_1 = si M 2 (0 : Int32) → w4_isTeller a1 M_1 (fun r_3 M_2 => (r_3 = 0 → (Post (-1 : Int64) M_2)) ∧ (¬ (r_3 = 0) → (w4_isIn a2 (0 : Int32) (2 : Int32) (fun r_5 => (r_5 = 0 → (Post (-1 : Int64) M_2)) ∧ (¬ (r_5 = 0) → (w4_isIn a3 (0 : Int32) (1 : Int32) (fun r_7 => (r_7 = 0 → (Post (-1 : Int64) M_2)) ∧ (¬ (r_7 = 0) → (∀ M_9 : MS, M_9 = sl M_2 58 ((mi M_2 48).toInt64) → ∀ M_10 : MS, M_10 = sl M_9 59 ((mi M_9 49).toInt64) → w4_least M_10 (fun M_11 => (a2 = (2 : Int32) → (∃ f, w4_odds_l65 a1 a2 a3 Post f (0 : Int32) M_11)) ∧ (¬ (a2 = (2 : Int32)) → (∃ f, w4_odds_l144 a1 a2 a3 Post f (0 : Int32) M_11))))))))))))
abbrev rX4_odds : Room := { frames := 5, cells := 0, slots := 0, locals := 117 }
theorem cdX4_odds : yX4_odds.cls = RX4 ∧ yX4_odds.cls ≠ "java/lang/invoke/MethodHandle" ∧ yX4_odds.cls ≠ "java/lang/invoke/VarHandle" ∧ (parseMethodDescriptor yX4_odds.desc).map (fun d => d.parameters.length) = some 3 := by decide +kernel
set_option maxHeartbeats 4000000 in
set_option maxRecDepth 100000 in
theorem mt4_odds (l : Launch) {D : va_G} {cA : Nat → ClassId} {m0 : Nat} {ad : Nat → Nat} (hA : mAd m0 ad) (a1 : Int32) (a2 : Int32) (a3 : Int32) (M : MS) (Post : Int64 → MS → Prop) (h : w4_odds a1 a2 a3 M Post) : Met l yX4_odds (ws_ yX4_odds cX4_odds 6 (some .long)) rX4_odds (mPc [.ref m0, .int a1, .int a2, .int a3] D cA m0 ad M) (va_Ql Post (mB D cA m0 ad) (mF m0 ad)) 0 0 (mF m0 ad) := by
  refine mst_l (own := RX4) (by decide) rfl (Nat.le_of_ble_eq_true rfl) ?_
  intro p e s m args below meth c Q ls S hK hP hS hl hret
  have hx := S.1
  have hb := S.2.1
  have hl : lv_has ls 6 [(0, .ref m0), (1, .int a1), (2, .int a2), (3, .int a3)] := hl
  have C229 : ∀ (M : MS) (H : Heap) (locs : List Loc) (ls : Array Slot), va_P D vwCl (mo cA m0 ad M) H → va_S (mF m0 ad) s.heap H locs → lv_has ls 6 [(0, .ref m0), (3, .int a3)] → w4_odds_c229 a1 a2 a3 Post M → W p l e rX4_odds s m args below meth c H locs 0 0 Q (F0 m 229 ls []) := by
    intro M H locs ls hP hS hl h
    unfold w4_odds_c229 at h
    refine lv_iload_n hx hb dX4_odds_229 rfl (lv_at hl 1 rfl) ?_
    refine lv_if_ne (tgt := 240) hx hb dX4_odds_230 (by decide) (fun c_14 => ?_) (fun c_14 => ?_)
    · replace h := h.2 c_14
      refine lv_aload_n hx hb dX4_odds_240 rfl (lv_at hl 0 rfl) ?_
      refine mg_l S hK hP (k := 59) (by decide) rfl q1479 dX4_odds_241 ?_
      exact hret _ _ _ _ _ _ hP hS h dX4_odds_244
    · replace h := h.1 c_14
      refine lv_aload_n hx hb dX4_odds_233 rfl (lv_at hl 0 rfl) ?_
      refine mg_l S hK hP (k := 58) (by decide) rfl q1478 dX4_odds_234 ?_
      refine lv_goto (tgt := 244) hx hb dX4_odds_237 (by decide) ?_
      exact hret _ _ _ _ _ _ hP hS h dX4_odds_244
  have C223 : ∀ (k144 : Int32 → MS → Prop) (K144 : (∀ (x4 : Int32) (M : MS) (H : Heap) (locs : List Loc) (ls : Array Slot), va_P D vwCl (mo cA m0 ad M) H → va_S (mF m0 ad) s.heap H locs → lv_has ls 6 [(0, .ref m0), (1, .int a1), (2, .int a2), (3, .int a3), (4, .int x4)] → k144 x4 M → W p l e rX4_odds s m args below meth c H locs 0 0 Q (F0 m 144 ls []))), ∀ (x4 : Int32) (M : MS) (H : Heap) (locs : List Loc) (ls : Array Slot), va_P D vwCl (mo cA m0 ad M) H → va_S (mF m0 ad) s.heap H locs → lv_has ls 6 [(0, .ref m0), (1, .int a1), (2, .int a2), (3, .int a3), (4, .int x4)] → w4_odds_c223 a1 a2 a3 k144 Post x4 M → W p l e rX4_odds s m args below meth c H locs 0 0 Q (F0 m 223 ls []) := by
    intro k144 K144
    intro x4 M H locs ls hP hS hl h
    unfold w4_odds_c223 at h
    obtain ⟨v_18, e_v_18⟩ : ∃ y : Int32, y = x4 + (1 : Int32) := ⟨_, rfl⟩
    replace h := h v_18 e_v_18
    refine lv_iinc (v := v_18) (lv' := [(4, .int v_18), (0, .ref m0), (1, .int a1), (2, .int a2), (3, .int a3)]) hx hb dX4_odds_223 hl (k := 4) rfl (by rw [kc_1, e_v_18]) (by decide) rfl (fun ls hl => ?_)
    refine lv_goto (tgt := 144) hx hb dX4_odds_226 (by decide) ?_
    exact K144 _ _ _ _ _ hP hS (lv_sub hl [1, 2, 3, 4, 0] rfl) h
  have C206 : ∀ (k144 : Int32 → MS → Prop) (K144 : (∀ (x4 : Int32) (M : MS) (H : Heap) (locs : List Loc) (ls : Array Slot), va_P D vwCl (mo cA m0 ad M) H → va_S (mF m0 ad) s.heap H locs → lv_has ls 6 [(0, .ref m0), (1, .int a1), (2, .int a2), (3, .int a3), (4, .int x4)] → k144 x4 M → W p l e rX4_odds s m args below meth c H locs 0 0 Q (F0 m 144 ls []))), ∀ (x4 : Int32) (M : MS) (H : Heap) (locs : List Loc) (ls : Array Slot), va_P D vwCl (mo cA m0 ad M) H → va_S (mF m0 ad) s.heap H locs → lv_has ls 6 [(0, .ref m0), (1, .int a1), (2, .int a2), (3, .int a3), (4, .int x4)] → w4_odds_c206 a1 a2 a3 k144 Post x4 M → W p l e rX4_odds s m args below meth c H locs 0 0 Q (F0 m 206 ls []) := by
    intro k144 K144
    intro x4 M H locs ls hP hS hl h
    unfold w4_odds_c206 at h
    refine lv_aload_n hx hb dX4_odds_206 rfl (lv_at hl 0 rfl) ?_
    refine lv_aload_n hx hb dX4_odds_207 rfl (lv_at hl 0 rfl) ?_
    refine mg_r S hK hP (k := 34) (by decide) (by decide) q1454 dX4_odds_208 ?_
    refine lv_iload hx hb dX4_odds_211 (lv_at hl 4 rfl) ?_
    obtain ⟨hi, h⟩ := h
    refine ml_a S hK hP (k := 34) af_34 rfl hi dX4_odds_213 ?_
    refine lv_aload_n hx hb dX4_odds_214 rfl (lv_at hl 0 rfl) ?_
    refine lv_iload hx hb dX4_odds_215 (lv_at hl 4 rfl) ?_
    refine mc_i S hK hP hS (As := [.int x4]) (rest := [.int (ma M 34 (Int32.toNatClampNeg x4)), .ref m0]) (mt4_isRight l hA x4 M _ h) (cwV 1 S.2.2.2.2 (lw_V q1814 q1816 qs100 q145 q1817) rfl rfl rfl cdX4_isRight ⟨Nat.le_of_ble_eq_true rfl, Nat.le_of_ble_eq_true rfl⟩) rfl rfl hl.1 (Nat.le_of_ble_eq_true rfl) dX4_odds_217 ⟨Nat.le_refl _, Nat.le_refl _⟩ (fun r_25 M_24 H locs h hP hS => ?_)
    refine mc_v S hK hP hS (As := [.int (ma M 34 (Int32.toNatClampNeg x4)), .int r_25]) (rest := []) (mt4_weighs l hA (ma M 34 (Int32.toNatClampNeg x4)) r_25 M_24 _ h) (cwV 2 S.2.2.2.2 (lw_V q1877 q1879 qs109 q145 q1880) rfl rfl rfl cdX4_weighs ⟨Nat.le_of_ble_eq_true rfl, Nat.le_of_ble_eq_true rfl⟩) rfl rfl hl.1 (Nat.le_of_ble_eq_true rfl) dX4_odds_220 ⟨Nat.le_refl _, Nat.le_refl _⟩ (fun M_26 H locs h hP hS => ?_)
    exact C223 _ K144 _ _ _ _ _ hP hS (lv_sub hl [0, 1, 2, 3, 4] rfl) h
  have L144 : ∀ (n : Nat) (x4 : Int32) (M : MS) (H : Heap) (locs : List Loc) (ls : Array Slot), va_P D vwCl (mo cA m0 ad M) H → va_S (mF m0 ad) s.heap H locs → lv_has ls 6 [(0, .ref m0), (1, .int a1), (2, .int a2), (3, .int a3), (4, .int x4)] → w4_odds_l144 a1 a2 a3 Post n x4 M → W p l e rX4_odds s m args below meth c H locs 0 0 Q (F0 m 144 ls []) := by
    intro n
    induction n with
    | zero => intro x4 M H locs ls hP hS hl h; rw [w4_odds_l144] at h; exact h.elim
    | succ n ih =>
      intro x4 M H locs ls hP hS hl h
      rw [w4_odds_l144] at h
      refine lv_iload hx hb dX4_odds_144 (lv_at hl 4 rfl) ?_
      refine lv_aload_n hx hb dX4_odds_146 rfl (lv_at hl 0 rfl) ?_
      refine mg_i S hK hP (k := 13) (by decide) (by decide) q1433 dX4_odds_147 ?_
      refine lv_icmp_ge (tgt := 229) hx hb dX4_odds_150 (by decide) (fun c_13 => ?_) (fun c_13 => ?_)
      · replace h := h.1 c_13
        exact C229 _ _ _ _ hP hS (lv_sub hl [0, 3] rfl) h
      · replace h := h.2 c_13
        refine lv_aload_n hx hb dX4_odds_153 rfl (lv_at hl 0 rfl) ?_
        refine lv_iload hx hb dX4_odds_154 (lv_at hl 4 rfl) ?_
        refine mc_i S hK hP hS (As := [.int x4]) (rest := []) (mt4_isHeardWord l hA x4 M _ h) (cwV 1 S.2.2.2.2 (lw_V q1806 q1808 qs98 q145 q1809) rfl rfl rfl cdX4_isHeardWord ⟨Nat.le_of_ble_eq_true rfl, Nat.le_of_ble_eq_true rfl⟩) rfl rfl hl.1 (Nat.le_of_ble_eq_true rfl) dX4_odds_156 ⟨Nat.le_refl _, Nat.le_refl _⟩ (fun r_16 M_15 H locs h hP hS => ?_)
        refine lv_if_eq (tgt := 223) hx hb dX4_odds_159 (by decide) (fun c_17 => ?_) (fun c_17 => ?_)
        · replace h := h.1 c_17
          exact C223 _ ih _ _ _ _ _ hP hS (lv_sub hl [0, 1, 2, 3, 4] rfl) h
        · replace h := h.2 c_17
          refine lv_aload_n hx hb dX4_odds_162 rfl (lv_at hl 0 rfl) ?_
          refine mg_r S hK hP (k := 32) (by decide) (by decide) q1452 dX4_odds_163 ?_
          refine lv_iload hx hb dX4_odds_166 (lv_at hl 4 rfl) ?_
          obtain ⟨hi, h⟩ := h
          refine ml_a S hK hP (k := 32) af_32 rfl hi dX4_odds_168 ?_
          refine lv_iload_n hx hb dX4_odds_169 rfl (lv_at hl 1 rfl) ?_
          refine lv_icmp_eq (tgt := 176) hx hb dX4_odds_170 (by decide) (fun c_19 => ?_) (fun c_19 => ?_)
          · replace h := h.1 c_19
            refine lv_aload_n hx hb dX4_odds_176 rfl (lv_at hl 0 rfl) ?_
            refine lv_iload hx hb dX4_odds_177 (lv_at hl 4 rfl) ?_
            refine mc_i S hK hP hS (As := [.int x4]) (rest := []) (mt4_whatIs l hA x4 M_15 _ h) (cwV 1 S.2.2.2.2 (lw_V q1810 q1812 qs99 q145 q1813) rfl rfl rfl cdX4_whatIs ⟨Nat.le_of_ble_eq_true rfl, Nat.le_of_ble_eq_true rfl⟩) rfl rfl hl.1 (Nat.le_of_ble_eq_true rfl) dX4_odds_179 ⟨Nat.le_refl _, Nat.le_refl _⟩ (fun r_21 M_20 H locs h hP hS => ?_)
            refine lv_istore (lv' := [(5, .int r_21), (0, .ref m0), (1, .int a1), (2, .int a2), (3, .int a3), (4, .int x4)]) hx hb dX4_odds_182 hl (by decide) rfl (fun ls hl => ?_)
            refine lv_iload hx hb dX4_odds_184 (lv_at hl 0 rfl) ?_
            refine lv_bipush hx hb dX4_odds_186 kb_14 ?_
            refine lv_iand hx hb dX4_odds_188 ?_
            refine lv_iconst hx hb dX4_odds_189 kc_2 ?_
            refine lv_icmp_ne (tgt := 223) hx hb dX4_odds_190 (by decide) (fun c_22 => ?_) (fun c_22 => ?_)
            · replace h := h.2 c_22
              exact C223 _ ih _ _ _ _ _ hP hS (lv_sub hl [1, 2, 3, 4, 5] rfl) h
            · replace h := h.1 c_22
              refine lv_iload_n hx hb dX4_odds_193 rfl (lv_at hl 3 rfl) ?_
              refine lv_iconst hx hb dX4_odds_194 kc_1 ?_
              refine lv_icmp_eq (tgt := 206) hx hb dX4_odds_195 (by decide) (fun c_23 => ?_) (fun c_23 => ?_)
              · replace h := h.1 c_23
                exact C206 _ ih _ _ _ _ _ hP hS (lv_sub hl [1, 2, 3, 4, 5] rfl) h
              · replace h := h.2 c_23
                refine lv_iload hx hb dX4_odds_198 (lv_at hl 0 rfl) ?_
                refine lv_bipush hx hb dX4_odds_200 kb_16 ?_
                refine lv_iand hx hb dX4_odds_202 ?_
                refine lv_if_ne (tgt := 223) hx hb dX4_odds_203 (by decide) (fun c_27 => ?_) (fun c_27 => ?_)
                · replace h := h.2 c_27
                  exact C223 _ ih _ _ _ _ _ hP hS (lv_sub hl [1, 2, 3, 4, 5] rfl) h
                · replace h := h.1 c_27
                  exact C206 _ ih _ _ _ _ _ hP hS (lv_sub hl [1, 2, 3, 4, 5] rfl) h
          · replace h := h.2 c_19
            refine lv_goto (tgt := 223) hx hb dX4_odds_173 (by decide) ?_
            exact C223 _ ih _ _ _ _ _ hP hS (lv_sub hl [0, 1, 2, 3, 4] rfl) h
  have C132 : ∀ (k65 : Int32 → MS → Prop) (K65 : (∀ (x4 : Int32) (M : MS) (H : Heap) (locs : List Loc) (ls : Array Slot), va_P D vwCl (mo cA m0 ad M) H → va_S (mF m0 ad) s.heap H locs → lv_has ls 6 [(0, .ref m0), (1, .int a1), (3, .int a3), (4, .int x4)] → k65 x4 M → W p l e rX4_odds s m args below meth c H locs 0 0 Q (F0 m 65 ls []))), ∀ (x4 : Int32) (M : MS) (H : Heap) (locs : List Loc) (ls : Array Slot), va_P D vwCl (mo cA m0 ad M) H → va_S (mF m0 ad) s.heap H locs → lv_has ls 6 [(0, .ref m0), (1, .int a1), (3, .int a3), (4, .int x4)] → w4_odds_c132 a1 a2 a3 k65 Post x4 M → W p l e rX4_odds s m args below meth c H locs 0 0 Q (F0 m 132 ls []) := by
    intro k65 K65
    intro x4 M H locs ls hP hS hl h
    unfold w4_odds_c132 at h
    obtain ⟨v_30, e_v_30⟩ : ∃ y : Int32, y = x4 + (1 : Int32) := ⟨_, rfl⟩
    replace h := h v_30 e_v_30
    refine lv_iinc (v := v_30) (lv' := [(4, .int v_30), (0, .ref m0), (1, .int a1), (3, .int a3)]) hx hb dX4_odds_132 hl (k := 3) rfl (by rw [kc_1, e_v_30]) (by decide) rfl (fun ls hl => ?_)
    refine lv_goto (tgt := 65) hx hb dX4_odds_135 (by decide) ?_
    exact K65 _ _ _ _ _ hP hS (lv_sub hl [1, 2, 3, 0] rfl) h
  have C129 : ∀ (k65 : Int32 → MS → Prop) (K65 : (∀ (x4 : Int32) (M : MS) (H : Heap) (locs : List Loc) (ls : Array Slot), va_P D vwCl (mo cA m0 ad M) H → va_S (mF m0 ad) s.heap H locs → lv_has ls 6 [(0, .ref m0), (1, .int a1), (3, .int a3), (4, .int x4)] → k65 x4 M → W p l e rX4_odds s m args below meth c H locs 0 0 Q (F0 m 65 ls []))), ∀ (x4 : Int32) (t0 : Int32) (t1 : Int32) (M : MS) (H : Heap) (locs : List Loc) (ls : Array Slot), va_P D vwCl (mo cA m0 ad M) H → va_S (mF m0 ad) s.heap H locs → lv_has ls 6 [(0, .ref m0), (1, .int a1), (3, .int a3), (4, .int x4)] → w4_odds_c129 a1 a2 a3 k65 Post x4 t0 t1 M → W p l e rX4_odds s m args below meth c H locs 0 0 Q (F0 m 129 ls [.int t0, .int t1, .ref m0]) := by
    intro k65 K65
    intro x4 t0 t1 M H locs ls hP hS hl h
    unfold w4_odds_c129 at h
    refine mc_v S hK hP hS (As := [.int t1, .int t0]) (rest := []) (mt4_weighs l hA t1 t0 M _ h) (cwV 2 S.2.2.2.2 (lw_V q1877 q1879 qs109 q145 q1880) rfl rfl rfl cdX4_weighs ⟨Nat.le_of_ble_eq_true rfl, Nat.le_of_ble_eq_true rfl⟩) rfl rfl hl.1 (Nat.le_of_ble_eq_true rfl) dX4_odds_129 ⟨Nat.le_refl _, Nat.le_refl _⟩ (fun M_35 H locs h hP hS => ?_)
    exact C132 _ K65 _ _ _ _ _ hP hS (lv_sub hl [0, 1, 2, 3] rfl) h
  have L65 : ∀ (n : Nat) (x4 : Int32) (M : MS) (H : Heap) (locs : List Loc) (ls : Array Slot), va_P D vwCl (mo cA m0 ad M) H → va_S (mF m0 ad) s.heap H locs → lv_has ls 6 [(0, .ref m0), (1, .int a1), (3, .int a3), (4, .int x4)] → w4_odds_l65 a1 a2 a3 Post n x4 M → W p l e rX4_odds s m args below meth c H locs 0 0 Q (F0 m 65 ls []) := by
    intro n
    induction n with
    | zero => intro x4 M H locs ls hP hS hl h; rw [w4_odds_l65] at h; exact h.elim
    | succ n ih =>
      intro x4 M H locs ls hP hS hl h
      rw [w4_odds_l65] at h
      refine lv_iload hx hb dX4_odds_65 (lv_at hl 3 rfl) ?_
      refine lv_aload_n hx hb dX4_odds_67 rfl (lv_at hl 0 rfl) ?_
      refine mg_i S hK hP (k := 14) (by decide) (by decide) q1434 dX4_odds_68 ?_
      refine lv_icmp_ge (tgt := 138) hx hb dX4_odds_71 (by decide) (fun c_28 => ?_) (fun c_28 => ?_)
      · replace h := h.1 c_28
        refine lv_goto (tgt := 229) hx hb dX4_odds_138 (by decide) ?_
        exact C229 _ _ _ _ hP hS (lv_sub hl [0, 2] rfl) h
      · replace h := h.2 c_28
        refine lv_aload_n hx hb dX4_odds_74 rfl (lv_at hl 0 rfl) ?_
        refine mg_r S hK hP (k := 36) (by decide) (by decide) q1456 dX4_odds_75 ?_
        refine lv_iload hx hb dX4_odds_78 (lv_at hl 3 rfl) ?_
        obtain ⟨hi, h⟩ := h
        refine ml_a S hK hP (k := 36) af_36 rfl hi dX4_odds_80 ?_
        refine lv_iload_n hx hb dX4_odds_81 rfl (lv_at hl 1 rfl) ?_
        refine lv_icmp_ne (tgt := 132) hx hb dX4_odds_82 (by decide) (fun c_29 => ?_) (fun c_29 => ?_)
        · replace h := h.2 c_29
          exact C132 _ ih _ _ _ _ _ hP hS (lv_sub hl [0, 1, 2, 3] rfl) h
        · replace h := h.1 c_29
          refine lv_aload_n hx hb dX4_odds_85 rfl (lv_at hl 0 rfl) ?_
          refine lv_iload hx hb dX4_odds_86 (lv_at hl 3 rfl) ?_
          refine mc_i S hK hP hS (As := [.int x4]) (rest := []) (mt4_isFirstLine l hA x4 M _ h) (cwV 1 S.2.2.2.2 (lw_V q1873 q1875 qs108 q145 q1876) rfl rfl rfl cdX4_isFirstLine ⟨Nat.le_of_ble_eq_true rfl, Nat.le_of_ble_eq_true rfl⟩) rfl rfl hl.1 (Nat.le_of_ble_eq_true rfl) dX4_odds_88 ⟨Nat.le_refl _, Nat.le_refl _⟩ (fun r_32 M_31 H locs h hP hS => ?_)
          refine lv_if_eq (tgt := 132) hx hb dX4_odds_91 (by decide) (fun c_33 => ?_) (fun c_33 => ?_)
          · replace h := h.1 c_33
            exact C132 _ ih _ _ _ _ _ hP hS (lv_sub hl [0, 1, 2, 3] rfl) h
          · replace h := h.2 c_33
            refine lv_aload_n hx hb dX4_odds_94 rfl (lv_at hl 0 rfl) ?_
            refine lv_aload_n hx hb dX4_odds_95 rfl (lv_at hl 0 rfl) ?_
            refine mg_r S hK hP (k := 37) (by decide) (by decide) q1457 dX4_odds_96 ?_
            refine lv_iload hx hb dX4_odds_99 (lv_at hl 3 rfl) ?_
            obtain ⟨hi, h⟩ := h
            refine ml_a S hK hP (k := 37) af_37 rfl hi dX4_odds_101 ?_
            refine lv_aload_n hx hb dX4_odds_102 rfl (lv_at hl 0 rfl) ?_
            refine mg_r S hK hP (k := 38) (by decide) (by decide) q1458 dX4_odds_103 ?_
            refine lv_iload hx hb dX4_odds_106 (lv_at hl 3 rfl) ?_
            obtain ⟨hi, h⟩ := h
            refine ml_a S hK hP (k := 38) af_38 rfl hi dX4_odds_108 ?_
            refine lv_aload_n hx hb dX4_odds_109 rfl (lv_at hl 0 rfl) ?_
            refine mg_r S hK hP (k := 23) (by decide) (by decide) q1443 dX4_odds_110 ?_
            refine lv_aload_n hx hb dX4_odds_113 rfl (lv_at hl 0 rfl) ?_
            refine mg_r S hK hP (k := 37) (by decide) (by decide) q1457 dX4_odds_114 ?_
            refine lv_iload hx hb dX4_odds_117 (lv_at hl 3 rfl) ?_
            obtain ⟨hi, h⟩ := h
            refine ml_a S hK hP (k := 37) af_37 rfl hi dX4_odds_119 ?_
            obtain ⟨hi, h⟩ := h
            refine ml_a S hK hP (k := 23) af_23 rfl hi dX4_odds_120 ?_
            refine lv_icmp_ne (tgt := 128) hx hb dX4_odds_121 (by decide) (fun c_34 => ?_) (fun c_34 => ?_)
            · replace h := h.2 c_34
              refine lv_iconst hx hb dX4_odds_128 kc_0 ?_
              exact C129 _ ih _ _ _ _ _ _ _ hP hS (lv_sub hl [0, 1, 2, 3] rfl) h
            · replace h := h.1 c_34
              refine lv_iconst hx hb dX4_odds_124 kc_1 ?_
              refine lv_goto (tgt := 129) hx hb dX4_odds_125 (by decide) ?_
              exact C129 _ ih _ _ _ _ _ _ _ hP hS (lv_sub hl [0, 1, 2, 3] rfl) h
  unfold w4_odds at h
  refine lv_aload_n hx hb dX4_odds_0 rfl (lv_at hl 0 rfl) ?_
  refine lv_iconst hx hb dX4_odds_1 kc_0 ?_
  refine mp_i S hK hA hP hS (k := 2) (by decide) (Or.inl rfl) rfl (Or.inl ⟨rfl, rfl⟩) q1422 dX4_odds_2 (fun M_1 H locs e_M_1 hP hS => ?_)
  replace h := h M_1 e_M_1
  refine lv_aload_n hx hb dX4_odds_5 rfl (lv_at hl 0 rfl) ?_
  refine lv_iload_n hx hb dX4_odds_6 rfl (lv_at hl 1 rfl) ?_
  refine mc_i S hK hP hS (As := [.int a1]) (rest := []) (mt4_isTeller l hA a1 M_1 _ h) (cwV 1 S.2.2.2.2 (lw_V q1771 q1773 qs95 q145 q1774) rfl rfl rfl cdX4_isTeller ⟨Nat.le_of_ble_eq_true rfl, Nat.le_of_ble_eq_true rfl⟩) rfl rfl hl.1 (Nat.le_of_ble_eq_true rfl) dX4_odds_7 ⟨Nat.le_refl _, Nat.le_refl _⟩ (fun r_3 M_2 H locs h hP hS => ?_)
  refine lv_if_eq (tgt := 31) hx hb dX4_odds_10 (by decide) (fun c_4 => ?_) (fun c_4 => ?_)
  · replace h := h.1 c_4
    refine lv_ldc2 (own := RX4) (v := -1) hx hb S.2.2.2.1 (S.2.2.2.2 _ q1865) dX4_odds_31 ?_
    exact hret _ _ _ _ _ _ hP hS h dX4_odds_34
  · replace h := h.2 c_4
    refine lv_iload_n hx hb dX4_odds_13 rfl (lv_at hl 2 rfl) ?_
    refine lv_iconst hx hb dX4_odds_14 kc_0 ?_
    refine lv_iconst hx hb dX4_odds_15 kc_2 ?_
    refine sc_i S (As := [.int a2, .int (0 : Int32), .int (2 : Int32)]) (rest := []) (mt4_isIn l a2 (0 : Int32) (2 : Int32) _ h) (va_cwS 3 S.2.2.2.2 (lw_S q1795 q1796 q145 q1797) rfl rfl rfl cdX4_isIn ⟨Nat.le_of_ble_eq_true rfl, Nat.le_of_ble_eq_true rfl⟩) rfl rfl hl.1 (Nat.le_of_ble_eq_true rfl) dX4_odds_16 ⟨Nat.le_refl _, Nat.le_refl _⟩ (fun r_5 h => ?_)
    refine lv_if_eq (tgt := 31) hx hb dX4_odds_19 (by decide) (fun c_6 => ?_) (fun c_6 => ?_)
    · replace h := h.1 c_6
      refine lv_ldc2 (own := RX4) (v := -1) hx hb S.2.2.2.1 (S.2.2.2.2 _ q1865) dX4_odds_31 ?_
      exact hret _ _ _ _ _ _ hP hS h dX4_odds_34
    · replace h := h.2 c_6
      refine lv_iload_n hx hb dX4_odds_22 rfl (lv_at hl 3 rfl) ?_
      refine lv_iconst hx hb dX4_odds_23 kc_0 ?_
      refine lv_iconst hx hb dX4_odds_24 kc_1 ?_
      refine sc_i S (As := [.int a3, .int (0 : Int32), .int (1 : Int32)]) (rest := []) (mt4_isIn l a3 (0 : Int32) (1 : Int32) _ h) (va_cwS 3 S.2.2.2.2 (lw_S q1795 q1796 q145 q1797) rfl rfl rfl cdX4_isIn ⟨Nat.le_of_ble_eq_true rfl, Nat.le_of_ble_eq_true rfl⟩) rfl rfl hl.1 (Nat.le_of_ble_eq_true rfl) dX4_odds_25 ⟨Nat.le_refl _, Nat.le_refl _⟩ (fun r_7 h => ?_)
      refine lv_if_ne (tgt := 35) hx hb dX4_odds_28 (by decide) (fun c_8 => ?_) (fun c_8 => ?_)
      · replace h := h.2 c_8
        refine lv_aload_n hx hb dX4_odds_35 rfl (lv_at hl 0 rfl) ?_
        refine lv_aload_n hx hb dX4_odds_36 rfl (lv_at hl 0 rfl) ?_
        refine mg_i S hK hP (k := 48) (by decide) (by decide) q1468 dX4_odds_37 ?_
        refine lv_i2l hx hb dX4_odds_40 rfl ?_
        refine mp_l S hK hA hP hS (k := 58) (by decide) rfl rfl rfl q1478 dX4_odds_41 (fun M_9 H locs e_M_9 hP hS => ?_)
        replace h := h M_9 e_M_9
        refine lv_aload_n hx hb dX4_odds_44 rfl (lv_at hl 0 rfl) ?_
        refine lv_aload_n hx hb dX4_odds_45 rfl (lv_at hl 0 rfl) ?_
        refine mg_i S hK hP (k := 49) (by decide) (by decide) q1469 dX4_odds_46 ?_
        refine lv_i2l hx hb dX4_odds_49 rfl ?_
        refine mp_l S hK hA hP hS (k := 59) (by decide) rfl rfl rfl q1479 dX4_odds_50 (fun M_10 H locs e_M_10 hP hS => ?_)
        replace h := h M_10 e_M_10
        refine lv_aload_n hx hb dX4_odds_53 rfl (lv_at hl 0 rfl) ?_
        refine mc_v S hK hP hS (As := []) (rest := []) (mt4_least l hA M_10 _ h) (cwV 0 S.2.2.2.2 (lw_V q1866 q1868 qs107 q145 q1869) rfl rfl rfl cdX4_least ⟨Nat.le_of_ble_eq_true rfl, Nat.le_of_ble_eq_true rfl⟩) rfl rfl hl.1 (Nat.le_of_ble_eq_true rfl) dX4_odds_54 ⟨Nat.le_refl _, Nat.le_refl _⟩ (fun M_11 H locs h hP hS => ?_)
        refine lv_iload_n hx hb dX4_odds_57 rfl (lv_at hl 2 rfl) ?_
        refine lv_iconst hx hb dX4_odds_58 kc_2 ?_
        refine lv_icmp_ne (tgt := 141) hx hb dX4_odds_59 (by decide) (fun c_12 => ?_) (fun c_12 => ?_)
        · replace h := h.2 c_12
          refine lv_iconst hx hb dX4_odds_141 kc_0 ?_
          refine lv_istore (lv' := [(4, .int (0 : Int32)), (0, .ref m0), (1, .int a1), (2, .int a2), (3, .int a3)]) hx hb dX4_odds_142 hl (by decide) rfl (fun ls hl => ?_)
          obtain ⟨f, h⟩ := h
          exact L144 f _ _ _ _ _ hP hS (lv_sub hl [1, 2, 3, 4, 0] rfl) h
        · replace h := h.1 c_12
          refine lv_iconst hx hb dX4_odds_62 kc_0 ?_
          refine lv_istore (lv' := [(4, .int (0 : Int32)), (0, .ref m0), (1, .int a1), (2, .int a2), (3, .int a3)]) hx hb dX4_odds_63 hl (by decide) rfl (fun ls hl => ?_)
          obtain ⟨f, h⟩ := h
          exact L65 f _ _ _ _ _ hP hS (lv_sub hl [1, 2, 4, 0] rfl) h
      · replace h := h.1 c_8
        refine lv_ldc2 (own := RX4) (v := -1) hx hb S.2.2.2.1 (S.2.2.2.2 _ q1865) dX4_odds_31 ?_
        exact hret _ _ _ _ _ _ hP hS h dX4_odds_34
def w4_latestWord_c31 (a1 : Int32) (a2 : Int32) (k5 : Int32 → Int32 → MS → Prop) (Post : Int32 → MS → Prop) (x4 : Int32) (t0 : Int32) (M : MS) : Prop := ∀ v_5 : Int32, v_5 = x4 + (1 : Int32) → k5 t0 v_5 M
def w4_latestWord_l5 (a1 : Int32) (a2 : Int32) (Post : Int32 → MS → Prop) : Nat → Int32 → Int32 → MS → Prop
  | 0, _, _, _ => False
  | n + 1, x3, x4, M => ((mi M 13) ≤ x4 → (Post x3 M)) ∧ (¬ ((mi M 13) ≤ x4) → (w4_says x4 a1 a2 M (fun r_3 M_2 => (r_3 = 0 → (w4_latestWord_c31 a1 a2 (w4_latestWord_l5 a1 a2 Post n) Post x4 x3 M_2)) ∧ (¬ (r_3 = 0) → (w4_latestWord_c31 a1 a2 (w4_latestWord_l5 a1 a2 Post n) Post x4 x4 M_2)))))
def w4_latestWord (a1 : Int32) (a2 : Int32) (M : MS) (Post : Int32 → MS → Prop) : Prop := ∃ f, w4_latestWord_l5 a1 a2 Post f (-1 : Int32) (0 : Int32) M
abbrev rX4_latestWord : Room := { frames := 3, cells := 0, slots := 0, locals := 65 }
theorem cdX4_latestWord : yX4_latestWord.cls = RX4 ∧ yX4_latestWord.cls ≠ "java/lang/invoke/MethodHandle" ∧ yX4_latestWord.cls ≠ "java/lang/invoke/VarHandle" ∧ (parseMethodDescriptor yX4_latestWord.desc).map (fun d => d.parameters.length) = some 2 := by decide +kernel
set_option maxHeartbeats 4000000 in
set_option maxRecDepth 100000 in
theorem mt4_latestWord (l : Launch) {D : va_G} {cA : Nat → ClassId} {m0 : Nat} {ad : Nat → Nat} (hA : mAd m0 ad) (a1 : Int32) (a2 : Int32) (M : MS) (Post : Int32 → MS → Prop) (h : w4_latestWord a1 a2 M Post) : Met l yX4_latestWord (ws_ yX4_latestWord cX4_latestWord 5 (some .int)) rX4_latestWord (mPc [.ref m0, .int a1, .int a2] D cA m0 ad M) (va_Qi Post (mB D cA m0 ad) (mF m0 ad)) 0 0 (mF m0 ad) := by
  refine mst_i (own := RX4) (by decide) rfl (Nat.le_of_ble_eq_true rfl) ?_
  intro p e s m args below meth c Q ls S hK hP hS hl hret
  have hx := S.1
  have hb := S.2.1
  have hl : lv_has ls 5 [(0, .ref m0), (1, .int a1), (2, .int a2)] := hl
  have C31 : ∀ (k5 : Int32 → Int32 → MS → Prop) (K5 : (∀ (x3 : Int32) (x4 : Int32) (M : MS) (H : Heap) (locs : List Loc) (ls : Array Slot), va_P D vwCl (mo cA m0 ad M) H → va_S (mF m0 ad) s.heap H locs → lv_has ls 5 [(0, .ref m0), (1, .int a1), (2, .int a2), (3, .int x3), (4, .int x4)] → k5 x3 x4 M → W p l e rX4_latestWord s m args below meth c H locs 0 0 Q (F0 m 5 ls []))), ∀ (x4 : Int32) (t0 : Int32) (M : MS) (H : Heap) (locs : List Loc) (ls : Array Slot), va_P D vwCl (mo cA m0 ad M) H → va_S (mF m0 ad) s.heap H locs → lv_has ls 5 [(0, .ref m0), (1, .int a1), (2, .int a2), (4, .int x4)] → w4_latestWord_c31 a1 a2 k5 Post x4 t0 M → W p l e rX4_latestWord s m args below meth c H locs 0 0 Q (F0 m 31 ls [.int t0]) := by
    intro k5 K5
    intro x4 t0 M H locs ls hP hS hl h
    unfold w4_latestWord_c31 at h
    refine lv_istore_n (lv' := [(3, .int t0), (0, .ref m0), (1, .int a1), (2, .int a2), (4, .int x4)]) hx hb dX4_latestWord_31 rfl hl (by decide) rfl (fun ls hl => ?_)
    obtain ⟨v_5, e_v_5⟩ : ∃ y : Int32, y = x4 + (1 : Int32) := ⟨_, rfl⟩
    replace h := h v_5 e_v_5
    refine lv_iinc (v := v_5) (lv' := [(4, .int v_5), (3, .int t0), (0, .ref m0), (1, .int a1), (2, .int a2)]) hx hb dX4_latestWord_32 hl (k := 4) rfl (by rw [kc_1, e_v_5]) (by decide) rfl (fun ls hl => ?_)
    refine lv_goto (tgt := 5) hx hb dX4_latestWord_35 (by decide) ?_
    exact K5 _ _ _ _ _ _ hP hS (lv_sub hl [2, 3, 4, 1, 0] rfl) h
  have L5 : ∀ (n : Nat) (x3 : Int32) (x4 : Int32) (M : MS) (H : Heap) (locs : List Loc) (ls : Array Slot), va_P D vwCl (mo cA m0 ad M) H → va_S (mF m0 ad) s.heap H locs → lv_has ls 5 [(0, .ref m0), (1, .int a1), (2, .int a2), (3, .int x3), (4, .int x4)] → w4_latestWord_l5 a1 a2 Post n x3 x4 M → W p l e rX4_latestWord s m args below meth c H locs 0 0 Q (F0 m 5 ls []) := by
    intro n
    induction n with
    | zero => intro x3 x4 M H locs ls hP hS hl h; rw [w4_latestWord_l5] at h; exact h.elim
    | succ n ih =>
      intro x3 x4 M H locs ls hP hS hl h
      rw [w4_latestWord_l5] at h
      refine lv_iload hx hb dX4_latestWord_5 (lv_at hl 4 rfl) ?_
      refine lv_aload_n hx hb dX4_latestWord_7 rfl (lv_at hl 0 rfl) ?_
      refine mg_i S hK hP (k := 13) (by decide) (by decide) q1433 dX4_latestWord_8 ?_
      refine lv_icmp_ge (tgt := 38) hx hb dX4_latestWord_11 (by decide) (fun c_1 => ?_) (fun c_1 => ?_)
      · replace h := h.1 c_1
        refine lv_iload_n hx hb dX4_latestWord_38 rfl (lv_at hl 3 rfl) ?_
        exact hret _ _ _ _ _ _ hP hS h rfl dX4_latestWord_39
      · replace h := h.2 c_1
        refine lv_aload_n hx hb dX4_latestWord_14 rfl (lv_at hl 0 rfl) ?_
        refine lv_iload hx hb dX4_latestWord_15 (lv_at hl 4 rfl) ?_
        refine lv_iload_n hx hb dX4_latestWord_17 rfl (lv_at hl 1 rfl) ?_
        refine lv_iload_n hx hb dX4_latestWord_18 rfl (lv_at hl 2 rfl) ?_
        refine mc_i S hK hP hS (As := [.int x4, .int a1, .int a2]) (rest := []) (mt4_says l hA x4 a1 a2 M _ h) (cwV 3 S.2.2.2.2 (lw_V q1825 q1827 qs102 q145 q1828) rfl rfl rfl cdX4_says ⟨Nat.le_of_ble_eq_true rfl, Nat.le_of_ble_eq_true rfl⟩) rfl rfl hl.1 (Nat.le_of_ble_eq_true rfl) dX4_latestWord_19 ⟨Nat.le_refl _, Nat.le_refl _⟩ (fun r_3 M_2 H locs h hP hS => ?_)
        refine lv_if_eq (tgt := 30) hx hb dX4_latestWord_22 (by decide) (fun c_4 => ?_) (fun c_4 => ?_)
        · replace h := h.1 c_4
          refine lv_iload_n hx hb dX4_latestWord_30 rfl (lv_at hl 3 rfl) ?_
          exact C31 _ ih _ _ _ _ _ _ hP hS (lv_sub hl [0, 1, 2, 4] rfl) h
        · replace h := h.2 c_4
          refine lv_iload hx hb dX4_latestWord_25 (lv_at hl 4 rfl) ?_
          refine lv_goto (tgt := 31) hx hb dX4_latestWord_27 (by decide) ?_
          exact C31 _ ih _ _ _ _ _ _ hP hS (lv_sub hl [0, 1, 2, 4] rfl) h
  unfold w4_latestWord at h
  refine lv_iconst hx hb dX4_latestWord_0 kc_m1 ?_
  refine lv_istore_n (lv' := [(3, .int (-1 : Int32)), (0, .ref m0), (1, .int a1), (2, .int a2)]) hx hb dX4_latestWord_1 rfl hl (by decide) rfl (fun ls hl => ?_)
  refine lv_iconst hx hb dX4_latestWord_2 kc_0 ?_
  refine lv_istore (lv' := [(4, .int (0 : Int32)), (3, .int (-1 : Int32)), (0, .ref m0), (1, .int a1), (2, .int a2)]) hx hb dX4_latestWord_3 hl (by decide) rfl (fun ls hl => ?_)
  obtain ⟨f, h⟩ := h
  exact L5 f _ _ _ _ _ _ hP hS (lv_sub hl [2, 3, 4, 1, 0] rfl) h
def w4_firstSaid_c37 (a1 : Int32) (a2 : Int32) (a3 : Int32) (k3 : Int32 → MS → Prop) (Post : Int32 → MS → Prop) (x4 : Int32) (M : MS) : Prop := ∀ v_5 : Int32, v_5 = x4 + (1 : Int32) → k3 v_5 M
def w4_firstSaid_l3 (a1 : Int32) (a2 : Int32) (a3 : Int32) (Post : Int32 → MS → Prop) : Nat → Int32 → MS → Prop
  | 0, _, _ => False
  | n + 1, x4, M => ((mi M 13) ≤ x4 → (Post (-1 : Int32) M)) ∧ (¬ ((mi M 13) ≤ x4) → (w4_says x4 a1 a2 M (fun r_3 M_2 => (r_3 = 0 → (w4_firstSaid_c37 a1 a2 a3 (w4_firstSaid_l3 a1 a2 a3 Post n) Post x4 M_2)) ∧ (¬ (r_3 = 0) → ((vp_in x4 (mN 35) ∧ ((ma M_2 35 (Int32.toNatClampNeg x4)) = a3 → (Post x4 M_2)) ∧ (¬ ((ma M_2 35 (Int32.toNatClampNeg x4)) = a3) → (w4_firstSaid_c37 a1 a2 a3 (w4_firstSaid_l3 a1 a2 a3 Post n) Post x4 M_2))))))))
def w4_firstSaid (a1 : Int32) (a2 : Int32) (a3 : Int32) (M : MS) (Post : Int32 → MS → Prop) : Prop := ∃ f, w4_firstSaid_l3 a1 a2 a3 Post f (0 : Int32) M
abbrev rX4_firstSaid : Room := { frames := 3, cells := 0, slots := 0, locals := 65 }
theorem cdX4_firstSaid : yX4_firstSaid.cls = RX4 ∧ yX4_firstSaid.cls ≠ "java/lang/invoke/MethodHandle" ∧ yX4_firstSaid.cls ≠ "java/lang/invoke/VarHandle" ∧ (parseMethodDescriptor yX4_firstSaid.desc).map (fun d => d.parameters.length) = some 3 := by decide +kernel
set_option maxHeartbeats 4000000 in
set_option maxRecDepth 100000 in
theorem mt4_firstSaid (l : Launch) {D : va_G} {cA : Nat → ClassId} {m0 : Nat} {ad : Nat → Nat} (hA : mAd m0 ad) (a1 : Int32) (a2 : Int32) (a3 : Int32) (M : MS) (Post : Int32 → MS → Prop) (h : w4_firstSaid a1 a2 a3 M Post) : Met l yX4_firstSaid (ws_ yX4_firstSaid cX4_firstSaid 5 (some .int)) rX4_firstSaid (mPc [.ref m0, .int a1, .int a2, .int a3] D cA m0 ad M) (va_Qi Post (mB D cA m0 ad) (mF m0 ad)) 0 0 (mF m0 ad) := by
  refine mst_i (own := RX4) (by decide) rfl (Nat.le_of_ble_eq_true rfl) ?_
  intro p e s m args below meth c Q ls S hK hP hS hl hret
  have hx := S.1
  have hb := S.2.1
  have hl : lv_has ls 5 [(0, .ref m0), (1, .int a1), (2, .int a2), (3, .int a3)] := hl
  have C37 : ∀ (k3 : Int32 → MS → Prop) (K3 : (∀ (x4 : Int32) (M : MS) (H : Heap) (locs : List Loc) (ls : Array Slot), va_P D vwCl (mo cA m0 ad M) H → va_S (mF m0 ad) s.heap H locs → lv_has ls 5 [(0, .ref m0), (1, .int a1), (2, .int a2), (3, .int a3), (4, .int x4)] → k3 x4 M → W p l e rX4_firstSaid s m args below meth c H locs 0 0 Q (F0 m 3 ls []))), ∀ (x4 : Int32) (M : MS) (H : Heap) (locs : List Loc) (ls : Array Slot), va_P D vwCl (mo cA m0 ad M) H → va_S (mF m0 ad) s.heap H locs → lv_has ls 5 [(0, .ref m0), (1, .int a1), (2, .int a2), (3, .int a3), (4, .int x4)] → w4_firstSaid_c37 a1 a2 a3 k3 Post x4 M → W p l e rX4_firstSaid s m args below meth c H locs 0 0 Q (F0 m 37 ls []) := by
    intro k3 K3
    intro x4 M H locs ls hP hS hl h
    unfold w4_firstSaid_c37 at h
    obtain ⟨v_5, e_v_5⟩ : ∃ y : Int32, y = x4 + (1 : Int32) := ⟨_, rfl⟩
    replace h := h v_5 e_v_5
    refine lv_iinc (v := v_5) (lv' := [(4, .int v_5), (0, .ref m0), (1, .int a1), (2, .int a2), (3, .int a3)]) hx hb dX4_firstSaid_37 hl (k := 4) rfl (by rw [kc_1, e_v_5]) (by decide) rfl (fun ls hl => ?_)
    refine lv_goto (tgt := 3) hx hb dX4_firstSaid_40 (by decide) ?_
    exact K3 _ _ _ _ _ hP hS (lv_sub hl [1, 2, 3, 4, 0] rfl) h
  have L3 : ∀ (n : Nat) (x4 : Int32) (M : MS) (H : Heap) (locs : List Loc) (ls : Array Slot), va_P D vwCl (mo cA m0 ad M) H → va_S (mF m0 ad) s.heap H locs → lv_has ls 5 [(0, .ref m0), (1, .int a1), (2, .int a2), (3, .int a3), (4, .int x4)] → w4_firstSaid_l3 a1 a2 a3 Post n x4 M → W p l e rX4_firstSaid s m args below meth c H locs 0 0 Q (F0 m 3 ls []) := by
    intro n
    induction n with
    | zero => intro x4 M H locs ls hP hS hl h; rw [w4_firstSaid_l3] at h; exact h.elim
    | succ n ih =>
      intro x4 M H locs ls hP hS hl h
      rw [w4_firstSaid_l3] at h
      refine lv_iload hx hb dX4_firstSaid_3 (lv_at hl 4 rfl) ?_
      refine lv_aload_n hx hb dX4_firstSaid_5 rfl (lv_at hl 0 rfl) ?_
      refine mg_i S hK hP (k := 13) (by decide) (by decide) q1433 dX4_firstSaid_6 ?_
      refine lv_icmp_ge (tgt := 43) hx hb dX4_firstSaid_9 (by decide) (fun c_1 => ?_) (fun c_1 => ?_)
      · replace h := h.1 c_1
        refine lv_iconst hx hb dX4_firstSaid_43 kc_m1 ?_
        exact hret _ _ _ _ _ _ hP hS h rfl dX4_firstSaid_44
      · replace h := h.2 c_1
        refine lv_aload_n hx hb dX4_firstSaid_12 rfl (lv_at hl 0 rfl) ?_
        refine lv_iload hx hb dX4_firstSaid_13 (lv_at hl 4 rfl) ?_
        refine lv_iload_n hx hb dX4_firstSaid_15 rfl (lv_at hl 1 rfl) ?_
        refine lv_iload_n hx hb dX4_firstSaid_16 rfl (lv_at hl 2 rfl) ?_
        refine mc_i S hK hP hS (As := [.int x4, .int a1, .int a2]) (rest := []) (mt4_says l hA x4 a1 a2 M _ h) (cwV 3 S.2.2.2.2 (lw_V q1825 q1827 qs102 q145 q1828) rfl rfl rfl cdX4_says ⟨Nat.le_of_ble_eq_true rfl, Nat.le_of_ble_eq_true rfl⟩) rfl rfl hl.1 (Nat.le_of_ble_eq_true rfl) dX4_firstSaid_17 ⟨Nat.le_refl _, Nat.le_refl _⟩ (fun r_3 M_2 H locs h hP hS => ?_)
        refine lv_if_eq (tgt := 37) hx hb dX4_firstSaid_20 (by decide) (fun c_4 => ?_) (fun c_4 => ?_)
        · replace h := h.1 c_4
          exact C37 _ ih _ _ _ _ _ hP hS (lv_sub hl [0, 1, 2, 3, 4] rfl) h
        · replace h := h.2 c_4
          refine lv_aload_n hx hb dX4_firstSaid_23 rfl (lv_at hl 0 rfl) ?_
          refine mg_r S hK hP (k := 35) (by decide) (by decide) q1455 dX4_firstSaid_24 ?_
          refine lv_iload hx hb dX4_firstSaid_27 (lv_at hl 4 rfl) ?_
          obtain ⟨hi, h⟩ := h
          refine ml_a S hK hP (k := 35) af_35 rfl hi dX4_firstSaid_29 ?_
          refine lv_iload_n hx hb dX4_firstSaid_30 rfl (lv_at hl 3 rfl) ?_
          refine lv_icmp_ne (tgt := 37) hx hb dX4_firstSaid_31 (by decide) (fun c_6 => ?_) (fun c_6 => ?_)
          · replace h := h.2 c_6
            exact C37 _ ih _ _ _ _ _ hP hS (lv_sub hl [0, 1, 2, 3, 4] rfl) h
          · replace h := h.1 c_6
            refine lv_iload hx hb dX4_firstSaid_34 (lv_at hl 4 rfl) ?_
            exact hret _ _ _ _ _ _ hP hS h rfl dX4_firstSaid_36
  unfold w4_firstSaid at h
  refine lv_iconst hx hb dX4_firstSaid_0 kc_0 ?_
  refine lv_istore (lv' := [(4, .int (0 : Int32)), (0, .ref m0), (1, .int a1), (2, .int a2), (3, .int a3)]) hx hb dX4_firstSaid_1 hl (by decide) rfl (fun ls hl => ?_)
  obtain ⟨f, h⟩ := h
  exact L3 f _ _ _ _ _ hP hS (lv_sub hl [1, 2, 3, 4, 0] rfl) h
def w4_pageIs (a1 : Int32) (M : MS) (Post : Int32 → MS → Prop) : Prop := (vp_in a1 (mN 36) ∧ (vp_in a1 (mN 37) ∧ w4_latestWord (ma M 36 (Int32.toNatClampNeg a1)) (ma M 37 (Int32.toNatClampNeg a1)) M (fun r_2 M_1 => (0 ≤ r_2 → ((vp_in r_2 (mN 35) ∧ (vp_in a1 (mN 38) ∧ ((ma M_1 35 (Int32.toNatClampNeg r_2)) = (ma M_1 38 (Int32.toNatClampNeg a1)) → (Post (0 : Int32) M_1)) ∧ (¬ ((ma M_1 35 (Int32.toNatClampNeg r_2)) = (ma M_1 38 (Int32.toNatClampNeg a1))) → ((vp_in a1 (mN 36) ∧ (vp_in a1 (mN 37) ∧ (vp_in a1 (mN 38) ∧ w4_firstSaid (ma M_1 36 (Int32.toNatClampNeg a1)) (ma M_1 37 (Int32.toNatClampNeg a1)) (ma M_1 38 (Int32.toNatClampNeg a1)) M_1 (fun r_6 M_5 => (r_6 < 0 → (Post (2 : Int32) M_5)) ∧ (¬ (r_6 < 0) → (Post (1 : Int32) M_5)))))))))))) ∧ (¬ (0 ≤ r_2) → (Post (3 : Int32) M_1)))))
abbrev rX4_pageIs : Room := { frames := 4, cells := 0, slots := 0, locals := 89 }
theorem cdX4_pageIs : yX4_pageIs.cls = RX4 ∧ yX4_pageIs.cls ≠ "java/lang/invoke/MethodHandle" ∧ yX4_pageIs.cls ≠ "java/lang/invoke/VarHandle" ∧ (parseMethodDescriptor yX4_pageIs.desc).map (fun d => d.parameters.length) = some 1 := by decide +kernel
set_option maxHeartbeats 4000000 in
set_option maxRecDepth 100000 in
theorem mt4_pageIs (l : Launch) {D : va_G} {cA : Nat → ClassId} {m0 : Nat} {ad : Nat → Nat} (hA : mAd m0 ad) (a1 : Int32) (M : MS) (Post : Int32 → MS → Prop) (h : w4_pageIs a1 M Post) : Met l yX4_pageIs (ws_ yX4_pageIs cX4_pageIs 3 (some .int)) rX4_pageIs (mPc [.ref m0, .int a1] D cA m0 ad M) (va_Qi Post (mB D cA m0 ad) (mF m0 ad)) 0 0 (mF m0 ad) := by
  refine mst_i (own := RX4) (by decide) rfl (Nat.le_of_ble_eq_true rfl) ?_
  intro p e s m args below meth c Q ls S hK hP hS hl hret
  have hx := S.1
  have hb := S.2.1
  have hl : lv_has ls 3 [(0, .ref m0), (1, .int a1)] := hl
  unfold w4_pageIs at h
  refine lv_aload_n hx hb dX4_pageIs_0 rfl (lv_at hl 0 rfl) ?_
  refine lv_aload_n hx hb dX4_pageIs_1 rfl (lv_at hl 0 rfl) ?_
  refine mg_r S hK hP (k := 36) (by decide) (by decide) q1456 dX4_pageIs_2 ?_
  refine lv_iload_n hx hb dX4_pageIs_5 rfl (lv_at hl 1 rfl) ?_
  obtain ⟨hi, h⟩ := h
  refine ml_a S hK hP (k := 36) af_36 rfl hi dX4_pageIs_6 ?_
  refine lv_aload_n hx hb dX4_pageIs_7 rfl (lv_at hl 0 rfl) ?_
  refine mg_r S hK hP (k := 37) (by decide) (by decide) q1457 dX4_pageIs_8 ?_
  refine lv_iload_n hx hb dX4_pageIs_11 rfl (lv_at hl 1 rfl) ?_
  obtain ⟨hi, h⟩ := h
  refine ml_a S hK hP (k := 37) af_37 rfl hi dX4_pageIs_12 ?_
  refine mc_i S hK hP hS (As := [.int (ma M 36 (Int32.toNatClampNeg a1)), .int (ma M 37 (Int32.toNatClampNeg a1))]) (rest := []) (mt4_latestWord l hA (ma M 36 (Int32.toNatClampNeg a1)) (ma M 37 (Int32.toNatClampNeg a1)) M _ h) (cwV 2 S.2.2.2.2 (lw_V q1890 q1892 qs111 q145 q1893) rfl rfl rfl cdX4_latestWord ⟨Nat.le_of_ble_eq_true rfl, Nat.le_of_ble_eq_true rfl⟩) rfl rfl hl.1 (Nat.le_of_ble_eq_true rfl) dX4_pageIs_13 ⟨Nat.le_refl _, Nat.le_refl _⟩ (fun r_2 M_1 H locs h hP hS => ?_)
  refine lv_istore_n (lv' := [(2, .int r_2), (0, .ref m0), (1, .int a1)]) hx hb dX4_pageIs_16 rfl hl (by decide) rfl (fun ls hl => ?_)
  refine lv_iload_n hx hb dX4_pageIs_17 rfl (lv_at hl 0 rfl) ?_
  refine lv_if_ge (tgt := 23) hx hb dX4_pageIs_18 (by decide) (fun c_3 => ?_) (fun c_3 => ?_)
  · replace h := h.1 c_3
    refine lv_aload_n hx hb dX4_pageIs_23 rfl (lv_at hl 1 rfl) ?_
    refine mg_r S hK hP (k := 35) (by decide) (by decide) q1455 dX4_pageIs_24 ?_
    refine lv_iload_n hx hb dX4_pageIs_27 rfl (lv_at hl 0 rfl) ?_
    obtain ⟨hi, h⟩ := h
    refine ml_a S hK hP (k := 35) af_35 rfl hi dX4_pageIs_28 ?_
    refine lv_aload_n hx hb dX4_pageIs_29 rfl (lv_at hl 1 rfl) ?_
    refine mg_r S hK hP (k := 38) (by decide) (by decide) q1458 dX4_pageIs_30 ?_
    refine lv_iload_n hx hb dX4_pageIs_33 rfl (lv_at hl 2 rfl) ?_
    obtain ⟨hi, h⟩ := h
    refine ml_a S hK hP (k := 38) af_38 rfl hi dX4_pageIs_34 ?_
    refine lv_icmp_ne (tgt := 40) hx hb dX4_pageIs_35 (by decide) (fun c_4 => ?_) (fun c_4 => ?_)
    · replace h := h.2 c_4
      refine lv_aload_n hx hb dX4_pageIs_40 rfl (lv_at hl 1 rfl) ?_
      refine lv_aload_n hx hb dX4_pageIs_41 rfl (lv_at hl 1 rfl) ?_
      refine mg_r S hK hP (k := 36) (by decide) (by decide) q1456 dX4_pageIs_42 ?_
      refine lv_iload_n hx hb dX4_pageIs_45 rfl (lv_at hl 2 rfl) ?_
      obtain ⟨hi, h⟩ := h
      refine ml_a S hK hP (k := 36) af_36 rfl hi dX4_pageIs_46 ?_
      refine lv_aload_n hx hb dX4_pageIs_47 rfl (lv_at hl 1 rfl) ?_
      refine mg_r S hK hP (k := 37) (by decide) (by decide) q1457 dX4_pageIs_48 ?_
      refine lv_iload_n hx hb dX4_pageIs_51 rfl (lv_at hl 2 rfl) ?_
      obtain ⟨hi, h⟩ := h
      refine ml_a S hK hP (k := 37) af_37 rfl hi dX4_pageIs_52 ?_
      refine lv_aload_n hx hb dX4_pageIs_53 rfl (lv_at hl 1 rfl) ?_
      refine mg_r S hK hP (k := 38) (by decide) (by decide) q1458 dX4_pageIs_54 ?_
      refine lv_iload_n hx hb dX4_pageIs_57 rfl (lv_at hl 2 rfl) ?_
      obtain ⟨hi, h⟩ := h
      refine ml_a S hK hP (k := 38) af_38 rfl hi dX4_pageIs_58 ?_
      refine mc_i S hK hP hS (As := [.int (ma M_1 36 (Int32.toNatClampNeg a1)), .int (ma M_1 37 (Int32.toNatClampNeg a1)), .int (ma M_1 38 (Int32.toNatClampNeg a1))]) (rest := []) (mt4_firstSaid l hA (ma M_1 36 (Int32.toNatClampNeg a1)) (ma M_1 37 (Int32.toNatClampNeg a1)) (ma M_1 38 (Int32.toNatClampNeg a1)) M_1 _ h) (cwV 3 S.2.2.2.2 (lw_V q1894 q1896 qs112 q145 q1897) rfl rfl rfl cdX4_firstSaid ⟨Nat.le_of_ble_eq_true rfl, Nat.le_of_ble_eq_true rfl⟩) rfl rfl hl.1 (Nat.le_of_ble_eq_true rfl) dX4_pageIs_59 ⟨Nat.le_refl _, Nat.le_refl _⟩ (fun r_6 M_5 H locs h hP hS => ?_)
      refine lv_if_lt (tgt := 69) hx hb dX4_pageIs_62 (by decide) (fun c_7 => ?_) (fun c_7 => ?_)
      · replace h := h.1 c_7
        refine lv_iconst hx hb dX4_pageIs_69 kc_2 ?_
        exact hret _ _ _ _ _ _ hP hS h rfl dX4_pageIs_70
      · replace h := h.2 c_7
        refine lv_iconst hx hb dX4_pageIs_65 kc_1 ?_
        refine lv_goto (tgt := 70) hx hb dX4_pageIs_66 (by decide) ?_
        exact hret _ _ _ _ _ _ hP hS h rfl dX4_pageIs_70
    · replace h := h.1 c_4
      refine lv_iconst hx hb dX4_pageIs_38 kc_0 ?_
      exact hret _ _ _ _ _ _ hP hS h rfl dX4_pageIs_39
  · replace h := h.2 c_3
    refine lv_iconst hx hb dX4_pageIs_21 kc_3 ?_
    exact hret _ _ _ _ _ _ hP hS h rfl dX4_pageIs_22
def w4_page (a1 : Int32) (M : MS) (Post : Int32 → MS → Prop) : Prop := ∀ M_1 : MS, M_1 = si M 2 (0 : Int32) → (a1 < 0 → (Post (-1 : Int32) M_1)) ∧ (¬ (a1 < 0) → ((a1 < (mi M_1 14) → (w4_pageIs a1 M_1 (fun r_5 M_4 => Post r_5 M_4))) ∧ (¬ (a1 < (mi M_1 14)) → (Post (-1 : Int32) M_1))))
abbrev rX4_page : Room := { frames := 5, cells := 0, slots := 0, locals := 111 }
theorem cdX4_page : yX4_page.cls = RX4 ∧ yX4_page.cls ≠ "java/lang/invoke/MethodHandle" ∧ yX4_page.cls ≠ "java/lang/invoke/VarHandle" ∧ (parseMethodDescriptor yX4_page.desc).map (fun d => d.parameters.length) = some 1 := by decide +kernel
set_option maxHeartbeats 4000000 in
set_option maxRecDepth 100000 in
theorem mt4_page (l : Launch) {D : va_G} {cA : Nat → ClassId} {m0 : Nat} {ad : Nat → Nat} (hA : mAd m0 ad) (a1 : Int32) (M : MS) (Post : Int32 → MS → Prop) (h : w4_page a1 M Post) : Met l yX4_page (ws_ yX4_page cX4_page 2 (some .int)) rX4_page (mPc [.ref m0, .int a1] D cA m0 ad M) (va_Qi Post (mB D cA m0 ad) (mF m0 ad)) 0 0 (mF m0 ad) := by
  refine mst_i (own := RX4) (by decide) rfl (Nat.le_of_ble_eq_true rfl) ?_
  intro p e s m args below meth c Q ls S hK hP hS hl hret
  have hx := S.1
  have hb := S.2.1
  have hl : lv_has ls 2 [(0, .ref m0), (1, .int a1)] := hl
  unfold w4_page at h
  refine lv_aload_n hx hb dX4_page_0 rfl (lv_at hl 0 rfl) ?_
  refine lv_iconst hx hb dX4_page_1 kc_0 ?_
  refine mp_i S hK hA hP hS (k := 2) (by decide) (Or.inl rfl) rfl (Or.inl ⟨rfl, rfl⟩) q1422 dX4_page_2 (fun M_1 H locs e_M_1 hP hS => ?_)
  replace h := h M_1 e_M_1
  refine lv_iload_n hx hb dX4_page_5 rfl (lv_at hl 1 rfl) ?_
  refine lv_if_lt (tgt := 17) hx hb dX4_page_6 (by decide) (fun c_2 => ?_) (fun c_2 => ?_)
  · replace h := h.1 c_2
    refine lv_iconst hx hb dX4_page_17 kc_m1 ?_
    refine lv_goto (tgt := 26) hx hb dX4_page_18 (by decide) ?_
    exact hret _ _ _ _ _ _ hP hS h rfl dX4_page_26
  · replace h := h.2 c_2
    refine lv_iload_n hx hb dX4_page_9 rfl (lv_at hl 1 rfl) ?_
    refine lv_aload_n hx hb dX4_page_10 rfl (lv_at hl 0 rfl) ?_
    refine mg_i S hK hP (k := 14) (by decide) (by decide) q1434 dX4_page_11 ?_
    refine lv_icmp_lt (tgt := 21) hx hb dX4_page_14 (by decide) (fun c_3 => ?_) (fun c_3 => ?_)
    · replace h := h.1 c_3
      refine lv_aload_n hx hb dX4_page_21 rfl (lv_at hl 0 rfl) ?_
      refine lv_iload_n hx hb dX4_page_22 rfl (lv_at hl 1 rfl) ?_
      refine mc_i S hK hP hS (As := [.int a1]) (rest := []) (mt4_pageIs l hA a1 M_1 _ h) (cwV 1 S.2.2.2.2 (lw_V q1886 q1888 qs110 q145 q1889) rfl rfl rfl cdX4_pageIs ⟨Nat.le_of_ble_eq_true rfl, Nat.le_of_ble_eq_true rfl⟩) rfl rfl hl.1 (Nat.le_of_ble_eq_true rfl) dX4_page_23 ⟨Nat.le_refl _, Nat.le_refl _⟩ (fun r_5 M_4 H locs h hP hS => ?_)
      exact hret _ _ _ _ _ _ hP hS h rfl dX4_page_26
    · replace h := h.2 c_3
      refine lv_iconst hx hb dX4_page_17 kc_m1 ?_
      refine lv_goto (tgt := 26) hx hb dX4_page_18 (by decide) ?_
      exact hret _ _ _ _ _ _ hP hS h rfl dX4_page_26
def w4_isOnPage_c47 (a1 : Int32) (a2 : Int32) (a3 : Int32) (k3 : Int32 → MS → Prop) (Post : Int32 → MS → Prop) (x4 : Int32) (M : MS) : Prop := ∀ v_3 : Int32, v_3 = x4 + (1 : Int32) → k3 v_3 M
def w4_isOnPage_l3 (a1 : Int32) (a2 : Int32) (a3 : Int32) (Post : Int32 → MS → Prop) : Nat → Int32 → MS → Prop
  | 0, _, _ => False
  | n + 1, x4, M => ((mi M 14) ≤ x4 → (Post (0 : Int32) M)) ∧ (¬ ((mi M 14) ≤ x4) → ((vp_in x4 (mN 36) ∧ ((ma M 36 (Int32.toNatClampNeg x4)) = a1 → ((vp_in x4 (mN 37) ∧ ((ma M 37 (Int32.toNatClampNeg x4)) = a2 → ((vp_in x4 (mN 38) ∧ ((ma M 38 (Int32.toNatClampNeg x4)) = a3 → (Post (1 : Int32) M)) ∧ (¬ ((ma M 38 (Int32.toNatClampNeg x4)) = a3) → (w4_isOnPage_c47 a1 a2 a3 (w4_isOnPage_l3 a1 a2 a3 Post n) Post x4 M))))) ∧ (¬ ((ma M 37 (Int32.toNatClampNeg x4)) = a2) → (w4_isOnPage_c47 a1 a2 a3 (w4_isOnPage_l3 a1 a2 a3 Post n) Post x4 M))))) ∧ (¬ ((ma M 36 (Int32.toNatClampNeg x4)) = a1) → (w4_isOnPage_c47 a1 a2 a3 (w4_isOnPage_l3 a1 a2 a3 Post n) Post x4 M)))))
def w4_isOnPage (a1 : Int32) (a2 : Int32) (a3 : Int32) (M : MS) (Post : Int32 → MS → Prop) : Prop := ∃ f, w4_isOnPage_l3 a1 a2 a3 Post f (0 : Int32) M
abbrev rX4_isOnPage : Room := { frames := 0, cells := 0, slots := 0, locals := 0 }
theorem cdX4_isOnPage : yX4_isOnPage.cls = RX4 ∧ yX4_isOnPage.cls ≠ "java/lang/invoke/MethodHandle" ∧ yX4_isOnPage.cls ≠ "java/lang/invoke/VarHandle" ∧ (parseMethodDescriptor yX4_isOnPage.desc).map (fun d => d.parameters.length) = some 3 := by decide +kernel
set_option maxHeartbeats 4000000 in
set_option maxRecDepth 100000 in
theorem mt4_isOnPage (l : Launch) {D : va_G} {cA : Nat → ClassId} {m0 : Nat} {ad : Nat → Nat} (hA : mAd m0 ad) (a1 : Int32) (a2 : Int32) (a3 : Int32) (M : MS) (Post : Int32 → MS → Prop) (h : w4_isOnPage a1 a2 a3 M Post) : Met l yX4_isOnPage (ws_ yX4_isOnPage cX4_isOnPage 5 (some .boolean)) rX4_isOnPage (mPc [.ref m0, .int a1, .int a2, .int a3] D cA m0 ad M) (va_Qi Post (mB D cA m0 ad) (mF m0 ad)) 0 0 (mF m0 ad) := by
  refine mst_i (own := RX4) (by decide) rfl (Nat.le_of_ble_eq_true rfl) ?_
  intro p e s m args below meth c Q ls S hK hP hS hl hret
  have hx := S.1
  have hb := S.2.1
  have hl : lv_has ls 5 [(0, .ref m0), (1, .int a1), (2, .int a2), (3, .int a3)] := hl
  have C47 : ∀ (k3 : Int32 → MS → Prop) (K3 : (∀ (x4 : Int32) (M : MS) (H : Heap) (locs : List Loc) (ls : Array Slot), va_P D vwCl (mo cA m0 ad M) H → va_S (mF m0 ad) s.heap H locs → lv_has ls 5 [(0, .ref m0), (1, .int a1), (2, .int a2), (3, .int a3), (4, .int x4)] → k3 x4 M → W p l e rX4_isOnPage s m args below meth c H locs 0 0 Q (F0 m 3 ls []))), ∀ (x4 : Int32) (M : MS) (H : Heap) (locs : List Loc) (ls : Array Slot), va_P D vwCl (mo cA m0 ad M) H → va_S (mF m0 ad) s.heap H locs → lv_has ls 5 [(0, .ref m0), (1, .int a1), (2, .int a2), (3, .int a3), (4, .int x4)] → w4_isOnPage_c47 a1 a2 a3 k3 Post x4 M → W p l e rX4_isOnPage s m args below meth c H locs 0 0 Q (F0 m 47 ls []) := by
    intro k3 K3
    intro x4 M H locs ls hP hS hl h
    unfold w4_isOnPage_c47 at h
    obtain ⟨v_3, e_v_3⟩ : ∃ y : Int32, y = x4 + (1 : Int32) := ⟨_, rfl⟩
    replace h := h v_3 e_v_3
    refine lv_iinc (v := v_3) (lv' := [(4, .int v_3), (0, .ref m0), (1, .int a1), (2, .int a2), (3, .int a3)]) hx hb dX4_isOnPage_47 hl (k := 4) rfl (by rw [kc_1, e_v_3]) (by decide) rfl (fun ls hl => ?_)
    refine lv_goto (tgt := 3) hx hb dX4_isOnPage_50 (by decide) ?_
    exact K3 _ _ _ _ _ hP hS (lv_sub hl [1, 2, 3, 4, 0] rfl) h
  have L3 : ∀ (n : Nat) (x4 : Int32) (M : MS) (H : Heap) (locs : List Loc) (ls : Array Slot), va_P D vwCl (mo cA m0 ad M) H → va_S (mF m0 ad) s.heap H locs → lv_has ls 5 [(0, .ref m0), (1, .int a1), (2, .int a2), (3, .int a3), (4, .int x4)] → w4_isOnPage_l3 a1 a2 a3 Post n x4 M → W p l e rX4_isOnPage s m args below meth c H locs 0 0 Q (F0 m 3 ls []) := by
    intro n
    induction n with
    | zero => intro x4 M H locs ls hP hS hl h; rw [w4_isOnPage_l3] at h; exact h.elim
    | succ n ih =>
      intro x4 M H locs ls hP hS hl h
      rw [w4_isOnPage_l3] at h
      refine lv_iload hx hb dX4_isOnPage_3 (lv_at hl 4 rfl) ?_
      refine lv_aload_n hx hb dX4_isOnPage_5 rfl (lv_at hl 0 rfl) ?_
      refine mg_i S hK hP (k := 14) (by decide) (by decide) q1434 dX4_isOnPage_6 ?_
      refine lv_icmp_ge (tgt := 53) hx hb dX4_isOnPage_9 (by decide) (fun c_1 => ?_) (fun c_1 => ?_)
      · replace h := h.1 c_1
        refine lv_iconst hx hb dX4_isOnPage_53 kc_0 ?_
        exact hret _ _ _ _ _ _ hP hS h (vz_nar vz_0) dX4_isOnPage_54
      · replace h := h.2 c_1
        refine lv_aload_n hx hb dX4_isOnPage_12 rfl (lv_at hl 0 rfl) ?_
        refine mg_r S hK hP (k := 36) (by decide) (by decide) q1456 dX4_isOnPage_13 ?_
        refine lv_iload hx hb dX4_isOnPage_16 (lv_at hl 4 rfl) ?_
        obtain ⟨hi, h⟩ := h
        refine ml_a S hK hP (k := 36) af_36 rfl hi dX4_isOnPage_18 ?_
        refine lv_iload_n hx hb dX4_isOnPage_19 rfl (lv_at hl 1 rfl) ?_
        refine lv_icmp_ne (tgt := 47) hx hb dX4_isOnPage_20 (by decide) (fun c_2 => ?_) (fun c_2 => ?_)
        · replace h := h.2 c_2
          exact C47 _ ih _ _ _ _ _ hP hS (lv_sub hl [0, 1, 2, 3, 4] rfl) h
        · replace h := h.1 c_2
          refine lv_aload_n hx hb dX4_isOnPage_23 rfl (lv_at hl 0 rfl) ?_
          refine mg_r S hK hP (k := 37) (by decide) (by decide) q1457 dX4_isOnPage_24 ?_
          refine lv_iload hx hb dX4_isOnPage_27 (lv_at hl 4 rfl) ?_
          obtain ⟨hi, h⟩ := h
          refine ml_a S hK hP (k := 37) af_37 rfl hi dX4_isOnPage_29 ?_
          refine lv_iload_n hx hb dX4_isOnPage_30 rfl (lv_at hl 2 rfl) ?_
          refine lv_icmp_ne (tgt := 47) hx hb dX4_isOnPage_31 (by decide) (fun c_4 => ?_) (fun c_4 => ?_)
          · replace h := h.2 c_4
            exact C47 _ ih _ _ _ _ _ hP hS (lv_sub hl [0, 1, 2, 3, 4] rfl) h
          · replace h := h.1 c_4
            refine lv_aload_n hx hb dX4_isOnPage_34 rfl (lv_at hl 0 rfl) ?_
            refine mg_r S hK hP (k := 38) (by decide) (by decide) q1458 dX4_isOnPage_35 ?_
            refine lv_iload hx hb dX4_isOnPage_38 (lv_at hl 4 rfl) ?_
            obtain ⟨hi, h⟩ := h
            refine ml_a S hK hP (k := 38) af_38 rfl hi dX4_isOnPage_40 ?_
            refine lv_iload_n hx hb dX4_isOnPage_41 rfl (lv_at hl 3 rfl) ?_
            refine lv_icmp_ne (tgt := 47) hx hb dX4_isOnPage_42 (by decide) (fun c_5 => ?_) (fun c_5 => ?_)
            · replace h := h.2 c_5
              exact C47 _ ih _ _ _ _ _ hP hS (lv_sub hl [0, 1, 2, 3, 4] rfl) h
            · replace h := h.1 c_5
              refine lv_iconst hx hb dX4_isOnPage_45 kc_1 ?_
              exact hret _ _ _ _ _ _ hP hS h (vz_nar vz_1) dX4_isOnPage_46
  unfold w4_isOnPage at h
  refine lv_iconst hx hb dX4_isOnPage_0 kc_0 ?_
  refine lv_istore (lv' := [(4, .int (0 : Int32)), (0, .ref m0), (1, .int a1), (2, .int a2), (3, .int a3)]) hx hb dX4_isOnPage_1 hl (by decide) rfl (fun ls hl => ?_)
  obtain ⟨f, h⟩ := h
  exact L3 f _ _ _ _ _ hP hS (lv_sub hl [1, 2, 3, 4, 0] rfl) h
def w4_left_c79 (a1 : Int32) (k19 : Int32 → Int32 → MS → Prop) (Post : Int32 → MS → Prop) (x3 : Int32) (t0 : Int32) (t1 : Int32) (M : MS) : Prop := ∀ v_9 : Int32, v_9 = t1 + t0 → ∀ v_10 : Int32, v_10 = x3 + (1 : Int32) → k19 v_9 v_10 M
def w4_left_c78 (a1 : Int32) (k19 : Int32 → Int32 → MS → Prop) (Post : Int32 → MS → Prop) (x3 : Int32) (t0 : Int32) (M : MS) : Prop := w4_left_c79 a1 k19 Post x3 (0 : Int32) t0 M
def w4_left_l19 (a1 : Int32) (Post : Int32 → MS → Prop) : Nat → Int32 → Int32 → MS → Prop
  | 0, _, _, _ => False
  | n + 1, x2, x3, M => ((mi M 13) ≤ x3 → (Post x2 M)) ∧ (¬ ((mi M 13) ≤ x3) → (w4_isHeardWord x3 M (fun r_7 M_6 => (r_7 = 0 → (w4_left_c78 a1 (w4_left_l19 a1 Post n) Post x3 x2 M_6)) ∧ (¬ (r_7 = 0) → ((vp_in x3 (mN 32) ∧ ((ma M_6 32 (Int32.toNatClampNeg x3)) = a1 → (w4_isRight x3 M_6 (fun r_13 M_12 => (r_13 = 0 → ((vp_in x3 (mN 34) ∧ (vp_in x3 (mN 35) ∧ w4_isOnPage a1 (ma M_12 34 (Int32.toNatClampNeg x3)) (ma M_12 35 (Int32.toNatClampNeg x3)) M_12 (fun r_16 M_15 => (r_16 = 0 → (w4_left_c79 a1 (w4_left_l19 a1 Post n) Post x3 (1 : Int32) x2 M_15)) ∧ (¬ (r_16 = 0) → (w4_left_c78 a1 (w4_left_l19 a1 Post n) Post x3 x2 M_15))))))) ∧ (¬ (r_13 = 0) → (w4_left_c78 a1 (w4_left_l19 a1 Post n) Post x3 x2 M_12))))) ∧ (¬ ((ma M_6 32 (Int32.toNatClampNeg x3)) = a1) → (w4_left_c78 a1 (w4_left_l19 a1 Post n) Post x3 x2 M_6))))))))
def w4_left (a1 : Int32) (M : MS) (Post : Int32 → MS → Prop) : Prop := ∀ M_1 : MS, M_1 = si M 2 (0 : Int32) → w4_isTeller a1 M_1 (fun r_3 M_2 => (r_3 = 0 → (Post (-1 : Int32) M_2)) ∧ (¬ (r_3 = 0) → (∃ f, w4_left_l19 a1 Post f (0 : Int32) (0 : Int32) M_2)))
abbrev rX4_left : Room := { frames := 2, cells := 0, slots := 0, locals := 42 }
theorem cdX4_left : yX4_left.cls = RX4 ∧ yX4_left.cls ≠ "java/lang/invoke/MethodHandle" ∧ yX4_left.cls ≠ "java/lang/invoke/VarHandle" ∧ (parseMethodDescriptor yX4_left.desc).map (fun d => d.parameters.length) = some 1 := by decide +kernel
set_option maxHeartbeats 4000000 in
set_option maxRecDepth 100000 in
theorem mt4_left (l : Launch) {D : va_G} {cA : Nat → ClassId} {m0 : Nat} {ad : Nat → Nat} (hA : mAd m0 ad) (a1 : Int32) (M : MS) (Post : Int32 → MS → Prop) (h : w4_left a1 M Post) : Met l yX4_left (ws_ yX4_left cX4_left 4 (some .int)) rX4_left (mPc [.ref m0, .int a1] D cA m0 ad M) (va_Qi Post (mB D cA m0 ad) (mF m0 ad)) 0 0 (mF m0 ad) := by
  refine mst_i (own := RX4) (by decide) rfl (Nat.le_of_ble_eq_true rfl) ?_
  intro p e s m args below meth c Q ls S hK hP hS hl hret
  have hx := S.1
  have hb := S.2.1
  have hl : lv_has ls 4 [(0, .ref m0), (1, .int a1)] := hl
  have C79 : ∀ (k19 : Int32 → Int32 → MS → Prop) (K19 : (∀ (x2 : Int32) (x3 : Int32) (M : MS) (H : Heap) (locs : List Loc) (ls : Array Slot), va_P D vwCl (mo cA m0 ad M) H → va_S (mF m0 ad) s.heap H locs → lv_has ls 4 [(0, .ref m0), (1, .int a1), (2, .int x2), (3, .int x3)] → k19 x2 x3 M → W p l e rX4_left s m args below meth c H locs 0 0 Q (F0 m 19 ls []))), ∀ (x3 : Int32) (t0 : Int32) (t1 : Int32) (M : MS) (H : Heap) (locs : List Loc) (ls : Array Slot), va_P D vwCl (mo cA m0 ad M) H → va_S (mF m0 ad) s.heap H locs → lv_has ls 4 [(0, .ref m0), (1, .int a1), (3, .int x3)] → w4_left_c79 a1 k19 Post x3 t0 t1 M → W p l e rX4_left s m args below meth c H locs 0 0 Q (F0 m 79 ls [.int t0, .int t1]) := by
    intro k19 K19
    intro x3 t0 t1 M H locs ls hP hS hl h
    unfold w4_left_c79 at h
    refine lv_iadd hx hb dX4_left_79 ?_
    refine lv_topi (fun v_9 e_v_9 => ?_)
    replace h := h v_9 e_v_9
    refine lv_istore_n (lv' := [(2, .int v_9), (0, .ref m0), (1, .int a1), (3, .int x3)]) hx hb dX4_left_80 rfl hl (by decide) rfl (fun ls hl => ?_)
    obtain ⟨v_10, e_v_10⟩ : ∃ y : Int32, y = x3 + (1 : Int32) := ⟨_, rfl⟩
    replace h := h v_10 e_v_10
    refine lv_iinc (v := v_10) (lv' := [(3, .int v_10), (2, .int v_9), (0, .ref m0), (1, .int a1)]) hx hb dX4_left_81 hl (k := 3) rfl (by rw [kc_1, e_v_10]) (by decide) rfl (fun ls hl => ?_)
    refine lv_goto (tgt := 19) hx hb dX4_left_84 (by decide) ?_
    exact K19 _ _ _ _ _ _ hP hS (lv_sub hl [2, 3, 1, 0] rfl) h
  have C78 : ∀ (k19 : Int32 → Int32 → MS → Prop) (K19 : (∀ (x2 : Int32) (x3 : Int32) (M : MS) (H : Heap) (locs : List Loc) (ls : Array Slot), va_P D vwCl (mo cA m0 ad M) H → va_S (mF m0 ad) s.heap H locs → lv_has ls 4 [(0, .ref m0), (1, .int a1), (2, .int x2), (3, .int x3)] → k19 x2 x3 M → W p l e rX4_left s m args below meth c H locs 0 0 Q (F0 m 19 ls []))), ∀ (x3 : Int32) (t0 : Int32) (M : MS) (H : Heap) (locs : List Loc) (ls : Array Slot), va_P D vwCl (mo cA m0 ad M) H → va_S (mF m0 ad) s.heap H locs → lv_has ls 4 [(0, .ref m0), (1, .int a1), (3, .int x3)] → w4_left_c78 a1 k19 Post x3 t0 M → W p l e rX4_left s m args below meth c H locs 0 0 Q (F0 m 78 ls [.int t0]) := by
    intro k19 K19
    intro x3 t0 M H locs ls hP hS hl h
    unfold w4_left_c78 at h
    refine lv_iconst hx hb dX4_left_78 kc_0 ?_
    exact C79 _ K19 _ _ _ _ _ _ _ hP hS (lv_sub hl [0, 1, 2] rfl) h
  have L19 : ∀ (n : Nat) (x2 : Int32) (x3 : Int32) (M : MS) (H : Heap) (locs : List Loc) (ls : Array Slot), va_P D vwCl (mo cA m0 ad M) H → va_S (mF m0 ad) s.heap H locs → lv_has ls 4 [(0, .ref m0), (1, .int a1), (2, .int x2), (3, .int x3)] → w4_left_l19 a1 Post n x2 x3 M → W p l e rX4_left s m args below meth c H locs 0 0 Q (F0 m 19 ls []) := by
    intro n
    induction n with
    | zero => intro x2 x3 M H locs ls hP hS hl h; rw [w4_left_l19] at h; exact h.elim
    | succ n ih =>
      intro x2 x3 M H locs ls hP hS hl h
      rw [w4_left_l19] at h
      refine lv_iload_n hx hb dX4_left_19 rfl (lv_at hl 3 rfl) ?_
      refine lv_aload_n hx hb dX4_left_20 rfl (lv_at hl 0 rfl) ?_
      refine mg_i S hK hP (k := 13) (by decide) (by decide) q1433 dX4_left_21 ?_
      refine lv_icmp_ge (tgt := 87) hx hb dX4_left_24 (by decide) (fun c_5 => ?_) (fun c_5 => ?_)
      · replace h := h.1 c_5
        refine lv_iload_n hx hb dX4_left_87 rfl (lv_at hl 2 rfl) ?_
        exact hret _ _ _ _ _ _ hP hS h rfl dX4_left_88
      · replace h := h.2 c_5
        refine lv_iload_n hx hb dX4_left_27 rfl (lv_at hl 2 rfl) ?_
        refine lv_aload_n hx hb dX4_left_28 rfl (lv_at hl 0 rfl) ?_
        refine lv_iload_n hx hb dX4_left_29 rfl (lv_at hl 3 rfl) ?_
        refine mc_i S hK hP hS (As := [.int x3]) (rest := [.int x2]) (mt4_isHeardWord l hA x3 M _ h) (cwV 1 S.2.2.2.2 (lw_V q1806 q1808 qs98 q145 q1809) rfl rfl rfl cdX4_isHeardWord ⟨Nat.le_of_ble_eq_true rfl, Nat.le_of_ble_eq_true rfl⟩) rfl rfl hl.1 (Nat.le_of_ble_eq_true rfl) dX4_left_30 ⟨Nat.le_refl _, Nat.le_refl _⟩ (fun r_7 M_6 H locs h hP hS => ?_)
        refine lv_if_eq (tgt := 78) hx hb dX4_left_33 (by decide) (fun c_8 => ?_) (fun c_8 => ?_)
        · replace h := h.1 c_8
          exact C78 _ ih _ _ _ _ _ _ hP hS (lv_sub hl [0, 1, 3] rfl) h
        · replace h := h.2 c_8
          refine lv_aload_n hx hb dX4_left_36 rfl (lv_at hl 0 rfl) ?_
          refine mg_r S hK hP (k := 32) (by decide) (by decide) q1452 dX4_left_37 ?_
          refine lv_iload_n hx hb dX4_left_40 rfl (lv_at hl 3 rfl) ?_
          obtain ⟨hi, h⟩ := h
          refine ml_a S hK hP (k := 32) af_32 rfl hi dX4_left_41 ?_
          refine lv_iload_n hx hb dX4_left_42 rfl (lv_at hl 1 rfl) ?_
          refine lv_icmp_ne (tgt := 78) hx hb dX4_left_43 (by decide) (fun c_11 => ?_) (fun c_11 => ?_)
          · replace h := h.2 c_11
            exact C78 _ ih _ _ _ _ _ _ hP hS (lv_sub hl [0, 1, 3] rfl) h
          · replace h := h.1 c_11
            refine lv_aload_n hx hb dX4_left_46 rfl (lv_at hl 0 rfl) ?_
            refine lv_iload_n hx hb dX4_left_47 rfl (lv_at hl 3 rfl) ?_
            refine mc_i S hK hP hS (As := [.int x3]) (rest := [.int x2]) (mt4_isRight l hA x3 M_6 _ h) (cwV 1 S.2.2.2.2 (lw_V q1814 q1816 qs100 q145 q1817) rfl rfl rfl cdX4_isRight ⟨Nat.le_of_ble_eq_true rfl, Nat.le_of_ble_eq_true rfl⟩) rfl rfl hl.1 (Nat.le_of_ble_eq_true rfl) dX4_left_48 ⟨Nat.le_refl _, Nat.le_refl _⟩ (fun r_13 M_12 H locs h hP hS => ?_)
            refine lv_if_ne (tgt := 78) hx hb dX4_left_51 (by decide) (fun c_14 => ?_) (fun c_14 => ?_)
            · replace h := h.2 c_14
              exact C78 _ ih _ _ _ _ _ _ hP hS (lv_sub hl [0, 1, 3] rfl) h
            · replace h := h.1 c_14
              refine lv_aload_n hx hb dX4_left_54 rfl (lv_at hl 0 rfl) ?_
              refine lv_iload_n hx hb dX4_left_55 rfl (lv_at hl 1 rfl) ?_
              refine lv_aload_n hx hb dX4_left_56 rfl (lv_at hl 0 rfl) ?_
              refine mg_r S hK hP (k := 34) (by decide) (by decide) q1454 dX4_left_57 ?_
              refine lv_iload_n hx hb dX4_left_60 rfl (lv_at hl 3 rfl) ?_
              obtain ⟨hi, h⟩ := h
              refine ml_a S hK hP (k := 34) af_34 rfl hi dX4_left_61 ?_
              refine lv_aload_n hx hb dX4_left_62 rfl (lv_at hl 0 rfl) ?_
              refine mg_r S hK hP (k := 35) (by decide) (by decide) q1455 dX4_left_63 ?_
              refine lv_iload_n hx hb dX4_left_66 rfl (lv_at hl 3 rfl) ?_
              obtain ⟨hi, h⟩ := h
              refine ml_a S hK hP (k := 35) af_35 rfl hi dX4_left_67 ?_
              refine mc_i S hK hP hS (As := [.int a1, .int (ma M_12 34 (Int32.toNatClampNeg x3)), .int (ma M_12 35 (Int32.toNatClampNeg x3))]) (rest := [.int x2]) (mt4_isOnPage l hA a1 (ma M_12 34 (Int32.toNatClampNeg x3)) (ma M_12 35 (Int32.toNatClampNeg x3)) M_12 _ h) (cwV 3 S.2.2.2.2 (lw_V q1902 q1904 qs113 q145 q1905) rfl rfl rfl cdX4_isOnPage ⟨Nat.le_of_ble_eq_true rfl, Nat.le_of_ble_eq_true rfl⟩) rfl rfl hl.1 (Nat.le_of_ble_eq_true rfl) dX4_left_68 ⟨Nat.le_refl _, Nat.le_refl _⟩ (fun r_16 M_15 H locs h hP hS => ?_)
              refine lv_if_ne (tgt := 78) hx hb dX4_left_71 (by decide) (fun c_17 => ?_) (fun c_17 => ?_)
              · replace h := h.2 c_17
                exact C78 _ ih _ _ _ _ _ _ hP hS (lv_sub hl [0, 1, 3] rfl) h
              · replace h := h.1 c_17
                refine lv_iconst hx hb dX4_left_74 kc_1 ?_
                refine lv_goto (tgt := 79) hx hb dX4_left_75 (by decide) ?_
                exact C79 _ ih _ _ _ _ _ _ _ hP hS (lv_sub hl [0, 1, 3] rfl) h
  unfold w4_left at h
  refine lv_aload_n hx hb dX4_left_0 rfl (lv_at hl 0 rfl) ?_
  refine lv_iconst hx hb dX4_left_1 kc_0 ?_
  refine mp_i S hK hA hP hS (k := 2) (by decide) (Or.inl rfl) rfl (Or.inl ⟨rfl, rfl⟩) q1422 dX4_left_2 (fun M_1 H locs e_M_1 hP hS => ?_)
  replace h := h M_1 e_M_1
  refine lv_aload_n hx hb dX4_left_5 rfl (lv_at hl 0 rfl) ?_
  refine lv_iload_n hx hb dX4_left_6 rfl (lv_at hl 1 rfl) ?_
  refine mc_i S hK hP hS (As := [.int a1]) (rest := []) (mt4_isTeller l hA a1 M_1 _ h) (cwV 1 S.2.2.2.2 (lw_V q1771 q1773 qs95 q145 q1774) rfl rfl rfl cdX4_isTeller ⟨Nat.le_of_ble_eq_true rfl, Nat.le_of_ble_eq_true rfl⟩) rfl rfl hl.1 (Nat.le_of_ble_eq_true rfl) dX4_left_7 ⟨Nat.le_refl _, Nat.le_refl _⟩ (fun r_3 M_2 H locs h hP hS => ?_)
  refine lv_if_ne (tgt := 15) hx hb dX4_left_10 (by decide) (fun c_4 => ?_) (fun c_4 => ?_)
  · replace h := h.2 c_4
    refine lv_iconst hx hb dX4_left_15 kc_0 ?_
    refine lv_istore_n (lv' := [(2, .int (0 : Int32)), (0, .ref m0), (1, .int a1)]) hx hb dX4_left_16 rfl hl (by decide) rfl (fun ls hl => ?_)
    refine lv_iconst hx hb dX4_left_17 kc_0 ?_
    refine lv_istore_n (lv' := [(3, .int (0 : Int32)), (2, .int (0 : Int32)), (0, .ref m0), (1, .int a1)]) hx hb dX4_left_18 rfl hl (by decide) rfl (fun ls hl => ?_)
    obtain ⟨f, h⟩ := h
    exact L19 f _ _ _ _ _ _ hP hS (lv_sub hl [2, 3, 1, 0] rfl) h
  · replace h := h.1 c_4
    refine lv_iconst hx hb dX4_left_13 kc_m1 ?_
    exact hret _ _ _ _ _ _ hP hS h rfl dX4_left_14
def w4_moved_c173 (a1 : Int32) (k22 : Int32 → Int32 → Int32 → MS → Prop) (Post : Int32 → MS → Prop) (x2 : Int32) (x3 : Int32) (x4 : Int32) (M : MS) : Prop := ∀ v_7 : Int32, v_7 = x4 + (1 : Int32) → k22 x2 x3 v_7 M
def w4_moved_c169 (a1 : Int32) (k22 : Int32 → Int32 → Int32 → MS → Prop) (Post : Int32 → MS → Prop) (x2 : Int32) (x4 : Int32) (t0 : Int32) (M : MS) : Prop := ∀ v_17 : Int32, v_17 = x2 + (1 : Int32) → w4_moved_c173 a1 k22 Post v_17 t0 x4 M
def w4_moved_c143 (a1 : Int32) (k22 : Int32 → Int32 → Int32 → MS → Prop) (k90 : Int32 → Int32 → Int32 → Int32 → MS → Prop) (Post : Int32 → MS → Prop) (x2 : Int32) (x3 : Int32) (x4 : Int32) (x5 : Int32) (M : MS) : Prop := ∀ v_19 : Int32, v_19 = x5 + (1 : Int32) → k90 x2 x3 x4 v_19 M
def w4_moved_l90 (a1 : Int32) (k22 : Int32 → Int32 → Int32 → MS → Prop) (Post : Int32 → MS → Prop) : Nat → Int32 → Int32 → Int32 → Int32 → MS → Prop
  | 0, _, _, _, _, _ => False
  | n + 1, x2, x3, x4, x5, M => (x2 ≤ x5 → ((vp_in x2 (mN 61) ∧ ((ma M 61 (Int32.toNatClampNeg x2)) ≤ x3 → (w4_moved_c169 a1 k22 Post x2 x4 x3 M)) ∧ (¬ ((ma M 61 (Int32.toNatClampNeg x2)) ≤ x3) → ((vp_in x2 (mN 61) ∧ w4_moved_c169 a1 k22 Post x2 x4 (ma M 61 (Int32.toNatClampNeg x2)) M)))))) ∧ (¬ (x2 ≤ x5) → ((vp_in x5 (mN 60) ∧ (vp_in x2 (mN 60) ∧ ((ma M 60 (Int32.toNatClampNeg x2)) < (ma M 60 (Int32.toNatClampNeg x5)) → (w4_moved_c143 a1 k22 (w4_moved_l90 a1 k22 Post n) Post x2 x3 x4 x5 M)) ∧ (¬ ((ma M 60 (Int32.toNatClampNeg x2)) < (ma M 60 (Int32.toNatClampNeg x5))) → ((vp_in x5 (mN 61) ∧ (vp_in x2 (mN 61) ∧ ((ma M 61 (Int32.toNatClampNeg x5)) < (ma M 61 (Int32.toNatClampNeg x2)) → (w4_moved_c143 a1 k22 (w4_moved_l90 a1 k22 Post n) Post x2 x3 x4 x5 M)) ∧ (¬ ((ma M 61 (Int32.toNatClampNeg x5)) < (ma M 61 (Int32.toNatClampNeg x2))) → ((vp_in x5 (mN 61) ∧ (vp_in x2 (mN 61) ∧ ∀ M_21 : MS, M_21 = sa M 61 (Int32.toNatClampNeg x2) ((ma M 61 (Int32.toNatClampNeg x5)) + (1 : Int32)) → w4_moved_c143 a1 k22 (w4_moved_l90 a1 k22 Post n) Post x2 x3 x4 x5 M_21))))))))))))
def w4_moved_l22 (a1 : Int32) (Post : Int32 → MS → Prop) : Nat → Int32 → Int32 → Int32 → MS → Prop
  | 0, _, _, _, _ => False
  | n + 1, x2, x3, x4, M => ((mi M 14) ≤ x4 → (Post (x2 - x3) M)) ∧ (¬ ((mi M 14) ≤ x4) → ((vp_in x4 (mN 36) ∧ ((ma M 36 (Int32.toNatClampNeg x4)) = a1 → (w4_pageIs x4 M (fun r_9 M_8 => (r_9 ≤ (1 : Int32) → ((vp_in x4 (mN 37) ∧ (vp_in x4 (mN 38) ∧ w4_firstSaid a1 (ma M_8 37 (Int32.toNatClampNeg x4)) (ma M_8 38 (Int32.toNatClampNeg x4)) M_8 (fun r_12 M_11 => (vp_in x2 (mN 60) ∧ ∀ M_13 : MS, M_13 = sa M_11 60 (Int32.toNatClampNeg x2) r_12 → (vp_in x2 (mN 61) ∧ ∀ M_14 : MS, M_14 = sa M_13 61 (Int32.toNatClampNeg x2) (1 : Int32) → ∃ f, w4_moved_l90 a1 (w4_moved_l22 a1 Post n) Post f x2 x3 x4 (0 : Int32) M_14))))))) ∧ (¬ (r_9 ≤ (1 : Int32)) → (w4_moved_c173 a1 (w4_moved_l22 a1 Post n) Post x2 x3 x4 M_8))))) ∧ (¬ ((ma M 36 (Int32.toNatClampNeg x4)) = a1) → (w4_moved_c173 a1 (w4_moved_l22 a1 Post n) Post x2 x3 x4 M)))))
def w4_moved (a1 : Int32) (M : MS) (Post : Int32 → MS → Prop) : Prop := ∀ M_1 : MS, M_1 = si M 2 (0 : Int32) → w4_isTeller a1 M_1 (fun r_3 M_2 => (r_3 = 0 → (Post (-1 : Int32) M_2)) ∧ (¬ (r_3 = 0) → (∃ f, w4_moved_l22 a1 Post f (0 : Int32) (0 : Int32) (0 : Int32) M_2)))
abbrev rX4_moved : Room := { frames := 5, cells := 0, slots := 0, locals := 111 }
theorem cdX4_moved : yX4_moved.cls = RX4 ∧ yX4_moved.cls ≠ "java/lang/invoke/MethodHandle" ∧ yX4_moved.cls ≠ "java/lang/invoke/VarHandle" ∧ (parseMethodDescriptor yX4_moved.desc).map (fun d => d.parameters.length) = some 1 := by decide +kernel
set_option maxHeartbeats 4000000 in
set_option maxRecDepth 100000 in
theorem mt4_moved (l : Launch) {D : va_G} {cA : Nat → ClassId} {m0 : Nat} {ad : Nat → Nat} (hA : mAd m0 ad) (a1 : Int32) (M : MS) (Post : Int32 → MS → Prop) (h : w4_moved a1 M Post) : Met l yX4_moved (ws_ yX4_moved cX4_moved 6 (some .int)) rX4_moved (mPc [.ref m0, .int a1] D cA m0 ad M) (va_Qi Post (mB D cA m0 ad) (mF m0 ad)) 0 0 (mF m0 ad) := by
  refine mst_i (own := RX4) (by decide) rfl (Nat.le_of_ble_eq_true rfl) ?_
  intro p e s m args below meth c Q ls S hK hP hS hl hret
  have hx := S.1
  have hb := S.2.1
  have hl : lv_has ls 6 [(0, .ref m0), (1, .int a1)] := hl
  have C173 : ∀ (k22 : Int32 → Int32 → Int32 → MS → Prop) (K22 : (∀ (x2 : Int32) (x3 : Int32) (x4 : Int32) (M : MS) (H : Heap) (locs : List Loc) (ls : Array Slot), va_P D vwCl (mo cA m0 ad M) H → va_S (mF m0 ad) s.heap H locs → lv_has ls 6 [(0, .ref m0), (1, .int a1), (2, .int x2), (3, .int x3), (4, .int x4)] → k22 x2 x3 x4 M → W p l e rX4_moved s m args below meth c H locs 0 0 Q (F0 m 22 ls []))), ∀ (x2 : Int32) (x3 : Int32) (x4 : Int32) (M : MS) (H : Heap) (locs : List Loc) (ls : Array Slot), va_P D vwCl (mo cA m0 ad M) H → va_S (mF m0 ad) s.heap H locs → lv_has ls 6 [(0, .ref m0), (1, .int a1), (2, .int x2), (3, .int x3), (4, .int x4)] → w4_moved_c173 a1 k22 Post x2 x3 x4 M → W p l e rX4_moved s m args below meth c H locs 0 0 Q (F0 m 173 ls []) := by
    intro k22 K22
    intro x2 x3 x4 M H locs ls hP hS hl h
    unfold w4_moved_c173 at h
    obtain ⟨v_7, e_v_7⟩ : ∃ y : Int32, y = x4 + (1 : Int32) := ⟨_, rfl⟩
    replace h := h v_7 e_v_7
    refine lv_iinc (v := v_7) (lv' := [(4, .int v_7), (0, .ref m0), (1, .int a1), (2, .int x2), (3, .int x3)]) hx hb dX4_moved_173 hl (k := 4) rfl (by rw [kc_1, e_v_7]) (by decide) rfl (fun ls hl => ?_)
    refine lv_goto (tgt := 22) hx hb dX4_moved_176 (by decide) ?_
    exact K22 _ _ _ _ _ _ _ hP hS (lv_sub hl [1, 2, 3, 4, 0] rfl) h
  have C169 : ∀ (k22 : Int32 → Int32 → Int32 → MS → Prop) (K22 : (∀ (x2 : Int32) (x3 : Int32) (x4 : Int32) (M : MS) (H : Heap) (locs : List Loc) (ls : Array Slot), va_P D vwCl (mo cA m0 ad M) H → va_S (mF m0 ad) s.heap H locs → lv_has ls 6 [(0, .ref m0), (1, .int a1), (2, .int x2), (3, .int x3), (4, .int x4)] → k22 x2 x3 x4 M → W p l e rX4_moved s m args below meth c H locs 0 0 Q (F0 m 22 ls []))), ∀ (x2 : Int32) (x4 : Int32) (t0 : Int32) (M : MS) (H : Heap) (locs : List Loc) (ls : Array Slot), va_P D vwCl (mo cA m0 ad M) H → va_S (mF m0 ad) s.heap H locs → lv_has ls 6 [(0, .ref m0), (1, .int a1), (2, .int x2), (4, .int x4)] → w4_moved_c169 a1 k22 Post x2 x4 t0 M → W p l e rX4_moved s m args below meth c H locs 0 0 Q (F0 m 169 ls [.int t0]) := by
    intro k22 K22
    intro x2 x4 t0 M H locs ls hP hS hl h
    unfold w4_moved_c169 at h
    refine lv_istore_n (lv' := [(3, .int t0), (0, .ref m0), (1, .int a1), (2, .int x2), (4, .int x4)]) hx hb dX4_moved_169 rfl hl (by decide) rfl (fun ls hl => ?_)
    obtain ⟨v_17, e_v_17⟩ : ∃ y : Int32, y = x2 + (1 : Int32) := ⟨_, rfl⟩
    replace h := h v_17 e_v_17
    refine lv_iinc (v := v_17) (lv' := [(2, .int v_17), (3, .int t0), (0, .ref m0), (1, .int a1), (4, .int x4)]) hx hb dX4_moved_170 hl (k := 3) rfl (by rw [kc_1, e_v_17]) (by decide) rfl (fun ls hl => ?_)
    exact C173 _ K22 _ _ _ _ _ _ _ hP hS (lv_sub hl [2, 3, 0, 1, 4] rfl) h
  have C143 : ∀ (k22 : Int32 → Int32 → Int32 → MS → Prop) (K22 : (∀ (x2 : Int32) (x3 : Int32) (x4 : Int32) (M : MS) (H : Heap) (locs : List Loc) (ls : Array Slot), va_P D vwCl (mo cA m0 ad M) H → va_S (mF m0 ad) s.heap H locs → lv_has ls 6 [(0, .ref m0), (1, .int a1), (2, .int x2), (3, .int x3), (4, .int x4)] → k22 x2 x3 x4 M → W p l e rX4_moved s m args below meth c H locs 0 0 Q (F0 m 22 ls []))) (k90 : Int32 → Int32 → Int32 → Int32 → MS → Prop) (K90 : (∀ (x2 : Int32) (x3 : Int32) (x4 : Int32) (x5 : Int32) (M : MS) (H : Heap) (locs : List Loc) (ls : Array Slot), va_P D vwCl (mo cA m0 ad M) H → va_S (mF m0 ad) s.heap H locs → lv_has ls 6 [(0, .ref m0), (1, .int a1), (2, .int x2), (3, .int x3), (4, .int x4), (5, .int x5)] → k90 x2 x3 x4 x5 M → W p l e rX4_moved s m args below meth c H locs 0 0 Q (F0 m 90 ls []))), ∀ (x2 : Int32) (x3 : Int32) (x4 : Int32) (x5 : Int32) (M : MS) (H : Heap) (locs : List Loc) (ls : Array Slot), va_P D vwCl (mo cA m0 ad M) H → va_S (mF m0 ad) s.heap H locs → lv_has ls 6 [(0, .ref m0), (1, .int a1), (2, .int x2), (3, .int x3), (4, .int x4), (5, .int x5)] → w4_moved_c143 a1 k22 k90 Post x2 x3 x4 x5 M → W p l e rX4_moved s m args below meth c H locs 0 0 Q (F0 m 143 ls []) := by
    intro k22 K22 k90 K90
    intro x2 x3 x4 x5 M H locs ls hP hS hl h
    unfold w4_moved_c143 at h
    obtain ⟨v_19, e_v_19⟩ : ∃ y : Int32, y = x5 + (1 : Int32) := ⟨_, rfl⟩
    replace h := h v_19 e_v_19
    refine lv_iinc (v := v_19) (lv' := [(5, .int v_19), (0, .ref m0), (1, .int a1), (2, .int x2), (3, .int x3), (4, .int x4)]) hx hb dX4_moved_143 hl (k := 5) rfl (by rw [kc_1, e_v_19]) (by decide) rfl (fun ls hl => ?_)
    refine lv_goto (tgt := 90) hx hb dX4_moved_146 (by decide) ?_
    exact K90 _ _ _ _ _ _ _ _ hP hS (lv_sub hl [1, 2, 3, 4, 5, 0] rfl) h
  have L90 : ∀ (k22 : Int32 → Int32 → Int32 → MS → Prop) (K22 : (∀ (x2 : Int32) (x3 : Int32) (x4 : Int32) (M : MS) (H : Heap) (locs : List Loc) (ls : Array Slot), va_P D vwCl (mo cA m0 ad M) H → va_S (mF m0 ad) s.heap H locs → lv_has ls 6 [(0, .ref m0), (1, .int a1), (2, .int x2), (3, .int x3), (4, .int x4)] → k22 x2 x3 x4 M → W p l e rX4_moved s m args below meth c H locs 0 0 Q (F0 m 22 ls []))), ∀ (n : Nat) (x2 : Int32) (x3 : Int32) (x4 : Int32) (x5 : Int32) (M : MS) (H : Heap) (locs : List Loc) (ls : Array Slot), va_P D vwCl (mo cA m0 ad M) H → va_S (mF m0 ad) s.heap H locs → lv_has ls 6 [(0, .ref m0), (1, .int a1), (2, .int x2), (3, .int x3), (4, .int x4), (5, .int x5)] → w4_moved_l90 a1 k22 Post n x2 x3 x4 x5 M → W p l e rX4_moved s m args below meth c H locs 0 0 Q (F0 m 90 ls []) := by
    intro k22 K22
    intro n
    induction n with
    | zero => intro x2 x3 x4 x5 M H locs ls hP hS hl h; rw [w4_moved_l90] at h; exact h.elim
    | succ n ih =>
      intro x2 x3 x4 x5 M H locs ls hP hS hl h
      rw [w4_moved_l90] at h
      refine lv_iload hx hb dX4_moved_90 (lv_at hl 5 rfl) ?_
      refine lv_iload_n hx hb dX4_moved_92 rfl (lv_at hl 2 rfl) ?_
      refine lv_icmp_ge (tgt := 149) hx hb dX4_moved_93 (by decide) (fun c_15 => ?_) (fun c_15 => ?_)
      · replace h := h.1 c_15
        refine lv_aload_n hx hb dX4_moved_149 rfl (lv_at hl 0 rfl) ?_
        refine mg_r S hK hP (k := 61) (by decide) (by decide) q1481 dX4_moved_150 ?_
        refine lv_iload_n hx hb dX4_moved_153 rfl (lv_at hl 2 rfl) ?_
        obtain ⟨hi, h⟩ := h
        refine ml_a S hK hP (k := 61) af_61 rfl hi dX4_moved_154 ?_
        refine lv_iload_n hx hb dX4_moved_155 rfl (lv_at hl 3 rfl) ?_
        refine lv_icmp_le (tgt := 168) hx hb dX4_moved_156 (by decide) (fun c_16 => ?_) (fun c_16 => ?_)
        · replace h := h.1 c_16
          refine lv_iload_n hx hb dX4_moved_168 rfl (lv_at hl 3 rfl) ?_
          exact C169 _ K22 _ _ _ _ _ _ _ hP hS (lv_sub hl [0, 1, 2, 4] rfl) h
        · replace h := h.2 c_16
          refine lv_aload_n hx hb dX4_moved_159 rfl (lv_at hl 0 rfl) ?_
          refine mg_r S hK hP (k := 61) (by decide) (by decide) q1481 dX4_moved_160 ?_
          refine lv_iload_n hx hb dX4_moved_163 rfl (lv_at hl 2 rfl) ?_
          obtain ⟨hi, h⟩ := h
          refine ml_a S hK hP (k := 61) af_61 rfl hi dX4_moved_164 ?_
          refine lv_goto (tgt := 169) hx hb dX4_moved_165 (by decide) ?_
          exact C169 _ K22 _ _ _ _ _ _ _ hP hS (lv_sub hl [0, 1, 2, 4] rfl) h
      · replace h := h.2 c_15
        refine lv_aload_n hx hb dX4_moved_96 rfl (lv_at hl 0 rfl) ?_
        refine mg_r S hK hP (k := 60) (by decide) (by decide) q1480 dX4_moved_97 ?_
        refine lv_iload hx hb dX4_moved_100 (lv_at hl 5 rfl) ?_
        obtain ⟨hi, h⟩ := h
        refine ml_a S hK hP (k := 60) af_60 rfl hi dX4_moved_102 ?_
        refine lv_aload_n hx hb dX4_moved_103 rfl (lv_at hl 0 rfl) ?_
        refine mg_r S hK hP (k := 60) (by decide) (by decide) q1480 dX4_moved_104 ?_
        refine lv_iload_n hx hb dX4_moved_107 rfl (lv_at hl 2 rfl) ?_
        obtain ⟨hi, h⟩ := h
        refine ml_a S hK hP (k := 60) af_60 rfl hi dX4_moved_108 ?_
        refine lv_icmp_gt (tgt := 143) hx hb dX4_moved_109 (by decide) (fun c_18 => ?_) (fun c_18 => ?_)
        · replace h := h.1 c_18
          exact C143 _ K22 _ ih _ _ _ _ _ _ _ _ hP hS (lv_sub hl [0, 1, 2, 3, 4, 5] rfl) h
        · replace h := h.2 c_18
          refine lv_aload_n hx hb dX4_moved_112 rfl (lv_at hl 0 rfl) ?_
          refine mg_r S hK hP (k := 61) (by decide) (by decide) q1481 dX4_moved_113 ?_
          refine lv_iload hx hb dX4_moved_116 (lv_at hl 5 rfl) ?_
          obtain ⟨hi, h⟩ := h
          refine ml_a S hK hP (k := 61) af_61 rfl hi dX4_moved_118 ?_
          refine lv_aload_n hx hb dX4_moved_119 rfl (lv_at hl 0 rfl) ?_
          refine mg_r S hK hP (k := 61) (by decide) (by decide) q1481 dX4_moved_120 ?_
          refine lv_iload_n hx hb dX4_moved_123 rfl (lv_at hl 2 rfl) ?_
          obtain ⟨hi, h⟩ := h
          refine ml_a S hK hP (k := 61) af_61 rfl hi dX4_moved_124 ?_
          refine lv_icmp_lt (tgt := 143) hx hb dX4_moved_125 (by decide) (fun c_20 => ?_) (fun c_20 => ?_)
          · replace h := h.1 c_20
            exact C143 _ K22 _ ih _ _ _ _ _ _ _ _ hP hS (lv_sub hl [0, 1, 2, 3, 4, 5] rfl) h
          · replace h := h.2 c_20
            refine lv_aload_n hx hb dX4_moved_128 rfl (lv_at hl 0 rfl) ?_
            refine mg_r S hK hP (k := 61) (by decide) (by decide) q1481 dX4_moved_129 ?_
            refine lv_iload_n hx hb dX4_moved_132 rfl (lv_at hl 2 rfl) ?_
            refine lv_aload_n hx hb dX4_moved_133 rfl (lv_at hl 0 rfl) ?_
            refine mg_r S hK hP (k := 61) (by decide) (by decide) q1481 dX4_moved_134 ?_
            refine lv_iload hx hb dX4_moved_137 (lv_at hl 5 rfl) ?_
            obtain ⟨hi, h⟩ := h
            refine ml_a S hK hP (k := 61) af_61 rfl hi dX4_moved_139 ?_
            refine lv_iconst hx hb dX4_moved_140 kc_1 ?_
            refine lv_iadd hx hb dX4_moved_141 ?_
            obtain ⟨hi, h⟩ := h
            refine ms_a S hK hA hP hS (k := 61) af_61 rfl hi dX4_moved_142 (fun M_21 H locs e_M_21 hP hS => ?_)
            replace h := h M_21 e_M_21
            exact C143 _ K22 _ ih _ _ _ _ _ _ _ _ hP hS (lv_sub hl [0, 1, 2, 3, 4, 5] rfl) h
  have L22 : ∀ (n : Nat) (x2 : Int32) (x3 : Int32) (x4 : Int32) (M : MS) (H : Heap) (locs : List Loc) (ls : Array Slot), va_P D vwCl (mo cA m0 ad M) H → va_S (mF m0 ad) s.heap H locs → lv_has ls 6 [(0, .ref m0), (1, .int a1), (2, .int x2), (3, .int x3), (4, .int x4)] → w4_moved_l22 a1 Post n x2 x3 x4 M → W p l e rX4_moved s m args below meth c H locs 0 0 Q (F0 m 22 ls []) := by
    intro n
    induction n with
    | zero => intro x2 x3 x4 M H locs ls hP hS hl h; rw [w4_moved_l22] at h; exact h.elim
    | succ n ih =>
      intro x2 x3 x4 M H locs ls hP hS hl h
      rw [w4_moved_l22] at h
      refine lv_iload hx hb dX4_moved_22 (lv_at hl 4 rfl) ?_
      refine lv_aload_n hx hb dX4_moved_24 rfl (lv_at hl 0 rfl) ?_
      refine mg_i S hK hP (k := 14) (by decide) (by decide) q1434 dX4_moved_25 ?_
      refine lv_icmp_ge (tgt := 179) hx hb dX4_moved_28 (by decide) (fun c_5 => ?_) (fun c_5 => ?_)
      · replace h := h.1 c_5
        refine lv_iload_n hx hb dX4_moved_179 rfl (lv_at hl 2 rfl) ?_
        refine lv_iload_n hx hb dX4_moved_180 rfl (lv_at hl 3 rfl) ?_
        refine lv_isub hx hb dX4_moved_181 ?_
        exact hret _ _ _ _ _ _ hP hS h rfl dX4_moved_182
      · replace h := h.2 c_5
        refine lv_aload_n hx hb dX4_moved_31 rfl (lv_at hl 0 rfl) ?_
        refine mg_r S hK hP (k := 36) (by decide) (by decide) q1456 dX4_moved_32 ?_
        refine lv_iload hx hb dX4_moved_35 (lv_at hl 4 rfl) ?_
        obtain ⟨hi, h⟩ := h
        refine ml_a S hK hP (k := 36) af_36 rfl hi dX4_moved_37 ?_
        refine lv_iload_n hx hb dX4_moved_38 rfl (lv_at hl 1 rfl) ?_
        refine lv_icmp_ne (tgt := 173) hx hb dX4_moved_39 (by decide) (fun c_6 => ?_) (fun c_6 => ?_)
        · replace h := h.2 c_6
          exact C173 _ ih _ _ _ _ _ _ _ hP hS (lv_sub hl [0, 1, 2, 3, 4] rfl) h
        · replace h := h.1 c_6
          refine lv_aload_n hx hb dX4_moved_42 rfl (lv_at hl 0 rfl) ?_
          refine lv_iload hx hb dX4_moved_43 (lv_at hl 4 rfl) ?_
          refine mc_i S hK hP hS (As := [.int x4]) (rest := []) (mt4_pageIs l hA x4 M _ h) (cwV 1 S.2.2.2.2 (lw_V q1886 q1888 qs110 q145 q1889) rfl rfl rfl cdX4_pageIs ⟨Nat.le_of_ble_eq_true rfl, Nat.le_of_ble_eq_true rfl⟩) rfl rfl hl.1 (Nat.le_of_ble_eq_true rfl) dX4_moved_45 ⟨Nat.le_refl _, Nat.le_refl _⟩ (fun r_9 M_8 H locs h hP hS => ?_)
          refine lv_iconst hx hb dX4_moved_48 kc_1 ?_
          refine lv_icmp_le (tgt := 55) hx hb dX4_moved_49 (by decide) (fun c_10 => ?_) (fun c_10 => ?_)
          · replace h := h.1 c_10
            refine lv_aload_n hx hb dX4_moved_55 rfl (lv_at hl 0 rfl) ?_
            refine mg_r S hK hP (k := 60) (by decide) (by decide) q1480 dX4_moved_56 ?_
            refine lv_iload_n hx hb dX4_moved_59 rfl (lv_at hl 2 rfl) ?_
            refine lv_aload_n hx hb dX4_moved_60 rfl (lv_at hl 0 rfl) ?_
            refine lv_iload_n hx hb dX4_moved_61 rfl (lv_at hl 1 rfl) ?_
            refine lv_aload_n hx hb dX4_moved_62 rfl (lv_at hl 0 rfl) ?_
            refine mg_r S hK hP (k := 37) (by decide) (by decide) q1457 dX4_moved_63 ?_
            refine lv_iload hx hb dX4_moved_66 (lv_at hl 4 rfl) ?_
            obtain ⟨hi, h⟩ := h
            refine ml_a S hK hP (k := 37) af_37 rfl hi dX4_moved_68 ?_
            refine lv_aload_n hx hb dX4_moved_69 rfl (lv_at hl 0 rfl) ?_
            refine mg_r S hK hP (k := 38) (by decide) (by decide) q1458 dX4_moved_70 ?_
            refine lv_iload hx hb dX4_moved_73 (lv_at hl 4 rfl) ?_
            obtain ⟨hi, h⟩ := h
            refine ml_a S hK hP (k := 38) af_38 rfl hi dX4_moved_75 ?_
            refine mc_i S hK hP hS (As := [.int a1, .int (ma M_8 37 (Int32.toNatClampNeg x4)), .int (ma M_8 38 (Int32.toNatClampNeg x4))]) (rest := [.int x2, .ref (ad 60)]) (mt4_firstSaid l hA a1 (ma M_8 37 (Int32.toNatClampNeg x4)) (ma M_8 38 (Int32.toNatClampNeg x4)) M_8 _ h) (cwV 3 S.2.2.2.2 (lw_V q1894 q1896 qs112 q145 q1897) rfl rfl rfl cdX4_firstSaid ⟨Nat.le_of_ble_eq_true rfl, Nat.le_of_ble_eq_true rfl⟩) rfl rfl hl.1 (Nat.le_of_ble_eq_true rfl) dX4_moved_76 ⟨Nat.le_refl _, Nat.le_refl _⟩ (fun r_12 M_11 H locs h hP hS => ?_)
            obtain ⟨hi, h⟩ := h
            refine ms_a S hK hA hP hS (k := 60) af_60 rfl hi dX4_moved_79 (fun M_13 H locs e_M_13 hP hS => ?_)
            replace h := h M_13 e_M_13
            refine lv_aload_n hx hb dX4_moved_80 rfl (lv_at hl 0 rfl) ?_
            refine mg_r S hK hP (k := 61) (by decide) (by decide) q1481 dX4_moved_81 ?_
            refine lv_iload_n hx hb dX4_moved_84 rfl (lv_at hl 2 rfl) ?_
            refine lv_iconst hx hb dX4_moved_85 kc_1 ?_
            obtain ⟨hi, h⟩ := h
            refine ms_a S hK hA hP hS (k := 61) af_61 rfl hi dX4_moved_86 (fun M_14 H locs e_M_14 hP hS => ?_)
            replace h := h M_14 e_M_14
            refine lv_iconst hx hb dX4_moved_87 kc_0 ?_
            refine lv_istore (lv' := [(5, .int (0 : Int32)), (0, .ref m0), (1, .int a1), (2, .int x2), (3, .int x3), (4, .int x4)]) hx hb dX4_moved_88 hl (by decide) rfl (fun ls hl => ?_)
            obtain ⟨f, h⟩ := h
            exact L90 _ ih f _ _ _ _ _ _ _ _ hP hS (lv_sub hl [1, 2, 3, 4, 5, 0] rfl) h
          · replace h := h.2 c_10
            refine lv_goto (tgt := 173) hx hb dX4_moved_52 (by decide) ?_
            exact C173 _ ih _ _ _ _ _ _ _ hP hS (lv_sub hl [0, 1, 2, 3, 4] rfl) h
  unfold w4_moved at h
  refine lv_aload_n hx hb dX4_moved_0 rfl (lv_at hl 0 rfl) ?_
  refine lv_iconst hx hb dX4_moved_1 kc_0 ?_
  refine mp_i S hK hA hP hS (k := 2) (by decide) (Or.inl rfl) rfl (Or.inl ⟨rfl, rfl⟩) q1422 dX4_moved_2 (fun M_1 H locs e_M_1 hP hS => ?_)
  replace h := h M_1 e_M_1
  refine lv_aload_n hx hb dX4_moved_5 rfl (lv_at hl 0 rfl) ?_
  refine lv_iload_n hx hb dX4_moved_6 rfl (lv_at hl 1 rfl) ?_
  refine mc_i S hK hP hS (As := [.int a1]) (rest := []) (mt4_isTeller l hA a1 M_1 _ h) (cwV 1 S.2.2.2.2 (lw_V q1771 q1773 qs95 q145 q1774) rfl rfl rfl cdX4_isTeller ⟨Nat.le_of_ble_eq_true rfl, Nat.le_of_ble_eq_true rfl⟩) rfl rfl hl.1 (Nat.le_of_ble_eq_true rfl) dX4_moved_7 ⟨Nat.le_refl _, Nat.le_refl _⟩ (fun r_3 M_2 H locs h hP hS => ?_)
  refine lv_if_ne (tgt := 15) hx hb dX4_moved_10 (by decide) (fun c_4 => ?_) (fun c_4 => ?_)
  · replace h := h.2 c_4
    refine lv_iconst hx hb dX4_moved_15 kc_0 ?_
    refine lv_istore_n (lv' := [(2, .int (0 : Int32)), (0, .ref m0), (1, .int a1)]) hx hb dX4_moved_16 rfl hl (by decide) rfl (fun ls hl => ?_)
    refine lv_iconst hx hb dX4_moved_17 kc_0 ?_
    refine lv_istore_n (lv' := [(3, .int (0 : Int32)), (2, .int (0 : Int32)), (0, .ref m0), (1, .int a1)]) hx hb dX4_moved_18 rfl hl (by decide) rfl (fun ls hl => ?_)
    refine lv_iconst hx hb dX4_moved_19 kc_0 ?_
    refine lv_istore (lv' := [(4, .int (0 : Int32)), (3, .int (0 : Int32)), (2, .int (0 : Int32)), (0, .ref m0), (1, .int a1)]) hx hb dX4_moved_20 hl (by decide) rfl (fun ls hl => ?_)
    obtain ⟨f, h⟩ := h
    exact L22 f _ _ _ _ _ _ _ hP hS (lv_sub hl [3, 4, 2, 1, 0] rfl) h
  · replace h := h.1 c_4
    refine lv_iconst hx hb dX4_moved_13 kc_m1 ?_
    exact hret _ _ _ _ _ _ hP hS h rfl dX4_moved_14
def w4_storyOf (a1 : Int32) (a2 : Int32) (M : MS) (Post : Int32 → MS → Prop) : Prop := w4_latestWord a1 a2 M (fun r_2 M_1 => (0 ≤ r_2 → ((vp_in r_2 (mN 35) ∧ Post (ma M_1 35 (Int32.toNatClampNeg r_2)) M_1))) ∧ (¬ (0 ≤ r_2) → (Post (-1 : Int32) M_1)))
abbrev rX4_storyOf : Room := { frames := 4, cells := 0, slots := 0, locals := 89 }
theorem cdX4_storyOf : yX4_storyOf.cls = RX4 ∧ yX4_storyOf.cls ≠ "java/lang/invoke/MethodHandle" ∧ yX4_storyOf.cls ≠ "java/lang/invoke/VarHandle" ∧ (parseMethodDescriptor yX4_storyOf.desc).map (fun d => d.parameters.length) = some 2 := by decide +kernel
set_option maxHeartbeats 4000000 in
set_option maxRecDepth 100000 in
theorem mt4_storyOf (l : Launch) {D : va_G} {cA : Nat → ClassId} {m0 : Nat} {ad : Nat → Nat} (hA : mAd m0 ad) (a1 : Int32) (a2 : Int32) (M : MS) (Post : Int32 → MS → Prop) (h : w4_storyOf a1 a2 M Post) : Met l yX4_storyOf (ws_ yX4_storyOf cX4_storyOf 4 (some .int)) rX4_storyOf (mPc [.ref m0, .int a1, .int a2] D cA m0 ad M) (va_Qi Post (mB D cA m0 ad) (mF m0 ad)) 0 0 (mF m0 ad) := by
  refine mst_i (own := RX4) (by decide) rfl (Nat.le_of_ble_eq_true rfl) ?_
  intro p e s m args below meth c Q ls S hK hP hS hl hret
  have hx := S.1
  have hb := S.2.1
  have hl : lv_has ls 4 [(0, .ref m0), (1, .int a1), (2, .int a2)] := hl
  unfold w4_storyOf at h
  refine lv_aload_n hx hb dX4_storyOf_0 rfl (lv_at hl 0 rfl) ?_
  refine lv_iload_n hx hb dX4_storyOf_1 rfl (lv_at hl 1 rfl) ?_
  refine lv_iload_n hx hb dX4_storyOf_2 rfl (lv_at hl 2 rfl) ?_
  refine mc_i S hK hP hS (As := [.int a1, .int a2]) (rest := []) (mt4_latestWord l hA a1 a2 M _ h) (cwV 2 S.2.2.2.2 (lw_V q1890 q1892 qs111 q145 q1893) rfl rfl rfl cdX4_latestWord ⟨Nat.le_of_ble_eq_true rfl, Nat.le_of_ble_eq_true rfl⟩) rfl rfl hl.1 (Nat.le_of_ble_eq_true rfl) dX4_storyOf_3 ⟨Nat.le_refl _, Nat.le_refl _⟩ (fun r_2 M_1 H locs h hP hS => ?_)
  refine lv_istore_n (lv' := [(3, .int r_2), (0, .ref m0), (1, .int a1), (2, .int a2)]) hx hb dX4_storyOf_6 rfl hl (by decide) rfl (fun ls hl => ?_)
  refine lv_iload_n hx hb dX4_storyOf_7 rfl (lv_at hl 0 rfl) ?_
  refine lv_if_ge (tgt := 15) hx hb dX4_storyOf_8 (by decide) (fun c_3 => ?_) (fun c_3 => ?_)
  · replace h := h.1 c_3
    refine lv_aload_n hx hb dX4_storyOf_15 rfl (lv_at hl 1 rfl) ?_
    refine mg_r S hK hP (k := 35) (by decide) (by decide) q1455 dX4_storyOf_16 ?_
    refine lv_iload_n hx hb dX4_storyOf_19 rfl (lv_at hl 0 rfl) ?_
    obtain ⟨hi, h⟩ := h
    refine ml_a S hK hP (k := 35) af_35 rfl hi dX4_storyOf_20 ?_
    exact hret _ _ _ _ _ _ hP hS h rfl dX4_storyOf_21
  · replace h := h.2 c_3
    refine lv_iconst hx hb dX4_storyOf_11 kc_m1 ?_
    refine lv_goto (tgt := 21) hx hb dX4_storyOf_12 (by decide) ?_
    exact hret _ _ _ _ _ _ hP hS h rfl dX4_storyOf_21
def w4_story (a1 : Int32) (a2 : Int32) (M : MS) (Post : Int32 → MS → Prop) : Prop := ∀ M_1 : MS, M_1 = si M 2 (0 : Int32) → w4_isTeller a1 M_1 (fun r_3 M_2 => (r_3 = 0 → (Post (-2 : Int32) M_2)) ∧ (¬ (r_3 = 0) → (w4_isThing a2 M_2 (fun r_6 M_5 => (r_6 = 0 → (Post (-2 : Int32) M_5)) ∧ (¬ (r_6 = 0) → (w4_storyOf a1 a2 M_5 (fun r_9 M_8 => Post r_9 M_8)))))))
abbrev rX4_story : Room := { frames := 5, cells := 0, slots := 0, locals := 112 }
theorem cdX4_story : yX4_story.cls = RX4 ∧ yX4_story.cls ≠ "java/lang/invoke/MethodHandle" ∧ yX4_story.cls ≠ "java/lang/invoke/VarHandle" ∧ (parseMethodDescriptor yX4_story.desc).map (fun d => d.parameters.length) = some 2 := by decide +kernel
set_option maxHeartbeats 4000000 in
set_option maxRecDepth 100000 in
theorem mt4_story (l : Launch) {D : va_G} {cA : Nat → ClassId} {m0 : Nat} {ad : Nat → Nat} (hA : mAd m0 ad) (a1 : Int32) (a2 : Int32) (M : MS) (Post : Int32 → MS → Prop) (h : w4_story a1 a2 M Post) : Met l yX4_story (ws_ yX4_story cX4_story 3 (some .int)) rX4_story (mPc [.ref m0, .int a1, .int a2] D cA m0 ad M) (va_Qi Post (mB D cA m0 ad) (mF m0 ad)) 0 0 (mF m0 ad) := by
  refine mst_i (own := RX4) (by decide) rfl (Nat.le_of_ble_eq_true rfl) ?_
  intro p e s m args below meth c Q ls S hK hP hS hl hret
  have hx := S.1
  have hb := S.2.1
  have hl : lv_has ls 3 [(0, .ref m0), (1, .int a1), (2, .int a2)] := hl
  unfold w4_story at h
  refine lv_aload_n hx hb dX4_story_0 rfl (lv_at hl 0 rfl) ?_
  refine lv_iconst hx hb dX4_story_1 kc_0 ?_
  refine mp_i S hK hA hP hS (k := 2) (by decide) (Or.inl rfl) rfl (Or.inl ⟨rfl, rfl⟩) q1422 dX4_story_2 (fun M_1 H locs e_M_1 hP hS => ?_)
  replace h := h M_1 e_M_1
  refine lv_aload_n hx hb dX4_story_5 rfl (lv_at hl 0 rfl) ?_
  refine lv_iload_n hx hb dX4_story_6 rfl (lv_at hl 1 rfl) ?_
  refine mc_i S hK hP hS (As := [.int a1]) (rest := []) (mt4_isTeller l hA a1 M_1 _ h) (cwV 1 S.2.2.2.2 (lw_V q1771 q1773 qs95 q145 q1774) rfl rfl rfl cdX4_isTeller ⟨Nat.le_of_ble_eq_true rfl, Nat.le_of_ble_eq_true rfl⟩) rfl rfl hl.1 (Nat.le_of_ble_eq_true rfl) dX4_story_7 ⟨Nat.le_refl _, Nat.le_refl _⟩ (fun r_3 M_2 H locs h hP hS => ?_)
  refine lv_if_eq (tgt := 30) hx hb dX4_story_10 (by decide) (fun c_4 => ?_) (fun c_4 => ?_)
  · replace h := h.1 c_4
    refine lv_bipush hx hb dX4_story_30 kb_m2 ?_
    exact hret _ _ _ _ _ _ hP hS h rfl dX4_story_32
  · replace h := h.2 c_4
    refine lv_aload_n hx hb dX4_story_13 rfl (lv_at hl 0 rfl) ?_
    refine lv_iload_n hx hb dX4_story_14 rfl (lv_at hl 2 rfl) ?_
    refine mc_i S hK hP hS (As := [.int a2]) (rest := []) (mt4_isThing l hA a2 M_2 _ h) (cwV 1 S.2.2.2.2 (lw_V q1759 q1761 qs93 q145 q1762) rfl rfl rfl cdX4_isThing ⟨Nat.le_of_ble_eq_true rfl, Nat.le_of_ble_eq_true rfl⟩) rfl rfl hl.1 (Nat.le_of_ble_eq_true rfl) dX4_story_15 ⟨Nat.le_refl _, Nat.le_refl _⟩ (fun r_6 M_5 H locs h hP hS => ?_)
    refine lv_if_eq (tgt := 30) hx hb dX4_story_18 (by decide) (fun c_7 => ?_) (fun c_7 => ?_)
    · replace h := h.1 c_7
      refine lv_bipush hx hb dX4_story_30 kb_m2 ?_
      exact hret _ _ _ _ _ _ hP hS h rfl dX4_story_32
    · replace h := h.2 c_7
      refine lv_aload_n hx hb dX4_story_21 rfl (lv_at hl 0 rfl) ?_
      refine lv_iload_n hx hb dX4_story_22 rfl (lv_at hl 1 rfl) ?_
      refine lv_iload_n hx hb dX4_story_23 rfl (lv_at hl 2 rfl) ?_
      refine mc_i S hK hP hS (As := [.int a1, .int a2]) (rest := []) (mt4_storyOf l hA a1 a2 M_5 _ h) (cwV 2 S.2.2.2.2 (lw_V q1914 q1916 qs114 q145 q1917) rfl rfl rfl cdX4_storyOf ⟨Nat.le_of_ble_eq_true rfl, Nat.le_of_ble_eq_true rfl⟩) rfl rfl hl.1 (Nat.le_of_ble_eq_true rfl) dX4_story_24 ⟨Nat.le_refl _, Nat.le_refl _⟩ (fun r_9 M_8 H locs h hP hS => ?_)
      refine lv_goto (tgt := 32) hx hb dX4_story_27 (by decide) ?_
      exact hret _ _ _ _ _ _ hP hS h rfl dX4_story_32
def w4_clashes_c55 (a1 : Int32) (a2 : Int32) (k5 : Int32 → Int32 → MS → Prop) (Post : Int32 → MS → Prop) (x4 : Int32) (t0 : Int32) (t1 : Int32) (M : MS) : Prop := ∀ v_7 : Int32, v_7 = t1 + t0 → ∀ v_8 : Int32, v_8 = x4 + (1 : Int32) → k5 v_7 v_8 M
def w4_clashes_c54 (a1 : Int32) (a2 : Int32) (k5 : Int32 → Int32 → MS → Prop) (Post : Int32 → MS → Prop) (x4 : Int32) (t0 : Int32) (M : MS) : Prop := w4_clashes_c55 a1 a2 k5 Post x4 (0 : Int32) t0 M
def w4_clashes_l5 (a1 : Int32) (a2 : Int32) (Post : Int32 → MS → Prop) : Nat → Int32 → Int32 → MS → Prop
  | 0, _, _, _ => False
  | n + 1, x3, x4, M => ((mi M 11) ≤ x4 → (Post x3 M)) ∧ (¬ ((mi M 11) ≤ x4) → (w4_storyOf a1 x4 M (fun r_3 M_2 => w4_storyOf a2 x4 M_2 (fun r_5 M_4 => (r_3 < 0 → (w4_clashes_c54 a1 a2 (w4_clashes_l5 a1 a2 Post n) Post x4 x3 M_4)) ∧ (¬ (r_3 < 0) → ((r_5 < 0 → (w4_clashes_c54 a1 a2 (w4_clashes_l5 a1 a2 Post n) Post x4 x3 M_4)) ∧ (¬ (r_5 < 0) → ((r_3 = r_5 → (w4_clashes_c54 a1 a2 (w4_clashes_l5 a1 a2 Post n) Post x4 x3 M_4)) ∧ (¬ (r_3 = r_5) → (w4_clashes_c55 a1 a2 (w4_clashes_l5 a1 a2 Post n) Post x4 (1 : Int32) x3 M_4))))))))))
def w4_clashes (a1 : Int32) (a2 : Int32) (M : MS) (Post : Int32 → MS → Prop) : Prop := ∃ f, w4_clashes_l5 a1 a2 Post f (0 : Int32) (0 : Int32) M
abbrev rX4_clashes : Room := { frames := 5, cells := 0, slots := 0, locals := 112 }
theorem cdX4_clashes : yX4_clashes.cls = RX4 ∧ yX4_clashes.cls ≠ "java/lang/invoke/MethodHandle" ∧ yX4_clashes.cls ≠ "java/lang/invoke/VarHandle" ∧ (parseMethodDescriptor yX4_clashes.desc).map (fun d => d.parameters.length) = some 2 := by decide +kernel
set_option maxHeartbeats 4000000 in
set_option maxRecDepth 100000 in
theorem mt4_clashes (l : Launch) {D : va_G} {cA : Nat → ClassId} {m0 : Nat} {ad : Nat → Nat} (hA : mAd m0 ad) (a1 : Int32) (a2 : Int32) (M : MS) (Post : Int32 → MS → Prop) (h : w4_clashes a1 a2 M Post) : Met l yX4_clashes (ws_ yX4_clashes cX4_clashes 7 (some .int)) rX4_clashes (mPc [.ref m0, .int a1, .int a2] D cA m0 ad M) (va_Qi Post (mB D cA m0 ad) (mF m0 ad)) 0 0 (mF m0 ad) := by
  refine mst_i (own := RX4) (by decide) rfl (Nat.le_of_ble_eq_true rfl) ?_
  intro p e s m args below meth c Q ls S hK hP hS hl hret
  have hx := S.1
  have hb := S.2.1
  have hl : lv_has ls 7 [(0, .ref m0), (1, .int a1), (2, .int a2)] := hl
  have C55 : ∀ (k5 : Int32 → Int32 → MS → Prop) (K5 : (∀ (x3 : Int32) (x4 : Int32) (M : MS) (H : Heap) (locs : List Loc) (ls : Array Slot), va_P D vwCl (mo cA m0 ad M) H → va_S (mF m0 ad) s.heap H locs → lv_has ls 7 [(0, .ref m0), (1, .int a1), (2, .int a2), (3, .int x3), (4, .int x4)] → k5 x3 x4 M → W p l e rX4_clashes s m args below meth c H locs 0 0 Q (F0 m 5 ls []))), ∀ (x4 : Int32) (t0 : Int32) (t1 : Int32) (M : MS) (H : Heap) (locs : List Loc) (ls : Array Slot), va_P D vwCl (mo cA m0 ad M) H → va_S (mF m0 ad) s.heap H locs → lv_has ls 7 [(0, .ref m0), (1, .int a1), (2, .int a2), (4, .int x4)] → w4_clashes_c55 a1 a2 k5 Post x4 t0 t1 M → W p l e rX4_clashes s m args below meth c H locs 0 0 Q (F0 m 55 ls [.int t0, .int t1]) := by
    intro k5 K5
    intro x4 t0 t1 M H locs ls hP hS hl h
    unfold w4_clashes_c55 at h
    refine lv_iadd hx hb dX4_clashes_55 ?_
    refine lv_topi (fun v_7 e_v_7 => ?_)
    replace h := h v_7 e_v_7
    refine lv_istore_n (lv' := [(3, .int v_7), (0, .ref m0), (1, .int a1), (2, .int a2), (4, .int x4)]) hx hb dX4_clashes_56 rfl hl (by decide) rfl (fun ls hl => ?_)
    obtain ⟨v_8, e_v_8⟩ : ∃ y : Int32, y = x4 + (1 : Int32) := ⟨_, rfl⟩
    replace h := h v_8 e_v_8
    refine lv_iinc (v := v_8) (lv' := [(4, .int v_8), (3, .int v_7), (0, .ref m0), (1, .int a1), (2, .int a2)]) hx hb dX4_clashes_57 hl (k := 4) rfl (by rw [kc_1, e_v_8]) (by decide) rfl (fun ls hl => ?_)
    refine lv_goto (tgt := 5) hx hb dX4_clashes_60 (by decide) ?_
    exact K5 _ _ _ _ _ _ hP hS (lv_sub hl [2, 3, 4, 1, 0] rfl) h
  have C54 : ∀ (k5 : Int32 → Int32 → MS → Prop) (K5 : (∀ (x3 : Int32) (x4 : Int32) (M : MS) (H : Heap) (locs : List Loc) (ls : Array Slot), va_P D vwCl (mo cA m0 ad M) H → va_S (mF m0 ad) s.heap H locs → lv_has ls 7 [(0, .ref m0), (1, .int a1), (2, .int a2), (3, .int x3), (4, .int x4)] → k5 x3 x4 M → W p l e rX4_clashes s m args below meth c H locs 0 0 Q (F0 m 5 ls []))), ∀ (x4 : Int32) (t0 : Int32) (M : MS) (H : Heap) (locs : List Loc) (ls : Array Slot), va_P D vwCl (mo cA m0 ad M) H → va_S (mF m0 ad) s.heap H locs → lv_has ls 7 [(0, .ref m0), (1, .int a1), (2, .int a2), (4, .int x4)] → w4_clashes_c54 a1 a2 k5 Post x4 t0 M → W p l e rX4_clashes s m args below meth c H locs 0 0 Q (F0 m 54 ls [.int t0]) := by
    intro k5 K5
    intro x4 t0 M H locs ls hP hS hl h
    unfold w4_clashes_c54 at h
    refine lv_iconst hx hb dX4_clashes_54 kc_0 ?_
    exact C55 _ K5 _ _ _ _ _ _ _ hP hS (lv_sub hl [0, 1, 2, 3] rfl) h
  have L5 : ∀ (n : Nat) (x3 : Int32) (x4 : Int32) (M : MS) (H : Heap) (locs : List Loc) (ls : Array Slot), va_P D vwCl (mo cA m0 ad M) H → va_S (mF m0 ad) s.heap H locs → lv_has ls 7 [(0, .ref m0), (1, .int a1), (2, .int a2), (3, .int x3), (4, .int x4)] → w4_clashes_l5 a1 a2 Post n x3 x4 M → W p l e rX4_clashes s m args below meth c H locs 0 0 Q (F0 m 5 ls []) := by
    intro n
    induction n with
    | zero => intro x3 x4 M H locs ls hP hS hl h; rw [w4_clashes_l5] at h; exact h.elim
    | succ n ih =>
      intro x3 x4 M H locs ls hP hS hl h
      rw [w4_clashes_l5] at h
      refine lv_iload hx hb dX4_clashes_5 (lv_at hl 4 rfl) ?_
      refine lv_aload_n hx hb dX4_clashes_7 rfl (lv_at hl 0 rfl) ?_
      refine mg_i S hK hP (k := 11) (by decide) (by decide) q1431 dX4_clashes_8 ?_
      refine lv_icmp_ge (tgt := 63) hx hb dX4_clashes_11 (by decide) (fun c_1 => ?_) (fun c_1 => ?_)
      · replace h := h.1 c_1
        refine lv_iload_n hx hb dX4_clashes_63 rfl (lv_at hl 3 rfl) ?_
        exact hret _ _ _ _ _ _ hP hS h rfl dX4_clashes_64
      · replace h := h.2 c_1
        refine lv_aload_n hx hb dX4_clashes_14 rfl (lv_at hl 0 rfl) ?_
        refine lv_iload_n hx hb dX4_clashes_15 rfl (lv_at hl 1 rfl) ?_
        refine lv_iload hx hb dX4_clashes_16 (lv_at hl 4 rfl) ?_
        refine mc_i S hK hP hS (As := [.int a1, .int x4]) (rest := []) (mt4_storyOf l hA a1 x4 M _ h) (cwV 2 S.2.2.2.2 (lw_V q1914 q1916 qs114 q145 q1917) rfl rfl rfl cdX4_storyOf ⟨Nat.le_of_ble_eq_true rfl, Nat.le_of_ble_eq_true rfl⟩) rfl rfl hl.1 (Nat.le_of_ble_eq_true rfl) dX4_clashes_18 ⟨Nat.le_refl _, Nat.le_refl _⟩ (fun r_3 M_2 H locs h hP hS => ?_)
        refine lv_istore (lv' := [(5, .int r_3), (0, .ref m0), (1, .int a1), (2, .int a2), (3, .int x3), (4, .int x4)]) hx hb dX4_clashes_21 hl (by decide) rfl (fun ls hl => ?_)
        refine lv_aload_n hx hb dX4_clashes_23 rfl (lv_at hl 1 rfl) ?_
        refine lv_iload_n hx hb dX4_clashes_24 rfl (lv_at hl 3 rfl) ?_
        refine lv_iload hx hb dX4_clashes_25 (lv_at hl 5 rfl) ?_
        refine mc_i S hK hP hS (As := [.int a2, .int x4]) (rest := []) (mt4_storyOf l hA a2 x4 M_2 _ h) (cwV 2 S.2.2.2.2 (lw_V q1914 q1916 qs114 q145 q1917) rfl rfl rfl cdX4_storyOf ⟨Nat.le_of_ble_eq_true rfl, Nat.le_of_ble_eq_true rfl⟩) rfl rfl hl.1 (Nat.le_of_ble_eq_true rfl) dX4_clashes_27 ⟨Nat.le_refl _, Nat.le_refl _⟩ (fun r_5 M_4 H locs h hP hS => ?_)
        refine lv_istore (lv' := [(6, .int r_5), (5, .int r_3), (0, .ref m0), (1, .int a1), (2, .int a2), (3, .int x3), (4, .int x4)]) hx hb dX4_clashes_30 hl (by decide) rfl (fun ls hl => ?_)
        refine lv_iload_n hx hb dX4_clashes_32 rfl (lv_at hl 5 rfl) ?_
        refine lv_iload hx hb dX4_clashes_33 (lv_at hl 1 rfl) ?_
        refine lv_if_lt (tgt := 54) hx hb dX4_clashes_35 (by decide) (fun c_6 => ?_) (fun c_6 => ?_)
        · replace h := h.1 c_6
          exact C54 _ ih _ _ _ _ _ _ hP hS (lv_sub hl [2, 3, 4, 6] rfl) h
        · replace h := h.2 c_6
          refine lv_iload hx hb dX4_clashes_38 (lv_at hl 0 rfl) ?_
          refine lv_if_lt (tgt := 54) hx hb dX4_clashes_40 (by decide) (fun c_9 => ?_) (fun c_9 => ?_)
          · replace h := h.1 c_9
            exact C54 _ ih _ _ _ _ _ _ hP hS (lv_sub hl [2, 3, 4, 6] rfl) h
          · replace h := h.2 c_9
            refine lv_iload hx hb dX4_clashes_43 (lv_at hl 1 rfl) ?_
            refine lv_iload hx hb dX4_clashes_45 (lv_at hl 0 rfl) ?_
            refine lv_icmp_eq (tgt := 54) hx hb dX4_clashes_47 (by decide) (fun c_10 => ?_) (fun c_10 => ?_)
            · replace h := h.1 c_10
              exact C54 _ ih _ _ _ _ _ _ hP hS (lv_sub hl [2, 3, 4, 6] rfl) h
            · replace h := h.2 c_10
              refine lv_iconst hx hb dX4_clashes_50 kc_1 ?_
              refine lv_goto (tgt := 55) hx hb dX4_clashes_51 (by decide) ?_
              exact C55 _ ih _ _ _ _ _ _ _ hP hS (lv_sub hl [2, 3, 4, 6] rfl) h
  unfold w4_clashes at h
  refine lv_iconst hx hb dX4_clashes_0 kc_0 ?_
  refine lv_istore_n (lv' := [(3, .int (0 : Int32)), (0, .ref m0), (1, .int a1), (2, .int a2)]) hx hb dX4_clashes_1 rfl hl (by decide) rfl (fun ls hl => ?_)
  refine lv_iconst hx hb dX4_clashes_2 kc_0 ?_
  refine lv_istore (lv' := [(4, .int (0 : Int32)), (3, .int (0 : Int32)), (0, .ref m0), (1, .int a1), (2, .int a2)]) hx hb dX4_clashes_3 hl (by decide) rfl (fun ls hl => ?_)
  obtain ⟨f, h⟩ := h
  exact L5 f _ _ _ _ _ _ hP hS (lv_sub hl [2, 3, 4, 1, 0] rfl) h
def w4_clash (a1 : Int32) (a2 : Int32) (M : MS) (Post : Int32 → MS → Prop) : Prop := ∀ M_1 : MS, M_1 = si M 2 (0 : Int32) → w4_isTeller a1 M_1 (fun r_3 M_2 => (r_3 = 0 → (Post (-1 : Int32) M_2)) ∧ (¬ (r_3 = 0) → (w4_isTeller a2 M_2 (fun r_6 M_5 => (r_6 = 0 → (Post (-1 : Int32) M_5)) ∧ (¬ (r_6 = 0) → ((a1 = a2 → (Post (-1 : Int32) M_5)) ∧ (¬ (a1 = a2) → (w4_clashes a1 a2 M_5 (fun r_10 M_9 => Post r_10 M_9)))))))))
abbrev rX4_clash : Room := { frames := 6, cells := 0, slots := 0, locals := 138 }
theorem cdX4_clash : yX4_clash.cls = RX4 ∧ yX4_clash.cls ≠ "java/lang/invoke/MethodHandle" ∧ yX4_clash.cls ≠ "java/lang/invoke/VarHandle" ∧ (parseMethodDescriptor yX4_clash.desc).map (fun d => d.parameters.length) = some 2 := by decide +kernel
set_option maxHeartbeats 4000000 in
set_option maxRecDepth 100000 in
theorem mt4_clash (l : Launch) {D : va_G} {cA : Nat → ClassId} {m0 : Nat} {ad : Nat → Nat} (hA : mAd m0 ad) (a1 : Int32) (a2 : Int32) (M : MS) (Post : Int32 → MS → Prop) (h : w4_clash a1 a2 M Post) : Met l yX4_clash (ws_ yX4_clash cX4_clash 3 (some .int)) rX4_clash (mPc [.ref m0, .int a1, .int a2] D cA m0 ad M) (va_Qi Post (mB D cA m0 ad) (mF m0 ad)) 0 0 (mF m0 ad) := by
  refine mst_i (own := RX4) (by decide) rfl (Nat.le_of_ble_eq_true rfl) ?_
  intro p e s m args below meth c Q ls S hK hP hS hl hret
  have hx := S.1
  have hb := S.2.1
  have hl : lv_has ls 3 [(0, .ref m0), (1, .int a1), (2, .int a2)] := hl
  unfold w4_clash at h
  refine lv_aload_n hx hb dX4_clash_0 rfl (lv_at hl 0 rfl) ?_
  refine lv_iconst hx hb dX4_clash_1 kc_0 ?_
  refine mp_i S hK hA hP hS (k := 2) (by decide) (Or.inl rfl) rfl (Or.inl ⟨rfl, rfl⟩) q1422 dX4_clash_2 (fun M_1 H locs e_M_1 hP hS => ?_)
  replace h := h M_1 e_M_1
  refine lv_aload_n hx hb dX4_clash_5 rfl (lv_at hl 0 rfl) ?_
  refine lv_iload_n hx hb dX4_clash_6 rfl (lv_at hl 1 rfl) ?_
  refine mc_i S hK hP hS (As := [.int a1]) (rest := []) (mt4_isTeller l hA a1 M_1 _ h) (cwV 1 S.2.2.2.2 (lw_V q1771 q1773 qs95 q145 q1774) rfl rfl rfl cdX4_isTeller ⟨Nat.le_of_ble_eq_true rfl, Nat.le_of_ble_eq_true rfl⟩) rfl rfl hl.1 (Nat.le_of_ble_eq_true rfl) dX4_clash_7 ⟨Nat.le_refl _, Nat.le_refl _⟩ (fun r_3 M_2 H locs h hP hS => ?_)
  refine lv_if_eq (tgt := 35) hx hb dX4_clash_10 (by decide) (fun c_4 => ?_) (fun c_4 => ?_)
  · replace h := h.1 c_4
    refine lv_iconst hx hb dX4_clash_35 kc_m1 ?_
    exact hret _ _ _ _ _ _ hP hS h rfl dX4_clash_36
  · replace h := h.2 c_4
    refine lv_aload_n hx hb dX4_clash_13 rfl (lv_at hl 0 rfl) ?_
    refine lv_iload_n hx hb dX4_clash_14 rfl (lv_at hl 2 rfl) ?_
    refine mc_i S hK hP hS (As := [.int a2]) (rest := []) (mt4_isTeller l hA a2 M_2 _ h) (cwV 1 S.2.2.2.2 (lw_V q1771 q1773 qs95 q145 q1774) rfl rfl rfl cdX4_isTeller ⟨Nat.le_of_ble_eq_true rfl, Nat.le_of_ble_eq_true rfl⟩) rfl rfl hl.1 (Nat.le_of_ble_eq_true rfl) dX4_clash_15 ⟨Nat.le_refl _, Nat.le_refl _⟩ (fun r_6 M_5 H locs h hP hS => ?_)
    refine lv_if_eq (tgt := 35) hx hb dX4_clash_18 (by decide) (fun c_7 => ?_) (fun c_7 => ?_)
    · replace h := h.1 c_7
      refine lv_iconst hx hb dX4_clash_35 kc_m1 ?_
      exact hret _ _ _ _ _ _ hP hS h rfl dX4_clash_36
    · replace h := h.2 c_7
      refine lv_iload_n hx hb dX4_clash_21 rfl (lv_at hl 1 rfl) ?_
      refine lv_iload_n hx hb dX4_clash_22 rfl (lv_at hl 2 rfl) ?_
      refine lv_icmp_eq (tgt := 35) hx hb dX4_clash_23 (by decide) (fun c_8 => ?_) (fun c_8 => ?_)
      · replace h := h.1 c_8
        refine lv_iconst hx hb dX4_clash_35 kc_m1 ?_
        exact hret _ _ _ _ _ _ hP hS h rfl dX4_clash_36
      · replace h := h.2 c_8
        refine lv_aload_n hx hb dX4_clash_26 rfl (lv_at hl 0 rfl) ?_
        refine lv_iload_n hx hb dX4_clash_27 rfl (lv_at hl 1 rfl) ?_
        refine lv_iload_n hx hb dX4_clash_28 rfl (lv_at hl 2 rfl) ?_
        refine mc_i S hK hP hS (As := [.int a1, .int a2]) (rest := []) (mt4_clashes l hA a1 a2 M_5 _ h) (cwV 2 S.2.2.2.2 (lw_V q1922 q1924 qs115 q145 q1925) rfl rfl rfl cdX4_clashes ⟨Nat.le_of_ble_eq_true rfl, Nat.le_of_ble_eq_true rfl⟩) rfl rfl hl.1 (Nat.le_of_ble_eq_true rfl) dX4_clash_29 ⟨Nat.le_refl _, Nat.le_refl _⟩ (fun r_10 M_9 H locs h hP hS => ?_)
        refine lv_goto (tgt := 36) hx hb dX4_clash_32 (by decide) ?_
        exact hret _ _ _ _ _ _ hP hS h rfl dX4_clash_36
def w4_isOf (a0 : Int32) (a1 : Int32) (Post : Int32 → Prop) : Prop := (((a0 >>> (a1 &&& (31 : Int32))) &&& (1 : Int32)) = (1 : Int32) → (Post (1 : Int32))) ∧ (¬ (((a0 >>> (a1 &&& (31 : Int32))) &&& (1 : Int32)) = (1 : Int32)) → (Post (0 : Int32)))
abbrev rX4_isOf : Room := { frames := 0, cells := 0, slots := 0, locals := 0 }
theorem cdX4_isOf : yX4_isOf.cls ≠ "java/lang/invoke/MethodHandle" ∧ yX4_isOf.cls ≠ "java/lang/invoke/VarHandle" ∧ (parseMethodDescriptor yX4_isOf.desc).map (fun d => d.parameters.length) = some 2 := by decide +kernel
set_option maxHeartbeats 4000000 in
set_option maxRecDepth 100000 in
theorem mt4_isOf (l : Launch) (a0 : Int32) (a1 : Int32) (Post : Int32 → Prop) (h : w4_isOf a0 a1 Post) : Met l yX4_isOf (ws_ yX4_isOf cX4_isOf 2 (some .boolean)) rX4_isOf (va_Pc [.int a0, .int a1] (fun _ => True)) (vp_Si Post) 0 0 (fun _ => False) := by
  refine sst_i (own := RX4) (by decide) rfl (Nat.le_of_ble_eq_true rfl) ?_
  intro p e s m args below meth c Q ls S hl hret
  have hx := S.1
  have hb := S.2.1
  have hl : lv_has ls 2 [(0, .int a0), (1, .int a1)] := hl
  unfold w4_isOf at h
  refine lv_iload_n hx hb dX4_isOf_0 rfl (lv_at hl 0 rfl) ?_
  refine lv_iload_n hx hb dX4_isOf_1 rfl (lv_at hl 1 rfl) ?_
  refine lv_ishr hx hb dX4_isOf_2 ?_
  refine lv_iconst hx hb dX4_isOf_3 kc_1 ?_
  refine lv_iand hx hb dX4_isOf_4 ?_
  refine lv_iconst hx hb dX4_isOf_5 kc_1 ?_
  refine lv_icmp_ne (tgt := 13) hx hb dX4_isOf_6 (by decide) (fun c_1 => ?_) (fun c_1 => ?_)
  · replace h := h.2 c_1
    refine lv_iconst hx hb dX4_isOf_13 kc_0 ?_
    exact hret _ _ _ h (vz_nar vz_0) dX4_isOf_14
  · replace h := h.1 c_1
    refine lv_iconst hx hb dX4_isOf_9 kc_1 ?_
    refine lv_goto (tgt := 14) hx hb dX4_isOf_10 (by decide) ?_
    exact hret _ _ _ h (vz_nar vz_1) dX4_isOf_14
def w4_many_l4 (a0 : Int32) (Post : Int32 → Prop) : Nat → Int32 → Int32 → Prop
  | 0, _, _ => False
  | n + 1, x1, x2 => ((16 : Int32) ≤ x2 → (Post x1)) ∧ (¬ ((16 : Int32) ≤ x2) → (∀ v_2 : Int32, v_2 = x1 + ((a0 >>> (x2 &&& (31 : Int32))) &&& (1 : Int32)) → ∀ v_3 : Int32, v_3 = x2 + (1 : Int32) → w4_many_l4 a0 Post n v_2 v_3))
def w4_many (a0 : Int32) (Post : Int32 → Prop) : Prop := ∃ f, w4_many_l4 a0 Post f (0 : Int32) (0 : Int32)
abbrev rX4_many : Room := { frames := 0, cells := 0, slots := 0, locals := 0 }
theorem cdX4_many : yX4_many.cls ≠ "java/lang/invoke/MethodHandle" ∧ yX4_many.cls ≠ "java/lang/invoke/VarHandle" ∧ (parseMethodDescriptor yX4_many.desc).map (fun d => d.parameters.length) = some 1 := by decide +kernel
set_option maxHeartbeats 4000000 in
set_option maxRecDepth 100000 in
theorem mt4_many (l : Launch) (a0 : Int32) (Post : Int32 → Prop) (h : w4_many a0 Post) : Met l yX4_many (ws_ yX4_many cX4_many 3 (some .int)) rX4_many (va_Pc [.int a0] (fun _ => True)) (vp_Si Post) 0 0 (fun _ => False) := by
  refine sst_i (own := RX4) (by decide) rfl (Nat.le_of_ble_eq_true rfl) ?_
  intro p e s m args below meth c Q ls S hl hret
  have hx := S.1
  have hb := S.2.1
  have hl : lv_has ls 3 [(0, .int a0)] := hl
  have L4 : ∀ (n : Nat) (x1 : Int32) (x2 : Int32) (ls : Array Slot), lv_has ls 3 [(0, .int a0), (1, .int x1), (2, .int x2)] → w4_many_l4 a0 Post n x1 x2 → W p l e rX4_many s m args below meth c s.heap [] 0 0 Q (F0 m 4 ls []) := by
    intro n
    induction n with
    | zero => intro x1 x2 ls hl h; rw [w4_many_l4] at h; exact h.elim
    | succ n ih =>
      intro x1 x2 ls hl h
      rw [w4_many_l4] at h
      refine lv_iload_n hx hb dX4_many_4 rfl (lv_at hl 2 rfl) ?_
      refine lv_bipush hx hb dX4_many_5 kb_16 ?_
      refine lv_icmp_ge (tgt := 24) hx hb dX4_many_7 (by decide) (fun c_1 => ?_) (fun c_1 => ?_)
      · replace h := h.1 c_1
        refine lv_iload_n hx hb dX4_many_24 rfl (lv_at hl 1 rfl) ?_
        exact hret _ _ _ h rfl dX4_many_25
      · replace h := h.2 c_1
        refine lv_iload_n hx hb dX4_many_10 rfl (lv_at hl 1 rfl) ?_
        refine lv_iload_n hx hb dX4_many_11 rfl (lv_at hl 0 rfl) ?_
        refine lv_iload_n hx hb dX4_many_12 rfl (lv_at hl 2 rfl) ?_
        refine lv_ishr hx hb dX4_many_13 ?_
        refine lv_iconst hx hb dX4_many_14 kc_1 ?_
        refine lv_iand hx hb dX4_many_15 ?_
        refine lv_iadd hx hb dX4_many_16 ?_
        refine lv_topi (fun v_2 e_v_2 => ?_)
        replace h := h v_2 e_v_2
        refine lv_istore_n (lv' := [(1, .int v_2), (0, .int a0), (2, .int x2)]) hx hb dX4_many_17 rfl hl (by decide) rfl (fun ls hl => ?_)
        obtain ⟨v_3, e_v_3⟩ : ∃ y : Int32, y = x2 + (1 : Int32) := ⟨_, rfl⟩
        replace h := h v_3 e_v_3
        refine lv_iinc (v := v_3) (lv' := [(2, .int v_3), (1, .int v_2), (0, .int a0)]) hx hb dX4_many_18 hl (k := 2) rfl (by rw [kc_1, e_v_3]) (by decide) rfl (fun ls hl => ?_)
        refine lv_goto (tgt := 4) hx hb dX4_many_21 (by decide) ?_
        exact ih _ _ _ (lv_sub hl [2, 1, 0] rfl) h
  unfold w4_many at h
  refine lv_iconst hx hb dX4_many_0 kc_0 ?_
  refine lv_istore_n (lv' := [(1, .int (0 : Int32)), (0, .int a0)]) hx hb dX4_many_1 rfl hl (by decide) rfl (fun ls hl => ?_)
  refine lv_iconst hx hb dX4_many_2 kc_0 ?_
  refine lv_istore_n (lv' := [(2, .int (0 : Int32)), (1, .int (0 : Int32)), (0, .int a0)]) hx hb dX4_many_3 rfl hl (by decide) rfl (fun ls hl => ?_)
  obtain ⟨f, h⟩ := h
  exact L4 f _ _ _ (lv_sub hl [2, 1, 0] rfl) h
def w4_together_c111 (k9 : Int32 → Int32 → MS → Prop) (Post : Int32 → MS → Prop) (x1 : Int32) (x2 : Int32) (M : MS) : Prop := ∀ v_5 : Int32, v_5 = x2 + (1 : Int32) → k9 x1 v_5 M
def w4_together_c81 (k9 : Int32 → Int32 → MS → Prop) (k24 : Int32 → Int32 → Int32 → Int32 → MS → Prop) (k36 : Int32 → Int32 → Int32 → Int32 → Int32 → MS → Prop) (Post : Int32 → MS → Prop) (x1 : Int32) (x2 : Int32) (x4 : Int32) (x5 : Int32) (t0 : Int32) (M : MS) : Prop := ∀ v_12 : Int32, v_12 = x5 + (1 : Int32) → k36 x1 x2 t0 x4 v_12 M
def w4_together_c80 (k9 : Int32 → Int32 → MS → Prop) (k24 : Int32 → Int32 → Int32 → Int32 → MS → Prop) (k36 : Int32 → Int32 → Int32 → Int32 → Int32 → MS → Prop) (Post : Int32 → MS → Prop) (x1 : Int32) (x2 : Int32) (x4 : Int32) (x5 : Int32) (M : MS) : Prop := w4_together_c81 k9 k24 k36 Post x1 x2 x4 x5 (0 : Int32) M
def w4_together_c76 (k9 : Int32 → Int32 → MS → Prop) (k24 : Int32 → Int32 → Int32 → Int32 → MS → Prop) (k36 : Int32 → Int32 → Int32 → Int32 → Int32 → MS → Prop) (Post : Int32 → MS → Prop) (x1 : Int32) (x2 : Int32) (x4 : Int32) (x5 : Int32) (M : MS) : Prop := w4_together_c81 k9 k24 k36 Post x1 x2 x4 x5 (1 : Int32) M
def w4_together_l36 (k9 : Int32 → Int32 → MS → Prop) (k24 : Int32 → Int32 → Int32 → Int32 → MS → Prop) (Post : Int32 → MS → Prop) : Nat → Int32 → Int32 → Int32 → Int32 → Int32 → MS → Prop
  | 0, _, _, _, _, _, _ => False
  | n + 1, x1, x2, x3, x4, x5, M => (x4 ≤ x5 → (∀ v_10 : Int32, v_10 = x4 + (1 : Int32) → k24 x1 x2 x3 v_10 M)) ∧ (¬ (x4 ≤ x5) → ((x3 = 0 → (w4_together_c80 k9 k24 (w4_together_l36 k9 k24 Post n) Post x1 x2 x4 x5 M)) ∧ (¬ (x3 = 0) → (w4_isOf x2 x4 (fun r_13 => (r_13 = 0 → (w4_together_c76 k9 k24 (w4_together_l36 k9 k24 Post n) Post x1 x2 x4 x5 M)) ∧ (¬ (r_13 = 0) → (w4_isOf x2 x5 (fun r_15 => (r_15 = 0 → (w4_together_c76 k9 k24 (w4_together_l36 k9 k24 Post n) Post x1 x2 x4 x5 M)) ∧ (¬ (r_15 = 0) → (w4_clashes x4 x5 M (fun r_18 M_17 => (r_18 = 0 → (w4_together_c76 k9 k24 (w4_together_l36 k9 k24 Post n) Post x1 x2 x4 x5 M_17)) ∧ (¬ (r_18 = 0) → (w4_together_c80 k9 k24 (w4_together_l36 k9 k24 Post n) Post x1 x2 x4 x5 M_17)))))))))))))
def w4_together_l24 (k9 : Int32 → Int32 → MS → Prop) (Post : Int32 → MS → Prop) : Nat → Int32 → Int32 → Int32 → Int32 → MS → Prop
  | 0, _, _, _, _, _ => False
  | n + 1, x1, x2, x3, x4, M => ((mi M 12) ≤ x4 → ((x3 = 0 → (w4_together_c111 k9 Post x1 x2 M)) ∧ (¬ (x3 = 0) → (w4_many x2 (fun r_6 => w4_many x1 (fun r_7 => (r_6 ≤ r_7 → (w4_together_c111 k9 Post x1 x2 M)) ∧ (¬ (r_6 ≤ r_7) → (w4_together_c111 k9 Post x2 x2 M)))))))) ∧ (¬ ((mi M 12) ≤ x4) → (∃ f, w4_together_l36 k9 (w4_together_l24 k9 Post n) Post f x1 x2 x3 x4 (0 : Int32) M))
def w4_together_l9 (Post : Int32 → MS → Prop) : Nat → Int32 → Int32 → MS → Prop
  | 0, _, _, _ => False
  | n + 1, x1, x2, M => (((1 : Int32) <<< ((mi M 12) &&& (31 : Int32))) ≤ x2 → (Post x1 M)) ∧ (¬ (((1 : Int32) <<< ((mi M 12) &&& (31 : Int32))) ≤ x2) → (∃ f, w4_together_l24 (w4_together_l9 Post n) Post f x1 x2 (1 : Int32) (0 : Int32) M))
def w4_together (M : MS) (Post : Int32 → MS → Prop) : Prop := ∀ M_1 : MS, M_1 = si M 2 (0 : Int32) → ∃ f, w4_together_l9 Post f (0 : Int32) (1 : Int32) M_1
abbrev rX4_together : Room := { frames := 6, cells := 0, slots := 0, locals := 138 }
theorem cdX4_together : yX4_together.cls = RX4 ∧ yX4_together.cls ≠ "java/lang/invoke/MethodHandle" ∧ yX4_together.cls ≠ "java/lang/invoke/VarHandle" ∧ (parseMethodDescriptor yX4_together.desc).map (fun d => d.parameters.length) = some 0 := by decide +kernel
set_option maxHeartbeats 4000000 in
set_option maxRecDepth 100000 in
theorem mt4_together (l : Launch) {D : va_G} {cA : Nat → ClassId} {m0 : Nat} {ad : Nat → Nat} (hA : mAd m0 ad) (M : MS) (Post : Int32 → MS → Prop) (h : w4_together M Post) : Met l yX4_together (ws_ yX4_together cX4_together 6 (some .int)) rX4_together (mPc [.ref m0] D cA m0 ad M) (va_Qi Post (mB D cA m0 ad) (mF m0 ad)) 0 0 (mF m0 ad) := by
  refine mst_i (own := RX4) (by decide) rfl (Nat.le_of_ble_eq_true rfl) ?_
  intro p e s m args below meth c Q ls S hK hP hS hl hret
  have hx := S.1
  have hb := S.2.1
  have hl : lv_has ls 6 [(0, .ref m0)] := hl
  have C111 : ∀ (k9 : Int32 → Int32 → MS → Prop) (K9 : (∀ (x1 : Int32) (x2 : Int32) (M : MS) (H : Heap) (locs : List Loc) (ls : Array Slot), va_P D vwCl (mo cA m0 ad M) H → va_S (mF m0 ad) s.heap H locs → lv_has ls 6 [(0, .ref m0), (1, .int x1), (2, .int x2)] → k9 x1 x2 M → W p l e rX4_together s m args below meth c H locs 0 0 Q (F0 m 9 ls []))), ∀ (x1 : Int32) (x2 : Int32) (M : MS) (H : Heap) (locs : List Loc) (ls : Array Slot), va_P D vwCl (mo cA m0 ad M) H → va_S (mF m0 ad) s.heap H locs → lv_has ls 6 [(0, .ref m0), (1, .int x1), (2, .int x2)] → w4_together_c111 k9 Post x1 x2 M → W p l e rX4_together s m args below meth c H locs 0 0 Q (F0 m 111 ls []) := by
    intro k9 K9
    intro x1 x2 M H locs ls hP hS hl h
    unfold w4_together_c111 at h
    obtain ⟨v_5, e_v_5⟩ : ∃ y : Int32, y = x2 + (1 : Int32) := ⟨_, rfl⟩
    replace h := h v_5 e_v_5
    refine lv_iinc (v := v_5) (lv' := [(2, .int v_5), (0, .ref m0), (1, .int x1)]) hx hb dX4_together_111 hl (k := 2) rfl (by rw [kc_1, e_v_5]) (by decide) rfl (fun ls hl => ?_)
    refine lv_goto (tgt := 9) hx hb dX4_together_114 (by decide) ?_
    exact K9 _ _ _ _ _ _ hP hS (lv_sub hl [1, 2, 0] rfl) h
  have C81 : ∀ (k9 : Int32 → Int32 → MS → Prop) (K9 : (∀ (x1 : Int32) (x2 : Int32) (M : MS) (H : Heap) (locs : List Loc) (ls : Array Slot), va_P D vwCl (mo cA m0 ad M) H → va_S (mF m0 ad) s.heap H locs → lv_has ls 6 [(0, .ref m0), (1, .int x1), (2, .int x2)] → k9 x1 x2 M → W p l e rX4_together s m args below meth c H locs 0 0 Q (F0 m 9 ls []))) (k24 : Int32 → Int32 → Int32 → Int32 → MS → Prop) (K24 : (∀ (x1 : Int32) (x2 : Int32) (x3 : Int32) (x4 : Int32) (M : MS) (H : Heap) (locs : List Loc) (ls : Array Slot), va_P D vwCl (mo cA m0 ad M) H → va_S (mF m0 ad) s.heap H locs → lv_has ls 6 [(0, .ref m0), (1, .int x1), (2, .int x2), (3, .int x3), (4, .int x4)] → k24 x1 x2 x3 x4 M → W p l e rX4_together s m args below meth c H locs 0 0 Q (F0 m 24 ls []))) (k36 : Int32 → Int32 → Int32 → Int32 → Int32 → MS → Prop) (K36 : (∀ (x1 : Int32) (x2 : Int32) (x3 : Int32) (x4 : Int32) (x5 : Int32) (M : MS) (H : Heap) (locs : List Loc) (ls : Array Slot), va_P D vwCl (mo cA m0 ad M) H → va_S (mF m0 ad) s.heap H locs → lv_has ls 6 [(0, .ref m0), (1, .int x1), (2, .int x2), (3, .int x3), (4, .int x4), (5, .int x5)] → k36 x1 x2 x3 x4 x5 M → W p l e rX4_together s m args below meth c H locs 0 0 Q (F0 m 36 ls []))), ∀ (x1 : Int32) (x2 : Int32) (x4 : Int32) (x5 : Int32) (t0 : Int32) (M : MS) (H : Heap) (locs : List Loc) (ls : Array Slot), va_P D vwCl (mo cA m0 ad M) H → va_S (mF m0 ad) s.heap H locs → lv_has ls 6 [(0, .ref m0), (1, .int x1), (2, .int x2), (4, .int x4), (5, .int x5)] → w4_together_c81 k9 k24 k36 Post x1 x2 x4 x5 t0 M → W p l e rX4_together s m args below meth c H locs 0 0 Q (F0 m 81 ls [.int t0]) := by
    intro k9 K9 k24 K24 k36 K36
    intro x1 x2 x4 x5 t0 M H locs ls hP hS hl h
    unfold w4_together_c81 at h
    refine lv_istore_n (lv' := [(3, .int t0), (0, .ref m0), (1, .int x1), (2, .int x2), (4, .int x4), (5, .int x5)]) hx hb dX4_together_81 rfl hl (by decide) rfl (fun ls hl => ?_)
    obtain ⟨v_12, e_v_12⟩ : ∃ y : Int32, y = x5 + (1 : Int32) := ⟨_, rfl⟩
    replace h := h v_12 e_v_12
    refine lv_iinc (v := v_12) (lv' := [(5, .int v_12), (3, .int t0), (0, .ref m0), (1, .int x1), (2, .int x2), (4, .int x4)]) hx hb dX4_together_82 hl (k := 5) rfl (by rw [kc_1, e_v_12]) (by decide) rfl (fun ls hl => ?_)
    refine lv_goto (tgt := 36) hx hb dX4_together_85 (by decide) ?_
    exact K36 _ _ _ _ _ _ _ _ _ hP hS (lv_sub hl [2, 3, 4, 1, 5, 0] rfl) h
  have C80 : ∀ (k9 : Int32 → Int32 → MS → Prop) (K9 : (∀ (x1 : Int32) (x2 : Int32) (M : MS) (H : Heap) (locs : List Loc) (ls : Array Slot), va_P D vwCl (mo cA m0 ad M) H → va_S (mF m0 ad) s.heap H locs → lv_has ls 6 [(0, .ref m0), (1, .int x1), (2, .int x2)] → k9 x1 x2 M → W p l e rX4_together s m args below meth c H locs 0 0 Q (F0 m 9 ls []))) (k24 : Int32 → Int32 → Int32 → Int32 → MS → Prop) (K24 : (∀ (x1 : Int32) (x2 : Int32) (x3 : Int32) (x4 : Int32) (M : MS) (H : Heap) (locs : List Loc) (ls : Array Slot), va_P D vwCl (mo cA m0 ad M) H → va_S (mF m0 ad) s.heap H locs → lv_has ls 6 [(0, .ref m0), (1, .int x1), (2, .int x2), (3, .int x3), (4, .int x4)] → k24 x1 x2 x3 x4 M → W p l e rX4_together s m args below meth c H locs 0 0 Q (F0 m 24 ls []))) (k36 : Int32 → Int32 → Int32 → Int32 → Int32 → MS → Prop) (K36 : (∀ (x1 : Int32) (x2 : Int32) (x3 : Int32) (x4 : Int32) (x5 : Int32) (M : MS) (H : Heap) (locs : List Loc) (ls : Array Slot), va_P D vwCl (mo cA m0 ad M) H → va_S (mF m0 ad) s.heap H locs → lv_has ls 6 [(0, .ref m0), (1, .int x1), (2, .int x2), (3, .int x3), (4, .int x4), (5, .int x5)] → k36 x1 x2 x3 x4 x5 M → W p l e rX4_together s m args below meth c H locs 0 0 Q (F0 m 36 ls []))), ∀ (x1 : Int32) (x2 : Int32) (x4 : Int32) (x5 : Int32) (M : MS) (H : Heap) (locs : List Loc) (ls : Array Slot), va_P D vwCl (mo cA m0 ad M) H → va_S (mF m0 ad) s.heap H locs → lv_has ls 6 [(0, .ref m0), (1, .int x1), (2, .int x2), (4, .int x4), (5, .int x5)] → w4_together_c80 k9 k24 k36 Post x1 x2 x4 x5 M → W p l e rX4_together s m args below meth c H locs 0 0 Q (F0 m 80 ls []) := by
    intro k9 K9 k24 K24 k36 K36
    intro x1 x2 x4 x5 M H locs ls hP hS hl h
    unfold w4_together_c80 at h
    refine lv_iconst hx hb dX4_together_80 kc_0 ?_
    exact C81 _ K9 _ K24 _ K36 _ _ _ _ _ _ _ _ _ hP hS (lv_sub hl [0, 1, 2, 3, 4] rfl) h
  have C76 : ∀ (k9 : Int32 → Int32 → MS → Prop) (K9 : (∀ (x1 : Int32) (x2 : Int32) (M : MS) (H : Heap) (locs : List Loc) (ls : Array Slot), va_P D vwCl (mo cA m0 ad M) H → va_S (mF m0 ad) s.heap H locs → lv_has ls 6 [(0, .ref m0), (1, .int x1), (2, .int x2)] → k9 x1 x2 M → W p l e rX4_together s m args below meth c H locs 0 0 Q (F0 m 9 ls []))) (k24 : Int32 → Int32 → Int32 → Int32 → MS → Prop) (K24 : (∀ (x1 : Int32) (x2 : Int32) (x3 : Int32) (x4 : Int32) (M : MS) (H : Heap) (locs : List Loc) (ls : Array Slot), va_P D vwCl (mo cA m0 ad M) H → va_S (mF m0 ad) s.heap H locs → lv_has ls 6 [(0, .ref m0), (1, .int x1), (2, .int x2), (3, .int x3), (4, .int x4)] → k24 x1 x2 x3 x4 M → W p l e rX4_together s m args below meth c H locs 0 0 Q (F0 m 24 ls []))) (k36 : Int32 → Int32 → Int32 → Int32 → Int32 → MS → Prop) (K36 : (∀ (x1 : Int32) (x2 : Int32) (x3 : Int32) (x4 : Int32) (x5 : Int32) (M : MS) (H : Heap) (locs : List Loc) (ls : Array Slot), va_P D vwCl (mo cA m0 ad M) H → va_S (mF m0 ad) s.heap H locs → lv_has ls 6 [(0, .ref m0), (1, .int x1), (2, .int x2), (3, .int x3), (4, .int x4), (5, .int x5)] → k36 x1 x2 x3 x4 x5 M → W p l e rX4_together s m args below meth c H locs 0 0 Q (F0 m 36 ls []))), ∀ (x1 : Int32) (x2 : Int32) (x4 : Int32) (x5 : Int32) (M : MS) (H : Heap) (locs : List Loc) (ls : Array Slot), va_P D vwCl (mo cA m0 ad M) H → va_S (mF m0 ad) s.heap H locs → lv_has ls 6 [(0, .ref m0), (1, .int x1), (2, .int x2), (4, .int x4), (5, .int x5)] → w4_together_c76 k9 k24 k36 Post x1 x2 x4 x5 M → W p l e rX4_together s m args below meth c H locs 0 0 Q (F0 m 76 ls []) := by
    intro k9 K9 k24 K24 k36 K36
    intro x1 x2 x4 x5 M H locs ls hP hS hl h
    unfold w4_together_c76 at h
    refine lv_iconst hx hb dX4_together_76 kc_1 ?_
    refine lv_goto (tgt := 81) hx hb dX4_together_77 (by decide) ?_
    exact C81 _ K9 _ K24 _ K36 _ _ _ _ _ _ _ _ _ hP hS (lv_sub hl [0, 1, 2, 3, 4] rfl) h
  have L36 : ∀ (k9 : Int32 → Int32 → MS → Prop) (K9 : (∀ (x1 : Int32) (x2 : Int32) (M : MS) (H : Heap) (locs : List Loc) (ls : Array Slot), va_P D vwCl (mo cA m0 ad M) H → va_S (mF m0 ad) s.heap H locs → lv_has ls 6 [(0, .ref m0), (1, .int x1), (2, .int x2)] → k9 x1 x2 M → W p l e rX4_together s m args below meth c H locs 0 0 Q (F0 m 9 ls []))) (k24 : Int32 → Int32 → Int32 → Int32 → MS → Prop) (K24 : (∀ (x1 : Int32) (x2 : Int32) (x3 : Int32) (x4 : Int32) (M : MS) (H : Heap) (locs : List Loc) (ls : Array Slot), va_P D vwCl (mo cA m0 ad M) H → va_S (mF m0 ad) s.heap H locs → lv_has ls 6 [(0, .ref m0), (1, .int x1), (2, .int x2), (3, .int x3), (4, .int x4)] → k24 x1 x2 x3 x4 M → W p l e rX4_together s m args below meth c H locs 0 0 Q (F0 m 24 ls []))), ∀ (n : Nat) (x1 : Int32) (x2 : Int32) (x3 : Int32) (x4 : Int32) (x5 : Int32) (M : MS) (H : Heap) (locs : List Loc) (ls : Array Slot), va_P D vwCl (mo cA m0 ad M) H → va_S (mF m0 ad) s.heap H locs → lv_has ls 6 [(0, .ref m0), (1, .int x1), (2, .int x2), (3, .int x3), (4, .int x4), (5, .int x5)] → w4_together_l36 k9 k24 Post n x1 x2 x3 x4 x5 M → W p l e rX4_together s m args below meth c H locs 0 0 Q (F0 m 36 ls []) := by
    intro k9 K9 k24 K24
    intro n
    induction n with
    | zero => intro x1 x2 x3 x4 x5 M H locs ls hP hS hl h; rw [w4_together_l36] at h; exact h.elim
    | succ n ih =>
      intro x1 x2 x3 x4 x5 M H locs ls hP hS hl h
      rw [w4_together_l36] at h
      refine lv_iload hx hb dX4_together_36 (lv_at hl 5 rfl) ?_
      refine lv_iload hx hb dX4_together_38 (lv_at hl 4 rfl) ?_
      refine lv_icmp_ge (tgt := 88) hx hb dX4_together_40 (by decide) (fun c_9 => ?_) (fun c_9 => ?_)
      · replace h := h.1 c_9
        obtain ⟨v_10, e_v_10⟩ : ∃ y : Int32, y = x4 + (1 : Int32) := ⟨_, rfl⟩
        replace h := h v_10 e_v_10
        refine lv_iinc (v := v_10) (lv' := [(4, .int v_10), (0, .ref m0), (1, .int x1), (2, .int x2), (3, .int x3), (5, .int x5)]) hx hb dX4_together_88 hl (k := 4) rfl (by rw [kc_1, e_v_10]) (by decide) rfl (fun ls hl => ?_)
        refine lv_goto (tgt := 24) hx hb dX4_together_91 (by decide) ?_
        exact K24 _ _ _ _ _ _ _ _ hP hS (lv_sub hl [1, 2, 3, 4, 0] rfl) h
      · replace h := h.2 c_9
        refine lv_iload_n hx hb dX4_together_43 rfl (lv_at hl 3 rfl) ?_
        refine lv_if_eq (tgt := 80) hx hb dX4_together_44 (by decide) (fun c_11 => ?_) (fun c_11 => ?_)
        · replace h := h.1 c_11
          exact C80 _ K9 _ K24 _ ih _ _ _ _ _ _ _ _ hP hS (lv_sub hl [0, 1, 2, 4, 5] rfl) h
        · replace h := h.2 c_11
          refine lv_iload_n hx hb dX4_together_47 rfl (lv_at hl 2 rfl) ?_
          refine lv_iload hx hb dX4_together_48 (lv_at hl 4 rfl) ?_
          refine sc_i S (As := [.int x2, .int x4]) (rest := []) (mt4_isOf l x2 x4 _ h) (va_cwS 2 S.2.2.2.2 (lw_S q1930 q1931 q145 q1932) rfl rfl rfl cdX4_isOf ⟨Nat.le_of_ble_eq_true rfl, Nat.le_of_ble_eq_true rfl⟩) rfl rfl hl.1 (Nat.le_of_ble_eq_true rfl) dX4_together_50 ⟨Nat.le_refl _, Nat.le_refl _⟩ (fun r_13 h => ?_)
          refine lv_if_eq (tgt := 76) hx hb dX4_together_53 (by decide) (fun c_14 => ?_) (fun c_14 => ?_)
          · replace h := h.1 c_14
            exact C76 _ K9 _ K24 _ ih _ _ _ _ _ _ _ _ hP hS (lv_sub hl [0, 1, 2, 4, 5] rfl) h
          · replace h := h.2 c_14
            refine lv_iload_n hx hb dX4_together_56 rfl (lv_at hl 2 rfl) ?_
            refine lv_iload hx hb dX4_together_57 (lv_at hl 5 rfl) ?_
            refine sc_i S (As := [.int x2, .int x5]) (rest := []) (mt4_isOf l x2 x5 _ h) (va_cwS 2 S.2.2.2.2 (lw_S q1930 q1931 q145 q1932) rfl rfl rfl cdX4_isOf ⟨Nat.le_of_ble_eq_true rfl, Nat.le_of_ble_eq_true rfl⟩) rfl rfl hl.1 (Nat.le_of_ble_eq_true rfl) dX4_together_59 ⟨Nat.le_refl _, Nat.le_refl _⟩ (fun r_15 h => ?_)
            refine lv_if_eq (tgt := 76) hx hb dX4_together_62 (by decide) (fun c_16 => ?_) (fun c_16 => ?_)
            · replace h := h.1 c_16
              exact C76 _ K9 _ K24 _ ih _ _ _ _ _ _ _ _ hP hS (lv_sub hl [0, 1, 2, 4, 5] rfl) h
            · replace h := h.2 c_16
              refine lv_aload_n hx hb dX4_together_65 rfl (lv_at hl 0 rfl) ?_
              refine lv_iload hx hb dX4_together_66 (lv_at hl 4 rfl) ?_
              refine lv_iload hx hb dX4_together_68 (lv_at hl 5 rfl) ?_
              refine mc_i S hK hP hS (As := [.int x4, .int x5]) (rest := []) (mt4_clashes l hA x4 x5 M _ h) (cwV 2 S.2.2.2.2 (lw_V q1922 q1924 qs115 q145 q1925) rfl rfl rfl cdX4_clashes ⟨Nat.le_of_ble_eq_true rfl, Nat.le_of_ble_eq_true rfl⟩) rfl rfl hl.1 (Nat.le_of_ble_eq_true rfl) dX4_together_70 ⟨Nat.le_refl _, Nat.le_refl _⟩ (fun r_18 M_17 H locs h hP hS => ?_)
              refine lv_if_ne (tgt := 80) hx hb dX4_together_73 (by decide) (fun c_19 => ?_) (fun c_19 => ?_)
              · replace h := h.2 c_19
                exact C80 _ K9 _ K24 _ ih _ _ _ _ _ _ _ _ hP hS (lv_sub hl [0, 1, 2, 4, 5] rfl) h
              · replace h := h.1 c_19
                exact C76 _ K9 _ K24 _ ih _ _ _ _ _ _ _ _ hP hS (lv_sub hl [0, 1, 2, 4, 5] rfl) h
  have L24 : ∀ (k9 : Int32 → Int32 → MS → Prop) (K9 : (∀ (x1 : Int32) (x2 : Int32) (M : MS) (H : Heap) (locs : List Loc) (ls : Array Slot), va_P D vwCl (mo cA m0 ad M) H → va_S (mF m0 ad) s.heap H locs → lv_has ls 6 [(0, .ref m0), (1, .int x1), (2, .int x2)] → k9 x1 x2 M → W p l e rX4_together s m args below meth c H locs 0 0 Q (F0 m 9 ls []))), ∀ (n : Nat) (x1 : Int32) (x2 : Int32) (x3 : Int32) (x4 : Int32) (M : MS) (H : Heap) (locs : List Loc) (ls : Array Slot), va_P D vwCl (mo cA m0 ad M) H → va_S (mF m0 ad) s.heap H locs → lv_has ls 6 [(0, .ref m0), (1, .int x1), (2, .int x2), (3, .int x3), (4, .int x4)] → w4_together_l24 k9 Post n x1 x2 x3 x4 M → W p l e rX4_together s m args below meth c H locs 0 0 Q (F0 m 24 ls []) := by
    intro k9 K9
    intro n
    induction n with
    | zero => intro x1 x2 x3 x4 M H locs ls hP hS hl h; rw [w4_together_l24] at h; exact h.elim
    | succ n ih =>
      intro x1 x2 x3 x4 M H locs ls hP hS hl h
      rw [w4_together_l24] at h
      refine lv_iload hx hb dX4_together_24 (lv_at hl 4 rfl) ?_
      refine lv_aload_n hx hb dX4_together_26 rfl (lv_at hl 0 rfl) ?_
      refine mg_i S hK hP (k := 12) (by decide) (by decide) q1432 dX4_together_27 ?_
      refine lv_icmp_ge (tgt := 94) hx hb dX4_together_30 (by decide) (fun c_3 => ?_) (fun c_3 => ?_)
      · replace h := h.1 c_3
        refine lv_iload_n hx hb dX4_together_94 rfl (lv_at hl 3 rfl) ?_
        refine lv_if_eq (tgt := 111) hx hb dX4_together_95 (by decide) (fun c_4 => ?_) (fun c_4 => ?_)
        · replace h := h.1 c_4
          exact C111 _ K9 _ _ _ _ _ _ hP hS (lv_sub hl [0, 1, 2] rfl) h
        · replace h := h.2 c_4
          refine lv_iload_n hx hb dX4_together_98 rfl (lv_at hl 2 rfl) ?_
          refine sc_i S (As := [.int x2]) (rest := []) (mt4_many l x2 _ h) (va_cwS 1 S.2.2.2.2 (lw_S q1933 q1934 q145 q1935) rfl rfl rfl cdX4_many ⟨Nat.le_of_ble_eq_true rfl, Nat.le_of_ble_eq_true rfl⟩) rfl rfl hl.1 (Nat.le_of_ble_eq_true rfl) dX4_together_99 ⟨Nat.le_refl _, Nat.le_refl _⟩ (fun r_6 h => ?_)
          refine lv_iload_n hx hb dX4_together_102 rfl (lv_at hl 1 rfl) ?_
          refine sc_i S (As := [.int x1]) (rest := [.int r_6]) (mt4_many l x1 _ h) (va_cwS 1 S.2.2.2.2 (lw_S q1933 q1934 q145 q1935) rfl rfl rfl cdX4_many ⟨Nat.le_of_ble_eq_true rfl, Nat.le_of_ble_eq_true rfl⟩) rfl rfl hl.1 (Nat.le_of_ble_eq_true rfl) dX4_together_103 ⟨Nat.le_refl _, Nat.le_refl _⟩ (fun r_7 h => ?_)
          refine lv_icmp_le (tgt := 111) hx hb dX4_together_106 (by decide) (fun c_8 => ?_) (fun c_8 => ?_)
          · replace h := h.1 c_8
            exact C111 _ K9 _ _ _ _ _ _ hP hS (lv_sub hl [0, 1, 2] rfl) h
          · replace h := h.2 c_8
            refine lv_iload_n hx hb dX4_together_109 rfl (lv_at hl 2 rfl) ?_
            refine lv_istore_n (lv' := [(1, .int x2), (0, .ref m0), (2, .int x2), (3, .int x3), (4, .int x4)]) hx hb dX4_together_110 rfl hl (by decide) rfl (fun ls hl => ?_)
            exact C111 _ K9 _ _ _ _ _ _ hP hS (lv_sub hl [1, 0, 2] rfl) h
      · replace h := h.2 c_3
        refine lv_iconst hx hb dX4_together_33 kc_0 ?_
        refine lv_istore (lv' := [(5, .int (0 : Int32)), (0, .ref m0), (1, .int x1), (2, .int x2), (3, .int x3), (4, .int x4)]) hx hb dX4_together_34 hl (by decide) rfl (fun ls hl => ?_)
        obtain ⟨f, h⟩ := h
        exact L36 _ K9 _ ih f _ _ _ _ _ _ _ _ _ hP hS (lv_sub hl [1, 2, 3, 4, 5, 0] rfl) h
  have L9 : ∀ (n : Nat) (x1 : Int32) (x2 : Int32) (M : MS) (H : Heap) (locs : List Loc) (ls : Array Slot), va_P D vwCl (mo cA m0 ad M) H → va_S (mF m0 ad) s.heap H locs → lv_has ls 6 [(0, .ref m0), (1, .int x1), (2, .int x2)] → w4_together_l9 Post n x1 x2 M → W p l e rX4_together s m args below meth c H locs 0 0 Q (F0 m 9 ls []) := by
    intro n
    induction n with
    | zero => intro x1 x2 M H locs ls hP hS hl h; rw [w4_together_l9] at h; exact h.elim
    | succ n ih =>
      intro x1 x2 M H locs ls hP hS hl h
      rw [w4_together_l9] at h
      refine lv_iload_n hx hb dX4_together_9 rfl (lv_at hl 2 rfl) ?_
      refine lv_iconst hx hb dX4_together_10 kc_1 ?_
      refine lv_aload_n hx hb dX4_together_11 rfl (lv_at hl 0 rfl) ?_
      refine mg_i S hK hP (k := 12) (by decide) (by decide) q1432 dX4_together_12 ?_
      refine lv_ishl hx hb dX4_together_15 ?_
      refine lv_icmp_ge (tgt := 117) hx hb dX4_together_16 (by decide) (fun c_2 => ?_) (fun c_2 => ?_)
      · replace h := h.1 c_2
        refine lv_iload_n hx hb dX4_together_117 rfl (lv_at hl 1 rfl) ?_
        exact hret _ _ _ _ _ _ hP hS h rfl dX4_together_118
      · replace h := h.2 c_2
        refine lv_iconst hx hb dX4_together_19 kc_1 ?_
        refine lv_istore_n (lv' := [(3, .int (1 : Int32)), (0, .ref m0), (1, .int x1), (2, .int x2)]) hx hb dX4_together_20 rfl hl (by decide) rfl (fun ls hl => ?_)
        refine lv_iconst hx hb dX4_together_21 kc_0 ?_
        refine lv_istore (lv' := [(4, .int (0 : Int32)), (3, .int (1 : Int32)), (0, .ref m0), (1, .int x1), (2, .int x2)]) hx hb dX4_together_22 hl (by decide) rfl (fun ls hl => ?_)
        obtain ⟨f, h⟩ := h
        exact L24 _ ih f _ _ _ _ _ _ _ _ hP hS (lv_sub hl [2, 3, 4, 1, 0] rfl) h
  unfold w4_together at h
  refine lv_aload_n hx hb dX4_together_0 rfl (lv_at hl 0 rfl) ?_
  refine lv_iconst hx hb dX4_together_1 kc_0 ?_
  refine mp_i S hK hA hP hS (k := 2) (by decide) (Or.inl rfl) rfl (Or.inl ⟨rfl, rfl⟩) q1422 dX4_together_2 (fun M_1 H locs e_M_1 hP hS => ?_)
  replace h := h M_1 e_M_1
  refine lv_iconst hx hb dX4_together_5 kc_0 ?_
  refine lv_istore_n (lv' := [(1, .int (0 : Int32)), (0, .ref m0)]) hx hb dX4_together_6 rfl hl (by decide) rfl (fun ls hl => ?_)
  refine lv_iconst hx hb dX4_together_7 kc_1 ?_
  refine lv_istore_n (lv' := [(2, .int (1 : Int32)), (1, .int (0 : Int32)), (0, .ref m0)]) hx hb dX4_together_8 rfl hl (by decide) rfl (fun ls hl => ?_)
  obtain ⟨f, h⟩ := h
  exact L9 f _ _ _ _ _ _ hP hS (lv_sub hl [2, 1, 0] rfl) h
def w4_isSet (a1 : Int32) (M : MS) (Post : Int32 → MS → Prop) : Prop := (a1 < 0 → (Post (0 : Int32) M)) ∧ (¬ (a1 < 0) → ((((1 : Int32) <<< ((mi M 12) &&& (31 : Int32))) ≤ a1 → (Post (0 : Int32) M)) ∧ (¬ (((1 : Int32) <<< ((mi M 12) &&& (31 : Int32))) ≤ a1) → (Post (1 : Int32) M))))
abbrev rX4_isSet : Room := { frames := 0, cells := 0, slots := 0, locals := 0 }
theorem cdX4_isSet : yX4_isSet.cls = RX4 ∧ yX4_isSet.cls ≠ "java/lang/invoke/MethodHandle" ∧ yX4_isSet.cls ≠ "java/lang/invoke/VarHandle" ∧ (parseMethodDescriptor yX4_isSet.desc).map (fun d => d.parameters.length) = some 1 := by decide +kernel
set_option maxHeartbeats 4000000 in
set_option maxRecDepth 100000 in
theorem mt4_isSet (l : Launch) {D : va_G} {cA : Nat → ClassId} {m0 : Nat} {ad : Nat → Nat} (hA : mAd m0 ad) (a1 : Int32) (M : MS) (Post : Int32 → MS → Prop) (h : w4_isSet a1 M Post) : Met l yX4_isSet (ws_ yX4_isSet cX4_isSet 2 (some .boolean)) rX4_isSet (mPc [.ref m0, .int a1] D cA m0 ad M) (va_Qi Post (mB D cA m0 ad) (mF m0 ad)) 0 0 (mF m0 ad) := by
  refine mst_i (own := RX4) (by decide) rfl (Nat.le_of_ble_eq_true rfl) ?_
  intro p e s m args below meth c Q ls S hK hP hS hl hret
  have hx := S.1
  have hb := S.2.1
  have hl : lv_has ls 2 [(0, .ref m0), (1, .int a1)] := hl
  unfold w4_isSet at h
  refine lv_iload_n hx hb dX4_isSet_0 rfl (lv_at hl 1 rfl) ?_
  refine lv_if_lt (tgt := 18) hx hb dX4_isSet_1 (by decide) (fun c_1 => ?_) (fun c_1 => ?_)
  · replace h := h.1 c_1
    refine lv_iconst hx hb dX4_isSet_18 kc_0 ?_
    exact hret _ _ _ _ _ _ hP hS h (vz_nar vz_0) dX4_isSet_19
  · replace h := h.2 c_1
    refine lv_iload_n hx hb dX4_isSet_4 rfl (lv_at hl 1 rfl) ?_
    refine lv_iconst hx hb dX4_isSet_5 kc_1 ?_
    refine lv_aload_n hx hb dX4_isSet_6 rfl (lv_at hl 0 rfl) ?_
    refine mg_i S hK hP (k := 12) (by decide) (by decide) q1432 dX4_isSet_7 ?_
    refine lv_ishl hx hb dX4_isSet_10 ?_
    refine lv_icmp_ge (tgt := 18) hx hb dX4_isSet_11 (by decide) (fun c_2 => ?_) (fun c_2 => ?_)
    · replace h := h.1 c_2
      refine lv_iconst hx hb dX4_isSet_18 kc_0 ?_
      exact hret _ _ _ _ _ _ hP hS h (vz_nar vz_0) dX4_isSet_19
    · replace h := h.2 c_2
      refine lv_iconst hx hb dX4_isSet_14 kc_1 ?_
      refine lv_goto (tgt := 19) hx hb dX4_isSet_15 (by decide) ?_
      exact hret _ _ _ _ _ _ hP hS h (vz_nar vz_1) dX4_isSet_19
def w4_lies_c120 (a1 : Int32) (k19 : Int32 → Int32 → MS → Prop) (k36 : Int32 → Int32 → Int32 → Int32 → Int32 → MS → Prop) (Post : Int32 → MS → Prop) (x2 : Int32) (x3 : Int32) (x4 : Int32) (x6 : Int32) (t0 : Int32) (M : MS) : Prop := ∀ v_12 : Int32, v_12 = x6 + (1 : Int32) → k36 x2 x3 x4 t0 v_12 M
def w4_lies_c90 (a1 : Int32) (k19 : Int32 → Int32 → MS → Prop) (k36 : Int32 → Int32 → Int32 → Int32 → Int32 → MS → Prop) (k53 : Int32 → Int32 → Int32 → Int32 → Int32 → Int32 → Int32 → MS → Prop) (Post : Int32 → MS → Prop) (x2 : Int32) (x3 : Int32) (x4 : Int32) (x5 : Int32) (x6 : Int32) (x8 : Int32) (t0 : Int32) (t1 : Int32) (M : MS) : Prop := ∀ v_15 : Int32, v_15 = t1 + t0 → ∀ v_16 : Int32, v_16 = x8 + (1 : Int32) → k53 x2 x3 x4 x5 x6 v_15 v_16 M
def w4_lies_c89 (a1 : Int32) (k19 : Int32 → Int32 → MS → Prop) (k36 : Int32 → Int32 → Int32 → Int32 → Int32 → MS → Prop) (k53 : Int32 → Int32 → Int32 → Int32 → Int32 → Int32 → Int32 → MS → Prop) (Post : Int32 → MS → Prop) (x2 : Int32) (x3 : Int32) (x4 : Int32) (x5 : Int32) (x6 : Int32) (x8 : Int32) (t0 : Int32) (M : MS) : Prop := w4_lies_c90 a1 k19 k36 k53 Post x2 x3 x4 x5 x6 x8 (0 : Int32) t0 M
def w4_lies_l53 (a1 : Int32) (k19 : Int32 → Int32 → MS → Prop) (k36 : Int32 → Int32 → Int32 → Int32 → Int32 → MS → Prop) (Post : Int32 → MS → Prop) : Nat → Int32 → Int32 → Int32 → Int32 → Int32 → Int32 → Int32 → MS → Prop
  | 0, _, _, _, _, _, _, _, _ => False
  | n + 1, x2, x3, x4, x5, x6, x7, x8, M => ((mi M 12) ≤ x8 → (∀ v_10 : Int32, v_10 = x4 + x7 → (x7 ≤ x5 → (w4_lies_c120 a1 k19 k36 Post x2 x3 v_10 x6 x5 M)) ∧ (¬ (x7 ≤ x5) → (w4_lies_c120 a1 k19 k36 Post x2 x3 v_10 x6 x7 M)))) ∧ (¬ ((mi M 12) ≤ x8) → (w4_isOf a1 x8 (fun r_13 => (r_13 = 0 → (w4_lies_c89 a1 k19 k36 (w4_lies_l53 a1 k19 k36 Post n) Post x2 x3 x4 x5 x6 x8 x7 M)) ∧ (¬ (r_13 = 0) → (w4_storyOf x8 x3 M (fun r_18 M_17 => (r_18 = x6 → (w4_lies_c90 a1 k19 k36 (w4_lies_l53 a1 k19 k36 Post n) Post x2 x3 x4 x5 x6 x8 (1 : Int32) x7 M_17)) ∧ (¬ (r_18 = x6) → (w4_lies_c89 a1 k19 k36 (w4_lies_l53 a1 k19 k36 Post n) Post x2 x3 x4 x5 x6 x8 x7 M_17))))))))
def w4_lies_l36 (a1 : Int32) (k19 : Int32 → Int32 → MS → Prop) (Post : Int32 → MS → Prop) : Nat → Int32 → Int32 → Int32 → Int32 → Int32 → MS → Prop
  | 0, _, _, _, _, _, _ => False
  | n + 1, x2, x3, x4, x5, x6, M => (vp_in x3 (mN 22) ∧ ((ma M 22 (Int32.toNatClampNeg x3)) ≤ x6 → (∀ v_7 : Int32, v_7 = x2 + (x4 - x5) → ∀ v_8 : Int32, v_8 = x3 + (1 : Int32) → k19 v_7 v_8 M)) ∧ (¬ ((ma M 22 (Int32.toNatClampNeg x3)) ≤ x6) → (∃ f, w4_lies_l53 a1 k19 (w4_lies_l36 a1 k19 Post n) Post f x2 x3 x4 x5 x6 (0 : Int32) (0 : Int32) M)))
def w4_lies_l19 (a1 : Int32) (Post : Int32 → MS → Prop) : Nat → Int32 → Int32 → MS → Prop
  | 0, _, _, _ => False
  | n + 1, x2, x3, M => ((mi M 11) ≤ x3 → (Post x2 M)) ∧ (¬ ((mi M 11) ≤ x3) → (∃ f, w4_lies_l36 a1 (w4_lies_l19 a1 Post n) Post f x2 x3 (0 : Int32) (0 : Int32) (0 : Int32) M))
def w4_lies (a1 : Int32) (M : MS) (Post : Int32 → MS → Prop) : Prop := ∀ M_1 : MS, M_1 = si M 2 (0 : Int32) → w4_isSet a1 M_1 (fun r_3 M_2 => (r_3 = 0 → (Post (-1 : Int32) M_2)) ∧ (¬ (r_3 = 0) → (∃ f, w4_lies_l19 a1 Post f (0 : Int32) (0 : Int32) M_2)))
abbrev rX4_lies : Room := { frames := 5, cells := 0, slots := 0, locals := 112 }
theorem cdX4_lies : yX4_lies.cls = RX4 ∧ yX4_lies.cls ≠ "java/lang/invoke/MethodHandle" ∧ yX4_lies.cls ≠ "java/lang/invoke/VarHandle" ∧ (parseMethodDescriptor yX4_lies.desc).map (fun d => d.parameters.length) = some 1 := by decide +kernel
set_option maxHeartbeats 4000000 in
set_option maxRecDepth 100000 in
theorem mt4_lies (l : Launch) {D : va_G} {cA : Nat → ClassId} {m0 : Nat} {ad : Nat → Nat} (hA : mAd m0 ad) (a1 : Int32) (M : MS) (Post : Int32 → MS → Prop) (h : w4_lies a1 M Post) : Met l yX4_lies (ws_ yX4_lies cX4_lies 9 (some .int)) rX4_lies (mPc [.ref m0, .int a1] D cA m0 ad M) (va_Qi Post (mB D cA m0 ad) (mF m0 ad)) 0 0 (mF m0 ad) := by
  refine mst_i (own := RX4) (by decide) rfl (Nat.le_of_ble_eq_true rfl) ?_
  intro p e s m args below meth c Q ls S hK hP hS hl hret
  have hx := S.1
  have hb := S.2.1
  have hl : lv_has ls 9 [(0, .ref m0), (1, .int a1)] := hl
  have C120 : ∀ (k19 : Int32 → Int32 → MS → Prop) (K19 : (∀ (x2 : Int32) (x3 : Int32) (M : MS) (H : Heap) (locs : List Loc) (ls : Array Slot), va_P D vwCl (mo cA m0 ad M) H → va_S (mF m0 ad) s.heap H locs → lv_has ls 9 [(0, .ref m0), (1, .int a1), (2, .int x2), (3, .int x3)] → k19 x2 x3 M → W p l e rX4_lies s m args below meth c H locs 0 0 Q (F0 m 19 ls []))) (k36 : Int32 → Int32 → Int32 → Int32 → Int32 → MS → Prop) (K36 : (∀ (x2 : Int32) (x3 : Int32) (x4 : Int32) (x5 : Int32) (x6 : Int32) (M : MS) (H : Heap) (locs : List Loc) (ls : Array Slot), va_P D vwCl (mo cA m0 ad M) H → va_S (mF m0 ad) s.heap H locs → lv_has ls 9 [(0, .ref m0), (1, .int a1), (2, .int x2), (3, .int x3), (4, .int x4), (5, .int x5), (6, .int x6)] → k36 x2 x3 x4 x5 x6 M → W p l e rX4_lies s m args below meth c H locs 0 0 Q (F0 m 36 ls []))), ∀ (x2 : Int32) (x3 : Int32) (x4 : Int32) (x6 : Int32) (t0 : Int32) (M : MS) (H : Heap) (locs : List Loc) (ls : Array Slot), va_P D vwCl (mo cA m0 ad M) H → va_S (mF m0 ad) s.heap H locs → lv_has ls 9 [(0, .ref m0), (1, .int a1), (2, .int x2), (3, .int x3), (4, .int x4), (6, .int x6)] → w4_lies_c120 a1 k19 k36 Post x2 x3 x4 x6 t0 M → W p l e rX4_lies s m args below meth c H locs 0 0 Q (F0 m 120 ls [.int t0]) := by
    intro k19 K19 k36 K36
    intro x2 x3 x4 x6 t0 M H locs ls hP hS hl h
    unfold w4_lies_c120 at h
    refine lv_istore (lv' := [(5, .int t0), (0, .ref m0), (1, .int a1), (2, .int x2), (3, .int x3), (4, .int x4), (6, .int x6)]) hx hb dX4_lies_120 hl (by decide) rfl (fun ls hl => ?_)
    obtain ⟨v_12, e_v_12⟩ : ∃ y : Int32, y = x6 + (1 : Int32) := ⟨_, rfl⟩
    replace h := h v_12 e_v_12
    refine lv_iinc (v := v_12) (lv' := [(6, .int v_12), (5, .int t0), (0, .ref m0), (1, .int a1), (2, .int x2), (3, .int x3), (4, .int x4)]) hx hb dX4_lies_122 hl (k := 6) rfl (by rw [kc_1, e_v_12]) (by decide) rfl (fun ls hl => ?_)
    refine lv_goto (tgt := 36) hx hb dX4_lies_125 (by decide) ?_
    exact K36 _ _ _ _ _ _ _ _ _ hP hS (lv_sub hl [2, 3, 4, 5, 6, 1, 0] rfl) h
  have C90 : ∀ (k19 : Int32 → Int32 → MS → Prop) (K19 : (∀ (x2 : Int32) (x3 : Int32) (M : MS) (H : Heap) (locs : List Loc) (ls : Array Slot), va_P D vwCl (mo cA m0 ad M) H → va_S (mF m0 ad) s.heap H locs → lv_has ls 9 [(0, .ref m0), (1, .int a1), (2, .int x2), (3, .int x3)] → k19 x2 x3 M → W p l e rX4_lies s m args below meth c H locs 0 0 Q (F0 m 19 ls []))) (k36 : Int32 → Int32 → Int32 → Int32 → Int32 → MS → Prop) (K36 : (∀ (x2 : Int32) (x3 : Int32) (x4 : Int32) (x5 : Int32) (x6 : Int32) (M : MS) (H : Heap) (locs : List Loc) (ls : Array Slot), va_P D vwCl (mo cA m0 ad M) H → va_S (mF m0 ad) s.heap H locs → lv_has ls 9 [(0, .ref m0), (1, .int a1), (2, .int x2), (3, .int x3), (4, .int x4), (5, .int x5), (6, .int x6)] → k36 x2 x3 x4 x5 x6 M → W p l e rX4_lies s m args below meth c H locs 0 0 Q (F0 m 36 ls []))) (k53 : Int32 → Int32 → Int32 → Int32 → Int32 → Int32 → Int32 → MS → Prop) (K53 : (∀ (x2 : Int32) (x3 : Int32) (x4 : Int32) (x5 : Int32) (x6 : Int32) (x7 : Int32) (x8 : Int32) (M : MS) (H : Heap) (locs : List Loc) (ls : Array Slot), va_P D vwCl (mo cA m0 ad M) H → va_S (mF m0 ad) s.heap H locs → lv_has ls 9 [(0, .ref m0), (1, .int a1), (2, .int x2), (3, .int x3), (4, .int x4), (5, .int x5), (6, .int x6), (7, .int x7), (8, .int x8)] → k53 x2 x3 x4 x5 x6 x7 x8 M → W p l e rX4_lies s m args below meth c H locs 0 0 Q (F0 m 53 ls []))), ∀ (x2 : Int32) (x3 : Int32) (x4 : Int32) (x5 : Int32) (x6 : Int32) (x8 : Int32) (t0 : Int32) (t1 : Int32) (M : MS) (H : Heap) (locs : List Loc) (ls : Array Slot), va_P D vwCl (mo cA m0 ad M) H → va_S (mF m0 ad) s.heap H locs → lv_has ls 9 [(0, .ref m0), (1, .int a1), (2, .int x2), (3, .int x3), (4, .int x4), (5, .int x5), (6, .int x6), (8, .int x8)] → w4_lies_c90 a1 k19 k36 k53 Post x2 x3 x4 x5 x6 x8 t0 t1 M → W p l e rX4_lies s m args below meth c H locs 0 0 Q (F0 m 90 ls [.int t0, .int t1]) := by
    intro k19 K19 k36 K36 k53 K53
    intro x2 x3 x4 x5 x6 x8 t0 t1 M H locs ls hP hS hl h
    unfold w4_lies_c90 at h
    refine lv_iadd hx hb dX4_lies_90 ?_
    refine lv_topi (fun v_15 e_v_15 => ?_)
    replace h := h v_15 e_v_15
    refine lv_istore (lv' := [(7, .int v_15), (0, .ref m0), (1, .int a1), (2, .int x2), (3, .int x3), (4, .int x4), (5, .int x5), (6, .int x6), (8, .int x8)]) hx hb dX4_lies_91 hl (by decide) rfl (fun ls hl => ?_)
    obtain ⟨v_16, e_v_16⟩ : ∃ y : Int32, y = x8 + (1 : Int32) := ⟨_, rfl⟩
    replace h := h v_16 e_v_16
    refine lv_iinc (v := v_16) (lv' := [(8, .int v_16), (7, .int v_15), (0, .ref m0), (1, .int a1), (2, .int x2), (3, .int x3), (4, .int x4), (5, .int x5), (6, .int x6)]) hx hb dX4_lies_93 hl (k := 8) rfl (by rw [kc_1, e_v_16]) (by decide) rfl (fun ls hl => ?_)
    refine lv_goto (tgt := 53) hx hb dX4_lies_96 (by decide) ?_
    exact K53 _ _ _ _ _ _ _ _ _ _ _ hP hS (lv_sub hl [2, 3, 4, 5, 6, 7, 8, 1, 0] rfl) h
  have C89 : ∀ (k19 : Int32 → Int32 → MS → Prop) (K19 : (∀ (x2 : Int32) (x3 : Int32) (M : MS) (H : Heap) (locs : List Loc) (ls : Array Slot), va_P D vwCl (mo cA m0 ad M) H → va_S (mF m0 ad) s.heap H locs → lv_has ls 9 [(0, .ref m0), (1, .int a1), (2, .int x2), (3, .int x3)] → k19 x2 x3 M → W p l e rX4_lies s m args below meth c H locs 0 0 Q (F0 m 19 ls []))) (k36 : Int32 → Int32 → Int32 → Int32 → Int32 → MS → Prop) (K36 : (∀ (x2 : Int32) (x3 : Int32) (x4 : Int32) (x5 : Int32) (x6 : Int32) (M : MS) (H : Heap) (locs : List Loc) (ls : Array Slot), va_P D vwCl (mo cA m0 ad M) H → va_S (mF m0 ad) s.heap H locs → lv_has ls 9 [(0, .ref m0), (1, .int a1), (2, .int x2), (3, .int x3), (4, .int x4), (5, .int x5), (6, .int x6)] → k36 x2 x3 x4 x5 x6 M → W p l e rX4_lies s m args below meth c H locs 0 0 Q (F0 m 36 ls []))) (k53 : Int32 → Int32 → Int32 → Int32 → Int32 → Int32 → Int32 → MS → Prop) (K53 : (∀ (x2 : Int32) (x3 : Int32) (x4 : Int32) (x5 : Int32) (x6 : Int32) (x7 : Int32) (x8 : Int32) (M : MS) (H : Heap) (locs : List Loc) (ls : Array Slot), va_P D vwCl (mo cA m0 ad M) H → va_S (mF m0 ad) s.heap H locs → lv_has ls 9 [(0, .ref m0), (1, .int a1), (2, .int x2), (3, .int x3), (4, .int x4), (5, .int x5), (6, .int x6), (7, .int x7), (8, .int x8)] → k53 x2 x3 x4 x5 x6 x7 x8 M → W p l e rX4_lies s m args below meth c H locs 0 0 Q (F0 m 53 ls []))), ∀ (x2 : Int32) (x3 : Int32) (x4 : Int32) (x5 : Int32) (x6 : Int32) (x8 : Int32) (t0 : Int32) (M : MS) (H : Heap) (locs : List Loc) (ls : Array Slot), va_P D vwCl (mo cA m0 ad M) H → va_S (mF m0 ad) s.heap H locs → lv_has ls 9 [(0, .ref m0), (1, .int a1), (2, .int x2), (3, .int x3), (4, .int x4), (5, .int x5), (6, .int x6), (8, .int x8)] → w4_lies_c89 a1 k19 k36 k53 Post x2 x3 x4 x5 x6 x8 t0 M → W p l e rX4_lies s m args below meth c H locs 0 0 Q (F0 m 89 ls [.int t0]) := by
    intro k19 K19 k36 K36 k53 K53
    intro x2 x3 x4 x5 x6 x8 t0 M H locs ls hP hS hl h
    unfold w4_lies_c89 at h
    refine lv_iconst hx hb dX4_lies_89 kc_0 ?_
    exact C90 _ K19 _ K36 _ K53 _ _ _ _ _ _ _ _ _ _ _ _ hP hS (lv_sub hl [0, 1, 2, 3, 4, 5, 6, 7] rfl) h
  have L53 : ∀ (k19 : Int32 → Int32 → MS → Prop) (K19 : (∀ (x2 : Int32) (x3 : Int32) (M : MS) (H : Heap) (locs : List Loc) (ls : Array Slot), va_P D vwCl (mo cA m0 ad M) H → va_S (mF m0 ad) s.heap H locs → lv_has ls 9 [(0, .ref m0), (1, .int a1), (2, .int x2), (3, .int x3)] → k19 x2 x3 M → W p l e rX4_lies s m args below meth c H locs 0 0 Q (F0 m 19 ls []))) (k36 : Int32 → Int32 → Int32 → Int32 → Int32 → MS → Prop) (K36 : (∀ (x2 : Int32) (x3 : Int32) (x4 : Int32) (x5 : Int32) (x6 : Int32) (M : MS) (H : Heap) (locs : List Loc) (ls : Array Slot), va_P D vwCl (mo cA m0 ad M) H → va_S (mF m0 ad) s.heap H locs → lv_has ls 9 [(0, .ref m0), (1, .int a1), (2, .int x2), (3, .int x3), (4, .int x4), (5, .int x5), (6, .int x6)] → k36 x2 x3 x4 x5 x6 M → W p l e rX4_lies s m args below meth c H locs 0 0 Q (F0 m 36 ls []))), ∀ (n : Nat) (x2 : Int32) (x3 : Int32) (x4 : Int32) (x5 : Int32) (x6 : Int32) (x7 : Int32) (x8 : Int32) (M : MS) (H : Heap) (locs : List Loc) (ls : Array Slot), va_P D vwCl (mo cA m0 ad M) H → va_S (mF m0 ad) s.heap H locs → lv_has ls 9 [(0, .ref m0), (1, .int a1), (2, .int x2), (3, .int x3), (4, .int x4), (5, .int x5), (6, .int x6), (7, .int x7), (8, .int x8)] → w4_lies_l53 a1 k19 k36 Post n x2 x3 x4 x5 x6 x7 x8 M → W p l e rX4_lies s m args below meth c H locs 0 0 Q (F0 m 53 ls []) := by
    intro k19 K19 k36 K36
    intro n
    induction n with
    | zero => intro x2 x3 x4 x5 x6 x7 x8 M H locs ls hP hS hl h; rw [w4_lies_l53] at h; exact h.elim
    | succ n ih =>
      intro x2 x3 x4 x5 x6 x7 x8 M H locs ls hP hS hl h
      rw [w4_lies_l53] at h
      refine lv_iload hx hb dX4_lies_53 (lv_at hl 8 rfl) ?_
      refine lv_aload_n hx hb dX4_lies_55 rfl (lv_at hl 0 rfl) ?_
      refine mg_i S hK hP (k := 12) (by decide) (by decide) q1432 dX4_lies_56 ?_
      refine lv_icmp_ge (tgt := 99) hx hb dX4_lies_59 (by decide) (fun c_9 => ?_) (fun c_9 => ?_)
      · replace h := h.1 c_9
        refine lv_iload hx hb dX4_lies_99 (lv_at hl 4 rfl) ?_
        refine lv_iload hx hb dX4_lies_101 (lv_at hl 7 rfl) ?_
        refine lv_iadd hx hb dX4_lies_103 ?_
        refine lv_topi (fun v_10 e_v_10 => ?_)
        replace h := h v_10 e_v_10
        refine lv_istore (lv' := [(4, .int v_10), (0, .ref m0), (1, .int a1), (2, .int x2), (3, .int x3), (5, .int x5), (6, .int x6), (7, .int x7), (8, .int x8)]) hx hb dX4_lies_104 hl (by decide) rfl (fun ls hl => ?_)
        refine lv_iload hx hb dX4_lies_106 (lv_at hl 7 rfl) ?_
        refine lv_iload hx hb dX4_lies_108 (lv_at hl 5 rfl) ?_
        refine lv_icmp_le (tgt := 118) hx hb dX4_lies_110 (by decide) (fun c_11 => ?_) (fun c_11 => ?_)
        · replace h := h.1 c_11
          refine lv_iload hx hb dX4_lies_118 (lv_at hl 5 rfl) ?_
          exact C120 _ K19 _ K36 _ _ _ _ _ _ _ _ _ hP hS (lv_sub hl [1, 2, 3, 4, 0, 6] rfl) h
        · replace h := h.2 c_11
          refine lv_iload hx hb dX4_lies_113 (lv_at hl 7 rfl) ?_
          refine lv_goto (tgt := 120) hx hb dX4_lies_115 (by decide) ?_
          exact C120 _ K19 _ K36 _ _ _ _ _ _ _ _ _ hP hS (lv_sub hl [1, 2, 3, 4, 0, 6] rfl) h
      · replace h := h.2 c_9
        refine lv_iload hx hb dX4_lies_62 (lv_at hl 7 rfl) ?_
        refine lv_iload_n hx hb dX4_lies_64 rfl (lv_at hl 1 rfl) ?_
        refine lv_iload hx hb dX4_lies_65 (lv_at hl 8 rfl) ?_
        refine sc_i S (As := [.int a1, .int x8]) (rest := [.int x7]) (mt4_isOf l a1 x8 _ h) (va_cwS 2 S.2.2.2.2 (lw_S q1930 q1931 q145 q1932) rfl rfl rfl cdX4_isOf ⟨Nat.le_of_ble_eq_true rfl, Nat.le_of_ble_eq_true rfl⟩) rfl rfl hl.1 (Nat.le_of_ble_eq_true rfl) dX4_lies_67 ⟨Nat.le_refl _, Nat.le_refl _⟩ (fun r_13 h => ?_)
        refine lv_if_eq (tgt := 89) hx hb dX4_lies_70 (by decide) (fun c_14 => ?_) (fun c_14 => ?_)
        · replace h := h.1 c_14
          exact C89 _ K19 _ K36 _ ih _ _ _ _ _ _ _ _ _ _ _ hP hS (lv_sub hl [0, 1, 2, 3, 4, 5, 6, 8] rfl) h
        · replace h := h.2 c_14
          refine lv_aload_n hx hb dX4_lies_73 rfl (lv_at hl 0 rfl) ?_
          refine lv_iload hx hb dX4_lies_74 (lv_at hl 8 rfl) ?_
          refine lv_iload_n hx hb dX4_lies_76 rfl (lv_at hl 3 rfl) ?_
          refine mc_i S hK hP hS (As := [.int x8, .int x3]) (rest := [.int x7]) (mt4_storyOf l hA x8 x3 M _ h) (cwV 2 S.2.2.2.2 (lw_V q1914 q1916 qs114 q145 q1917) rfl rfl rfl cdX4_storyOf ⟨Nat.le_of_ble_eq_true rfl, Nat.le_of_ble_eq_true rfl⟩) rfl rfl hl.1 (Nat.le_of_ble_eq_true rfl) dX4_lies_77 ⟨Nat.le_refl _, Nat.le_refl _⟩ (fun r_18 M_17 H locs h hP hS => ?_)
          refine lv_iload hx hb dX4_lies_80 (lv_at hl 6 rfl) ?_
          refine lv_icmp_ne (tgt := 89) hx hb dX4_lies_82 (by decide) (fun c_19 => ?_) (fun c_19 => ?_)
          · replace h := h.2 c_19
            exact C89 _ K19 _ K36 _ ih _ _ _ _ _ _ _ _ _ _ _ hP hS (lv_sub hl [0, 1, 2, 3, 4, 5, 6, 8] rfl) h
          · replace h := h.1 c_19
            refine lv_iconst hx hb dX4_lies_85 kc_1 ?_
            refine lv_goto (tgt := 90) hx hb dX4_lies_86 (by decide) ?_
            exact C90 _ K19 _ K36 _ ih _ _ _ _ _ _ _ _ _ _ _ _ hP hS (lv_sub hl [0, 1, 2, 3, 4, 5, 6, 8] rfl) h
  have L36 : ∀ (k19 : Int32 → Int32 → MS → Prop) (K19 : (∀ (x2 : Int32) (x3 : Int32) (M : MS) (H : Heap) (locs : List Loc) (ls : Array Slot), va_P D vwCl (mo cA m0 ad M) H → va_S (mF m0 ad) s.heap H locs → lv_has ls 9 [(0, .ref m0), (1, .int a1), (2, .int x2), (3, .int x3)] → k19 x2 x3 M → W p l e rX4_lies s m args below meth c H locs 0 0 Q (F0 m 19 ls []))), ∀ (n : Nat) (x2 : Int32) (x3 : Int32) (x4 : Int32) (x5 : Int32) (x6 : Int32) (M : MS) (H : Heap) (locs : List Loc) (ls : Array Slot), va_P D vwCl (mo cA m0 ad M) H → va_S (mF m0 ad) s.heap H locs → lv_has ls 9 [(0, .ref m0), (1, .int a1), (2, .int x2), (3, .int x3), (4, .int x4), (5, .int x5), (6, .int x6)] → w4_lies_l36 a1 k19 Post n x2 x3 x4 x5 x6 M → W p l e rX4_lies s m args below meth c H locs 0 0 Q (F0 m 36 ls []) := by
    intro k19 K19
    intro n
    induction n with
    | zero => intro x2 x3 x4 x5 x6 M H locs ls hP hS hl h; rw [w4_lies_l36] at h; exact h.elim
    | succ n ih =>
      intro x2 x3 x4 x5 x6 M H locs ls hP hS hl h
      rw [w4_lies_l36] at h
      refine lv_iload hx hb dX4_lies_36 (lv_at hl 6 rfl) ?_
      refine lv_aload_n hx hb dX4_lies_38 rfl (lv_at hl 0 rfl) ?_
      refine mg_r S hK hP (k := 22) (by decide) (by decide) q1442 dX4_lies_39 ?_
      refine lv_iload_n hx hb dX4_lies_42 rfl (lv_at hl 3 rfl) ?_
      obtain ⟨hi, h⟩ := h
      refine ml_a S hK hP (k := 22) af_22 rfl hi dX4_lies_43 ?_
      refine lv_icmp_ge (tgt := 128) hx hb dX4_lies_44 (by decide) (fun c_6 => ?_) (fun c_6 => ?_)
      · replace h := h.1 c_6
        refine lv_iload_n hx hb dX4_lies_128 rfl (lv_at hl 2 rfl) ?_
        refine lv_iload hx hb dX4_lies_129 (lv_at hl 4 rfl) ?_
        refine lv_iload hx hb dX4_lies_131 (lv_at hl 5 rfl) ?_
        refine lv_isub hx hb dX4_lies_133 ?_
        refine lv_iadd hx hb dX4_lies_134 ?_
        refine lv_topi (fun v_7 e_v_7 => ?_)
        replace h := h v_7 e_v_7
        refine lv_istore_n (lv' := [(2, .int v_7), (0, .ref m0), (1, .int a1), (3, .int x3), (4, .int x4), (5, .int x5), (6, .int x6)]) hx hb dX4_lies_135 rfl hl (by decide) rfl (fun ls hl => ?_)
        obtain ⟨v_8, e_v_8⟩ : ∃ y : Int32, y = x3 + (1 : Int32) := ⟨_, rfl⟩
        replace h := h v_8 e_v_8
        refine lv_iinc (v := v_8) (lv' := [(3, .int v_8), (2, .int v_7), (0, .ref m0), (1, .int a1), (4, .int x4), (5, .int x5), (6, .int x6)]) hx hb dX4_lies_136 hl (k := 3) rfl (by rw [kc_1, e_v_8]) (by decide) rfl (fun ls hl => ?_)
        refine lv_goto (tgt := 19) hx hb dX4_lies_139 (by decide) ?_
        exact K19 _ _ _ _ _ _ hP hS (lv_sub hl [2, 3, 1, 0] rfl) h
      · replace h := h.2 c_6
        refine lv_iconst hx hb dX4_lies_47 kc_0 ?_
        refine lv_istore (lv' := [(7, .int (0 : Int32)), (0, .ref m0), (1, .int a1), (2, .int x2), (3, .int x3), (4, .int x4), (5, .int x5), (6, .int x6)]) hx hb dX4_lies_48 hl (by decide) rfl (fun ls hl => ?_)
        refine lv_iconst hx hb dX4_lies_50 kc_0 ?_
        refine lv_istore (lv' := [(8, .int (0 : Int32)), (7, .int (0 : Int32)), (0, .ref m0), (1, .int a1), (2, .int x2), (3, .int x3), (4, .int x4), (5, .int x5), (6, .int x6)]) hx hb dX4_lies_51 hl (by decide) rfl (fun ls hl => ?_)
        obtain ⟨f, h⟩ := h
        exact L53 _ K19 _ ih f _ _ _ _ _ _ _ _ _ _ _ hP hS (lv_sub hl [2, 3, 4, 5, 6, 7, 8, 1, 0] rfl) h
  have L19 : ∀ (n : Nat) (x2 : Int32) (x3 : Int32) (M : MS) (H : Heap) (locs : List Loc) (ls : Array Slot), va_P D vwCl (mo cA m0 ad M) H → va_S (mF m0 ad) s.heap H locs → lv_has ls 9 [(0, .ref m0), (1, .int a1), (2, .int x2), (3, .int x3)] → w4_lies_l19 a1 Post n x2 x3 M → W p l e rX4_lies s m args below meth c H locs 0 0 Q (F0 m 19 ls []) := by
    intro n
    induction n with
    | zero => intro x2 x3 M H locs ls hP hS hl h; rw [w4_lies_l19] at h; exact h.elim
    | succ n ih =>
      intro x2 x3 M H locs ls hP hS hl h
      rw [w4_lies_l19] at h
      refine lv_iload_n hx hb dX4_lies_19 rfl (lv_at hl 3 rfl) ?_
      refine lv_aload_n hx hb dX4_lies_20 rfl (lv_at hl 0 rfl) ?_
      refine mg_i S hK hP (k := 11) (by decide) (by decide) q1431 dX4_lies_21 ?_
      refine lv_icmp_ge (tgt := 142) hx hb dX4_lies_24 (by decide) (fun c_5 => ?_) (fun c_5 => ?_)
      · replace h := h.1 c_5
        refine lv_iload_n hx hb dX4_lies_142 rfl (lv_at hl 2 rfl) ?_
        exact hret _ _ _ _ _ _ hP hS h rfl dX4_lies_143
      · replace h := h.2 c_5
        refine lv_iconst hx hb dX4_lies_27 kc_0 ?_
        refine lv_istore (lv' := [(4, .int (0 : Int32)), (0, .ref m0), (1, .int a1), (2, .int x2), (3, .int x3)]) hx hb dX4_lies_28 hl (by decide) rfl (fun ls hl => ?_)
        refine lv_iconst hx hb dX4_lies_30 kc_0 ?_
        refine lv_istore (lv' := [(5, .int (0 : Int32)), (4, .int (0 : Int32)), (0, .ref m0), (1, .int a1), (2, .int x2), (3, .int x3)]) hx hb dX4_lies_31 hl (by decide) rfl (fun ls hl => ?_)
        refine lv_iconst hx hb dX4_lies_33 kc_0 ?_
        refine lv_istore (lv' := [(6, .int (0 : Int32)), (5, .int (0 : Int32)), (4, .int (0 : Int32)), (0, .ref m0), (1, .int a1), (2, .int x2), (3, .int x3)]) hx hb dX4_lies_34 hl (by decide) rfl (fun ls hl => ?_)
        obtain ⟨f, h⟩ := h
        exact L36 _ ih f _ _ _ _ _ _ _ _ _ hP hS (lv_sub hl [3, 4, 5, 6, 2, 1, 0] rfl) h
  unfold w4_lies at h
  refine lv_aload_n hx hb dX4_lies_0 rfl (lv_at hl 0 rfl) ?_
  refine lv_iconst hx hb dX4_lies_1 kc_0 ?_
  refine mp_i S hK hA hP hS (k := 2) (by decide) (Or.inl rfl) rfl (Or.inl ⟨rfl, rfl⟩) q1422 dX4_lies_2 (fun M_1 H locs e_M_1 hP hS => ?_)
  replace h := h M_1 e_M_1
  refine lv_aload_n hx hb dX4_lies_5 rfl (lv_at hl 0 rfl) ?_
  refine lv_iload_n hx hb dX4_lies_6 rfl (lv_at hl 1 rfl) ?_
  refine mc_i S hK hP hS (As := [.int a1]) (rest := []) (mt4_isSet l hA a1 M_1 _ h) (cwV 1 S.2.2.2.2 (lw_V q1940 q1942 qs116 q145 q1943) rfl rfl rfl cdX4_isSet ⟨Nat.le_of_ble_eq_true rfl, Nat.le_of_ble_eq_true rfl⟩) rfl rfl hl.1 (Nat.le_of_ble_eq_true rfl) dX4_lies_7 ⟨Nat.le_refl _, Nat.le_refl _⟩ (fun r_3 M_2 H locs h hP hS => ?_)
  refine lv_if_ne (tgt := 15) hx hb dX4_lies_10 (by decide) (fun c_4 => ?_) (fun c_4 => ?_)
  · replace h := h.2 c_4
    refine lv_iconst hx hb dX4_lies_15 kc_0 ?_
    refine lv_istore_n (lv' := [(2, .int (0 : Int32)), (0, .ref m0), (1, .int a1)]) hx hb dX4_lies_16 rfl hl (by decide) rfl (fun ls hl => ?_)
    refine lv_iconst hx hb dX4_lies_17 kc_0 ?_
    refine lv_istore_n (lv' := [(3, .int (0 : Int32)), (2, .int (0 : Int32)), (0, .ref m0), (1, .int a1)]) hx hb dX4_lies_18 rfl hl (by decide) rfl (fun ls hl => ?_)
    obtain ⟨f, h⟩ := h
    exact L19 f _ _ _ _ _ _ hP hS (lv_sub hl [2, 3, 1, 0] rfl) h
  · replace h := h.1 c_4
    refine lv_iconst hx hb dX4_lies_13 kc_m1 ?_
    exact hret _ _ _ _ _ _ hP hS h rfl dX4_lies_14
def w4_isTaped (a1 : Int32) (M : MS) (Post : Int32 → MS → Prop) : Prop := (vp_in a1 (mN 32) ∧ (vp_in (ma M 32 (Int32.toNatClampNeg a1)) (mN 30) ∧ ((ma M 30 (Int32.toNatClampNeg (ma M 32 (Int32.toNatClampNeg a1)))) < 0 → (Post (0 : Int32) M)) ∧ (¬ ((ma M 30 (Int32.toNatClampNeg (ma M 32 (Int32.toNatClampNeg a1)))) < 0) → ((vp_in a1 (mN 33) ∧ (vp_in a1 (mN 32) ∧ (vp_in (ma M 32 (Int32.toNatClampNeg a1)) (mN 30) ∧ ((ma M 33 (Int32.toNatClampNeg a1)) < (ma M 30 (Int32.toNatClampNeg (ma M 32 (Int32.toNatClampNeg a1)))) → (Post (0 : Int32) M)) ∧ (¬ ((ma M 33 (Int32.toNatClampNeg a1)) < (ma M 30 (Int32.toNatClampNeg (ma M 32 (Int32.toNatClampNeg a1))))) → (Post (1 : Int32) M)))))))))
abbrev rX4_isTaped : Room := { frames := 0, cells := 0, slots := 0, locals := 0 }
theorem cdX4_isTaped : yX4_isTaped.cls = RX4 ∧ yX4_isTaped.cls ≠ "java/lang/invoke/MethodHandle" ∧ yX4_isTaped.cls ≠ "java/lang/invoke/VarHandle" ∧ (parseMethodDescriptor yX4_isTaped.desc).map (fun d => d.parameters.length) = some 1 := by decide +kernel
set_option maxHeartbeats 4000000 in
set_option maxRecDepth 100000 in
theorem mt4_isTaped (l : Launch) {D : va_G} {cA : Nat → ClassId} {m0 : Nat} {ad : Nat → Nat} (hA : mAd m0 ad) (a1 : Int32) (M : MS) (Post : Int32 → MS → Prop) (h : w4_isTaped a1 M Post) : Met l yX4_isTaped (ws_ yX4_isTaped cX4_isTaped 2 (some .boolean)) rX4_isTaped (mPc [.ref m0, .int a1] D cA m0 ad M) (va_Qi Post (mB D cA m0 ad) (mF m0 ad)) 0 0 (mF m0 ad) := by
  refine mst_i (own := RX4) (by decide) rfl (Nat.le_of_ble_eq_true rfl) ?_
  intro p e s m args below meth c Q ls S hK hP hS hl hret
  have hx := S.1
  have hb := S.2.1
  have hl : lv_has ls 2 [(0, .ref m0), (1, .int a1)] := hl
  unfold w4_isTaped at h
  refine lv_aload_n hx hb dX4_isTaped_0 rfl (lv_at hl 0 rfl) ?_
  refine mg_r S hK hP (k := 30) (by decide) (by decide) q1450 dX4_isTaped_1 ?_
  refine lv_aload_n hx hb dX4_isTaped_4 rfl (lv_at hl 0 rfl) ?_
  refine mg_r S hK hP (k := 32) (by decide) (by decide) q1452 dX4_isTaped_5 ?_
  refine lv_iload_n hx hb dX4_isTaped_8 rfl (lv_at hl 1 rfl) ?_
  obtain ⟨hi, h⟩ := h
  refine ml_a S hK hP (k := 32) af_32 rfl hi dX4_isTaped_9 ?_
  obtain ⟨hi, h⟩ := h
  refine ml_a S hK hP (k := 30) af_30 rfl hi dX4_isTaped_10 ?_
  refine lv_if_lt (tgt := 38) hx hb dX4_isTaped_11 (by decide) (fun c_1 => ?_) (fun c_1 => ?_)
  · replace h := h.1 c_1
    refine lv_iconst hx hb dX4_isTaped_38 kc_0 ?_
    exact hret _ _ _ _ _ _ hP hS h (vz_nar vz_0) dX4_isTaped_39
  · replace h := h.2 c_1
    refine lv_aload_n hx hb dX4_isTaped_14 rfl (lv_at hl 0 rfl) ?_
    refine mg_r S hK hP (k := 33) (by decide) (by decide) q1453 dX4_isTaped_15 ?_
    refine lv_iload_n hx hb dX4_isTaped_18 rfl (lv_at hl 1 rfl) ?_
    obtain ⟨hi, h⟩ := h
    refine ml_a S hK hP (k := 33) af_33 rfl hi dX4_isTaped_19 ?_
    refine lv_aload_n hx hb dX4_isTaped_20 rfl (lv_at hl 0 rfl) ?_
    refine mg_r S hK hP (k := 30) (by decide) (by decide) q1450 dX4_isTaped_21 ?_
    refine lv_aload_n hx hb dX4_isTaped_24 rfl (lv_at hl 0 rfl) ?_
    refine mg_r S hK hP (k := 32) (by decide) (by decide) q1452 dX4_isTaped_25 ?_
    refine lv_iload_n hx hb dX4_isTaped_28 rfl (lv_at hl 1 rfl) ?_
    obtain ⟨hi, h⟩ := h
    refine ml_a S hK hP (k := 32) af_32 rfl hi dX4_isTaped_29 ?_
    obtain ⟨hi, h⟩ := h
    refine ml_a S hK hP (k := 30) af_30 rfl hi dX4_isTaped_30 ?_
    refine lv_icmp_lt (tgt := 38) hx hb dX4_isTaped_31 (by decide) (fun c_2 => ?_) (fun c_2 => ?_)
    · replace h := h.1 c_2
      refine lv_iconst hx hb dX4_isTaped_38 kc_0 ?_
      exact hret _ _ _ _ _ _ hP hS h (vz_nar vz_0) dX4_isTaped_39
    · replace h := h.2 c_2
      refine lv_iconst hx hb dX4_isTaped_34 kc_1 ?_
      refine lv_goto (tgt := 39) hx hb dX4_isTaped_35 (by decide) ?_
      exact hret _ _ _ _ _ _ hP hS h (vz_nar vz_1) dX4_isTaped_39
def w4_wasAsked_c46 (a1 : Int32) (k2 : Int32 → MS → Prop) (Post : Int32 → MS → Prop) (x2 : Int32) (M : MS) : Prop := ∀ v_5 : Int32, v_5 = x2 + (1 : Int32) → k2 v_5 M
def w4_wasAsked_l2 (a1 : Int32) (Post : Int32 → MS → Prop) : Nat → Int32 → MS → Prop
  | 0, _, _ => False
  | n + 1, x2, M => (a1 ≤ x2 → (Post (0 : Int32) M)) ∧ (¬ (a1 ≤ x2) → ((vp_in a1 (mN 32) ∧ w4_asks x2 (ma M 32 (Int32.toNatClampNeg a1)) M (fun r_3 M_2 => (r_3 = 0 → (w4_wasAsked_c46 a1 (w4_wasAsked_l2 a1 Post n) Post x2 M_2)) ∧ (¬ (r_3 = 0) → ((vp_in x2 (mN 34) ∧ (vp_in a1 (mN 34) ∧ ((ma M_2 34 (Int32.toNatClampNeg x2)) = (ma M_2 34 (Int32.toNatClampNeg a1)) → (w4_isTaped x2 M_2 (fun r_8 M_7 => (r_8 = 0 → (w4_wasAsked_c46 a1 (w4_wasAsked_l2 a1 Post n) Post x2 M_7)) ∧ (¬ (r_8 = 0) → (Post (1 : Int32) M_7))))) ∧ (¬ ((ma M_2 34 (Int32.toNatClampNeg x2)) = (ma M_2 34 (Int32.toNatClampNeg a1))) → (w4_wasAsked_c46 a1 (w4_wasAsked_l2 a1 Post n) Post x2 M_2))))))))))
def w4_wasAsked (a1 : Int32) (M : MS) (Post : Int32 → MS → Prop) : Prop := ∃ f, w4_wasAsked_l2 a1 Post f (0 : Int32) M
abbrev rX4_wasAsked : Room := { frames := 2, cells := 0, slots := 0, locals := 43 }
theorem cdX4_wasAsked : yX4_wasAsked.cls = RX4 ∧ yX4_wasAsked.cls ≠ "java/lang/invoke/MethodHandle" ∧ yX4_wasAsked.cls ≠ "java/lang/invoke/VarHandle" ∧ (parseMethodDescriptor yX4_wasAsked.desc).map (fun d => d.parameters.length) = some 1 := by decide +kernel
set_option maxHeartbeats 4000000 in
set_option maxRecDepth 100000 in
theorem mt4_wasAsked (l : Launch) {D : va_G} {cA : Nat → ClassId} {m0 : Nat} {ad : Nat → Nat} (hA : mAd m0 ad) (a1 : Int32) (M : MS) (Post : Int32 → MS → Prop) (h : w4_wasAsked a1 M Post) : Met l yX4_wasAsked (ws_ yX4_wasAsked cX4_wasAsked 3 (some .boolean)) rX4_wasAsked (mPc [.ref m0, .int a1] D cA m0 ad M) (va_Qi Post (mB D cA m0 ad) (mF m0 ad)) 0 0 (mF m0 ad) := by
  refine mst_i (own := RX4) (by decide) rfl (Nat.le_of_ble_eq_true rfl) ?_
  intro p e s m args below meth c Q ls S hK hP hS hl hret
  have hx := S.1
  have hb := S.2.1
  have hl : lv_has ls 3 [(0, .ref m0), (1, .int a1)] := hl
  have C46 : ∀ (k2 : Int32 → MS → Prop) (K2 : (∀ (x2 : Int32) (M : MS) (H : Heap) (locs : List Loc) (ls : Array Slot), va_P D vwCl (mo cA m0 ad M) H → va_S (mF m0 ad) s.heap H locs → lv_has ls 3 [(0, .ref m0), (1, .int a1), (2, .int x2)] → k2 x2 M → W p l e rX4_wasAsked s m args below meth c H locs 0 0 Q (F0 m 2 ls []))), ∀ (x2 : Int32) (M : MS) (H : Heap) (locs : List Loc) (ls : Array Slot), va_P D vwCl (mo cA m0 ad M) H → va_S (mF m0 ad) s.heap H locs → lv_has ls 3 [(0, .ref m0), (1, .int a1), (2, .int x2)] → w4_wasAsked_c46 a1 k2 Post x2 M → W p l e rX4_wasAsked s m args below meth c H locs 0 0 Q (F0 m 46 ls []) := by
    intro k2 K2
    intro x2 M H locs ls hP hS hl h
    unfold w4_wasAsked_c46 at h
    obtain ⟨v_5, e_v_5⟩ : ∃ y : Int32, y = x2 + (1 : Int32) := ⟨_, rfl⟩
    replace h := h v_5 e_v_5
    refine lv_iinc (v := v_5) (lv' := [(2, .int v_5), (0, .ref m0), (1, .int a1)]) hx hb dX4_wasAsked_46 hl (k := 2) rfl (by rw [kc_1, e_v_5]) (by decide) rfl (fun ls hl => ?_)
    refine lv_goto (tgt := 2) hx hb dX4_wasAsked_49 (by decide) ?_
    exact K2 _ _ _ _ _ hP hS (lv_sub hl [1, 2, 0] rfl) h
  have L2 : ∀ (n : Nat) (x2 : Int32) (M : MS) (H : Heap) (locs : List Loc) (ls : Array Slot), va_P D vwCl (mo cA m0 ad M) H → va_S (mF m0 ad) s.heap H locs → lv_has ls 3 [(0, .ref m0), (1, .int a1), (2, .int x2)] → w4_wasAsked_l2 a1 Post n x2 M → W p l e rX4_wasAsked s m args below meth c H locs 0 0 Q (F0 m 2 ls []) := by
    intro n
    induction n with
    | zero => intro x2 M H locs ls hP hS hl h; rw [w4_wasAsked_l2] at h; exact h.elim
    | succ n ih =>
      intro x2 M H locs ls hP hS hl h
      rw [w4_wasAsked_l2] at h
      refine lv_iload_n hx hb dX4_wasAsked_2 rfl (lv_at hl 2 rfl) ?_
      refine lv_iload_n hx hb dX4_wasAsked_3 rfl (lv_at hl 1 rfl) ?_
      refine lv_icmp_ge (tgt := 52) hx hb dX4_wasAsked_4 (by decide) (fun c_1 => ?_) (fun c_1 => ?_)
      · replace h := h.1 c_1
        refine lv_iconst hx hb dX4_wasAsked_52 kc_0 ?_
        exact hret _ _ _ _ _ _ hP hS h (vz_nar vz_0) dX4_wasAsked_53
      · replace h := h.2 c_1
        refine lv_aload_n hx hb dX4_wasAsked_7 rfl (lv_at hl 0 rfl) ?_
        refine lv_iload_n hx hb dX4_wasAsked_8 rfl (lv_at hl 2 rfl) ?_
        refine lv_aload_n hx hb dX4_wasAsked_9 rfl (lv_at hl 0 rfl) ?_
        refine mg_r S hK hP (k := 32) (by decide) (by decide) q1452 dX4_wasAsked_10 ?_
        refine lv_iload_n hx hb dX4_wasAsked_13 rfl (lv_at hl 1 rfl) ?_
        obtain ⟨hi, h⟩ := h
        refine ml_a S hK hP (k := 32) af_32 rfl hi dX4_wasAsked_14 ?_
        refine mc_i S hK hP hS (As := [.int x2, .int (ma M 32 (Int32.toNatClampNeg a1))]) (rest := []) (mt4_asks l hA x2 (ma M 32 (Int32.toNatClampNeg a1)) M _ h) (cwV 2 S.2.2.2.2 (lw_V q1833 q1835 qs104 q145 q1836) rfl rfl rfl cdX4_asks ⟨Nat.le_of_ble_eq_true rfl, Nat.le_of_ble_eq_true rfl⟩) rfl rfl hl.1 (Nat.le_of_ble_eq_true rfl) dX4_wasAsked_15 ⟨Nat.le_refl _, Nat.le_refl _⟩ (fun r_3 M_2 H locs h hP hS => ?_)
        refine lv_if_eq (tgt := 46) hx hb dX4_wasAsked_18 (by decide) (fun c_4 => ?_) (fun c_4 => ?_)
        · replace h := h.1 c_4
          exact C46 _ ih _ _ _ _ _ hP hS (lv_sub hl [0, 1, 2] rfl) h
        · replace h := h.2 c_4
          refine lv_aload_n hx hb dX4_wasAsked_21 rfl (lv_at hl 0 rfl) ?_
          refine mg_r S hK hP (k := 34) (by decide) (by decide) q1454 dX4_wasAsked_22 ?_
          refine lv_iload_n hx hb dX4_wasAsked_25 rfl (lv_at hl 2 rfl) ?_
          obtain ⟨hi, h⟩ := h
          refine ml_a S hK hP (k := 34) af_34 rfl hi dX4_wasAsked_26 ?_
          refine lv_aload_n hx hb dX4_wasAsked_27 rfl (lv_at hl 0 rfl) ?_
          refine mg_r S hK hP (k := 34) (by decide) (by decide) q1454 dX4_wasAsked_28 ?_
          refine lv_iload_n hx hb dX4_wasAsked_31 rfl (lv_at hl 1 rfl) ?_
          obtain ⟨hi, h⟩ := h
          refine ml_a S hK hP (k := 34) af_34 rfl hi dX4_wasAsked_32 ?_
          refine lv_icmp_ne (tgt := 46) hx hb dX4_wasAsked_33 (by decide) (fun c_6 => ?_) (fun c_6 => ?_)
          · replace h := h.2 c_6
            exact C46 _ ih _ _ _ _ _ hP hS (lv_sub hl [0, 1, 2] rfl) h
          · replace h := h.1 c_6
            refine lv_aload_n hx hb dX4_wasAsked_36 rfl (lv_at hl 0 rfl) ?_
            refine lv_iload_n hx hb dX4_wasAsked_37 rfl (lv_at hl 2 rfl) ?_
            refine mc_i S hK hP hS (As := [.int x2]) (rest := []) (mt4_isTaped l hA x2 M_2 _ h) (cwV 1 S.2.2.2.2 (lw_V q1948 q1950 qs117 q145 q1951) rfl rfl rfl cdX4_isTaped ⟨Nat.le_of_ble_eq_true rfl, Nat.le_of_ble_eq_true rfl⟩) rfl rfl hl.1 (Nat.le_of_ble_eq_true rfl) dX4_wasAsked_38 ⟨Nat.le_refl _, Nat.le_refl _⟩ (fun r_8 M_7 H locs h hP hS => ?_)
            refine lv_if_eq (tgt := 46) hx hb dX4_wasAsked_41 (by decide) (fun c_9 => ?_) (fun c_9 => ?_)
            · replace h := h.1 c_9
              exact C46 _ ih _ _ _ _ _ hP hS (lv_sub hl [0, 1, 2] rfl) h
            · replace h := h.2 c_9
              refine lv_iconst hx hb dX4_wasAsked_44 kc_1 ?_
              exact hret _ _ _ _ _ _ hP hS h (vz_nar vz_1) dX4_wasAsked_45
  unfold w4_wasAsked at h
  refine lv_iconst hx hb dX4_wasAsked_0 kc_0 ?_
  refine lv_istore_n (lv' := [(2, .int (0 : Int32)), (0, .ref m0), (1, .int a1)]) hx hb dX4_wasAsked_1 rfl hl (by decide) rfl (fun ls hl => ?_)
  obtain ⟨f, h⟩ := h
  exact L2 f _ _ _ _ _ hP hS (lv_sub hl [1, 2, 0] rfl) h
def w4_supposed_c123 (a1 : Int32) (k36 : Int32 → Int32 → MS → Prop) (Post : Int32 → MS → Prop) (x2 : Int32) (x3 : Int32) (M : MS) : Prop := ∀ v_10 : Int32, v_10 = x3 + (1 : Int32) → k36 x2 v_10 M
def w4_supposed_l36 (a1 : Int32) (Post : Int32 → MS → Prop) : Nat → Int32 → Int32 → MS → Prop
  | 0, _, _, _ => False
  | n + 1, x2, x3, M => ((mi M 13) ≤ x3 → (Post x2 M)) ∧ (¬ ((mi M 13) ≤ x3) → (w4_isHeardWord x3 M (fun r_8 M_7 => (r_8 = 0 → (w4_supposed_c123 a1 (w4_supposed_l36 a1 Post n) Post x2 x3 M_7)) ∧ (¬ (r_8 = 0) → ((vp_in x3 (mN 32) ∧ ((ma M_7 32 (Int32.toNatClampNeg x3)) = a1 → (w4_isTaped x3 M_7 (fun r_13 M_12 => (r_13 = 0 → (w4_supposed_c123 a1 (w4_supposed_l36 a1 Post n) Post x2 x3 M_12)) ∧ (¬ (r_13 = 0) → (w4_isRight x3 M_12 (fun r_16 M_15 => (r_16 = 0 → (w4_supposed_c123 a1 (w4_supposed_l36 a1 Post n) Post x2 x3 M_15)) ∧ (¬ (r_16 = 0) → ((vp_in x3 (mN 34) ∧ (vp_in (ma M_15 34 (Int32.toNatClampNeg x3)) (mN 25) ∧ (vp_in a1 (mN 30) ∧ w4_had (ma M_15 25 (Int32.toNatClampNeg (ma M_15 34 (Int32.toNatClampNeg x3)))) (ma M_15 30 (Int32.toNatClampNeg a1)) (fun r_18 => (r_18 = 0 → (w4_supposed_c123 a1 (w4_supposed_l36 a1 Post n) Post x2 x3 M_15)) ∧ (¬ (r_18 = 0) → (w4_wasAsked x3 M_15 (fun r_21 M_20 => (r_21 = 0 → ((vp_in x3 (mN 34) ∧ ∀ v_23 : Int32, v_23 = x2 ||| ((1 : Int32) <<< ((ma M_20 34 (Int32.toNatClampNeg x3)) &&& (31 : Int32))) → w4_supposed_c123 a1 (w4_supposed_l36 a1 Post n) Post v_23 x3 M_20))) ∧ (¬ (r_21 = 0) → (w4_supposed_c123 a1 (w4_supposed_l36 a1 Post n) Post x2 x3 M_20))))))))))))))))) ∧ (¬ ((ma M_7 32 (Int32.toNatClampNeg x3)) = a1) → (w4_supposed_c123 a1 (w4_supposed_l36 a1 Post n) Post x2 x3 M_7))))))))
def w4_supposed (a1 : Int32) (M : MS) (Post : Int32 → MS → Prop) : Prop := ∀ M_1 : MS, M_1 = si M 2 (0 : Int32) → w4_isTeller a1 M_1 (fun r_3 M_2 => (r_3 = 0 → (Post (-1 : Int32) M_2)) ∧ (¬ (r_3 = 0) → ((vp_in a1 (mN 30) ∧ (vp_in a1 (mN 28) ∧ ((ma M_2 28 (Int32.toNatClampNeg a1)) < (ma M_2 30 (Int32.toNatClampNeg a1)) → (∃ f, w4_supposed_l36 a1 Post f (0 : Int32) (0 : Int32) M_2)) ∧ (¬ ((ma M_2 28 (Int32.toNatClampNeg a1)) < (ma M_2 30 (Int32.toNatClampNeg a1))) → (Post (0 : Int32) M_2)))))))
abbrev rX4_supposed : Room := { frames := 3, cells := 0, slots := 0, locals := 65 }
theorem cdX4_supposed : yX4_supposed.cls = RX4 ∧ yX4_supposed.cls ≠ "java/lang/invoke/MethodHandle" ∧ yX4_supposed.cls ≠ "java/lang/invoke/VarHandle" ∧ (parseMethodDescriptor yX4_supposed.desc).map (fun d => d.parameters.length) = some 1 := by decide +kernel
set_option maxHeartbeats 4000000 in
set_option maxRecDepth 100000 in
theorem mt4_supposed (l : Launch) {D : va_G} {cA : Nat → ClassId} {m0 : Nat} {ad : Nat → Nat} (hA : mAd m0 ad) (a1 : Int32) (M : MS) (Post : Int32 → MS → Prop) (h : w4_supposed a1 M Post) : Met l yX4_supposed (ws_ yX4_supposed cX4_supposed 4 (some .int)) rX4_supposed (mPc [.ref m0, .int a1] D cA m0 ad M) (va_Qi Post (mB D cA m0 ad) (mF m0 ad)) 0 0 (mF m0 ad) := by
  refine mst_i (own := RX4) (by decide) rfl (Nat.le_of_ble_eq_true rfl) ?_
  intro p e s m args below meth c Q ls S hK hP hS hl hret
  have hx := S.1
  have hb := S.2.1
  have hl : lv_has ls 4 [(0, .ref m0), (1, .int a1)] := hl
  have C123 : ∀ (k36 : Int32 → Int32 → MS → Prop) (K36 : (∀ (x2 : Int32) (x3 : Int32) (M : MS) (H : Heap) (locs : List Loc) (ls : Array Slot), va_P D vwCl (mo cA m0 ad M) H → va_S (mF m0 ad) s.heap H locs → lv_has ls 4 [(0, .ref m0), (1, .int a1), (2, .int x2), (3, .int x3)] → k36 x2 x3 M → W p l e rX4_supposed s m args below meth c H locs 0 0 Q (F0 m 36 ls []))), ∀ (x2 : Int32) (x3 : Int32) (M : MS) (H : Heap) (locs : List Loc) (ls : Array Slot), va_P D vwCl (mo cA m0 ad M) H → va_S (mF m0 ad) s.heap H locs → lv_has ls 4 [(0, .ref m0), (1, .int a1), (2, .int x2), (3, .int x3)] → w4_supposed_c123 a1 k36 Post x2 x3 M → W p l e rX4_supposed s m args below meth c H locs 0 0 Q (F0 m 123 ls []) := by
    intro k36 K36
    intro x2 x3 M H locs ls hP hS hl h
    unfold w4_supposed_c123 at h
    obtain ⟨v_10, e_v_10⟩ : ∃ y : Int32, y = x3 + (1 : Int32) := ⟨_, rfl⟩
    replace h := h v_10 e_v_10
    refine lv_iinc (v := v_10) (lv' := [(3, .int v_10), (0, .ref m0), (1, .int a1), (2, .int x2)]) hx hb dX4_supposed_123 hl (k := 3) rfl (by rw [kc_1, e_v_10]) (by decide) rfl (fun ls hl => ?_)
    refine lv_goto (tgt := 36) hx hb dX4_supposed_126 (by decide) ?_
    exact K36 _ _ _ _ _ _ hP hS (lv_sub hl [1, 2, 3, 0] rfl) h
  have L36 : ∀ (n : Nat) (x2 : Int32) (x3 : Int32) (M : MS) (H : Heap) (locs : List Loc) (ls : Array Slot), va_P D vwCl (mo cA m0 ad M) H → va_S (mF m0 ad) s.heap H locs → lv_has ls 4 [(0, .ref m0), (1, .int a1), (2, .int x2), (3, .int x3)] → w4_supposed_l36 a1 Post n x2 x3 M → W p l e rX4_supposed s m args below meth c H locs 0 0 Q (F0 m 36 ls []) := by
    intro n
    induction n with
    | zero => intro x2 x3 M H locs ls hP hS hl h; rw [w4_supposed_l36] at h; exact h.elim
    | succ n ih =>
      intro x2 x3 M H locs ls hP hS hl h
      rw [w4_supposed_l36] at h
      refine lv_iload_n hx hb dX4_supposed_36 rfl (lv_at hl 3 rfl) ?_
      refine lv_aload_n hx hb dX4_supposed_37 rfl (lv_at hl 0 rfl) ?_
      refine mg_i S hK hP (k := 13) (by decide) (by decide) q1433 dX4_supposed_38 ?_
      refine lv_icmp_ge (tgt := 129) hx hb dX4_supposed_41 (by decide) (fun c_6 => ?_) (fun c_6 => ?_)
      · replace h := h.1 c_6
        refine lv_iload_n hx hb dX4_supposed_129 rfl (lv_at hl 2 rfl) ?_
        exact hret _ _ _ _ _ _ hP hS h rfl dX4_supposed_130
      · replace h := h.2 c_6
        refine lv_aload_n hx hb dX4_supposed_44 rfl (lv_at hl 0 rfl) ?_
        refine lv_iload_n hx hb dX4_supposed_45 rfl (lv_at hl 3 rfl) ?_
        refine mc_i S hK hP hS (As := [.int x3]) (rest := []) (mt4_isHeardWord l hA x3 M _ h) (cwV 1 S.2.2.2.2 (lw_V q1806 q1808 qs98 q145 q1809) rfl rfl rfl cdX4_isHeardWord ⟨Nat.le_of_ble_eq_true rfl, Nat.le_of_ble_eq_true rfl⟩) rfl rfl hl.1 (Nat.le_of_ble_eq_true rfl) dX4_supposed_46 ⟨Nat.le_refl _, Nat.le_refl _⟩ (fun r_8 M_7 H locs h hP hS => ?_)
        refine lv_if_eq (tgt := 123) hx hb dX4_supposed_49 (by decide) (fun c_9 => ?_) (fun c_9 => ?_)
        · replace h := h.1 c_9
          exact C123 _ ih _ _ _ _ _ _ hP hS (lv_sub hl [0, 1, 2, 3] rfl) h
        · replace h := h.2 c_9
          refine lv_aload_n hx hb dX4_supposed_52 rfl (lv_at hl 0 rfl) ?_
          refine mg_r S hK hP (k := 32) (by decide) (by decide) q1452 dX4_supposed_53 ?_
          refine lv_iload_n hx hb dX4_supposed_56 rfl (lv_at hl 3 rfl) ?_
          obtain ⟨hi, h⟩ := h
          refine ml_a S hK hP (k := 32) af_32 rfl hi dX4_supposed_57 ?_
          refine lv_iload_n hx hb dX4_supposed_58 rfl (lv_at hl 1 rfl) ?_
          refine lv_icmp_ne (tgt := 123) hx hb dX4_supposed_59 (by decide) (fun c_11 => ?_) (fun c_11 => ?_)
          · replace h := h.2 c_11
            exact C123 _ ih _ _ _ _ _ _ hP hS (lv_sub hl [0, 1, 2, 3] rfl) h
          · replace h := h.1 c_11
            refine lv_aload_n hx hb dX4_supposed_62 rfl (lv_at hl 0 rfl) ?_
            refine lv_iload_n hx hb dX4_supposed_63 rfl (lv_at hl 3 rfl) ?_
            refine mc_i S hK hP hS (As := [.int x3]) (rest := []) (mt4_isTaped l hA x3 M_7 _ h) (cwV 1 S.2.2.2.2 (lw_V q1948 q1950 qs117 q145 q1951) rfl rfl rfl cdX4_isTaped ⟨Nat.le_of_ble_eq_true rfl, Nat.le_of_ble_eq_true rfl⟩) rfl rfl hl.1 (Nat.le_of_ble_eq_true rfl) dX4_supposed_64 ⟨Nat.le_refl _, Nat.le_refl _⟩ (fun r_13 M_12 H locs h hP hS => ?_)
            refine lv_if_eq (tgt := 123) hx hb dX4_supposed_67 (by decide) (fun c_14 => ?_) (fun c_14 => ?_)
            · replace h := h.1 c_14
              exact C123 _ ih _ _ _ _ _ _ hP hS (lv_sub hl [0, 1, 2, 3] rfl) h
            · replace h := h.2 c_14
              refine lv_aload_n hx hb dX4_supposed_70 rfl (lv_at hl 0 rfl) ?_
              refine lv_iload_n hx hb dX4_supposed_71 rfl (lv_at hl 3 rfl) ?_
              refine mc_i S hK hP hS (As := [.int x3]) (rest := []) (mt4_isRight l hA x3 M_12 _ h) (cwV 1 S.2.2.2.2 (lw_V q1814 q1816 qs100 q145 q1817) rfl rfl rfl cdX4_isRight ⟨Nat.le_of_ble_eq_true rfl, Nat.le_of_ble_eq_true rfl⟩) rfl rfl hl.1 (Nat.le_of_ble_eq_true rfl) dX4_supposed_72 ⟨Nat.le_refl _, Nat.le_refl _⟩ (fun r_16 M_15 H locs h hP hS => ?_)
              refine lv_if_eq (tgt := 123) hx hb dX4_supposed_75 (by decide) (fun c_17 => ?_) (fun c_17 => ?_)
              · replace h := h.1 c_17
                exact C123 _ ih _ _ _ _ _ _ hP hS (lv_sub hl [0, 1, 2, 3] rfl) h
              · replace h := h.2 c_17
                refine lv_aload_n hx hb dX4_supposed_78 rfl (lv_at hl 0 rfl) ?_
                refine mg_r S hK hP (k := 25) (by decide) (by decide) q1445 dX4_supposed_79 ?_
                refine lv_aload_n hx hb dX4_supposed_82 rfl (lv_at hl 0 rfl) ?_
                refine mg_r S hK hP (k := 34) (by decide) (by decide) q1454 dX4_supposed_83 ?_
                refine lv_iload_n hx hb dX4_supposed_86 rfl (lv_at hl 3 rfl) ?_
                obtain ⟨hi, h⟩ := h
                refine ml_a S hK hP (k := 34) af_34 rfl hi dX4_supposed_87 ?_
                obtain ⟨hi, h⟩ := h
                refine ml_a S hK hP (k := 25) af_25 rfl hi dX4_supposed_88 ?_
                refine lv_aload_n hx hb dX4_supposed_89 rfl (lv_at hl 0 rfl) ?_
                refine mg_r S hK hP (k := 30) (by decide) (by decide) q1450 dX4_supposed_90 ?_
                refine lv_iload_n hx hb dX4_supposed_93 rfl (lv_at hl 1 rfl) ?_
                obtain ⟨hi, h⟩ := h
                refine ml_a S hK hP (k := 30) af_30 rfl hi dX4_supposed_94 ?_
                refine sc_i S (As := [.int (ma M_15 25 (Int32.toNatClampNeg (ma M_15 34 (Int32.toNatClampNeg x3)))), .int (ma M_15 30 (Int32.toNatClampNeg a1))]) (rest := []) (mt4_had l (ma M_15 25 (Int32.toNatClampNeg (ma M_15 34 (Int32.toNatClampNeg x3)))) (ma M_15 30 (Int32.toNatClampNeg a1)) _ h) (va_cwS 2 S.2.2.2.2 (lw_S q1818 q1819 q145 q1820) rfl rfl rfl cdX4_had ⟨Nat.le_of_ble_eq_true rfl, Nat.le_of_ble_eq_true rfl⟩) rfl rfl hl.1 (Nat.le_of_ble_eq_true rfl) dX4_supposed_95 ⟨Nat.le_refl _, Nat.le_refl _⟩ (fun r_18 h => ?_)
                refine lv_if_eq (tgt := 123) hx hb dX4_supposed_98 (by decide) (fun c_19 => ?_) (fun c_19 => ?_)
                · replace h := h.1 c_19
                  exact C123 _ ih _ _ _ _ _ _ hP hS (lv_sub hl [0, 1, 2, 3] rfl) h
                · replace h := h.2 c_19
                  refine lv_aload_n hx hb dX4_supposed_101 rfl (lv_at hl 0 rfl) ?_
                  refine lv_iload_n hx hb dX4_supposed_102 rfl (lv_at hl 3 rfl) ?_
                  refine mc_i S hK hP hS (As := [.int x3]) (rest := []) (mt4_wasAsked l hA x3 M_15 _ h) (cwV 1 S.2.2.2.2 (lw_V q1952 q1954 qs118 q145 q1955) rfl rfl rfl cdX4_wasAsked ⟨Nat.le_of_ble_eq_true rfl, Nat.le_of_ble_eq_true rfl⟩) rfl rfl hl.1 (Nat.le_of_ble_eq_true rfl) dX4_supposed_103 ⟨Nat.le_refl _, Nat.le_refl _⟩ (fun r_21 M_20 H locs h hP hS => ?_)
                  refine lv_if_eq (tgt := 112) hx hb dX4_supposed_106 (by decide) (fun c_22 => ?_) (fun c_22 => ?_)
                  · replace h := h.1 c_22
                    refine lv_iload_n hx hb dX4_supposed_112 rfl (lv_at hl 2 rfl) ?_
                    refine lv_iconst hx hb dX4_supposed_113 kc_1 ?_
                    refine lv_aload_n hx hb dX4_supposed_114 rfl (lv_at hl 0 rfl) ?_
                    refine mg_r S hK hP (k := 34) (by decide) (by decide) q1454 dX4_supposed_115 ?_
                    refine lv_iload_n hx hb dX4_supposed_118 rfl (lv_at hl 3 rfl) ?_
                    obtain ⟨hi, h⟩ := h
                    refine ml_a S hK hP (k := 34) af_34 rfl hi dX4_supposed_119 ?_
                    refine lv_ishl hx hb dX4_supposed_120 ?_
                    refine lv_ior hx hb dX4_supposed_121 ?_
                    refine lv_topi (fun v_23 e_v_23 => ?_)
                    replace h := h v_23 e_v_23
                    refine lv_istore_n (lv' := [(2, .int v_23), (0, .ref m0), (1, .int a1), (3, .int x3)]) hx hb dX4_supposed_122 rfl hl (by decide) rfl (fun ls hl => ?_)
                    exact C123 _ ih _ _ _ _ _ _ hP hS (lv_sub hl [1, 2, 0, 3] rfl) h
                  · replace h := h.2 c_22
                    refine lv_goto (tgt := 123) hx hb dX4_supposed_109 (by decide) ?_
                    exact C123 _ ih _ _ _ _ _ _ hP hS (lv_sub hl [0, 1, 2, 3] rfl) h
  unfold w4_supposed at h
  refine lv_aload_n hx hb dX4_supposed_0 rfl (lv_at hl 0 rfl) ?_
  refine lv_iconst hx hb dX4_supposed_1 kc_0 ?_
  refine mp_i S hK hA hP hS (k := 2) (by decide) (Or.inl rfl) rfl (Or.inl ⟨rfl, rfl⟩) q1422 dX4_supposed_2 (fun M_1 H locs e_M_1 hP hS => ?_)
  replace h := h M_1 e_M_1
  refine lv_aload_n hx hb dX4_supposed_5 rfl (lv_at hl 0 rfl) ?_
  refine lv_iload_n hx hb dX4_supposed_6 rfl (lv_at hl 1 rfl) ?_
  refine mc_i S hK hP hS (As := [.int a1]) (rest := []) (mt4_isTeller l hA a1 M_1 _ h) (cwV 1 S.2.2.2.2 (lw_V q1771 q1773 qs95 q145 q1774) rfl rfl rfl cdX4_isTeller ⟨Nat.le_of_ble_eq_true rfl, Nat.le_of_ble_eq_true rfl⟩) rfl rfl hl.1 (Nat.le_of_ble_eq_true rfl) dX4_supposed_7 ⟨Nat.le_refl _, Nat.le_refl _⟩ (fun r_3 M_2 H locs h hP hS => ?_)
  refine lv_if_ne (tgt := 15) hx hb dX4_supposed_10 (by decide) (fun c_4 => ?_) (fun c_4 => ?_)
  · replace h := h.2 c_4
    refine lv_iconst hx hb dX4_supposed_15 kc_0 ?_
    refine lv_istore_n (lv' := [(2, .int (0 : Int32)), (0, .ref m0), (1, .int a1)]) hx hb dX4_supposed_16 rfl hl (by decide) rfl (fun ls hl => ?_)
    refine lv_aload_n hx hb dX4_supposed_17 rfl (lv_at hl 1 rfl) ?_
    refine mg_r S hK hP (k := 30) (by decide) (by decide) q1450 dX4_supposed_18 ?_
    refine lv_iload_n hx hb dX4_supposed_21 rfl (lv_at hl 2 rfl) ?_
    obtain ⟨hi, h⟩ := h
    refine ml_a S hK hP (k := 30) af_30 rfl hi dX4_supposed_22 ?_
    refine lv_aload_n hx hb dX4_supposed_23 rfl (lv_at hl 1 rfl) ?_
    refine mg_r S hK hP (k := 28) (by decide) (by decide) q1448 dX4_supposed_24 ?_
    refine lv_iload_n hx hb dX4_supposed_27 rfl (lv_at hl 2 rfl) ?_
    obtain ⟨hi, h⟩ := h
    refine ml_a S hK hP (k := 28) af_28 rfl hi dX4_supposed_28 ?_
    refine lv_icmp_gt (tgt := 34) hx hb dX4_supposed_29 (by decide) (fun c_5 => ?_) (fun c_5 => ?_)
    · replace h := h.1 c_5
      refine lv_iconst hx hb dX4_supposed_34 kc_0 ?_
      refine lv_istore_n (lv' := [(3, .int (0 : Int32)), (2, .int (0 : Int32)), (0, .ref m0), (1, .int a1)]) hx hb dX4_supposed_35 rfl hl (by decide) rfl (fun ls hl => ?_)
      obtain ⟨f, h⟩ := h
      exact L36 f _ _ _ _ _ _ hP hS (lv_sub hl [2, 3, 1, 0] rfl) h
    · replace h := h.2 c_5
      refine lv_iconst hx hb dX4_supposed_32 kc_0 ?_
      exact hret _ _ _ _ _ _ hP hS h rfl dX4_supposed_33
  · replace h := h.1 c_4
    refine lv_iconst hx hb dX4_supposed_13 kc_m1 ?_
    exact hret _ _ _ _ _ _ hP hS h rfl dX4_supposed_14
def w4_hasLine (a1 : Int32) (M : MS) (Post : Int32 → MS → Prop) : Prop := (vp_in a1 (mN 40) ∧ (vp_in a1 (mN 39) ∧ ((ma M 40 (Int32.toNatClampNeg a1)) ≤ (ma M 39 (Int32.toNatClampNeg a1)) → (Post (0 : Int32) M)) ∧ (¬ ((ma M 40 (Int32.toNatClampNeg a1)) ≤ (ma M 39 (Int32.toNatClampNeg a1))) → (Post (1 : Int32) M))))
abbrev rX4_hasLine : Room := { frames := 0, cells := 0, slots := 0, locals := 0 }
theorem cdX4_hasLine : yX4_hasLine.cls = RX4 ∧ yX4_hasLine.cls ≠ "java/lang/invoke/MethodHandle" ∧ yX4_hasLine.cls ≠ "java/lang/invoke/VarHandle" ∧ (parseMethodDescriptor yX4_hasLine.desc).map (fun d => d.parameters.length) = some 1 := by decide +kernel
set_option maxHeartbeats 4000000 in
set_option maxRecDepth 100000 in
theorem mt4_hasLine (l : Launch) {D : va_G} {cA : Nat → ClassId} {m0 : Nat} {ad : Nat → Nat} (hA : mAd m0 ad) (a1 : Int32) (M : MS) (Post : Int32 → MS → Prop) (h : w4_hasLine a1 M Post) : Met l yX4_hasLine (ws_ yX4_hasLine cX4_hasLine 2 (some .boolean)) rX4_hasLine (mPc [.ref m0, .int a1] D cA m0 ad M) (va_Qi Post (mB D cA m0 ad) (mF m0 ad)) 0 0 (mF m0 ad) := by
  refine mst_i (own := RX4) (by decide) rfl (Nat.le_of_ble_eq_true rfl) ?_
  intro p e s m args below meth c Q ls S hK hP hS hl hret
  have hx := S.1
  have hb := S.2.1
  have hl : lv_has ls 2 [(0, .ref m0), (1, .int a1)] := hl
  unfold w4_hasLine at h
  refine lv_aload_n hx hb dX4_hasLine_0 rfl (lv_at hl 0 rfl) ?_
  refine mg_r S hK hP (k := 40) (by decide) (by decide) q1460 dX4_hasLine_1 ?_
  refine lv_iload_n hx hb dX4_hasLine_4 rfl (lv_at hl 1 rfl) ?_
  obtain ⟨hi, h⟩ := h
  refine ml_a S hK hP (k := 40) af_40 rfl hi dX4_hasLine_5 ?_
  refine lv_aload_n hx hb dX4_hasLine_6 rfl (lv_at hl 0 rfl) ?_
  refine mg_r S hK hP (k := 39) (by decide) (by decide) q1459 dX4_hasLine_7 ?_
  refine lv_iload_n hx hb dX4_hasLine_10 rfl (lv_at hl 1 rfl) ?_
  obtain ⟨hi, h⟩ := h
  refine ml_a S hK hP (k := 39) af_39 rfl hi dX4_hasLine_11 ?_
  refine lv_icmp_le (tgt := 19) hx hb dX4_hasLine_12 (by decide) (fun c_1 => ?_) (fun c_1 => ?_)
  · replace h := h.1 c_1
    refine lv_iconst hx hb dX4_hasLine_19 kc_0 ?_
    exact hret _ _ _ _ _ _ hP hS h (vz_nar vz_0) dX4_hasLine_20
  · replace h := h.2 c_1
    refine lv_iconst hx hb dX4_hasLine_15 kc_1 ?_
    refine lv_goto (tgt := 20) hx hb dX4_hasLine_16 (by decide) ?_
    exact hret _ _ _ _ _ _ hP hS h (vz_nar vz_1) dX4_hasLine_20
def w4_noNames_l2 (a1 : Int32) (Post : MS → Prop) : Nat → Int32 → MS → Prop
  | 0, _, _ => False
  | n + 1, x2, M => ((10 : Int32) ≤ x2 → ((vp_in a1 (mN 27) ∧ (vp_in (0 : Int32) (mN 62) ∧ ∀ M_2 : MS, M_2 = sb M 62 (Int32.toNatClampNeg (0 : Int32)) ((ma M 27 (Int32.toNatClampNeg a1)).toInt64) → Post M_2)))) ∧ (¬ ((10 : Int32) ≤ x2) → ((vp_in x2 (mN 62) ∧ ∀ M_3 : MS, M_3 = sb M 62 (Int32.toNatClampNeg x2) (0 : Int64) → ∀ v_4 : Int32, v_4 = x2 + (1 : Int32) → w4_noNames_l2 a1 Post n v_4 M_3)))
def w4_noNames (a1 : Int32) (M : MS) (Post : MS → Prop) : Prop := ∃ f, w4_noNames_l2 a1 Post f (0 : Int32) M
abbrev rX4_noNames : Room := { frames := 0, cells := 0, slots := 0, locals := 0 }
theorem cdX4_noNames : yX4_noNames.cls = RX4 ∧ yX4_noNames.cls ≠ "java/lang/invoke/MethodHandle" ∧ yX4_noNames.cls ≠ "java/lang/invoke/VarHandle" ∧ (parseMethodDescriptor yX4_noNames.desc).map (fun d => d.parameters.length) = some 1 := by decide +kernel
set_option maxHeartbeats 4000000 in
set_option maxRecDepth 100000 in
theorem mt4_noNames (l : Launch) {D : va_G} {cA : Nat → ClassId} {m0 : Nat} {ad : Nat → Nat} (hA : mAd m0 ad) (a1 : Int32) (M : MS) (Post : MS → Prop) (h : w4_noNames a1 M Post) : Met l yX4_noNames (ws_ yX4_noNames cX4_noNames 3 none) rX4_noNames (mPc [.ref m0, .int a1] D cA m0 ad M) (va_Qv Post (mB D cA m0 ad) (mF m0 ad)) 0 0 (mF m0 ad) := by
  refine mst_v (own := RX4) (by decide) rfl (Nat.le_of_ble_eq_true rfl) ?_
  intro p e s m args below meth c Q ls S hK hP hS hl hret
  have hx := S.1
  have hb := S.2.1
  have hl : lv_has ls 3 [(0, .ref m0), (1, .int a1)] := hl
  have L2 : ∀ (n : Nat) (x2 : Int32) (M : MS) (H : Heap) (locs : List Loc) (ls : Array Slot), va_P D vwCl (mo cA m0 ad M) H → va_S (mF m0 ad) s.heap H locs → lv_has ls 3 [(0, .ref m0), (1, .int a1), (2, .int x2)] → w4_noNames_l2 a1 Post n x2 M → W p l e rX4_noNames s m args below meth c H locs 0 0 Q (F0 m 2 ls []) := by
    intro n
    induction n with
    | zero => intro x2 M H locs ls hP hS hl h; rw [w4_noNames_l2] at h; exact h.elim
    | succ n ih =>
      intro x2 M H locs ls hP hS hl h
      rw [w4_noNames_l2] at h
      refine lv_iload_n hx hb dX4_noNames_2 rfl (lv_at hl 2 rfl) ?_
      refine lv_bipush hx hb dX4_noNames_3 kb_10 ?_
      refine lv_icmp_ge (tgt := 21) hx hb dX4_noNames_5 (by decide) (fun c_1 => ?_) (fun c_1 => ?_)
      · replace h := h.1 c_1
        refine lv_aload_n hx hb dX4_noNames_21 rfl (lv_at hl 0 rfl) ?_
        refine mg_r S hK hP (k := 62) (by decide) (by decide) q1482 dX4_noNames_22 ?_
        refine lv_iconst hx hb dX4_noNames_25 kc_0 ?_
        refine lv_aload_n hx hb dX4_noNames_26 rfl (lv_at hl 0 rfl) ?_
        refine mg_r S hK hP (k := 27) (by decide) (by decide) q1447 dX4_noNames_27 ?_
        refine lv_iload_n hx hb dX4_noNames_30 rfl (lv_at hl 1 rfl) ?_
        obtain ⟨hi, h⟩ := h
        refine ml_a S hK hP (k := 27) af_27 rfl hi dX4_noNames_31 ?_
        refine lv_i2l hx hb dX4_noNames_32 rfl ?_
        obtain ⟨hi, h⟩ := h
        refine ms_b S hK hA hP hS (k := 62) af_62 rfl hi dX4_noNames_33 (fun M_2 H locs e_M_2 hP hS => ?_)
        replace h := h M_2 e_M_2
        exact hret _ _ _ _ _ hP hS h dX4_noNames_34
      · replace h := h.2 c_1
        refine lv_aload_n hx hb dX4_noNames_8 rfl (lv_at hl 0 rfl) ?_
        refine mg_r S hK hP (k := 62) (by decide) (by decide) q1482 dX4_noNames_9 ?_
        refine lv_iload_n hx hb dX4_noNames_12 rfl (lv_at hl 2 rfl) ?_
        refine lv_lconst (v := 0) hx hb dX4_noNames_13 rfl ?_
        obtain ⟨hi, h⟩ := h
        refine ms_b S hK hA hP hS (k := 62) af_62 rfl hi dX4_noNames_14 (fun M_3 H locs e_M_3 hP hS => ?_)
        replace h := h M_3 e_M_3
        obtain ⟨v_4, e_v_4⟩ : ∃ y : Int32, y = x2 + (1 : Int32) := ⟨_, rfl⟩
        replace h := h v_4 e_v_4
        refine lv_iinc (v := v_4) (lv' := [(2, .int v_4), (0, .ref m0), (1, .int a1)]) hx hb dX4_noNames_15 hl (k := 2) rfl (by rw [kc_1, e_v_4]) (by decide) rfl (fun ls hl => ?_)
        refine lv_goto (tgt := 2) hx hb dX4_noNames_18 (by decide) ?_
        exact ih _ _ _ _ _ hP hS (lv_sub hl [1, 2, 0] rfl) h
  unfold w4_noNames at h
  refine lv_iconst hx hb dX4_noNames_0 kc_0 ?_
  refine lv_istore_n (lv' := [(2, .int (0 : Int32)), (0, .ref m0), (1, .int a1)]) hx hb dX4_noNames_1 rfl hl (by decide) rfl (fun ls hl => ?_)
  obtain ⟨f, h⟩ := h
  exact L2 f _ _ _ _ _ hP hS (lv_sub hl [1, 2, 0] rfl) h
def w4_offUpTo (a1 : Int32) (a2 : Int32) (M : MS) (Post : Int32 → MS → Prop) : Prop := w4_latestOff a1 a2 M (fun r_2 M_1 => (vp_in a1 (mN 28) ∧ ∀ v_3 : Int32, v_3 = (r_2 - (ma M_1 28 (Int32.toNatClampNeg a1))) + (1 : Int32) → (0 ≤ v_3 → (Post v_3 M_1)) ∧ (¬ (0 ≤ v_3) → (Post (0 : Int32) M_1))))
abbrev rX4_offUpTo : Room := { frames := 1, cells := 0, slots := 0, locals := 22 }
theorem cdX4_offUpTo : yX4_offUpTo.cls = RX4 ∧ yX4_offUpTo.cls ≠ "java/lang/invoke/MethodHandle" ∧ yX4_offUpTo.cls ≠ "java/lang/invoke/VarHandle" ∧ (parseMethodDescriptor yX4_offUpTo.desc).map (fun d => d.parameters.length) = some 2 := by decide +kernel
set_option maxHeartbeats 4000000 in
set_option maxRecDepth 100000 in
theorem mt4_offUpTo (l : Launch) {D : va_G} {cA : Nat → ClassId} {m0 : Nat} {ad : Nat → Nat} (hA : mAd m0 ad) (a1 : Int32) (a2 : Int32) (M : MS) (Post : Int32 → MS → Prop) (h : w4_offUpTo a1 a2 M Post) : Met l yX4_offUpTo (ws_ yX4_offUpTo cX4_offUpTo 4 (some .int)) rX4_offUpTo (mPc [.ref m0, .int a1, .int a2] D cA m0 ad M) (va_Qi Post (mB D cA m0 ad) (mF m0 ad)) 0 0 (mF m0 ad) := by
  refine mst_i (own := RX4) (by decide) rfl (Nat.le_of_ble_eq_true rfl) ?_
  intro p e s m args below meth c Q ls S hK hP hS hl hret
  have hx := S.1
  have hb := S.2.1
  have hl : lv_has ls 4 [(0, .ref m0), (1, .int a1), (2, .int a2)] := hl
  unfold w4_offUpTo at h
  refine lv_aload_n hx hb dX4_offUpTo_0 rfl (lv_at hl 0 rfl) ?_
  refine lv_iload_n hx hb dX4_offUpTo_1 rfl (lv_at hl 1 rfl) ?_
  refine lv_iload_n hx hb dX4_offUpTo_2 rfl (lv_at hl 2 rfl) ?_
  refine mc_i S hK hP hS (As := [.int a1, .int a2]) (rest := []) (mt4_latestOff l hA a1 a2 M _ h) (cwV 2 S.2.2.2.2 (lw_V q1841 q1843 qs106 q145 q1844) rfl rfl rfl cdX4_latestOff ⟨Nat.le_of_ble_eq_true rfl, Nat.le_of_ble_eq_true rfl⟩) rfl rfl hl.1 (Nat.le_of_ble_eq_true rfl) dX4_offUpTo_3 ⟨Nat.le_refl _, Nat.le_refl _⟩ (fun r_2 M_1 H locs h hP hS => ?_)
  refine lv_aload_n hx hb dX4_offUpTo_6 rfl (lv_at hl 0 rfl) ?_
  refine mg_r S hK hP (k := 28) (by decide) (by decide) q1448 dX4_offUpTo_7 ?_
  refine lv_iload_n hx hb dX4_offUpTo_10 rfl (lv_at hl 1 rfl) ?_
  obtain ⟨hi, h⟩ := h
  refine ml_a S hK hP (k := 28) af_28 rfl hi dX4_offUpTo_11 ?_
  refine lv_isub hx hb dX4_offUpTo_12 ?_
  refine lv_iconst hx hb dX4_offUpTo_13 kc_1 ?_
  refine lv_iadd hx hb dX4_offUpTo_14 ?_
  refine lv_topi (fun v_3 e_v_3 => ?_)
  replace h := h v_3 e_v_3
  refine lv_istore_n (lv' := [(3, .int v_3), (0, .ref m0), (1, .int a1), (2, .int a2)]) hx hb dX4_offUpTo_15 rfl hl (by decide) rfl (fun ls hl => ?_)
  refine lv_iload_n hx hb dX4_offUpTo_16 rfl (lv_at hl 0 rfl) ?_
  refine lv_if_ge (tgt := 24) hx hb dX4_offUpTo_17 (by decide) (fun c_4 => ?_) (fun c_4 => ?_)
  · replace h := h.1 c_4
    refine lv_iload_n hx hb dX4_offUpTo_24 rfl (lv_at hl 0 rfl) ?_
    exact hret _ _ _ _ _ _ hP hS h rfl dX4_offUpTo_25
  · replace h := h.2 c_4
    refine lv_iconst hx hb dX4_offUpTo_20 kc_0 ?_
    refine lv_goto (tgt := 25) hx hb dX4_offUpTo_21 (by decide) ?_
    exact hret _ _ _ _ _ _ hP hS h rfl dX4_offUpTo_25
def w4_bounded_c29 (a1 : Int64) (Post : Int64 → MS → Prop) (t0 : Int32) (M : MS) : Prop := (vz t0 ∧ ∀ M_2 : MS, M_2 = si M 64 t0 → ((mi M_2 64) = 0 → (Post a1 M_2)) ∧ (¬ ((mi M_2 64) = 0) → (Post (0 : Int64) M_2)))
def w4_bounded_c24 (a1 : Int64) (Post : Int64 → MS → Prop) (M : MS) : Prop := w4_bounded_c29 a1 Post (1 : Int32) M
def w4_bounded (a1 : Int64) (M : MS) (Post : Int64 → MS → Prop) : Prop := ((mi M 64) = 0 → (((1000000000000 : Int64) < a1 → (w4_bounded_c24 a1 Post M)) ∧ (¬ ((1000000000000 : Int64) < a1) → (((-1000000000000 : Int64) ≤ a1 → (w4_bounded_c29 a1 Post (0 : Int32) M)) ∧ (¬ ((-1000000000000 : Int64) ≤ a1) → (w4_bounded_c24 a1 Post M)))))) ∧ (¬ ((mi M 64) = 0) → (w4_bounded_c24 a1 Post M))
abbrev rX4_bounded : Room := { frames := 0, cells := 0, slots := 0, locals := 0 }
theorem cdX4_bounded : yX4_bounded.cls = RX4 ∧ yX4_bounded.cls ≠ "java/lang/invoke/MethodHandle" ∧ yX4_bounded.cls ≠ "java/lang/invoke/VarHandle" ∧ (parseMethodDescriptor yX4_bounded.desc).map (fun d => d.parameters.length) = some 1 := by decide +kernel
set_option maxHeartbeats 4000000 in
set_option maxRecDepth 100000 in
theorem mt4_bounded (l : Launch) {D : va_G} {cA : Nat → ClassId} {m0 : Nat} {ad : Nat → Nat} (hA : mAd m0 ad) (a1 : Int64) (M : MS) (Post : Int64 → MS → Prop) (h : w4_bounded a1 M Post) : Met l yX4_bounded (ws_ yX4_bounded cX4_bounded 3 (some .long)) rX4_bounded (mPc [.ref m0, .long a1] D cA m0 ad M) (va_Ql Post (mB D cA m0 ad) (mF m0 ad)) 0 0 (mF m0 ad) := by
  refine mst_l (own := RX4) (by decide) rfl (Nat.le_of_ble_eq_true rfl) ?_
  intro p e s m args below meth c Q ls S hK hP hS hl hret
  have hx := S.1
  have hb := S.2.1
  have hl : lv_has ls 3 [(0, .ref m0), (1, .long a1)] := hl
  have C29 : ∀ (t0 : Int32) (M : MS) (H : Heap) (locs : List Loc) (ls : Array Slot), va_P D vwCl (mo cA m0 ad M) H → va_S (mF m0 ad) s.heap H locs → lv_has ls 3 [(0, .ref m0), (1, .long a1)] → w4_bounded_c29 a1 Post t0 M → W p l e rX4_bounded s m args below meth c H locs 0 0 Q (F0 m 29 ls [.int t0, .ref m0]) := by
    intro t0 M H locs ls hP hS hl h
    unfold w4_bounded_c29 at h
    obtain ⟨hv, h⟩ := h
    refine mp_i S hK hA hP hS (k := 64) (by decide) (Or.inr ⟨rfl, hv⟩) rfl (Or.inr ⟨rfl, rfl⟩) q1484 dX4_bounded_29 (fun M_2 H locs e_M_2 hP hS => ?_)
    replace h := h M_2 e_M_2
    refine lv_aload_n hx hb dX4_bounded_32 rfl (lv_at hl 0 rfl) ?_
    refine mg_i S hK hP (k := 64) (by decide) (by decide) q1484 dX4_bounded_33 ?_
    refine lv_if_eq (tgt := 43) hx hb dX4_bounded_36 (by decide) (fun c_3 => ?_) (fun c_3 => ?_)
    · replace h := h.1 c_3
      refine lv_lload_n hx hb dX4_bounded_43 rfl (lv_at hl 1 rfl) ?_
      exact hret _ _ _ _ _ _ hP hS h dX4_bounded_44
    · replace h := h.2 c_3
      refine lv_lconst (v := 0) hx hb dX4_bounded_39 rfl ?_
      refine lv_goto (tgt := 44) hx hb dX4_bounded_40 (by decide) ?_
      exact hret _ _ _ _ _ _ hP hS h dX4_bounded_44
  have C24 : ∀ (M : MS) (H : Heap) (locs : List Loc) (ls : Array Slot), va_P D vwCl (mo cA m0 ad M) H → va_S (mF m0 ad) s.heap H locs → lv_has ls 3 [(0, .ref m0), (1, .long a1)] → w4_bounded_c24 a1 Post M → W p l e rX4_bounded s m args below meth c H locs 0 0 Q (F0 m 24 ls [.ref m0]) := by
    intro M H locs ls hP hS hl h
    unfold w4_bounded_c24 at h
    refine lv_iconst hx hb dX4_bounded_24 kc_1 ?_
    refine lv_goto (tgt := 29) hx hb dX4_bounded_25 (by decide) ?_
    exact C29 _ _ _ _ _ hP hS (lv_sub hl [0, 1] rfl) h
  unfold w4_bounded at h
  refine lv_aload_n hx hb dX4_bounded_0 rfl (lv_at hl 0 rfl) ?_
  refine lv_aload_n hx hb dX4_bounded_1 rfl (lv_at hl 0 rfl) ?_
  refine mg_i S hK hP (k := 64) (by decide) (by decide) q1484 dX4_bounded_2 ?_
  refine lv_if_ne (tgt := 24) hx hb dX4_bounded_5 (by decide) (fun c_1 => ?_) (fun c_1 => ?_)
  · replace h := h.2 c_1
    exact C24 _ _ _ _ hP hS (lv_sub hl [0, 1] rfl) h
  · replace h := h.1 c_1
    refine lv_lload_n hx hb dX4_bounded_8 rfl (lv_at hl 1 rfl) ?_
    refine lv_ldc2 (own := RX4) (v := 1000000000000) hx hb S.2.2.2.1 (S.2.2.2.2 _ q1988) dX4_bounded_9 ?_
    refine W.lcmp hx hb dX4_bounded_12 ?_
    refine lv_if_gt (tgt := 24) hx hb dX4_bounded_13 (by decide) (fun c_4 => ?_) (fun c_4 => ?_)
    · replace h := h.1 ((lg_cmp_gt _ _).mp c_4)
      exact C24 _ _ _ _ hP hS (lv_sub hl [0, 1] rfl) h
    · replace h := h.2 (fun q => c_4 ((lg_cmp_gt _ _).mpr q))
      refine lv_lload_n hx hb dX4_bounded_16 rfl (lv_at hl 1 rfl) ?_
      refine lv_ldc2 (own := RX4) (v := -1000000000000) hx hb S.2.2.2.1 (S.2.2.2.2 _ q1989) dX4_bounded_17 ?_
      refine W.lcmp hx hb dX4_bounded_20 ?_
      refine lv_if_ge (tgt := 28) hx hb dX4_bounded_21 (by decide) (fun c_5 => ?_) (fun c_5 => ?_)
      · replace h := h.1 ((lg_cmp_ge _ _).mp c_5)
        refine lv_iconst hx hb dX4_bounded_28 kc_0 ?_
        exact C29 _ _ _ _ _ hP hS (lv_sub hl [0, 1] rfl) h
      · replace h := h.2 (fun q => c_5 ((lg_cmp_ge _ _).mpr q))
        exact C24 _ _ _ _ hP hS (lv_sub hl [0, 1] rfl) h
def w4_times_c69 (a1 : Int64) (a3 : Int64) (Post : Int64 → MS → Prop) (t0 : Int32) (M : MS) : Prop := (vz t0 ∧ ∀ M_3 : MS, M_3 = si M 64 t0 → ((mi M_3 64) = 0 → (Post (a1 * a3) M_3)) ∧ (¬ ((mi M_3 64) = 0) → (Post (0 : Int64) M_3)))
def w4_times_c64 (a1 : Int64) (a3 : Int64) (Post : Int64 → MS → Prop) (M : MS) : Prop := w4_times_c69 a1 a3 Post (1 : Int32) M
def w4_times_c49 (a1 : Int64) (a3 : Int64) (Post : Int64 → MS → Prop) (t0 : Int32) (M : MS) : Prop := ((mi M 64) = 0 → ((t0 = 0 → (w4_times_c69 a1 a3 Post (0 : Int32) M)) ∧ (¬ (t0 = 0) → (w4_times_c64 a1 a3 Post M)))) ∧ (¬ ((mi M 64) = 0) → (w4_times_c64 a1 a3 Post M))
def w4_times_c48 (a1 : Int64) (a3 : Int64) (Post : Int64 → MS → Prop) (M : MS) : Prop := w4_times_c49 a1 a3 Post (0 : Int32) M
def w4_times_c39 (a1 : Int64) (a3 : Int64) (Post : Int64 → MS → Prop) (t0 : Int64) (t1 : Int64) (t2 : Int64) (M : MS) : Prop := (¬ t0 = 0 ∧ (t2 ≤ (t1 / t0) → (w4_times_c48 a1 a3 Post M)) ∧ (¬ (t2 ≤ (t1 / t0)) → (w4_times_c49 a1 a3 Post (1 : Int32) M)))
def w4_times_c24 (a1 : Int64) (a3 : Int64) (Post : Int64 → MS → Prop) (t0 : Int64) (M : MS) : Prop := ((0 : Int64) ≤ a1 → (w4_times_c39 a1 a3 Post a1 (1000000000000 : Int64) t0 M)) ∧ (¬ ((0 : Int64) ≤ a1) → (w4_times_c39 a1 a3 Post (-a1) (1000000000000 : Int64) t0 M))
def w4_times (a1 : Int64) (a3 : Int64) (M : MS) (Post : Int64 → MS → Prop) : Prop := (a1 = (0 : Int64) → (w4_times_c48 a1 a3 Post M)) ∧ (¬ (a1 = (0 : Int64)) → ((a3 = (0 : Int64) → (w4_times_c48 a1 a3 Post M)) ∧ (¬ (a3 = (0 : Int64)) → (((0 : Int64) ≤ a3 → (w4_times_c24 a1 a3 Post a3 M)) ∧ (¬ ((0 : Int64) ≤ a3) → (w4_times_c24 a1 a3 Post (-a3) M))))))
abbrev rX4_times : Room := { frames := 0, cells := 0, slots := 0, locals := 0 }
theorem cdX4_times : yX4_times.cls = RX4 ∧ yX4_times.cls ≠ "java/lang/invoke/MethodHandle" ∧ yX4_times.cls ≠ "java/lang/invoke/VarHandle" ∧ (parseMethodDescriptor yX4_times.desc).map (fun d => d.parameters.length) = some 2 := by decide +kernel
set_option maxHeartbeats 4000000 in
set_option maxRecDepth 100000 in
theorem mt4_times (l : Launch) {D : va_G} {cA : Nat → ClassId} {m0 : Nat} {ad : Nat → Nat} (hA : mAd m0 ad) (a1 : Int64) (a3 : Int64) (M : MS) (Post : Int64 → MS → Prop) (h : w4_times a1 a3 M Post) : Met l yX4_times (ws_ yX4_times cX4_times 6 (some .long)) rX4_times (mPc [.ref m0, .long a1, .long a3] D cA m0 ad M) (va_Ql Post (mB D cA m0 ad) (mF m0 ad)) 0 0 (mF m0 ad) := by
  refine mst_l (own := RX4) (by decide) rfl (Nat.le_of_ble_eq_true rfl) ?_
  intro p e s m args below meth c Q ls S hK hP hS hl hret
  have hx := S.1
  have hb := S.2.1
  have hl : lv_has ls 6 [(0, .ref m0), (1, .long a1), (3, .long a3)] := hl
  have C69 : ∀ (t0 : Int32) (M : MS) (H : Heap) (locs : List Loc) (ls : Array Slot), va_P D vwCl (mo cA m0 ad M) H → va_S (mF m0 ad) s.heap H locs → lv_has ls 6 [(0, .ref m0), (1, .long a1), (3, .long a3)] → w4_times_c69 a1 a3 Post t0 M → W p l e rX4_times s m args below meth c H locs 0 0 Q (F0 m 69 ls [.int t0, .ref m0]) := by
    intro t0 M H locs ls hP hS hl h
    unfold w4_times_c69 at h
    obtain ⟨hv, h⟩ := h
    refine mp_i S hK hA hP hS (k := 64) (by decide) (Or.inr ⟨rfl, hv⟩) rfl (Or.inr ⟨rfl, rfl⟩) q1484 dX4_times_69 (fun M_3 H locs e_M_3 hP hS => ?_)
    replace h := h M_3 e_M_3
    refine lv_aload_n hx hb dX4_times_72 rfl (lv_at hl 0 rfl) ?_
    refine mg_i S hK hP (k := 64) (by decide) (by decide) q1484 dX4_times_73 ?_
    refine lv_if_eq (tgt := 83) hx hb dX4_times_76 (by decide) (fun c_4 => ?_) (fun c_4 => ?_)
    · replace h := h.1 c_4
      refine lv_lload_n hx hb dX4_times_83 rfl (lv_at hl 1 rfl) ?_
      refine lv_lload_n hx hb dX4_times_84 rfl (lv_at hl 2 rfl) ?_
      refine lv_lmul hx hb dX4_times_85 ?_
      exact hret _ _ _ _ _ _ hP hS h dX4_times_86
    · replace h := h.2 c_4
      refine lv_lconst (v := 0) hx hb dX4_times_79 rfl ?_
      refine lv_goto (tgt := 86) hx hb dX4_times_80 (by decide) ?_
      exact hret _ _ _ _ _ _ hP hS h dX4_times_86
  have C64 : ∀ (M : MS) (H : Heap) (locs : List Loc) (ls : Array Slot), va_P D vwCl (mo cA m0 ad M) H → va_S (mF m0 ad) s.heap H locs → lv_has ls 6 [(0, .ref m0), (1, .long a1), (3, .long a3)] → w4_times_c64 a1 a3 Post M → W p l e rX4_times s m args below meth c H locs 0 0 Q (F0 m 64 ls [.ref m0]) := by
    intro M H locs ls hP hS hl h
    unfold w4_times_c64 at h
    refine lv_iconst hx hb dX4_times_64 kc_1 ?_
    refine lv_goto (tgt := 69) hx hb dX4_times_65 (by decide) ?_
    exact C69 _ _ _ _ _ hP hS (lv_sub hl [0, 1, 2] rfl) h
  have C49 : ∀ (t0 : Int32) (M : MS) (H : Heap) (locs : List Loc) (ls : Array Slot), va_P D vwCl (mo cA m0 ad M) H → va_S (mF m0 ad) s.heap H locs → lv_has ls 6 [(0, .ref m0), (1, .long a1), (3, .long a3)] → w4_times_c49 a1 a3 Post t0 M → W p l e rX4_times s m args below meth c H locs 0 0 Q (F0 m 49 ls [.int t0]) := by
    intro t0 M H locs ls hP hS hl h
    unfold w4_times_c49 at h
    refine lv_istore (lv' := [(5, .int t0), (0, .ref m0), (1, .long a1), (3, .long a3)]) hx hb dX4_times_49 hl (by decide) rfl (fun ls hl => ?_)
    refine lv_aload_n hx hb dX4_times_51 rfl (lv_at hl 1 rfl) ?_
    refine lv_aload_n hx hb dX4_times_52 rfl (lv_at hl 1 rfl) ?_
    refine mg_i S hK hP (k := 64) (by decide) (by decide) q1484 dX4_times_53 ?_
    refine lv_if_ne (tgt := 64) hx hb dX4_times_56 (by decide) (fun c_2 => ?_) (fun c_2 => ?_)
    · replace h := h.2 c_2
      exact C64 _ _ _ _ hP hS (lv_sub hl [1, 2, 3] rfl) h
    · replace h := h.1 c_2
      refine lv_iload hx hb dX4_times_59 (lv_at hl 0 rfl) ?_
      refine lv_if_eq (tgt := 68) hx hb dX4_times_61 (by decide) (fun c_5 => ?_) (fun c_5 => ?_)
      · replace h := h.1 c_5
        refine lv_iconst hx hb dX4_times_68 kc_0 ?_
        exact C69 _ _ _ _ _ hP hS (lv_sub hl [1, 2, 3] rfl) h
      · replace h := h.2 c_5
        exact C64 _ _ _ _ hP hS (lv_sub hl [1, 2, 3] rfl) h
  have C48 : ∀ (M : MS) (H : Heap) (locs : List Loc) (ls : Array Slot), va_P D vwCl (mo cA m0 ad M) H → va_S (mF m0 ad) s.heap H locs → lv_has ls 6 [(0, .ref m0), (1, .long a1), (3, .long a3)] → w4_times_c48 a1 a3 Post M → W p l e rX4_times s m args below meth c H locs 0 0 Q (F0 m 48 ls []) := by
    intro M H locs ls hP hS hl h
    unfold w4_times_c48 at h
    refine lv_iconst hx hb dX4_times_48 kc_0 ?_
    exact C49 _ _ _ _ _ hP hS (lv_sub hl [0, 1, 2] rfl) h
  have C39 : ∀ (t0 : Int64) (t1 : Int64) (t2 : Int64) (M : MS) (H : Heap) (locs : List Loc) (ls : Array Slot), va_P D vwCl (mo cA m0 ad M) H → va_S (mF m0 ad) s.heap H locs → lv_has ls 6 [(0, .ref m0), (1, .long a1), (3, .long a3)] → w4_times_c39 a1 a3 Post t0 t1 t2 M → W p l e rX4_times s m args below meth c H locs 0 0 Q (F0 m 39 ls [.long t0, .long t1, .long t2]) := by
    intro t0 t1 t2 M H locs ls hP hS hl h
    unfold w4_times_c39 at h
    obtain ⟨hz, h⟩ := h
    refine lv_ldiv hx hb dX4_times_39 hz ?_
    refine W.lcmp hx hb dX4_times_40 ?_
    refine lv_if_le (tgt := 48) hx hb dX4_times_41 (by decide) (fun c_9 => ?_) (fun c_9 => ?_)
    · replace h := h.1 ((lg_cmp_le _ _).mp c_9)
      exact C48 _ _ _ _ hP hS (lv_sub hl [0, 1, 2] rfl) h
    · replace h := h.2 (fun q => c_9 ((lg_cmp_le _ _).mpr q))
      refine lv_iconst hx hb dX4_times_44 kc_1 ?_
      refine lv_goto (tgt := 49) hx hb dX4_times_45 (by decide) ?_
      exact C49 _ _ _ _ _ hP hS (lv_sub hl [0, 1, 2] rfl) h
  have C24 : ∀ (t0 : Int64) (M : MS) (H : Heap) (locs : List Loc) (ls : Array Slot), va_P D vwCl (mo cA m0 ad M) H → va_S (mF m0 ad) s.heap H locs → lv_has ls 6 [(0, .ref m0), (1, .long a1), (3, .long a3)] → w4_times_c24 a1 a3 Post t0 M → W p l e rX4_times s m args below meth c H locs 0 0 Q (F0 m 24 ls [.long t0]) := by
    intro t0 M H locs ls hP hS hl h
    unfold w4_times_c24 at h
    refine lv_ldc2 (own := RX4) (v := 1000000000000) hx hb S.2.2.2.1 (S.2.2.2.2 _ q1988) dX4_times_24 ?_
    refine lv_lload_n hx hb dX4_times_27 rfl (lv_at hl 1 rfl) ?_
    refine lv_lconst (v := 0) hx hb dX4_times_28 rfl ?_
    refine W.lcmp hx hb dX4_times_29 ?_
    refine lv_if_ge (tgt := 38) hx hb dX4_times_30 (by decide) (fun c_8 => ?_) (fun c_8 => ?_)
    · replace h := h.1 ((lg_cmp_ge _ _).mp c_8)
      refine lv_lload_n hx hb dX4_times_38 rfl (lv_at hl 1 rfl) ?_
      exact C39 _ _ _ _ _ _ _ hP hS (lv_sub hl [0, 1, 2] rfl) h
    · replace h := h.2 (fun q => c_8 ((lg_cmp_ge _ _).mpr q))
      refine lv_lload_n hx hb dX4_times_33 rfl (lv_at hl 1 rfl) ?_
      refine lv_lneg hx hb dX4_times_34 ?_
      refine lv_goto (tgt := 39) hx hb dX4_times_35 (by decide) ?_
      exact C39 _ _ _ _ _ _ _ hP hS (lv_sub hl [0, 1, 2] rfl) h
  unfold w4_times at h
  refine lv_lload_n hx hb dX4_times_0 rfl (lv_at hl 1 rfl) ?_
  refine lv_lconst (v := 0) hx hb dX4_times_1 rfl ?_
  refine W.lcmp hx hb dX4_times_2 ?_
  refine lv_if_eq (tgt := 48) hx hb dX4_times_3 (by decide) (fun c_1 => ?_) (fun c_1 => ?_)
  · replace h := h.1 ((lg_cmp_eq _ _).mp c_1)
    exact C48 _ _ _ _ hP hS (lv_sub hl [0, 1, 2] rfl) h
  · replace h := h.2 (fun q => c_1 ((lg_cmp_eq _ _).mpr q))
    refine lv_lload_n hx hb dX4_times_6 rfl (lv_at hl 2 rfl) ?_
    refine lv_lconst (v := 0) hx hb dX4_times_7 rfl ?_
    refine W.lcmp hx hb dX4_times_8 ?_
    refine lv_if_eq (tgt := 48) hx hb dX4_times_9 (by decide) (fun c_6 => ?_) (fun c_6 => ?_)
    · replace h := h.1 ((lg_cmp_eq _ _).mp c_6)
      exact C48 _ _ _ _ hP hS (lv_sub hl [0, 1, 2] rfl) h
    · replace h := h.2 (fun q => c_6 ((lg_cmp_eq _ _).mpr q))
      refine lv_lload_n hx hb dX4_times_12 rfl (lv_at hl 2 rfl) ?_
      refine lv_lconst (v := 0) hx hb dX4_times_13 rfl ?_
      refine W.lcmp hx hb dX4_times_14 ?_
      refine lv_if_ge (tgt := 23) hx hb dX4_times_15 (by decide) (fun c_7 => ?_) (fun c_7 => ?_)
      · replace h := h.1 ((lg_cmp_ge _ _).mp c_7)
        refine lv_lload_n hx hb dX4_times_23 rfl (lv_at hl 2 rfl) ?_
        exact C24 _ _ _ _ _ hP hS (lv_sub hl [0, 1, 2] rfl) h
      · replace h := h.2 (fun q => c_7 ((lg_cmp_ge _ _).mpr q))
        refine lv_lload_n hx hb dX4_times_18 rfl (lv_at hl 2 rfl) ?_
        refine lv_lneg hx hb dX4_times_19 ?_
        refine lv_goto (tgt := 24) hx hb dX4_times_20 (by decide) ?_
        exact C24 _ _ _ _ _ hP hS (lv_sub hl [0, 1, 2] rfl) h
def w4_compares (a0 : Int32) (a1 : Int64) (a3 : Int64) (Post : Int32 → Prop) : Prop := (a0 = 5 → ((a3 ≤ a1 → (Post (0 : Int32))) ∧ (¬ (a3 ≤ a1) → (Post (1 : Int32))))) ∧ (¬ a0 = 5 → (a0 = 6 → ((a3 < a1 → (Post (0 : Int32))) ∧ (¬ (a3 < a1) → (Post (1 : Int32))))) ∧ (¬ a0 = 6 → (a0 = 7 → ((a1 = a3 → (Post (1 : Int32))) ∧ (¬ (a1 = a3) → (Post (0 : Int32))))) ∧ (¬ a0 = 7 → (a0 = 8 → ((a1 = a3 → (Post (0 : Int32))) ∧ (¬ (a1 = a3) → (Post (1 : Int32))))) ∧ (¬ a0 = 8 → (a0 = 9 → ((a1 < a3 → (Post (0 : Int32))) ∧ (¬ (a1 < a3) → (Post (1 : Int32))))) ∧ (¬ a0 = 9 → (a1 ≤ a3 → (Post (0 : Int32))) ∧ (¬ (a1 ≤ a3) → (Post (1 : Int32))))))))
abbrev rX4_compares : Room := { frames := 0, cells := 0, slots := 0, locals := 0 }
theorem cdX4_compares : yX4_compares.cls ≠ "java/lang/invoke/MethodHandle" ∧ yX4_compares.cls ≠ "java/lang/invoke/VarHandle" ∧ (parseMethodDescriptor yX4_compares.desc).map (fun d => d.parameters.length) = some 3 := by decide +kernel
set_option maxHeartbeats 4000000 in
set_option maxRecDepth 100000 in
theorem mt4_compares (l : Launch) (a0 : Int32) (a1 : Int64) (a3 : Int64) (Post : Int32 → Prop) (h : w4_compares a0 a1 a3 Post) : Met l yX4_compares (ws_ yX4_compares cX4_compares 5 (some .boolean)) rX4_compares (va_Pc [.int a0, .long a1, .long a3] (fun _ => True)) (vp_Si Post) 0 0 (fun _ => False) := by
  refine sst_i (own := RX4) (by decide) rfl (Nat.le_of_ble_eq_true rfl) ?_
  intro p e s m args below meth c Q ls S hl hret
  have hx := S.1
  have hb := S.2.1
  have hl : lv_has ls 5 [(0, .int a0), (1, .long a1), (3, .long a3)] := hl
  unfold w4_compares at h
  refine lv_iload_n hx hb dX4_compares_0 rfl (lv_at hl 0 rfl) ?_
  by_cases c_1 : a0 = 5
  · replace h := h.1 c_1
    refine lv_tableIn (tgt := 36) hx hb dX4_compares_1 (by rw [c_1]; decide) (by rw [c_1]; decide) (by rw [c_1]; rfl) (by decide) ?_
    refine lv_lload_n hx hb dX4_compares_36 rfl (lv_at hl 1 rfl) ?_
    refine lv_lload_n hx hb dX4_compares_37 rfl (lv_at hl 2 rfl) ?_
    refine W.lcmp hx hb dX4_compares_38 ?_
    refine lv_if_ge (tgt := 46) hx hb dX4_compares_39 (by decide) (fun c_2 => ?_) (fun c_2 => ?_)
    · replace h := h.1 ((lg_cmp_ge _ _).mp c_2)
      refine lv_iconst hx hb dX4_compares_46 kc_0 ?_
      exact hret _ _ _ h (vz_nar vz_0) dX4_compares_47
    · replace h := h.2 (fun q => c_2 ((lg_cmp_ge _ _).mpr q))
      refine lv_iconst hx hb dX4_compares_42 kc_1 ?_
      refine lv_goto (tgt := 47) hx hb dX4_compares_43 (by decide) ?_
      exact hret _ _ _ h (vz_nar vz_1) dX4_compares_47
  · replace h := h.2 c_1
    by_cases c_3 : a0 = 6
    · replace h := h.1 c_3
      refine lv_tableIn (tgt := 48) hx hb dX4_compares_1 (by rw [c_3]; decide) (by rw [c_3]; decide) (by rw [c_3]; rfl) (by decide) ?_
      refine lv_lload_n hx hb dX4_compares_48 rfl (lv_at hl 1 rfl) ?_
      refine lv_lload_n hx hb dX4_compares_49 rfl (lv_at hl 2 rfl) ?_
      refine W.lcmp hx hb dX4_compares_50 ?_
      refine lv_if_gt (tgt := 58) hx hb dX4_compares_51 (by decide) (fun c_4 => ?_) (fun c_4 => ?_)
      · replace h := h.1 ((lg_cmp_gt _ _).mp c_4)
        refine lv_iconst hx hb dX4_compares_58 kc_0 ?_
        exact hret _ _ _ h (vz_nar vz_0) dX4_compares_59
      · replace h := h.2 (fun q => c_4 ((lg_cmp_gt _ _).mpr q))
        refine lv_iconst hx hb dX4_compares_54 kc_1 ?_
        refine lv_goto (tgt := 59) hx hb dX4_compares_55 (by decide) ?_
        exact hret _ _ _ h (vz_nar vz_1) dX4_compares_59
    · replace h := h.2 c_3
      by_cases c_5 : a0 = 7
      · replace h := h.1 c_5
        refine lv_tableIn (tgt := 60) hx hb dX4_compares_1 (by rw [c_5]; decide) (by rw [c_5]; decide) (by rw [c_5]; rfl) (by decide) ?_
        refine lv_lload_n hx hb dX4_compares_60 rfl (lv_at hl 1 rfl) ?_
        refine lv_lload_n hx hb dX4_compares_61 rfl (lv_at hl 2 rfl) ?_
        refine W.lcmp hx hb dX4_compares_62 ?_
        refine lv_if_ne (tgt := 70) hx hb dX4_compares_63 (by decide) (fun c_6 => ?_) (fun c_6 => ?_)
        · replace h := h.2 (fun q => c_6 ((lg_cmp_eq _ _).mpr q))
          refine lv_iconst hx hb dX4_compares_70 kc_0 ?_
          exact hret _ _ _ h (vz_nar vz_0) dX4_compares_71
        · replace h := h.1 ((lg_cmp_eq _ _).mp c_6)
          refine lv_iconst hx hb dX4_compares_66 kc_1 ?_
          refine lv_goto (tgt := 71) hx hb dX4_compares_67 (by decide) ?_
          exact hret _ _ _ h (vz_nar vz_1) dX4_compares_71
      · replace h := h.2 c_5
        by_cases c_7 : a0 = 8
        · replace h := h.1 c_7
          refine lv_tableIn (tgt := 72) hx hb dX4_compares_1 (by rw [c_7]; decide) (by rw [c_7]; decide) (by rw [c_7]; rfl) (by decide) ?_
          refine lv_lload_n hx hb dX4_compares_72 rfl (lv_at hl 1 rfl) ?_
          refine lv_lload_n hx hb dX4_compares_73 rfl (lv_at hl 2 rfl) ?_
          refine W.lcmp hx hb dX4_compares_74 ?_
          refine lv_if_eq (tgt := 82) hx hb dX4_compares_75 (by decide) (fun c_8 => ?_) (fun c_8 => ?_)
          · replace h := h.1 ((lg_cmp_eq _ _).mp c_8)
            refine lv_iconst hx hb dX4_compares_82 kc_0 ?_
            exact hret _ _ _ h (vz_nar vz_0) dX4_compares_83
          · replace h := h.2 (fun q => c_8 ((lg_cmp_eq _ _).mpr q))
            refine lv_iconst hx hb dX4_compares_78 kc_1 ?_
            refine lv_goto (tgt := 83) hx hb dX4_compares_79 (by decide) ?_
            exact hret _ _ _ h (vz_nar vz_1) dX4_compares_83
        · replace h := h.2 c_7
          by_cases c_9 : a0 = 9
          · replace h := h.1 c_9
            refine lv_tableIn (tgt := 84) hx hb dX4_compares_1 (by rw [c_9]; decide) (by rw [c_9]; decide) (by rw [c_9]; rfl) (by decide) ?_
            refine lv_lload_n hx hb dX4_compares_84 rfl (lv_at hl 1 rfl) ?_
            refine lv_lload_n hx hb dX4_compares_85 rfl (lv_at hl 2 rfl) ?_
            refine W.lcmp hx hb dX4_compares_86 ?_
            refine lv_if_lt (tgt := 94) hx hb dX4_compares_87 (by decide) (fun c_10 => ?_) (fun c_10 => ?_)
            · replace h := h.1 ((lg_cmp_lt _ _).mp c_10)
              refine lv_iconst hx hb dX4_compares_94 kc_0 ?_
              exact hret _ _ _ h (vz_nar vz_0) dX4_compares_95
            · replace h := h.2 (fun q => c_10 ((lg_cmp_lt _ _).mpr q))
              refine lv_iconst hx hb dX4_compares_90 kc_1 ?_
              refine lv_goto (tgt := 95) hx hb dX4_compares_91 (by decide) ?_
              exact hret _ _ _ h (vz_nar vz_1) dX4_compares_95
          · replace h := h.2 c_9
            refine lv_tableOut (tgt := 96) hx hb dX4_compares_1 (by have z0 := sw_n (n := 5) c_1 rfl; have z1 := sw_n (n := 6) c_3 rfl; have z2 := sw_n (n := 7) c_5 rfl; have z3 := sw_n (n := 8) c_7 rfl; have z4 := sw_n (n := 9) c_9 rfl; omega) (by decide) ?_
            refine lv_lload_n hx hb dX4_compares_96 rfl (lv_at hl 1 rfl) ?_
            refine lv_lload_n hx hb dX4_compares_97 rfl (lv_at hl 2 rfl) ?_
            refine W.lcmp hx hb dX4_compares_98 ?_
            refine lv_if_le (tgt := 106) hx hb dX4_compares_99 (by decide) (fun c_11 => ?_) (fun c_11 => ?_)
            · replace h := h.1 ((lg_cmp_le _ _).mp c_11)
              refine lv_iconst hx hb dX4_compares_106 kc_0 ?_
              exact hret _ _ _ h (vz_nar vz_0) dX4_compares_107
            · replace h := h.2 (fun q => c_11 ((lg_cmp_le _ _).mpr q))
              refine lv_iconst hx hb dX4_compares_102 kc_1 ?_
              refine lv_goto (tgt := 107) hx hb dX4_compares_103 (by decide) ?_
              exact hret _ _ _ h (vz_nar vz_1) dX4_compares_107
def w4_worthOf_c240 (a1 : Int32) (Post : Int64 → MS → Prop) (x2 : Int64) (x4 : Int64) (t0 : Int32) (M : MS) : Prop := (vz t0 ∧ ∀ M_42 : MS, M_42 = si M 64 t0 → ((mi M_42 64) = 0 → ((¬ x4 = 0 ∧ Post (x2 / x4) M_42))) ∧ (¬ ((mi M_42 64) = 0) → (Post (0 : Int64) M_42)))
def w4_worthOf_c235 (a1 : Int32) (Post : Int64 → MS → Prop) (x2 : Int64) (x4 : Int64) (M : MS) : Prop := w4_worthOf_c240 a1 Post x2 x4 (1 : Int32) M
def w4_worthOf (a1 : Int32) (M : MS) (Post : Int64 → MS → Prop) : Prop := (vp_in a1 (mN 41) ∧ ((ma M 41 (Int32.toNatClampNeg a1)) = 0 → ((vp_in a1 (mN 42) ∧ Post ((ma M 42 (Int32.toNatClampNeg a1)).toInt64) M))) ∧ (¬ ((ma M 41 (Int32.toNatClampNeg a1)) = 0) → ((vp_in a1 (mN 41) ∧ ((ma M 41 (Int32.toNatClampNeg a1)) = (1 : Int32) → ((vp_in a1 (mN 42) ∧ (vp_in (ma M 42 (Int32.toNatClampNeg a1)) (mN 62) ∧ Post (mb M 62 (Int32.toNatClampNeg (ma M 42 (Int32.toNatClampNeg a1)))) M)))) ∧ (¬ ((ma M 41 (Int32.toNatClampNeg a1)) = (1 : Int32)) → ((vp_in a1 (mN 42) ∧ (vp_in (ma M 42 (Int32.toNatClampNeg a1)) (mN 63) ∧ ∀ v_3 : Int64, v_3 = mb M 63 (Int32.toNatClampNeg (ma M 42 (Int32.toNatClampNeg a1))) → (vp_in a1 (mN 41) ∧ ((ma M 41 (Int32.toNatClampNeg a1)) = (2 : Int32) → ((v_3 = (0 : Int64) → (Post (1 : Int64) M)) ∧ (¬ (v_3 = (0 : Int64)) → (Post (0 : Int64) M)))) ∧ (¬ ((ma M 41 (Int32.toNatClampNeg a1)) = (2 : Int32)) → ((vp_in a1 (mN 43) ∧ (vp_in (ma M 43 (Int32.toNatClampNeg a1)) (mN 63) ∧ ∀ v_5 : Int64, v_5 = mb M 63 (Int32.toNatClampNeg (ma M 43 (Int32.toNatClampNeg a1))) → (vp_in a1 (mN 41) ∧ ∀ v_6 : Int32, v_6 = ma M 41 (Int32.toNatClampNeg a1) → (v_6 = 3 → ((v_3 = (0 : Int64) → (Post (0 : Int64) M)) ∧ (¬ (v_3 = (0 : Int64)) → ((v_5 = (0 : Int64) → (Post (0 : Int64) M)) ∧ (¬ (v_5 = (0 : Int64)) → (Post (1 : Int64) M)))))) ∧ (¬ v_6 = 3 → (v_6 = 4 → ((v_3 = (0 : Int64) → ((v_5 = (0 : Int64) → (Post (0 : Int64) M)) ∧ (¬ (v_5 = (0 : Int64)) → (Post (1 : Int64) M)))) ∧ (¬ (v_3 = (0 : Int64)) → (Post (1 : Int64) M)))) ∧ (¬ v_6 = 4 → (v_6 = 5 → ((vp_in a1 (mN 41) ∧ w4_compares (ma M 41 (Int32.toNatClampNeg a1)) v_3 v_5 (fun r_14 => (r_14 = 0 → (Post (0 : Int64) M)) ∧ (¬ (r_14 = 0) → (Post (1 : Int64) M)))))) ∧ (¬ v_6 = 5 → (v_6 = 6 → ((vp_in a1 (mN 41) ∧ w4_compares (ma M 41 (Int32.toNatClampNeg a1)) v_3 v_5 (fun r_17 => (r_17 = 0 → (Post (0 : Int64) M)) ∧ (¬ (r_17 = 0) → (Post (1 : Int64) M)))))) ∧ (¬ v_6 = 6 → (v_6 = 7 → ((vp_in a1 (mN 41) ∧ w4_compares (ma M 41 (Int32.toNatClampNeg a1)) v_3 v_5 (fun r_20 => (r_20 = 0 → (Post (0 : Int64) M)) ∧ (¬ (r_20 = 0) → (Post (1 : Int64) M)))))) ∧ (¬ v_6 = 7 → (v_6 = 8 → ((vp_in a1 (mN 41) ∧ w4_compares (ma M 41 (Int32.toNatClampNeg a1)) v_3 v_5 (fun r_23 => (r_23 = 0 → (Post (0 : Int64) M)) ∧ (¬ (r_23 = 0) → (Post (1 : Int64) M)))))) ∧ (¬ v_6 = 8 → (v_6 = 9 → ((vp_in a1 (mN 41) ∧ w4_compares (ma M 41 (Int32.toNatClampNeg a1)) v_3 v_5 (fun r_26 => (r_26 = 0 → (Post (0 : Int64) M)) ∧ (¬ (r_26 = 0) → (Post (1 : Int64) M)))))) ∧ (¬ v_6 = 9 → (v_6 = 10 → ((vp_in a1 (mN 41) ∧ w4_compares (ma M 41 (Int32.toNatClampNeg a1)) v_3 v_5 (fun r_29 => (r_29 = 0 → (Post (0 : Int64) M)) ∧ (¬ (r_29 = 0) → (Post (1 : Int64) M)))))) ∧ (¬ v_6 = 10 → (v_6 = 11 → (w4_bounded (v_3 + v_5) M (fun r_33 M_32 => Post r_33 M_32))) ∧ (¬ v_6 = 11 → (v_6 = 12 → (w4_bounded (v_3 - v_5) M (fun r_36 M_35 => Post r_36 M_35))) ∧ (¬ v_6 = 12 → (v_6 = 13 → (w4_times v_3 v_5 M (fun r_39 M_38 => Post r_39 M_38))) ∧ (¬ v_6 = 13 → (v_6 = 14 → (((mi M 64) = 0 → ((v_5 = (0 : Int64) → (w4_worthOf_c235 a1 Post v_3 v_5 M)) ∧ (¬ (v_5 = (0 : Int64)) → (w4_worthOf_c240 a1 Post v_3 v_5 (0 : Int32) M)))) ∧ (¬ ((mi M 64) = 0) → (w4_worthOf_c235 a1 Post v_3 v_5 M)))) ∧ (¬ v_6 = 14 → (vp_in a1 (mN 41) ∧ w4_compares (ma M 41 (Int32.toNatClampNeg a1)) v_3 v_5 (fun r_45 => (r_45 = 0 → (Post (0 : Int64) M)) ∧ (¬ (r_45 = 0) → (Post (1 : Int64) M))))))))))))))))))))))))))))))
abbrev rX4_worthOf : Room := { frames := 1, cells := 0, slots := 0, locals := 25 }
theorem cdX4_worthOf : yX4_worthOf.cls = RX4 ∧ yX4_worthOf.cls ≠ "java/lang/invoke/MethodHandle" ∧ yX4_worthOf.cls ≠ "java/lang/invoke/VarHandle" ∧ (parseMethodDescriptor yX4_worthOf.desc).map (fun d => d.parameters.length) = some 1 := by decide +kernel
set_option maxHeartbeats 4000000 in
set_option maxRecDepth 100000 in
theorem mt4_worthOf (l : Launch) {D : va_G} {cA : Nat → ClassId} {m0 : Nat} {ad : Nat → Nat} (hA : mAd m0 ad) (a1 : Int32) (M : MS) (Post : Int64 → MS → Prop) (h : w4_worthOf a1 M Post) : Met l yX4_worthOf (ws_ yX4_worthOf cX4_worthOf 6 (some .long)) rX4_worthOf (mPc [.ref m0, .int a1] D cA m0 ad M) (va_Ql Post (mB D cA m0 ad) (mF m0 ad)) 0 0 (mF m0 ad) := by
  refine mst_l (own := RX4) (by decide) rfl (Nat.le_of_ble_eq_true rfl) ?_
  intro p e s m args below meth c Q ls S hK hP hS hl hret
  have hx := S.1
  have hb := S.2.1
  have hl : lv_has ls 6 [(0, .ref m0), (1, .int a1)] := hl
  have C240 : ∀ (x2 : Int64) (x4 : Int64) (t0 : Int32) (M : MS) (H : Heap) (locs : List Loc) (ls : Array Slot), va_P D vwCl (mo cA m0 ad M) H → va_S (mF m0 ad) s.heap H locs → lv_has ls 6 [(0, .ref m0), (2, .long x2), (4, .long x4)] → w4_worthOf_c240 a1 Post x2 x4 t0 M → W p l e rX4_worthOf s m args below meth c H locs 0 0 Q (F0 m 240 ls [.int t0, .ref m0]) := by
    intro x2 x4 t0 M H locs ls hP hS hl h
    unfold w4_worthOf_c240 at h
    obtain ⟨hv, h⟩ := h
    refine mp_i S hK hA hP hS (k := 64) (by decide) (Or.inr ⟨rfl, hv⟩) rfl (Or.inr ⟨rfl, rfl⟩) q1484 dX4_worthOf_240 (fun M_42 H locs e_M_42 hP hS => ?_)
    replace h := h M_42 e_M_42
    refine lv_aload_n hx hb dX4_worthOf_243 rfl (lv_at hl 0 rfl) ?_
    refine mg_i S hK hP (k := 64) (by decide) (by decide) q1484 dX4_worthOf_244 ?_
    refine lv_if_eq (tgt := 254) hx hb dX4_worthOf_247 (by decide) (fun c_43 => ?_) (fun c_43 => ?_)
    · replace h := h.1 c_43
      refine lv_lload_n hx hb dX4_worthOf_254 rfl (lv_at hl 1 rfl) ?_
      refine lv_lload hx hb dX4_worthOf_255 (lv_at hl 2 rfl) ?_
      obtain ⟨hz, h⟩ := h
      refine lv_ldiv hx hb dX4_worthOf_257 hz ?_
      exact hret _ _ _ _ _ _ hP hS h dX4_worthOf_258
    · replace h := h.2 c_43
      refine lv_lconst (v := 0) hx hb dX4_worthOf_250 rfl ?_
      refine lv_goto (tgt := 258) hx hb dX4_worthOf_251 (by decide) ?_
      exact hret _ _ _ _ _ _ hP hS h dX4_worthOf_258
  have C235 : ∀ (x2 : Int64) (x4 : Int64) (M : MS) (H : Heap) (locs : List Loc) (ls : Array Slot), va_P D vwCl (mo cA m0 ad M) H → va_S (mF m0 ad) s.heap H locs → lv_has ls 6 [(0, .ref m0), (2, .long x2), (4, .long x4)] → w4_worthOf_c235 a1 Post x2 x4 M → W p l e rX4_worthOf s m args below meth c H locs 0 0 Q (F0 m 235 ls [.ref m0]) := by
    intro x2 x4 M H locs ls hP hS hl h
    unfold w4_worthOf_c235 at h
    refine lv_iconst hx hb dX4_worthOf_235 kc_1 ?_
    refine lv_goto (tgt := 240) hx hb dX4_worthOf_236 (by decide) ?_
    exact C240 _ _ _ _ _ _ _ hP hS (lv_sub hl [0, 1, 2] rfl) h
  unfold w4_worthOf at h
  refine lv_aload_n hx hb dX4_worthOf_0 rfl (lv_at hl 0 rfl) ?_
  refine mg_r S hK hP (k := 41) (by decide) (by decide) q1461 dX4_worthOf_1 ?_
  refine lv_iload_n hx hb dX4_worthOf_4 rfl (lv_at hl 1 rfl) ?_
  obtain ⟨hi, h⟩ := h
  refine ml_a S hK hP (k := 41) af_41 rfl hi dX4_worthOf_5 ?_
  refine lv_if_ne (tgt := 17) hx hb dX4_worthOf_6 (by decide) (fun c_1 => ?_) (fun c_1 => ?_)
  · replace h := h.2 c_1
    refine lv_aload_n hx hb dX4_worthOf_17 rfl (lv_at hl 0 rfl) ?_
    refine mg_r S hK hP (k := 41) (by decide) (by decide) q1461 dX4_worthOf_18 ?_
    refine lv_iload_n hx hb dX4_worthOf_21 rfl (lv_at hl 1 rfl) ?_
    obtain ⟨hi, h⟩ := h
    refine ml_a S hK hP (k := 41) af_41 rfl hi dX4_worthOf_22 ?_
    refine lv_iconst hx hb dX4_worthOf_23 kc_1 ?_
    refine lv_icmp_ne (tgt := 39) hx hb dX4_worthOf_24 (by decide) (fun c_2 => ?_) (fun c_2 => ?_)
    · replace h := h.2 c_2
      refine lv_aload_n hx hb dX4_worthOf_39 rfl (lv_at hl 0 rfl) ?_
      refine mg_r S hK hP (k := 63) (by decide) (by decide) q1483 dX4_worthOf_40 ?_
      refine lv_aload_n hx hb dX4_worthOf_43 rfl (lv_at hl 0 rfl) ?_
      refine mg_r S hK hP (k := 42) (by decide) (by decide) q1462 dX4_worthOf_44 ?_
      refine lv_iload_n hx hb dX4_worthOf_47 rfl (lv_at hl 1 rfl) ?_
      obtain ⟨hi, h⟩ := h
      refine ml_a S hK hP (k := 42) af_42 rfl hi dX4_worthOf_48 ?_
      obtain ⟨hi, h⟩ := h
      refine ml_b S hK hP (k := 63) af_63 rfl hi dX4_worthOf_49 ?_
      refine lv_topl (fun v_3 e_v_3 => ?_)
      replace h := h v_3 e_v_3
      refine lv_lstore_n (lv' := [(2, .long v_3), (0, .ref m0), (1, .int a1)]) hx hb dX4_worthOf_50 rfl hl (by decide) rfl (fun ls hl => ?_)
      refine lv_aload_n hx hb dX4_worthOf_51 rfl (lv_at hl 1 rfl) ?_
      refine mg_r S hK hP (k := 41) (by decide) (by decide) q1461 dX4_worthOf_52 ?_
      refine lv_iload_n hx hb dX4_worthOf_55 rfl (lv_at hl 2 rfl) ?_
      obtain ⟨hi, h⟩ := h
      refine ml_a S hK hP (k := 41) af_41 rfl hi dX4_worthOf_56 ?_
      refine lv_iconst hx hb dX4_worthOf_57 kc_2 ?_
      refine lv_icmp_ne (tgt := 73) hx hb dX4_worthOf_58 (by decide) (fun c_4 => ?_) (fun c_4 => ?_)
      · replace h := h.2 c_4
        refine lv_aload_n hx hb dX4_worthOf_73 rfl (lv_at hl 1 rfl) ?_
        refine mg_r S hK hP (k := 63) (by decide) (by decide) q1483 dX4_worthOf_74 ?_
        refine lv_aload_n hx hb dX4_worthOf_77 rfl (lv_at hl 1 rfl) ?_
        refine mg_r S hK hP (k := 43) (by decide) (by decide) q1463 dX4_worthOf_78 ?_
        refine lv_iload_n hx hb dX4_worthOf_81 rfl (lv_at hl 2 rfl) ?_
        obtain ⟨hi, h⟩ := h
        refine ml_a S hK hP (k := 43) af_43 rfl hi dX4_worthOf_82 ?_
        obtain ⟨hi, h⟩ := h
        refine ml_b S hK hP (k := 63) af_63 rfl hi dX4_worthOf_83 ?_
        refine lv_topl (fun v_5 e_v_5 => ?_)
        replace h := h v_5 e_v_5
        refine lv_lstore (lv' := [(4, .long v_5), (2, .long v_3), (0, .ref m0), (1, .int a1)]) hx hb dX4_worthOf_84 hl (by decide) rfl (fun ls hl => ?_)
        refine lv_aload_n hx hb dX4_worthOf_86 rfl (lv_at hl 2 rfl) ?_
        refine mg_r S hK hP (k := 41) (by decide) (by decide) q1461 dX4_worthOf_87 ?_
        refine lv_iload_n hx hb dX4_worthOf_90 rfl (lv_at hl 3 rfl) ?_
        obtain ⟨hi, h⟩ := h
        refine ml_a S hK hP (k := 41) af_41 rfl hi dX4_worthOf_91 ?_
        refine lv_topi (fun v_6 e_v_6 => ?_)
        replace h := h v_6 e_v_6
        by_cases c_7 : v_6 = 3
        · replace h := h.1 c_7
          refine lv_tableIn (tgt := 156) hx hb dX4_worthOf_92 (by rw [c_7]; decide) (by rw [c_7]; decide) (by rw [c_7]; rfl) (by decide) ?_
          refine lv_lload_n hx hb dX4_worthOf_156 rfl (lv_at hl 1 rfl) ?_
          refine lv_lconst (v := 0) hx hb dX4_worthOf_157 rfl ?_
          refine W.lcmp hx hb dX4_worthOf_158 ?_
          refine lv_if_eq (tgt := 173) hx hb dX4_worthOf_159 (by decide) (fun c_8 => ?_) (fun c_8 => ?_)
          · replace h := h.1 ((lg_cmp_eq _ _).mp c_8)
            refine lv_lconst (v := 0) hx hb dX4_worthOf_173 rfl ?_
            exact hret _ _ _ _ _ _ hP hS h dX4_worthOf_174
          · replace h := h.2 (fun q => c_8 ((lg_cmp_eq _ _).mpr q))
            refine lv_lload hx hb dX4_worthOf_162 (lv_at hl 0 rfl) ?_
            refine lv_lconst (v := 0) hx hb dX4_worthOf_164 rfl ?_
            refine W.lcmp hx hb dX4_worthOf_165 ?_
            refine lv_if_eq (tgt := 173) hx hb dX4_worthOf_166 (by decide) (fun c_9 => ?_) (fun c_9 => ?_)
            · replace h := h.1 ((lg_cmp_eq _ _).mp c_9)
              refine lv_lconst (v := 0) hx hb dX4_worthOf_173 rfl ?_
              exact hret _ _ _ _ _ _ hP hS h dX4_worthOf_174
            · replace h := h.2 (fun q => c_9 ((lg_cmp_eq _ _).mpr q))
              refine lv_lconst (v := 1) hx hb dX4_worthOf_169 rfl ?_
              refine lv_goto (tgt := 174) hx hb dX4_worthOf_170 (by decide) ?_
              exact hret _ _ _ _ _ _ hP hS h dX4_worthOf_174
        · replace h := h.2 c_7
          by_cases c_10 : v_6 = 4
          · replace h := h.1 c_10
            refine lv_tableIn (tgt := 175) hx hb dX4_worthOf_92 (by rw [c_10]; decide) (by rw [c_10]; decide) (by rw [c_10]; rfl) (by decide) ?_
            refine lv_lload_n hx hb dX4_worthOf_175 rfl (lv_at hl 1 rfl) ?_
            refine lv_lconst (v := 0) hx hb dX4_worthOf_176 rfl ?_
            refine W.lcmp hx hb dX4_worthOf_177 ?_
            refine lv_if_ne (tgt := 188) hx hb dX4_worthOf_178 (by decide) (fun c_11 => ?_) (fun c_11 => ?_)
            · replace h := h.2 (fun q => c_11 ((lg_cmp_eq _ _).mpr q))
              refine lv_lconst (v := 1) hx hb dX4_worthOf_188 rfl ?_
              refine lv_goto (tgt := 193) hx hb dX4_worthOf_189 (by decide) ?_
              exact hret _ _ _ _ _ _ hP hS h dX4_worthOf_193
            · replace h := h.1 ((lg_cmp_eq _ _).mp c_11)
              refine lv_lload hx hb dX4_worthOf_181 (lv_at hl 0 rfl) ?_
              refine lv_lconst (v := 0) hx hb dX4_worthOf_183 rfl ?_
              refine W.lcmp hx hb dX4_worthOf_184 ?_
              refine lv_if_eq (tgt := 192) hx hb dX4_worthOf_185 (by decide) (fun c_12 => ?_) (fun c_12 => ?_)
              · replace h := h.1 ((lg_cmp_eq _ _).mp c_12)
                refine lv_lconst (v := 0) hx hb dX4_worthOf_192 rfl ?_
                exact hret _ _ _ _ _ _ hP hS h dX4_worthOf_193
              · replace h := h.2 (fun q => c_12 ((lg_cmp_eq _ _).mpr q))
                refine lv_lconst (v := 1) hx hb dX4_worthOf_188 rfl ?_
                refine lv_goto (tgt := 193) hx hb dX4_worthOf_189 (by decide) ?_
                exact hret _ _ _ _ _ _ hP hS h dX4_worthOf_193
          · replace h := h.2 c_10
            by_cases c_13 : v_6 = 5
            · replace h := h.1 c_13
              refine lv_tableIn (tgt := 259) hx hb dX4_worthOf_92 (by rw [c_13]; decide) (by rw [c_13]; decide) (by rw [c_13]; rfl) (by decide) ?_
              refine lv_aload_n hx hb dX4_worthOf_259 rfl (lv_at hl 2 rfl) ?_
              refine mg_r S hK hP (k := 41) (by decide) (by decide) q1461 dX4_worthOf_260 ?_
              refine lv_iload_n hx hb dX4_worthOf_263 rfl (lv_at hl 3 rfl) ?_
              obtain ⟨hi, h⟩ := h
              refine ml_a S hK hP (k := 41) af_41 rfl hi dX4_worthOf_264 ?_
              refine lv_lload_n hx hb dX4_worthOf_265 rfl (lv_at hl 1 rfl) ?_
              refine lv_lload hx hb dX4_worthOf_266 (lv_at hl 0 rfl) ?_
              refine sc_i S (As := [.int (ma M 41 (Int32.toNatClampNeg a1)), .long v_3, .long v_5]) (rest := []) (mt4_compares l (ma M 41 (Int32.toNatClampNeg a1)) v_3 v_5 _ h) (va_cwS 3 S.2.2.2.2 (lw_S q1994 q1995 q145 q1996) rfl rfl rfl cdX4_compares ⟨Nat.le_of_ble_eq_true rfl, Nat.le_of_ble_eq_true rfl⟩) rfl rfl hl.1 (Nat.le_of_ble_eq_true rfl) dX4_worthOf_268 ⟨Nat.le_refl _, Nat.le_refl _⟩ (fun r_14 h => ?_)
              refine lv_if_eq (tgt := 278) hx hb dX4_worthOf_271 (by decide) (fun c_15 => ?_) (fun c_15 => ?_)
              · replace h := h.1 c_15
                refine lv_lconst (v := 0) hx hb dX4_worthOf_278 rfl ?_
                exact hret _ _ _ _ _ _ hP hS h dX4_worthOf_279
              · replace h := h.2 c_15
                refine lv_lconst (v := 1) hx hb dX4_worthOf_274 rfl ?_
                refine lv_goto (tgt := 279) hx hb dX4_worthOf_275 (by decide) ?_
                exact hret _ _ _ _ _ _ hP hS h dX4_worthOf_279
            · replace h := h.2 c_13
              by_cases c_16 : v_6 = 6
              · replace h := h.1 c_16
                refine lv_tableIn (tgt := 259) hx hb dX4_worthOf_92 (by rw [c_16]; decide) (by rw [c_16]; decide) (by rw [c_16]; rfl) (by decide) ?_
                refine lv_aload_n hx hb dX4_worthOf_259 rfl (lv_at hl 2 rfl) ?_
                refine mg_r S hK hP (k := 41) (by decide) (by decide) q1461 dX4_worthOf_260 ?_
                refine lv_iload_n hx hb dX4_worthOf_263 rfl (lv_at hl 3 rfl) ?_
                obtain ⟨hi, h⟩ := h
                refine ml_a S hK hP (k := 41) af_41 rfl hi dX4_worthOf_264 ?_
                refine lv_lload_n hx hb dX4_worthOf_265 rfl (lv_at hl 1 rfl) ?_
                refine lv_lload hx hb dX4_worthOf_266 (lv_at hl 0 rfl) ?_
                refine sc_i S (As := [.int (ma M 41 (Int32.toNatClampNeg a1)), .long v_3, .long v_5]) (rest := []) (mt4_compares l (ma M 41 (Int32.toNatClampNeg a1)) v_3 v_5 _ h) (va_cwS 3 S.2.2.2.2 (lw_S q1994 q1995 q145 q1996) rfl rfl rfl cdX4_compares ⟨Nat.le_of_ble_eq_true rfl, Nat.le_of_ble_eq_true rfl⟩) rfl rfl hl.1 (Nat.le_of_ble_eq_true rfl) dX4_worthOf_268 ⟨Nat.le_refl _, Nat.le_refl _⟩ (fun r_17 h => ?_)
                refine lv_if_eq (tgt := 278) hx hb dX4_worthOf_271 (by decide) (fun c_18 => ?_) (fun c_18 => ?_)
                · replace h := h.1 c_18
                  refine lv_lconst (v := 0) hx hb dX4_worthOf_278 rfl ?_
                  exact hret _ _ _ _ _ _ hP hS h dX4_worthOf_279
                · replace h := h.2 c_18
                  refine lv_lconst (v := 1) hx hb dX4_worthOf_274 rfl ?_
                  refine lv_goto (tgt := 279) hx hb dX4_worthOf_275 (by decide) ?_
                  exact hret _ _ _ _ _ _ hP hS h dX4_worthOf_279
              · replace h := h.2 c_16
                by_cases c_19 : v_6 = 7
                · replace h := h.1 c_19
                  refine lv_tableIn (tgt := 259) hx hb dX4_worthOf_92 (by rw [c_19]; decide) (by rw [c_19]; decide) (by rw [c_19]; rfl) (by decide) ?_
                  refine lv_aload_n hx hb dX4_worthOf_259 rfl (lv_at hl 2 rfl) ?_
                  refine mg_r S hK hP (k := 41) (by decide) (by decide) q1461 dX4_worthOf_260 ?_
                  refine lv_iload_n hx hb dX4_worthOf_263 rfl (lv_at hl 3 rfl) ?_
                  obtain ⟨hi, h⟩ := h
                  refine ml_a S hK hP (k := 41) af_41 rfl hi dX4_worthOf_264 ?_
                  refine lv_lload_n hx hb dX4_worthOf_265 rfl (lv_at hl 1 rfl) ?_
                  refine lv_lload hx hb dX4_worthOf_266 (lv_at hl 0 rfl) ?_
                  refine sc_i S (As := [.int (ma M 41 (Int32.toNatClampNeg a1)), .long v_3, .long v_5]) (rest := []) (mt4_compares l (ma M 41 (Int32.toNatClampNeg a1)) v_3 v_5 _ h) (va_cwS 3 S.2.2.2.2 (lw_S q1994 q1995 q145 q1996) rfl rfl rfl cdX4_compares ⟨Nat.le_of_ble_eq_true rfl, Nat.le_of_ble_eq_true rfl⟩) rfl rfl hl.1 (Nat.le_of_ble_eq_true rfl) dX4_worthOf_268 ⟨Nat.le_refl _, Nat.le_refl _⟩ (fun r_20 h => ?_)
                  refine lv_if_eq (tgt := 278) hx hb dX4_worthOf_271 (by decide) (fun c_21 => ?_) (fun c_21 => ?_)
                  · replace h := h.1 c_21
                    refine lv_lconst (v := 0) hx hb dX4_worthOf_278 rfl ?_
                    exact hret _ _ _ _ _ _ hP hS h dX4_worthOf_279
                  · replace h := h.2 c_21
                    refine lv_lconst (v := 1) hx hb dX4_worthOf_274 rfl ?_
                    refine lv_goto (tgt := 279) hx hb dX4_worthOf_275 (by decide) ?_
                    exact hret _ _ _ _ _ _ hP hS h dX4_worthOf_279
                · replace h := h.2 c_19
                  by_cases c_22 : v_6 = 8
                  · replace h := h.1 c_22
                    refine lv_tableIn (tgt := 259) hx hb dX4_worthOf_92 (by rw [c_22]; decide) (by rw [c_22]; decide) (by rw [c_22]; rfl) (by decide) ?_
                    refine lv_aload_n hx hb dX4_worthOf_259 rfl (lv_at hl 2 rfl) ?_
                    refine mg_r S hK hP (k := 41) (by decide) (by decide) q1461 dX4_worthOf_260 ?_
                    refine lv_iload_n hx hb dX4_worthOf_263 rfl (lv_at hl 3 rfl) ?_
                    obtain ⟨hi, h⟩ := h
                    refine ml_a S hK hP (k := 41) af_41 rfl hi dX4_worthOf_264 ?_
                    refine lv_lload_n hx hb dX4_worthOf_265 rfl (lv_at hl 1 rfl) ?_
                    refine lv_lload hx hb dX4_worthOf_266 (lv_at hl 0 rfl) ?_
                    refine sc_i S (As := [.int (ma M 41 (Int32.toNatClampNeg a1)), .long v_3, .long v_5]) (rest := []) (mt4_compares l (ma M 41 (Int32.toNatClampNeg a1)) v_3 v_5 _ h) (va_cwS 3 S.2.2.2.2 (lw_S q1994 q1995 q145 q1996) rfl rfl rfl cdX4_compares ⟨Nat.le_of_ble_eq_true rfl, Nat.le_of_ble_eq_true rfl⟩) rfl rfl hl.1 (Nat.le_of_ble_eq_true rfl) dX4_worthOf_268 ⟨Nat.le_refl _, Nat.le_refl _⟩ (fun r_23 h => ?_)
                    refine lv_if_eq (tgt := 278) hx hb dX4_worthOf_271 (by decide) (fun c_24 => ?_) (fun c_24 => ?_)
                    · replace h := h.1 c_24
                      refine lv_lconst (v := 0) hx hb dX4_worthOf_278 rfl ?_
                      exact hret _ _ _ _ _ _ hP hS h dX4_worthOf_279
                    · replace h := h.2 c_24
                      refine lv_lconst (v := 1) hx hb dX4_worthOf_274 rfl ?_
                      refine lv_goto (tgt := 279) hx hb dX4_worthOf_275 (by decide) ?_
                      exact hret _ _ _ _ _ _ hP hS h dX4_worthOf_279
                  · replace h := h.2 c_22
                    by_cases c_25 : v_6 = 9
                    · replace h := h.1 c_25
                      refine lv_tableIn (tgt := 259) hx hb dX4_worthOf_92 (by rw [c_25]; decide) (by rw [c_25]; decide) (by rw [c_25]; rfl) (by decide) ?_
                      refine lv_aload_n hx hb dX4_worthOf_259 rfl (lv_at hl 2 rfl) ?_
                      refine mg_r S hK hP (k := 41) (by decide) (by decide) q1461 dX4_worthOf_260 ?_
                      refine lv_iload_n hx hb dX4_worthOf_263 rfl (lv_at hl 3 rfl) ?_
                      obtain ⟨hi, h⟩ := h
                      refine ml_a S hK hP (k := 41) af_41 rfl hi dX4_worthOf_264 ?_
                      refine lv_lload_n hx hb dX4_worthOf_265 rfl (lv_at hl 1 rfl) ?_
                      refine lv_lload hx hb dX4_worthOf_266 (lv_at hl 0 rfl) ?_
                      refine sc_i S (As := [.int (ma M 41 (Int32.toNatClampNeg a1)), .long v_3, .long v_5]) (rest := []) (mt4_compares l (ma M 41 (Int32.toNatClampNeg a1)) v_3 v_5 _ h) (va_cwS 3 S.2.2.2.2 (lw_S q1994 q1995 q145 q1996) rfl rfl rfl cdX4_compares ⟨Nat.le_of_ble_eq_true rfl, Nat.le_of_ble_eq_true rfl⟩) rfl rfl hl.1 (Nat.le_of_ble_eq_true rfl) dX4_worthOf_268 ⟨Nat.le_refl _, Nat.le_refl _⟩ (fun r_26 h => ?_)
                      refine lv_if_eq (tgt := 278) hx hb dX4_worthOf_271 (by decide) (fun c_27 => ?_) (fun c_27 => ?_)
                      · replace h := h.1 c_27
                        refine lv_lconst (v := 0) hx hb dX4_worthOf_278 rfl ?_
                        exact hret _ _ _ _ _ _ hP hS h dX4_worthOf_279
                      · replace h := h.2 c_27
                        refine lv_lconst (v := 1) hx hb dX4_worthOf_274 rfl ?_
                        refine lv_goto (tgt := 279) hx hb dX4_worthOf_275 (by decide) ?_
                        exact hret _ _ _ _ _ _ hP hS h dX4_worthOf_279
                    · replace h := h.2 c_25
                      by_cases c_28 : v_6 = 10
                      · replace h := h.1 c_28
                        refine lv_tableIn (tgt := 259) hx hb dX4_worthOf_92 (by rw [c_28]; decide) (by rw [c_28]; decide) (by rw [c_28]; rfl) (by decide) ?_
                        refine lv_aload_n hx hb dX4_worthOf_259 rfl (lv_at hl 2 rfl) ?_
                        refine mg_r S hK hP (k := 41) (by decide) (by decide) q1461 dX4_worthOf_260 ?_
                        refine lv_iload_n hx hb dX4_worthOf_263 rfl (lv_at hl 3 rfl) ?_
                        obtain ⟨hi, h⟩ := h
                        refine ml_a S hK hP (k := 41) af_41 rfl hi dX4_worthOf_264 ?_
                        refine lv_lload_n hx hb dX4_worthOf_265 rfl (lv_at hl 1 rfl) ?_
                        refine lv_lload hx hb dX4_worthOf_266 (lv_at hl 0 rfl) ?_
                        refine sc_i S (As := [.int (ma M 41 (Int32.toNatClampNeg a1)), .long v_3, .long v_5]) (rest := []) (mt4_compares l (ma M 41 (Int32.toNatClampNeg a1)) v_3 v_5 _ h) (va_cwS 3 S.2.2.2.2 (lw_S q1994 q1995 q145 q1996) rfl rfl rfl cdX4_compares ⟨Nat.le_of_ble_eq_true rfl, Nat.le_of_ble_eq_true rfl⟩) rfl rfl hl.1 (Nat.le_of_ble_eq_true rfl) dX4_worthOf_268 ⟨Nat.le_refl _, Nat.le_refl _⟩ (fun r_29 h => ?_)
                        refine lv_if_eq (tgt := 278) hx hb dX4_worthOf_271 (by decide) (fun c_30 => ?_) (fun c_30 => ?_)
                        · replace h := h.1 c_30
                          refine lv_lconst (v := 0) hx hb dX4_worthOf_278 rfl ?_
                          exact hret _ _ _ _ _ _ hP hS h dX4_worthOf_279
                        · replace h := h.2 c_30
                          refine lv_lconst (v := 1) hx hb dX4_worthOf_274 rfl ?_
                          refine lv_goto (tgt := 279) hx hb dX4_worthOf_275 (by decide) ?_
                          exact hret _ _ _ _ _ _ hP hS h dX4_worthOf_279
                      · replace h := h.2 c_28
                        by_cases c_31 : v_6 = 11
                        · replace h := h.1 c_31
                          refine lv_tableIn (tgt := 194) hx hb dX4_worthOf_92 (by rw [c_31]; decide) (by rw [c_31]; decide) (by rw [c_31]; rfl) (by decide) ?_
                          refine lv_aload_n hx hb dX4_worthOf_194 rfl (lv_at hl 2 rfl) ?_
                          refine lv_lload_n hx hb dX4_worthOf_195 rfl (lv_at hl 1 rfl) ?_
                          refine lv_lload hx hb dX4_worthOf_196 (lv_at hl 0 rfl) ?_
                          refine lv_ladd hx hb dX4_worthOf_198 ?_
                          refine mc_l S hK hP hS (As := [.long (v_3 + v_5)]) (rest := []) (mt4_bounded l hA (v_3 + v_5) M _ h) (cwV 1 S.2.2.2.2 (lw_V q1984 q1986 qs125 q145 q1987) rfl rfl rfl cdX4_bounded ⟨Nat.le_of_ble_eq_true rfl, Nat.le_of_ble_eq_true rfl⟩) rfl rfl hl.1 (Nat.le_of_ble_eq_true rfl) dX4_worthOf_199 ⟨Nat.le_refl _, Nat.le_refl _⟩ (fun r_33 M_32 H locs h hP hS => ?_)
                          exact hret _ _ _ _ _ _ hP hS h dX4_worthOf_202
                        · replace h := h.2 c_31
                          by_cases c_34 : v_6 = 12
                          · replace h := h.1 c_34
                            refine lv_tableIn (tgt := 203) hx hb dX4_worthOf_92 (by rw [c_34]; decide) (by rw [c_34]; decide) (by rw [c_34]; rfl) (by decide) ?_
                            refine lv_aload_n hx hb dX4_worthOf_203 rfl (lv_at hl 2 rfl) ?_
                            refine lv_lload_n hx hb dX4_worthOf_204 rfl (lv_at hl 1 rfl) ?_
                            refine lv_lload hx hb dX4_worthOf_205 (lv_at hl 0 rfl) ?_
                            refine lv_lsub hx hb dX4_worthOf_207 ?_
                            refine mc_l S hK hP hS (As := [.long (v_3 - v_5)]) (rest := []) (mt4_bounded l hA (v_3 - v_5) M _ h) (cwV 1 S.2.2.2.2 (lw_V q1984 q1986 qs125 q145 q1987) rfl rfl rfl cdX4_bounded ⟨Nat.le_of_ble_eq_true rfl, Nat.le_of_ble_eq_true rfl⟩) rfl rfl hl.1 (Nat.le_of_ble_eq_true rfl) dX4_worthOf_208 ⟨Nat.le_refl _, Nat.le_refl _⟩ (fun r_36 M_35 H locs h hP hS => ?_)
                            exact hret _ _ _ _ _ _ hP hS h dX4_worthOf_211
                          · replace h := h.2 c_34
                            by_cases c_37 : v_6 = 13
                            · replace h := h.1 c_37
                              refine lv_tableIn (tgt := 212) hx hb dX4_worthOf_92 (by rw [c_37]; decide) (by rw [c_37]; decide) (by rw [c_37]; rfl) (by decide) ?_
                              refine lv_aload_n hx hb dX4_worthOf_212 rfl (lv_at hl 2 rfl) ?_
                              refine lv_lload_n hx hb dX4_worthOf_213 rfl (lv_at hl 1 rfl) ?_
                              refine lv_lload hx hb dX4_worthOf_214 (lv_at hl 0 rfl) ?_
                              refine mc_l S hK hP hS (As := [.long v_3, .long v_5]) (rest := []) (mt4_times l hA v_3 v_5 M _ h) (cwV 2 S.2.2.2.2 (lw_V q1990 q1992 qs126 q145 q1993) rfl rfl rfl cdX4_times ⟨Nat.le_of_ble_eq_true rfl, Nat.le_of_ble_eq_true rfl⟩) rfl rfl hl.1 (Nat.le_of_ble_eq_true rfl) dX4_worthOf_216 ⟨Nat.le_refl _, Nat.le_refl _⟩ (fun r_39 M_38 H locs h hP hS => ?_)
                              exact hret _ _ _ _ _ _ hP hS h dX4_worthOf_219
                            · replace h := h.2 c_37
                              by_cases c_40 : v_6 = 14
                              · replace h := h.1 c_40
                                refine lv_tableIn (tgt := 220) hx hb dX4_worthOf_92 (by rw [c_40]; decide) (by rw [c_40]; decide) (by rw [c_40]; rfl) (by decide) ?_
                                refine lv_aload_n hx hb dX4_worthOf_220 rfl (lv_at hl 2 rfl) ?_
                                refine lv_aload_n hx hb dX4_worthOf_221 rfl (lv_at hl 2 rfl) ?_
                                refine mg_i S hK hP (k := 64) (by decide) (by decide) q1484 dX4_worthOf_222 ?_
                                refine lv_if_ne (tgt := 235) hx hb dX4_worthOf_225 (by decide) (fun c_41 => ?_) (fun c_41 => ?_)
                                · replace h := h.2 c_41
                                  exact C235 _ _ _ _ _ _ hP hS (lv_sub hl [2, 1, 0] rfl) h
                                · replace h := h.1 c_41
                                  refine lv_lload hx hb dX4_worthOf_228 (lv_at hl 0 rfl) ?_
                                  refine lv_lconst (v := 0) hx hb dX4_worthOf_230 rfl ?_
                                  refine W.lcmp hx hb dX4_worthOf_231 ?_
                                  refine lv_if_ne (tgt := 239) hx hb dX4_worthOf_232 (by decide) (fun c_44 => ?_) (fun c_44 => ?_)
                                  · replace h := h.2 (fun q => c_44 ((lg_cmp_eq _ _).mpr q))
                                    refine lv_iconst hx hb dX4_worthOf_239 kc_0 ?_
                                    exact C240 _ _ _ _ _ _ _ hP hS (lv_sub hl [2, 1, 0] rfl) h
                                  · replace h := h.1 ((lg_cmp_eq _ _).mp c_44)
                                    exact C235 _ _ _ _ _ _ hP hS (lv_sub hl [2, 1, 0] rfl) h
                              · replace h := h.2 c_40
                                refine lv_tableOut (tgt := 259) hx hb dX4_worthOf_92 (by have z0 := sw_n (n := 3) c_7 rfl; have z1 := sw_n (n := 4) c_10 rfl; have z2 := sw_n (n := 5) c_13 rfl; have z3 := sw_n (n := 6) c_16 rfl; have z4 := sw_n (n := 7) c_19 rfl; have z5 := sw_n (n := 8) c_22 rfl; have z6 := sw_n (n := 9) c_25 rfl; have z7 := sw_n (n := 10) c_28 rfl; have z8 := sw_n (n := 11) c_31 rfl; have z9 := sw_n (n := 12) c_34 rfl; have z10 := sw_n (n := 13) c_37 rfl; have z11 := sw_n (n := 14) c_40 rfl; omega) (by decide) ?_
                                refine lv_aload_n hx hb dX4_worthOf_259 rfl (lv_at hl 2 rfl) ?_
                                refine mg_r S hK hP (k := 41) (by decide) (by decide) q1461 dX4_worthOf_260 ?_
                                refine lv_iload_n hx hb dX4_worthOf_263 rfl (lv_at hl 3 rfl) ?_
                                obtain ⟨hi, h⟩ := h
                                refine ml_a S hK hP (k := 41) af_41 rfl hi dX4_worthOf_264 ?_
                                refine lv_lload_n hx hb dX4_worthOf_265 rfl (lv_at hl 1 rfl) ?_
                                refine lv_lload hx hb dX4_worthOf_266 (lv_at hl 0 rfl) ?_
                                refine sc_i S (As := [.int (ma M 41 (Int32.toNatClampNeg a1)), .long v_3, .long v_5]) (rest := []) (mt4_compares l (ma M 41 (Int32.toNatClampNeg a1)) v_3 v_5 _ h) (va_cwS 3 S.2.2.2.2 (lw_S q1994 q1995 q145 q1996) rfl rfl rfl cdX4_compares ⟨Nat.le_of_ble_eq_true rfl, Nat.le_of_ble_eq_true rfl⟩) rfl rfl hl.1 (Nat.le_of_ble_eq_true rfl) dX4_worthOf_268 ⟨Nat.le_refl _, Nat.le_refl _⟩ (fun r_45 h => ?_)
                                refine lv_if_eq (tgt := 278) hx hb dX4_worthOf_271 (by decide) (fun c_46 => ?_) (fun c_46 => ?_)
                                · replace h := h.1 c_46
                                  refine lv_lconst (v := 0) hx hb dX4_worthOf_278 rfl ?_
                                  exact hret _ _ _ _ _ _ hP hS h dX4_worthOf_279
                                · replace h := h.2 c_46
                                  refine lv_lconst (v := 1) hx hb dX4_worthOf_274 rfl ?_
                                  refine lv_goto (tgt := 279) hx hb dX4_worthOf_275 (by decide) ?_
                                  exact hret _ _ _ _ _ _ hP hS h dX4_worthOf_279
      · replace h := h.1 c_4
        refine lv_lload_n hx hb dX4_worthOf_61 rfl (lv_at hl 0 rfl) ?_
        refine lv_lconst (v := 0) hx hb dX4_worthOf_62 rfl ?_
        refine W.lcmp hx hb dX4_worthOf_63 ?_
        refine lv_if_ne (tgt := 71) hx hb dX4_worthOf_64 (by decide) (fun c_47 => ?_) (fun c_47 => ?_)
        · replace h := h.2 (fun q => c_47 ((lg_cmp_eq _ _).mpr q))
          refine lv_lconst (v := 0) hx hb dX4_worthOf_71 rfl ?_
          exact hret _ _ _ _ _ _ hP hS h dX4_worthOf_72
        · replace h := h.1 ((lg_cmp_eq _ _).mp c_47)
          refine lv_lconst (v := 1) hx hb dX4_worthOf_67 rfl ?_
          refine lv_goto (tgt := 72) hx hb dX4_worthOf_68 (by decide) ?_
          exact hret _ _ _ _ _ _ hP hS h dX4_worthOf_72
    · replace h := h.1 c_2
      refine lv_aload_n hx hb dX4_worthOf_27 rfl (lv_at hl 0 rfl) ?_
      refine mg_r S hK hP (k := 62) (by decide) (by decide) q1482 dX4_worthOf_28 ?_
      refine lv_aload_n hx hb dX4_worthOf_31 rfl (lv_at hl 0 rfl) ?_
      refine mg_r S hK hP (k := 42) (by decide) (by decide) q1462 dX4_worthOf_32 ?_
      refine lv_iload_n hx hb dX4_worthOf_35 rfl (lv_at hl 1 rfl) ?_
      obtain ⟨hi, h⟩ := h
      refine ml_a S hK hP (k := 42) af_42 rfl hi dX4_worthOf_36 ?_
      obtain ⟨hi, h⟩ := h
      refine ml_b S hK hP (k := 62) af_62 rfl hi dX4_worthOf_37 ?_
      exact hret _ _ _ _ _ _ hP hS h dX4_worthOf_38
  · replace h := h.1 c_1
    refine lv_aload_n hx hb dX4_worthOf_9 rfl (lv_at hl 0 rfl) ?_
    refine mg_r S hK hP (k := 42) (by decide) (by decide) q1462 dX4_worthOf_10 ?_
    refine lv_iload_n hx hb dX4_worthOf_13 rfl (lv_at hl 1 rfl) ?_
    obtain ⟨hi, h⟩ := h
    refine ml_a S hK hP (k := 42) af_42 rfl hi dX4_worthOf_14 ?_
    refine lv_i2l hx hb dX4_worthOf_15 rfl ?_
    exact hret _ _ _ _ _ _ hP hS h dX4_worthOf_16
